/-! names, code and decode rows of the methods (out of claim/names) -/
set_option maxRecDepth 100000
abbrev cX2_goesOn : ByteArray := prog_17_method_36_code
def yX2_goesOn : MethodName := ⟨RX2, "goesOn", "()Z"⟩
def dkwX2_goesOn_2 : List UInt8 := [182, 0, 200, 153, 0, 7, 4, 167, 0, 4, 3, 172]
abbrev dktX2_goesOn_2 : List UInt8 := dkwX2_goesOn_2 ++ []
def dkwX2_goesOn_1 : List UInt8 := [159, 0, 28, 42, 180, 0, 125, 16, 47, 159, 0, 19, 42, 180, 0, 125, 16, 41, 160, 0, 14, 42]
abbrev dktX2_goesOn_1 : List UInt8 := dkwX2_goesOn_1 ++ dktX2_goesOn_2
def dkwX2_goesOn_0 : List UInt8 := [42, 180, 0, 125, 16, 43, 159, 0, 46, 42, 180, 0, 125, 16, 45, 159, 0, 37, 42, 180, 0, 125, 16, 42]
abbrev dktX2_goesOn_0 : List UInt8 := dkwX2_goesOn_0 ++ dktX2_goesOn_1
theorem dksX2_goesOn_0 : cX2_goesOn.data.toList.drop 0 = dktX2_goesOn_0 := by decide +kernel
theorem dksX2_goesOn_1 : cX2_goesOn.data.toList.drop 24 = dktX2_goesOn_1 := dk_seg dksX2_goesOn_0 24 rfl rfl
theorem dksX2_goesOn_2 : cX2_goesOn.data.toList.drop 46 = dktX2_goesOn_2 := dk_seg dksX2_goesOn_1 22 rfl rfl
theorem dX2_goesOn_0 : decode cX2_goesOn 0 = .ok (.aload_n 0, 1) := dk_42 (dk_at dksX2_goesOn_0 0 rfl rfl)
theorem dX2_goesOn_1 : decode cX2_goesOn 1 = .ok (.getfield 125, 3) := dk_180 0 125 (dk_at dksX2_goesOn_0 1 rfl rfl)
theorem dX2_goesOn_4 : decode cX2_goesOn 4 = .ok (.bipush 43, 2) := dk_16 43 (dk_at dksX2_goesOn_0 4 rfl rfl)
theorem dX2_goesOn_6 : decode cX2_goesOn 6 = .ok (.if_icmp .eq 46, 3) := dk_159 0 46 (dk_at dksX2_goesOn_0 6 rfl rfl)
theorem dX2_goesOn_9 : decode cX2_goesOn 9 = .ok (.aload_n 0, 1) := dk_42 (dk_at dksX2_goesOn_0 9 rfl rfl)
theorem dX2_goesOn_10 : decode cX2_goesOn 10 = .ok (.getfield 125, 3) := dk_180 0 125 (dk_at dksX2_goesOn_0 10 rfl rfl)
theorem dX2_goesOn_13 : decode cX2_goesOn 13 = .ok (.bipush 45, 2) := dk_16 45 (dk_at dksX2_goesOn_0 13 rfl rfl)
theorem dX2_goesOn_15 : decode cX2_goesOn 15 = .ok (.if_icmp .eq 37, 3) := dk_159 0 37 (dk_at dksX2_goesOn_0 15 rfl rfl)
theorem dX2_goesOn_18 : decode cX2_goesOn 18 = .ok (.aload_n 0, 1) := dk_42 (dk_at dksX2_goesOn_0 18 rfl rfl)
theorem dX2_goesOn_19 : decode cX2_goesOn 19 = .ok (.getfield 125, 3) := dk_180 0 125 (dk_at dksX2_goesOn_0 19 rfl rfl)
theorem dX2_goesOn_22 : decode cX2_goesOn 22 = .ok (.bipush 42, 2) := dk_16 42 (dk_at dksX2_goesOn_0 22 rfl rfl)
theorem dX2_goesOn_24 : decode cX2_goesOn 24 = .ok (.if_icmp .eq 28, 3) := dk_159 0 28 (dk_at dksX2_goesOn_1 0 rfl rfl)
theorem dX2_goesOn_27 : decode cX2_goesOn 27 = .ok (.aload_n 0, 1) := dk_42 (dk_at dksX2_goesOn_1 3 rfl rfl)
theorem dX2_goesOn_28 : decode cX2_goesOn 28 = .ok (.getfield 125, 3) := dk_180 0 125 (dk_at dksX2_goesOn_1 4 rfl rfl)
theorem dX2_goesOn_31 : decode cX2_goesOn 31 = .ok (.bipush 47, 2) := dk_16 47 (dk_at dksX2_goesOn_1 7 rfl rfl)
theorem dX2_goesOn_33 : decode cX2_goesOn 33 = .ok (.if_icmp .eq 19, 3) := dk_159 0 19 (dk_at dksX2_goesOn_1 9 rfl rfl)
theorem dX2_goesOn_36 : decode cX2_goesOn 36 = .ok (.aload_n 0, 1) := dk_42 (dk_at dksX2_goesOn_1 12 rfl rfl)
theorem dX2_goesOn_37 : decode cX2_goesOn 37 = .ok (.getfield 125, 3) := dk_180 0 125 (dk_at dksX2_goesOn_1 13 rfl rfl)
theorem dX2_goesOn_40 : decode cX2_goesOn 40 = .ok (.bipush 41, 2) := dk_16 41 (dk_at dksX2_goesOn_1 16 rfl rfl)
theorem dX2_goesOn_42 : decode cX2_goesOn 42 = .ok (.if_icmp .ne 14, 3) := dk_160 0 14 (dk_at dksX2_goesOn_1 18 rfl rfl)
theorem dX2_goesOn_45 : decode cX2_goesOn 45 = .ok (.aload_n 0, 1) := dk_42 (dk_at dksX2_goesOn_1 21 rfl rfl)
theorem dX2_goesOn_46 : decode cX2_goesOn 46 = .ok (.invokevirtual 200, 3) := dk_182 0 200 (dk_at dksX2_goesOn_2 0 rfl rfl)
theorem dX2_goesOn_49 : decode cX2_goesOn 49 = .ok (.ifCond .eq 7, 3) := dk_153 0 7 (dk_at dksX2_goesOn_2 3 rfl rfl)
theorem dX2_goesOn_52 : decode cX2_goesOn 52 = .ok (.iconst 1, 1) := dk_4 (dk_at dksX2_goesOn_2 6 rfl rfl)
theorem dX2_goesOn_53 : decode cX2_goesOn 53 = .ok (.goto 4, 3) := dk_167 0 4 (dk_at dksX2_goesOn_2 7 rfl rfl)
theorem dX2_goesOn_56 : decode cX2_goesOn 56 = .ok (.iconst 0, 1) := dk_3 (dk_at dksX2_goesOn_2 10 rfl rfl)
theorem dX2_goesOn_57 : decode cX2_goesOn 57 = .ok (.ireturn, 1) := dk_172 (dk_at dksX2_goesOn_2 11 rfl rfl)
abbrev MX2_goesOn : jjM := (yX2_goesOn, cX2_goesOn, 1, (Option.some Jvm.ClassFile.FieldType.boolean))
theorem npX2_goesOn : yX2_goesOn.cls ≠ "java/lang/invoke/MethodHandle" ∧ yX2_goesOn.cls ≠ "java/lang/invoke/VarHandle" ∧ (parseMethodDescriptor yX2_goesOn.desc).map (fun d => d.parameters.length) = some 0 := by decide +kernel
abbrev cX2_hasParen : ByteArray := prog_17_method_35_code
def yX2_hasParen : MethodName := ⟨RX2, "hasParen", "()Z"⟩
def dkwX2_hasParen_1 : List UInt8 := [132, 1, 1, 167, 255, 232, 3, 172]
abbrev dktX2_hasParen_1 : List UInt8 := dkwX2_hasParen_1 ++ []
def dkwX2_hasParen_0 : List UInt8 := [3, 60, 27, 42, 180, 0, 156, 162, 0, 22, 42, 180, 0, 29, 27, 46, 16, 40, 160, 0, 5, 4, 172]
abbrev dktX2_hasParen_0 : List UInt8 := dkwX2_hasParen_0 ++ dktX2_hasParen_1
theorem dksX2_hasParen_0 : cX2_hasParen.data.toList.drop 0 = dktX2_hasParen_0 := by decide +kernel
theorem dksX2_hasParen_1 : cX2_hasParen.data.toList.drop 23 = dktX2_hasParen_1 := dk_seg dksX2_hasParen_0 23 rfl rfl
theorem dX2_hasParen_0 : decode cX2_hasParen 0 = .ok (.iconst 0, 1) := dk_3 (dk_at dksX2_hasParen_0 0 rfl rfl)
theorem dX2_hasParen_1 : decode cX2_hasParen 1 = .ok (.istore_n 1, 1) := dk_60 (dk_at dksX2_hasParen_0 1 rfl rfl)
theorem dX2_hasParen_2 : decode cX2_hasParen 2 = .ok (.iload_n 1, 1) := dk_27 (dk_at dksX2_hasParen_0 2 rfl rfl)
theorem dX2_hasParen_3 : decode cX2_hasParen 3 = .ok (.aload_n 0, 1) := dk_42 (dk_at dksX2_hasParen_0 3 rfl rfl)
theorem dX2_hasParen_4 : decode cX2_hasParen 4 = .ok (.getfield 156, 3) := dk_180 0 156 (dk_at dksX2_hasParen_0 4 rfl rfl)
theorem dX2_hasParen_7 : decode cX2_hasParen 7 = .ok (.if_icmp .ge 22, 3) := dk_162 0 22 (dk_at dksX2_hasParen_0 7 rfl rfl)
theorem dX2_hasParen_10 : decode cX2_hasParen 10 = .ok (.aload_n 0, 1) := dk_42 (dk_at dksX2_hasParen_0 10 rfl rfl)
theorem dX2_hasParen_11 : decode cX2_hasParen 11 = .ok (.getfield 29, 3) := dk_180 0 29 (dk_at dksX2_hasParen_0 11 rfl rfl)
theorem dX2_hasParen_14 : decode cX2_hasParen 14 = .ok (.iload_n 1, 1) := dk_27 (dk_at dksX2_hasParen_0 14 rfl rfl)
theorem dX2_hasParen_15 : decode cX2_hasParen 15 = .ok (.iaload, 1) := dk_46 (dk_at dksX2_hasParen_0 15 rfl rfl)
theorem dX2_hasParen_16 : decode cX2_hasParen 16 = .ok (.bipush 40, 2) := dk_16 40 (dk_at dksX2_hasParen_0 16 rfl rfl)
theorem dX2_hasParen_18 : decode cX2_hasParen 18 = .ok (.if_icmp .ne 5, 3) := dk_160 0 5 (dk_at dksX2_hasParen_0 18 rfl rfl)
theorem dX2_hasParen_21 : decode cX2_hasParen 21 = .ok (.iconst 1, 1) := dk_4 (dk_at dksX2_hasParen_0 21 rfl rfl)
theorem dX2_hasParen_22 : decode cX2_hasParen 22 = .ok (.ireturn, 1) := dk_172 (dk_at dksX2_hasParen_0 22 rfl rfl)
theorem dX2_hasParen_23 : decode cX2_hasParen 23 = .ok (.iinc 1 1, 3) := dk_132 1 1 (dk_at dksX2_hasParen_1 0 rfl rfl)
theorem dX2_hasParen_26 : decode cX2_hasParen 26 = .ok (.goto (-24), 3) := dk_167 255 232 (dk_at dksX2_hasParen_1 3 rfl rfl)
theorem dX2_hasParen_29 : decode cX2_hasParen 29 = .ok (.iconst 0, 1) := dk_3 (dk_at dksX2_hasParen_1 6 rfl rfl)
theorem dX2_hasParen_30 : decode cX2_hasParen 30 = .ok (.ireturn, 1) := dk_172 (dk_at dksX2_hasParen_1 7 rfl rfl)
abbrev MX2_hasParen : jjM := (yX2_hasParen, cX2_hasParen, 2, (Option.some Jvm.ClassFile.FieldType.boolean))
theorem npX2_hasParen : yX2_hasParen.cls ≠ "java/lang/invoke/MethodHandle" ∧ yX2_hasParen.cls ≠ "java/lang/invoke/VarHandle" ∧ (parseMethodDescriptor yX2_hasParen.desc).map (fun d => d.parameters.length) = some 0 := by decide +kernel
abbrev cX2_behindOne : ByteArray := prog_17_method_37_code
def yX2_behindOne : MethodName := ⟨RX2, "behindOne", "()I"⟩
def dkwX2_behindOne_5 : List UInt8 := [182, 0, 185, 3, 172]
abbrev dktX2_behindOne_5 : List UInt8 := dkwX2_behindOne_5 ++ []
def dkwX2_behindOne_4 : List UInt8 := [180, 0, 156, 4, 100, 181, 0, 156, 42, 89, 180, 0, 163, 4, 100, 181, 0, 163, 42, 182, 0, 188, 42]
abbrev dktX2_behindOne_4 : List UInt8 := dkwX2_behindOne_4 ++ dktX2_behindOne_5
def dkwX2_behindOne_3 : List UInt8 := [167, 0, 5, 16, 6, 182, 0, 197, 42, 3, 181, 0, 159, 167, 0, 32, 42, 6, 182, 0, 204, 42, 89]
abbrev dktX2_behindOne_3 : List UInt8 := dkwX2_behindOne_3 ++ dktX2_behindOne_4
def dkwX2_behindOne_2 : List UInt8 := [159, 0, 9, 27, 16, 47, 160, 0, 32, 42, 8, 182, 0, 204, 42, 27, 16, 42, 160, 0, 7, 8]
abbrev dktX2_behindOne_2 : List UInt8 := dkwX2_behindOne_2 ++ dktX2_behindOne_3
def dkwX2_behindOne_1 : List UInt8 := [16, 43, 160, 0, 7, 6, 167, 0, 4, 7, 182, 0, 197, 42, 3, 181, 0, 159, 167, 0, 73, 27, 16, 42]
abbrev dktX2_behindOne_1 : List UInt8 := dkwX2_behindOne_1 ++ dktX2_behindOne_2
def dkwX2_behindOne_0 : List UInt8 := [42, 180, 0, 125, 60, 27, 16, 43, 159, 0, 9, 27, 16, 45, 160, 0, 31, 42, 6, 182, 0, 204, 42, 27]
abbrev dktX2_behindOne_0 : List UInt8 := dkwX2_behindOne_0 ++ dktX2_behindOne_1
theorem dksX2_behindOne_0 : cX2_behindOne.data.toList.drop 0 = dktX2_behindOne_0 := by decide +kernel
theorem dksX2_behindOne_1 : cX2_behindOne.data.toList.drop 24 = dktX2_behindOne_1 := dk_seg dksX2_behindOne_0 24 rfl rfl
theorem dksX2_behindOne_2 : cX2_behindOne.data.toList.drop 48 = dktX2_behindOne_2 := dk_seg dksX2_behindOne_1 24 rfl rfl
theorem dksX2_behindOne_3 : cX2_behindOne.data.toList.drop 70 = dktX2_behindOne_3 := dk_seg dksX2_behindOne_2 22 rfl rfl
theorem dksX2_behindOne_4 : cX2_behindOne.data.toList.drop 93 = dktX2_behindOne_4 := dk_seg dksX2_behindOne_3 23 rfl rfl
theorem dksX2_behindOne_5 : cX2_behindOne.data.toList.drop 116 = dktX2_behindOne_5 := dk_seg dksX2_behindOne_4 23 rfl rfl
theorem dX2_behindOne_0 : decode cX2_behindOne 0 = .ok (.aload_n 0, 1) := dk_42 (dk_at dksX2_behindOne_0 0 rfl rfl)
theorem dX2_behindOne_1 : decode cX2_behindOne 1 = .ok (.getfield 125, 3) := dk_180 0 125 (dk_at dksX2_behindOne_0 1 rfl rfl)
theorem dX2_behindOne_4 : decode cX2_behindOne 4 = .ok (.istore_n 1, 1) := dk_60 (dk_at dksX2_behindOne_0 4 rfl rfl)
theorem dX2_behindOne_5 : decode cX2_behindOne 5 = .ok (.iload_n 1, 1) := dk_27 (dk_at dksX2_behindOne_0 5 rfl rfl)
theorem dX2_behindOne_6 : decode cX2_behindOne 6 = .ok (.bipush 43, 2) := dk_16 43 (dk_at dksX2_behindOne_0 6 rfl rfl)
theorem dX2_behindOne_8 : decode cX2_behindOne 8 = .ok (.if_icmp .eq 9, 3) := dk_159 0 9 (dk_at dksX2_behindOne_0 8 rfl rfl)
theorem dX2_behindOne_11 : decode cX2_behindOne 11 = .ok (.iload_n 1, 1) := dk_27 (dk_at dksX2_behindOne_0 11 rfl rfl)
theorem dX2_behindOne_12 : decode cX2_behindOne 12 = .ok (.bipush 45, 2) := dk_16 45 (dk_at dksX2_behindOne_0 12 rfl rfl)
theorem dX2_behindOne_14 : decode cX2_behindOne 14 = .ok (.if_icmp .ne 31, 3) := dk_160 0 31 (dk_at dksX2_behindOne_0 14 rfl rfl)
theorem dX2_behindOne_17 : decode cX2_behindOne 17 = .ok (.aload_n 0, 1) := dk_42 (dk_at dksX2_behindOne_0 17 rfl rfl)
theorem dX2_behindOne_18 : decode cX2_behindOne 18 = .ok (.iconst 3, 1) := dk_6 (dk_at dksX2_behindOne_0 18 rfl rfl)
theorem dX2_behindOne_19 : decode cX2_behindOne 19 = .ok (.invokevirtual 204, 3) := dk_182 0 204 (dk_at dksX2_behindOne_0 19 rfl rfl)
theorem dX2_behindOne_22 : decode cX2_behindOne 22 = .ok (.aload_n 0, 1) := dk_42 (dk_at dksX2_behindOne_0 22 rfl rfl)
theorem dX2_behindOne_23 : decode cX2_behindOne 23 = .ok (.iload_n 1, 1) := dk_27 (dk_at dksX2_behindOne_0 23 rfl rfl)
theorem dX2_behindOne_24 : decode cX2_behindOne 24 = .ok (.bipush 43, 2) := dk_16 43 (dk_at dksX2_behindOne_1 0 rfl rfl)
theorem dX2_behindOne_26 : decode cX2_behindOne 26 = .ok (.if_icmp .ne 7, 3) := dk_160 0 7 (dk_at dksX2_behindOne_1 2 rfl rfl)
theorem dX2_behindOne_29 : decode cX2_behindOne 29 = .ok (.iconst 3, 1) := dk_6 (dk_at dksX2_behindOne_1 5 rfl rfl)
theorem dX2_behindOne_30 : decode cX2_behindOne 30 = .ok (.goto 4, 3) := dk_167 0 4 (dk_at dksX2_behindOne_1 6 rfl rfl)
theorem dX2_behindOne_33 : decode cX2_behindOne 33 = .ok (.iconst 4, 1) := dk_7 (dk_at dksX2_behindOne_1 9 rfl rfl)
theorem dX2_behindOne_34 : decode cX2_behindOne 34 = .ok (.invokevirtual 197, 3) := dk_182 0 197 (dk_at dksX2_behindOne_1 10 rfl rfl)
theorem dX2_behindOne_37 : decode cX2_behindOne 37 = .ok (.aload_n 0, 1) := dk_42 (dk_at dksX2_behindOne_1 13 rfl rfl)
theorem dX2_behindOne_38 : decode cX2_behindOne 38 = .ok (.iconst 0, 1) := dk_3 (dk_at dksX2_behindOne_1 14 rfl rfl)
theorem dX2_behindOne_39 : decode cX2_behindOne 39 = .ok (.putfield 159, 3) := dk_181 0 159 (dk_at dksX2_behindOne_1 15 rfl rfl)
theorem dX2_behindOne_42 : decode cX2_behindOne 42 = .ok (.goto 73, 3) := dk_167 0 73 (dk_at dksX2_behindOne_1 18 rfl rfl)
theorem dX2_behindOne_45 : decode cX2_behindOne 45 = .ok (.iload_n 1, 1) := dk_27 (dk_at dksX2_behindOne_1 21 rfl rfl)
theorem dX2_behindOne_46 : decode cX2_behindOne 46 = .ok (.bipush 42, 2) := dk_16 42 (dk_at dksX2_behindOne_1 22 rfl rfl)
theorem dX2_behindOne_48 : decode cX2_behindOne 48 = .ok (.if_icmp .eq 9, 3) := dk_159 0 9 (dk_at dksX2_behindOne_2 0 rfl rfl)
theorem dX2_behindOne_51 : decode cX2_behindOne 51 = .ok (.iload_n 1, 1) := dk_27 (dk_at dksX2_behindOne_2 3 rfl rfl)
theorem dX2_behindOne_52 : decode cX2_behindOne 52 = .ok (.bipush 47, 2) := dk_16 47 (dk_at dksX2_behindOne_2 4 rfl rfl)
theorem dX2_behindOne_54 : decode cX2_behindOne 54 = .ok (.if_icmp .ne 32, 3) := dk_160 0 32 (dk_at dksX2_behindOne_2 6 rfl rfl)
theorem dX2_behindOne_57 : decode cX2_behindOne 57 = .ok (.aload_n 0, 1) := dk_42 (dk_at dksX2_behindOne_2 9 rfl rfl)
theorem dX2_behindOne_58 : decode cX2_behindOne 58 = .ok (.iconst 5, 1) := dk_8 (dk_at dksX2_behindOne_2 10 rfl rfl)
theorem dX2_behindOne_59 : decode cX2_behindOne 59 = .ok (.invokevirtual 204, 3) := dk_182 0 204 (dk_at dksX2_behindOne_2 11 rfl rfl)
theorem dX2_behindOne_62 : decode cX2_behindOne 62 = .ok (.aload_n 0, 1) := dk_42 (dk_at dksX2_behindOne_2 14 rfl rfl)
theorem dX2_behindOne_63 : decode cX2_behindOne 63 = .ok (.iload_n 1, 1) := dk_27 (dk_at dksX2_behindOne_2 15 rfl rfl)
theorem dX2_behindOne_64 : decode cX2_behindOne 64 = .ok (.bipush 42, 2) := dk_16 42 (dk_at dksX2_behindOne_2 16 rfl rfl)
theorem dX2_behindOne_66 : decode cX2_behindOne 66 = .ok (.if_icmp .ne 7, 3) := dk_160 0 7 (dk_at dksX2_behindOne_2 18 rfl rfl)
theorem dX2_behindOne_69 : decode cX2_behindOne 69 = .ok (.iconst 5, 1) := dk_8 (dk_at dksX2_behindOne_2 21 rfl rfl)
theorem dX2_behindOne_70 : decode cX2_behindOne 70 = .ok (.goto 5, 3) := dk_167 0 5 (dk_at dksX2_behindOne_3 0 rfl rfl)
theorem dX2_behindOne_73 : decode cX2_behindOne 73 = .ok (.bipush 6, 2) := dk_16 6 (dk_at dksX2_behindOne_3 3 rfl rfl)
theorem dX2_behindOne_75 : decode cX2_behindOne 75 = .ok (.invokevirtual 197, 3) := dk_182 0 197 (dk_at dksX2_behindOne_3 5 rfl rfl)
theorem dX2_behindOne_78 : decode cX2_behindOne 78 = .ok (.aload_n 0, 1) := dk_42 (dk_at dksX2_behindOne_3 8 rfl rfl)
theorem dX2_behindOne_79 : decode cX2_behindOne 79 = .ok (.iconst 0, 1) := dk_3 (dk_at dksX2_behindOne_3 9 rfl rfl)
theorem dX2_behindOne_80 : decode cX2_behindOne 80 = .ok (.putfield 159, 3) := dk_181 0 159 (dk_at dksX2_behindOne_3 10 rfl rfl)
theorem dX2_behindOne_83 : decode cX2_behindOne 83 = .ok (.goto 32, 3) := dk_167 0 32 (dk_at dksX2_behindOne_3 13 rfl rfl)
theorem dX2_behindOne_86 : decode cX2_behindOne 86 = .ok (.aload_n 0, 1) := dk_42 (dk_at dksX2_behindOne_3 16 rfl rfl)
theorem dX2_behindOne_87 : decode cX2_behindOne 87 = .ok (.iconst 3, 1) := dk_6 (dk_at dksX2_behindOne_3 17 rfl rfl)
theorem dX2_behindOne_88 : decode cX2_behindOne 88 = .ok (.invokevirtual 204, 3) := dk_182 0 204 (dk_at dksX2_behindOne_3 18 rfl rfl)
theorem dX2_behindOne_91 : decode cX2_behindOne 91 = .ok (.aload_n 0, 1) := dk_42 (dk_at dksX2_behindOne_3 21 rfl rfl)
theorem dX2_behindOne_92 : decode cX2_behindOne 92 = .ok (.dup, 1) := dk_89 (dk_at dksX2_behindOne_3 22 rfl rfl)
theorem dX2_behindOne_93 : decode cX2_behindOne 93 = .ok (.getfield 156, 3) := dk_180 0 156 (dk_at dksX2_behindOne_4 0 rfl rfl)
theorem dX2_behindOne_96 : decode cX2_behindOne 96 = .ok (.iconst 1, 1) := dk_4 (dk_at dksX2_behindOne_4 3 rfl rfl)
theorem dX2_behindOne_97 : decode cX2_behindOne 97 = .ok (.isub, 1) := dk_100 (dk_at dksX2_behindOne_4 4 rfl rfl)
theorem dX2_behindOne_98 : decode cX2_behindOne 98 = .ok (.putfield 156, 3) := dk_181 0 156 (dk_at dksX2_behindOne_4 5 rfl rfl)
theorem dX2_behindOne_101 : decode cX2_behindOne 101 = .ok (.aload_n 0, 1) := dk_42 (dk_at dksX2_behindOne_4 8 rfl rfl)
theorem dX2_behindOne_102 : decode cX2_behindOne 102 = .ok (.dup, 1) := dk_89 (dk_at dksX2_behindOne_4 9 rfl rfl)
theorem dX2_behindOne_103 : decode cX2_behindOne 103 = .ok (.getfield 163, 3) := dk_180 0 163 (dk_at dksX2_behindOne_4 10 rfl rfl)
theorem dX2_behindOne_106 : decode cX2_behindOne 106 = .ok (.iconst 1, 1) := dk_4 (dk_at dksX2_behindOne_4 13 rfl rfl)
theorem dX2_behindOne_107 : decode cX2_behindOne 107 = .ok (.isub, 1) := dk_100 (dk_at dksX2_behindOne_4 14 rfl rfl)
theorem dX2_behindOne_108 : decode cX2_behindOne 108 = .ok (.putfield 163, 3) := dk_181 0 163 (dk_at dksX2_behindOne_4 15 rfl rfl)
theorem dX2_behindOne_111 : decode cX2_behindOne 111 = .ok (.aload_n 0, 1) := dk_42 (dk_at dksX2_behindOne_4 18 rfl rfl)
theorem dX2_behindOne_112 : decode cX2_behindOne 112 = .ok (.invokevirtual 188, 3) := dk_182 0 188 (dk_at dksX2_behindOne_4 19 rfl rfl)
theorem dX2_behindOne_115 : decode cX2_behindOne 115 = .ok (.aload_n 0, 1) := dk_42 (dk_at dksX2_behindOne_4 22 rfl rfl)
theorem dX2_behindOne_116 : decode cX2_behindOne 116 = .ok (.invokevirtual 185, 3) := dk_182 0 185 (dk_at dksX2_behindOne_5 0 rfl rfl)
theorem dX2_behindOne_119 : decode cX2_behindOne 119 = .ok (.iconst 0, 1) := dk_3 (dk_at dksX2_behindOne_5 3 rfl rfl)
theorem dX2_behindOne_120 : decode cX2_behindOne 120 = .ok (.ireturn, 1) := dk_172 (dk_at dksX2_behindOne_5 4 rfl rfl)
abbrev MX2_behindOne : jjM := (yX2_behindOne, cX2_behindOne, 2, (Option.some Jvm.ClassFile.FieldType.int))
theorem npX2_behindOne : yX2_behindOne.cls ≠ "java/lang/invoke/MethodHandle" ∧ yX2_behindOne.cls ≠ "java/lang/invoke/VarHandle" ∧ (parseMethodDescriptor yX2_behindOne.desc).map (fun d => d.parameters.length) = some 0 := by decide +kernel
abbrev cX2_settle : ByteArray := prog_17_method_30_code
def yX2_settle : MethodName := ⟨RX2, "settle", "(I)V"⟩
def dkwX2_settle_2 : List UInt8 := [42, 42, 180, 0, 29, 42, 180, 0, 156, 46, 3, 182, 0, 166, 167, 255, 194, 177]
abbrev dktX2_settle_2 : List UInt8 := dkwX2_settle_2 ++ []
def dkwX2_settle_1 : List UInt8 := [180, 0, 29, 42, 180, 0, 156, 4, 100, 46, 27, 161, 0, 30, 42, 89, 180, 0, 156, 4, 100, 181, 0, 156]
abbrev dktX2_settle_1 : List UInt8 := dkwX2_settle_1 ++ dktX2_settle_2
def dkwX2_settle_0 : List UInt8 := [42, 180, 0, 156, 158, 0, 61, 42, 180, 0, 29, 42, 180, 0, 156, 4, 100, 46, 16, 40, 162, 0, 45, 42]
abbrev dktX2_settle_0 : List UInt8 := dkwX2_settle_0 ++ dktX2_settle_1
theorem dksX2_settle_0 : cX2_settle.data.toList.drop 0 = dktX2_settle_0 := by decide +kernel
theorem dksX2_settle_1 : cX2_settle.data.toList.drop 24 = dktX2_settle_1 := dk_seg dksX2_settle_0 24 rfl rfl
theorem dksX2_settle_2 : cX2_settle.data.toList.drop 48 = dktX2_settle_2 := dk_seg dksX2_settle_1 24 rfl rfl
theorem dX2_settle_0 : decode cX2_settle 0 = .ok (.aload_n 0, 1) := dk_42 (dk_at dksX2_settle_0 0 rfl rfl)
theorem dX2_settle_1 : decode cX2_settle 1 = .ok (.getfield 156, 3) := dk_180 0 156 (dk_at dksX2_settle_0 1 rfl rfl)
theorem dX2_settle_4 : decode cX2_settle 4 = .ok (.ifCond .le 61, 3) := dk_158 0 61 (dk_at dksX2_settle_0 4 rfl rfl)
theorem dX2_settle_7 : decode cX2_settle 7 = .ok (.aload_n 0, 1) := dk_42 (dk_at dksX2_settle_0 7 rfl rfl)
theorem dX2_settle_8 : decode cX2_settle 8 = .ok (.getfield 29, 3) := dk_180 0 29 (dk_at dksX2_settle_0 8 rfl rfl)
theorem dX2_settle_11 : decode cX2_settle 11 = .ok (.aload_n 0, 1) := dk_42 (dk_at dksX2_settle_0 11 rfl rfl)
theorem dX2_settle_12 : decode cX2_settle 12 = .ok (.getfield 156, 3) := dk_180 0 156 (dk_at dksX2_settle_0 12 rfl rfl)
theorem dX2_settle_15 : decode cX2_settle 15 = .ok (.iconst 1, 1) := dk_4 (dk_at dksX2_settle_0 15 rfl rfl)
theorem dX2_settle_16 : decode cX2_settle 16 = .ok (.isub, 1) := dk_100 (dk_at dksX2_settle_0 16 rfl rfl)
theorem dX2_settle_17 : decode cX2_settle 17 = .ok (.iaload, 1) := dk_46 (dk_at dksX2_settle_0 17 rfl rfl)
theorem dX2_settle_18 : decode cX2_settle 18 = .ok (.bipush 40, 2) := dk_16 40 (dk_at dksX2_settle_0 18 rfl rfl)
theorem dX2_settle_20 : decode cX2_settle 20 = .ok (.if_icmp .ge 45, 3) := dk_162 0 45 (dk_at dksX2_settle_0 20 rfl rfl)
theorem dX2_settle_23 : decode cX2_settle 23 = .ok (.aload_n 0, 1) := dk_42 (dk_at dksX2_settle_0 23 rfl rfl)
theorem dX2_settle_24 : decode cX2_settle 24 = .ok (.getfield 29, 3) := dk_180 0 29 (dk_at dksX2_settle_1 0 rfl rfl)
theorem dX2_settle_27 : decode cX2_settle 27 = .ok (.aload_n 0, 1) := dk_42 (dk_at dksX2_settle_1 3 rfl rfl)
theorem dX2_settle_28 : decode cX2_settle 28 = .ok (.getfield 156, 3) := dk_180 0 156 (dk_at dksX2_settle_1 4 rfl rfl)
theorem dX2_settle_31 : decode cX2_settle 31 = .ok (.iconst 1, 1) := dk_4 (dk_at dksX2_settle_1 7 rfl rfl)
theorem dX2_settle_32 : decode cX2_settle 32 = .ok (.isub, 1) := dk_100 (dk_at dksX2_settle_1 8 rfl rfl)
theorem dX2_settle_33 : decode cX2_settle 33 = .ok (.iaload, 1) := dk_46 (dk_at dksX2_settle_1 9 rfl rfl)
theorem dX2_settle_34 : decode cX2_settle 34 = .ok (.iload_n 1, 1) := dk_27 (dk_at dksX2_settle_1 10 rfl rfl)
theorem dX2_settle_35 : decode cX2_settle 35 = .ok (.if_icmp .lt 30, 3) := dk_161 0 30 (dk_at dksX2_settle_1 11 rfl rfl)
theorem dX2_settle_38 : decode cX2_settle 38 = .ok (.aload_n 0, 1) := dk_42 (dk_at dksX2_settle_1 14 rfl rfl)
theorem dX2_settle_39 : decode cX2_settle 39 = .ok (.dup, 1) := dk_89 (dk_at dksX2_settle_1 15 rfl rfl)
theorem dX2_settle_40 : decode cX2_settle 40 = .ok (.getfield 156, 3) := dk_180 0 156 (dk_at dksX2_settle_1 16 rfl rfl)
theorem dX2_settle_43 : decode cX2_settle 43 = .ok (.iconst 1, 1) := dk_4 (dk_at dksX2_settle_1 19 rfl rfl)
theorem dX2_settle_44 : decode cX2_settle 44 = .ok (.isub, 1) := dk_100 (dk_at dksX2_settle_1 20 rfl rfl)
theorem dX2_settle_45 : decode cX2_settle 45 = .ok (.putfield 156, 3) := dk_181 0 156 (dk_at dksX2_settle_1 21 rfl rfl)
theorem dX2_settle_48 : decode cX2_settle 48 = .ok (.aload_n 0, 1) := dk_42 (dk_at dksX2_settle_2 0 rfl rfl)
theorem dX2_settle_49 : decode cX2_settle 49 = .ok (.aload_n 0, 1) := dk_42 (dk_at dksX2_settle_2 1 rfl rfl)
theorem dX2_settle_50 : decode cX2_settle 50 = .ok (.getfield 29, 3) := dk_180 0 29 (dk_at dksX2_settle_2 2 rfl rfl)
theorem dX2_settle_53 : decode cX2_settle 53 = .ok (.aload_n 0, 1) := dk_42 (dk_at dksX2_settle_2 5 rfl rfl)
theorem dX2_settle_54 : decode cX2_settle 54 = .ok (.getfield 156, 3) := dk_180 0 156 (dk_at dksX2_settle_2 6 rfl rfl)
theorem dX2_settle_57 : decode cX2_settle 57 = .ok (.iaload, 1) := dk_46 (dk_at dksX2_settle_2 9 rfl rfl)
theorem dX2_settle_58 : decode cX2_settle 58 = .ok (.iconst 0, 1) := dk_3 (dk_at dksX2_settle_2 10 rfl rfl)
theorem dX2_settle_59 : decode cX2_settle 59 = .ok (.invokevirtual 166, 3) := dk_182 0 166 (dk_at dksX2_settle_2 11 rfl rfl)
theorem dX2_settle_62 : decode cX2_settle 62 = .ok (.goto (-62), 3) := dk_167 255 194 (dk_at dksX2_settle_2 14 rfl rfl)
theorem dX2_settle_65 : decode cX2_settle 65 = .ok (.return_, 1) := dk_177 (dk_at dksX2_settle_2 17 rfl rfl)
abbrev MX2_settle : jjM := (yX2_settle, cX2_settle, 2, (Option.none : Option Jvm.ClassFile.FieldType))
theorem npX2_settle : yX2_settle.cls ≠ "java/lang/invoke/MethodHandle" ∧ yX2_settle.cls ≠ "java/lang/invoke/VarHandle" ∧ (parseMethodDescriptor yX2_settle.desc).map (fun d => d.parameters.length) = some 1 := by decide +kernel
abbrev cX2_emit : ByteArray := prog_17_method_27_code
def yX2_emit : MethodName := ⟨RX2, "emit", "(II)V"⟩
def dkwX2_emit_2 : List UInt8 := [96, 181, 0, 153, 177]
abbrev dktX2_emit_2 : List UInt8 := dkwX2_emit_2 ++ []
def dkwX2_emit_1 : List UInt8 := [42, 180, 0, 150, 16, 97, 96, 5, 42, 180, 0, 153, 104, 96, 4, 96, 28, 79, 42, 89, 180, 0, 153, 4]
abbrev dktX2_emit_1 : List UInt8 := dkwX2_emit_1 ++ dktX2_emit_2
def dkwX2_emit_0 : List UInt8 := [42, 180, 0, 16, 42, 180, 0, 150, 16, 97, 96, 5, 42, 180, 0, 153, 104, 96, 27, 79, 42, 180, 0, 16]
abbrev dktX2_emit_0 : List UInt8 := dkwX2_emit_0 ++ dktX2_emit_1
theorem dksX2_emit_0 : cX2_emit.data.toList.drop 0 = dktX2_emit_0 := by decide +kernel
theorem dksX2_emit_1 : cX2_emit.data.toList.drop 24 = dktX2_emit_1 := dk_seg dksX2_emit_0 24 rfl rfl
theorem dksX2_emit_2 : cX2_emit.data.toList.drop 48 = dktX2_emit_2 := dk_seg dksX2_emit_1 24 rfl rfl
theorem dX2_emit_0 : decode cX2_emit 0 = .ok (.aload_n 0, 1) := dk_42 (dk_at dksX2_emit_0 0 rfl rfl)
theorem dX2_emit_1 : decode cX2_emit 1 = .ok (.getfield 16, 3) := dk_180 0 16 (dk_at dksX2_emit_0 1 rfl rfl)
theorem dX2_emit_4 : decode cX2_emit 4 = .ok (.aload_n 0, 1) := dk_42 (dk_at dksX2_emit_0 4 rfl rfl)
theorem dX2_emit_5 : decode cX2_emit 5 = .ok (.getfield 150, 3) := dk_180 0 150 (dk_at dksX2_emit_0 5 rfl rfl)
theorem dX2_emit_8 : decode cX2_emit 8 = .ok (.bipush 97, 2) := dk_16 97 (dk_at dksX2_emit_0 8 rfl rfl)
theorem dX2_emit_10 : decode cX2_emit 10 = .ok (.iadd, 1) := dk_96 (dk_at dksX2_emit_0 10 rfl rfl)
theorem dX2_emit_11 : decode cX2_emit 11 = .ok (.iconst 2, 1) := dk_5 (dk_at dksX2_emit_0 11 rfl rfl)
theorem dX2_emit_12 : decode cX2_emit 12 = .ok (.aload_n 0, 1) := dk_42 (dk_at dksX2_emit_0 12 rfl rfl)
theorem dX2_emit_13 : decode cX2_emit 13 = .ok (.getfield 153, 3) := dk_180 0 153 (dk_at dksX2_emit_0 13 rfl rfl)
theorem dX2_emit_16 : decode cX2_emit 16 = .ok (.imul, 1) := dk_104 (dk_at dksX2_emit_0 16 rfl rfl)
theorem dX2_emit_17 : decode cX2_emit 17 = .ok (.iadd, 1) := dk_96 (dk_at dksX2_emit_0 17 rfl rfl)
theorem dX2_emit_18 : decode cX2_emit 18 = .ok (.iload_n 1, 1) := dk_27 (dk_at dksX2_emit_0 18 rfl rfl)
theorem dX2_emit_19 : decode cX2_emit 19 = .ok (.iastore, 1) := dk_79 (dk_at dksX2_emit_0 19 rfl rfl)
theorem dX2_emit_20 : decode cX2_emit 20 = .ok (.aload_n 0, 1) := dk_42 (dk_at dksX2_emit_0 20 rfl rfl)
theorem dX2_emit_21 : decode cX2_emit 21 = .ok (.getfield 16, 3) := dk_180 0 16 (dk_at dksX2_emit_0 21 rfl rfl)
theorem dX2_emit_24 : decode cX2_emit 24 = .ok (.aload_n 0, 1) := dk_42 (dk_at dksX2_emit_1 0 rfl rfl)
theorem dX2_emit_25 : decode cX2_emit 25 = .ok (.getfield 150, 3) := dk_180 0 150 (dk_at dksX2_emit_1 1 rfl rfl)
theorem dX2_emit_28 : decode cX2_emit 28 = .ok (.bipush 97, 2) := dk_16 97 (dk_at dksX2_emit_1 4 rfl rfl)
theorem dX2_emit_30 : decode cX2_emit 30 = .ok (.iadd, 1) := dk_96 (dk_at dksX2_emit_1 6 rfl rfl)
theorem dX2_emit_31 : decode cX2_emit 31 = .ok (.iconst 2, 1) := dk_5 (dk_at dksX2_emit_1 7 rfl rfl)
theorem dX2_emit_32 : decode cX2_emit 32 = .ok (.aload_n 0, 1) := dk_42 (dk_at dksX2_emit_1 8 rfl rfl)
theorem dX2_emit_33 : decode cX2_emit 33 = .ok (.getfield 153, 3) := dk_180 0 153 (dk_at dksX2_emit_1 9 rfl rfl)
theorem dX2_emit_36 : decode cX2_emit 36 = .ok (.imul, 1) := dk_104 (dk_at dksX2_emit_1 12 rfl rfl)
theorem dX2_emit_37 : decode cX2_emit 37 = .ok (.iadd, 1) := dk_96 (dk_at dksX2_emit_1 13 rfl rfl)
theorem dX2_emit_38 : decode cX2_emit 38 = .ok (.iconst 1, 1) := dk_4 (dk_at dksX2_emit_1 14 rfl rfl)
theorem dX2_emit_39 : decode cX2_emit 39 = .ok (.iadd, 1) := dk_96 (dk_at dksX2_emit_1 15 rfl rfl)
theorem dX2_emit_40 : decode cX2_emit 40 = .ok (.iload_n 2, 1) := dk_28 (dk_at dksX2_emit_1 16 rfl rfl)
theorem dX2_emit_41 : decode cX2_emit 41 = .ok (.iastore, 1) := dk_79 (dk_at dksX2_emit_1 17 rfl rfl)
theorem dX2_emit_42 : decode cX2_emit 42 = .ok (.aload_n 0, 1) := dk_42 (dk_at dksX2_emit_1 18 rfl rfl)
theorem dX2_emit_43 : decode cX2_emit 43 = .ok (.dup, 1) := dk_89 (dk_at dksX2_emit_1 19 rfl rfl)
theorem dX2_emit_44 : decode cX2_emit 44 = .ok (.getfield 153, 3) := dk_180 0 153 (dk_at dksX2_emit_1 20 rfl rfl)
theorem dX2_emit_47 : decode cX2_emit 47 = .ok (.iconst 1, 1) := dk_4 (dk_at dksX2_emit_1 23 rfl rfl)
theorem dX2_emit_48 : decode cX2_emit 48 = .ok (.iadd, 1) := dk_96 (dk_at dksX2_emit_2 0 rfl rfl)
theorem dX2_emit_49 : decode cX2_emit 49 = .ok (.putfield 153, 3) := dk_181 0 153 (dk_at dksX2_emit_2 1 rfl rfl)
theorem dX2_emit_52 : decode cX2_emit 52 = .ok (.return_, 1) := dk_177 (dk_at dksX2_emit_2 4 rfl rfl)
abbrev MX2_emit : jjM := (yX2_emit, cX2_emit, 3, (Option.none : Option Jvm.ClassFile.FieldType))
theorem npX2_emit : yX2_emit.cls ≠ "java/lang/invoke/MethodHandle" ∧ yX2_emit.cls ≠ "java/lang/invoke/VarHandle" ∧ (parseMethodDescriptor yX2_emit.desc).map (fun d => d.parameters.length) = some 2 := by decide +kernel
abbrev cX2_push : ByteArray := prog_17_method_28_code
def yX2_push : MethodName := ⟨RX2, "push", "(I)V"⟩
def dkwX2_push_0 : List UInt8 := [42, 180, 0, 29, 42, 180, 0, 156, 27, 79, 42, 89, 180, 0, 156, 4, 96, 181, 0, 156, 177]
abbrev dktX2_push_0 : List UInt8 := dkwX2_push_0 ++ []
theorem dksX2_push_0 : cX2_push.data.toList.drop 0 = dktX2_push_0 := by decide +kernel
theorem dX2_push_0 : decode cX2_push 0 = .ok (.aload_n 0, 1) := dk_42 (dk_at dksX2_push_0 0 rfl rfl)
theorem dX2_push_1 : decode cX2_push 1 = .ok (.getfield 29, 3) := dk_180 0 29 (dk_at dksX2_push_0 1 rfl rfl)
theorem dX2_push_4 : decode cX2_push 4 = .ok (.aload_n 0, 1) := dk_42 (dk_at dksX2_push_0 4 rfl rfl)
theorem dX2_push_5 : decode cX2_push 5 = .ok (.getfield 156, 3) := dk_180 0 156 (dk_at dksX2_push_0 5 rfl rfl)
theorem dX2_push_8 : decode cX2_push 8 = .ok (.iload_n 1, 1) := dk_27 (dk_at dksX2_push_0 8 rfl rfl)
theorem dX2_push_9 : decode cX2_push 9 = .ok (.iastore, 1) := dk_79 (dk_at dksX2_push_0 9 rfl rfl)
theorem dX2_push_10 : decode cX2_push 10 = .ok (.aload_n 0, 1) := dk_42 (dk_at dksX2_push_0 10 rfl rfl)
theorem dX2_push_11 : decode cX2_push 11 = .ok (.dup, 1) := dk_89 (dk_at dksX2_push_0 11 rfl rfl)
theorem dX2_push_12 : decode cX2_push 12 = .ok (.getfield 156, 3) := dk_180 0 156 (dk_at dksX2_push_0 12 rfl rfl)
theorem dX2_push_15 : decode cX2_push 15 = .ok (.iconst 1, 1) := dk_4 (dk_at dksX2_push_0 15 rfl rfl)
theorem dX2_push_16 : decode cX2_push 16 = .ok (.iadd, 1) := dk_96 (dk_at dksX2_push_0 16 rfl rfl)
theorem dX2_push_17 : decode cX2_push 17 = .ok (.putfield 156, 3) := dk_181 0 156 (dk_at dksX2_push_0 17 rfl rfl)
theorem dX2_push_20 : decode cX2_push 20 = .ok (.return_, 1) := dk_177 (dk_at dksX2_push_0 20 rfl rfl)
abbrev MX2_push : jjM := (yX2_push, cX2_push, 2, (Option.none : Option Jvm.ClassFile.FieldType))
theorem npX2_push : yX2_push.cls ≠ "java/lang/invoke/MethodHandle" ∧ yX2_push.cls ≠ "java/lang/invoke/VarHandle" ∧ (parseMethodDescriptor yX2_push.desc).map (fun d => d.parameters.length) = some 1 := by decide +kernel
abbrev cX2_whole : ByteArray := prog_17_method_29_code
def yX2_whole : MethodName := ⟨RX2, "whole", "()V"⟩
def dkwX2_whole_2 : List UInt8 := [5, 3, 182, 0, 166, 167, 255, 208, 177]
abbrev dktX2_whole_2 : List UInt8 := dkwX2_whole_2 ++ []
def dkwX2_whole_1 : List UInt8 := [160, 0, 32, 42, 89, 180, 0, 156, 4, 100, 181, 0, 156, 42, 89, 180, 0, 163, 4, 100, 181, 0, 163, 42]
abbrev dktX2_whole_1 : List UInt8 := dkwX2_whole_1 ++ dktX2_whole_2
def dkwX2_whole_0 : List UInt8 := [42, 4, 181, 0, 159, 42, 180, 0, 156, 158, 0, 47, 42, 180, 0, 29, 42, 180, 0, 156, 4, 100, 46, 5]
abbrev dktX2_whole_0 : List UInt8 := dkwX2_whole_0 ++ dktX2_whole_1
theorem dksX2_whole_0 : cX2_whole.data.toList.drop 0 = dktX2_whole_0 := by decide +kernel
theorem dksX2_whole_1 : cX2_whole.data.toList.drop 24 = dktX2_whole_1 := dk_seg dksX2_whole_0 24 rfl rfl
theorem dksX2_whole_2 : cX2_whole.data.toList.drop 48 = dktX2_whole_2 := dk_seg dksX2_whole_1 24 rfl rfl
theorem dX2_whole_0 : decode cX2_whole 0 = .ok (.aload_n 0, 1) := dk_42 (dk_at dksX2_whole_0 0 rfl rfl)
theorem dX2_whole_1 : decode cX2_whole 1 = .ok (.iconst 1, 1) := dk_4 (dk_at dksX2_whole_0 1 rfl rfl)
theorem dX2_whole_2 : decode cX2_whole 2 = .ok (.putfield 159, 3) := dk_181 0 159 (dk_at dksX2_whole_0 2 rfl rfl)
theorem dX2_whole_5 : decode cX2_whole 5 = .ok (.aload_n 0, 1) := dk_42 (dk_at dksX2_whole_0 5 rfl rfl)
theorem dX2_whole_6 : decode cX2_whole 6 = .ok (.getfield 156, 3) := dk_180 0 156 (dk_at dksX2_whole_0 6 rfl rfl)
theorem dX2_whole_9 : decode cX2_whole 9 = .ok (.ifCond .le 47, 3) := dk_158 0 47 (dk_at dksX2_whole_0 9 rfl rfl)
theorem dX2_whole_12 : decode cX2_whole 12 = .ok (.aload_n 0, 1) := dk_42 (dk_at dksX2_whole_0 12 rfl rfl)
theorem dX2_whole_13 : decode cX2_whole 13 = .ok (.getfield 29, 3) := dk_180 0 29 (dk_at dksX2_whole_0 13 rfl rfl)
theorem dX2_whole_16 : decode cX2_whole 16 = .ok (.aload_n 0, 1) := dk_42 (dk_at dksX2_whole_0 16 rfl rfl)
theorem dX2_whole_17 : decode cX2_whole 17 = .ok (.getfield 156, 3) := dk_180 0 156 (dk_at dksX2_whole_0 17 rfl rfl)
theorem dX2_whole_20 : decode cX2_whole 20 = .ok (.iconst 1, 1) := dk_4 (dk_at dksX2_whole_0 20 rfl rfl)
theorem dX2_whole_21 : decode cX2_whole 21 = .ok (.isub, 1) := dk_100 (dk_at dksX2_whole_0 21 rfl rfl)
theorem dX2_whole_22 : decode cX2_whole 22 = .ok (.iaload, 1) := dk_46 (dk_at dksX2_whole_0 22 rfl rfl)
theorem dX2_whole_23 : decode cX2_whole 23 = .ok (.iconst 2, 1) := dk_5 (dk_at dksX2_whole_0 23 rfl rfl)
theorem dX2_whole_24 : decode cX2_whole 24 = .ok (.if_icmp .ne 32, 3) := dk_160 0 32 (dk_at dksX2_whole_1 0 rfl rfl)
theorem dX2_whole_27 : decode cX2_whole 27 = .ok (.aload_n 0, 1) := dk_42 (dk_at dksX2_whole_1 3 rfl rfl)
theorem dX2_whole_28 : decode cX2_whole 28 = .ok (.dup, 1) := dk_89 (dk_at dksX2_whole_1 4 rfl rfl)
theorem dX2_whole_29 : decode cX2_whole 29 = .ok (.getfield 156, 3) := dk_180 0 156 (dk_at dksX2_whole_1 5 rfl rfl)
theorem dX2_whole_32 : decode cX2_whole 32 = .ok (.iconst 1, 1) := dk_4 (dk_at dksX2_whole_1 8 rfl rfl)
theorem dX2_whole_33 : decode cX2_whole 33 = .ok (.isub, 1) := dk_100 (dk_at dksX2_whole_1 9 rfl rfl)
theorem dX2_whole_34 : decode cX2_whole 34 = .ok (.putfield 156, 3) := dk_181 0 156 (dk_at dksX2_whole_1 10 rfl rfl)
theorem dX2_whole_37 : decode cX2_whole 37 = .ok (.aload_n 0, 1) := dk_42 (dk_at dksX2_whole_1 13 rfl rfl)
theorem dX2_whole_38 : decode cX2_whole 38 = .ok (.dup, 1) := dk_89 (dk_at dksX2_whole_1 14 rfl rfl)
theorem dX2_whole_39 : decode cX2_whole 39 = .ok (.getfield 163, 3) := dk_180 0 163 (dk_at dksX2_whole_1 15 rfl rfl)
theorem dX2_whole_42 : decode cX2_whole 42 = .ok (.iconst 1, 1) := dk_4 (dk_at dksX2_whole_1 18 rfl rfl)
theorem dX2_whole_43 : decode cX2_whole 43 = .ok (.isub, 1) := dk_100 (dk_at dksX2_whole_1 19 rfl rfl)
theorem dX2_whole_44 : decode cX2_whole 44 = .ok (.putfield 163, 3) := dk_181 0 163 (dk_at dksX2_whole_1 20 rfl rfl)
theorem dX2_whole_47 : decode cX2_whole 47 = .ok (.aload_n 0, 1) := dk_42 (dk_at dksX2_whole_1 23 rfl rfl)
theorem dX2_whole_48 : decode cX2_whole 48 = .ok (.iconst 2, 1) := dk_5 (dk_at dksX2_whole_2 0 rfl rfl)
theorem dX2_whole_49 : decode cX2_whole 49 = .ok (.iconst 0, 1) := dk_3 (dk_at dksX2_whole_2 1 rfl rfl)
theorem dX2_whole_50 : decode cX2_whole 50 = .ok (.invokevirtual 166, 3) := dk_182 0 166 (dk_at dksX2_whole_2 2 rfl rfl)
theorem dX2_whole_53 : decode cX2_whole 53 = .ok (.goto (-48), 3) := dk_167 255 208 (dk_at dksX2_whole_2 5 rfl rfl)
theorem dX2_whole_56 : decode cX2_whole 56 = .ok (.return_, 1) := dk_177 (dk_at dksX2_whole_2 8 rfl rfl)
abbrev MX2_whole : jjM := (yX2_whole, cX2_whole, 1, (Option.none : Option Jvm.ClassFile.FieldType))
theorem npX2_whole : yX2_whole.cls ≠ "java/lang/invoke/MethodHandle" ∧ yX2_whole.cls ≠ "java/lang/invoke/VarHandle" ∧ (parseMethodDescriptor yX2_whole.desc).map (fun d => d.parameters.length) = some 0 := by decide +kernel
abbrev cX2_beginOne : ByteArray := prog_17_method_34_code
def yX2_beginOne : MethodName := ⟨RX2, "beginOne", "()I"⟩
def dkwX2_beginOne_6 : List UInt8 := [182, 0, 185, 3, 172]
abbrev dktX2_beginOne_6 : List UInt8 := dkwX2_beginOne_6 ++ []
def dkwX2_beginOne_5 : List UInt8 := [16, 8, 160, 0, 5, 6, 172, 42, 89, 180, 0, 163, 4, 96, 181, 0, 163, 42, 27, 182, 0, 197, 42]
abbrev dktX2_beginOne_5 : List UInt8 := dkwX2_beginOne_5 ++ dktX2_beginOne_6
def dkwX2_beginOne_4 : List UInt8 := [180, 0, 125, 16, 45, 160, 0, 7, 5, 167, 0, 4, 3, 60, 27, 154, 0, 5, 4, 172, 42, 180, 0, 163]
abbrev dktX2_beginOne_4 : List UInt8 := dkwX2_beginOne_4 ++ dktX2_beginOne_5
def dkwX2_beginOne_3 : List UInt8 := [182, 0, 185, 42, 182, 0, 188, 3, 172, 42, 180, 0, 125, 16, 40, 160, 0, 8, 16, 40, 167, 0, 17, 42]
abbrev dktX2_beginOne_3 : List UInt8 := dkwX2_beginOne_3 ++ dktX2_beginOne_4
def dkwX2_beginOne_2 : List UInt8 := [42, 182, 0, 191, 182, 0, 194, 153, 0, 5, 8, 172, 42, 4, 42, 182, 0, 191, 182, 0, 166, 42]
abbrev dktX2_beginOne_2 : List UInt8 := dkwX2_beginOne_2 ++ dktX2_beginOne_3
def dkwX2_beginOne_1 : List UInt8 := [180, 0, 131, 182, 0, 166, 42, 182, 0, 185, 42, 182, 0, 188, 3, 172, 42, 182, 0, 191, 155, 0, 35, 42]
abbrev dktX2_beginOne_1 : List UInt8 := dkwX2_beginOne_1 ++ dktX2_beginOne_2
def dkwX2_beginOne_0 : List UInt8 := [42, 180, 0, 125, 4, 160, 0, 34, 42, 180, 0, 131, 17, 39, 15, 164, 0, 5, 5, 172, 42, 3, 42]
abbrev dktX2_beginOne_0 : List UInt8 := dkwX2_beginOne_0 ++ dktX2_beginOne_1
theorem dksX2_beginOne_0 : cX2_beginOne.data.toList.drop 0 = dktX2_beginOne_0 := by decide +kernel
theorem dksX2_beginOne_1 : cX2_beginOne.data.toList.drop 23 = dktX2_beginOne_1 := dk_seg dksX2_beginOne_0 23 rfl rfl
theorem dksX2_beginOne_2 : cX2_beginOne.data.toList.drop 47 = dktX2_beginOne_2 := dk_seg dksX2_beginOne_1 24 rfl rfl
theorem dksX2_beginOne_3 : cX2_beginOne.data.toList.drop 69 = dktX2_beginOne_3 := dk_seg dksX2_beginOne_2 22 rfl rfl
theorem dksX2_beginOne_4 : cX2_beginOne.data.toList.drop 93 = dktX2_beginOne_4 := dk_seg dksX2_beginOne_3 24 rfl rfl
theorem dksX2_beginOne_5 : cX2_beginOne.data.toList.drop 117 = dktX2_beginOne_5 := dk_seg dksX2_beginOne_4 24 rfl rfl
theorem dksX2_beginOne_6 : cX2_beginOne.data.toList.drop 140 = dktX2_beginOne_6 := dk_seg dksX2_beginOne_5 23 rfl rfl
theorem dX2_beginOne_0 : decode cX2_beginOne 0 = .ok (.aload_n 0, 1) := dk_42 (dk_at dksX2_beginOne_0 0 rfl rfl)
theorem dX2_beginOne_1 : decode cX2_beginOne 1 = .ok (.getfield 125, 3) := dk_180 0 125 (dk_at dksX2_beginOne_0 1 rfl rfl)
theorem dX2_beginOne_4 : decode cX2_beginOne 4 = .ok (.iconst 1, 1) := dk_4 (dk_at dksX2_beginOne_0 4 rfl rfl)
theorem dX2_beginOne_5 : decode cX2_beginOne 5 = .ok (.if_icmp .ne 34, 3) := dk_160 0 34 (dk_at dksX2_beginOne_0 5 rfl rfl)
theorem dX2_beginOne_8 : decode cX2_beginOne 8 = .ok (.aload_n 0, 1) := dk_42 (dk_at dksX2_beginOne_0 8 rfl rfl)
theorem dX2_beginOne_9 : decode cX2_beginOne 9 = .ok (.getfield 131, 3) := dk_180 0 131 (dk_at dksX2_beginOne_0 9 rfl rfl)
theorem dX2_beginOne_12 : decode cX2_beginOne 12 = .ok (.sipush 9999, 3) := dk_17 39 15 (dk_at dksX2_beginOne_0 12 rfl rfl)
theorem dX2_beginOne_15 : decode cX2_beginOne 15 = .ok (.if_icmp .le 5, 3) := dk_164 0 5 (dk_at dksX2_beginOne_0 15 rfl rfl)
theorem dX2_beginOne_18 : decode cX2_beginOne 18 = .ok (.iconst 2, 1) := dk_5 (dk_at dksX2_beginOne_0 18 rfl rfl)
theorem dX2_beginOne_19 : decode cX2_beginOne 19 = .ok (.ireturn, 1) := dk_172 (dk_at dksX2_beginOne_0 19 rfl rfl)
theorem dX2_beginOne_20 : decode cX2_beginOne 20 = .ok (.aload_n 0, 1) := dk_42 (dk_at dksX2_beginOne_0 20 rfl rfl)
theorem dX2_beginOne_21 : decode cX2_beginOne 21 = .ok (.iconst 0, 1) := dk_3 (dk_at dksX2_beginOne_0 21 rfl rfl)
theorem dX2_beginOne_22 : decode cX2_beginOne 22 = .ok (.aload_n 0, 1) := dk_42 (dk_at dksX2_beginOne_0 22 rfl rfl)
theorem dX2_beginOne_23 : decode cX2_beginOne 23 = .ok (.getfield 131, 3) := dk_180 0 131 (dk_at dksX2_beginOne_1 0 rfl rfl)
theorem dX2_beginOne_26 : decode cX2_beginOne 26 = .ok (.invokevirtual 166, 3) := dk_182 0 166 (dk_at dksX2_beginOne_1 3 rfl rfl)
theorem dX2_beginOne_29 : decode cX2_beginOne 29 = .ok (.aload_n 0, 1) := dk_42 (dk_at dksX2_beginOne_1 6 rfl rfl)
theorem dX2_beginOne_30 : decode cX2_beginOne 30 = .ok (.invokevirtual 185, 3) := dk_182 0 185 (dk_at dksX2_beginOne_1 7 rfl rfl)
theorem dX2_beginOne_33 : decode cX2_beginOne 33 = .ok (.aload_n 0, 1) := dk_42 (dk_at dksX2_beginOne_1 10 rfl rfl)
theorem dX2_beginOne_34 : decode cX2_beginOne 34 = .ok (.invokevirtual 188, 3) := dk_182 0 188 (dk_at dksX2_beginOne_1 11 rfl rfl)
theorem dX2_beginOne_37 : decode cX2_beginOne 37 = .ok (.iconst 0, 1) := dk_3 (dk_at dksX2_beginOne_1 14 rfl rfl)
theorem dX2_beginOne_38 : decode cX2_beginOne 38 = .ok (.ireturn, 1) := dk_172 (dk_at dksX2_beginOne_1 15 rfl rfl)
theorem dX2_beginOne_39 : decode cX2_beginOne 39 = .ok (.aload_n 0, 1) := dk_42 (dk_at dksX2_beginOne_1 16 rfl rfl)
theorem dX2_beginOne_40 : decode cX2_beginOne 40 = .ok (.invokevirtual 191, 3) := dk_182 0 191 (dk_at dksX2_beginOne_1 17 rfl rfl)
theorem dX2_beginOne_43 : decode cX2_beginOne 43 = .ok (.ifCond .lt 35, 3) := dk_155 0 35 (dk_at dksX2_beginOne_1 20 rfl rfl)
theorem dX2_beginOne_46 : decode cX2_beginOne 46 = .ok (.aload_n 0, 1) := dk_42 (dk_at dksX2_beginOne_1 23 rfl rfl)
theorem dX2_beginOne_47 : decode cX2_beginOne 47 = .ok (.aload_n 0, 1) := dk_42 (dk_at dksX2_beginOne_2 0 rfl rfl)
theorem dX2_beginOne_48 : decode cX2_beginOne 48 = .ok (.invokevirtual 191, 3) := dk_182 0 191 (dk_at dksX2_beginOne_2 1 rfl rfl)
theorem dX2_beginOne_51 : decode cX2_beginOne 51 = .ok (.invokevirtual 194, 3) := dk_182 0 194 (dk_at dksX2_beginOne_2 4 rfl rfl)
theorem dX2_beginOne_54 : decode cX2_beginOne 54 = .ok (.ifCond .eq 5, 3) := dk_153 0 5 (dk_at dksX2_beginOne_2 7 rfl rfl)
theorem dX2_beginOne_57 : decode cX2_beginOne 57 = .ok (.iconst 5, 1) := dk_8 (dk_at dksX2_beginOne_2 10 rfl rfl)
theorem dX2_beginOne_58 : decode cX2_beginOne 58 = .ok (.ireturn, 1) := dk_172 (dk_at dksX2_beginOne_2 11 rfl rfl)
theorem dX2_beginOne_59 : decode cX2_beginOne 59 = .ok (.aload_n 0, 1) := dk_42 (dk_at dksX2_beginOne_2 12 rfl rfl)
theorem dX2_beginOne_60 : decode cX2_beginOne 60 = .ok (.iconst 1, 1) := dk_4 (dk_at dksX2_beginOne_2 13 rfl rfl)
theorem dX2_beginOne_61 : decode cX2_beginOne 61 = .ok (.aload_n 0, 1) := dk_42 (dk_at dksX2_beginOne_2 14 rfl rfl)
theorem dX2_beginOne_62 : decode cX2_beginOne 62 = .ok (.invokevirtual 191, 3) := dk_182 0 191 (dk_at dksX2_beginOne_2 15 rfl rfl)
theorem dX2_beginOne_65 : decode cX2_beginOne 65 = .ok (.invokevirtual 166, 3) := dk_182 0 166 (dk_at dksX2_beginOne_2 18 rfl rfl)
theorem dX2_beginOne_68 : decode cX2_beginOne 68 = .ok (.aload_n 0, 1) := dk_42 (dk_at dksX2_beginOne_2 21 rfl rfl)
theorem dX2_beginOne_69 : decode cX2_beginOne 69 = .ok (.invokevirtual 185, 3) := dk_182 0 185 (dk_at dksX2_beginOne_3 0 rfl rfl)
theorem dX2_beginOne_72 : decode cX2_beginOne 72 = .ok (.aload_n 0, 1) := dk_42 (dk_at dksX2_beginOne_3 3 rfl rfl)
theorem dX2_beginOne_73 : decode cX2_beginOne 73 = .ok (.invokevirtual 188, 3) := dk_182 0 188 (dk_at dksX2_beginOne_3 4 rfl rfl)
theorem dX2_beginOne_76 : decode cX2_beginOne 76 = .ok (.iconst 0, 1) := dk_3 (dk_at dksX2_beginOne_3 7 rfl rfl)
theorem dX2_beginOne_77 : decode cX2_beginOne 77 = .ok (.ireturn, 1) := dk_172 (dk_at dksX2_beginOne_3 8 rfl rfl)
theorem dX2_beginOne_78 : decode cX2_beginOne 78 = .ok (.aload_n 0, 1) := dk_42 (dk_at dksX2_beginOne_3 9 rfl rfl)
theorem dX2_beginOne_79 : decode cX2_beginOne 79 = .ok (.getfield 125, 3) := dk_180 0 125 (dk_at dksX2_beginOne_3 10 rfl rfl)
theorem dX2_beginOne_82 : decode cX2_beginOne 82 = .ok (.bipush 40, 2) := dk_16 40 (dk_at dksX2_beginOne_3 13 rfl rfl)
theorem dX2_beginOne_84 : decode cX2_beginOne 84 = .ok (.if_icmp .ne 8, 3) := dk_160 0 8 (dk_at dksX2_beginOne_3 15 rfl rfl)
theorem dX2_beginOne_87 : decode cX2_beginOne 87 = .ok (.bipush 40, 2) := dk_16 40 (dk_at dksX2_beginOne_3 18 rfl rfl)
theorem dX2_beginOne_89 : decode cX2_beginOne 89 = .ok (.goto 17, 3) := dk_167 0 17 (dk_at dksX2_beginOne_3 20 rfl rfl)
theorem dX2_beginOne_92 : decode cX2_beginOne 92 = .ok (.aload_n 0, 1) := dk_42 (dk_at dksX2_beginOne_3 23 rfl rfl)
theorem dX2_beginOne_93 : decode cX2_beginOne 93 = .ok (.getfield 125, 3) := dk_180 0 125 (dk_at dksX2_beginOne_4 0 rfl rfl)
theorem dX2_beginOne_96 : decode cX2_beginOne 96 = .ok (.bipush 45, 2) := dk_16 45 (dk_at dksX2_beginOne_4 3 rfl rfl)
theorem dX2_beginOne_98 : decode cX2_beginOne 98 = .ok (.if_icmp .ne 7, 3) := dk_160 0 7 (dk_at dksX2_beginOne_4 5 rfl rfl)
theorem dX2_beginOne_101 : decode cX2_beginOne 101 = .ok (.iconst 2, 1) := dk_5 (dk_at dksX2_beginOne_4 8 rfl rfl)
theorem dX2_beginOne_102 : decode cX2_beginOne 102 = .ok (.goto 4, 3) := dk_167 0 4 (dk_at dksX2_beginOne_4 9 rfl rfl)
theorem dX2_beginOne_105 : decode cX2_beginOne 105 = .ok (.iconst 0, 1) := dk_3 (dk_at dksX2_beginOne_4 12 rfl rfl)
theorem dX2_beginOne_106 : decode cX2_beginOne 106 = .ok (.istore_n 1, 1) := dk_60 (dk_at dksX2_beginOne_4 13 rfl rfl)
theorem dX2_beginOne_107 : decode cX2_beginOne 107 = .ok (.iload_n 1, 1) := dk_27 (dk_at dksX2_beginOne_4 14 rfl rfl)
theorem dX2_beginOne_108 : decode cX2_beginOne 108 = .ok (.ifCond .ne 5, 3) := dk_154 0 5 (dk_at dksX2_beginOne_4 15 rfl rfl)
theorem dX2_beginOne_111 : decode cX2_beginOne 111 = .ok (.iconst 1, 1) := dk_4 (dk_at dksX2_beginOne_4 18 rfl rfl)
theorem dX2_beginOne_112 : decode cX2_beginOne 112 = .ok (.ireturn, 1) := dk_172 (dk_at dksX2_beginOne_4 19 rfl rfl)
theorem dX2_beginOne_113 : decode cX2_beginOne 113 = .ok (.aload_n 0, 1) := dk_42 (dk_at dksX2_beginOne_4 20 rfl rfl)
theorem dX2_beginOne_114 : decode cX2_beginOne 114 = .ok (.getfield 163, 3) := dk_180 0 163 (dk_at dksX2_beginOne_4 21 rfl rfl)
theorem dX2_beginOne_117 : decode cX2_beginOne 117 = .ok (.bipush 8, 2) := dk_16 8 (dk_at dksX2_beginOne_5 0 rfl rfl)
theorem dX2_beginOne_119 : decode cX2_beginOne 119 = .ok (.if_icmp .ne 5, 3) := dk_160 0 5 (dk_at dksX2_beginOne_5 2 rfl rfl)
theorem dX2_beginOne_122 : decode cX2_beginOne 122 = .ok (.iconst 3, 1) := dk_6 (dk_at dksX2_beginOne_5 5 rfl rfl)
theorem dX2_beginOne_123 : decode cX2_beginOne 123 = .ok (.ireturn, 1) := dk_172 (dk_at dksX2_beginOne_5 6 rfl rfl)
theorem dX2_beginOne_124 : decode cX2_beginOne 124 = .ok (.aload_n 0, 1) := dk_42 (dk_at dksX2_beginOne_5 7 rfl rfl)
theorem dX2_beginOne_125 : decode cX2_beginOne 125 = .ok (.dup, 1) := dk_89 (dk_at dksX2_beginOne_5 8 rfl rfl)
theorem dX2_beginOne_126 : decode cX2_beginOne 126 = .ok (.getfield 163, 3) := dk_180 0 163 (dk_at dksX2_beginOne_5 9 rfl rfl)
theorem dX2_beginOne_129 : decode cX2_beginOne 129 = .ok (.iconst 1, 1) := dk_4 (dk_at dksX2_beginOne_5 12 rfl rfl)
theorem dX2_beginOne_130 : decode cX2_beginOne 130 = .ok (.iadd, 1) := dk_96 (dk_at dksX2_beginOne_5 13 rfl rfl)
theorem dX2_beginOne_131 : decode cX2_beginOne 131 = .ok (.putfield 163, 3) := dk_181 0 163 (dk_at dksX2_beginOne_5 14 rfl rfl)
theorem dX2_beginOne_134 : decode cX2_beginOne 134 = .ok (.aload_n 0, 1) := dk_42 (dk_at dksX2_beginOne_5 17 rfl rfl)
theorem dX2_beginOne_135 : decode cX2_beginOne 135 = .ok (.iload_n 1, 1) := dk_27 (dk_at dksX2_beginOne_5 18 rfl rfl)
theorem dX2_beginOne_136 : decode cX2_beginOne 136 = .ok (.invokevirtual 197, 3) := dk_182 0 197 (dk_at dksX2_beginOne_5 19 rfl rfl)
theorem dX2_beginOne_139 : decode cX2_beginOne 139 = .ok (.aload_n 0, 1) := dk_42 (dk_at dksX2_beginOne_5 22 rfl rfl)
theorem dX2_beginOne_140 : decode cX2_beginOne 140 = .ok (.invokevirtual 185, 3) := dk_182 0 185 (dk_at dksX2_beginOne_6 0 rfl rfl)
theorem dX2_beginOne_143 : decode cX2_beginOne 143 = .ok (.iconst 0, 1) := dk_3 (dk_at dksX2_beginOne_6 3 rfl rfl)
theorem dX2_beginOne_144 : decode cX2_beginOne 144 = .ok (.ireturn, 1) := dk_172 (dk_at dksX2_beginOne_6 4 rfl rfl)
abbrev MX2_beginOne : jjM := (yX2_beginOne, cX2_beginOne, 2, (Option.some Jvm.ClassFile.FieldType.int))
theorem npX2_beginOne : yX2_beginOne.cls ≠ "java/lang/invoke/MethodHandle" ∧ yX2_beginOne.cls ≠ "java/lang/invoke/VarHandle" ∧ (parseMethodDescriptor yX2_beginOne.desc).map (fun d => d.parameters.length) = some 0 := by decide +kernel
abbrev cX2_nameOf : ByteArray := prog_17_method_32_code
def yX2_nameOf : MethodName := ⟨RX2, "nameOf", "()I"⟩
def dkwX2_nameOf_8 : List UInt8 := [16, 97, 16, 110, 16, 121, 184, 0, 170, 148, 154, 0, 8, 16, 14, 167, 0, 4, 2, 172]
abbrev dktX2_nameOf_8 : List UInt8 := dkwX2_nameOf_8 ++ []
def dkwX2_nameOf_7 : List UInt8 := [16, 97, 16, 99, 16, 101, 184, 0, 146, 148, 154, 0, 8, 16, 13, 167, 0, 28, 42, 180, 0, 138, 16, 109]
abbrev dktX2_nameOf_7 : List UInt8 := dkwX2_nameOf_7 ++ dktX2_nameOf_8
def dkwX2_nameOf_6 : List UInt8 := [16, 101, 16, 108, 16, 102, 184, 0, 146, 148, 154, 0, 6, 16, 12, 172, 42, 180, 0, 138, 16, 112, 16, 108]
abbrev dktX2_nameOf_6 : List UInt8 := dkwX2_nameOf_6 ++ dktX2_nameOf_7
def dkwX2_nameOf_5 : List UInt8 := [16, 111, 16, 114, 184, 0, 170, 129, 148, 154, 0, 6, 16, 11, 172, 42, 180, 0, 138, 16, 115, 16, 104]
abbrev dktX2_nameOf_5 : List UInt8 := dkwX2_nameOf_5 ++ dktX2_nameOf_6
def dkwX2_nameOf_4 : List UInt8 := [16, 10, 172, 42, 180, 0, 138, 16, 111, 16, 97, 16, 117, 184, 0, 142, 16, 32, 121, 16, 116, 16, 104]
abbrev dktX2_nameOf_4 : List UInt8 := dkwX2_nameOf_4 ++ dktX2_nameOf_5
def dkwX2_nameOf_3 : List UInt8 := [172, 42, 180, 0, 138, 16, 111, 16, 116, 16, 104, 16, 105, 16, 99, 16, 107, 184, 0, 174, 148, 154, 0, 6]
abbrev dktX2_nameOf_3 : List UInt8 := dkwX2_nameOf_3 ++ dktX2_nameOf_4
def dkwX2_nameOf_2 : List UInt8 := [180, 0, 138, 16, 111, 16, 99, 16, 114, 16, 101, 16, 101, 16, 100, 184, 0, 174, 148, 154, 0, 6, 16, 9]
abbrev dktX2_nameOf_2 : List UInt8 := dkwX2_nameOf_2 ++ dktX2_nameOf_3
def dkwX2_nameOf_1 : List UInt8 := [180, 0, 138, 16, 111, 16, 104, 16, 117, 16, 101, 184, 0, 170, 148, 154, 0, 6, 16, 8, 172, 42]
abbrev dktX2_nameOf_1 : List UInt8 := dkwX2_nameOf_1 ++ dktX2_nameOf_2
def dkwX2_nameOf_0 : List UInt8 := [42, 180, 0, 125, 5, 159, 0, 5, 2, 172, 42, 182, 0, 178, 155, 0, 8, 42, 182, 0, 178, 172, 42]
abbrev dktX2_nameOf_0 : List UInt8 := dkwX2_nameOf_0 ++ dktX2_nameOf_1
theorem dksX2_nameOf_0 : cX2_nameOf.data.toList.drop 0 = dktX2_nameOf_0 := by decide +kernel
theorem dksX2_nameOf_1 : cX2_nameOf.data.toList.drop 23 = dktX2_nameOf_1 := dk_seg dksX2_nameOf_0 23 rfl rfl
theorem dksX2_nameOf_2 : cX2_nameOf.data.toList.drop 45 = dktX2_nameOf_2 := dk_seg dksX2_nameOf_1 22 rfl rfl
theorem dksX2_nameOf_3 : cX2_nameOf.data.toList.drop 69 = dktX2_nameOf_3 := dk_seg dksX2_nameOf_2 24 rfl rfl
theorem dksX2_nameOf_4 : cX2_nameOf.data.toList.drop 93 = dktX2_nameOf_4 := dk_seg dksX2_nameOf_3 24 rfl rfl
theorem dksX2_nameOf_5 : cX2_nameOf.data.toList.drop 116 = dktX2_nameOf_5 := dk_seg dksX2_nameOf_4 23 rfl rfl
theorem dksX2_nameOf_6 : cX2_nameOf.data.toList.drop 139 = dktX2_nameOf_6 := dk_seg dksX2_nameOf_5 23 rfl rfl
theorem dksX2_nameOf_7 : cX2_nameOf.data.toList.drop 163 = dktX2_nameOf_7 := dk_seg dksX2_nameOf_6 24 rfl rfl
theorem dksX2_nameOf_8 : cX2_nameOf.data.toList.drop 187 = dktX2_nameOf_8 := dk_seg dksX2_nameOf_7 24 rfl rfl
theorem dX2_nameOf_0 : decode cX2_nameOf 0 = .ok (.aload_n 0, 1) := dk_42 (dk_at dksX2_nameOf_0 0 rfl rfl)
theorem dX2_nameOf_1 : decode cX2_nameOf 1 = .ok (.getfield 125, 3) := dk_180 0 125 (dk_at dksX2_nameOf_0 1 rfl rfl)
theorem dX2_nameOf_4 : decode cX2_nameOf 4 = .ok (.iconst 2, 1) := dk_5 (dk_at dksX2_nameOf_0 4 rfl rfl)
theorem dX2_nameOf_5 : decode cX2_nameOf 5 = .ok (.if_icmp .eq 5, 3) := dk_159 0 5 (dk_at dksX2_nameOf_0 5 rfl rfl)
theorem dX2_nameOf_8 : decode cX2_nameOf 8 = .ok (.iconst (-1), 1) := dk_2 (dk_at dksX2_nameOf_0 8 rfl rfl)
theorem dX2_nameOf_9 : decode cX2_nameOf 9 = .ok (.ireturn, 1) := dk_172 (dk_at dksX2_nameOf_0 9 rfl rfl)
theorem dX2_nameOf_10 : decode cX2_nameOf 10 = .ok (.aload_n 0, 1) := dk_42 (dk_at dksX2_nameOf_0 10 rfl rfl)
theorem dX2_nameOf_11 : decode cX2_nameOf 11 = .ok (.invokevirtual 178, 3) := dk_182 0 178 (dk_at dksX2_nameOf_0 11 rfl rfl)
theorem dX2_nameOf_14 : decode cX2_nameOf 14 = .ok (.ifCond .lt 8, 3) := dk_155 0 8 (dk_at dksX2_nameOf_0 14 rfl rfl)
theorem dX2_nameOf_17 : decode cX2_nameOf 17 = .ok (.aload_n 0, 1) := dk_42 (dk_at dksX2_nameOf_0 17 rfl rfl)
theorem dX2_nameOf_18 : decode cX2_nameOf 18 = .ok (.invokevirtual 178, 3) := dk_182 0 178 (dk_at dksX2_nameOf_0 18 rfl rfl)
theorem dX2_nameOf_21 : decode cX2_nameOf 21 = .ok (.ireturn, 1) := dk_172 (dk_at dksX2_nameOf_0 21 rfl rfl)
theorem dX2_nameOf_22 : decode cX2_nameOf 22 = .ok (.aload_n 0, 1) := dk_42 (dk_at dksX2_nameOf_0 22 rfl rfl)
theorem dX2_nameOf_23 : decode cX2_nameOf 23 = .ok (.getfield 138, 3) := dk_180 0 138 (dk_at dksX2_nameOf_1 0 rfl rfl)
theorem dX2_nameOf_26 : decode cX2_nameOf 26 = .ok (.bipush 111, 2) := dk_16 111 (dk_at dksX2_nameOf_1 3 rfl rfl)
theorem dX2_nameOf_28 : decode cX2_nameOf 28 = .ok (.bipush 104, 2) := dk_16 104 (dk_at dksX2_nameOf_1 5 rfl rfl)
theorem dX2_nameOf_30 : decode cX2_nameOf 30 = .ok (.bipush 117, 2) := dk_16 117 (dk_at dksX2_nameOf_1 7 rfl rfl)
theorem dX2_nameOf_32 : decode cX2_nameOf 32 = .ok (.bipush 101, 2) := dk_16 101 (dk_at dksX2_nameOf_1 9 rfl rfl)
theorem dX2_nameOf_34 : decode cX2_nameOf 34 = .ok (.invokestatic 170, 3) := dk_184 0 170 (dk_at dksX2_nameOf_1 11 rfl rfl)
theorem dX2_nameOf_37 : decode cX2_nameOf 37 = .ok (.lcmp, 1) := dk_148 (dk_at dksX2_nameOf_1 14 rfl rfl)
theorem dX2_nameOf_38 : decode cX2_nameOf 38 = .ok (.ifCond .ne 6, 3) := dk_154 0 6 (dk_at dksX2_nameOf_1 15 rfl rfl)
theorem dX2_nameOf_41 : decode cX2_nameOf 41 = .ok (.bipush 8, 2) := dk_16 8 (dk_at dksX2_nameOf_1 18 rfl rfl)
theorem dX2_nameOf_43 : decode cX2_nameOf 43 = .ok (.ireturn, 1) := dk_172 (dk_at dksX2_nameOf_1 20 rfl rfl)
theorem dX2_nameOf_44 : decode cX2_nameOf 44 = .ok (.aload_n 0, 1) := dk_42 (dk_at dksX2_nameOf_1 21 rfl rfl)
theorem dX2_nameOf_45 : decode cX2_nameOf 45 = .ok (.getfield 138, 3) := dk_180 0 138 (dk_at dksX2_nameOf_2 0 rfl rfl)
theorem dX2_nameOf_48 : decode cX2_nameOf 48 = .ok (.bipush 111, 2) := dk_16 111 (dk_at dksX2_nameOf_2 3 rfl rfl)
theorem dX2_nameOf_50 : decode cX2_nameOf 50 = .ok (.bipush 99, 2) := dk_16 99 (dk_at dksX2_nameOf_2 5 rfl rfl)
theorem dX2_nameOf_52 : decode cX2_nameOf 52 = .ok (.bipush 114, 2) := dk_16 114 (dk_at dksX2_nameOf_2 7 rfl rfl)
theorem dX2_nameOf_54 : decode cX2_nameOf 54 = .ok (.bipush 101, 2) := dk_16 101 (dk_at dksX2_nameOf_2 9 rfl rfl)
theorem dX2_nameOf_56 : decode cX2_nameOf 56 = .ok (.bipush 101, 2) := dk_16 101 (dk_at dksX2_nameOf_2 11 rfl rfl)
theorem dX2_nameOf_58 : decode cX2_nameOf 58 = .ok (.bipush 100, 2) := dk_16 100 (dk_at dksX2_nameOf_2 13 rfl rfl)
theorem dX2_nameOf_60 : decode cX2_nameOf 60 = .ok (.invokestatic 174, 3) := dk_184 0 174 (dk_at dksX2_nameOf_2 15 rfl rfl)
theorem dX2_nameOf_63 : decode cX2_nameOf 63 = .ok (.lcmp, 1) := dk_148 (dk_at dksX2_nameOf_2 18 rfl rfl)
theorem dX2_nameOf_64 : decode cX2_nameOf 64 = .ok (.ifCond .ne 6, 3) := dk_154 0 6 (dk_at dksX2_nameOf_2 19 rfl rfl)
theorem dX2_nameOf_67 : decode cX2_nameOf 67 = .ok (.bipush 9, 2) := dk_16 9 (dk_at dksX2_nameOf_2 22 rfl rfl)
theorem dX2_nameOf_69 : decode cX2_nameOf 69 = .ok (.ireturn, 1) := dk_172 (dk_at dksX2_nameOf_3 0 rfl rfl)
theorem dX2_nameOf_70 : decode cX2_nameOf 70 = .ok (.aload_n 0, 1) := dk_42 (dk_at dksX2_nameOf_3 1 rfl rfl)
theorem dX2_nameOf_71 : decode cX2_nameOf 71 = .ok (.getfield 138, 3) := dk_180 0 138 (dk_at dksX2_nameOf_3 2 rfl rfl)
theorem dX2_nameOf_74 : decode cX2_nameOf 74 = .ok (.bipush 111, 2) := dk_16 111 (dk_at dksX2_nameOf_3 5 rfl rfl)
theorem dX2_nameOf_76 : decode cX2_nameOf 76 = .ok (.bipush 116, 2) := dk_16 116 (dk_at dksX2_nameOf_3 7 rfl rfl)
theorem dX2_nameOf_78 : decode cX2_nameOf 78 = .ok (.bipush 104, 2) := dk_16 104 (dk_at dksX2_nameOf_3 9 rfl rfl)
theorem dX2_nameOf_80 : decode cX2_nameOf 80 = .ok (.bipush 105, 2) := dk_16 105 (dk_at dksX2_nameOf_3 11 rfl rfl)
theorem dX2_nameOf_82 : decode cX2_nameOf 82 = .ok (.bipush 99, 2) := dk_16 99 (dk_at dksX2_nameOf_3 13 rfl rfl)
theorem dX2_nameOf_84 : decode cX2_nameOf 84 = .ok (.bipush 107, 2) := dk_16 107 (dk_at dksX2_nameOf_3 15 rfl rfl)
theorem dX2_nameOf_86 : decode cX2_nameOf 86 = .ok (.invokestatic 174, 3) := dk_184 0 174 (dk_at dksX2_nameOf_3 17 rfl rfl)
theorem dX2_nameOf_89 : decode cX2_nameOf 89 = .ok (.lcmp, 1) := dk_148 (dk_at dksX2_nameOf_3 20 rfl rfl)
theorem dX2_nameOf_90 : decode cX2_nameOf 90 = .ok (.ifCond .ne 6, 3) := dk_154 0 6 (dk_at dksX2_nameOf_3 21 rfl rfl)
theorem dX2_nameOf_93 : decode cX2_nameOf 93 = .ok (.bipush 10, 2) := dk_16 10 (dk_at dksX2_nameOf_4 0 rfl rfl)
theorem dX2_nameOf_95 : decode cX2_nameOf 95 = .ok (.ireturn, 1) := dk_172 (dk_at dksX2_nameOf_4 2 rfl rfl)
theorem dX2_nameOf_96 : decode cX2_nameOf 96 = .ok (.aload_n 0, 1) := dk_42 (dk_at dksX2_nameOf_4 3 rfl rfl)
theorem dX2_nameOf_97 : decode cX2_nameOf 97 = .ok (.getfield 138, 3) := dk_180 0 138 (dk_at dksX2_nameOf_4 4 rfl rfl)
theorem dX2_nameOf_100 : decode cX2_nameOf 100 = .ok (.bipush 111, 2) := dk_16 111 (dk_at dksX2_nameOf_4 7 rfl rfl)
theorem dX2_nameOf_102 : decode cX2_nameOf 102 = .ok (.bipush 97, 2) := dk_16 97 (dk_at dksX2_nameOf_4 9 rfl rfl)
theorem dX2_nameOf_104 : decode cX2_nameOf 104 = .ok (.bipush 117, 2) := dk_16 117 (dk_at dksX2_nameOf_4 11 rfl rfl)
theorem dX2_nameOf_106 : decode cX2_nameOf 106 = .ok (.invokestatic 142, 3) := dk_184 0 142 (dk_at dksX2_nameOf_4 13 rfl rfl)
theorem dX2_nameOf_109 : decode cX2_nameOf 109 = .ok (.bipush 32, 2) := dk_16 32 (dk_at dksX2_nameOf_4 16 rfl rfl)
theorem dX2_nameOf_111 : decode cX2_nameOf 111 = .ok (.lshl, 1) := dk_121 (dk_at dksX2_nameOf_4 18 rfl rfl)
theorem dX2_nameOf_112 : decode cX2_nameOf 112 = .ok (.bipush 116, 2) := dk_16 116 (dk_at dksX2_nameOf_4 19 rfl rfl)
theorem dX2_nameOf_114 : decode cX2_nameOf 114 = .ok (.bipush 104, 2) := dk_16 104 (dk_at dksX2_nameOf_4 21 rfl rfl)
theorem dX2_nameOf_116 : decode cX2_nameOf 116 = .ok (.bipush 111, 2) := dk_16 111 (dk_at dksX2_nameOf_5 0 rfl rfl)
theorem dX2_nameOf_118 : decode cX2_nameOf 118 = .ok (.bipush 114, 2) := dk_16 114 (dk_at dksX2_nameOf_5 2 rfl rfl)
theorem dX2_nameOf_120 : decode cX2_nameOf 120 = .ok (.invokestatic 170, 3) := dk_184 0 170 (dk_at dksX2_nameOf_5 4 rfl rfl)
theorem dX2_nameOf_123 : decode cX2_nameOf 123 = .ok (.lor, 1) := dk_129 (dk_at dksX2_nameOf_5 7 rfl rfl)
theorem dX2_nameOf_124 : decode cX2_nameOf 124 = .ok (.lcmp, 1) := dk_148 (dk_at dksX2_nameOf_5 8 rfl rfl)
theorem dX2_nameOf_125 : decode cX2_nameOf 125 = .ok (.ifCond .ne 6, 3) := dk_154 0 6 (dk_at dksX2_nameOf_5 9 rfl rfl)
theorem dX2_nameOf_128 : decode cX2_nameOf 128 = .ok (.bipush 11, 2) := dk_16 11 (dk_at dksX2_nameOf_5 12 rfl rfl)
theorem dX2_nameOf_130 : decode cX2_nameOf 130 = .ok (.ireturn, 1) := dk_172 (dk_at dksX2_nameOf_5 14 rfl rfl)
theorem dX2_nameOf_131 : decode cX2_nameOf 131 = .ok (.aload_n 0, 1) := dk_42 (dk_at dksX2_nameOf_5 15 rfl rfl)
theorem dX2_nameOf_132 : decode cX2_nameOf 132 = .ok (.getfield 138, 3) := dk_180 0 138 (dk_at dksX2_nameOf_5 16 rfl rfl)
theorem dX2_nameOf_135 : decode cX2_nameOf 135 = .ok (.bipush 115, 2) := dk_16 115 (dk_at dksX2_nameOf_5 19 rfl rfl)
theorem dX2_nameOf_137 : decode cX2_nameOf 137 = .ok (.bipush 104, 2) := dk_16 104 (dk_at dksX2_nameOf_5 21 rfl rfl)
theorem dX2_nameOf_139 : decode cX2_nameOf 139 = .ok (.bipush 101, 2) := dk_16 101 (dk_at dksX2_nameOf_6 0 rfl rfl)
theorem dX2_nameOf_141 : decode cX2_nameOf 141 = .ok (.bipush 108, 2) := dk_16 108 (dk_at dksX2_nameOf_6 2 rfl rfl)
theorem dX2_nameOf_143 : decode cX2_nameOf 143 = .ok (.bipush 102, 2) := dk_16 102 (dk_at dksX2_nameOf_6 4 rfl rfl)
theorem dX2_nameOf_145 : decode cX2_nameOf 145 = .ok (.invokestatic 146, 3) := dk_184 0 146 (dk_at dksX2_nameOf_6 6 rfl rfl)
theorem dX2_nameOf_148 : decode cX2_nameOf 148 = .ok (.lcmp, 1) := dk_148 (dk_at dksX2_nameOf_6 9 rfl rfl)
theorem dX2_nameOf_149 : decode cX2_nameOf 149 = .ok (.ifCond .ne 6, 3) := dk_154 0 6 (dk_at dksX2_nameOf_6 10 rfl rfl)
theorem dX2_nameOf_152 : decode cX2_nameOf 152 = .ok (.bipush 12, 2) := dk_16 12 (dk_at dksX2_nameOf_6 13 rfl rfl)
theorem dX2_nameOf_154 : decode cX2_nameOf 154 = .ok (.ireturn, 1) := dk_172 (dk_at dksX2_nameOf_6 15 rfl rfl)
theorem dX2_nameOf_155 : decode cX2_nameOf 155 = .ok (.aload_n 0, 1) := dk_42 (dk_at dksX2_nameOf_6 16 rfl rfl)
theorem dX2_nameOf_156 : decode cX2_nameOf 156 = .ok (.getfield 138, 3) := dk_180 0 138 (dk_at dksX2_nameOf_6 17 rfl rfl)
theorem dX2_nameOf_159 : decode cX2_nameOf 159 = .ok (.bipush 112, 2) := dk_16 112 (dk_at dksX2_nameOf_6 20 rfl rfl)
theorem dX2_nameOf_161 : decode cX2_nameOf 161 = .ok (.bipush 108, 2) := dk_16 108 (dk_at dksX2_nameOf_6 22 rfl rfl)
theorem dX2_nameOf_163 : decode cX2_nameOf 163 = .ok (.bipush 97, 2) := dk_16 97 (dk_at dksX2_nameOf_7 0 rfl rfl)
theorem dX2_nameOf_165 : decode cX2_nameOf 165 = .ok (.bipush 99, 2) := dk_16 99 (dk_at dksX2_nameOf_7 2 rfl rfl)
theorem dX2_nameOf_167 : decode cX2_nameOf 167 = .ok (.bipush 101, 2) := dk_16 101 (dk_at dksX2_nameOf_7 4 rfl rfl)
theorem dX2_nameOf_169 : decode cX2_nameOf 169 = .ok (.invokestatic 146, 3) := dk_184 0 146 (dk_at dksX2_nameOf_7 6 rfl rfl)
theorem dX2_nameOf_172 : decode cX2_nameOf 172 = .ok (.lcmp, 1) := dk_148 (dk_at dksX2_nameOf_7 9 rfl rfl)
theorem dX2_nameOf_173 : decode cX2_nameOf 173 = .ok (.ifCond .ne 8, 3) := dk_154 0 8 (dk_at dksX2_nameOf_7 10 rfl rfl)
theorem dX2_nameOf_176 : decode cX2_nameOf 176 = .ok (.bipush 13, 2) := dk_16 13 (dk_at dksX2_nameOf_7 13 rfl rfl)
theorem dX2_nameOf_178 : decode cX2_nameOf 178 = .ok (.goto 28, 3) := dk_167 0 28 (dk_at dksX2_nameOf_7 15 rfl rfl)
theorem dX2_nameOf_181 : decode cX2_nameOf 181 = .ok (.aload_n 0, 1) := dk_42 (dk_at dksX2_nameOf_7 18 rfl rfl)
theorem dX2_nameOf_182 : decode cX2_nameOf 182 = .ok (.getfield 138, 3) := dk_180 0 138 (dk_at dksX2_nameOf_7 19 rfl rfl)
theorem dX2_nameOf_185 : decode cX2_nameOf 185 = .ok (.bipush 109, 2) := dk_16 109 (dk_at dksX2_nameOf_7 22 rfl rfl)
theorem dX2_nameOf_187 : decode cX2_nameOf 187 = .ok (.bipush 97, 2) := dk_16 97 (dk_at dksX2_nameOf_8 0 rfl rfl)
theorem dX2_nameOf_189 : decode cX2_nameOf 189 = .ok (.bipush 110, 2) := dk_16 110 (dk_at dksX2_nameOf_8 2 rfl rfl)
theorem dX2_nameOf_191 : decode cX2_nameOf 191 = .ok (.bipush 121, 2) := dk_16 121 (dk_at dksX2_nameOf_8 4 rfl rfl)
theorem dX2_nameOf_193 : decode cX2_nameOf 193 = .ok (.invokestatic 170, 3) := dk_184 0 170 (dk_at dksX2_nameOf_8 6 rfl rfl)
theorem dX2_nameOf_196 : decode cX2_nameOf 196 = .ok (.lcmp, 1) := dk_148 (dk_at dksX2_nameOf_8 9 rfl rfl)
theorem dX2_nameOf_197 : decode cX2_nameOf 197 = .ok (.ifCond .ne 8, 3) := dk_154 0 8 (dk_at dksX2_nameOf_8 10 rfl rfl)
theorem dX2_nameOf_200 : decode cX2_nameOf 200 = .ok (.bipush 14, 2) := dk_16 14 (dk_at dksX2_nameOf_8 13 rfl rfl)
theorem dX2_nameOf_202 : decode cX2_nameOf 202 = .ok (.goto 4, 3) := dk_167 0 4 (dk_at dksX2_nameOf_8 15 rfl rfl)
theorem dX2_nameOf_205 : decode cX2_nameOf 205 = .ok (.iconst (-1), 1) := dk_2 (dk_at dksX2_nameOf_8 18 rfl rfl)
theorem dX2_nameOf_206 : decode cX2_nameOf 206 = .ok (.ireturn, 1) := dk_172 (dk_at dksX2_nameOf_8 19 rfl rfl)
abbrev MX2_nameOf : jjM := (yX2_nameOf, cX2_nameOf, 1, (Option.some Jvm.ClassFile.FieldType.int))
theorem npX2_nameOf : yX2_nameOf.cls ≠ "java/lang/invoke/MethodHandle" ∧ yX2_nameOf.cls ≠ "java/lang/invoke/VarHandle" ∧ (parseMethodDescriptor yX2_nameOf.desc).map (fun d => d.parameters.length) = some 0 := by decide +kernel
abbrev cX2_ownName : ByteArray := prog_17_method_31_code
def yX2_ownName : MethodName := ⟨RX2, "ownName", "()I"⟩
def dkwX2_ownName_7 : List UInt8 := [16, 111, 16, 116, 16, 104, 16, 101, 16, 114, 184, 0, 146, 148, 154, 0, 8, 16, 7, 167, 0, 4, 2, 172]
abbrev dktX2_ownName_7 : List UInt8 := dkwX2_ownName_7 ++ []
def dkwX2_ownName_6 : List UInt8 := [16, 105, 16, 103, 16, 104, 16, 116, 184, 0, 146, 148, 154, 0, 8, 16, 6, 167, 0, 30, 42, 180, 0, 138]
abbrev dktX2_ownName_6 : List UInt8 := dkwX2_ownName_6 ++ dktX2_ownName_7
def dkwX2_ownName_5 : List UInt8 := [16, 119, 16, 101, 16, 116, 184, 0, 142, 148, 154, 0, 7, 8, 167, 0, 56, 42, 180, 0, 138, 16, 114]
abbrev dktX2_ownName_5 : List UInt8 := dkwX2_ownName_5 ++ dktX2_ownName_6
def dkwX2_ownName_4 : List UInt8 := [16, 117, 16, 116, 16, 104, 16, 111, 16, 114, 184, 0, 174, 148, 154, 0, 5, 7, 172, 42, 180, 0, 138]
abbrev dktX2_ownName_4 : List UInt8 := dkwX2_ownName_4 ++ dktX2_ownName_5
def dkwX2_ownName_3 : List UInt8 := [16, 104, 16, 105, 16, 99, 16, 107, 184, 0, 146, 148, 154, 0, 5, 6, 172, 42, 180, 0, 138, 16, 97]
abbrev dktX2_ownName_3 : List UInt8 := dkwX2_ownName_3 ++ dktX2_ownName_4
def dkwX2_ownName_2 : List UInt8 := [16, 114, 16, 101, 16, 101, 16, 100, 184, 0, 146, 148, 154, 0, 5, 5, 172, 42, 180, 0, 138, 16, 116]
abbrev dktX2_ownName_2 : List UInt8 := dkwX2_ownName_2 ++ dktX2_ownName_3
def dkwX2_ownName_1 : List UInt8 := [180, 0, 138, 16, 104, 16, 117, 16, 101, 184, 0, 142, 148, 154, 0, 5, 4, 172, 42, 180, 0, 138, 16, 99]
abbrev dktX2_ownName_1 : List UInt8 := dkwX2_ownName_1 ++ dktX2_ownName_2
def dkwX2_ownName_0 : List UInt8 := [42, 180, 0, 138, 16, 98, 16, 111, 16, 111, 16, 107, 184, 0, 170, 148, 154, 0, 5, 3, 172, 42]
abbrev dktX2_ownName_0 : List UInt8 := dkwX2_ownName_0 ++ dktX2_ownName_1
theorem dksX2_ownName_0 : cX2_ownName.data.toList.drop 0 = dktX2_ownName_0 := by decide +kernel
theorem dksX2_ownName_1 : cX2_ownName.data.toList.drop 22 = dktX2_ownName_1 := dk_seg dksX2_ownName_0 22 rfl rfl
theorem dksX2_ownName_2 : cX2_ownName.data.toList.drop 46 = dktX2_ownName_2 := dk_seg dksX2_ownName_1 24 rfl rfl
theorem dksX2_ownName_3 : cX2_ownName.data.toList.drop 69 = dktX2_ownName_3 := dk_seg dksX2_ownName_2 23 rfl rfl
theorem dksX2_ownName_4 : cX2_ownName.data.toList.drop 92 = dktX2_ownName_4 := dk_seg dksX2_ownName_3 23 rfl rfl
theorem dksX2_ownName_5 : cX2_ownName.data.toList.drop 115 = dktX2_ownName_5 := dk_seg dksX2_ownName_4 23 rfl rfl
theorem dksX2_ownName_6 : cX2_ownName.data.toList.drop 138 = dktX2_ownName_6 := dk_seg dksX2_ownName_5 23 rfl rfl
theorem dksX2_ownName_7 : cX2_ownName.data.toList.drop 162 = dktX2_ownName_7 := dk_seg dksX2_ownName_6 24 rfl rfl
theorem dX2_ownName_0 : decode cX2_ownName 0 = .ok (.aload_n 0, 1) := dk_42 (dk_at dksX2_ownName_0 0 rfl rfl)
theorem dX2_ownName_1 : decode cX2_ownName 1 = .ok (.getfield 138, 3) := dk_180 0 138 (dk_at dksX2_ownName_0 1 rfl rfl)
theorem dX2_ownName_4 : decode cX2_ownName 4 = .ok (.bipush 98, 2) := dk_16 98 (dk_at dksX2_ownName_0 4 rfl rfl)
theorem dX2_ownName_6 : decode cX2_ownName 6 = .ok (.bipush 111, 2) := dk_16 111 (dk_at dksX2_ownName_0 6 rfl rfl)
theorem dX2_ownName_8 : decode cX2_ownName 8 = .ok (.bipush 111, 2) := dk_16 111 (dk_at dksX2_ownName_0 8 rfl rfl)
theorem dX2_ownName_10 : decode cX2_ownName 10 = .ok (.bipush 107, 2) := dk_16 107 (dk_at dksX2_ownName_0 10 rfl rfl)
theorem dX2_ownName_12 : decode cX2_ownName 12 = .ok (.invokestatic 170, 3) := dk_184 0 170 (dk_at dksX2_ownName_0 12 rfl rfl)
theorem dX2_ownName_15 : decode cX2_ownName 15 = .ok (.lcmp, 1) := dk_148 (dk_at dksX2_ownName_0 15 rfl rfl)
theorem dX2_ownName_16 : decode cX2_ownName 16 = .ok (.ifCond .ne 5, 3) := dk_154 0 5 (dk_at dksX2_ownName_0 16 rfl rfl)
theorem dX2_ownName_19 : decode cX2_ownName 19 = .ok (.iconst 0, 1) := dk_3 (dk_at dksX2_ownName_0 19 rfl rfl)
theorem dX2_ownName_20 : decode cX2_ownName 20 = .ok (.ireturn, 1) := dk_172 (dk_at dksX2_ownName_0 20 rfl rfl)
theorem dX2_ownName_21 : decode cX2_ownName 21 = .ok (.aload_n 0, 1) := dk_42 (dk_at dksX2_ownName_0 21 rfl rfl)
theorem dX2_ownName_22 : decode cX2_ownName 22 = .ok (.getfield 138, 3) := dk_180 0 138 (dk_at dksX2_ownName_1 0 rfl rfl)
theorem dX2_ownName_25 : decode cX2_ownName 25 = .ok (.bipush 104, 2) := dk_16 104 (dk_at dksX2_ownName_1 3 rfl rfl)
theorem dX2_ownName_27 : decode cX2_ownName 27 = .ok (.bipush 117, 2) := dk_16 117 (dk_at dksX2_ownName_1 5 rfl rfl)
theorem dX2_ownName_29 : decode cX2_ownName 29 = .ok (.bipush 101, 2) := dk_16 101 (dk_at dksX2_ownName_1 7 rfl rfl)
theorem dX2_ownName_31 : decode cX2_ownName 31 = .ok (.invokestatic 142, 3) := dk_184 0 142 (dk_at dksX2_ownName_1 9 rfl rfl)
theorem dX2_ownName_34 : decode cX2_ownName 34 = .ok (.lcmp, 1) := dk_148 (dk_at dksX2_ownName_1 12 rfl rfl)
theorem dX2_ownName_35 : decode cX2_ownName 35 = .ok (.ifCond .ne 5, 3) := dk_154 0 5 (dk_at dksX2_ownName_1 13 rfl rfl)
theorem dX2_ownName_38 : decode cX2_ownName 38 = .ok (.iconst 1, 1) := dk_4 (dk_at dksX2_ownName_1 16 rfl rfl)
theorem dX2_ownName_39 : decode cX2_ownName 39 = .ok (.ireturn, 1) := dk_172 (dk_at dksX2_ownName_1 17 rfl rfl)
theorem dX2_ownName_40 : decode cX2_ownName 40 = .ok (.aload_n 0, 1) := dk_42 (dk_at dksX2_ownName_1 18 rfl rfl)
theorem dX2_ownName_41 : decode cX2_ownName 41 = .ok (.getfield 138, 3) := dk_180 0 138 (dk_at dksX2_ownName_1 19 rfl rfl)
theorem dX2_ownName_44 : decode cX2_ownName 44 = .ok (.bipush 99, 2) := dk_16 99 (dk_at dksX2_ownName_1 22 rfl rfl)
theorem dX2_ownName_46 : decode cX2_ownName 46 = .ok (.bipush 114, 2) := dk_16 114 (dk_at dksX2_ownName_2 0 rfl rfl)
theorem dX2_ownName_48 : decode cX2_ownName 48 = .ok (.bipush 101, 2) := dk_16 101 (dk_at dksX2_ownName_2 2 rfl rfl)
theorem dX2_ownName_50 : decode cX2_ownName 50 = .ok (.bipush 101, 2) := dk_16 101 (dk_at dksX2_ownName_2 4 rfl rfl)
theorem dX2_ownName_52 : decode cX2_ownName 52 = .ok (.bipush 100, 2) := dk_16 100 (dk_at dksX2_ownName_2 6 rfl rfl)
theorem dX2_ownName_54 : decode cX2_ownName 54 = .ok (.invokestatic 146, 3) := dk_184 0 146 (dk_at dksX2_ownName_2 8 rfl rfl)
theorem dX2_ownName_57 : decode cX2_ownName 57 = .ok (.lcmp, 1) := dk_148 (dk_at dksX2_ownName_2 11 rfl rfl)
theorem dX2_ownName_58 : decode cX2_ownName 58 = .ok (.ifCond .ne 5, 3) := dk_154 0 5 (dk_at dksX2_ownName_2 12 rfl rfl)
theorem dX2_ownName_61 : decode cX2_ownName 61 = .ok (.iconst 2, 1) := dk_5 (dk_at dksX2_ownName_2 15 rfl rfl)
theorem dX2_ownName_62 : decode cX2_ownName 62 = .ok (.ireturn, 1) := dk_172 (dk_at dksX2_ownName_2 16 rfl rfl)
theorem dX2_ownName_63 : decode cX2_ownName 63 = .ok (.aload_n 0, 1) := dk_42 (dk_at dksX2_ownName_2 17 rfl rfl)
theorem dX2_ownName_64 : decode cX2_ownName 64 = .ok (.getfield 138, 3) := dk_180 0 138 (dk_at dksX2_ownName_2 18 rfl rfl)
theorem dX2_ownName_67 : decode cX2_ownName 67 = .ok (.bipush 116, 2) := dk_16 116 (dk_at dksX2_ownName_2 21 rfl rfl)
theorem dX2_ownName_69 : decode cX2_ownName 69 = .ok (.bipush 104, 2) := dk_16 104 (dk_at dksX2_ownName_3 0 rfl rfl)
theorem dX2_ownName_71 : decode cX2_ownName 71 = .ok (.bipush 105, 2) := dk_16 105 (dk_at dksX2_ownName_3 2 rfl rfl)
theorem dX2_ownName_73 : decode cX2_ownName 73 = .ok (.bipush 99, 2) := dk_16 99 (dk_at dksX2_ownName_3 4 rfl rfl)
theorem dX2_ownName_75 : decode cX2_ownName 75 = .ok (.bipush 107, 2) := dk_16 107 (dk_at dksX2_ownName_3 6 rfl rfl)
theorem dX2_ownName_77 : decode cX2_ownName 77 = .ok (.invokestatic 146, 3) := dk_184 0 146 (dk_at dksX2_ownName_3 8 rfl rfl)
theorem dX2_ownName_80 : decode cX2_ownName 80 = .ok (.lcmp, 1) := dk_148 (dk_at dksX2_ownName_3 11 rfl rfl)
theorem dX2_ownName_81 : decode cX2_ownName 81 = .ok (.ifCond .ne 5, 3) := dk_154 0 5 (dk_at dksX2_ownName_3 12 rfl rfl)
theorem dX2_ownName_84 : decode cX2_ownName 84 = .ok (.iconst 3, 1) := dk_6 (dk_at dksX2_ownName_3 15 rfl rfl)
theorem dX2_ownName_85 : decode cX2_ownName 85 = .ok (.ireturn, 1) := dk_172 (dk_at dksX2_ownName_3 16 rfl rfl)
theorem dX2_ownName_86 : decode cX2_ownName 86 = .ok (.aload_n 0, 1) := dk_42 (dk_at dksX2_ownName_3 17 rfl rfl)
theorem dX2_ownName_87 : decode cX2_ownName 87 = .ok (.getfield 138, 3) := dk_180 0 138 (dk_at dksX2_ownName_3 18 rfl rfl)
theorem dX2_ownName_90 : decode cX2_ownName 90 = .ok (.bipush 97, 2) := dk_16 97 (dk_at dksX2_ownName_3 21 rfl rfl)
theorem dX2_ownName_92 : decode cX2_ownName 92 = .ok (.bipush 117, 2) := dk_16 117 (dk_at dksX2_ownName_4 0 rfl rfl)
theorem dX2_ownName_94 : decode cX2_ownName 94 = .ok (.bipush 116, 2) := dk_16 116 (dk_at dksX2_ownName_4 2 rfl rfl)
theorem dX2_ownName_96 : decode cX2_ownName 96 = .ok (.bipush 104, 2) := dk_16 104 (dk_at dksX2_ownName_4 4 rfl rfl)
theorem dX2_ownName_98 : decode cX2_ownName 98 = .ok (.bipush 111, 2) := dk_16 111 (dk_at dksX2_ownName_4 6 rfl rfl)
theorem dX2_ownName_100 : decode cX2_ownName 100 = .ok (.bipush 114, 2) := dk_16 114 (dk_at dksX2_ownName_4 8 rfl rfl)
theorem dX2_ownName_102 : decode cX2_ownName 102 = .ok (.invokestatic 174, 3) := dk_184 0 174 (dk_at dksX2_ownName_4 10 rfl rfl)
theorem dX2_ownName_105 : decode cX2_ownName 105 = .ok (.lcmp, 1) := dk_148 (dk_at dksX2_ownName_4 13 rfl rfl)
theorem dX2_ownName_106 : decode cX2_ownName 106 = .ok (.ifCond .ne 5, 3) := dk_154 0 5 (dk_at dksX2_ownName_4 14 rfl rfl)
theorem dX2_ownName_109 : decode cX2_ownName 109 = .ok (.iconst 4, 1) := dk_7 (dk_at dksX2_ownName_4 17 rfl rfl)
theorem dX2_ownName_110 : decode cX2_ownName 110 = .ok (.ireturn, 1) := dk_172 (dk_at dksX2_ownName_4 18 rfl rfl)
theorem dX2_ownName_111 : decode cX2_ownName 111 = .ok (.aload_n 0, 1) := dk_42 (dk_at dksX2_ownName_4 19 rfl rfl)
theorem dX2_ownName_112 : decode cX2_ownName 112 = .ok (.getfield 138, 3) := dk_180 0 138 (dk_at dksX2_ownName_4 20 rfl rfl)
theorem dX2_ownName_115 : decode cX2_ownName 115 = .ok (.bipush 119, 2) := dk_16 119 (dk_at dksX2_ownName_5 0 rfl rfl)
theorem dX2_ownName_117 : decode cX2_ownName 117 = .ok (.bipush 101, 2) := dk_16 101 (dk_at dksX2_ownName_5 2 rfl rfl)
theorem dX2_ownName_119 : decode cX2_ownName 119 = .ok (.bipush 116, 2) := dk_16 116 (dk_at dksX2_ownName_5 4 rfl rfl)
theorem dX2_ownName_121 : decode cX2_ownName 121 = .ok (.invokestatic 142, 3) := dk_184 0 142 (dk_at dksX2_ownName_5 6 rfl rfl)
theorem dX2_ownName_124 : decode cX2_ownName 124 = .ok (.lcmp, 1) := dk_148 (dk_at dksX2_ownName_5 9 rfl rfl)
theorem dX2_ownName_125 : decode cX2_ownName 125 = .ok (.ifCond .ne 7, 3) := dk_154 0 7 (dk_at dksX2_ownName_5 10 rfl rfl)
theorem dX2_ownName_128 : decode cX2_ownName 128 = .ok (.iconst 5, 1) := dk_8 (dk_at dksX2_ownName_5 13 rfl rfl)
theorem dX2_ownName_129 : decode cX2_ownName 129 = .ok (.goto 56, 3) := dk_167 0 56 (dk_at dksX2_ownName_5 14 rfl rfl)
theorem dX2_ownName_132 : decode cX2_ownName 132 = .ok (.aload_n 0, 1) := dk_42 (dk_at dksX2_ownName_5 17 rfl rfl)
theorem dX2_ownName_133 : decode cX2_ownName 133 = .ok (.getfield 138, 3) := dk_180 0 138 (dk_at dksX2_ownName_5 18 rfl rfl)
theorem dX2_ownName_136 : decode cX2_ownName 136 = .ok (.bipush 114, 2) := dk_16 114 (dk_at dksX2_ownName_5 21 rfl rfl)
theorem dX2_ownName_138 : decode cX2_ownName 138 = .ok (.bipush 105, 2) := dk_16 105 (dk_at dksX2_ownName_6 0 rfl rfl)
theorem dX2_ownName_140 : decode cX2_ownName 140 = .ok (.bipush 103, 2) := dk_16 103 (dk_at dksX2_ownName_6 2 rfl rfl)
theorem dX2_ownName_142 : decode cX2_ownName 142 = .ok (.bipush 104, 2) := dk_16 104 (dk_at dksX2_ownName_6 4 rfl rfl)
theorem dX2_ownName_144 : decode cX2_ownName 144 = .ok (.bipush 116, 2) := dk_16 116 (dk_at dksX2_ownName_6 6 rfl rfl)
theorem dX2_ownName_146 : decode cX2_ownName 146 = .ok (.invokestatic 146, 3) := dk_184 0 146 (dk_at dksX2_ownName_6 8 rfl rfl)
theorem dX2_ownName_149 : decode cX2_ownName 149 = .ok (.lcmp, 1) := dk_148 (dk_at dksX2_ownName_6 11 rfl rfl)
theorem dX2_ownName_150 : decode cX2_ownName 150 = .ok (.ifCond .ne 8, 3) := dk_154 0 8 (dk_at dksX2_ownName_6 12 rfl rfl)
theorem dX2_ownName_153 : decode cX2_ownName 153 = .ok (.bipush 6, 2) := dk_16 6 (dk_at dksX2_ownName_6 15 rfl rfl)
theorem dX2_ownName_155 : decode cX2_ownName 155 = .ok (.goto 30, 3) := dk_167 0 30 (dk_at dksX2_ownName_6 17 rfl rfl)
theorem dX2_ownName_158 : decode cX2_ownName 158 = .ok (.aload_n 0, 1) := dk_42 (dk_at dksX2_ownName_6 20 rfl rfl)
theorem dX2_ownName_159 : decode cX2_ownName 159 = .ok (.getfield 138, 3) := dk_180 0 138 (dk_at dksX2_ownName_6 21 rfl rfl)
theorem dX2_ownName_162 : decode cX2_ownName 162 = .ok (.bipush 111, 2) := dk_16 111 (dk_at dksX2_ownName_7 0 rfl rfl)
theorem dX2_ownName_164 : decode cX2_ownName 164 = .ok (.bipush 116, 2) := dk_16 116 (dk_at dksX2_ownName_7 2 rfl rfl)
theorem dX2_ownName_166 : decode cX2_ownName 166 = .ok (.bipush 104, 2) := dk_16 104 (dk_at dksX2_ownName_7 4 rfl rfl)
theorem dX2_ownName_168 : decode cX2_ownName 168 = .ok (.bipush 101, 2) := dk_16 101 (dk_at dksX2_ownName_7 6 rfl rfl)
theorem dX2_ownName_170 : decode cX2_ownName 170 = .ok (.bipush 114, 2) := dk_16 114 (dk_at dksX2_ownName_7 8 rfl rfl)
theorem dX2_ownName_172 : decode cX2_ownName 172 = .ok (.invokestatic 146, 3) := dk_184 0 146 (dk_at dksX2_ownName_7 10 rfl rfl)
theorem dX2_ownName_175 : decode cX2_ownName 175 = .ok (.lcmp, 1) := dk_148 (dk_at dksX2_ownName_7 13 rfl rfl)
theorem dX2_ownName_176 : decode cX2_ownName 176 = .ok (.ifCond .ne 8, 3) := dk_154 0 8 (dk_at dksX2_ownName_7 14 rfl rfl)
theorem dX2_ownName_179 : decode cX2_ownName 179 = .ok (.bipush 7, 2) := dk_16 7 (dk_at dksX2_ownName_7 17 rfl rfl)
theorem dX2_ownName_181 : decode cX2_ownName 181 = .ok (.goto 4, 3) := dk_167 0 4 (dk_at dksX2_ownName_7 19 rfl rfl)
theorem dX2_ownName_184 : decode cX2_ownName 184 = .ok (.iconst (-1), 1) := dk_2 (dk_at dksX2_ownName_7 22 rfl rfl)
theorem dX2_ownName_185 : decode cX2_ownName 185 = .ok (.ireturn, 1) := dk_172 (dk_at dksX2_ownName_7 23 rfl rfl)
abbrev MX2_ownName : jjM := (yX2_ownName, cX2_ownName, 1, (Option.some Jvm.ClassFile.FieldType.int))
theorem npX2_ownName : yX2_ownName.cls ≠ "java/lang/invoke/MethodHandle" ∧ yX2_ownName.cls ≠ "java/lang/invoke/VarHandle" ∧ (parseMethodDescriptor yX2_ownName.desc).map (fun d => d.parameters.length) = some 0 := by decide +kernel
abbrev cX2_w6 : ByteArray := prog_17_method_25_code
def yX2_w6 : MethodName := ⟨RX2, "w6", "(IIIIII)J"⟩
def dkwX2_w6_0 : List UInt8 := [26, 27, 28, 29, 21, 4, 184, 0, 146, 16, 8, 121, 21, 5, 133, 129, 173]
abbrev dktX2_w6_0 : List UInt8 := dkwX2_w6_0 ++ []
theorem dksX2_w6_0 : cX2_w6.data.toList.drop 0 = dktX2_w6_0 := by decide +kernel
theorem dX2_w6_0 : decode cX2_w6 0 = .ok (.iload_n 0, 1) := dk_26 (dk_at dksX2_w6_0 0 rfl rfl)
theorem dX2_w6_1 : decode cX2_w6 1 = .ok (.iload_n 1, 1) := dk_27 (dk_at dksX2_w6_0 1 rfl rfl)
theorem dX2_w6_2 : decode cX2_w6 2 = .ok (.iload_n 2, 1) := dk_28 (dk_at dksX2_w6_0 2 rfl rfl)
theorem dX2_w6_3 : decode cX2_w6 3 = .ok (.iload_n 3, 1) := dk_29 (dk_at dksX2_w6_0 3 rfl rfl)
theorem dX2_w6_4 : decode cX2_w6 4 = .ok (.iload 4, 2) := dk_21 4 (dk_at dksX2_w6_0 4 rfl rfl)
theorem dX2_w6_6 : decode cX2_w6 6 = .ok (.invokestatic 146, 3) := dk_184 0 146 (dk_at dksX2_w6_0 6 rfl rfl)
theorem dX2_w6_9 : decode cX2_w6 9 = .ok (.bipush 8, 2) := dk_16 8 (dk_at dksX2_w6_0 9 rfl rfl)
theorem dX2_w6_11 : decode cX2_w6 11 = .ok (.lshl, 1) := dk_121 (dk_at dksX2_w6_0 11 rfl rfl)
theorem dX2_w6_12 : decode cX2_w6 12 = .ok (.iload 5, 2) := dk_21 5 (dk_at dksX2_w6_0 12 rfl rfl)
theorem dX2_w6_14 : decode cX2_w6 14 = .ok (.i2l, 1) := dk_133 (dk_at dksX2_w6_0 14 rfl rfl)
theorem dX2_w6_15 : decode cX2_w6 15 = .ok (.lor, 1) := dk_129 (dk_at dksX2_w6_0 15 rfl rfl)
theorem dX2_w6_16 : decode cX2_w6 16 = .ok (.lreturn, 1) := dk_173 (dk_at dksX2_w6_0 16 rfl rfl)
abbrev MX2_w6 : jjM := (yX2_w6, cX2_w6, 6, (Option.some Jvm.ClassFile.FieldType.long))
theorem npX2_w6 : yX2_w6.cls ≠ "java/lang/invoke/MethodHandle" ∧ yX2_w6.cls ≠ "java/lang/invoke/VarHandle" ∧ (parseMethodDescriptor yX2_w6.desc).map (fun d => d.parameters.length) = some 6 := by decide +kernel
abbrev cX2_isBarred : ByteArray := prog_17_method_33_code
def yX2_isBarred : MethodName := ⟨RX2, "isBarred", "(I)Z"⟩
def dkwX2_isBarred_1 : List UInt8 := [180, 0, 182, 4, 159, 0, 7, 4, 167, 0, 4, 3, 172]
abbrev dktX2_isBarred_1 : List UInt8 := dkwX2_isBarred_1 ++ []
def dkwX2_isBarred_0 : List UInt8 := [27, 8, 164, 0, 31, 27, 16, 12, 162, 0, 13, 42, 180, 0, 182, 153, 0, 18, 167, 0, 11, 42]
abbrev dktX2_isBarred_0 : List UInt8 := dkwX2_isBarred_0 ++ dktX2_isBarred_1
theorem dksX2_isBarred_0 : cX2_isBarred.data.toList.drop 0 = dktX2_isBarred_0 := by decide +kernel
theorem dksX2_isBarred_1 : cX2_isBarred.data.toList.drop 22 = dktX2_isBarred_1 := dk_seg dksX2_isBarred_0 22 rfl rfl
theorem dX2_isBarred_0 : decode cX2_isBarred 0 = .ok (.iload_n 1, 1) := dk_27 (dk_at dksX2_isBarred_0 0 rfl rfl)
theorem dX2_isBarred_1 : decode cX2_isBarred 1 = .ok (.iconst 5, 1) := dk_8 (dk_at dksX2_isBarred_0 1 rfl rfl)
theorem dX2_isBarred_2 : decode cX2_isBarred 2 = .ok (.if_icmp .le 31, 3) := dk_164 0 31 (dk_at dksX2_isBarred_0 2 rfl rfl)
theorem dX2_isBarred_5 : decode cX2_isBarred 5 = .ok (.iload_n 1, 1) := dk_27 (dk_at dksX2_isBarred_0 5 rfl rfl)
theorem dX2_isBarred_6 : decode cX2_isBarred 6 = .ok (.bipush 12, 2) := dk_16 12 (dk_at dksX2_isBarred_0 6 rfl rfl)
theorem dX2_isBarred_8 : decode cX2_isBarred 8 = .ok (.if_icmp .ge 13, 3) := dk_162 0 13 (dk_at dksX2_isBarred_0 8 rfl rfl)
theorem dX2_isBarred_11 : decode cX2_isBarred 11 = .ok (.aload_n 0, 1) := dk_42 (dk_at dksX2_isBarred_0 11 rfl rfl)
theorem dX2_isBarred_12 : decode cX2_isBarred 12 = .ok (.getfield 182, 3) := dk_180 0 182 (dk_at dksX2_isBarred_0 12 rfl rfl)
theorem dX2_isBarred_15 : decode cX2_isBarred 15 = .ok (.ifCond .eq 18, 3) := dk_153 0 18 (dk_at dksX2_isBarred_0 15 rfl rfl)
theorem dX2_isBarred_18 : decode cX2_isBarred 18 = .ok (.goto 11, 3) := dk_167 0 11 (dk_at dksX2_isBarred_0 18 rfl rfl)
theorem dX2_isBarred_21 : decode cX2_isBarred 21 = .ok (.aload_n 0, 1) := dk_42 (dk_at dksX2_isBarred_0 21 rfl rfl)
theorem dX2_isBarred_22 : decode cX2_isBarred 22 = .ok (.getfield 182, 3) := dk_180 0 182 (dk_at dksX2_isBarred_1 0 rfl rfl)
theorem dX2_isBarred_25 : decode cX2_isBarred 25 = .ok (.iconst 1, 1) := dk_4 (dk_at dksX2_isBarred_1 3 rfl rfl)
theorem dX2_isBarred_26 : decode cX2_isBarred 26 = .ok (.if_icmp .eq 7, 3) := dk_159 0 7 (dk_at dksX2_isBarred_1 4 rfl rfl)
theorem dX2_isBarred_29 : decode cX2_isBarred 29 = .ok (.iconst 1, 1) := dk_4 (dk_at dksX2_isBarred_1 7 rfl rfl)
theorem dX2_isBarred_30 : decode cX2_isBarred 30 = .ok (.goto 4, 3) := dk_167 0 4 (dk_at dksX2_isBarred_1 8 rfl rfl)
theorem dX2_isBarred_33 : decode cX2_isBarred 33 = .ok (.iconst 0, 1) := dk_3 (dk_at dksX2_isBarred_1 11 rfl rfl)
theorem dX2_isBarred_34 : decode cX2_isBarred 34 = .ok (.ireturn, 1) := dk_172 (dk_at dksX2_isBarred_1 12 rfl rfl)
abbrev MX2_isBarred : jjM := (yX2_isBarred, cX2_isBarred, 2, (Option.some Jvm.ClassFile.FieldType.boolean))
theorem npX2_isBarred : yX2_isBarred.cls ≠ "java/lang/invoke/MethodHandle" ∧ yX2_isBarred.cls ≠ "java/lang/invoke/VarHandle" ∧ (parseMethodDescriptor yX2_isBarred.desc).map (fun d => d.parameters.length) = some 1 := by decide +kernel
abbrev cX2_compareOf : ByteArray := prog_17_method_39_code
def yX2_compareOf : MethodName := ⟨RX2, "compareOf", "()I"⟩
def dkwX2_compareOf_3 : List UInt8 := [180, 0, 125, 16, 35, 160, 0, 8, 16, 15, 167, 0, 4, 2, 172]
abbrev dktX2_compareOf_3 : List UInt8 := dkwX2_compareOf_3 ++ []
def dkwX2_compareOf_2 : List UInt8 := [160, 0, 8, 16, 13, 167, 0, 32, 42, 180, 0, 125, 16, 61, 160, 0, 8, 16, 14, 167, 0, 18, 42]
abbrev dktX2_compareOf_2 : List UInt8 := dkwX2_compareOf_2 ++ dktX2_compareOf_3
def dkwX2_compareOf_1 : List UInt8 := [167, 0, 59, 42, 180, 0, 125, 16, 62, 160, 0, 8, 16, 12, 167, 0, 45, 42, 180, 0, 125, 8]
abbrev dktX2_compareOf_1 : List UInt8 := dkwX2_compareOf_1 ++ dktX2_compareOf_2
def dkwX2_compareOf_0 : List UInt8 := [42, 180, 0, 125, 16, 60, 160, 0, 8, 16, 10, 167, 0, 72, 42, 180, 0, 125, 7, 160, 0, 8, 16, 11]
abbrev dktX2_compareOf_0 : List UInt8 := dkwX2_compareOf_0 ++ dktX2_compareOf_1
theorem dksX2_compareOf_0 : cX2_compareOf.data.toList.drop 0 = dktX2_compareOf_0 := by decide +kernel
theorem dksX2_compareOf_1 : cX2_compareOf.data.toList.drop 24 = dktX2_compareOf_1 := dk_seg dksX2_compareOf_0 24 rfl rfl
theorem dksX2_compareOf_2 : cX2_compareOf.data.toList.drop 46 = dktX2_compareOf_2 := dk_seg dksX2_compareOf_1 22 rfl rfl
theorem dksX2_compareOf_3 : cX2_compareOf.data.toList.drop 69 = dktX2_compareOf_3 := dk_seg dksX2_compareOf_2 23 rfl rfl
theorem dX2_compareOf_0 : decode cX2_compareOf 0 = .ok (.aload_n 0, 1) := dk_42 (dk_at dksX2_compareOf_0 0 rfl rfl)
theorem dX2_compareOf_1 : decode cX2_compareOf 1 = .ok (.getfield 125, 3) := dk_180 0 125 (dk_at dksX2_compareOf_0 1 rfl rfl)
theorem dX2_compareOf_4 : decode cX2_compareOf 4 = .ok (.bipush 60, 2) := dk_16 60 (dk_at dksX2_compareOf_0 4 rfl rfl)
theorem dX2_compareOf_6 : decode cX2_compareOf 6 = .ok (.if_icmp .ne 8, 3) := dk_160 0 8 (dk_at dksX2_compareOf_0 6 rfl rfl)
theorem dX2_compareOf_9 : decode cX2_compareOf 9 = .ok (.bipush 10, 2) := dk_16 10 (dk_at dksX2_compareOf_0 9 rfl rfl)
theorem dX2_compareOf_11 : decode cX2_compareOf 11 = .ok (.goto 72, 3) := dk_167 0 72 (dk_at dksX2_compareOf_0 11 rfl rfl)
theorem dX2_compareOf_14 : decode cX2_compareOf 14 = .ok (.aload_n 0, 1) := dk_42 (dk_at dksX2_compareOf_0 14 rfl rfl)
theorem dX2_compareOf_15 : decode cX2_compareOf 15 = .ok (.getfield 125, 3) := dk_180 0 125 (dk_at dksX2_compareOf_0 15 rfl rfl)
theorem dX2_compareOf_18 : decode cX2_compareOf 18 = .ok (.iconst 4, 1) := dk_7 (dk_at dksX2_compareOf_0 18 rfl rfl)
theorem dX2_compareOf_19 : decode cX2_compareOf 19 = .ok (.if_icmp .ne 8, 3) := dk_160 0 8 (dk_at dksX2_compareOf_0 19 rfl rfl)
theorem dX2_compareOf_22 : decode cX2_compareOf 22 = .ok (.bipush 11, 2) := dk_16 11 (dk_at dksX2_compareOf_0 22 rfl rfl)
theorem dX2_compareOf_24 : decode cX2_compareOf 24 = .ok (.goto 59, 3) := dk_167 0 59 (dk_at dksX2_compareOf_1 0 rfl rfl)
theorem dX2_compareOf_27 : decode cX2_compareOf 27 = .ok (.aload_n 0, 1) := dk_42 (dk_at dksX2_compareOf_1 3 rfl rfl)
theorem dX2_compareOf_28 : decode cX2_compareOf 28 = .ok (.getfield 125, 3) := dk_180 0 125 (dk_at dksX2_compareOf_1 4 rfl rfl)
theorem dX2_compareOf_31 : decode cX2_compareOf 31 = .ok (.bipush 62, 2) := dk_16 62 (dk_at dksX2_compareOf_1 7 rfl rfl)
theorem dX2_compareOf_33 : decode cX2_compareOf 33 = .ok (.if_icmp .ne 8, 3) := dk_160 0 8 (dk_at dksX2_compareOf_1 9 rfl rfl)
theorem dX2_compareOf_36 : decode cX2_compareOf 36 = .ok (.bipush 12, 2) := dk_16 12 (dk_at dksX2_compareOf_1 12 rfl rfl)
theorem dX2_compareOf_38 : decode cX2_compareOf 38 = .ok (.goto 45, 3) := dk_167 0 45 (dk_at dksX2_compareOf_1 14 rfl rfl)
theorem dX2_compareOf_41 : decode cX2_compareOf 41 = .ok (.aload_n 0, 1) := dk_42 (dk_at dksX2_compareOf_1 17 rfl rfl)
theorem dX2_compareOf_42 : decode cX2_compareOf 42 = .ok (.getfield 125, 3) := dk_180 0 125 (dk_at dksX2_compareOf_1 18 rfl rfl)
theorem dX2_compareOf_45 : decode cX2_compareOf 45 = .ok (.iconst 5, 1) := dk_8 (dk_at dksX2_compareOf_1 21 rfl rfl)
theorem dX2_compareOf_46 : decode cX2_compareOf 46 = .ok (.if_icmp .ne 8, 3) := dk_160 0 8 (dk_at dksX2_compareOf_2 0 rfl rfl)
theorem dX2_compareOf_49 : decode cX2_compareOf 49 = .ok (.bipush 13, 2) := dk_16 13 (dk_at dksX2_compareOf_2 3 rfl rfl)
theorem dX2_compareOf_51 : decode cX2_compareOf 51 = .ok (.goto 32, 3) := dk_167 0 32 (dk_at dksX2_compareOf_2 5 rfl rfl)
theorem dX2_compareOf_54 : decode cX2_compareOf 54 = .ok (.aload_n 0, 1) := dk_42 (dk_at dksX2_compareOf_2 8 rfl rfl)
theorem dX2_compareOf_55 : decode cX2_compareOf 55 = .ok (.getfield 125, 3) := dk_180 0 125 (dk_at dksX2_compareOf_2 9 rfl rfl)
theorem dX2_compareOf_58 : decode cX2_compareOf 58 = .ok (.bipush 61, 2) := dk_16 61 (dk_at dksX2_compareOf_2 12 rfl rfl)
theorem dX2_compareOf_60 : decode cX2_compareOf 60 = .ok (.if_icmp .ne 8, 3) := dk_160 0 8 (dk_at dksX2_compareOf_2 14 rfl rfl)
theorem dX2_compareOf_63 : decode cX2_compareOf 63 = .ok (.bipush 14, 2) := dk_16 14 (dk_at dksX2_compareOf_2 17 rfl rfl)
theorem dX2_compareOf_65 : decode cX2_compareOf 65 = .ok (.goto 18, 3) := dk_167 0 18 (dk_at dksX2_compareOf_2 19 rfl rfl)
theorem dX2_compareOf_68 : decode cX2_compareOf 68 = .ok (.aload_n 0, 1) := dk_42 (dk_at dksX2_compareOf_2 22 rfl rfl)
theorem dX2_compareOf_69 : decode cX2_compareOf 69 = .ok (.getfield 125, 3) := dk_180 0 125 (dk_at dksX2_compareOf_3 0 rfl rfl)
theorem dX2_compareOf_72 : decode cX2_compareOf 72 = .ok (.bipush 35, 2) := dk_16 35 (dk_at dksX2_compareOf_3 3 rfl rfl)
theorem dX2_compareOf_74 : decode cX2_compareOf 74 = .ok (.if_icmp .ne 8, 3) := dk_160 0 8 (dk_at dksX2_compareOf_3 5 rfl rfl)
theorem dX2_compareOf_77 : decode cX2_compareOf 77 = .ok (.bipush 15, 2) := dk_16 15 (dk_at dksX2_compareOf_3 8 rfl rfl)
theorem dX2_compareOf_79 : decode cX2_compareOf 79 = .ok (.goto 4, 3) := dk_167 0 4 (dk_at dksX2_compareOf_3 10 rfl rfl)
theorem dX2_compareOf_82 : decode cX2_compareOf 82 = .ok (.iconst (-1), 1) := dk_2 (dk_at dksX2_compareOf_3 13 rfl rfl)
theorem dX2_compareOf_83 : decode cX2_compareOf 83 = .ok (.ireturn, 1) := dk_172 (dk_at dksX2_compareOf_3 14 rfl rfl)
abbrev MX2_compareOf : jjM := (yX2_compareOf, cX2_compareOf, 1, (Option.some Jvm.ClassFile.FieldType.int))
theorem npX2_compareOf : yX2_compareOf.cls ≠ "java/lang/invoke/MethodHandle" ∧ yX2_compareOf.cls ≠ "java/lang/invoke/VarHandle" ∧ (parseMethodDescriptor yX2_compareOf.desc).map (fun d => d.parameters.length) = some 0 := by decide +kernel
abbrev cX2_sumClause : ByteArray := prog_17_method_47_code
def yX2_sumClause : MethodName := ⟨RX2, "sumClause", "(II)I"⟩
def dkwX2_sumClause_1 : List UInt8 := [42, 182, 0, 238, 62, 42, 180, 0, 16, 28, 6, 96, 42, 180, 0, 153, 79, 29, 172]
abbrev dktX2_sumClause_1 : List UInt8 := dkwX2_sumClause_1 ++ []
def dkwX2_sumClause_0 : List UInt8 := [42, 180, 0, 16, 28, 5, 96, 42, 180, 0, 153, 79, 27, 5, 160, 0, 10, 42, 182, 0, 220, 167, 0, 7]
abbrev dktX2_sumClause_0 : List UInt8 := dkwX2_sumClause_0 ++ dktX2_sumClause_1
theorem dksX2_sumClause_0 : cX2_sumClause.data.toList.drop 0 = dktX2_sumClause_0 := by decide +kernel
theorem dksX2_sumClause_1 : cX2_sumClause.data.toList.drop 24 = dktX2_sumClause_1 := dk_seg dksX2_sumClause_0 24 rfl rfl
theorem dX2_sumClause_0 : decode cX2_sumClause 0 = .ok (.aload_n 0, 1) := dk_42 (dk_at dksX2_sumClause_0 0 rfl rfl)
theorem dX2_sumClause_1 : decode cX2_sumClause 1 = .ok (.getfield 16, 3) := dk_180 0 16 (dk_at dksX2_sumClause_0 1 rfl rfl)
theorem dX2_sumClause_4 : decode cX2_sumClause 4 = .ok (.iload_n 2, 1) := dk_28 (dk_at dksX2_sumClause_0 4 rfl rfl)
theorem dX2_sumClause_5 : decode cX2_sumClause 5 = .ok (.iconst 2, 1) := dk_5 (dk_at dksX2_sumClause_0 5 rfl rfl)
theorem dX2_sumClause_6 : decode cX2_sumClause 6 = .ok (.iadd, 1) := dk_96 (dk_at dksX2_sumClause_0 6 rfl rfl)
theorem dX2_sumClause_7 : decode cX2_sumClause 7 = .ok (.aload_n 0, 1) := dk_42 (dk_at dksX2_sumClause_0 7 rfl rfl)
theorem dX2_sumClause_8 : decode cX2_sumClause 8 = .ok (.getfield 153, 3) := dk_180 0 153 (dk_at dksX2_sumClause_0 8 rfl rfl)
theorem dX2_sumClause_11 : decode cX2_sumClause 11 = .ok (.iastore, 1) := dk_79 (dk_at dksX2_sumClause_0 11 rfl rfl)
theorem dX2_sumClause_12 : decode cX2_sumClause 12 = .ok (.iload_n 1, 1) := dk_27 (dk_at dksX2_sumClause_0 12 rfl rfl)
theorem dX2_sumClause_13 : decode cX2_sumClause 13 = .ok (.iconst 2, 1) := dk_5 (dk_at dksX2_sumClause_0 13 rfl rfl)
theorem dX2_sumClause_14 : decode cX2_sumClause 14 = .ok (.if_icmp .ne 10, 3) := dk_160 0 10 (dk_at dksX2_sumClause_0 14 rfl rfl)
theorem dX2_sumClause_17 : decode cX2_sumClause 17 = .ok (.aload_n 0, 1) := dk_42 (dk_at dksX2_sumClause_0 17 rfl rfl)
theorem dX2_sumClause_18 : decode cX2_sumClause 18 = .ok (.invokevirtual 220, 3) := dk_182 0 220 (dk_at dksX2_sumClause_0 18 rfl rfl)
theorem dX2_sumClause_21 : decode cX2_sumClause 21 = .ok (.goto 7, 3) := dk_167 0 7 (dk_at dksX2_sumClause_0 21 rfl rfl)
theorem dX2_sumClause_24 : decode cX2_sumClause 24 = .ok (.aload_n 0, 1) := dk_42 (dk_at dksX2_sumClause_1 0 rfl rfl)
theorem dX2_sumClause_25 : decode cX2_sumClause 25 = .ok (.invokevirtual 238, 3) := dk_182 0 238 (dk_at dksX2_sumClause_1 1 rfl rfl)
theorem dX2_sumClause_28 : decode cX2_sumClause 28 = .ok (.istore_n 3, 1) := dk_62 (dk_at dksX2_sumClause_1 4 rfl rfl)
theorem dX2_sumClause_29 : decode cX2_sumClause 29 = .ok (.aload_n 0, 1) := dk_42 (dk_at dksX2_sumClause_1 5 rfl rfl)
theorem dX2_sumClause_30 : decode cX2_sumClause 30 = .ok (.getfield 16, 3) := dk_180 0 16 (dk_at dksX2_sumClause_1 6 rfl rfl)
theorem dX2_sumClause_33 : decode cX2_sumClause 33 = .ok (.iload_n 2, 1) := dk_28 (dk_at dksX2_sumClause_1 9 rfl rfl)
theorem dX2_sumClause_34 : decode cX2_sumClause 34 = .ok (.iconst 3, 1) := dk_6 (dk_at dksX2_sumClause_1 10 rfl rfl)
theorem dX2_sumClause_35 : decode cX2_sumClause 35 = .ok (.iadd, 1) := dk_96 (dk_at dksX2_sumClause_1 11 rfl rfl)
theorem dX2_sumClause_36 : decode cX2_sumClause 36 = .ok (.aload_n 0, 1) := dk_42 (dk_at dksX2_sumClause_1 12 rfl rfl)
theorem dX2_sumClause_37 : decode cX2_sumClause 37 = .ok (.getfield 153, 3) := dk_180 0 153 (dk_at dksX2_sumClause_1 13 rfl rfl)
theorem dX2_sumClause_40 : decode cX2_sumClause 40 = .ok (.iastore, 1) := dk_79 (dk_at dksX2_sumClause_1 16 rfl rfl)
theorem dX2_sumClause_41 : decode cX2_sumClause 41 = .ok (.iload_n 3, 1) := dk_29 (dk_at dksX2_sumClause_1 17 rfl rfl)
theorem dX2_sumClause_42 : decode cX2_sumClause 42 = .ok (.ireturn, 1) := dk_172 (dk_at dksX2_sumClause_1 18 rfl rfl)
abbrev MX2_sumClause : jjM := (yX2_sumClause, cX2_sumClause, 4, (Option.some Jvm.ClassFile.FieldType.int))
theorem npX2_sumClause : yX2_sumClause.cls ≠ "java/lang/invoke/MethodHandle" ∧ yX2_sumClause.cls ≠ "java/lang/invoke/VarHandle" ∧ (parseMethodDescriptor yX2_sumClause.desc).map (fun d => d.parameters.length) = some 2 := by decide +kernel
abbrev cX2_worded : ByteArray := prog_17_method_44_code
def yX2_worded : MethodName := ⟨RX2, "worded", "(IIII)I"⟩
def dkwX2_worded_1 : List UInt8 := [172, 42, 182, 0, 185, 42, 29, 3, 21, 4, 182, 0, 231, 172]
abbrev dktX2_worded_1 : List UInt8 := dkwX2_worded_1 ++ []
def dkwX2_worded_0 : List UInt8 := [42, 180, 0, 125, 5, 160, 0, 18, 42, 180, 0, 138, 27, 16, 8, 120, 28, 128, 133, 148, 153, 0, 5, 4]
abbrev dktX2_worded_0 : List UInt8 := dkwX2_worded_0 ++ dktX2_worded_1
theorem dksX2_worded_0 : cX2_worded.data.toList.drop 0 = dktX2_worded_0 := by decide +kernel
theorem dksX2_worded_1 : cX2_worded.data.toList.drop 24 = dktX2_worded_1 := dk_seg dksX2_worded_0 24 rfl rfl
theorem dX2_worded_0 : decode cX2_worded 0 = .ok (.aload_n 0, 1) := dk_42 (dk_at dksX2_worded_0 0 rfl rfl)
theorem dX2_worded_1 : decode cX2_worded 1 = .ok (.getfield 125, 3) := dk_180 0 125 (dk_at dksX2_worded_0 1 rfl rfl)
theorem dX2_worded_4 : decode cX2_worded 4 = .ok (.iconst 2, 1) := dk_5 (dk_at dksX2_worded_0 4 rfl rfl)
theorem dX2_worded_5 : decode cX2_worded 5 = .ok (.if_icmp .ne 18, 3) := dk_160 0 18 (dk_at dksX2_worded_0 5 rfl rfl)
theorem dX2_worded_8 : decode cX2_worded 8 = .ok (.aload_n 0, 1) := dk_42 (dk_at dksX2_worded_0 8 rfl rfl)
theorem dX2_worded_9 : decode cX2_worded 9 = .ok (.getfield 138, 3) := dk_180 0 138 (dk_at dksX2_worded_0 9 rfl rfl)
theorem dX2_worded_12 : decode cX2_worded 12 = .ok (.iload_n 1, 1) := dk_27 (dk_at dksX2_worded_0 12 rfl rfl)
theorem dX2_worded_13 : decode cX2_worded 13 = .ok (.bipush 8, 2) := dk_16 8 (dk_at dksX2_worded_0 13 rfl rfl)
theorem dX2_worded_15 : decode cX2_worded 15 = .ok (.ishl, 1) := dk_120 (dk_at dksX2_worded_0 15 rfl rfl)
theorem dX2_worded_16 : decode cX2_worded 16 = .ok (.iload_n 2, 1) := dk_28 (dk_at dksX2_worded_0 16 rfl rfl)
theorem dX2_worded_17 : decode cX2_worded 17 = .ok (.ior, 1) := dk_128 (dk_at dksX2_worded_0 17 rfl rfl)
theorem dX2_worded_18 : decode cX2_worded 18 = .ok (.i2l, 1) := dk_133 (dk_at dksX2_worded_0 18 rfl rfl)
theorem dX2_worded_19 : decode cX2_worded 19 = .ok (.lcmp, 1) := dk_148 (dk_at dksX2_worded_0 19 rfl rfl)
theorem dX2_worded_20 : decode cX2_worded 20 = .ok (.ifCond .eq 5, 3) := dk_153 0 5 (dk_at dksX2_worded_0 20 rfl rfl)
theorem dX2_worded_23 : decode cX2_worded 23 = .ok (.iconst 1, 1) := dk_4 (dk_at dksX2_worded_0 23 rfl rfl)
theorem dX2_worded_24 : decode cX2_worded 24 = .ok (.ireturn, 1) := dk_172 (dk_at dksX2_worded_1 0 rfl rfl)
theorem dX2_worded_25 : decode cX2_worded 25 = .ok (.aload_n 0, 1) := dk_42 (dk_at dksX2_worded_1 1 rfl rfl)
theorem dX2_worded_26 : decode cX2_worded 26 = .ok (.invokevirtual 185, 3) := dk_182 0 185 (dk_at dksX2_worded_1 2 rfl rfl)
theorem dX2_worded_29 : decode cX2_worded 29 = .ok (.aload_n 0, 1) := dk_42 (dk_at dksX2_worded_1 5 rfl rfl)
theorem dX2_worded_30 : decode cX2_worded 30 = .ok (.iload_n 3, 1) := dk_29 (dk_at dksX2_worded_1 6 rfl rfl)
theorem dX2_worded_31 : decode cX2_worded 31 = .ok (.iconst 0, 1) := dk_3 (dk_at dksX2_worded_1 7 rfl rfl)
theorem dX2_worded_32 : decode cX2_worded 32 = .ok (.iload 4, 2) := dk_21 4 (dk_at dksX2_worded_1 8 rfl rfl)
theorem dX2_worded_34 : decode cX2_worded 34 = .ok (.invokevirtual 231, 3) := dk_182 0 231 (dk_at dksX2_worded_1 10 rfl rfl)
theorem dX2_worded_37 : decode cX2_worded 37 = .ok (.ireturn, 1) := dk_172 (dk_at dksX2_worded_1 13 rfl rfl)
abbrev MX2_worded : jjM := (yX2_worded, cX2_worded, 5, (Option.some Jvm.ClassFile.FieldType.int))
theorem npX2_worded : yX2_worded.cls ≠ "java/lang/invoke/MethodHandle" ∧ yX2_worded.cls ≠ "java/lang/invoke/VarHandle" ∧ (parseMethodDescriptor yX2_worded.desc).map (fun d => d.parameters.length) = some 4 := by decide +kernel
abbrev cX2_putClause : ByteArray := prog_17_method_48_code
def yX2_putClause : MethodName := ⟨RX2, "putClause", "(I)I"⟩
def dkwX2_putClause_2 : List UInt8 := [182, 0, 241, 172]
abbrev dktX2_putClause_2 : List UInt8 := dkwX2_putClause_2 ++ []
def dkwX2_putClause_1 : List UInt8 := [182, 0, 241, 61, 28, 153, 0, 7, 28, 167, 0, 16, 42, 16, 97, 16, 116, 27, 6, 96, 16, 9]
abbrev dktX2_putClause_1 : List UInt8 := dkwX2_putClause_1 ++ dktX2_putClause_2
def dkwX2_putClause_0 : List UInt8 := [42, 27, 4, 96, 3, 16, 9, 182, 0, 231, 61, 28, 154, 0, 16, 42, 16, 111, 16, 110, 27, 5, 96, 5]
abbrev dktX2_putClause_0 : List UInt8 := dkwX2_putClause_0 ++ dktX2_putClause_1
theorem dksX2_putClause_0 : cX2_putClause.data.toList.drop 0 = dktX2_putClause_0 := by decide +kernel
theorem dksX2_putClause_1 : cX2_putClause.data.toList.drop 24 = dktX2_putClause_1 := dk_seg dksX2_putClause_0 24 rfl rfl
theorem dksX2_putClause_2 : cX2_putClause.data.toList.drop 46 = dktX2_putClause_2 := dk_seg dksX2_putClause_1 22 rfl rfl
theorem dX2_putClause_0 : decode cX2_putClause 0 = .ok (.aload_n 0, 1) := dk_42 (dk_at dksX2_putClause_0 0 rfl rfl)
theorem dX2_putClause_1 : decode cX2_putClause 1 = .ok (.iload_n 1, 1) := dk_27 (dk_at dksX2_putClause_0 1 rfl rfl)
theorem dX2_putClause_2 : decode cX2_putClause 2 = .ok (.iconst 1, 1) := dk_4 (dk_at dksX2_putClause_0 2 rfl rfl)
theorem dX2_putClause_3 : decode cX2_putClause 3 = .ok (.iadd, 1) := dk_96 (dk_at dksX2_putClause_0 3 rfl rfl)
theorem dX2_putClause_4 : decode cX2_putClause 4 = .ok (.iconst 0, 1) := dk_3 (dk_at dksX2_putClause_0 4 rfl rfl)
theorem dX2_putClause_5 : decode cX2_putClause 5 = .ok (.bipush 9, 2) := dk_16 9 (dk_at dksX2_putClause_0 5 rfl rfl)
theorem dX2_putClause_7 : decode cX2_putClause 7 = .ok (.invokevirtual 231, 3) := dk_182 0 231 (dk_at dksX2_putClause_0 7 rfl rfl)
theorem dX2_putClause_10 : decode cX2_putClause 10 = .ok (.istore_n 2, 1) := dk_61 (dk_at dksX2_putClause_0 10 rfl rfl)
theorem dX2_putClause_11 : decode cX2_putClause 11 = .ok (.iload_n 2, 1) := dk_28 (dk_at dksX2_putClause_0 11 rfl rfl)
theorem dX2_putClause_12 : decode cX2_putClause 12 = .ok (.ifCond .ne 16, 3) := dk_154 0 16 (dk_at dksX2_putClause_0 12 rfl rfl)
theorem dX2_putClause_15 : decode cX2_putClause 15 = .ok (.aload_n 0, 1) := dk_42 (dk_at dksX2_putClause_0 15 rfl rfl)
theorem dX2_putClause_16 : decode cX2_putClause 16 = .ok (.bipush 111, 2) := dk_16 111 (dk_at dksX2_putClause_0 16 rfl rfl)
theorem dX2_putClause_18 : decode cX2_putClause 18 = .ok (.bipush 110, 2) := dk_16 110 (dk_at dksX2_putClause_0 18 rfl rfl)
theorem dX2_putClause_20 : decode cX2_putClause 20 = .ok (.iload_n 1, 1) := dk_27 (dk_at dksX2_putClause_0 20 rfl rfl)
theorem dX2_putClause_21 : decode cX2_putClause 21 = .ok (.iconst 2, 1) := dk_5 (dk_at dksX2_putClause_0 21 rfl rfl)
theorem dX2_putClause_22 : decode cX2_putClause 22 = .ok (.iadd, 1) := dk_96 (dk_at dksX2_putClause_0 22 rfl rfl)
theorem dX2_putClause_23 : decode cX2_putClause 23 = .ok (.iconst 2, 1) := dk_5 (dk_at dksX2_putClause_0 23 rfl rfl)
theorem dX2_putClause_24 : decode cX2_putClause 24 = .ok (.invokevirtual 241, 3) := dk_182 0 241 (dk_at dksX2_putClause_1 0 rfl rfl)
theorem dX2_putClause_27 : decode cX2_putClause 27 = .ok (.istore_n 2, 1) := dk_61 (dk_at dksX2_putClause_1 3 rfl rfl)
theorem dX2_putClause_28 : decode cX2_putClause 28 = .ok (.iload_n 2, 1) := dk_28 (dk_at dksX2_putClause_1 4 rfl rfl)
theorem dX2_putClause_29 : decode cX2_putClause 29 = .ok (.ifCond .eq 7, 3) := dk_153 0 7 (dk_at dksX2_putClause_1 5 rfl rfl)
theorem dX2_putClause_32 : decode cX2_putClause 32 = .ok (.iload_n 2, 1) := dk_28 (dk_at dksX2_putClause_1 8 rfl rfl)
theorem dX2_putClause_33 : decode cX2_putClause 33 = .ok (.goto 16, 3) := dk_167 0 16 (dk_at dksX2_putClause_1 9 rfl rfl)
theorem dX2_putClause_36 : decode cX2_putClause 36 = .ok (.aload_n 0, 1) := dk_42 (dk_at dksX2_putClause_1 12 rfl rfl)
theorem dX2_putClause_37 : decode cX2_putClause 37 = .ok (.bipush 97, 2) := dk_16 97 (dk_at dksX2_putClause_1 13 rfl rfl)
theorem dX2_putClause_39 : decode cX2_putClause 39 = .ok (.bipush 116, 2) := dk_16 116 (dk_at dksX2_putClause_1 15 rfl rfl)
theorem dX2_putClause_41 : decode cX2_putClause 41 = .ok (.iload_n 1, 1) := dk_27 (dk_at dksX2_putClause_1 17 rfl rfl)
theorem dX2_putClause_42 : decode cX2_putClause 42 = .ok (.iconst 3, 1) := dk_6 (dk_at dksX2_putClause_1 18 rfl rfl)
theorem dX2_putClause_43 : decode cX2_putClause 43 = .ok (.iadd, 1) := dk_96 (dk_at dksX2_putClause_1 19 rfl rfl)
theorem dX2_putClause_44 : decode cX2_putClause 44 = .ok (.bipush 9, 2) := dk_16 9 (dk_at dksX2_putClause_1 20 rfl rfl)
theorem dX2_putClause_46 : decode cX2_putClause 46 = .ok (.invokevirtual 241, 3) := dk_182 0 241 (dk_at dksX2_putClause_2 0 rfl rfl)
theorem dX2_putClause_49 : decode cX2_putClause 49 = .ok (.ireturn, 1) := dk_172 (dk_at dksX2_putClause_2 3 rfl rfl)
abbrev MX2_putClause : jjM := (yX2_putClause, cX2_putClause, 3, (Option.some Jvm.ClassFile.FieldType.int))
theorem npX2_putClause : yX2_putClause.cls ≠ "java/lang/invoke/MethodHandle" ∧ yX2_putClause.cls ≠ "java/lang/invoke/VarHandle" ∧ (parseMethodDescriptor yX2_putClause.desc).map (fun d => d.parameters.length) = some 1 := by decide +kernel
abbrev cX2_fault : ByteArray := prog_17_method_53_code
def yX2_fault : MethodName := ⟨RX2, "fault", "(I)I"⟩
def dkwX2_fault_1 : List UInt8 := [172]
abbrev dktX2_fault_1 : List UInt8 := dkwX2_fault_1 ++ []
def dkwX2_fault_0 : List UInt8 := [27, 154, 0, 10, 42, 180, 0, 22, 167, 0, 16, 27, 4, 160, 0, 10, 42, 180, 0, 26, 167, 0, 4, 2]
abbrev dktX2_fault_0 : List UInt8 := dkwX2_fault_0 ++ dktX2_fault_1
theorem dksX2_fault_0 : cX2_fault.data.toList.drop 0 = dktX2_fault_0 := by decide +kernel
theorem dksX2_fault_1 : cX2_fault.data.toList.drop 24 = dktX2_fault_1 := dk_seg dksX2_fault_0 24 rfl rfl
theorem dX2_fault_0 : decode cX2_fault 0 = .ok (.iload_n 1, 1) := dk_27 (dk_at dksX2_fault_0 0 rfl rfl)
theorem dX2_fault_1 : decode cX2_fault 1 = .ok (.ifCond .ne 10, 3) := dk_154 0 10 (dk_at dksX2_fault_0 1 rfl rfl)
theorem dX2_fault_4 : decode cX2_fault 4 = .ok (.aload_n 0, 1) := dk_42 (dk_at dksX2_fault_0 4 rfl rfl)
theorem dX2_fault_5 : decode cX2_fault 5 = .ok (.getfield 22, 3) := dk_180 0 22 (dk_at dksX2_fault_0 5 rfl rfl)
theorem dX2_fault_8 : decode cX2_fault 8 = .ok (.goto 16, 3) := dk_167 0 16 (dk_at dksX2_fault_0 8 rfl rfl)
theorem dX2_fault_11 : decode cX2_fault 11 = .ok (.iload_n 1, 1) := dk_27 (dk_at dksX2_fault_0 11 rfl rfl)
theorem dX2_fault_12 : decode cX2_fault 12 = .ok (.iconst 1, 1) := dk_4 (dk_at dksX2_fault_0 12 rfl rfl)
theorem dX2_fault_13 : decode cX2_fault 13 = .ok (.if_icmp .ne 10, 3) := dk_160 0 10 (dk_at dksX2_fault_0 13 rfl rfl)
theorem dX2_fault_16 : decode cX2_fault 16 = .ok (.aload_n 0, 1) := dk_42 (dk_at dksX2_fault_0 16 rfl rfl)
theorem dX2_fault_17 : decode cX2_fault 17 = .ok (.getfield 26, 3) := dk_180 0 26 (dk_at dksX2_fault_0 17 rfl rfl)
theorem dX2_fault_20 : decode cX2_fault 20 = .ok (.goto 4, 3) := dk_167 0 4 (dk_at dksX2_fault_0 20 rfl rfl)
theorem dX2_fault_23 : decode cX2_fault 23 = .ok (.iconst (-1), 1) := dk_2 (dk_at dksX2_fault_0 23 rfl rfl)
theorem dX2_fault_24 : decode cX2_fault 24 = .ok (.ireturn, 1) := dk_172 (dk_at dksX2_fault_1 0 rfl rfl)
abbrev MX2_fault : jjM := (yX2_fault, cX2_fault, 2, (Option.some Jvm.ClassFile.FieldType.int))
theorem npX2_fault : yX2_fault.cls ≠ "java/lang/invoke/MethodHandle" ∧ yX2_fault.cls ≠ "java/lang/invoke/VarHandle" ∧ (parseMethodDescriptor yX2_fault.desc).map (fun d => d.parameters.length) = some 1 := by decide +kernel
abbrev cX2_by : ByteArray := prog_17_method_54_code
def yX2_by : MethodName := ⟨RX2, "by", "(I)Z"⟩
def dkwX2_by_1 : List UInt8 := [27, 79, 4, 172]
abbrev dktX2_by_1 : List UInt8 := dkwX2_by_1 ++ []
def dkwX2_by_0 : List UInt8 := [27, 2, 42, 180, 0, 7, 8, 46, 4, 100, 184, 0, 89, 154, 0, 5, 3, 172, 42, 180, 0, 7, 16, 6]
abbrev dktX2_by_0 : List UInt8 := dkwX2_by_0 ++ dktX2_by_1
theorem dksX2_by_0 : cX2_by.data.toList.drop 0 = dktX2_by_0 := by decide +kernel
theorem dksX2_by_1 : cX2_by.data.toList.drop 24 = dktX2_by_1 := dk_seg dksX2_by_0 24 rfl rfl
theorem dX2_by_0 : decode cX2_by 0 = .ok (.iload_n 1, 1) := dk_27 (dk_at dksX2_by_0 0 rfl rfl)
theorem dX2_by_1 : decode cX2_by 1 = .ok (.iconst (-1), 1) := dk_2 (dk_at dksX2_by_0 1 rfl rfl)
theorem dX2_by_2 : decode cX2_by 2 = .ok (.aload_n 0, 1) := dk_42 (dk_at dksX2_by_0 2 rfl rfl)
theorem dX2_by_3 : decode cX2_by 3 = .ok (.getfield 7, 3) := dk_180 0 7 (dk_at dksX2_by_0 3 rfl rfl)
theorem dX2_by_6 : decode cX2_by 6 = .ok (.iconst 5, 1) := dk_8 (dk_at dksX2_by_0 6 rfl rfl)
theorem dX2_by_7 : decode cX2_by 7 = .ok (.iaload, 1) := dk_46 (dk_at dksX2_by_0 7 rfl rfl)
theorem dX2_by_8 : decode cX2_by 8 = .ok (.iconst 1, 1) := dk_4 (dk_at dksX2_by_0 8 rfl rfl)
theorem dX2_by_9 : decode cX2_by 9 = .ok (.isub, 1) := dk_100 (dk_at dksX2_by_0 9 rfl rfl)
theorem dX2_by_10 : decode cX2_by 10 = .ok (.invokestatic 89, 3) := dk_184 0 89 (dk_at dksX2_by_0 10 rfl rfl)
theorem dX2_by_13 : decode cX2_by 13 = .ok (.ifCond .ne 5, 3) := dk_154 0 5 (dk_at dksX2_by_0 13 rfl rfl)
theorem dX2_by_16 : decode cX2_by 16 = .ok (.iconst 0, 1) := dk_3 (dk_at dksX2_by_0 16 rfl rfl)
theorem dX2_by_17 : decode cX2_by 17 = .ok (.ireturn, 1) := dk_172 (dk_at dksX2_by_0 17 rfl rfl)
theorem dX2_by_18 : decode cX2_by 18 = .ok (.aload_n 0, 1) := dk_42 (dk_at dksX2_by_0 18 rfl rfl)
theorem dX2_by_19 : decode cX2_by 19 = .ok (.getfield 7, 3) := dk_180 0 7 (dk_at dksX2_by_0 19 rfl rfl)
theorem dX2_by_22 : decode cX2_by 22 = .ok (.bipush 6, 2) := dk_16 6 (dk_at dksX2_by_0 22 rfl rfl)
theorem dX2_by_24 : decode cX2_by 24 = .ok (.iload_n 1, 1) := dk_27 (dk_at dksX2_by_1 0 rfl rfl)
theorem dX2_by_25 : decode cX2_by 25 = .ok (.iastore, 1) := dk_79 (dk_at dksX2_by_1 1 rfl rfl)
theorem dX2_by_26 : decode cX2_by 26 = .ok (.iconst 1, 1) := dk_4 (dk_at dksX2_by_1 2 rfl rfl)
theorem dX2_by_27 : decode cX2_by 27 = .ok (.ireturn, 1) := dk_172 (dk_at dksX2_by_1 3 rfl rfl)
abbrev MX2_by : jjM := (yX2_by, cX2_by, 2, (Option.some Jvm.ClassFile.FieldType.boolean))
theorem npX2_by : yX2_by.cls ≠ "java/lang/invoke/MethodHandle" ∧ yX2_by.cls ≠ "java/lang/invoke/VarHandle" ∧ (parseMethodDescriptor yX2_by.desc).map (fun d => d.parameters.length) = some 1 := by decide +kernel
abbrev cX2_pushes : ByteArray := prog_17_method_67_code
def yX2_pushes : MethodName := ⟨RX2, "pushes", "(IIZ)Z"⟩
def dkwX2_pushes_1 : List UInt8 := [29, 182, 1, 47, 153, 0, 7, 4, 167, 0, 4, 3, 172]
abbrev dktX2_pushes_1 : List UInt8 := dkwX2_pushes_1 ++ []
def dkwX2_pushes_0 : List UInt8 := [42, 27, 182, 0, 93, 153, 0, 30, 42, 28, 182, 0, 93, 153, 0, 22, 27, 28, 159, 0, 17, 42, 27, 28]
abbrev dktX2_pushes_0 : List UInt8 := dkwX2_pushes_0 ++ dktX2_pushes_1
theorem dksX2_pushes_0 : cX2_pushes.data.toList.drop 0 = dktX2_pushes_0 := by decide +kernel
theorem dksX2_pushes_1 : cX2_pushes.data.toList.drop 24 = dktX2_pushes_1 := dk_seg dksX2_pushes_0 24 rfl rfl
theorem dX2_pushes_0 : decode cX2_pushes 0 = .ok (.aload_n 0, 1) := dk_42 (dk_at dksX2_pushes_0 0 rfl rfl)
theorem dX2_pushes_1 : decode cX2_pushes 1 = .ok (.iload_n 1, 1) := dk_27 (dk_at dksX2_pushes_0 1 rfl rfl)
theorem dX2_pushes_2 : decode cX2_pushes 2 = .ok (.invokevirtual 93, 3) := dk_182 0 93 (dk_at dksX2_pushes_0 2 rfl rfl)
theorem dX2_pushes_5 : decode cX2_pushes 5 = .ok (.ifCond .eq 30, 3) := dk_153 0 30 (dk_at dksX2_pushes_0 5 rfl rfl)
theorem dX2_pushes_8 : decode cX2_pushes 8 = .ok (.aload_n 0, 1) := dk_42 (dk_at dksX2_pushes_0 8 rfl rfl)
theorem dX2_pushes_9 : decode cX2_pushes 9 = .ok (.iload_n 2, 1) := dk_28 (dk_at dksX2_pushes_0 9 rfl rfl)
theorem dX2_pushes_10 : decode cX2_pushes 10 = .ok (.invokevirtual 93, 3) := dk_182 0 93 (dk_at dksX2_pushes_0 10 rfl rfl)
theorem dX2_pushes_13 : decode cX2_pushes 13 = .ok (.ifCond .eq 22, 3) := dk_153 0 22 (dk_at dksX2_pushes_0 13 rfl rfl)
theorem dX2_pushes_16 : decode cX2_pushes 16 = .ok (.iload_n 1, 1) := dk_27 (dk_at dksX2_pushes_0 16 rfl rfl)
theorem dX2_pushes_17 : decode cX2_pushes 17 = .ok (.iload_n 2, 1) := dk_28 (dk_at dksX2_pushes_0 17 rfl rfl)
theorem dX2_pushes_18 : decode cX2_pushes 18 = .ok (.if_icmp .eq 17, 3) := dk_159 0 17 (dk_at dksX2_pushes_0 18 rfl rfl)
theorem dX2_pushes_21 : decode cX2_pushes 21 = .ok (.aload_n 0, 1) := dk_42 (dk_at dksX2_pushes_0 21 rfl rfl)
theorem dX2_pushes_22 : decode cX2_pushes 22 = .ok (.iload_n 1, 1) := dk_27 (dk_at dksX2_pushes_0 22 rfl rfl)
theorem dX2_pushes_23 : decode cX2_pushes 23 = .ok (.iload_n 2, 1) := dk_28 (dk_at dksX2_pushes_0 23 rfl rfl)
theorem dX2_pushes_24 : decode cX2_pushes 24 = .ok (.iload_n 3, 1) := dk_29 (dk_at dksX2_pushes_1 0 rfl rfl)
theorem dX2_pushes_25 : decode cX2_pushes 25 = .ok (.invokevirtual 303, 3) := dk_182 1 47 (dk_at dksX2_pushes_1 1 rfl rfl)
theorem dX2_pushes_28 : decode cX2_pushes 28 = .ok (.ifCond .eq 7, 3) := dk_153 0 7 (dk_at dksX2_pushes_1 4 rfl rfl)
theorem dX2_pushes_31 : decode cX2_pushes 31 = .ok (.iconst 1, 1) := dk_4 (dk_at dksX2_pushes_1 7 rfl rfl)
theorem dX2_pushes_32 : decode cX2_pushes 32 = .ok (.goto 4, 3) := dk_167 0 4 (dk_at dksX2_pushes_1 8 rfl rfl)
theorem dX2_pushes_35 : decode cX2_pushes 35 = .ok (.iconst 0, 1) := dk_3 (dk_at dksX2_pushes_1 11 rfl rfl)
theorem dX2_pushes_36 : decode cX2_pushes 36 = .ok (.ireturn, 1) := dk_172 (dk_at dksX2_pushes_1 12 rfl rfl)
abbrev MX2_pushes : jjM := (yX2_pushes, cX2_pushes, 4, (Option.some Jvm.ClassFile.FieldType.boolean))
theorem npX2_pushes : yX2_pushes.cls ≠ "java/lang/invoke/MethodHandle" ∧ yX2_pushes.cls ≠ "java/lang/invoke/VarHandle" ∧ (parseMethodDescriptor yX2_pushes.desc).map (fun d => d.parameters.length) = some 3 := by decide +kernel
abbrev cX2_isBook : ByteArray := prog_17_method_6_code
def yX2_isBook : MethodName := ⟨RX2, "isBook", "(I)Z"⟩
def dkwX2_isBook_0 : List UInt8 := [27, 3, 42, 180, 0, 7, 3, 46, 4, 100, 184, 0, 89, 172]
abbrev dktX2_isBook_0 : List UInt8 := dkwX2_isBook_0 ++ []
theorem dksX2_isBook_0 : cX2_isBook.data.toList.drop 0 = dktX2_isBook_0 := by decide +kernel
theorem dX2_isBook_0 : decode cX2_isBook 0 = .ok (.iload_n 1, 1) := dk_27 (dk_at dksX2_isBook_0 0 rfl rfl)
theorem dX2_isBook_1 : decode cX2_isBook 1 = .ok (.iconst 0, 1) := dk_3 (dk_at dksX2_isBook_0 1 rfl rfl)
theorem dX2_isBook_2 : decode cX2_isBook 2 = .ok (.aload_n 0, 1) := dk_42 (dk_at dksX2_isBook_0 2 rfl rfl)
theorem dX2_isBook_3 : decode cX2_isBook 3 = .ok (.getfield 7, 3) := dk_180 0 7 (dk_at dksX2_isBook_0 3 rfl rfl)
theorem dX2_isBook_6 : decode cX2_isBook 6 = .ok (.iconst 0, 1) := dk_3 (dk_at dksX2_isBook_0 6 rfl rfl)
theorem dX2_isBook_7 : decode cX2_isBook 7 = .ok (.iaload, 1) := dk_46 (dk_at dksX2_isBook_0 7 rfl rfl)
theorem dX2_isBook_8 : decode cX2_isBook 8 = .ok (.iconst 1, 1) := dk_4 (dk_at dksX2_isBook_0 8 rfl rfl)
theorem dX2_isBook_9 : decode cX2_isBook 9 = .ok (.isub, 1) := dk_100 (dk_at dksX2_isBook_0 9 rfl rfl)
theorem dX2_isBook_10 : decode cX2_isBook 10 = .ok (.invokestatic 89, 3) := dk_184 0 89 (dk_at dksX2_isBook_0 10 rfl rfl)
theorem dX2_isBook_13 : decode cX2_isBook 13 = .ok (.ireturn, 1) := dk_172 (dk_at dksX2_isBook_0 13 rfl rfl)
abbrev MX2_isBook : jjM := (yX2_isBook, cX2_isBook, 2, (Option.some Jvm.ClassFile.FieldType.boolean))
theorem npX2_isBook : yX2_isBook.cls ≠ "java/lang/invoke/MethodHandle" ∧ yX2_isBook.cls ≠ "java/lang/invoke/VarHandle" ∧ (parseMethodDescriptor yX2_isBook.desc).map (fun d => d.parameters.length) = some 1 := by decide +kernel
abbrev cX2_doesPush : ByteArray := prog_17_method_65_code
def yX2_doesPush : MethodName := ⟨RX2, "doesPush", "(IIZ)Z"⟩
def dkwX2_doesPush_0 : List UInt8 := [42, 42, 27, 7, 182, 0, 97, 27, 28, 29, 182, 1, 43, 172]
abbrev dktX2_doesPush_0 : List UInt8 := dkwX2_doesPush_0 ++ []
theorem dksX2_doesPush_0 : cX2_doesPush.data.toList.drop 0 = dktX2_doesPush_0 := by decide +kernel
theorem dX2_doesPush_0 : decode cX2_doesPush 0 = .ok (.aload_n 0, 1) := dk_42 (dk_at dksX2_doesPush_0 0 rfl rfl)
theorem dX2_doesPush_1 : decode cX2_doesPush 1 = .ok (.aload_n 0, 1) := dk_42 (dk_at dksX2_doesPush_0 1 rfl rfl)
theorem dX2_doesPush_2 : decode cX2_doesPush 2 = .ok (.iload_n 1, 1) := dk_27 (dk_at dksX2_doesPush_0 2 rfl rfl)
theorem dX2_doesPush_3 : decode cX2_doesPush 3 = .ok (.iconst 4, 1) := dk_7 (dk_at dksX2_doesPush_0 3 rfl rfl)
theorem dX2_doesPush_4 : decode cX2_doesPush 4 = .ok (.invokevirtual 97, 3) := dk_182 0 97 (dk_at dksX2_doesPush_0 4 rfl rfl)
theorem dX2_doesPush_7 : decode cX2_doesPush 7 = .ok (.iload_n 1, 1) := dk_27 (dk_at dksX2_doesPush_0 7 rfl rfl)
theorem dX2_doesPush_8 : decode cX2_doesPush 8 = .ok (.iload_n 2, 1) := dk_28 (dk_at dksX2_doesPush_0 8 rfl rfl)
theorem dX2_doesPush_9 : decode cX2_doesPush 9 = .ok (.iload_n 3, 1) := dk_29 (dk_at dksX2_doesPush_0 9 rfl rfl)
theorem dX2_doesPush_10 : decode cX2_doesPush 10 = .ok (.invokevirtual 299, 3) := dk_182 1 43 (dk_at dksX2_doesPush_0 10 rfl rfl)
theorem dX2_doesPush_13 : decode cX2_doesPush 13 = .ok (.ireturn, 1) := dk_172 (dk_at dksX2_doesPush_0 13 rfl rfl)
abbrev MX2_doesPush : jjM := (yX2_doesPush, cX2_doesPush, 4, (Option.some Jvm.ClassFile.FieldType.boolean))
theorem npX2_doesPush : yX2_doesPush.cls ≠ "java/lang/invoke/MethodHandle" ∧ yX2_doesPush.cls ≠ "java/lang/invoke/VarHandle" ∧ (parseMethodDescriptor yX2_doesPush.desc).map (fun d => d.parameters.length) = some 3 := by decide +kernel
abbrev cX2_get : ByteArray := prog_17_method_8_code
def yX2_get : MethodName := ⟨RX2, "get", "(II)I"⟩
def dkwX2_get_0 : List UInt8 := [42, 180, 0, 7, 16, 46, 16, 6, 27, 104, 96, 28, 96, 46, 172]
abbrev dktX2_get_0 : List UInt8 := dkwX2_get_0 ++ []
theorem dksX2_get_0 : cX2_get.data.toList.drop 0 = dktX2_get_0 := by decide +kernel
theorem dX2_get_0 : decode cX2_get 0 = .ok (.aload_n 0, 1) := dk_42 (dk_at dksX2_get_0 0 rfl rfl)
theorem dX2_get_1 : decode cX2_get 1 = .ok (.getfield 7, 3) := dk_180 0 7 (dk_at dksX2_get_0 1 rfl rfl)
theorem dX2_get_4 : decode cX2_get 4 = .ok (.bipush 46, 2) := dk_16 46 (dk_at dksX2_get_0 4 rfl rfl)
theorem dX2_get_6 : decode cX2_get 6 = .ok (.bipush 6, 2) := dk_16 6 (dk_at dksX2_get_0 6 rfl rfl)
theorem dX2_get_8 : decode cX2_get 8 = .ok (.iload_n 1, 1) := dk_27 (dk_at dksX2_get_0 8 rfl rfl)
theorem dX2_get_9 : decode cX2_get 9 = .ok (.imul, 1) := dk_104 (dk_at dksX2_get_0 9 rfl rfl)
theorem dX2_get_10 : decode cX2_get 10 = .ok (.iadd, 1) := dk_96 (dk_at dksX2_get_0 10 rfl rfl)
theorem dX2_get_11 : decode cX2_get 11 = .ok (.iload_n 2, 1) := dk_28 (dk_at dksX2_get_0 11 rfl rfl)
theorem dX2_get_12 : decode cX2_get 12 = .ok (.iadd, 1) := dk_96 (dk_at dksX2_get_0 12 rfl rfl)
theorem dX2_get_13 : decode cX2_get 13 = .ok (.iaload, 1) := dk_46 (dk_at dksX2_get_0 13 rfl rfl)
theorem dX2_get_14 : decode cX2_get 14 = .ok (.ireturn, 1) := dk_172 (dk_at dksX2_get_0 14 rfl rfl)
abbrev MX2_get : jjM := (yX2_get, cX2_get, 3, (Option.some Jvm.ClassFile.FieldType.int))
theorem npX2_get : yX2_get.cls ≠ "java/lang/invoke/MethodHandle" ∧ yX2_get.cls ≠ "java/lang/invoke/VarHandle" ∧ (parseMethodDescriptor yX2_get.desc).map (fun d => d.parameters.length) = some 2 := by decide +kernel
abbrev cX2_pushesBy : ByteArray := prog_17_method_64_code
def yX2_pushesBy : MethodName := ⟨RX2, "pushesBy", "(IIIZ)Z"⟩
def dkwX2_pushesBy_3 : List UInt8 := [132, 6, 1, 167, 255, 230, 42, 21, 5, 182, 1, 35, 42, 180, 0, 39, 3, 51, 172]
abbrev dktX2_pushesBy_3 : List UInt8 := dkwX2_pushesBy_3 ++ []
def dkwX2_pushesBy_2 : List UInt8 := [21, 6, 7, 162, 0, 26, 42, 180, 0, 32, 16, 8, 21, 6, 96, 42, 29, 21, 6, 182, 0, 97, 79]
abbrev dktX2_pushesBy_2 : List UInt8 := dkwX2_pushesBy_2 ++ dktX2_pushesBy_3
def dkwX2_pushesBy_1 : List UInt8 := [16, 6, 21, 4, 153, 0, 7, 4, 167, 0, 4, 3, 79, 42, 180, 0, 32, 16, 7, 29, 79, 3, 54, 6]
abbrev dktX2_pushesBy_1 : List UInt8 := dkwX2_pushesBy_1 ++ dktX2_pushesBy_2
def dkwX2_pushesBy_0 : List UInt8 := [42, 3, 27, 182, 1, 29, 54, 5, 21, 5, 156, 0, 5, 3, 172, 42, 28, 182, 1, 32, 42, 180, 0, 32]
abbrev dktX2_pushesBy_0 : List UInt8 := dkwX2_pushesBy_0 ++ dktX2_pushesBy_1
theorem dksX2_pushesBy_0 : cX2_pushesBy.data.toList.drop 0 = dktX2_pushesBy_0 := by decide +kernel
theorem dksX2_pushesBy_1 : cX2_pushesBy.data.toList.drop 24 = dktX2_pushesBy_1 := dk_seg dksX2_pushesBy_0 24 rfl rfl
theorem dksX2_pushesBy_2 : cX2_pushesBy.data.toList.drop 48 = dktX2_pushesBy_2 := dk_seg dksX2_pushesBy_1 24 rfl rfl
theorem dksX2_pushesBy_3 : cX2_pushesBy.data.toList.drop 71 = dktX2_pushesBy_3 := dk_seg dksX2_pushesBy_2 23 rfl rfl
theorem dX2_pushesBy_0 : decode cX2_pushesBy 0 = .ok (.aload_n 0, 1) := dk_42 (dk_at dksX2_pushesBy_0 0 rfl rfl)
theorem dX2_pushesBy_1 : decode cX2_pushesBy 1 = .ok (.iconst 0, 1) := dk_3 (dk_at dksX2_pushesBy_0 1 rfl rfl)
theorem dX2_pushesBy_2 : decode cX2_pushesBy 2 = .ok (.iload_n 1, 1) := dk_27 (dk_at dksX2_pushesBy_0 2 rfl rfl)
theorem dX2_pushesBy_3 : decode cX2_pushesBy 3 = .ok (.invokevirtual 285, 3) := dk_182 1 29 (dk_at dksX2_pushesBy_0 3 rfl rfl)
theorem dX2_pushesBy_6 : decode cX2_pushesBy 6 = .ok (.istore 5, 2) := dk_54 5 (dk_at dksX2_pushesBy_0 6 rfl rfl)
theorem dX2_pushesBy_8 : decode cX2_pushesBy 8 = .ok (.iload 5, 2) := dk_21 5 (dk_at dksX2_pushesBy_0 8 rfl rfl)
theorem dX2_pushesBy_10 : decode cX2_pushesBy 10 = .ok (.ifCond .ge 5, 3) := dk_156 0 5 (dk_at dksX2_pushesBy_0 10 rfl rfl)
theorem dX2_pushesBy_13 : decode cX2_pushesBy 13 = .ok (.iconst 0, 1) := dk_3 (dk_at dksX2_pushesBy_0 13 rfl rfl)
theorem dX2_pushesBy_14 : decode cX2_pushesBy 14 = .ok (.ireturn, 1) := dk_172 (dk_at dksX2_pushesBy_0 14 rfl rfl)
theorem dX2_pushesBy_15 : decode cX2_pushesBy 15 = .ok (.aload_n 0, 1) := dk_42 (dk_at dksX2_pushesBy_0 15 rfl rfl)
theorem dX2_pushesBy_16 : decode cX2_pushesBy 16 = .ok (.iload_n 2, 1) := dk_28 (dk_at dksX2_pushesBy_0 16 rfl rfl)
theorem dX2_pushesBy_17 : decode cX2_pushesBy 17 = .ok (.invokevirtual 288, 3) := dk_182 1 32 (dk_at dksX2_pushesBy_0 17 rfl rfl)
theorem dX2_pushesBy_20 : decode cX2_pushesBy 20 = .ok (.aload_n 0, 1) := dk_42 (dk_at dksX2_pushesBy_0 20 rfl rfl)
theorem dX2_pushesBy_21 : decode cX2_pushesBy 21 = .ok (.getfield 32, 3) := dk_180 0 32 (dk_at dksX2_pushesBy_0 21 rfl rfl)
theorem dX2_pushesBy_24 : decode cX2_pushesBy 24 = .ok (.bipush 6, 2) := dk_16 6 (dk_at dksX2_pushesBy_1 0 rfl rfl)
theorem dX2_pushesBy_26 : decode cX2_pushesBy 26 = .ok (.iload 4, 2) := dk_21 4 (dk_at dksX2_pushesBy_1 2 rfl rfl)
theorem dX2_pushesBy_28 : decode cX2_pushesBy 28 = .ok (.ifCond .eq 7, 3) := dk_153 0 7 (dk_at dksX2_pushesBy_1 4 rfl rfl)
theorem dX2_pushesBy_31 : decode cX2_pushesBy 31 = .ok (.iconst 1, 1) := dk_4 (dk_at dksX2_pushesBy_1 7 rfl rfl)
theorem dX2_pushesBy_32 : decode cX2_pushesBy 32 = .ok (.goto 4, 3) := dk_167 0 4 (dk_at dksX2_pushesBy_1 8 rfl rfl)
theorem dX2_pushesBy_35 : decode cX2_pushesBy 35 = .ok (.iconst 0, 1) := dk_3 (dk_at dksX2_pushesBy_1 11 rfl rfl)
theorem dX2_pushesBy_36 : decode cX2_pushesBy 36 = .ok (.iastore, 1) := dk_79 (dk_at dksX2_pushesBy_1 12 rfl rfl)
theorem dX2_pushesBy_37 : decode cX2_pushesBy 37 = .ok (.aload_n 0, 1) := dk_42 (dk_at dksX2_pushesBy_1 13 rfl rfl)
theorem dX2_pushesBy_38 : decode cX2_pushesBy 38 = .ok (.getfield 32, 3) := dk_180 0 32 (dk_at dksX2_pushesBy_1 14 rfl rfl)
theorem dX2_pushesBy_41 : decode cX2_pushesBy 41 = .ok (.bipush 7, 2) := dk_16 7 (dk_at dksX2_pushesBy_1 17 rfl rfl)
theorem dX2_pushesBy_43 : decode cX2_pushesBy 43 = .ok (.iload_n 3, 1) := dk_29 (dk_at dksX2_pushesBy_1 19 rfl rfl)
theorem dX2_pushesBy_44 : decode cX2_pushesBy 44 = .ok (.iastore, 1) := dk_79 (dk_at dksX2_pushesBy_1 20 rfl rfl)
theorem dX2_pushesBy_45 : decode cX2_pushesBy 45 = .ok (.iconst 0, 1) := dk_3 (dk_at dksX2_pushesBy_1 21 rfl rfl)
theorem dX2_pushesBy_46 : decode cX2_pushesBy 46 = .ok (.istore 6, 2) := dk_54 6 (dk_at dksX2_pushesBy_1 22 rfl rfl)
theorem dX2_pushesBy_48 : decode cX2_pushesBy 48 = .ok (.iload 6, 2) := dk_21 6 (dk_at dksX2_pushesBy_2 0 rfl rfl)
theorem dX2_pushesBy_50 : decode cX2_pushesBy 50 = .ok (.iconst 4, 1) := dk_7 (dk_at dksX2_pushesBy_2 2 rfl rfl)
theorem dX2_pushesBy_51 : decode cX2_pushesBy 51 = .ok (.if_icmp .ge 26, 3) := dk_162 0 26 (dk_at dksX2_pushesBy_2 3 rfl rfl)
theorem dX2_pushesBy_54 : decode cX2_pushesBy 54 = .ok (.aload_n 0, 1) := dk_42 (dk_at dksX2_pushesBy_2 6 rfl rfl)
theorem dX2_pushesBy_55 : decode cX2_pushesBy 55 = .ok (.getfield 32, 3) := dk_180 0 32 (dk_at dksX2_pushesBy_2 7 rfl rfl)
theorem dX2_pushesBy_58 : decode cX2_pushesBy 58 = .ok (.bipush 8, 2) := dk_16 8 (dk_at dksX2_pushesBy_2 10 rfl rfl)
theorem dX2_pushesBy_60 : decode cX2_pushesBy 60 = .ok (.iload 6, 2) := dk_21 6 (dk_at dksX2_pushesBy_2 12 rfl rfl)
theorem dX2_pushesBy_62 : decode cX2_pushesBy 62 = .ok (.iadd, 1) := dk_96 (dk_at dksX2_pushesBy_2 14 rfl rfl)
theorem dX2_pushesBy_63 : decode cX2_pushesBy 63 = .ok (.aload_n 0, 1) := dk_42 (dk_at dksX2_pushesBy_2 15 rfl rfl)
theorem dX2_pushesBy_64 : decode cX2_pushesBy 64 = .ok (.iload_n 3, 1) := dk_29 (dk_at dksX2_pushesBy_2 16 rfl rfl)
theorem dX2_pushesBy_65 : decode cX2_pushesBy 65 = .ok (.iload 6, 2) := dk_21 6 (dk_at dksX2_pushesBy_2 17 rfl rfl)
theorem dX2_pushesBy_67 : decode cX2_pushesBy 67 = .ok (.invokevirtual 97, 3) := dk_182 0 97 (dk_at dksX2_pushesBy_2 19 rfl rfl)
theorem dX2_pushesBy_70 : decode cX2_pushesBy 70 = .ok (.iastore, 1) := dk_79 (dk_at dksX2_pushesBy_2 22 rfl rfl)
theorem dX2_pushesBy_71 : decode cX2_pushesBy 71 = .ok (.iinc 6 1, 3) := dk_132 6 1 (dk_at dksX2_pushesBy_3 0 rfl rfl)
theorem dX2_pushesBy_74 : decode cX2_pushesBy 74 = .ok (.goto (-26), 3) := dk_167 255 230 (dk_at dksX2_pushesBy_3 3 rfl rfl)
theorem dX2_pushesBy_77 : decode cX2_pushesBy 77 = .ok (.aload_n 0, 1) := dk_42 (dk_at dksX2_pushesBy_3 6 rfl rfl)
theorem dX2_pushesBy_78 : decode cX2_pushesBy 78 = .ok (.iload 5, 2) := dk_21 5 (dk_at dksX2_pushesBy_3 7 rfl rfl)
theorem dX2_pushesBy_80 : decode cX2_pushesBy 80 = .ok (.invokevirtual 291, 3) := dk_182 1 35 (dk_at dksX2_pushesBy_3 9 rfl rfl)
theorem dX2_pushesBy_83 : decode cX2_pushesBy 83 = .ok (.aload_n 0, 1) := dk_42 (dk_at dksX2_pushesBy_3 12 rfl rfl)
theorem dX2_pushesBy_84 : decode cX2_pushesBy 84 = .ok (.getfield 39, 3) := dk_180 0 39 (dk_at dksX2_pushesBy_3 13 rfl rfl)
theorem dX2_pushesBy_87 : decode cX2_pushesBy 87 = .ok (.iconst 0, 1) := dk_3 (dk_at dksX2_pushesBy_3 16 rfl rfl)
theorem dX2_pushesBy_88 : decode cX2_pushesBy 88 = .ok (.baload, 1) := dk_51 (dk_at dksX2_pushesBy_3 17 rfl rfl)
theorem dX2_pushesBy_89 : decode cX2_pushesBy 89 = .ok (.ireturn, 1) := dk_172 (dk_at dksX2_pushesBy_3 18 rfl rfl)
abbrev MX2_pushesBy : jjM := (yX2_pushesBy, cX2_pushesBy, 7, (Option.some Jvm.ClassFile.FieldType.boolean))
theorem npX2_pushesBy : yX2_pushesBy.cls ≠ "java/lang/invoke/MethodHandle" ∧ yX2_pushesBy.cls ≠ "java/lang/invoke/VarHandle" ∧ (parseMethodDescriptor yX2_pushesBy.desc).map (fun d => d.parameters.length) = some 4 := by decide +kernel
abbrev cX2_clauseOf : ByteArray := prog_17_method_59_code
def yX2_clauseOf : MethodName := ⟨RX2, "clauseOf", "(II)I"⟩
def dkwX2_clauseOf_3 : List UInt8 := [4, 96, 46, 28, 160, 0, 5, 29, 172, 132, 3, 1, 167, 255, 174, 2, 172]
abbrev dktX2_clauseOf_3 : List UInt8 := dkwX2_clauseOf_3 ++ []
def dkwX2_clauseOf_2 : List UInt8 := [96, 54, 4, 42, 180, 0, 16, 21, 4, 46, 27, 160, 0, 22, 27, 154, 0, 16, 42, 180, 0, 16, 21, 4]
abbrev dktX2_clauseOf_2 : List UInt8 := dkwX2_clauseOf_2 ++ dktX2_clauseOf_3
def dkwX2_clauseOf_1 : List UInt8 := [16, 6, 46, 104, 46, 162, 0, 58, 17, 2, 193, 42, 180, 0, 7, 16, 6, 46, 104, 4, 96, 7, 29, 104]
abbrev dktX2_clauseOf_1 : List UInt8 := dkwX2_clauseOf_1 ++ dktX2_clauseOf_2
def dkwX2_clauseOf_0 : List UInt8 := [3, 62, 42, 180, 0, 7, 16, 6, 46, 155, 0, 78, 29, 42, 180, 0, 16, 17, 2, 193, 42, 180, 0, 7]
abbrev dktX2_clauseOf_0 : List UInt8 := dkwX2_clauseOf_0 ++ dktX2_clauseOf_1
theorem dksX2_clauseOf_0 : cX2_clauseOf.data.toList.drop 0 = dktX2_clauseOf_0 := by decide +kernel
theorem dksX2_clauseOf_1 : cX2_clauseOf.data.toList.drop 24 = dktX2_clauseOf_1 := dk_seg dksX2_clauseOf_0 24 rfl rfl
theorem dksX2_clauseOf_2 : cX2_clauseOf.data.toList.drop 48 = dktX2_clauseOf_2 := dk_seg dksX2_clauseOf_1 24 rfl rfl
theorem dksX2_clauseOf_3 : cX2_clauseOf.data.toList.drop 72 = dktX2_clauseOf_3 := dk_seg dksX2_clauseOf_2 24 rfl rfl
theorem dX2_clauseOf_0 : decode cX2_clauseOf 0 = .ok (.iconst 0, 1) := dk_3 (dk_at dksX2_clauseOf_0 0 rfl rfl)
theorem dX2_clauseOf_1 : decode cX2_clauseOf 1 = .ok (.istore_n 3, 1) := dk_62 (dk_at dksX2_clauseOf_0 1 rfl rfl)
theorem dX2_clauseOf_2 : decode cX2_clauseOf 2 = .ok (.aload_n 0, 1) := dk_42 (dk_at dksX2_clauseOf_0 2 rfl rfl)
theorem dX2_clauseOf_3 : decode cX2_clauseOf 3 = .ok (.getfield 7, 3) := dk_180 0 7 (dk_at dksX2_clauseOf_0 3 rfl rfl)
theorem dX2_clauseOf_6 : decode cX2_clauseOf 6 = .ok (.bipush 6, 2) := dk_16 6 (dk_at dksX2_clauseOf_0 6 rfl rfl)
theorem dX2_clauseOf_8 : decode cX2_clauseOf 8 = .ok (.iaload, 1) := dk_46 (dk_at dksX2_clauseOf_0 8 rfl rfl)
theorem dX2_clauseOf_9 : decode cX2_clauseOf 9 = .ok (.ifCond .lt 78, 3) := dk_155 0 78 (dk_at dksX2_clauseOf_0 9 rfl rfl)
theorem dX2_clauseOf_12 : decode cX2_clauseOf 12 = .ok (.iload_n 3, 1) := dk_29 (dk_at dksX2_clauseOf_0 12 rfl rfl)
theorem dX2_clauseOf_13 : decode cX2_clauseOf 13 = .ok (.aload_n 0, 1) := dk_42 (dk_at dksX2_clauseOf_0 13 rfl rfl)
theorem dX2_clauseOf_14 : decode cX2_clauseOf 14 = .ok (.getfield 16, 3) := dk_180 0 16 (dk_at dksX2_clauseOf_0 14 rfl rfl)
theorem dX2_clauseOf_17 : decode cX2_clauseOf 17 = .ok (.sipush 705, 3) := dk_17 2 193 (dk_at dksX2_clauseOf_0 17 rfl rfl)
theorem dX2_clauseOf_20 : decode cX2_clauseOf 20 = .ok (.aload_n 0, 1) := dk_42 (dk_at dksX2_clauseOf_0 20 rfl rfl)
theorem dX2_clauseOf_21 : decode cX2_clauseOf 21 = .ok (.getfield 7, 3) := dk_180 0 7 (dk_at dksX2_clauseOf_0 21 rfl rfl)
theorem dX2_clauseOf_24 : decode cX2_clauseOf 24 = .ok (.bipush 6, 2) := dk_16 6 (dk_at dksX2_clauseOf_1 0 rfl rfl)
theorem dX2_clauseOf_26 : decode cX2_clauseOf 26 = .ok (.iaload, 1) := dk_46 (dk_at dksX2_clauseOf_1 2 rfl rfl)
theorem dX2_clauseOf_27 : decode cX2_clauseOf 27 = .ok (.imul, 1) := dk_104 (dk_at dksX2_clauseOf_1 3 rfl rfl)
theorem dX2_clauseOf_28 : decode cX2_clauseOf 28 = .ok (.iaload, 1) := dk_46 (dk_at dksX2_clauseOf_1 4 rfl rfl)
theorem dX2_clauseOf_29 : decode cX2_clauseOf 29 = .ok (.if_icmp .ge 58, 3) := dk_162 0 58 (dk_at dksX2_clauseOf_1 5 rfl rfl)
theorem dX2_clauseOf_32 : decode cX2_clauseOf 32 = .ok (.sipush 705, 3) := dk_17 2 193 (dk_at dksX2_clauseOf_1 8 rfl rfl)
theorem dX2_clauseOf_35 : decode cX2_clauseOf 35 = .ok (.aload_n 0, 1) := dk_42 (dk_at dksX2_clauseOf_1 11 rfl rfl)
theorem dX2_clauseOf_36 : decode cX2_clauseOf 36 = .ok (.getfield 7, 3) := dk_180 0 7 (dk_at dksX2_clauseOf_1 12 rfl rfl)
theorem dX2_clauseOf_39 : decode cX2_clauseOf 39 = .ok (.bipush 6, 2) := dk_16 6 (dk_at dksX2_clauseOf_1 15 rfl rfl)
theorem dX2_clauseOf_41 : decode cX2_clauseOf 41 = .ok (.iaload, 1) := dk_46 (dk_at dksX2_clauseOf_1 17 rfl rfl)
theorem dX2_clauseOf_42 : decode cX2_clauseOf 42 = .ok (.imul, 1) := dk_104 (dk_at dksX2_clauseOf_1 18 rfl rfl)
theorem dX2_clauseOf_43 : decode cX2_clauseOf 43 = .ok (.iconst 1, 1) := dk_4 (dk_at dksX2_clauseOf_1 19 rfl rfl)
theorem dX2_clauseOf_44 : decode cX2_clauseOf 44 = .ok (.iadd, 1) := dk_96 (dk_at dksX2_clauseOf_1 20 rfl rfl)
theorem dX2_clauseOf_45 : decode cX2_clauseOf 45 = .ok (.iconst 4, 1) := dk_7 (dk_at dksX2_clauseOf_1 21 rfl rfl)
theorem dX2_clauseOf_46 : decode cX2_clauseOf 46 = .ok (.iload_n 3, 1) := dk_29 (dk_at dksX2_clauseOf_1 22 rfl rfl)
theorem dX2_clauseOf_47 : decode cX2_clauseOf 47 = .ok (.imul, 1) := dk_104 (dk_at dksX2_clauseOf_1 23 rfl rfl)
theorem dX2_clauseOf_48 : decode cX2_clauseOf 48 = .ok (.iadd, 1) := dk_96 (dk_at dksX2_clauseOf_2 0 rfl rfl)
theorem dX2_clauseOf_49 : decode cX2_clauseOf 49 = .ok (.istore 4, 2) := dk_54 4 (dk_at dksX2_clauseOf_2 1 rfl rfl)
theorem dX2_clauseOf_51 : decode cX2_clauseOf 51 = .ok (.aload_n 0, 1) := dk_42 (dk_at dksX2_clauseOf_2 3 rfl rfl)
theorem dX2_clauseOf_52 : decode cX2_clauseOf 52 = .ok (.getfield 16, 3) := dk_180 0 16 (dk_at dksX2_clauseOf_2 4 rfl rfl)
theorem dX2_clauseOf_55 : decode cX2_clauseOf 55 = .ok (.iload 4, 2) := dk_21 4 (dk_at dksX2_clauseOf_2 7 rfl rfl)
theorem dX2_clauseOf_57 : decode cX2_clauseOf 57 = .ok (.iaload, 1) := dk_46 (dk_at dksX2_clauseOf_2 9 rfl rfl)
theorem dX2_clauseOf_58 : decode cX2_clauseOf 58 = .ok (.iload_n 1, 1) := dk_27 (dk_at dksX2_clauseOf_2 10 rfl rfl)
theorem dX2_clauseOf_59 : decode cX2_clauseOf 59 = .ok (.if_icmp .ne 22, 3) := dk_160 0 22 (dk_at dksX2_clauseOf_2 11 rfl rfl)
theorem dX2_clauseOf_62 : decode cX2_clauseOf 62 = .ok (.iload_n 1, 1) := dk_27 (dk_at dksX2_clauseOf_2 14 rfl rfl)
theorem dX2_clauseOf_63 : decode cX2_clauseOf 63 = .ok (.ifCond .ne 16, 3) := dk_154 0 16 (dk_at dksX2_clauseOf_2 15 rfl rfl)
theorem dX2_clauseOf_66 : decode cX2_clauseOf 66 = .ok (.aload_n 0, 1) := dk_42 (dk_at dksX2_clauseOf_2 18 rfl rfl)
theorem dX2_clauseOf_67 : decode cX2_clauseOf 67 = .ok (.getfield 16, 3) := dk_180 0 16 (dk_at dksX2_clauseOf_2 19 rfl rfl)
theorem dX2_clauseOf_70 : decode cX2_clauseOf 70 = .ok (.iload 4, 2) := dk_21 4 (dk_at dksX2_clauseOf_2 22 rfl rfl)
theorem dX2_clauseOf_72 : decode cX2_clauseOf 72 = .ok (.iconst 1, 1) := dk_4 (dk_at dksX2_clauseOf_3 0 rfl rfl)
theorem dX2_clauseOf_73 : decode cX2_clauseOf 73 = .ok (.iadd, 1) := dk_96 (dk_at dksX2_clauseOf_3 1 rfl rfl)
theorem dX2_clauseOf_74 : decode cX2_clauseOf 74 = .ok (.iaload, 1) := dk_46 (dk_at dksX2_clauseOf_3 2 rfl rfl)
theorem dX2_clauseOf_75 : decode cX2_clauseOf 75 = .ok (.iload_n 2, 1) := dk_28 (dk_at dksX2_clauseOf_3 3 rfl rfl)
theorem dX2_clauseOf_76 : decode cX2_clauseOf 76 = .ok (.if_icmp .ne 5, 3) := dk_160 0 5 (dk_at dksX2_clauseOf_3 4 rfl rfl)
theorem dX2_clauseOf_79 : decode cX2_clauseOf 79 = .ok (.iload_n 3, 1) := dk_29 (dk_at dksX2_clauseOf_3 7 rfl rfl)
theorem dX2_clauseOf_80 : decode cX2_clauseOf 80 = .ok (.ireturn, 1) := dk_172 (dk_at dksX2_clauseOf_3 8 rfl rfl)
theorem dX2_clauseOf_81 : decode cX2_clauseOf 81 = .ok (.iinc 3 1, 3) := dk_132 3 1 (dk_at dksX2_clauseOf_3 9 rfl rfl)
theorem dX2_clauseOf_84 : decode cX2_clauseOf 84 = .ok (.goto (-82), 3) := dk_167 255 174 (dk_at dksX2_clauseOf_3 12 rfl rfl)
theorem dX2_clauseOf_87 : decode cX2_clauseOf 87 = .ok (.iconst (-1), 1) := dk_2 (dk_at dksX2_clauseOf_3 15 rfl rfl)
theorem dX2_clauseOf_88 : decode cX2_clauseOf 88 = .ok (.ireturn, 1) := dk_172 (dk_at dksX2_clauseOf_3 16 rfl rfl)
abbrev MX2_clauseOf : jjM := (yX2_clauseOf, cX2_clauseOf, 5, (Option.some Jvm.ClassFile.FieldType.int))
theorem npX2_clauseOf : yX2_clauseOf.cls ≠ "java/lang/invoke/MethodHandle" ∧ yX2_clauseOf.cls ≠ "java/lang/invoke/VarHandle" ∧ (parseMethodDescriptor yX2_clauseOf.desc).map (fun d => d.parameters.length) = some 2 := by decide +kernel
abbrev cX2_name : ByteArray := prog_17_method_61_code
def yX2_name : MethodName := ⟨RX2, "name", "(I)V"⟩
def dkwX2_name_1 : List UInt8 := [182, 0, 97, 79, 132, 2, 1, 167, 255, 234, 42, 180, 0, 32, 8, 42, 180, 0, 7, 5, 46, 79, 177]
abbrev dktX2_name_1 : List UInt8 := dkwX2_name_1 ++ []
def dkwX2_name_0 : List UInt8 := [42, 180, 0, 32, 3, 27, 79, 3, 61, 28, 7, 162, 0, 23, 42, 180, 0, 32, 4, 28, 96, 42, 27, 28]
abbrev dktX2_name_0 : List UInt8 := dkwX2_name_0 ++ dktX2_name_1
theorem dksX2_name_0 : cX2_name.data.toList.drop 0 = dktX2_name_0 := by decide +kernel
theorem dksX2_name_1 : cX2_name.data.toList.drop 24 = dktX2_name_1 := dk_seg dksX2_name_0 24 rfl rfl
theorem dX2_name_0 : decode cX2_name 0 = .ok (.aload_n 0, 1) := dk_42 (dk_at dksX2_name_0 0 rfl rfl)
theorem dX2_name_1 : decode cX2_name 1 = .ok (.getfield 32, 3) := dk_180 0 32 (dk_at dksX2_name_0 1 rfl rfl)
theorem dX2_name_4 : decode cX2_name 4 = .ok (.iconst 0, 1) := dk_3 (dk_at dksX2_name_0 4 rfl rfl)
theorem dX2_name_5 : decode cX2_name 5 = .ok (.iload_n 1, 1) := dk_27 (dk_at dksX2_name_0 5 rfl rfl)
theorem dX2_name_6 : decode cX2_name 6 = .ok (.iastore, 1) := dk_79 (dk_at dksX2_name_0 6 rfl rfl)
theorem dX2_name_7 : decode cX2_name 7 = .ok (.iconst 0, 1) := dk_3 (dk_at dksX2_name_0 7 rfl rfl)
theorem dX2_name_8 : decode cX2_name 8 = .ok (.istore_n 2, 1) := dk_61 (dk_at dksX2_name_0 8 rfl rfl)
theorem dX2_name_9 : decode cX2_name 9 = .ok (.iload_n 2, 1) := dk_28 (dk_at dksX2_name_0 9 rfl rfl)
theorem dX2_name_10 : decode cX2_name 10 = .ok (.iconst 4, 1) := dk_7 (dk_at dksX2_name_0 10 rfl rfl)
theorem dX2_name_11 : decode cX2_name 11 = .ok (.if_icmp .ge 23, 3) := dk_162 0 23 (dk_at dksX2_name_0 11 rfl rfl)
theorem dX2_name_14 : decode cX2_name 14 = .ok (.aload_n 0, 1) := dk_42 (dk_at dksX2_name_0 14 rfl rfl)
theorem dX2_name_15 : decode cX2_name 15 = .ok (.getfield 32, 3) := dk_180 0 32 (dk_at dksX2_name_0 15 rfl rfl)
theorem dX2_name_18 : decode cX2_name 18 = .ok (.iconst 1, 1) := dk_4 (dk_at dksX2_name_0 18 rfl rfl)
theorem dX2_name_19 : decode cX2_name 19 = .ok (.iload_n 2, 1) := dk_28 (dk_at dksX2_name_0 19 rfl rfl)
theorem dX2_name_20 : decode cX2_name 20 = .ok (.iadd, 1) := dk_96 (dk_at dksX2_name_0 20 rfl rfl)
theorem dX2_name_21 : decode cX2_name 21 = .ok (.aload_n 0, 1) := dk_42 (dk_at dksX2_name_0 21 rfl rfl)
theorem dX2_name_22 : decode cX2_name 22 = .ok (.iload_n 1, 1) := dk_27 (dk_at dksX2_name_0 22 rfl rfl)
theorem dX2_name_23 : decode cX2_name 23 = .ok (.iload_n 2, 1) := dk_28 (dk_at dksX2_name_0 23 rfl rfl)
theorem dX2_name_24 : decode cX2_name 24 = .ok (.invokevirtual 97, 3) := dk_182 0 97 (dk_at dksX2_name_1 0 rfl rfl)
theorem dX2_name_27 : decode cX2_name 27 = .ok (.iastore, 1) := dk_79 (dk_at dksX2_name_1 3 rfl rfl)
theorem dX2_name_28 : decode cX2_name 28 = .ok (.iinc 2 1, 3) := dk_132 2 1 (dk_at dksX2_name_1 4 rfl rfl)
theorem dX2_name_31 : decode cX2_name 31 = .ok (.goto (-22), 3) := dk_167 255 234 (dk_at dksX2_name_1 7 rfl rfl)
theorem dX2_name_34 : decode cX2_name 34 = .ok (.aload_n 0, 1) := dk_42 (dk_at dksX2_name_1 10 rfl rfl)
theorem dX2_name_35 : decode cX2_name 35 = .ok (.getfield 32, 3) := dk_180 0 32 (dk_at dksX2_name_1 11 rfl rfl)
theorem dX2_name_38 : decode cX2_name 38 = .ok (.iconst 5, 1) := dk_8 (dk_at dksX2_name_1 14 rfl rfl)
theorem dX2_name_39 : decode cX2_name 39 = .ok (.aload_n 0, 1) := dk_42 (dk_at dksX2_name_1 15 rfl rfl)
theorem dX2_name_40 : decode cX2_name 40 = .ok (.getfield 7, 3) := dk_180 0 7 (dk_at dksX2_name_1 16 rfl rfl)
theorem dX2_name_43 : decode cX2_name 43 = .ok (.iconst 2, 1) := dk_5 (dk_at dksX2_name_1 19 rfl rfl)
theorem dX2_name_44 : decode cX2_name 44 = .ok (.iaload, 1) := dk_46 (dk_at dksX2_name_1 20 rfl rfl)
theorem dX2_name_45 : decode cX2_name 45 = .ok (.iastore, 1) := dk_79 (dk_at dksX2_name_1 21 rfl rfl)
theorem dX2_name_46 : decode cX2_name 46 = .ok (.return_, 1) := dk_177 (dk_at dksX2_name_1 22 rfl rfl)
abbrev MX2_name : jjM := (yX2_name, cX2_name, 3, (Option.none : Option Jvm.ClassFile.FieldType))
theorem npX2_name : yX2_name.cls ≠ "java/lang/invoke/MethodHandle" ∧ yX2_name.cls ≠ "java/lang/invoke/VarHandle" ∧ (parseMethodDescriptor yX2_name.desc).map (fun d => d.parameters.length) = some 1 := by decide +kernel
abbrev cX2_work : ByteArray := prog_17_method_58_code
def yX2_work : MethodName := ⟨RX2, "work", "(I)V"⟩
def dkwX2_work_15 : List UInt8 := [167, 0, 4, 3, 84, 132, 6, 1, 167, 254, 203, 177]
abbrev dktX2_work_15 : List UInt8 := dkwX2_work_15 ++ []
def dkwX2_work_14 : List UInt8 := [42, 180, 0, 39, 21, 5, 4, 100, 51, 154, 0, 13, 42, 180, 0, 39, 21, 5, 51, 153, 0, 7, 4]
abbrev dktX2_work_14 : List UInt8 := dkwX2_work_14 ++ dktX2_work_15
def dkwX2_work_13 : List UInt8 := [4, 100, 51, 153, 0, 17, 42, 180, 0, 39, 21, 5, 51, 153, 0, 7, 4, 167, 0, 34, 3, 167, 0, 30]
abbrev dktX2_work_13 : List UInt8 := dkwX2_work_13 ++ dktX2_work_14
def dkwX2_work_12 : List UInt8 := [132, 5, 255, 42, 180, 0, 39, 21, 5, 4, 100, 21, 7, 16, 21, 160, 0, 33, 42, 180, 0, 39, 21, 5]
abbrev dktX2_work_12 : List UInt8 := dkwX2_work_12 ++ dktX2_work_13
def dkwX2_work_11 : List UInt8 := [100, 42, 180, 0, 39, 21, 5, 4, 100, 51, 154, 0, 7, 4, 167, 0, 4, 3, 84, 167, 0, 79]
abbrev dktX2_work_11 : List UInt8 := dkwX2_work_11 ++ dktX2_work_12
def dkwX2_work_10 : List UInt8 := [184, 1, 25, 84, 132, 5, 1, 167, 0, 115, 21, 7, 16, 20, 160, 0, 32, 42, 180, 0, 39, 21, 5, 4]
abbrev dktX2_work_10 : List UInt8 := dkwX2_work_10 ++ dktX2_work_11
def dkwX2_work_9 : List UInt8 := [180, 0, 39, 21, 5, 21, 7, 42, 180, 0, 35, 21, 4, 47, 42, 180, 0, 35, 21, 4, 4, 96, 47]
abbrev dktX2_work_9 : List UInt8 := dkwX2_work_9 ++ dktX2_work_10
def dkwX2_work_8 : List UInt8 := [180, 0, 35, 21, 4, 47, 184, 1, 21, 80, 167, 0, 159, 21, 7, 16, 20, 162, 0, 40, 132, 4, 254, 42]
abbrev dktX2_work_8 : List UInt8 := dkwX2_work_8 ++ dktX2_work_9
def dkwX2_work_7 : List UInt8 := [132, 4, 255, 42, 180, 0, 35, 21, 4, 4, 100, 21, 7, 42, 180, 0, 35, 21, 4, 4, 100, 47, 42]
abbrev dktX2_work_7 : List UInt8 := dkwX2_work_7 ++ dktX2_work_8
def dkwX2_work_6 : List UInt8 := [100, 42, 180, 0, 35, 21, 4, 4, 100, 47, 117, 80, 167, 0, 202, 21, 7, 16, 10, 162, 0, 39]
abbrev dktX2_work_6 : List UInt8 := dkwX2_work_6 ++ dktX2_work_7
def dkwX2_work_5 : List UInt8 := [21, 8, 46, 133, 80, 132, 4, 1, 167, 0, 230, 21, 7, 5, 160, 0, 25, 42, 180, 0, 35, 21, 4, 4]
abbrev dktX2_work_5 : List UInt8 := dkwX2_work_5 ++ dktX2_work_6
def dkwX2_work_4 : List UInt8 := [163, 0, 35, 42, 180, 0, 35, 21, 4, 21, 7, 154, 0, 9, 21, 8, 133, 167, 0, 11, 42, 180, 0, 32]
abbrev dktX2_work_4 : List UInt8 := dkwX2_work_4 ++ dktX2_work_5
def dkwX2_work_3 : List UInt8 := [104, 96, 46, 54, 7, 42, 180, 0, 16, 29, 5, 21, 6, 104, 96, 4, 96, 46, 54, 8, 21, 7, 4]
abbrev dktX2_work_3 : List UInt8 := dkwX2_work_3 ++ dktX2_work_4
def dkwX2_work_2 : List UInt8 := [46, 54, 6, 21, 6, 42, 180, 0, 16, 28, 6, 96, 46, 162, 1, 46, 42, 180, 0, 16, 29, 5, 21, 6]
abbrev dktX2_work_2 : List UInt8 := dkwX2_work_2 ++ dktX2_work_3
def dkwX2_work_1 : List UInt8 := [180, 0, 7, 16, 6, 46, 104, 16, 97, 96, 62, 3, 54, 4, 3, 54, 5, 42, 180, 0, 16, 28, 5, 96]
abbrev dktX2_work_1 : List UInt8 := dkwX2_work_1 ++ dktX2_work_2
def dkwX2_work_0 : List UInt8 := [17, 2, 193, 42, 180, 0, 7, 16, 6, 46, 104, 4, 96, 7, 27, 104, 96, 61, 17, 2, 193, 42]
abbrev dktX2_work_0 : List UInt8 := dkwX2_work_0 ++ dktX2_work_1
theorem dksX2_work_0 : cX2_work.data.toList.drop 0 = dktX2_work_0 := by decide +kernel
theorem dksX2_work_1 : cX2_work.data.toList.drop 22 = dktX2_work_1 := dk_seg dksX2_work_0 22 rfl rfl
theorem dksX2_work_2 : cX2_work.data.toList.drop 46 = dktX2_work_2 := dk_seg dksX2_work_1 24 rfl rfl
theorem dksX2_work_3 : cX2_work.data.toList.drop 70 = dktX2_work_3 := dk_seg dksX2_work_2 24 rfl rfl
theorem dksX2_work_4 : cX2_work.data.toList.drop 93 = dktX2_work_4 := dk_seg dksX2_work_3 23 rfl rfl
theorem dksX2_work_5 : cX2_work.data.toList.drop 117 = dktX2_work_5 := dk_seg dksX2_work_4 24 rfl rfl
theorem dksX2_work_6 : cX2_work.data.toList.drop 141 = dktX2_work_6 := dk_seg dksX2_work_5 24 rfl rfl
theorem dksX2_work_7 : cX2_work.data.toList.drop 163 = dktX2_work_7 := dk_seg dksX2_work_6 22 rfl rfl
theorem dksX2_work_8 : cX2_work.data.toList.drop 186 = dktX2_work_8 := dk_seg dksX2_work_7 23 rfl rfl
theorem dksX2_work_9 : cX2_work.data.toList.drop 210 = dktX2_work_9 := dk_seg dksX2_work_8 24 rfl rfl
theorem dksX2_work_10 : cX2_work.data.toList.drop 233 = dktX2_work_10 := dk_seg dksX2_work_9 23 rfl rfl
theorem dksX2_work_11 : cX2_work.data.toList.drop 257 = dktX2_work_11 := dk_seg dksX2_work_10 24 rfl rfl
theorem dksX2_work_12 : cX2_work.data.toList.drop 279 = dktX2_work_12 := dk_seg dksX2_work_11 22 rfl rfl
theorem dksX2_work_13 : cX2_work.data.toList.drop 303 = dktX2_work_13 := dk_seg dksX2_work_12 24 rfl rfl
theorem dksX2_work_14 : cX2_work.data.toList.drop 327 = dktX2_work_14 := dk_seg dksX2_work_13 24 rfl rfl
theorem dksX2_work_15 : cX2_work.data.toList.drop 350 = dktX2_work_15 := dk_seg dksX2_work_14 23 rfl rfl
theorem dX2_work_0 : decode cX2_work 0 = .ok (.sipush 705, 3) := dk_17 2 193 (dk_at dksX2_work_0 0 rfl rfl)
theorem dX2_work_3 : decode cX2_work 3 = .ok (.aload_n 0, 1) := dk_42 (dk_at dksX2_work_0 3 rfl rfl)
theorem dX2_work_4 : decode cX2_work 4 = .ok (.getfield 7, 3) := dk_180 0 7 (dk_at dksX2_work_0 4 rfl rfl)
theorem dX2_work_7 : decode cX2_work 7 = .ok (.bipush 6, 2) := dk_16 6 (dk_at dksX2_work_0 7 rfl rfl)
theorem dX2_work_9 : decode cX2_work 9 = .ok (.iaload, 1) := dk_46 (dk_at dksX2_work_0 9 rfl rfl)
theorem dX2_work_10 : decode cX2_work 10 = .ok (.imul, 1) := dk_104 (dk_at dksX2_work_0 10 rfl rfl)
theorem dX2_work_11 : decode cX2_work 11 = .ok (.iconst 1, 1) := dk_4 (dk_at dksX2_work_0 11 rfl rfl)
theorem dX2_work_12 : decode cX2_work 12 = .ok (.iadd, 1) := dk_96 (dk_at dksX2_work_0 12 rfl rfl)
theorem dX2_work_13 : decode cX2_work 13 = .ok (.iconst 4, 1) := dk_7 (dk_at dksX2_work_0 13 rfl rfl)
theorem dX2_work_14 : decode cX2_work 14 = .ok (.iload_n 1, 1) := dk_27 (dk_at dksX2_work_0 14 rfl rfl)
theorem dX2_work_15 : decode cX2_work 15 = .ok (.imul, 1) := dk_104 (dk_at dksX2_work_0 15 rfl rfl)
theorem dX2_work_16 : decode cX2_work 16 = .ok (.iadd, 1) := dk_96 (dk_at dksX2_work_0 16 rfl rfl)
theorem dX2_work_17 : decode cX2_work 17 = .ok (.istore_n 2, 1) := dk_61 (dk_at dksX2_work_0 17 rfl rfl)
theorem dX2_work_18 : decode cX2_work 18 = .ok (.sipush 705, 3) := dk_17 2 193 (dk_at dksX2_work_0 18 rfl rfl)
theorem dX2_work_21 : decode cX2_work 21 = .ok (.aload_n 0, 1) := dk_42 (dk_at dksX2_work_0 21 rfl rfl)
theorem dX2_work_22 : decode cX2_work 22 = .ok (.getfield 7, 3) := dk_180 0 7 (dk_at dksX2_work_1 0 rfl rfl)
theorem dX2_work_25 : decode cX2_work 25 = .ok (.bipush 6, 2) := dk_16 6 (dk_at dksX2_work_1 3 rfl rfl)
theorem dX2_work_27 : decode cX2_work 27 = .ok (.iaload, 1) := dk_46 (dk_at dksX2_work_1 5 rfl rfl)
theorem dX2_work_28 : decode cX2_work 28 = .ok (.imul, 1) := dk_104 (dk_at dksX2_work_1 6 rfl rfl)
theorem dX2_work_29 : decode cX2_work 29 = .ok (.bipush 97, 2) := dk_16 97 (dk_at dksX2_work_1 7 rfl rfl)
theorem dX2_work_31 : decode cX2_work 31 = .ok (.iadd, 1) := dk_96 (dk_at dksX2_work_1 9 rfl rfl)
theorem dX2_work_32 : decode cX2_work 32 = .ok (.istore_n 3, 1) := dk_62 (dk_at dksX2_work_1 10 rfl rfl)
theorem dX2_work_33 : decode cX2_work 33 = .ok (.iconst 0, 1) := dk_3 (dk_at dksX2_work_1 11 rfl rfl)
theorem dX2_work_34 : decode cX2_work 34 = .ok (.istore 4, 2) := dk_54 4 (dk_at dksX2_work_1 12 rfl rfl)
theorem dX2_work_36 : decode cX2_work 36 = .ok (.iconst 0, 1) := dk_3 (dk_at dksX2_work_1 14 rfl rfl)
theorem dX2_work_37 : decode cX2_work 37 = .ok (.istore 5, 2) := dk_54 5 (dk_at dksX2_work_1 15 rfl rfl)
theorem dX2_work_39 : decode cX2_work 39 = .ok (.aload_n 0, 1) := dk_42 (dk_at dksX2_work_1 17 rfl rfl)
theorem dX2_work_40 : decode cX2_work 40 = .ok (.getfield 16, 3) := dk_180 0 16 (dk_at dksX2_work_1 18 rfl rfl)
theorem dX2_work_43 : decode cX2_work 43 = .ok (.iload_n 2, 1) := dk_28 (dk_at dksX2_work_1 21 rfl rfl)
theorem dX2_work_44 : decode cX2_work 44 = .ok (.iconst 2, 1) := dk_5 (dk_at dksX2_work_1 22 rfl rfl)
theorem dX2_work_45 : decode cX2_work 45 = .ok (.iadd, 1) := dk_96 (dk_at dksX2_work_1 23 rfl rfl)
theorem dX2_work_46 : decode cX2_work 46 = .ok (.iaload, 1) := dk_46 (dk_at dksX2_work_2 0 rfl rfl)
theorem dX2_work_47 : decode cX2_work 47 = .ok (.istore 6, 2) := dk_54 6 (dk_at dksX2_work_2 1 rfl rfl)
theorem dX2_work_49 : decode cX2_work 49 = .ok (.iload 6, 2) := dk_21 6 (dk_at dksX2_work_2 3 rfl rfl)
theorem dX2_work_51 : decode cX2_work 51 = .ok (.aload_n 0, 1) := dk_42 (dk_at dksX2_work_2 5 rfl rfl)
theorem dX2_work_52 : decode cX2_work 52 = .ok (.getfield 16, 3) := dk_180 0 16 (dk_at dksX2_work_2 6 rfl rfl)
theorem dX2_work_55 : decode cX2_work 55 = .ok (.iload_n 2, 1) := dk_28 (dk_at dksX2_work_2 9 rfl rfl)
theorem dX2_work_56 : decode cX2_work 56 = .ok (.iconst 3, 1) := dk_6 (dk_at dksX2_work_2 10 rfl rfl)
theorem dX2_work_57 : decode cX2_work 57 = .ok (.iadd, 1) := dk_96 (dk_at dksX2_work_2 11 rfl rfl)
theorem dX2_work_58 : decode cX2_work 58 = .ok (.iaload, 1) := dk_46 (dk_at dksX2_work_2 12 rfl rfl)
theorem dX2_work_59 : decode cX2_work 59 = .ok (.if_icmp .ge 302, 3) := dk_162 1 46 (dk_at dksX2_work_2 13 rfl rfl)
theorem dX2_work_62 : decode cX2_work 62 = .ok (.aload_n 0, 1) := dk_42 (dk_at dksX2_work_2 16 rfl rfl)
theorem dX2_work_63 : decode cX2_work 63 = .ok (.getfield 16, 3) := dk_180 0 16 (dk_at dksX2_work_2 17 rfl rfl)
theorem dX2_work_66 : decode cX2_work 66 = .ok (.iload_n 3, 1) := dk_29 (dk_at dksX2_work_2 20 rfl rfl)
theorem dX2_work_67 : decode cX2_work 67 = .ok (.iconst 2, 1) := dk_5 (dk_at dksX2_work_2 21 rfl rfl)
theorem dX2_work_68 : decode cX2_work 68 = .ok (.iload 6, 2) := dk_21 6 (dk_at dksX2_work_2 22 rfl rfl)
theorem dX2_work_70 : decode cX2_work 70 = .ok (.imul, 1) := dk_104 (dk_at dksX2_work_3 0 rfl rfl)
theorem dX2_work_71 : decode cX2_work 71 = .ok (.iadd, 1) := dk_96 (dk_at dksX2_work_3 1 rfl rfl)
theorem dX2_work_72 : decode cX2_work 72 = .ok (.iaload, 1) := dk_46 (dk_at dksX2_work_3 2 rfl rfl)
theorem dX2_work_73 : decode cX2_work 73 = .ok (.istore 7, 2) := dk_54 7 (dk_at dksX2_work_3 3 rfl rfl)
theorem dX2_work_75 : decode cX2_work 75 = .ok (.aload_n 0, 1) := dk_42 (dk_at dksX2_work_3 5 rfl rfl)
theorem dX2_work_76 : decode cX2_work 76 = .ok (.getfield 16, 3) := dk_180 0 16 (dk_at dksX2_work_3 6 rfl rfl)
theorem dX2_work_79 : decode cX2_work 79 = .ok (.iload_n 3, 1) := dk_29 (dk_at dksX2_work_3 9 rfl rfl)
theorem dX2_work_80 : decode cX2_work 80 = .ok (.iconst 2, 1) := dk_5 (dk_at dksX2_work_3 10 rfl rfl)
theorem dX2_work_81 : decode cX2_work 81 = .ok (.iload 6, 2) := dk_21 6 (dk_at dksX2_work_3 11 rfl rfl)
theorem dX2_work_83 : decode cX2_work 83 = .ok (.imul, 1) := dk_104 (dk_at dksX2_work_3 13 rfl rfl)
theorem dX2_work_84 : decode cX2_work 84 = .ok (.iadd, 1) := dk_96 (dk_at dksX2_work_3 14 rfl rfl)
theorem dX2_work_85 : decode cX2_work 85 = .ok (.iconst 1, 1) := dk_4 (dk_at dksX2_work_3 15 rfl rfl)
theorem dX2_work_86 : decode cX2_work 86 = .ok (.iadd, 1) := dk_96 (dk_at dksX2_work_3 16 rfl rfl)
theorem dX2_work_87 : decode cX2_work 87 = .ok (.iaload, 1) := dk_46 (dk_at dksX2_work_3 17 rfl rfl)
theorem dX2_work_88 : decode cX2_work 88 = .ok (.istore 8, 2) := dk_54 8 (dk_at dksX2_work_3 18 rfl rfl)
theorem dX2_work_90 : decode cX2_work 90 = .ok (.iload 7, 2) := dk_21 7 (dk_at dksX2_work_3 20 rfl rfl)
theorem dX2_work_92 : decode cX2_work 92 = .ok (.iconst 1, 1) := dk_4 (dk_at dksX2_work_3 22 rfl rfl)
theorem dX2_work_93 : decode cX2_work 93 = .ok (.if_icmp .gt 35, 3) := dk_163 0 35 (dk_at dksX2_work_4 0 rfl rfl)
theorem dX2_work_96 : decode cX2_work 96 = .ok (.aload_n 0, 1) := dk_42 (dk_at dksX2_work_4 3 rfl rfl)
theorem dX2_work_97 : decode cX2_work 97 = .ok (.getfield 35, 3) := dk_180 0 35 (dk_at dksX2_work_4 4 rfl rfl)
theorem dX2_work_100 : decode cX2_work 100 = .ok (.iload 4, 2) := dk_21 4 (dk_at dksX2_work_4 7 rfl rfl)
theorem dX2_work_102 : decode cX2_work 102 = .ok (.iload 7, 2) := dk_21 7 (dk_at dksX2_work_4 9 rfl rfl)
theorem dX2_work_104 : decode cX2_work 104 = .ok (.ifCond .ne 9, 3) := dk_154 0 9 (dk_at dksX2_work_4 11 rfl rfl)
theorem dX2_work_107 : decode cX2_work 107 = .ok (.iload 8, 2) := dk_21 8 (dk_at dksX2_work_4 14 rfl rfl)
theorem dX2_work_109 : decode cX2_work 109 = .ok (.i2l, 1) := dk_133 (dk_at dksX2_work_4 16 rfl rfl)
theorem dX2_work_110 : decode cX2_work 110 = .ok (.goto 11, 3) := dk_167 0 11 (dk_at dksX2_work_4 17 rfl rfl)
theorem dX2_work_113 : decode cX2_work 113 = .ok (.aload_n 0, 1) := dk_42 (dk_at dksX2_work_4 20 rfl rfl)
theorem dX2_work_114 : decode cX2_work 114 = .ok (.getfield 32, 3) := dk_180 0 32 (dk_at dksX2_work_4 21 rfl rfl)
theorem dX2_work_117 : decode cX2_work 117 = .ok (.iload 8, 2) := dk_21 8 (dk_at dksX2_work_5 0 rfl rfl)
theorem dX2_work_119 : decode cX2_work 119 = .ok (.iaload, 1) := dk_46 (dk_at dksX2_work_5 2 rfl rfl)
theorem dX2_work_120 : decode cX2_work 120 = .ok (.i2l, 1) := dk_133 (dk_at dksX2_work_5 3 rfl rfl)
theorem dX2_work_121 : decode cX2_work 121 = .ok (.lastore, 1) := dk_80 (dk_at dksX2_work_5 4 rfl rfl)
theorem dX2_work_122 : decode cX2_work 122 = .ok (.iinc 4 1, 3) := dk_132 4 1 (dk_at dksX2_work_5 5 rfl rfl)
theorem dX2_work_125 : decode cX2_work 125 = .ok (.goto 230, 3) := dk_167 0 230 (dk_at dksX2_work_5 8 rfl rfl)
theorem dX2_work_128 : decode cX2_work 128 = .ok (.iload 7, 2) := dk_21 7 (dk_at dksX2_work_5 11 rfl rfl)
theorem dX2_work_130 : decode cX2_work 130 = .ok (.iconst 2, 1) := dk_5 (dk_at dksX2_work_5 13 rfl rfl)
theorem dX2_work_131 : decode cX2_work 131 = .ok (.if_icmp .ne 25, 3) := dk_160 0 25 (dk_at dksX2_work_5 14 rfl rfl)
theorem dX2_work_134 : decode cX2_work 134 = .ok (.aload_n 0, 1) := dk_42 (dk_at dksX2_work_5 17 rfl rfl)
theorem dX2_work_135 : decode cX2_work 135 = .ok (.getfield 35, 3) := dk_180 0 35 (dk_at dksX2_work_5 18 rfl rfl)
theorem dX2_work_138 : decode cX2_work 138 = .ok (.iload 4, 2) := dk_21 4 (dk_at dksX2_work_5 21 rfl rfl)
theorem dX2_work_140 : decode cX2_work 140 = .ok (.iconst 1, 1) := dk_4 (dk_at dksX2_work_5 23 rfl rfl)
theorem dX2_work_141 : decode cX2_work 141 = .ok (.isub, 1) := dk_100 (dk_at dksX2_work_6 0 rfl rfl)
theorem dX2_work_142 : decode cX2_work 142 = .ok (.aload_n 0, 1) := dk_42 (dk_at dksX2_work_6 1 rfl rfl)
theorem dX2_work_143 : decode cX2_work 143 = .ok (.getfield 35, 3) := dk_180 0 35 (dk_at dksX2_work_6 2 rfl rfl)
theorem dX2_work_146 : decode cX2_work 146 = .ok (.iload 4, 2) := dk_21 4 (dk_at dksX2_work_6 5 rfl rfl)
theorem dX2_work_148 : decode cX2_work 148 = .ok (.iconst 1, 1) := dk_4 (dk_at dksX2_work_6 7 rfl rfl)
theorem dX2_work_149 : decode cX2_work 149 = .ok (.isub, 1) := dk_100 (dk_at dksX2_work_6 8 rfl rfl)
theorem dX2_work_150 : decode cX2_work 150 = .ok (.laload, 1) := dk_47 (dk_at dksX2_work_6 9 rfl rfl)
theorem dX2_work_151 : decode cX2_work 151 = .ok (.lneg, 1) := dk_117 (dk_at dksX2_work_6 10 rfl rfl)
theorem dX2_work_152 : decode cX2_work 152 = .ok (.lastore, 1) := dk_80 (dk_at dksX2_work_6 11 rfl rfl)
theorem dX2_work_153 : decode cX2_work 153 = .ok (.goto 202, 3) := dk_167 0 202 (dk_at dksX2_work_6 12 rfl rfl)
theorem dX2_work_156 : decode cX2_work 156 = .ok (.iload 7, 2) := dk_21 7 (dk_at dksX2_work_6 15 rfl rfl)
theorem dX2_work_158 : decode cX2_work 158 = .ok (.bipush 10, 2) := dk_16 10 (dk_at dksX2_work_6 17 rfl rfl)
theorem dX2_work_160 : decode cX2_work 160 = .ok (.if_icmp .ge 39, 3) := dk_162 0 39 (dk_at dksX2_work_6 19 rfl rfl)
theorem dX2_work_163 : decode cX2_work 163 = .ok (.iinc 4 (-1), 3) := dk_132 4 255 (dk_at dksX2_work_7 0 rfl rfl)
theorem dX2_work_166 : decode cX2_work 166 = .ok (.aload_n 0, 1) := dk_42 (dk_at dksX2_work_7 3 rfl rfl)
theorem dX2_work_167 : decode cX2_work 167 = .ok (.getfield 35, 3) := dk_180 0 35 (dk_at dksX2_work_7 4 rfl rfl)
theorem dX2_work_170 : decode cX2_work 170 = .ok (.iload 4, 2) := dk_21 4 (dk_at dksX2_work_7 7 rfl rfl)
theorem dX2_work_172 : decode cX2_work 172 = .ok (.iconst 1, 1) := dk_4 (dk_at dksX2_work_7 9 rfl rfl)
theorem dX2_work_173 : decode cX2_work 173 = .ok (.isub, 1) := dk_100 (dk_at dksX2_work_7 10 rfl rfl)
theorem dX2_work_174 : decode cX2_work 174 = .ok (.iload 7, 2) := dk_21 7 (dk_at dksX2_work_7 11 rfl rfl)
theorem dX2_work_176 : decode cX2_work 176 = .ok (.aload_n 0, 1) := dk_42 (dk_at dksX2_work_7 13 rfl rfl)
theorem dX2_work_177 : decode cX2_work 177 = .ok (.getfield 35, 3) := dk_180 0 35 (dk_at dksX2_work_7 14 rfl rfl)
theorem dX2_work_180 : decode cX2_work 180 = .ok (.iload 4, 2) := dk_21 4 (dk_at dksX2_work_7 17 rfl rfl)
theorem dX2_work_182 : decode cX2_work 182 = .ok (.iconst 1, 1) := dk_4 (dk_at dksX2_work_7 19 rfl rfl)
theorem dX2_work_183 : decode cX2_work 183 = .ok (.isub, 1) := dk_100 (dk_at dksX2_work_7 20 rfl rfl)
theorem dX2_work_184 : decode cX2_work 184 = .ok (.laload, 1) := dk_47 (dk_at dksX2_work_7 21 rfl rfl)
theorem dX2_work_185 : decode cX2_work 185 = .ok (.aload_n 0, 1) := dk_42 (dk_at dksX2_work_7 22 rfl rfl)
theorem dX2_work_186 : decode cX2_work 186 = .ok (.getfield 35, 3) := dk_180 0 35 (dk_at dksX2_work_8 0 rfl rfl)
theorem dX2_work_189 : decode cX2_work 189 = .ok (.iload 4, 2) := dk_21 4 (dk_at dksX2_work_8 3 rfl rfl)
theorem dX2_work_191 : decode cX2_work 191 = .ok (.laload, 1) := dk_47 (dk_at dksX2_work_8 5 rfl rfl)
theorem dX2_work_192 : decode cX2_work 192 = .ok (.invokestatic 277, 3) := dk_184 1 21 (dk_at dksX2_work_8 6 rfl rfl)
theorem dX2_work_195 : decode cX2_work 195 = .ok (.lastore, 1) := dk_80 (dk_at dksX2_work_8 9 rfl rfl)
theorem dX2_work_196 : decode cX2_work 196 = .ok (.goto 159, 3) := dk_167 0 159 (dk_at dksX2_work_8 10 rfl rfl)
theorem dX2_work_199 : decode cX2_work 199 = .ok (.iload 7, 2) := dk_21 7 (dk_at dksX2_work_8 13 rfl rfl)
theorem dX2_work_201 : decode cX2_work 201 = .ok (.bipush 20, 2) := dk_16 20 (dk_at dksX2_work_8 15 rfl rfl)
theorem dX2_work_203 : decode cX2_work 203 = .ok (.if_icmp .ge 40, 3) := dk_162 0 40 (dk_at dksX2_work_8 17 rfl rfl)
theorem dX2_work_206 : decode cX2_work 206 = .ok (.iinc 4 (-2), 3) := dk_132 4 254 (dk_at dksX2_work_8 20 rfl rfl)
theorem dX2_work_209 : decode cX2_work 209 = .ok (.aload_n 0, 1) := dk_42 (dk_at dksX2_work_8 23 rfl rfl)
theorem dX2_work_210 : decode cX2_work 210 = .ok (.getfield 39, 3) := dk_180 0 39 (dk_at dksX2_work_9 0 rfl rfl)
theorem dX2_work_213 : decode cX2_work 213 = .ok (.iload 5, 2) := dk_21 5 (dk_at dksX2_work_9 3 rfl rfl)
theorem dX2_work_215 : decode cX2_work 215 = .ok (.iload 7, 2) := dk_21 7 (dk_at dksX2_work_9 5 rfl rfl)
theorem dX2_work_217 : decode cX2_work 217 = .ok (.aload_n 0, 1) := dk_42 (dk_at dksX2_work_9 7 rfl rfl)
theorem dX2_work_218 : decode cX2_work 218 = .ok (.getfield 35, 3) := dk_180 0 35 (dk_at dksX2_work_9 8 rfl rfl)
theorem dX2_work_221 : decode cX2_work 221 = .ok (.iload 4, 2) := dk_21 4 (dk_at dksX2_work_9 11 rfl rfl)
theorem dX2_work_223 : decode cX2_work 223 = .ok (.laload, 1) := dk_47 (dk_at dksX2_work_9 13 rfl rfl)
theorem dX2_work_224 : decode cX2_work 224 = .ok (.aload_n 0, 1) := dk_42 (dk_at dksX2_work_9 14 rfl rfl)
theorem dX2_work_225 : decode cX2_work 225 = .ok (.getfield 35, 3) := dk_180 0 35 (dk_at dksX2_work_9 15 rfl rfl)
theorem dX2_work_228 : decode cX2_work 228 = .ok (.iload 4, 2) := dk_21 4 (dk_at dksX2_work_9 18 rfl rfl)
theorem dX2_work_230 : decode cX2_work 230 = .ok (.iconst 1, 1) := dk_4 (dk_at dksX2_work_9 20 rfl rfl)
theorem dX2_work_231 : decode cX2_work 231 = .ok (.iadd, 1) := dk_96 (dk_at dksX2_work_9 21 rfl rfl)
theorem dX2_work_232 : decode cX2_work 232 = .ok (.laload, 1) := dk_47 (dk_at dksX2_work_9 22 rfl rfl)
theorem dX2_work_233 : decode cX2_work 233 = .ok (.invokestatic 281, 3) := dk_184 1 25 (dk_at dksX2_work_10 0 rfl rfl)
theorem dX2_work_236 : decode cX2_work 236 = .ok (.bastore, 1) := dk_84 (dk_at dksX2_work_10 3 rfl rfl)
theorem dX2_work_237 : decode cX2_work 237 = .ok (.iinc 5 1, 3) := dk_132 5 1 (dk_at dksX2_work_10 4 rfl rfl)
theorem dX2_work_240 : decode cX2_work 240 = .ok (.goto 115, 3) := dk_167 0 115 (dk_at dksX2_work_10 7 rfl rfl)
theorem dX2_work_243 : decode cX2_work 243 = .ok (.iload 7, 2) := dk_21 7 (dk_at dksX2_work_10 10 rfl rfl)
theorem dX2_work_245 : decode cX2_work 245 = .ok (.bipush 20, 2) := dk_16 20 (dk_at dksX2_work_10 12 rfl rfl)
theorem dX2_work_247 : decode cX2_work 247 = .ok (.if_icmp .ne 32, 3) := dk_160 0 32 (dk_at dksX2_work_10 14 rfl rfl)
theorem dX2_work_250 : decode cX2_work 250 = .ok (.aload_n 0, 1) := dk_42 (dk_at dksX2_work_10 17 rfl rfl)
theorem dX2_work_251 : decode cX2_work 251 = .ok (.getfield 39, 3) := dk_180 0 39 (dk_at dksX2_work_10 18 rfl rfl)
theorem dX2_work_254 : decode cX2_work 254 = .ok (.iload 5, 2) := dk_21 5 (dk_at dksX2_work_10 21 rfl rfl)
theorem dX2_work_256 : decode cX2_work 256 = .ok (.iconst 1, 1) := dk_4 (dk_at dksX2_work_10 23 rfl rfl)
theorem dX2_work_257 : decode cX2_work 257 = .ok (.isub, 1) := dk_100 (dk_at dksX2_work_11 0 rfl rfl)
theorem dX2_work_258 : decode cX2_work 258 = .ok (.aload_n 0, 1) := dk_42 (dk_at dksX2_work_11 1 rfl rfl)
theorem dX2_work_259 : decode cX2_work 259 = .ok (.getfield 39, 3) := dk_180 0 39 (dk_at dksX2_work_11 2 rfl rfl)
theorem dX2_work_262 : decode cX2_work 262 = .ok (.iload 5, 2) := dk_21 5 (dk_at dksX2_work_11 5 rfl rfl)
theorem dX2_work_264 : decode cX2_work 264 = .ok (.iconst 1, 1) := dk_4 (dk_at dksX2_work_11 7 rfl rfl)
theorem dX2_work_265 : decode cX2_work 265 = .ok (.isub, 1) := dk_100 (dk_at dksX2_work_11 8 rfl rfl)
theorem dX2_work_266 : decode cX2_work 266 = .ok (.baload, 1) := dk_51 (dk_at dksX2_work_11 9 rfl rfl)
theorem dX2_work_267 : decode cX2_work 267 = .ok (.ifCond .ne 7, 3) := dk_154 0 7 (dk_at dksX2_work_11 10 rfl rfl)
theorem dX2_work_270 : decode cX2_work 270 = .ok (.iconst 1, 1) := dk_4 (dk_at dksX2_work_11 13 rfl rfl)
theorem dX2_work_271 : decode cX2_work 271 = .ok (.goto 4, 3) := dk_167 0 4 (dk_at dksX2_work_11 14 rfl rfl)
theorem dX2_work_274 : decode cX2_work 274 = .ok (.iconst 0, 1) := dk_3 (dk_at dksX2_work_11 17 rfl rfl)
theorem dX2_work_275 : decode cX2_work 275 = .ok (.bastore, 1) := dk_84 (dk_at dksX2_work_11 18 rfl rfl)
theorem dX2_work_276 : decode cX2_work 276 = .ok (.goto 79, 3) := dk_167 0 79 (dk_at dksX2_work_11 19 rfl rfl)
theorem dX2_work_279 : decode cX2_work 279 = .ok (.iinc 5 (-1), 3) := dk_132 5 255 (dk_at dksX2_work_12 0 rfl rfl)
theorem dX2_work_282 : decode cX2_work 282 = .ok (.aload_n 0, 1) := dk_42 (dk_at dksX2_work_12 3 rfl rfl)
theorem dX2_work_283 : decode cX2_work 283 = .ok (.getfield 39, 3) := dk_180 0 39 (dk_at dksX2_work_12 4 rfl rfl)
theorem dX2_work_286 : decode cX2_work 286 = .ok (.iload 5, 2) := dk_21 5 (dk_at dksX2_work_12 7 rfl rfl)
theorem dX2_work_288 : decode cX2_work 288 = .ok (.iconst 1, 1) := dk_4 (dk_at dksX2_work_12 9 rfl rfl)
theorem dX2_work_289 : decode cX2_work 289 = .ok (.isub, 1) := dk_100 (dk_at dksX2_work_12 10 rfl rfl)
theorem dX2_work_290 : decode cX2_work 290 = .ok (.iload 7, 2) := dk_21 7 (dk_at dksX2_work_12 11 rfl rfl)
theorem dX2_work_292 : decode cX2_work 292 = .ok (.bipush 21, 2) := dk_16 21 (dk_at dksX2_work_12 13 rfl rfl)
theorem dX2_work_294 : decode cX2_work 294 = .ok (.if_icmp .ne 33, 3) := dk_160 0 33 (dk_at dksX2_work_12 15 rfl rfl)
theorem dX2_work_297 : decode cX2_work 297 = .ok (.aload_n 0, 1) := dk_42 (dk_at dksX2_work_12 18 rfl rfl)
theorem dX2_work_298 : decode cX2_work 298 = .ok (.getfield 39, 3) := dk_180 0 39 (dk_at dksX2_work_12 19 rfl rfl)
theorem dX2_work_301 : decode cX2_work 301 = .ok (.iload 5, 2) := dk_21 5 (dk_at dksX2_work_12 22 rfl rfl)
theorem dX2_work_303 : decode cX2_work 303 = .ok (.iconst 1, 1) := dk_4 (dk_at dksX2_work_13 0 rfl rfl)
theorem dX2_work_304 : decode cX2_work 304 = .ok (.isub, 1) := dk_100 (dk_at dksX2_work_13 1 rfl rfl)
theorem dX2_work_305 : decode cX2_work 305 = .ok (.baload, 1) := dk_51 (dk_at dksX2_work_13 2 rfl rfl)
theorem dX2_work_306 : decode cX2_work 306 = .ok (.ifCond .eq 17, 3) := dk_153 0 17 (dk_at dksX2_work_13 3 rfl rfl)
theorem dX2_work_309 : decode cX2_work 309 = .ok (.aload_n 0, 1) := dk_42 (dk_at dksX2_work_13 6 rfl rfl)
theorem dX2_work_310 : decode cX2_work 310 = .ok (.getfield 39, 3) := dk_180 0 39 (dk_at dksX2_work_13 7 rfl rfl)
theorem dX2_work_313 : decode cX2_work 313 = .ok (.iload 5, 2) := dk_21 5 (dk_at dksX2_work_13 10 rfl rfl)
theorem dX2_work_315 : decode cX2_work 315 = .ok (.baload, 1) := dk_51 (dk_at dksX2_work_13 12 rfl rfl)
theorem dX2_work_316 : decode cX2_work 316 = .ok (.ifCond .eq 7, 3) := dk_153 0 7 (dk_at dksX2_work_13 13 rfl rfl)
theorem dX2_work_319 : decode cX2_work 319 = .ok (.iconst 1, 1) := dk_4 (dk_at dksX2_work_13 16 rfl rfl)
theorem dX2_work_320 : decode cX2_work 320 = .ok (.goto 34, 3) := dk_167 0 34 (dk_at dksX2_work_13 17 rfl rfl)
theorem dX2_work_323 : decode cX2_work 323 = .ok (.iconst 0, 1) := dk_3 (dk_at dksX2_work_13 20 rfl rfl)
theorem dX2_work_324 : decode cX2_work 324 = .ok (.goto 30, 3) := dk_167 0 30 (dk_at dksX2_work_13 21 rfl rfl)
theorem dX2_work_327 : decode cX2_work 327 = .ok (.aload_n 0, 1) := dk_42 (dk_at dksX2_work_14 0 rfl rfl)
theorem dX2_work_328 : decode cX2_work 328 = .ok (.getfield 39, 3) := dk_180 0 39 (dk_at dksX2_work_14 1 rfl rfl)
theorem dX2_work_331 : decode cX2_work 331 = .ok (.iload 5, 2) := dk_21 5 (dk_at dksX2_work_14 4 rfl rfl)
theorem dX2_work_333 : decode cX2_work 333 = .ok (.iconst 1, 1) := dk_4 (dk_at dksX2_work_14 6 rfl rfl)
theorem dX2_work_334 : decode cX2_work 334 = .ok (.isub, 1) := dk_100 (dk_at dksX2_work_14 7 rfl rfl)
theorem dX2_work_335 : decode cX2_work 335 = .ok (.baload, 1) := dk_51 (dk_at dksX2_work_14 8 rfl rfl)
theorem dX2_work_336 : decode cX2_work 336 = .ok (.ifCond .ne 13, 3) := dk_154 0 13 (dk_at dksX2_work_14 9 rfl rfl)
theorem dX2_work_339 : decode cX2_work 339 = .ok (.aload_n 0, 1) := dk_42 (dk_at dksX2_work_14 12 rfl rfl)
theorem dX2_work_340 : decode cX2_work 340 = .ok (.getfield 39, 3) := dk_180 0 39 (dk_at dksX2_work_14 13 rfl rfl)
theorem dX2_work_343 : decode cX2_work 343 = .ok (.iload 5, 2) := dk_21 5 (dk_at dksX2_work_14 16 rfl rfl)
theorem dX2_work_345 : decode cX2_work 345 = .ok (.baload, 1) := dk_51 (dk_at dksX2_work_14 18 rfl rfl)
theorem dX2_work_346 : decode cX2_work 346 = .ok (.ifCond .eq 7, 3) := dk_153 0 7 (dk_at dksX2_work_14 19 rfl rfl)
theorem dX2_work_349 : decode cX2_work 349 = .ok (.iconst 1, 1) := dk_4 (dk_at dksX2_work_14 22 rfl rfl)
theorem dX2_work_350 : decode cX2_work 350 = .ok (.goto 4, 3) := dk_167 0 4 (dk_at dksX2_work_15 0 rfl rfl)
theorem dX2_work_353 : decode cX2_work 353 = .ok (.iconst 0, 1) := dk_3 (dk_at dksX2_work_15 3 rfl rfl)
theorem dX2_work_354 : decode cX2_work 354 = .ok (.bastore, 1) := dk_84 (dk_at dksX2_work_15 4 rfl rfl)
theorem dX2_work_355 : decode cX2_work 355 = .ok (.iinc 6 1, 3) := dk_132 6 1 (dk_at dksX2_work_15 5 rfl rfl)
theorem dX2_work_358 : decode cX2_work 358 = .ok (.goto (-309), 3) := dk_167 254 203 (dk_at dksX2_work_15 8 rfl rfl)
theorem dX2_work_361 : decode cX2_work 361 = .ok (.return_, 1) := dk_177 (dk_at dksX2_work_15 11 rfl rfl)
abbrev MX2_work : jjM := (yX2_work, cX2_work, 9, (Option.none : Option Jvm.ClassFile.FieldType))
theorem npX2_work : yX2_work.cls ≠ "java/lang/invoke/MethodHandle" ∧ yX2_work.cls ≠ "java/lang/invoke/VarHandle" ∧ (parseMethodDescriptor yX2_work.desc).map (fun d => d.parameters.length) = some 1 := by decide +kernel
abbrev cX2_two : ByteArray := prog_17_method_56_code
def yX2_two : MethodName := ⟨RX2, "two", "(IJJ)J"⟩
def dkwX2_two_3 : List UInt8 := [154, 0, 7, 9, 167, 0, 9, 31, 33, 109, 184, 1, 17, 173]
abbrev dktX2_two_3 : List UInt8 := dkwX2_two_3 ++ []
def dkwX2_two_2 : List UInt8 := [31, 33, 97, 184, 1, 17, 173, 31, 33, 101, 184, 1, 17, 173, 31, 33, 105, 184, 1, 17, 173, 33, 9, 148]
abbrev dktX2_two_2 : List UInt8 := dkwX2_two_2 ++ dktX2_two_3
def dkwX2_two_1 : List UInt8 := [170, 0, 0, 0, 0, 0, 48, 0, 0, 0, 3, 0, 0, 0, 5, 0, 0, 0, 27, 0, 0, 0, 34, 0, 0, 0, 41]
abbrev dktX2_two_1 : List UInt8 := dkwX2_two_1 ++ dktX2_two_2
def dkwX2_two_0 : List UInt8 := [26]
abbrev dktX2_two_0 : List UInt8 := dkwX2_two_0 ++ dktX2_two_1
theorem dksX2_two_0 : cX2_two.data.toList.drop 0 = dktX2_two_0 := by decide +kernel
theorem dksX2_two_1 : cX2_two.data.toList.drop 1 = dktX2_two_1 := dk_seg dksX2_two_0 1 rfl rfl
theorem dksX2_two_2 : cX2_two.data.toList.drop 28 = dktX2_two_2 := dk_seg dksX2_two_1 27 rfl rfl
theorem dksX2_two_3 : cX2_two.data.toList.drop 52 = dktX2_two_3 := dk_seg dksX2_two_2 24 rfl rfl
theorem dX2_two_0 : decode cX2_two 0 = .ok (.iload_n 0, 1) := dk_26 (dk_at dksX2_two_0 0 rfl rfl)
theorem dX2_two_1 : decode cX2_two 1 = .ok (.tableswitch 48 3 5 #[27, 34, 41], 27) := by decide +kernel
theorem dX2_two_28 : decode cX2_two 28 = .ok (.lload_n 1, 1) := dk_31 (dk_at dksX2_two_2 0 rfl rfl)
theorem dX2_two_29 : decode cX2_two 29 = .ok (.lload_n 3, 1) := dk_33 (dk_at dksX2_two_2 1 rfl rfl)
theorem dX2_two_30 : decode cX2_two 30 = .ok (.ladd, 1) := dk_97 (dk_at dksX2_two_2 2 rfl rfl)
theorem dX2_two_31 : decode cX2_two 31 = .ok (.invokestatic 273, 3) := dk_184 1 17 (dk_at dksX2_two_2 3 rfl rfl)
theorem dX2_two_34 : decode cX2_two 34 = .ok (.lreturn, 1) := dk_173 (dk_at dksX2_two_2 6 rfl rfl)
theorem dX2_two_35 : decode cX2_two 35 = .ok (.lload_n 1, 1) := dk_31 (dk_at dksX2_two_2 7 rfl rfl)
theorem dX2_two_36 : decode cX2_two 36 = .ok (.lload_n 3, 1) := dk_33 (dk_at dksX2_two_2 8 rfl rfl)
theorem dX2_two_37 : decode cX2_two 37 = .ok (.lsub, 1) := dk_101 (dk_at dksX2_two_2 9 rfl rfl)
theorem dX2_two_38 : decode cX2_two 38 = .ok (.invokestatic 273, 3) := dk_184 1 17 (dk_at dksX2_two_2 10 rfl rfl)
theorem dX2_two_41 : decode cX2_two 41 = .ok (.lreturn, 1) := dk_173 (dk_at dksX2_two_2 13 rfl rfl)
theorem dX2_two_42 : decode cX2_two 42 = .ok (.lload_n 1, 1) := dk_31 (dk_at dksX2_two_2 14 rfl rfl)
theorem dX2_two_43 : decode cX2_two 43 = .ok (.lload_n 3, 1) := dk_33 (dk_at dksX2_two_2 15 rfl rfl)
theorem dX2_two_44 : decode cX2_two 44 = .ok (.lmul, 1) := dk_105 (dk_at dksX2_two_2 16 rfl rfl)
theorem dX2_two_45 : decode cX2_two 45 = .ok (.invokestatic 273, 3) := dk_184 1 17 (dk_at dksX2_two_2 17 rfl rfl)
theorem dX2_two_48 : decode cX2_two 48 = .ok (.lreturn, 1) := dk_173 (dk_at dksX2_two_2 20 rfl rfl)
theorem dX2_two_49 : decode cX2_two 49 = .ok (.lload_n 3, 1) := dk_33 (dk_at dksX2_two_2 21 rfl rfl)
theorem dX2_two_50 : decode cX2_two 50 = .ok (.lconst 0, 1) := dk_9 (dk_at dksX2_two_2 22 rfl rfl)
theorem dX2_two_51 : decode cX2_two 51 = .ok (.lcmp, 1) := dk_148 (dk_at dksX2_two_2 23 rfl rfl)
theorem dX2_two_52 : decode cX2_two 52 = .ok (.ifCond .ne 7, 3) := dk_154 0 7 (dk_at dksX2_two_3 0 rfl rfl)
theorem dX2_two_55 : decode cX2_two 55 = .ok (.lconst 0, 1) := dk_9 (dk_at dksX2_two_3 3 rfl rfl)
theorem dX2_two_56 : decode cX2_two 56 = .ok (.goto 9, 3) := dk_167 0 9 (dk_at dksX2_two_3 4 rfl rfl)
theorem dX2_two_59 : decode cX2_two 59 = .ok (.lload_n 1, 1) := dk_31 (dk_at dksX2_two_3 7 rfl rfl)
theorem dX2_two_60 : decode cX2_two 60 = .ok (.lload_n 3, 1) := dk_33 (dk_at dksX2_two_3 8 rfl rfl)
theorem dX2_two_61 : decode cX2_two 61 = .ok (.ldiv, 1) := dk_109 (dk_at dksX2_two_3 9 rfl rfl)
theorem dX2_two_62 : decode cX2_two 62 = .ok (.invokestatic 273, 3) := dk_184 1 17 (dk_at dksX2_two_3 10 rfl rfl)
theorem dX2_two_65 : decode cX2_two 65 = .ok (.lreturn, 1) := dk_173 (dk_at dksX2_two_3 13 rfl rfl)
abbrev MX2_two : jjM := (yX2_two, cX2_two, 5, (Option.some Jvm.ClassFile.FieldType.long))
theorem npX2_two : yX2_two.cls ≠ "java/lang/invoke/MethodHandle" ∧ yX2_two.cls ≠ "java/lang/invoke/VarHandle" ∧ (parseMethodDescriptor yX2_two.desc).map (fun d => d.parameters.length) = some 3 := by decide +kernel
abbrev cX2_clip : ByteArray := prog_17_method_55_code
def yX2_clip : MethodName := ⟨RX2, "clip", "(J)J"⟩
def dkwX2_clip_1 : List UInt8 := [20, 1, 15, 167, 0, 4, 30, 173]
abbrev dktX2_clip_1 : List UInt8 := dkwX2_clip_1 ++ []
def dkwX2_clip_0 : List UInt8 := [30, 20, 1, 13, 148, 158, 0, 9, 20, 1, 13, 167, 0, 18, 30, 20, 1, 15, 148, 156, 0, 9]
abbrev dktX2_clip_0 : List UInt8 := dkwX2_clip_0 ++ dktX2_clip_1
theorem dksX2_clip_0 : cX2_clip.data.toList.drop 0 = dktX2_clip_0 := by decide +kernel
theorem dksX2_clip_1 : cX2_clip.data.toList.drop 22 = dktX2_clip_1 := dk_seg dksX2_clip_0 22 rfl rfl
theorem dX2_clip_0 : decode cX2_clip 0 = .ok (.lload_n 0, 1) := dk_30 (dk_at dksX2_clip_0 0 rfl rfl)
theorem dX2_clip_1 : decode cX2_clip 1 = .ok (.ldc2_w 269, 3) := dk_20 1 13 (dk_at dksX2_clip_0 1 rfl rfl)
theorem dX2_clip_4 : decode cX2_clip 4 = .ok (.lcmp, 1) := dk_148 (dk_at dksX2_clip_0 4 rfl rfl)
theorem dX2_clip_5 : decode cX2_clip 5 = .ok (.ifCond .le 9, 3) := dk_158 0 9 (dk_at dksX2_clip_0 5 rfl rfl)
theorem dX2_clip_8 : decode cX2_clip 8 = .ok (.ldc2_w 269, 3) := dk_20 1 13 (dk_at dksX2_clip_0 8 rfl rfl)
theorem dX2_clip_11 : decode cX2_clip 11 = .ok (.goto 18, 3) := dk_167 0 18 (dk_at dksX2_clip_0 11 rfl rfl)
theorem dX2_clip_14 : decode cX2_clip 14 = .ok (.lload_n 0, 1) := dk_30 (dk_at dksX2_clip_0 14 rfl rfl)
theorem dX2_clip_15 : decode cX2_clip 15 = .ok (.ldc2_w 271, 3) := dk_20 1 15 (dk_at dksX2_clip_0 15 rfl rfl)
theorem dX2_clip_18 : decode cX2_clip 18 = .ok (.lcmp, 1) := dk_148 (dk_at dksX2_clip_0 18 rfl rfl)
theorem dX2_clip_19 : decode cX2_clip 19 = .ok (.ifCond .ge 9, 3) := dk_156 0 9 (dk_at dksX2_clip_0 19 rfl rfl)
theorem dX2_clip_22 : decode cX2_clip 22 = .ok (.ldc2_w 271, 3) := dk_20 1 15 (dk_at dksX2_clip_1 0 rfl rfl)
theorem dX2_clip_25 : decode cX2_clip 25 = .ok (.goto 4, 3) := dk_167 0 4 (dk_at dksX2_clip_1 3 rfl rfl)
theorem dX2_clip_28 : decode cX2_clip 28 = .ok (.lload_n 0, 1) := dk_30 (dk_at dksX2_clip_1 6 rfl rfl)
theorem dX2_clip_29 : decode cX2_clip 29 = .ok (.lreturn, 1) := dk_173 (dk_at dksX2_clip_1 7 rfl rfl)
abbrev MX2_clip : jjM := (yX2_clip, cX2_clip, 2, (Option.some Jvm.ClassFile.FieldType.long))
theorem npX2_clip : yX2_clip.cls ≠ "java/lang/invoke/MethodHandle" ∧ yX2_clip.cls ≠ "java/lang/invoke/VarHandle" ∧ (parseMethodDescriptor yX2_clip.desc).map (fun d => d.parameters.length) = some 1 := by decide +kernel
abbrev cX2_isAsked : ByteArray := prog_17_method_57_code
def yX2_isAsked : MethodName := ⟨RX2, "isAsked", "(IJJ)Z"⟩
def dkwX2_isAsked_4 : List UInt8 := [167, 0, 18, 3, 167, 0, 14, 31, 33, 148, 153, 0, 7, 4, 167, 0, 4, 3, 172]
abbrev dktX2_isAsked_4 : List UInt8 := dkwX2_isAsked_4 ++ []
def dkwX2_isAsked_3 : List UInt8 := [155, 0, 7, 4, 167, 0, 38, 3, 167, 0, 34, 26, 16, 14, 160, 0, 17, 31, 33, 148, 154, 0, 7, 4]
abbrev dktX2_isAsked_3 : List UInt8 := dkwX2_isAsked_3 ++ dktX2_isAsked_4
def dkwX2_isAsked_2 : List UInt8 := [33, 148, 158, 0, 7, 4, 167, 0, 58, 3, 167, 0, 54, 26, 16, 13, 160, 0, 17, 31, 33, 148]
abbrev dktX2_isAsked_2 : List UInt8 := dkwX2_isAsked_2 ++ dktX2_isAsked_3
def dkwX2_isAsked_1 : List UInt8 := [160, 0, 17, 31, 33, 148, 157, 0, 7, 4, 167, 0, 78, 3, 167, 0, 74, 26, 16, 12, 160, 0, 17, 31]
abbrev dktX2_isAsked_1 : List UInt8 := dkwX2_isAsked_1 ++ dktX2_isAsked_2
def dkwX2_isAsked_0 : List UInt8 := [26, 16, 10, 160, 0, 17, 31, 33, 148, 156, 0, 7, 4, 167, 0, 98, 3, 167, 0, 94, 26, 16, 11]
abbrev dktX2_isAsked_0 : List UInt8 := dkwX2_isAsked_0 ++ dktX2_isAsked_1
theorem dksX2_isAsked_0 : cX2_isAsked.data.toList.drop 0 = dktX2_isAsked_0 := by decide +kernel
theorem dksX2_isAsked_1 : cX2_isAsked.data.toList.drop 23 = dktX2_isAsked_1 := dk_seg dksX2_isAsked_0 23 rfl rfl
theorem dksX2_isAsked_2 : cX2_isAsked.data.toList.drop 47 = dktX2_isAsked_2 := dk_seg dksX2_isAsked_1 24 rfl rfl
theorem dksX2_isAsked_3 : cX2_isAsked.data.toList.drop 69 = dktX2_isAsked_3 := dk_seg dksX2_isAsked_2 22 rfl rfl
theorem dksX2_isAsked_4 : cX2_isAsked.data.toList.drop 93 = dktX2_isAsked_4 := dk_seg dksX2_isAsked_3 24 rfl rfl
theorem dX2_isAsked_0 : decode cX2_isAsked 0 = .ok (.iload_n 0, 1) := dk_26 (dk_at dksX2_isAsked_0 0 rfl rfl)
theorem dX2_isAsked_1 : decode cX2_isAsked 1 = .ok (.bipush 10, 2) := dk_16 10 (dk_at dksX2_isAsked_0 1 rfl rfl)
theorem dX2_isAsked_3 : decode cX2_isAsked 3 = .ok (.if_icmp .ne 17, 3) := dk_160 0 17 (dk_at dksX2_isAsked_0 3 rfl rfl)
theorem dX2_isAsked_6 : decode cX2_isAsked 6 = .ok (.lload_n 1, 1) := dk_31 (dk_at dksX2_isAsked_0 6 rfl rfl)
theorem dX2_isAsked_7 : decode cX2_isAsked 7 = .ok (.lload_n 3, 1) := dk_33 (dk_at dksX2_isAsked_0 7 rfl rfl)
theorem dX2_isAsked_8 : decode cX2_isAsked 8 = .ok (.lcmp, 1) := dk_148 (dk_at dksX2_isAsked_0 8 rfl rfl)
theorem dX2_isAsked_9 : decode cX2_isAsked 9 = .ok (.ifCond .ge 7, 3) := dk_156 0 7 (dk_at dksX2_isAsked_0 9 rfl rfl)
theorem dX2_isAsked_12 : decode cX2_isAsked 12 = .ok (.iconst 1, 1) := dk_4 (dk_at dksX2_isAsked_0 12 rfl rfl)
theorem dX2_isAsked_13 : decode cX2_isAsked 13 = .ok (.goto 98, 3) := dk_167 0 98 (dk_at dksX2_isAsked_0 13 rfl rfl)
theorem dX2_isAsked_16 : decode cX2_isAsked 16 = .ok (.iconst 0, 1) := dk_3 (dk_at dksX2_isAsked_0 16 rfl rfl)
theorem dX2_isAsked_17 : decode cX2_isAsked 17 = .ok (.goto 94, 3) := dk_167 0 94 (dk_at dksX2_isAsked_0 17 rfl rfl)
theorem dX2_isAsked_20 : decode cX2_isAsked 20 = .ok (.iload_n 0, 1) := dk_26 (dk_at dksX2_isAsked_0 20 rfl rfl)
theorem dX2_isAsked_21 : decode cX2_isAsked 21 = .ok (.bipush 11, 2) := dk_16 11 (dk_at dksX2_isAsked_0 21 rfl rfl)
theorem dX2_isAsked_23 : decode cX2_isAsked 23 = .ok (.if_icmp .ne 17, 3) := dk_160 0 17 (dk_at dksX2_isAsked_1 0 rfl rfl)
theorem dX2_isAsked_26 : decode cX2_isAsked 26 = .ok (.lload_n 1, 1) := dk_31 (dk_at dksX2_isAsked_1 3 rfl rfl)
theorem dX2_isAsked_27 : decode cX2_isAsked 27 = .ok (.lload_n 3, 1) := dk_33 (dk_at dksX2_isAsked_1 4 rfl rfl)
theorem dX2_isAsked_28 : decode cX2_isAsked 28 = .ok (.lcmp, 1) := dk_148 (dk_at dksX2_isAsked_1 5 rfl rfl)
theorem dX2_isAsked_29 : decode cX2_isAsked 29 = .ok (.ifCond .gt 7, 3) := dk_157 0 7 (dk_at dksX2_isAsked_1 6 rfl rfl)
theorem dX2_isAsked_32 : decode cX2_isAsked 32 = .ok (.iconst 1, 1) := dk_4 (dk_at dksX2_isAsked_1 9 rfl rfl)
theorem dX2_isAsked_33 : decode cX2_isAsked 33 = .ok (.goto 78, 3) := dk_167 0 78 (dk_at dksX2_isAsked_1 10 rfl rfl)
theorem dX2_isAsked_36 : decode cX2_isAsked 36 = .ok (.iconst 0, 1) := dk_3 (dk_at dksX2_isAsked_1 13 rfl rfl)
theorem dX2_isAsked_37 : decode cX2_isAsked 37 = .ok (.goto 74, 3) := dk_167 0 74 (dk_at dksX2_isAsked_1 14 rfl rfl)
theorem dX2_isAsked_40 : decode cX2_isAsked 40 = .ok (.iload_n 0, 1) := dk_26 (dk_at dksX2_isAsked_1 17 rfl rfl)
theorem dX2_isAsked_41 : decode cX2_isAsked 41 = .ok (.bipush 12, 2) := dk_16 12 (dk_at dksX2_isAsked_1 18 rfl rfl)
theorem dX2_isAsked_43 : decode cX2_isAsked 43 = .ok (.if_icmp .ne 17, 3) := dk_160 0 17 (dk_at dksX2_isAsked_1 20 rfl rfl)
theorem dX2_isAsked_46 : decode cX2_isAsked 46 = .ok (.lload_n 1, 1) := dk_31 (dk_at dksX2_isAsked_1 23 rfl rfl)
theorem dX2_isAsked_47 : decode cX2_isAsked 47 = .ok (.lload_n 3, 1) := dk_33 (dk_at dksX2_isAsked_2 0 rfl rfl)
theorem dX2_isAsked_48 : decode cX2_isAsked 48 = .ok (.lcmp, 1) := dk_148 (dk_at dksX2_isAsked_2 1 rfl rfl)
theorem dX2_isAsked_49 : decode cX2_isAsked 49 = .ok (.ifCond .le 7, 3) := dk_158 0 7 (dk_at dksX2_isAsked_2 2 rfl rfl)
theorem dX2_isAsked_52 : decode cX2_isAsked 52 = .ok (.iconst 1, 1) := dk_4 (dk_at dksX2_isAsked_2 5 rfl rfl)
theorem dX2_isAsked_53 : decode cX2_isAsked 53 = .ok (.goto 58, 3) := dk_167 0 58 (dk_at dksX2_isAsked_2 6 rfl rfl)
theorem dX2_isAsked_56 : decode cX2_isAsked 56 = .ok (.iconst 0, 1) := dk_3 (dk_at dksX2_isAsked_2 9 rfl rfl)
theorem dX2_isAsked_57 : decode cX2_isAsked 57 = .ok (.goto 54, 3) := dk_167 0 54 (dk_at dksX2_isAsked_2 10 rfl rfl)
theorem dX2_isAsked_60 : decode cX2_isAsked 60 = .ok (.iload_n 0, 1) := dk_26 (dk_at dksX2_isAsked_2 13 rfl rfl)
theorem dX2_isAsked_61 : decode cX2_isAsked 61 = .ok (.bipush 13, 2) := dk_16 13 (dk_at dksX2_isAsked_2 14 rfl rfl)
theorem dX2_isAsked_63 : decode cX2_isAsked 63 = .ok (.if_icmp .ne 17, 3) := dk_160 0 17 (dk_at dksX2_isAsked_2 16 rfl rfl)
theorem dX2_isAsked_66 : decode cX2_isAsked 66 = .ok (.lload_n 1, 1) := dk_31 (dk_at dksX2_isAsked_2 19 rfl rfl)
theorem dX2_isAsked_67 : decode cX2_isAsked 67 = .ok (.lload_n 3, 1) := dk_33 (dk_at dksX2_isAsked_2 20 rfl rfl)
theorem dX2_isAsked_68 : decode cX2_isAsked 68 = .ok (.lcmp, 1) := dk_148 (dk_at dksX2_isAsked_2 21 rfl rfl)
theorem dX2_isAsked_69 : decode cX2_isAsked 69 = .ok (.ifCond .lt 7, 3) := dk_155 0 7 (dk_at dksX2_isAsked_3 0 rfl rfl)
theorem dX2_isAsked_72 : decode cX2_isAsked 72 = .ok (.iconst 1, 1) := dk_4 (dk_at dksX2_isAsked_3 3 rfl rfl)
theorem dX2_isAsked_73 : decode cX2_isAsked 73 = .ok (.goto 38, 3) := dk_167 0 38 (dk_at dksX2_isAsked_3 4 rfl rfl)
theorem dX2_isAsked_76 : decode cX2_isAsked 76 = .ok (.iconst 0, 1) := dk_3 (dk_at dksX2_isAsked_3 7 rfl rfl)
theorem dX2_isAsked_77 : decode cX2_isAsked 77 = .ok (.goto 34, 3) := dk_167 0 34 (dk_at dksX2_isAsked_3 8 rfl rfl)
theorem dX2_isAsked_80 : decode cX2_isAsked 80 = .ok (.iload_n 0, 1) := dk_26 (dk_at dksX2_isAsked_3 11 rfl rfl)
theorem dX2_isAsked_81 : decode cX2_isAsked 81 = .ok (.bipush 14, 2) := dk_16 14 (dk_at dksX2_isAsked_3 12 rfl rfl)
theorem dX2_isAsked_83 : decode cX2_isAsked 83 = .ok (.if_icmp .ne 17, 3) := dk_160 0 17 (dk_at dksX2_isAsked_3 14 rfl rfl)
theorem dX2_isAsked_86 : decode cX2_isAsked 86 = .ok (.lload_n 1, 1) := dk_31 (dk_at dksX2_isAsked_3 17 rfl rfl)
theorem dX2_isAsked_87 : decode cX2_isAsked 87 = .ok (.lload_n 3, 1) := dk_33 (dk_at dksX2_isAsked_3 18 rfl rfl)
theorem dX2_isAsked_88 : decode cX2_isAsked 88 = .ok (.lcmp, 1) := dk_148 (dk_at dksX2_isAsked_3 19 rfl rfl)
theorem dX2_isAsked_89 : decode cX2_isAsked 89 = .ok (.ifCond .ne 7, 3) := dk_154 0 7 (dk_at dksX2_isAsked_3 20 rfl rfl)
theorem dX2_isAsked_92 : decode cX2_isAsked 92 = .ok (.iconst 1, 1) := dk_4 (dk_at dksX2_isAsked_3 23 rfl rfl)
theorem dX2_isAsked_93 : decode cX2_isAsked 93 = .ok (.goto 18, 3) := dk_167 0 18 (dk_at dksX2_isAsked_4 0 rfl rfl)
theorem dX2_isAsked_96 : decode cX2_isAsked 96 = .ok (.iconst 0, 1) := dk_3 (dk_at dksX2_isAsked_4 3 rfl rfl)
theorem dX2_isAsked_97 : decode cX2_isAsked 97 = .ok (.goto 14, 3) := dk_167 0 14 (dk_at dksX2_isAsked_4 4 rfl rfl)
theorem dX2_isAsked_100 : decode cX2_isAsked 100 = .ok (.lload_n 1, 1) := dk_31 (dk_at dksX2_isAsked_4 7 rfl rfl)
theorem dX2_isAsked_101 : decode cX2_isAsked 101 = .ok (.lload_n 3, 1) := dk_33 (dk_at dksX2_isAsked_4 8 rfl rfl)
theorem dX2_isAsked_102 : decode cX2_isAsked 102 = .ok (.lcmp, 1) := dk_148 (dk_at dksX2_isAsked_4 9 rfl rfl)
theorem dX2_isAsked_103 : decode cX2_isAsked 103 = .ok (.ifCond .eq 7, 3) := dk_153 0 7 (dk_at dksX2_isAsked_4 10 rfl rfl)
theorem dX2_isAsked_106 : decode cX2_isAsked 106 = .ok (.iconst 1, 1) := dk_4 (dk_at dksX2_isAsked_4 13 rfl rfl)
theorem dX2_isAsked_107 : decode cX2_isAsked 107 = .ok (.goto 4, 3) := dk_167 0 4 (dk_at dksX2_isAsked_4 14 rfl rfl)
theorem dX2_isAsked_110 : decode cX2_isAsked 110 = .ok (.iconst 0, 1) := dk_3 (dk_at dksX2_isAsked_4 17 rfl rfl)
theorem dX2_isAsked_111 : decode cX2_isAsked 111 = .ok (.ireturn, 1) := dk_172 (dk_at dksX2_isAsked_4 18 rfl rfl)
abbrev MX2_isAsked : jjM := (yX2_isAsked, cX2_isAsked, 5, (Option.some Jvm.ClassFile.FieldType.boolean))
theorem npX2_isAsked : yX2_isAsked.cls ≠ "java/lang/invoke/MethodHandle" ∧ yX2_isAsked.cls ≠ "java/lang/invoke/VarHandle" ∧ (parseMethodDescriptor yX2_isAsked.desc).map (fun d => d.parameters.length) = some 3 := by decide +kernel
abbrev cX2_wide : ByteArray := prog_17_method_68_code
def yX2_wide : MethodName := ⟨RX2, "wide", "(II)Z"⟩
def dkwX2_wide_1 : List UInt8 := [162, 0, 5, 3, 172, 42, 180, 0, 7, 16, 10, 27, 96, 28, 79, 4, 172]
abbrev dktX2_wide_1 : List UInt8 := dkwX2_wide_1 ++ []
def dkwX2_wide_0 : List UInt8 := [27, 184, 1, 54, 153, 0, 22, 28, 4, 16, 99, 184, 0, 89, 153, 0, 12, 28, 42, 27, 182, 1, 57]
abbrev dktX2_wide_0 : List UInt8 := dkwX2_wide_0 ++ dktX2_wide_1
theorem dksX2_wide_0 : cX2_wide.data.toList.drop 0 = dktX2_wide_0 := by decide +kernel
theorem dksX2_wide_1 : cX2_wide.data.toList.drop 23 = dktX2_wide_1 := dk_seg dksX2_wide_0 23 rfl rfl
theorem dX2_wide_0 : decode cX2_wide 0 = .ok (.iload_n 1, 1) := dk_27 (dk_at dksX2_wide_0 0 rfl rfl)
theorem dX2_wide_1 : decode cX2_wide 1 = .ok (.invokestatic 310, 3) := dk_184 1 54 (dk_at dksX2_wide_0 1 rfl rfl)
theorem dX2_wide_4 : decode cX2_wide 4 = .ok (.ifCond .eq 22, 3) := dk_153 0 22 (dk_at dksX2_wide_0 4 rfl rfl)
theorem dX2_wide_7 : decode cX2_wide 7 = .ok (.iload_n 2, 1) := dk_28 (dk_at dksX2_wide_0 7 rfl rfl)
theorem dX2_wide_8 : decode cX2_wide 8 = .ok (.iconst 1, 1) := dk_4 (dk_at dksX2_wide_0 8 rfl rfl)
theorem dX2_wide_9 : decode cX2_wide 9 = .ok (.bipush 99, 2) := dk_16 99 (dk_at dksX2_wide_0 9 rfl rfl)
theorem dX2_wide_11 : decode cX2_wide 11 = .ok (.invokestatic 89, 3) := dk_184 0 89 (dk_at dksX2_wide_0 11 rfl rfl)
theorem dX2_wide_14 : decode cX2_wide 14 = .ok (.ifCond .eq 12, 3) := dk_153 0 12 (dk_at dksX2_wide_0 14 rfl rfl)
theorem dX2_wide_17 : decode cX2_wide 17 = .ok (.iload_n 2, 1) := dk_28 (dk_at dksX2_wide_0 17 rfl rfl)
theorem dX2_wide_18 : decode cX2_wide 18 = .ok (.aload_n 0, 1) := dk_42 (dk_at dksX2_wide_0 18 rfl rfl)
theorem dX2_wide_19 : decode cX2_wide 19 = .ok (.iload_n 1, 1) := dk_27 (dk_at dksX2_wide_0 19 rfl rfl)
theorem dX2_wide_20 : decode cX2_wide 20 = .ok (.invokevirtual 313, 3) := dk_182 1 57 (dk_at dksX2_wide_0 20 rfl rfl)
theorem dX2_wide_23 : decode cX2_wide 23 = .ok (.if_icmp .ge 5, 3) := dk_162 0 5 (dk_at dksX2_wide_1 0 rfl rfl)
theorem dX2_wide_26 : decode cX2_wide 26 = .ok (.iconst 0, 1) := dk_3 (dk_at dksX2_wide_1 3 rfl rfl)
theorem dX2_wide_27 : decode cX2_wide 27 = .ok (.ireturn, 1) := dk_172 (dk_at dksX2_wide_1 4 rfl rfl)
theorem dX2_wide_28 : decode cX2_wide 28 = .ok (.aload_n 0, 1) := dk_42 (dk_at dksX2_wide_1 5 rfl rfl)
theorem dX2_wide_29 : decode cX2_wide 29 = .ok (.getfield 7, 3) := dk_180 0 7 (dk_at dksX2_wide_1 6 rfl rfl)
theorem dX2_wide_32 : decode cX2_wide 32 = .ok (.bipush 10, 2) := dk_16 10 (dk_at dksX2_wide_1 9 rfl rfl)
theorem dX2_wide_34 : decode cX2_wide 34 = .ok (.iload_n 1, 1) := dk_27 (dk_at dksX2_wide_1 11 rfl rfl)
theorem dX2_wide_35 : decode cX2_wide 35 = .ok (.iadd, 1) := dk_96 (dk_at dksX2_wide_1 12 rfl rfl)
theorem dX2_wide_36 : decode cX2_wide 36 = .ok (.iload_n 2, 1) := dk_28 (dk_at dksX2_wide_1 13 rfl rfl)
theorem dX2_wide_37 : decode cX2_wide 37 = .ok (.iastore, 1) := dk_79 (dk_at dksX2_wide_1 14 rfl rfl)
theorem dX2_wide_38 : decode cX2_wide 38 = .ok (.iconst 1, 1) := dk_4 (dk_at dksX2_wide_1 15 rfl rfl)
theorem dX2_wide_39 : decode cX2_wide 39 = .ok (.ireturn, 1) := dk_172 (dk_at dksX2_wide_1 16 rfl rfl)
abbrev MX2_wide : jjM := (yX2_wide, cX2_wide, 3, (Option.some Jvm.ClassFile.FieldType.boolean))
theorem npX2_wide : yX2_wide.cls ≠ "java/lang/invoke/MethodHandle" ∧ yX2_wide.cls ≠ "java/lang/invoke/VarHandle" ∧ (parseMethodDescriptor yX2_wide.desc).map (fun d => d.parameters.length) = some 2 := by decide +kernel
abbrev cX2_isShelf : ByteArray := prog_17_method_7_code
def yX2_isShelf : MethodName := ⟨RX2, "isShelf", "(I)Z"⟩
def dkwX2_isShelf_0 : List UInt8 := [26, 3, 5, 184, 0, 89, 172]
abbrev dktX2_isShelf_0 : List UInt8 := dkwX2_isShelf_0 ++ []
theorem dksX2_isShelf_0 : cX2_isShelf.data.toList.drop 0 = dktX2_isShelf_0 := by decide +kernel
theorem dX2_isShelf_0 : decode cX2_isShelf 0 = .ok (.iload_n 0, 1) := dk_26 (dk_at dksX2_isShelf_0 0 rfl rfl)
theorem dX2_isShelf_1 : decode cX2_isShelf 1 = .ok (.iconst 0, 1) := dk_3 (dk_at dksX2_isShelf_0 1 rfl rfl)
theorem dX2_isShelf_2 : decode cX2_isShelf 2 = .ok (.iconst 2, 1) := dk_5 (dk_at dksX2_isShelf_0 2 rfl rfl)
theorem dX2_isShelf_3 : decode cX2_isShelf 3 = .ok (.invokestatic 89, 3) := dk_184 0 89 (dk_at dksX2_isShelf_0 3 rfl rfl)
theorem dX2_isShelf_6 : decode cX2_isShelf 6 = .ok (.ireturn, 1) := dk_172 (dk_at dksX2_isShelf_0 6 rfl rfl)
abbrev MX2_isShelf : jjM := (yX2_isShelf, cX2_isShelf, 1, (Option.some Jvm.ClassFile.FieldType.boolean))
theorem npX2_isShelf : yX2_isShelf.cls ≠ "java/lang/invoke/MethodHandle" ∧ yX2_isShelf.cls ≠ "java/lang/invoke/VarHandle" ∧ (parseMethodDescriptor yX2_isShelf.desc).map (fun d => d.parameters.length) = some 1 := by decide +kernel
abbrev cX2_fullOf : ByteArray := prog_17_method_63_code
def yX2_fullOf : MethodName := ⟨RX2, "fullOf", "(I)I"⟩
def dkwX2_fullOf_1 : List UInt8 := [182, 0, 101, 182, 1, 40, 96, 61, 132, 3, 1, 167, 255, 227, 28, 172]
abbrev dktX2_fullOf_1 : List UInt8 := dkwX2_fullOf_1 ++ []
def dkwX2_fullOf_0 : List UInt8 := [3, 61, 3, 62, 29, 42, 180, 0, 7, 16, 13, 27, 96, 46, 162, 0, 22, 28, 42, 42, 27, 29]
abbrev dktX2_fullOf_0 : List UInt8 := dkwX2_fullOf_0 ++ dktX2_fullOf_1
theorem dksX2_fullOf_0 : cX2_fullOf.data.toList.drop 0 = dktX2_fullOf_0 := by decide +kernel
theorem dksX2_fullOf_1 : cX2_fullOf.data.toList.drop 22 = dktX2_fullOf_1 := dk_seg dksX2_fullOf_0 22 rfl rfl
theorem dX2_fullOf_0 : decode cX2_fullOf 0 = .ok (.iconst 0, 1) := dk_3 (dk_at dksX2_fullOf_0 0 rfl rfl)
theorem dX2_fullOf_1 : decode cX2_fullOf 1 = .ok (.istore_n 2, 1) := dk_61 (dk_at dksX2_fullOf_0 1 rfl rfl)
theorem dX2_fullOf_2 : decode cX2_fullOf 2 = .ok (.iconst 0, 1) := dk_3 (dk_at dksX2_fullOf_0 2 rfl rfl)
theorem dX2_fullOf_3 : decode cX2_fullOf 3 = .ok (.istore_n 3, 1) := dk_62 (dk_at dksX2_fullOf_0 3 rfl rfl)
theorem dX2_fullOf_4 : decode cX2_fullOf 4 = .ok (.iload_n 3, 1) := dk_29 (dk_at dksX2_fullOf_0 4 rfl rfl)
theorem dX2_fullOf_5 : decode cX2_fullOf 5 = .ok (.aload_n 0, 1) := dk_42 (dk_at dksX2_fullOf_0 5 rfl rfl)
theorem dX2_fullOf_6 : decode cX2_fullOf 6 = .ok (.getfield 7, 3) := dk_180 0 7 (dk_at dksX2_fullOf_0 6 rfl rfl)
theorem dX2_fullOf_9 : decode cX2_fullOf 9 = .ok (.bipush 13, 2) := dk_16 13 (dk_at dksX2_fullOf_0 9 rfl rfl)
theorem dX2_fullOf_11 : decode cX2_fullOf 11 = .ok (.iload_n 1, 1) := dk_27 (dk_at dksX2_fullOf_0 11 rfl rfl)
theorem dX2_fullOf_12 : decode cX2_fullOf 12 = .ok (.iadd, 1) := dk_96 (dk_at dksX2_fullOf_0 12 rfl rfl)
theorem dX2_fullOf_13 : decode cX2_fullOf 13 = .ok (.iaload, 1) := dk_46 (dk_at dksX2_fullOf_0 13 rfl rfl)
theorem dX2_fullOf_14 : decode cX2_fullOf 14 = .ok (.if_icmp .ge 22, 3) := dk_162 0 22 (dk_at dksX2_fullOf_0 14 rfl rfl)
theorem dX2_fullOf_17 : decode cX2_fullOf 17 = .ok (.iload_n 2, 1) := dk_28 (dk_at dksX2_fullOf_0 17 rfl rfl)
theorem dX2_fullOf_18 : decode cX2_fullOf 18 = .ok (.aload_n 0, 1) := dk_42 (dk_at dksX2_fullOf_0 18 rfl rfl)
theorem dX2_fullOf_19 : decode cX2_fullOf 19 = .ok (.aload_n 0, 1) := dk_42 (dk_at dksX2_fullOf_0 19 rfl rfl)
theorem dX2_fullOf_20 : decode cX2_fullOf 20 = .ok (.iload_n 1, 1) := dk_27 (dk_at dksX2_fullOf_0 20 rfl rfl)
theorem dX2_fullOf_21 : decode cX2_fullOf 21 = .ok (.iload_n 3, 1) := dk_29 (dk_at dksX2_fullOf_0 21 rfl rfl)
theorem dX2_fullOf_22 : decode cX2_fullOf 22 = .ok (.invokevirtual 101, 3) := dk_182 0 101 (dk_at dksX2_fullOf_1 0 rfl rfl)
theorem dX2_fullOf_25 : decode cX2_fullOf 25 = .ok (.invokevirtual 296, 3) := dk_182 1 40 (dk_at dksX2_fullOf_1 3 rfl rfl)
theorem dX2_fullOf_28 : decode cX2_fullOf 28 = .ok (.iadd, 1) := dk_96 (dk_at dksX2_fullOf_1 6 rfl rfl)
theorem dX2_fullOf_29 : decode cX2_fullOf 29 = .ok (.istore_n 2, 1) := dk_61 (dk_at dksX2_fullOf_1 7 rfl rfl)
theorem dX2_fullOf_30 : decode cX2_fullOf 30 = .ok (.iinc 3 1, 3) := dk_132 3 1 (dk_at dksX2_fullOf_1 8 rfl rfl)
theorem dX2_fullOf_33 : decode cX2_fullOf 33 = .ok (.goto (-29), 3) := dk_167 255 227 (dk_at dksX2_fullOf_1 11 rfl rfl)
theorem dX2_fullOf_36 : decode cX2_fullOf 36 = .ok (.iload_n 2, 1) := dk_28 (dk_at dksX2_fullOf_1 14 rfl rfl)
theorem dX2_fullOf_37 : decode cX2_fullOf 37 = .ok (.ireturn, 1) := dk_172 (dk_at dksX2_fullOf_1 15 rfl rfl)
abbrev MX2_fullOf : jjM := (yX2_fullOf, cX2_fullOf, 4, (Option.some Jvm.ClassFile.FieldType.int))
theorem npX2_fullOf : yX2_fullOf.cls ≠ "java/lang/invoke/MethodHandle" ∧ yX2_fullOf.cls ≠ "java/lang/invoke/VarHandle" ∧ (parseMethodDescriptor yX2_fullOf.desc).map (fun d => d.parameters.length) = some 1 := by decide +kernel
abbrev cX2_bookAt : ByteArray := prog_17_method_10_code
def yX2_bookAt : MethodName := ⟨RX2, "bookAt", "(II)I"⟩
def dkwX2_bookAt_0 : List UInt8 := [42, 180, 0, 7, 16, 16, 16, 10, 27, 104, 96, 28, 96, 46, 172]
abbrev dktX2_bookAt_0 : List UInt8 := dkwX2_bookAt_0 ++ []
theorem dksX2_bookAt_0 : cX2_bookAt.data.toList.drop 0 = dktX2_bookAt_0 := by decide +kernel
theorem dX2_bookAt_0 : decode cX2_bookAt 0 = .ok (.aload_n 0, 1) := dk_42 (dk_at dksX2_bookAt_0 0 rfl rfl)
theorem dX2_bookAt_1 : decode cX2_bookAt 1 = .ok (.getfield 7, 3) := dk_180 0 7 (dk_at dksX2_bookAt_0 1 rfl rfl)
theorem dX2_bookAt_4 : decode cX2_bookAt 4 = .ok (.bipush 16, 2) := dk_16 16 (dk_at dksX2_bookAt_0 4 rfl rfl)
theorem dX2_bookAt_6 : decode cX2_bookAt 6 = .ok (.bipush 10, 2) := dk_16 10 (dk_at dksX2_bookAt_0 6 rfl rfl)
theorem dX2_bookAt_8 : decode cX2_bookAt 8 = .ok (.iload_n 1, 1) := dk_27 (dk_at dksX2_bookAt_0 8 rfl rfl)
theorem dX2_bookAt_9 : decode cX2_bookAt 9 = .ok (.imul, 1) := dk_104 (dk_at dksX2_bookAt_0 9 rfl rfl)
theorem dX2_bookAt_10 : decode cX2_bookAt 10 = .ok (.iadd, 1) := dk_96 (dk_at dksX2_bookAt_0 10 rfl rfl)
theorem dX2_bookAt_11 : decode cX2_bookAt 11 = .ok (.iload_n 2, 1) := dk_28 (dk_at dksX2_bookAt_0 11 rfl rfl)
theorem dX2_bookAt_12 : decode cX2_bookAt 12 = .ok (.iadd, 1) := dk_96 (dk_at dksX2_bookAt_0 12 rfl rfl)
theorem dX2_bookAt_13 : decode cX2_bookAt 13 = .ok (.iaload, 1) := dk_46 (dk_at dksX2_bookAt_0 13 rfl rfl)
theorem dX2_bookAt_14 : decode cX2_bookAt 14 = .ok (.ireturn, 1) := dk_172 (dk_at dksX2_bookAt_0 14 rfl rfl)
abbrev MX2_bookAt : jjM := (yX2_bookAt, cX2_bookAt, 3, (Option.some Jvm.ClassFile.FieldType.int))
theorem npX2_bookAt : yX2_bookAt.cls ≠ "java/lang/invoke/MethodHandle" ∧ yX2_bookAt.cls ≠ "java/lang/invoke/VarHandle" ∧ (parseMethodDescriptor yX2_bookAt.desc).map (fun d => d.parameters.length) = some 2 := by decide +kernel
abbrev cX2_thickNow : ByteArray := prog_17_method_62_code
def yX2_thickNow : MethodName := ⟨RX2, "thickNow", "(I)I"⟩
def dkwX2_thickNow_3 : List UInt8 := [20, 1, 38, 148, 158, 0, 8, 16, 9, 167, 0, 10, 42, 180, 0, 35, 3, 47, 136, 96, 172]
abbrev dktX2_thickNow_3 : List UInt8 := dkwX2_thickNow_3 ++ []
def dkwX2_thickNow_2 : List UInt8 := [182, 0, 97, 42, 180, 0, 35, 3, 47, 9, 148, 156, 0, 7, 3, 167, 0, 28, 42, 180, 0, 35, 3, 47]
abbrev dktX2_thickNow_2 : List UInt8 := dkwX2_thickNow_2 ++ dktX2_thickNow_3
def dkwX2_thickNow_1 : List UInt8 := [156, 0, 10, 42, 27, 5, 182, 0, 97, 172, 42, 27, 182, 1, 32, 42, 28, 182, 1, 35, 42, 27, 5]
abbrev dktX2_thickNow_1 : List UInt8 := dkwX2_thickNow_1 ++ dktX2_thickNow_2
def dkwX2_thickNow_0 : List UInt8 := [42, 180, 0, 7, 5, 46, 4, 160, 0, 12, 42, 5, 3, 182, 1, 29, 167, 0, 4, 2, 61, 28]
abbrev dktX2_thickNow_0 : List UInt8 := dkwX2_thickNow_0 ++ dktX2_thickNow_1
theorem dksX2_thickNow_0 : cX2_thickNow.data.toList.drop 0 = dktX2_thickNow_0 := by decide +kernel
theorem dksX2_thickNow_1 : cX2_thickNow.data.toList.drop 22 = dktX2_thickNow_1 := dk_seg dksX2_thickNow_0 22 rfl rfl
theorem dksX2_thickNow_2 : cX2_thickNow.data.toList.drop 45 = dktX2_thickNow_2 := dk_seg dksX2_thickNow_1 23 rfl rfl
theorem dksX2_thickNow_3 : cX2_thickNow.data.toList.drop 69 = dktX2_thickNow_3 := dk_seg dksX2_thickNow_2 24 rfl rfl
theorem dX2_thickNow_0 : decode cX2_thickNow 0 = .ok (.aload_n 0, 1) := dk_42 (dk_at dksX2_thickNow_0 0 rfl rfl)
theorem dX2_thickNow_1 : decode cX2_thickNow 1 = .ok (.getfield 7, 3) := dk_180 0 7 (dk_at dksX2_thickNow_0 1 rfl rfl)
theorem dX2_thickNow_4 : decode cX2_thickNow 4 = .ok (.iconst 2, 1) := dk_5 (dk_at dksX2_thickNow_0 4 rfl rfl)
theorem dX2_thickNow_5 : decode cX2_thickNow 5 = .ok (.iaload, 1) := dk_46 (dk_at dksX2_thickNow_0 5 rfl rfl)
theorem dX2_thickNow_6 : decode cX2_thickNow 6 = .ok (.iconst 1, 1) := dk_4 (dk_at dksX2_thickNow_0 6 rfl rfl)
theorem dX2_thickNow_7 : decode cX2_thickNow 7 = .ok (.if_icmp .ne 12, 3) := dk_160 0 12 (dk_at dksX2_thickNow_0 7 rfl rfl)
theorem dX2_thickNow_10 : decode cX2_thickNow 10 = .ok (.aload_n 0, 1) := dk_42 (dk_at dksX2_thickNow_0 10 rfl rfl)
theorem dX2_thickNow_11 : decode cX2_thickNow 11 = .ok (.iconst 2, 1) := dk_5 (dk_at dksX2_thickNow_0 11 rfl rfl)
theorem dX2_thickNow_12 : decode cX2_thickNow 12 = .ok (.iconst 0, 1) := dk_3 (dk_at dksX2_thickNow_0 12 rfl rfl)
theorem dX2_thickNow_13 : decode cX2_thickNow 13 = .ok (.invokevirtual 285, 3) := dk_182 1 29 (dk_at dksX2_thickNow_0 13 rfl rfl)
theorem dX2_thickNow_16 : decode cX2_thickNow 16 = .ok (.goto 4, 3) := dk_167 0 4 (dk_at dksX2_thickNow_0 16 rfl rfl)
theorem dX2_thickNow_19 : decode cX2_thickNow 19 = .ok (.iconst (-1), 1) := dk_2 (dk_at dksX2_thickNow_0 19 rfl rfl)
theorem dX2_thickNow_20 : decode cX2_thickNow 20 = .ok (.istore_n 2, 1) := dk_61 (dk_at dksX2_thickNow_0 20 rfl rfl)
theorem dX2_thickNow_21 : decode cX2_thickNow 21 = .ok (.iload_n 2, 1) := dk_28 (dk_at dksX2_thickNow_0 21 rfl rfl)
theorem dX2_thickNow_22 : decode cX2_thickNow 22 = .ok (.ifCond .ge 10, 3) := dk_156 0 10 (dk_at dksX2_thickNow_1 0 rfl rfl)
theorem dX2_thickNow_25 : decode cX2_thickNow 25 = .ok (.aload_n 0, 1) := dk_42 (dk_at dksX2_thickNow_1 3 rfl rfl)
theorem dX2_thickNow_26 : decode cX2_thickNow 26 = .ok (.iload_n 1, 1) := dk_27 (dk_at dksX2_thickNow_1 4 rfl rfl)
theorem dX2_thickNow_27 : decode cX2_thickNow 27 = .ok (.iconst 2, 1) := dk_5 (dk_at dksX2_thickNow_1 5 rfl rfl)
theorem dX2_thickNow_28 : decode cX2_thickNow 28 = .ok (.invokevirtual 97, 3) := dk_182 0 97 (dk_at dksX2_thickNow_1 6 rfl rfl)
theorem dX2_thickNow_31 : decode cX2_thickNow 31 = .ok (.ireturn, 1) := dk_172 (dk_at dksX2_thickNow_1 9 rfl rfl)
theorem dX2_thickNow_32 : decode cX2_thickNow 32 = .ok (.aload_n 0, 1) := dk_42 (dk_at dksX2_thickNow_1 10 rfl rfl)
theorem dX2_thickNow_33 : decode cX2_thickNow 33 = .ok (.iload_n 1, 1) := dk_27 (dk_at dksX2_thickNow_1 11 rfl rfl)
theorem dX2_thickNow_34 : decode cX2_thickNow 34 = .ok (.invokevirtual 288, 3) := dk_182 1 32 (dk_at dksX2_thickNow_1 12 rfl rfl)
theorem dX2_thickNow_37 : decode cX2_thickNow 37 = .ok (.aload_n 0, 1) := dk_42 (dk_at dksX2_thickNow_1 15 rfl rfl)
theorem dX2_thickNow_38 : decode cX2_thickNow 38 = .ok (.iload_n 2, 1) := dk_28 (dk_at dksX2_thickNow_1 16 rfl rfl)
theorem dX2_thickNow_39 : decode cX2_thickNow 39 = .ok (.invokevirtual 291, 3) := dk_182 1 35 (dk_at dksX2_thickNow_1 17 rfl rfl)
theorem dX2_thickNow_42 : decode cX2_thickNow 42 = .ok (.aload_n 0, 1) := dk_42 (dk_at dksX2_thickNow_1 20 rfl rfl)
theorem dX2_thickNow_43 : decode cX2_thickNow 43 = .ok (.iload_n 1, 1) := dk_27 (dk_at dksX2_thickNow_1 21 rfl rfl)
theorem dX2_thickNow_44 : decode cX2_thickNow 44 = .ok (.iconst 2, 1) := dk_5 (dk_at dksX2_thickNow_1 22 rfl rfl)
theorem dX2_thickNow_45 : decode cX2_thickNow 45 = .ok (.invokevirtual 97, 3) := dk_182 0 97 (dk_at dksX2_thickNow_2 0 rfl rfl)
theorem dX2_thickNow_48 : decode cX2_thickNow 48 = .ok (.aload_n 0, 1) := dk_42 (dk_at dksX2_thickNow_2 3 rfl rfl)
theorem dX2_thickNow_49 : decode cX2_thickNow 49 = .ok (.getfield 35, 3) := dk_180 0 35 (dk_at dksX2_thickNow_2 4 rfl rfl)
theorem dX2_thickNow_52 : decode cX2_thickNow 52 = .ok (.iconst 0, 1) := dk_3 (dk_at dksX2_thickNow_2 7 rfl rfl)
theorem dX2_thickNow_53 : decode cX2_thickNow 53 = .ok (.laload, 1) := dk_47 (dk_at dksX2_thickNow_2 8 rfl rfl)
theorem dX2_thickNow_54 : decode cX2_thickNow 54 = .ok (.lconst 0, 1) := dk_9 (dk_at dksX2_thickNow_2 9 rfl rfl)
theorem dX2_thickNow_55 : decode cX2_thickNow 55 = .ok (.lcmp, 1) := dk_148 (dk_at dksX2_thickNow_2 10 rfl rfl)
theorem dX2_thickNow_56 : decode cX2_thickNow 56 = .ok (.ifCond .ge 7, 3) := dk_156 0 7 (dk_at dksX2_thickNow_2 11 rfl rfl)
theorem dX2_thickNow_59 : decode cX2_thickNow 59 = .ok (.iconst 0, 1) := dk_3 (dk_at dksX2_thickNow_2 14 rfl rfl)
theorem dX2_thickNow_60 : decode cX2_thickNow 60 = .ok (.goto 28, 3) := dk_167 0 28 (dk_at dksX2_thickNow_2 15 rfl rfl)
theorem dX2_thickNow_63 : decode cX2_thickNow 63 = .ok (.aload_n 0, 1) := dk_42 (dk_at dksX2_thickNow_2 18 rfl rfl)
theorem dX2_thickNow_64 : decode cX2_thickNow 64 = .ok (.getfield 35, 3) := dk_180 0 35 (dk_at dksX2_thickNow_2 19 rfl rfl)
theorem dX2_thickNow_67 : decode cX2_thickNow 67 = .ok (.iconst 0, 1) := dk_3 (dk_at dksX2_thickNow_2 22 rfl rfl)
theorem dX2_thickNow_68 : decode cX2_thickNow 68 = .ok (.laload, 1) := dk_47 (dk_at dksX2_thickNow_2 23 rfl rfl)
theorem dX2_thickNow_69 : decode cX2_thickNow 69 = .ok (.ldc2_w 294, 3) := dk_20 1 38 (dk_at dksX2_thickNow_3 0 rfl rfl)
theorem dX2_thickNow_72 : decode cX2_thickNow 72 = .ok (.lcmp, 1) := dk_148 (dk_at dksX2_thickNow_3 3 rfl rfl)
theorem dX2_thickNow_73 : decode cX2_thickNow 73 = .ok (.ifCond .le 8, 3) := dk_158 0 8 (dk_at dksX2_thickNow_3 4 rfl rfl)
theorem dX2_thickNow_76 : decode cX2_thickNow 76 = .ok (.bipush 9, 2) := dk_16 9 (dk_at dksX2_thickNow_3 7 rfl rfl)
theorem dX2_thickNow_78 : decode cX2_thickNow 78 = .ok (.goto 10, 3) := dk_167 0 10 (dk_at dksX2_thickNow_3 9 rfl rfl)
theorem dX2_thickNow_81 : decode cX2_thickNow 81 = .ok (.aload_n 0, 1) := dk_42 (dk_at dksX2_thickNow_3 12 rfl rfl)
theorem dX2_thickNow_82 : decode cX2_thickNow 82 = .ok (.getfield 35, 3) := dk_180 0 35 (dk_at dksX2_thickNow_3 13 rfl rfl)
theorem dX2_thickNow_85 : decode cX2_thickNow 85 = .ok (.iconst 0, 1) := dk_3 (dk_at dksX2_thickNow_3 16 rfl rfl)
theorem dX2_thickNow_86 : decode cX2_thickNow 86 = .ok (.laload, 1) := dk_47 (dk_at dksX2_thickNow_3 17 rfl rfl)
theorem dX2_thickNow_87 : decode cX2_thickNow 87 = .ok (.l2i, 1) := dk_136 (dk_at dksX2_thickNow_3 18 rfl rfl)
theorem dX2_thickNow_88 : decode cX2_thickNow 88 = .ok (.iadd, 1) := dk_96 (dk_at dksX2_thickNow_3 19 rfl rfl)
theorem dX2_thickNow_89 : decode cX2_thickNow 89 = .ok (.ireturn, 1) := dk_172 (dk_at dksX2_thickNow_3 20 rfl rfl)
abbrev MX2_thickNow : jjM := (yX2_thickNow, cX2_thickNow, 3, (Option.some Jvm.ClassFile.FieldType.int))
theorem npX2_thickNow : yX2_thickNow.cls ≠ "java/lang/invoke/MethodHandle" ∧ yX2_thickNow.cls ≠ "java/lang/invoke/VarHandle" ∧ (parseMethodDescriptor yX2_thickNow.desc).map (fun d => d.parameters.length) = some 1 := by decide +kernel
abbrev cX2_undo : ByteArray := prog_17_method_70_code
def yX2_undo : MethodName := ⟨RX2, "undo", "()I"⟩
def dkwX2_undo_7 : List UInt8 := [6, 182, 0, 104, 132, 2, 1, 167, 255, 212, 42, 180, 0, 7, 16, 7, 46, 172]
abbrev dktX2_undo_7 : List UInt8 := dkwX2_undo_7 ++ []
def dkwX2_undo_6 : List UInt8 := [28, 42, 180, 0, 7, 27, 46, 162, 0, 17, 42, 180, 0, 7, 27, 16, 38, 96, 28, 96, 46, 167, 0, 4]
abbrev dktX2_undo_6 : List UInt8 := dkwX2_undo_6 ++ dktX2_undo_7
def dkwX2_undo_5 : List UInt8 := [96, 46, 79, 132, 2, 1, 167, 255, 228, 3, 61, 28, 42, 180, 0, 7, 3, 46, 162, 0, 40, 42, 28, 8]
abbrev dktX2_undo_5 : List UInt8 := dkwX2_undo_5 ++ dktX2_undo_6
def dkwX2_undo_4 : List UInt8 := [3, 61, 28, 16, 33, 162, 0, 28, 42, 180, 0, 7, 16, 13, 28, 96, 42, 180, 0, 7, 27, 8, 96, 28]
abbrev dktX2_undo_4 : List UInt8 := dkwX2_undo_4 ++ dktX2_undo_5
def dkwX2_undo_3 : List UInt8 := [42, 180, 0, 7, 27, 6, 96, 46, 79, 42, 180, 0, 7, 16, 9, 42, 180, 0, 7, 27, 7, 96, 46, 79]
abbrev dktX2_undo_3 : List UInt8 := dkwX2_undo_3 ++ dktX2_undo_4
def dkwX2_undo_2 : List UInt8 := [27, 4, 96, 46, 79, 42, 180, 0, 7, 5, 42, 180, 0, 7, 27, 5, 96, 46, 79, 42, 180, 0, 7, 7]
abbrev dktX2_undo_2 : List UInt8 := dkwX2_undo_2 ++ dktX2_undo_3
def dkwX2_undo_1 : List UInt8 := [17, 0, 154, 16, 48, 42, 180, 0, 7, 16, 7, 46, 104, 96, 60, 42, 180, 0, 7, 4, 42, 180, 0, 7]
abbrev dktX2_undo_1 : List UInt8 := dkwX2_undo_1 ++ dktX2_undo_2
def dkwX2_undo_0 : List UInt8 := [42, 180, 0, 7, 16, 7, 46, 154, 0, 5, 2, 172, 42, 180, 0, 7, 16, 7, 92, 46, 4, 100, 79]
abbrev dktX2_undo_0 : List UInt8 := dkwX2_undo_0 ++ dktX2_undo_1
theorem dksX2_undo_0 : cX2_undo.data.toList.drop 0 = dktX2_undo_0 := by decide +kernel
theorem dksX2_undo_1 : cX2_undo.data.toList.drop 23 = dktX2_undo_1 := dk_seg dksX2_undo_0 23 rfl rfl
theorem dksX2_undo_2 : cX2_undo.data.toList.drop 47 = dktX2_undo_2 := dk_seg dksX2_undo_1 24 rfl rfl
theorem dksX2_undo_3 : cX2_undo.data.toList.drop 71 = dktX2_undo_3 := dk_seg dksX2_undo_2 24 rfl rfl
theorem dksX2_undo_4 : cX2_undo.data.toList.drop 95 = dktX2_undo_4 := dk_seg dksX2_undo_3 24 rfl rfl
theorem dksX2_undo_5 : cX2_undo.data.toList.drop 119 = dktX2_undo_5 := dk_seg dksX2_undo_4 24 rfl rfl
theorem dksX2_undo_6 : cX2_undo.data.toList.drop 143 = dktX2_undo_6 := dk_seg dksX2_undo_5 24 rfl rfl
theorem dksX2_undo_7 : cX2_undo.data.toList.drop 167 = dktX2_undo_7 := dk_seg dksX2_undo_6 24 rfl rfl
theorem dX2_undo_0 : decode cX2_undo 0 = .ok (.aload_n 0, 1) := dk_42 (dk_at dksX2_undo_0 0 rfl rfl)
theorem dX2_undo_1 : decode cX2_undo 1 = .ok (.getfield 7, 3) := dk_180 0 7 (dk_at dksX2_undo_0 1 rfl rfl)
theorem dX2_undo_4 : decode cX2_undo 4 = .ok (.bipush 7, 2) := dk_16 7 (dk_at dksX2_undo_0 4 rfl rfl)
theorem dX2_undo_6 : decode cX2_undo 6 = .ok (.iaload, 1) := dk_46 (dk_at dksX2_undo_0 6 rfl rfl)
theorem dX2_undo_7 : decode cX2_undo 7 = .ok (.ifCond .ne 5, 3) := dk_154 0 5 (dk_at dksX2_undo_0 7 rfl rfl)
theorem dX2_undo_10 : decode cX2_undo 10 = .ok (.iconst (-1), 1) := dk_2 (dk_at dksX2_undo_0 10 rfl rfl)
theorem dX2_undo_11 : decode cX2_undo 11 = .ok (.ireturn, 1) := dk_172 (dk_at dksX2_undo_0 11 rfl rfl)
theorem dX2_undo_12 : decode cX2_undo 12 = .ok (.aload_n 0, 1) := dk_42 (dk_at dksX2_undo_0 12 rfl rfl)
theorem dX2_undo_13 : decode cX2_undo 13 = .ok (.getfield 7, 3) := dk_180 0 7 (dk_at dksX2_undo_0 13 rfl rfl)
theorem dX2_undo_16 : decode cX2_undo 16 = .ok (.bipush 7, 2) := dk_16 7 (dk_at dksX2_undo_0 16 rfl rfl)
theorem dX2_undo_18 : decode cX2_undo 18 = .ok (.dup2, 1) := dk_92 (dk_at dksX2_undo_0 18 rfl rfl)
theorem dX2_undo_19 : decode cX2_undo 19 = .ok (.iaload, 1) := dk_46 (dk_at dksX2_undo_0 19 rfl rfl)
theorem dX2_undo_20 : decode cX2_undo 20 = .ok (.iconst 1, 1) := dk_4 (dk_at dksX2_undo_0 20 rfl rfl)
theorem dX2_undo_21 : decode cX2_undo 21 = .ok (.isub, 1) := dk_100 (dk_at dksX2_undo_0 21 rfl rfl)
theorem dX2_undo_22 : decode cX2_undo 22 = .ok (.iastore, 1) := dk_79 (dk_at dksX2_undo_0 22 rfl rfl)
theorem dX2_undo_23 : decode cX2_undo 23 = .ok (.sipush 154, 3) := dk_17 0 154 (dk_at dksX2_undo_1 0 rfl rfl)
theorem dX2_undo_26 : decode cX2_undo 26 = .ok (.bipush 48, 2) := dk_16 48 (dk_at dksX2_undo_1 3 rfl rfl)
theorem dX2_undo_28 : decode cX2_undo 28 = .ok (.aload_n 0, 1) := dk_42 (dk_at dksX2_undo_1 5 rfl rfl)
theorem dX2_undo_29 : decode cX2_undo 29 = .ok (.getfield 7, 3) := dk_180 0 7 (dk_at dksX2_undo_1 6 rfl rfl)
theorem dX2_undo_32 : decode cX2_undo 32 = .ok (.bipush 7, 2) := dk_16 7 (dk_at dksX2_undo_1 9 rfl rfl)
theorem dX2_undo_34 : decode cX2_undo 34 = .ok (.iaload, 1) := dk_46 (dk_at dksX2_undo_1 11 rfl rfl)
theorem dX2_undo_35 : decode cX2_undo 35 = .ok (.imul, 1) := dk_104 (dk_at dksX2_undo_1 12 rfl rfl)
theorem dX2_undo_36 : decode cX2_undo 36 = .ok (.iadd, 1) := dk_96 (dk_at dksX2_undo_1 13 rfl rfl)
theorem dX2_undo_37 : decode cX2_undo 37 = .ok (.istore_n 1, 1) := dk_60 (dk_at dksX2_undo_1 14 rfl rfl)
theorem dX2_undo_38 : decode cX2_undo 38 = .ok (.aload_n 0, 1) := dk_42 (dk_at dksX2_undo_1 15 rfl rfl)
theorem dX2_undo_39 : decode cX2_undo 39 = .ok (.getfield 7, 3) := dk_180 0 7 (dk_at dksX2_undo_1 16 rfl rfl)
theorem dX2_undo_42 : decode cX2_undo 42 = .ok (.iconst 1, 1) := dk_4 (dk_at dksX2_undo_1 19 rfl rfl)
theorem dX2_undo_43 : decode cX2_undo 43 = .ok (.aload_n 0, 1) := dk_42 (dk_at dksX2_undo_1 20 rfl rfl)
theorem dX2_undo_44 : decode cX2_undo 44 = .ok (.getfield 7, 3) := dk_180 0 7 (dk_at dksX2_undo_1 21 rfl rfl)
theorem dX2_undo_47 : decode cX2_undo 47 = .ok (.iload_n 1, 1) := dk_27 (dk_at dksX2_undo_2 0 rfl rfl)
theorem dX2_undo_48 : decode cX2_undo 48 = .ok (.iconst 1, 1) := dk_4 (dk_at dksX2_undo_2 1 rfl rfl)
theorem dX2_undo_49 : decode cX2_undo 49 = .ok (.iadd, 1) := dk_96 (dk_at dksX2_undo_2 2 rfl rfl)
theorem dX2_undo_50 : decode cX2_undo 50 = .ok (.iaload, 1) := dk_46 (dk_at dksX2_undo_2 3 rfl rfl)
theorem dX2_undo_51 : decode cX2_undo 51 = .ok (.iastore, 1) := dk_79 (dk_at dksX2_undo_2 4 rfl rfl)
theorem dX2_undo_52 : decode cX2_undo 52 = .ok (.aload_n 0, 1) := dk_42 (dk_at dksX2_undo_2 5 rfl rfl)
theorem dX2_undo_53 : decode cX2_undo 53 = .ok (.getfield 7, 3) := dk_180 0 7 (dk_at dksX2_undo_2 6 rfl rfl)
theorem dX2_undo_56 : decode cX2_undo 56 = .ok (.iconst 2, 1) := dk_5 (dk_at dksX2_undo_2 9 rfl rfl)
theorem dX2_undo_57 : decode cX2_undo 57 = .ok (.aload_n 0, 1) := dk_42 (dk_at dksX2_undo_2 10 rfl rfl)
theorem dX2_undo_58 : decode cX2_undo 58 = .ok (.getfield 7, 3) := dk_180 0 7 (dk_at dksX2_undo_2 11 rfl rfl)
theorem dX2_undo_61 : decode cX2_undo 61 = .ok (.iload_n 1, 1) := dk_27 (dk_at dksX2_undo_2 14 rfl rfl)
theorem dX2_undo_62 : decode cX2_undo 62 = .ok (.iconst 2, 1) := dk_5 (dk_at dksX2_undo_2 15 rfl rfl)
theorem dX2_undo_63 : decode cX2_undo 63 = .ok (.iadd, 1) := dk_96 (dk_at dksX2_undo_2 16 rfl rfl)
theorem dX2_undo_64 : decode cX2_undo 64 = .ok (.iaload, 1) := dk_46 (dk_at dksX2_undo_2 17 rfl rfl)
theorem dX2_undo_65 : decode cX2_undo 65 = .ok (.iastore, 1) := dk_79 (dk_at dksX2_undo_2 18 rfl rfl)
theorem dX2_undo_66 : decode cX2_undo 66 = .ok (.aload_n 0, 1) := dk_42 (dk_at dksX2_undo_2 19 rfl rfl)
theorem dX2_undo_67 : decode cX2_undo 67 = .ok (.getfield 7, 3) := dk_180 0 7 (dk_at dksX2_undo_2 20 rfl rfl)
theorem dX2_undo_70 : decode cX2_undo 70 = .ok (.iconst 4, 1) := dk_7 (dk_at dksX2_undo_2 23 rfl rfl)
theorem dX2_undo_71 : decode cX2_undo 71 = .ok (.aload_n 0, 1) := dk_42 (dk_at dksX2_undo_3 0 rfl rfl)
theorem dX2_undo_72 : decode cX2_undo 72 = .ok (.getfield 7, 3) := dk_180 0 7 (dk_at dksX2_undo_3 1 rfl rfl)
theorem dX2_undo_75 : decode cX2_undo 75 = .ok (.iload_n 1, 1) := dk_27 (dk_at dksX2_undo_3 4 rfl rfl)
theorem dX2_undo_76 : decode cX2_undo 76 = .ok (.iconst 3, 1) := dk_6 (dk_at dksX2_undo_3 5 rfl rfl)
theorem dX2_undo_77 : decode cX2_undo 77 = .ok (.iadd, 1) := dk_96 (dk_at dksX2_undo_3 6 rfl rfl)
theorem dX2_undo_78 : decode cX2_undo 78 = .ok (.iaload, 1) := dk_46 (dk_at dksX2_undo_3 7 rfl rfl)
theorem dX2_undo_79 : decode cX2_undo 79 = .ok (.iastore, 1) := dk_79 (dk_at dksX2_undo_3 8 rfl rfl)
theorem dX2_undo_80 : decode cX2_undo 80 = .ok (.aload_n 0, 1) := dk_42 (dk_at dksX2_undo_3 9 rfl rfl)
theorem dX2_undo_81 : decode cX2_undo 81 = .ok (.getfield 7, 3) := dk_180 0 7 (dk_at dksX2_undo_3 10 rfl rfl)
theorem dX2_undo_84 : decode cX2_undo 84 = .ok (.bipush 9, 2) := dk_16 9 (dk_at dksX2_undo_3 13 rfl rfl)
theorem dX2_undo_86 : decode cX2_undo 86 = .ok (.aload_n 0, 1) := dk_42 (dk_at dksX2_undo_3 15 rfl rfl)
theorem dX2_undo_87 : decode cX2_undo 87 = .ok (.getfield 7, 3) := dk_180 0 7 (dk_at dksX2_undo_3 16 rfl rfl)
theorem dX2_undo_90 : decode cX2_undo 90 = .ok (.iload_n 1, 1) := dk_27 (dk_at dksX2_undo_3 19 rfl rfl)
theorem dX2_undo_91 : decode cX2_undo 91 = .ok (.iconst 4, 1) := dk_7 (dk_at dksX2_undo_3 20 rfl rfl)
theorem dX2_undo_92 : decode cX2_undo 92 = .ok (.iadd, 1) := dk_96 (dk_at dksX2_undo_3 21 rfl rfl)
theorem dX2_undo_93 : decode cX2_undo 93 = .ok (.iaload, 1) := dk_46 (dk_at dksX2_undo_3 22 rfl rfl)
theorem dX2_undo_94 : decode cX2_undo 94 = .ok (.iastore, 1) := dk_79 (dk_at dksX2_undo_3 23 rfl rfl)
theorem dX2_undo_95 : decode cX2_undo 95 = .ok (.iconst 0, 1) := dk_3 (dk_at dksX2_undo_4 0 rfl rfl)
theorem dX2_undo_96 : decode cX2_undo 96 = .ok (.istore_n 2, 1) := dk_61 (dk_at dksX2_undo_4 1 rfl rfl)
theorem dX2_undo_97 : decode cX2_undo 97 = .ok (.iload_n 2, 1) := dk_28 (dk_at dksX2_undo_4 2 rfl rfl)
theorem dX2_undo_98 : decode cX2_undo 98 = .ok (.bipush 33, 2) := dk_16 33 (dk_at dksX2_undo_4 3 rfl rfl)
theorem dX2_undo_100 : decode cX2_undo 100 = .ok (.if_icmp .ge 28, 3) := dk_162 0 28 (dk_at dksX2_undo_4 5 rfl rfl)
theorem dX2_undo_103 : decode cX2_undo 103 = .ok (.aload_n 0, 1) := dk_42 (dk_at dksX2_undo_4 8 rfl rfl)
theorem dX2_undo_104 : decode cX2_undo 104 = .ok (.getfield 7, 3) := dk_180 0 7 (dk_at dksX2_undo_4 9 rfl rfl)
theorem dX2_undo_107 : decode cX2_undo 107 = .ok (.bipush 13, 2) := dk_16 13 (dk_at dksX2_undo_4 12 rfl rfl)
theorem dX2_undo_109 : decode cX2_undo 109 = .ok (.iload_n 2, 1) := dk_28 (dk_at dksX2_undo_4 14 rfl rfl)
theorem dX2_undo_110 : decode cX2_undo 110 = .ok (.iadd, 1) := dk_96 (dk_at dksX2_undo_4 15 rfl rfl)
theorem dX2_undo_111 : decode cX2_undo 111 = .ok (.aload_n 0, 1) := dk_42 (dk_at dksX2_undo_4 16 rfl rfl)
theorem dX2_undo_112 : decode cX2_undo 112 = .ok (.getfield 7, 3) := dk_180 0 7 (dk_at dksX2_undo_4 17 rfl rfl)
theorem dX2_undo_115 : decode cX2_undo 115 = .ok (.iload_n 1, 1) := dk_27 (dk_at dksX2_undo_4 20 rfl rfl)
theorem dX2_undo_116 : decode cX2_undo 116 = .ok (.iconst 5, 1) := dk_8 (dk_at dksX2_undo_4 21 rfl rfl)
theorem dX2_undo_117 : decode cX2_undo 117 = .ok (.iadd, 1) := dk_96 (dk_at dksX2_undo_4 22 rfl rfl)
theorem dX2_undo_118 : decode cX2_undo 118 = .ok (.iload_n 2, 1) := dk_28 (dk_at dksX2_undo_4 23 rfl rfl)
theorem dX2_undo_119 : decode cX2_undo 119 = .ok (.iadd, 1) := dk_96 (dk_at dksX2_undo_5 0 rfl rfl)
theorem dX2_undo_120 : decode cX2_undo 120 = .ok (.iaload, 1) := dk_46 (dk_at dksX2_undo_5 1 rfl rfl)
theorem dX2_undo_121 : decode cX2_undo 121 = .ok (.iastore, 1) := dk_79 (dk_at dksX2_undo_5 2 rfl rfl)
theorem dX2_undo_122 : decode cX2_undo 122 = .ok (.iinc 2 1, 3) := dk_132 2 1 (dk_at dksX2_undo_5 3 rfl rfl)
theorem dX2_undo_125 : decode cX2_undo 125 = .ok (.goto (-28), 3) := dk_167 255 228 (dk_at dksX2_undo_5 6 rfl rfl)
theorem dX2_undo_128 : decode cX2_undo 128 = .ok (.iconst 0, 1) := dk_3 (dk_at dksX2_undo_5 9 rfl rfl)
theorem dX2_undo_129 : decode cX2_undo 129 = .ok (.istore_n 2, 1) := dk_61 (dk_at dksX2_undo_5 10 rfl rfl)
theorem dX2_undo_130 : decode cX2_undo 130 = .ok (.iload_n 2, 1) := dk_28 (dk_at dksX2_undo_5 11 rfl rfl)
theorem dX2_undo_131 : decode cX2_undo 131 = .ok (.aload_n 0, 1) := dk_42 (dk_at dksX2_undo_5 12 rfl rfl)
theorem dX2_undo_132 : decode cX2_undo 132 = .ok (.getfield 7, 3) := dk_180 0 7 (dk_at dksX2_undo_5 13 rfl rfl)
theorem dX2_undo_135 : decode cX2_undo 135 = .ok (.iconst 0, 1) := dk_3 (dk_at dksX2_undo_5 16 rfl rfl)
theorem dX2_undo_136 : decode cX2_undo 136 = .ok (.iaload, 1) := dk_46 (dk_at dksX2_undo_5 17 rfl rfl)
theorem dX2_undo_137 : decode cX2_undo 137 = .ok (.if_icmp .ge 40, 3) := dk_162 0 40 (dk_at dksX2_undo_5 18 rfl rfl)
theorem dX2_undo_140 : decode cX2_undo 140 = .ok (.aload_n 0, 1) := dk_42 (dk_at dksX2_undo_5 21 rfl rfl)
theorem dX2_undo_141 : decode cX2_undo 141 = .ok (.iload_n 2, 1) := dk_28 (dk_at dksX2_undo_5 22 rfl rfl)
theorem dX2_undo_142 : decode cX2_undo 142 = .ok (.iconst 5, 1) := dk_8 (dk_at dksX2_undo_5 23 rfl rfl)
theorem dX2_undo_143 : decode cX2_undo 143 = .ok (.iload_n 2, 1) := dk_28 (dk_at dksX2_undo_6 0 rfl rfl)
theorem dX2_undo_144 : decode cX2_undo 144 = .ok (.aload_n 0, 1) := dk_42 (dk_at dksX2_undo_6 1 rfl rfl)
theorem dX2_undo_145 : decode cX2_undo 145 = .ok (.getfield 7, 3) := dk_180 0 7 (dk_at dksX2_undo_6 2 rfl rfl)
theorem dX2_undo_148 : decode cX2_undo 148 = .ok (.iload_n 1, 1) := dk_27 (dk_at dksX2_undo_6 5 rfl rfl)
theorem dX2_undo_149 : decode cX2_undo 149 = .ok (.iaload, 1) := dk_46 (dk_at dksX2_undo_6 6 rfl rfl)
theorem dX2_undo_150 : decode cX2_undo 150 = .ok (.if_icmp .ge 17, 3) := dk_162 0 17 (dk_at dksX2_undo_6 7 rfl rfl)
theorem dX2_undo_153 : decode cX2_undo 153 = .ok (.aload_n 0, 1) := dk_42 (dk_at dksX2_undo_6 10 rfl rfl)
theorem dX2_undo_154 : decode cX2_undo 154 = .ok (.getfield 7, 3) := dk_180 0 7 (dk_at dksX2_undo_6 11 rfl rfl)
theorem dX2_undo_157 : decode cX2_undo 157 = .ok (.iload_n 1, 1) := dk_27 (dk_at dksX2_undo_6 14 rfl rfl)
theorem dX2_undo_158 : decode cX2_undo 158 = .ok (.bipush 38, 2) := dk_16 38 (dk_at dksX2_undo_6 15 rfl rfl)
theorem dX2_undo_160 : decode cX2_undo 160 = .ok (.iadd, 1) := dk_96 (dk_at dksX2_undo_6 17 rfl rfl)
theorem dX2_undo_161 : decode cX2_undo 161 = .ok (.iload_n 2, 1) := dk_28 (dk_at dksX2_undo_6 18 rfl rfl)
theorem dX2_undo_162 : decode cX2_undo 162 = .ok (.iadd, 1) := dk_96 (dk_at dksX2_undo_6 19 rfl rfl)
theorem dX2_undo_163 : decode cX2_undo 163 = .ok (.iaload, 1) := dk_46 (dk_at dksX2_undo_6 20 rfl rfl)
theorem dX2_undo_164 : decode cX2_undo 164 = .ok (.goto 4, 3) := dk_167 0 4 (dk_at dksX2_undo_6 21 rfl rfl)
theorem dX2_undo_167 : decode cX2_undo 167 = .ok (.iconst 3, 1) := dk_6 (dk_at dksX2_undo_7 0 rfl rfl)
theorem dX2_undo_168 : decode cX2_undo 168 = .ok (.invokevirtual 104, 3) := dk_182 0 104 (dk_at dksX2_undo_7 1 rfl rfl)
theorem dX2_undo_171 : decode cX2_undo 171 = .ok (.iinc 2 1, 3) := dk_132 2 1 (dk_at dksX2_undo_7 4 rfl rfl)
theorem dX2_undo_174 : decode cX2_undo 174 = .ok (.goto (-44), 3) := dk_167 255 212 (dk_at dksX2_undo_7 7 rfl rfl)
theorem dX2_undo_177 : decode cX2_undo 177 = .ok (.aload_n 0, 1) := dk_42 (dk_at dksX2_undo_7 10 rfl rfl)
theorem dX2_undo_178 : decode cX2_undo 178 = .ok (.getfield 7, 3) := dk_180 0 7 (dk_at dksX2_undo_7 11 rfl rfl)
theorem dX2_undo_181 : decode cX2_undo 181 = .ok (.bipush 7, 2) := dk_16 7 (dk_at dksX2_undo_7 14 rfl rfl)
theorem dX2_undo_183 : decode cX2_undo 183 = .ok (.iaload, 1) := dk_46 (dk_at dksX2_undo_7 16 rfl rfl)
theorem dX2_undo_184 : decode cX2_undo 184 = .ok (.ireturn, 1) := dk_172 (dk_at dksX2_undo_7 17 rfl rfl)
abbrev MX2_undo : jjM := (yX2_undo, cX2_undo, 3, (Option.some Jvm.ClassFile.FieldType.int))
theorem npX2_undo : yX2_undo.cls ≠ "java/lang/invoke/MethodHandle" ∧ yX2_undo.cls ≠ "java/lang/invoke/VarHandle" ∧ (parseMethodDescriptor yX2_undo.desc).map (fun d => d.parameters.length) = some 0 := by decide +kernel
abbrev cX2_night : ByteArray := prog_17_method_81_code
def yX2_night : MethodName := ⟨RX2, "night", "(I)I"⟩
def dkwX2_night_2 : List UInt8 := [28, 172]
abbrev dktX2_night_2 : List UInt8 := dkwX2_night_2 ++ []
def dkwX2_night_1 : List UInt8 := [2, 172, 3, 61, 3, 62, 29, 27, 162, 0, 16, 28, 42, 182, 1, 95, 96, 61, 132, 3, 1, 167, 255, 241]
abbrev dktX2_night_1 : List UInt8 := dkwX2_night_1 ++ dktX2_night_2
def dkwX2_night_0 : List UInt8 := [27, 4, 16, 99, 184, 0, 89, 153, 0, 17, 42, 180, 0, 7, 4, 46, 27, 96, 17, 39, 15, 164, 0, 5]
abbrev dktX2_night_0 : List UInt8 := dkwX2_night_0 ++ dktX2_night_1
theorem dksX2_night_0 : cX2_night.data.toList.drop 0 = dktX2_night_0 := by decide +kernel
theorem dksX2_night_1 : cX2_night.data.toList.drop 24 = dktX2_night_1 := dk_seg dksX2_night_0 24 rfl rfl
theorem dksX2_night_2 : cX2_night.data.toList.drop 48 = dktX2_night_2 := dk_seg dksX2_night_1 24 rfl rfl
theorem dX2_night_0 : decode cX2_night 0 = .ok (.iload_n 1, 1) := dk_27 (dk_at dksX2_night_0 0 rfl rfl)
theorem dX2_night_1 : decode cX2_night 1 = .ok (.iconst 1, 1) := dk_4 (dk_at dksX2_night_0 1 rfl rfl)
theorem dX2_night_2 : decode cX2_night 2 = .ok (.bipush 99, 2) := dk_16 99 (dk_at dksX2_night_0 2 rfl rfl)
theorem dX2_night_4 : decode cX2_night 4 = .ok (.invokestatic 89, 3) := dk_184 0 89 (dk_at dksX2_night_0 4 rfl rfl)
theorem dX2_night_7 : decode cX2_night 7 = .ok (.ifCond .eq 17, 3) := dk_153 0 17 (dk_at dksX2_night_0 7 rfl rfl)
theorem dX2_night_10 : decode cX2_night 10 = .ok (.aload_n 0, 1) := dk_42 (dk_at dksX2_night_0 10 rfl rfl)
theorem dX2_night_11 : decode cX2_night 11 = .ok (.getfield 7, 3) := dk_180 0 7 (dk_at dksX2_night_0 11 rfl rfl)
theorem dX2_night_14 : decode cX2_night 14 = .ok (.iconst 1, 1) := dk_4 (dk_at dksX2_night_0 14 rfl rfl)
theorem dX2_night_15 : decode cX2_night 15 = .ok (.iaload, 1) := dk_46 (dk_at dksX2_night_0 15 rfl rfl)
theorem dX2_night_16 : decode cX2_night 16 = .ok (.iload_n 1, 1) := dk_27 (dk_at dksX2_night_0 16 rfl rfl)
theorem dX2_night_17 : decode cX2_night 17 = .ok (.iadd, 1) := dk_96 (dk_at dksX2_night_0 17 rfl rfl)
theorem dX2_night_18 : decode cX2_night 18 = .ok (.sipush 9999, 3) := dk_17 39 15 (dk_at dksX2_night_0 18 rfl rfl)
theorem dX2_night_21 : decode cX2_night 21 = .ok (.if_icmp .le 5, 3) := dk_164 0 5 (dk_at dksX2_night_0 21 rfl rfl)
theorem dX2_night_24 : decode cX2_night 24 = .ok (.iconst (-1), 1) := dk_2 (dk_at dksX2_night_1 0 rfl rfl)
theorem dX2_night_25 : decode cX2_night 25 = .ok (.ireturn, 1) := dk_172 (dk_at dksX2_night_1 1 rfl rfl)
theorem dX2_night_26 : decode cX2_night 26 = .ok (.iconst 0, 1) := dk_3 (dk_at dksX2_night_1 2 rfl rfl)
theorem dX2_night_27 : decode cX2_night 27 = .ok (.istore_n 2, 1) := dk_61 (dk_at dksX2_night_1 3 rfl rfl)
theorem dX2_night_28 : decode cX2_night 28 = .ok (.iconst 0, 1) := dk_3 (dk_at dksX2_night_1 4 rfl rfl)
theorem dX2_night_29 : decode cX2_night 29 = .ok (.istore_n 3, 1) := dk_62 (dk_at dksX2_night_1 5 rfl rfl)
theorem dX2_night_30 : decode cX2_night 30 = .ok (.iload_n 3, 1) := dk_29 (dk_at dksX2_night_1 6 rfl rfl)
theorem dX2_night_31 : decode cX2_night 31 = .ok (.iload_n 1, 1) := dk_27 (dk_at dksX2_night_1 7 rfl rfl)
theorem dX2_night_32 : decode cX2_night 32 = .ok (.if_icmp .ge 16, 3) := dk_162 0 16 (dk_at dksX2_night_1 8 rfl rfl)
theorem dX2_night_35 : decode cX2_night 35 = .ok (.iload_n 2, 1) := dk_28 (dk_at dksX2_night_1 11 rfl rfl)
theorem dX2_night_36 : decode cX2_night 36 = .ok (.aload_n 0, 1) := dk_42 (dk_at dksX2_night_1 12 rfl rfl)
theorem dX2_night_37 : decode cX2_night 37 = .ok (.invokevirtual 351, 3) := dk_182 1 95 (dk_at dksX2_night_1 13 rfl rfl)
theorem dX2_night_40 : decode cX2_night 40 = .ok (.iadd, 1) := dk_96 (dk_at dksX2_night_1 16 rfl rfl)
theorem dX2_night_41 : decode cX2_night 41 = .ok (.istore_n 2, 1) := dk_61 (dk_at dksX2_night_1 17 rfl rfl)
theorem dX2_night_42 : decode cX2_night 42 = .ok (.iinc 3 1, 3) := dk_132 3 1 (dk_at dksX2_night_1 18 rfl rfl)
theorem dX2_night_45 : decode cX2_night 45 = .ok (.goto (-15), 3) := dk_167 255 241 (dk_at dksX2_night_1 21 rfl rfl)
theorem dX2_night_48 : decode cX2_night 48 = .ok (.iload_n 2, 1) := dk_28 (dk_at dksX2_night_2 0 rfl rfl)
theorem dX2_night_49 : decode cX2_night 49 = .ok (.ireturn, 1) := dk_172 (dk_at dksX2_night_2 1 rfl rfl)
abbrev MX2_night : jjM := (yX2_night, cX2_night, 4, (Option.some Jvm.ClassFile.FieldType.int))
theorem npX2_night : yX2_night.cls ≠ "java/lang/invoke/MethodHandle" ∧ yX2_night.cls ≠ "java/lang/invoke/VarHandle" ∧ (parseMethodDescriptor yX2_night.desc).map (fun d => d.parameters.length) = some 1 := by decide +kernel
abbrev cX2_oneNight : ByteArray := prog_17_method_80_code
def yX2_oneNight : MethodName := ⟨RX2, "oneNight", "()I"⟩
def dkwX2_oneNight_3 : List UInt8 := [180, 1, 89, 42, 182, 1, 92, 96, 181, 1, 89, 27, 172]
abbrev dktX2_oneNight_3 : List UInt8 := dkwX2_oneNight_3 ++ []
def dkwX2_oneNight_2 : List UInt8 := [132, 3, 2, 167, 255, 229, 132, 2, 1, 167, 255, 209, 42, 180, 0, 7, 4, 92, 46, 4, 96, 79, 42, 89]
abbrev dktX2_oneNight_2 : List UInt8 := dkwX2_oneNight_2 ++ dktX2_oneNight_3
def dkwX2_oneNight_1 : List UInt8 := [96, 42, 180, 0, 7, 16, 13, 28, 96, 46, 162, 0, 18, 27, 42, 28, 29, 182, 1, 86, 96, 60]
abbrev dktX2_oneNight_1 : List UInt8 := dkwX2_oneNight_1 ++ dktX2_oneNight_2
def dkwX2_oneNight_0 : List UInt8 := [42, 182, 1, 83, 3, 60, 3, 61, 28, 6, 162, 0, 48, 42, 180, 0, 7, 4, 46, 5, 112, 62, 29, 4]
abbrev dktX2_oneNight_0 : List UInt8 := dkwX2_oneNight_0 ++ dktX2_oneNight_1
theorem dksX2_oneNight_0 : cX2_oneNight.data.toList.drop 0 = dktX2_oneNight_0 := by decide +kernel
theorem dksX2_oneNight_1 : cX2_oneNight.data.toList.drop 24 = dktX2_oneNight_1 := dk_seg dksX2_oneNight_0 24 rfl rfl
theorem dksX2_oneNight_2 : cX2_oneNight.data.toList.drop 46 = dktX2_oneNight_2 := dk_seg dksX2_oneNight_1 22 rfl rfl
theorem dksX2_oneNight_3 : cX2_oneNight.data.toList.drop 70 = dktX2_oneNight_3 := dk_seg dksX2_oneNight_2 24 rfl rfl
theorem dX2_oneNight_0 : decode cX2_oneNight 0 = .ok (.aload_n 0, 1) := dk_42 (dk_at dksX2_oneNight_0 0 rfl rfl)
theorem dX2_oneNight_1 : decode cX2_oneNight 1 = .ok (.invokevirtual 339, 3) := dk_182 1 83 (dk_at dksX2_oneNight_0 1 rfl rfl)
theorem dX2_oneNight_4 : decode cX2_oneNight 4 = .ok (.iconst 0, 1) := dk_3 (dk_at dksX2_oneNight_0 4 rfl rfl)
theorem dX2_oneNight_5 : decode cX2_oneNight 5 = .ok (.istore_n 1, 1) := dk_60 (dk_at dksX2_oneNight_0 5 rfl rfl)
theorem dX2_oneNight_6 : decode cX2_oneNight 6 = .ok (.iconst 0, 1) := dk_3 (dk_at dksX2_oneNight_0 6 rfl rfl)
theorem dX2_oneNight_7 : decode cX2_oneNight 7 = .ok (.istore_n 2, 1) := dk_61 (dk_at dksX2_oneNight_0 7 rfl rfl)
theorem dX2_oneNight_8 : decode cX2_oneNight 8 = .ok (.iload_n 2, 1) := dk_28 (dk_at dksX2_oneNight_0 8 rfl rfl)
theorem dX2_oneNight_9 : decode cX2_oneNight 9 = .ok (.iconst 3, 1) := dk_6 (dk_at dksX2_oneNight_0 9 rfl rfl)
theorem dX2_oneNight_10 : decode cX2_oneNight 10 = .ok (.if_icmp .ge 48, 3) := dk_162 0 48 (dk_at dksX2_oneNight_0 10 rfl rfl)
theorem dX2_oneNight_13 : decode cX2_oneNight 13 = .ok (.aload_n 0, 1) := dk_42 (dk_at dksX2_oneNight_0 13 rfl rfl)
theorem dX2_oneNight_14 : decode cX2_oneNight 14 = .ok (.getfield 7, 3) := dk_180 0 7 (dk_at dksX2_oneNight_0 14 rfl rfl)
theorem dX2_oneNight_17 : decode cX2_oneNight 17 = .ok (.iconst 1, 1) := dk_4 (dk_at dksX2_oneNight_0 17 rfl rfl)
theorem dX2_oneNight_18 : decode cX2_oneNight 18 = .ok (.iaload, 1) := dk_46 (dk_at dksX2_oneNight_0 18 rfl rfl)
theorem dX2_oneNight_19 : decode cX2_oneNight 19 = .ok (.iconst 2, 1) := dk_5 (dk_at dksX2_oneNight_0 19 rfl rfl)
theorem dX2_oneNight_20 : decode cX2_oneNight 20 = .ok (.irem, 1) := dk_112 (dk_at dksX2_oneNight_0 20 rfl rfl)
theorem dX2_oneNight_21 : decode cX2_oneNight 21 = .ok (.istore_n 3, 1) := dk_62 (dk_at dksX2_oneNight_0 21 rfl rfl)
theorem dX2_oneNight_22 : decode cX2_oneNight 22 = .ok (.iload_n 3, 1) := dk_29 (dk_at dksX2_oneNight_0 22 rfl rfl)
theorem dX2_oneNight_23 : decode cX2_oneNight 23 = .ok (.iconst 1, 1) := dk_4 (dk_at dksX2_oneNight_0 23 rfl rfl)
theorem dX2_oneNight_24 : decode cX2_oneNight 24 = .ok (.iadd, 1) := dk_96 (dk_at dksX2_oneNight_1 0 rfl rfl)
theorem dX2_oneNight_25 : decode cX2_oneNight 25 = .ok (.aload_n 0, 1) := dk_42 (dk_at dksX2_oneNight_1 1 rfl rfl)
theorem dX2_oneNight_26 : decode cX2_oneNight 26 = .ok (.getfield 7, 3) := dk_180 0 7 (dk_at dksX2_oneNight_1 2 rfl rfl)
theorem dX2_oneNight_29 : decode cX2_oneNight 29 = .ok (.bipush 13, 2) := dk_16 13 (dk_at dksX2_oneNight_1 5 rfl rfl)
theorem dX2_oneNight_31 : decode cX2_oneNight 31 = .ok (.iload_n 2, 1) := dk_28 (dk_at dksX2_oneNight_1 7 rfl rfl)
theorem dX2_oneNight_32 : decode cX2_oneNight 32 = .ok (.iadd, 1) := dk_96 (dk_at dksX2_oneNight_1 8 rfl rfl)
theorem dX2_oneNight_33 : decode cX2_oneNight 33 = .ok (.iaload, 1) := dk_46 (dk_at dksX2_oneNight_1 9 rfl rfl)
theorem dX2_oneNight_34 : decode cX2_oneNight 34 = .ok (.if_icmp .ge 18, 3) := dk_162 0 18 (dk_at dksX2_oneNight_1 10 rfl rfl)
theorem dX2_oneNight_37 : decode cX2_oneNight 37 = .ok (.iload_n 1, 1) := dk_27 (dk_at dksX2_oneNight_1 13 rfl rfl)
theorem dX2_oneNight_38 : decode cX2_oneNight 38 = .ok (.aload_n 0, 1) := dk_42 (dk_at dksX2_oneNight_1 14 rfl rfl)
theorem dX2_oneNight_39 : decode cX2_oneNight 39 = .ok (.iload_n 2, 1) := dk_28 (dk_at dksX2_oneNight_1 15 rfl rfl)
theorem dX2_oneNight_40 : decode cX2_oneNight 40 = .ok (.iload_n 3, 1) := dk_29 (dk_at dksX2_oneNight_1 16 rfl rfl)
theorem dX2_oneNight_41 : decode cX2_oneNight 41 = .ok (.invokevirtual 342, 3) := dk_182 1 86 (dk_at dksX2_oneNight_1 17 rfl rfl)
theorem dX2_oneNight_44 : decode cX2_oneNight 44 = .ok (.iadd, 1) := dk_96 (dk_at dksX2_oneNight_1 20 rfl rfl)
theorem dX2_oneNight_45 : decode cX2_oneNight 45 = .ok (.istore_n 1, 1) := dk_60 (dk_at dksX2_oneNight_1 21 rfl rfl)
theorem dX2_oneNight_46 : decode cX2_oneNight 46 = .ok (.iinc 3 2, 3) := dk_132 3 2 (dk_at dksX2_oneNight_2 0 rfl rfl)
theorem dX2_oneNight_49 : decode cX2_oneNight 49 = .ok (.goto (-27), 3) := dk_167 255 229 (dk_at dksX2_oneNight_2 3 rfl rfl)
theorem dX2_oneNight_52 : decode cX2_oneNight 52 = .ok (.iinc 2 1, 3) := dk_132 2 1 (dk_at dksX2_oneNight_2 6 rfl rfl)
theorem dX2_oneNight_55 : decode cX2_oneNight 55 = .ok (.goto (-47), 3) := dk_167 255 209 (dk_at dksX2_oneNight_2 9 rfl rfl)
theorem dX2_oneNight_58 : decode cX2_oneNight 58 = .ok (.aload_n 0, 1) := dk_42 (dk_at dksX2_oneNight_2 12 rfl rfl)
theorem dX2_oneNight_59 : decode cX2_oneNight 59 = .ok (.getfield 7, 3) := dk_180 0 7 (dk_at dksX2_oneNight_2 13 rfl rfl)
theorem dX2_oneNight_62 : decode cX2_oneNight 62 = .ok (.iconst 1, 1) := dk_4 (dk_at dksX2_oneNight_2 16 rfl rfl)
theorem dX2_oneNight_63 : decode cX2_oneNight 63 = .ok (.dup2, 1) := dk_92 (dk_at dksX2_oneNight_2 17 rfl rfl)
theorem dX2_oneNight_64 : decode cX2_oneNight 64 = .ok (.iaload, 1) := dk_46 (dk_at dksX2_oneNight_2 18 rfl rfl)
theorem dX2_oneNight_65 : decode cX2_oneNight 65 = .ok (.iconst 1, 1) := dk_4 (dk_at dksX2_oneNight_2 19 rfl rfl)
theorem dX2_oneNight_66 : decode cX2_oneNight 66 = .ok (.iadd, 1) := dk_96 (dk_at dksX2_oneNight_2 20 rfl rfl)
theorem dX2_oneNight_67 : decode cX2_oneNight 67 = .ok (.iastore, 1) := dk_79 (dk_at dksX2_oneNight_2 21 rfl rfl)
theorem dX2_oneNight_68 : decode cX2_oneNight 68 = .ok (.aload_n 0, 1) := dk_42 (dk_at dksX2_oneNight_2 22 rfl rfl)
theorem dX2_oneNight_69 : decode cX2_oneNight 69 = .ok (.dup, 1) := dk_89 (dk_at dksX2_oneNight_2 23 rfl rfl)
theorem dX2_oneNight_70 : decode cX2_oneNight 70 = .ok (.getfield 345, 3) := dk_180 1 89 (dk_at dksX2_oneNight_3 0 rfl rfl)
theorem dX2_oneNight_73 : decode cX2_oneNight 73 = .ok (.aload_n 0, 1) := dk_42 (dk_at dksX2_oneNight_3 3 rfl rfl)
theorem dX2_oneNight_74 : decode cX2_oneNight 74 = .ok (.invokevirtual 348, 3) := dk_182 1 92 (dk_at dksX2_oneNight_3 4 rfl rfl)
theorem dX2_oneNight_77 : decode cX2_oneNight 77 = .ok (.iadd, 1) := dk_96 (dk_at dksX2_oneNight_3 7 rfl rfl)
theorem dX2_oneNight_78 : decode cX2_oneNight 78 = .ok (.putfield 345, 3) := dk_181 1 89 (dk_at dksX2_oneNight_3 8 rfl rfl)
theorem dX2_oneNight_81 : decode cX2_oneNight 81 = .ok (.iload_n 1, 1) := dk_27 (dk_at dksX2_oneNight_3 11 rfl rfl)
theorem dX2_oneNight_82 : decode cX2_oneNight 82 = .ok (.ireturn, 1) := dk_172 (dk_at dksX2_oneNight_3 12 rfl rfl)
abbrev MX2_oneNight : jjM := (yX2_oneNight, cX2_oneNight, 4, (Option.some Jvm.ClassFile.FieldType.int))
theorem npX2_oneNight : yX2_oneNight.cls ≠ "java/lang/invoke/MethodHandle" ∧ yX2_oneNight.cls ≠ "java/lang/invoke/VarHandle" ∧ (parseMethodDescriptor yX2_oneNight.desc).map (fun d => d.parameters.length) = some 0 := by decide +kernel
abbrev cX2_keep : ByteArray := prog_17_method_69_code
def yX2_keep : MethodName := ⟨RX2, "keep", "()V"⟩
def dkwX2_keep_9 : List UInt8 := [180, 0, 7, 16, 7, 92, 46, 4, 96, 79, 177]
abbrev dktX2_keep_9 : List UInt8 := dkwX2_keep_9 ++ []
def dkwX2_keep_8 : List UInt8 := [180, 0, 7, 27, 16, 38, 96, 28, 96, 42, 28, 8, 182, 0, 97, 79, 132, 2, 1, 167, 255, 230, 42]
abbrev dktX2_keep_8 : List UInt8 := dkwX2_keep_8 ++ dktX2_keep_9
def dkwX2_keep_7 : List UInt8 := [180, 0, 7, 16, 13, 28, 96, 46, 79, 132, 2, 1, 167, 255, 228, 3, 61, 28, 16, 10, 162, 0, 26, 42]
abbrev dktX2_keep_7 : List UInt8 := dkwX2_keep_7 ++ dktX2_keep_8
def dkwX2_keep_6 : List UInt8 := [16, 9, 46, 79, 3, 61, 28, 16, 33, 162, 0, 28, 42, 180, 0, 7, 27, 8, 96, 28, 96, 42]
abbrev dktX2_keep_6 : List UInt8 := dkwX2_keep_6 ++ dktX2_keep_7
def dkwX2_keep_5 : List UInt8 := [180, 0, 7, 27, 6, 96, 42, 180, 0, 7, 7, 46, 79, 42, 180, 0, 7, 27, 7, 96, 42, 180, 0, 7]
abbrev dktX2_keep_5 : List UInt8 := dkwX2_keep_5 ++ dktX2_keep_6
def dkwX2_keep_4 : List UInt8 := [96, 42, 180, 0, 7, 4, 46, 79, 42, 180, 0, 7, 27, 5, 96, 42, 180, 0, 7, 5, 46, 79, 42]
abbrev dktX2_keep_4 : List UInt8 := dkwX2_keep_4 ++ dktX2_keep_5
def dkwX2_keep_3 : List UInt8 := [16, 7, 46, 104, 96, 60, 42, 180, 0, 7, 27, 42, 180, 0, 7, 3, 46, 79, 42, 180, 0, 7, 27, 4]
abbrev dktX2_keep_3 : List UInt8 := dkwX2_keep_3 ++ dktX2_keep_4
def dkwX2_keep_2 : List UInt8 := [167, 255, 226, 42, 180, 0, 7, 16, 7, 92, 46, 4, 100, 79, 17, 0, 154, 16, 48, 42, 180, 0, 7]
abbrev dktX2_keep_2 : List UInt8 := dkwX2_keep_2 ++ dktX2_keep_3
def dkwX2_keep_1 : List UInt8 := [180, 0, 7, 17, 0, 154, 27, 96, 42, 180, 0, 7, 17, 0, 202, 27, 96, 46, 79, 132, 1, 1]
abbrev dktX2_keep_1 : List UInt8 := dkwX2_keep_1 ++ dktX2_keep_2
def dkwX2_keep_0 : List UInt8 := [42, 180, 0, 7, 16, 7, 46, 16, 30, 160, 0, 49, 3, 60, 27, 17, 5, 112, 162, 0, 29, 42]
abbrev dktX2_keep_0 : List UInt8 := dkwX2_keep_0 ++ dktX2_keep_1
theorem dksX2_keep_0 : cX2_keep.data.toList.drop 0 = dktX2_keep_0 := by decide +kernel
theorem dksX2_keep_1 : cX2_keep.data.toList.drop 22 = dktX2_keep_1 := dk_seg dksX2_keep_0 22 rfl rfl
theorem dksX2_keep_2 : cX2_keep.data.toList.drop 44 = dktX2_keep_2 := dk_seg dksX2_keep_1 22 rfl rfl
theorem dksX2_keep_3 : cX2_keep.data.toList.drop 67 = dktX2_keep_3 := dk_seg dksX2_keep_2 23 rfl rfl
theorem dksX2_keep_4 : cX2_keep.data.toList.drop 91 = dktX2_keep_4 := dk_seg dksX2_keep_3 24 rfl rfl
theorem dksX2_keep_5 : cX2_keep.data.toList.drop 114 = dktX2_keep_5 := dk_seg dksX2_keep_4 23 rfl rfl
theorem dksX2_keep_6 : cX2_keep.data.toList.drop 138 = dktX2_keep_6 := dk_seg dksX2_keep_5 24 rfl rfl
theorem dksX2_keep_7 : cX2_keep.data.toList.drop 160 = dktX2_keep_7 := dk_seg dksX2_keep_6 22 rfl rfl
theorem dksX2_keep_8 : cX2_keep.data.toList.drop 184 = dktX2_keep_8 := dk_seg dksX2_keep_7 24 rfl rfl
theorem dksX2_keep_9 : cX2_keep.data.toList.drop 207 = dktX2_keep_9 := dk_seg dksX2_keep_8 23 rfl rfl
theorem dX2_keep_0 : decode cX2_keep 0 = .ok (.aload_n 0, 1) := dk_42 (dk_at dksX2_keep_0 0 rfl rfl)
theorem dX2_keep_1 : decode cX2_keep 1 = .ok (.getfield 7, 3) := dk_180 0 7 (dk_at dksX2_keep_0 1 rfl rfl)
theorem dX2_keep_4 : decode cX2_keep 4 = .ok (.bipush 7, 2) := dk_16 7 (dk_at dksX2_keep_0 4 rfl rfl)
theorem dX2_keep_6 : decode cX2_keep 6 = .ok (.iaload, 1) := dk_46 (dk_at dksX2_keep_0 6 rfl rfl)
theorem dX2_keep_7 : decode cX2_keep 7 = .ok (.bipush 30, 2) := dk_16 30 (dk_at dksX2_keep_0 7 rfl rfl)
theorem dX2_keep_9 : decode cX2_keep 9 = .ok (.if_icmp .ne 49, 3) := dk_160 0 49 (dk_at dksX2_keep_0 9 rfl rfl)
theorem dX2_keep_12 : decode cX2_keep 12 = .ok (.iconst 0, 1) := dk_3 (dk_at dksX2_keep_0 12 rfl rfl)
theorem dX2_keep_13 : decode cX2_keep 13 = .ok (.istore_n 1, 1) := dk_60 (dk_at dksX2_keep_0 13 rfl rfl)
theorem dX2_keep_14 : decode cX2_keep 14 = .ok (.iload_n 1, 1) := dk_27 (dk_at dksX2_keep_0 14 rfl rfl)
theorem dX2_keep_15 : decode cX2_keep 15 = .ok (.sipush 1392, 3) := dk_17 5 112 (dk_at dksX2_keep_0 15 rfl rfl)
theorem dX2_keep_18 : decode cX2_keep 18 = .ok (.if_icmp .ge 29, 3) := dk_162 0 29 (dk_at dksX2_keep_0 18 rfl rfl)
theorem dX2_keep_21 : decode cX2_keep 21 = .ok (.aload_n 0, 1) := dk_42 (dk_at dksX2_keep_0 21 rfl rfl)
theorem dX2_keep_22 : decode cX2_keep 22 = .ok (.getfield 7, 3) := dk_180 0 7 (dk_at dksX2_keep_1 0 rfl rfl)
theorem dX2_keep_25 : decode cX2_keep 25 = .ok (.sipush 154, 3) := dk_17 0 154 (dk_at dksX2_keep_1 3 rfl rfl)
theorem dX2_keep_28 : decode cX2_keep 28 = .ok (.iload_n 1, 1) := dk_27 (dk_at dksX2_keep_1 6 rfl rfl)
theorem dX2_keep_29 : decode cX2_keep 29 = .ok (.iadd, 1) := dk_96 (dk_at dksX2_keep_1 7 rfl rfl)
theorem dX2_keep_30 : decode cX2_keep 30 = .ok (.aload_n 0, 1) := dk_42 (dk_at dksX2_keep_1 8 rfl rfl)
theorem dX2_keep_31 : decode cX2_keep 31 = .ok (.getfield 7, 3) := dk_180 0 7 (dk_at dksX2_keep_1 9 rfl rfl)
theorem dX2_keep_34 : decode cX2_keep 34 = .ok (.sipush 202, 3) := dk_17 0 202 (dk_at dksX2_keep_1 12 rfl rfl)
theorem dX2_keep_37 : decode cX2_keep 37 = .ok (.iload_n 1, 1) := dk_27 (dk_at dksX2_keep_1 15 rfl rfl)
theorem dX2_keep_38 : decode cX2_keep 38 = .ok (.iadd, 1) := dk_96 (dk_at dksX2_keep_1 16 rfl rfl)
theorem dX2_keep_39 : decode cX2_keep 39 = .ok (.iaload, 1) := dk_46 (dk_at dksX2_keep_1 17 rfl rfl)
theorem dX2_keep_40 : decode cX2_keep 40 = .ok (.iastore, 1) := dk_79 (dk_at dksX2_keep_1 18 rfl rfl)
theorem dX2_keep_41 : decode cX2_keep 41 = .ok (.iinc 1 1, 3) := dk_132 1 1 (dk_at dksX2_keep_1 19 rfl rfl)
theorem dX2_keep_44 : decode cX2_keep 44 = .ok (.goto (-30), 3) := dk_167 255 226 (dk_at dksX2_keep_2 0 rfl rfl)
theorem dX2_keep_47 : decode cX2_keep 47 = .ok (.aload_n 0, 1) := dk_42 (dk_at dksX2_keep_2 3 rfl rfl)
theorem dX2_keep_48 : decode cX2_keep 48 = .ok (.getfield 7, 3) := dk_180 0 7 (dk_at dksX2_keep_2 4 rfl rfl)
theorem dX2_keep_51 : decode cX2_keep 51 = .ok (.bipush 7, 2) := dk_16 7 (dk_at dksX2_keep_2 7 rfl rfl)
theorem dX2_keep_53 : decode cX2_keep 53 = .ok (.dup2, 1) := dk_92 (dk_at dksX2_keep_2 9 rfl rfl)
theorem dX2_keep_54 : decode cX2_keep 54 = .ok (.iaload, 1) := dk_46 (dk_at dksX2_keep_2 10 rfl rfl)
theorem dX2_keep_55 : decode cX2_keep 55 = .ok (.iconst 1, 1) := dk_4 (dk_at dksX2_keep_2 11 rfl rfl)
theorem dX2_keep_56 : decode cX2_keep 56 = .ok (.isub, 1) := dk_100 (dk_at dksX2_keep_2 12 rfl rfl)
theorem dX2_keep_57 : decode cX2_keep 57 = .ok (.iastore, 1) := dk_79 (dk_at dksX2_keep_2 13 rfl rfl)
theorem dX2_keep_58 : decode cX2_keep 58 = .ok (.sipush 154, 3) := dk_17 0 154 (dk_at dksX2_keep_2 14 rfl rfl)
theorem dX2_keep_61 : decode cX2_keep 61 = .ok (.bipush 48, 2) := dk_16 48 (dk_at dksX2_keep_2 17 rfl rfl)
theorem dX2_keep_63 : decode cX2_keep 63 = .ok (.aload_n 0, 1) := dk_42 (dk_at dksX2_keep_2 19 rfl rfl)
theorem dX2_keep_64 : decode cX2_keep 64 = .ok (.getfield 7, 3) := dk_180 0 7 (dk_at dksX2_keep_2 20 rfl rfl)
theorem dX2_keep_67 : decode cX2_keep 67 = .ok (.bipush 7, 2) := dk_16 7 (dk_at dksX2_keep_3 0 rfl rfl)
theorem dX2_keep_69 : decode cX2_keep 69 = .ok (.iaload, 1) := dk_46 (dk_at dksX2_keep_3 2 rfl rfl)
theorem dX2_keep_70 : decode cX2_keep 70 = .ok (.imul, 1) := dk_104 (dk_at dksX2_keep_3 3 rfl rfl)
theorem dX2_keep_71 : decode cX2_keep 71 = .ok (.iadd, 1) := dk_96 (dk_at dksX2_keep_3 4 rfl rfl)
theorem dX2_keep_72 : decode cX2_keep 72 = .ok (.istore_n 1, 1) := dk_60 (dk_at dksX2_keep_3 5 rfl rfl)
theorem dX2_keep_73 : decode cX2_keep 73 = .ok (.aload_n 0, 1) := dk_42 (dk_at dksX2_keep_3 6 rfl rfl)
theorem dX2_keep_74 : decode cX2_keep 74 = .ok (.getfield 7, 3) := dk_180 0 7 (dk_at dksX2_keep_3 7 rfl rfl)
theorem dX2_keep_77 : decode cX2_keep 77 = .ok (.iload_n 1, 1) := dk_27 (dk_at dksX2_keep_3 10 rfl rfl)
theorem dX2_keep_78 : decode cX2_keep 78 = .ok (.aload_n 0, 1) := dk_42 (dk_at dksX2_keep_3 11 rfl rfl)
theorem dX2_keep_79 : decode cX2_keep 79 = .ok (.getfield 7, 3) := dk_180 0 7 (dk_at dksX2_keep_3 12 rfl rfl)
theorem dX2_keep_82 : decode cX2_keep 82 = .ok (.iconst 0, 1) := dk_3 (dk_at dksX2_keep_3 15 rfl rfl)
theorem dX2_keep_83 : decode cX2_keep 83 = .ok (.iaload, 1) := dk_46 (dk_at dksX2_keep_3 16 rfl rfl)
theorem dX2_keep_84 : decode cX2_keep 84 = .ok (.iastore, 1) := dk_79 (dk_at dksX2_keep_3 17 rfl rfl)
theorem dX2_keep_85 : decode cX2_keep 85 = .ok (.aload_n 0, 1) := dk_42 (dk_at dksX2_keep_3 18 rfl rfl)
theorem dX2_keep_86 : decode cX2_keep 86 = .ok (.getfield 7, 3) := dk_180 0 7 (dk_at dksX2_keep_3 19 rfl rfl)
theorem dX2_keep_89 : decode cX2_keep 89 = .ok (.iload_n 1, 1) := dk_27 (dk_at dksX2_keep_3 22 rfl rfl)
theorem dX2_keep_90 : decode cX2_keep 90 = .ok (.iconst 1, 1) := dk_4 (dk_at dksX2_keep_3 23 rfl rfl)
theorem dX2_keep_91 : decode cX2_keep 91 = .ok (.iadd, 1) := dk_96 (dk_at dksX2_keep_4 0 rfl rfl)
theorem dX2_keep_92 : decode cX2_keep 92 = .ok (.aload_n 0, 1) := dk_42 (dk_at dksX2_keep_4 1 rfl rfl)
theorem dX2_keep_93 : decode cX2_keep 93 = .ok (.getfield 7, 3) := dk_180 0 7 (dk_at dksX2_keep_4 2 rfl rfl)
theorem dX2_keep_96 : decode cX2_keep 96 = .ok (.iconst 1, 1) := dk_4 (dk_at dksX2_keep_4 5 rfl rfl)
theorem dX2_keep_97 : decode cX2_keep 97 = .ok (.iaload, 1) := dk_46 (dk_at dksX2_keep_4 6 rfl rfl)
theorem dX2_keep_98 : decode cX2_keep 98 = .ok (.iastore, 1) := dk_79 (dk_at dksX2_keep_4 7 rfl rfl)
theorem dX2_keep_99 : decode cX2_keep 99 = .ok (.aload_n 0, 1) := dk_42 (dk_at dksX2_keep_4 8 rfl rfl)
theorem dX2_keep_100 : decode cX2_keep 100 = .ok (.getfield 7, 3) := dk_180 0 7 (dk_at dksX2_keep_4 9 rfl rfl)
theorem dX2_keep_103 : decode cX2_keep 103 = .ok (.iload_n 1, 1) := dk_27 (dk_at dksX2_keep_4 12 rfl rfl)
theorem dX2_keep_104 : decode cX2_keep 104 = .ok (.iconst 2, 1) := dk_5 (dk_at dksX2_keep_4 13 rfl rfl)
theorem dX2_keep_105 : decode cX2_keep 105 = .ok (.iadd, 1) := dk_96 (dk_at dksX2_keep_4 14 rfl rfl)
theorem dX2_keep_106 : decode cX2_keep 106 = .ok (.aload_n 0, 1) := dk_42 (dk_at dksX2_keep_4 15 rfl rfl)
theorem dX2_keep_107 : decode cX2_keep 107 = .ok (.getfield 7, 3) := dk_180 0 7 (dk_at dksX2_keep_4 16 rfl rfl)
theorem dX2_keep_110 : decode cX2_keep 110 = .ok (.iconst 2, 1) := dk_5 (dk_at dksX2_keep_4 19 rfl rfl)
theorem dX2_keep_111 : decode cX2_keep 111 = .ok (.iaload, 1) := dk_46 (dk_at dksX2_keep_4 20 rfl rfl)
theorem dX2_keep_112 : decode cX2_keep 112 = .ok (.iastore, 1) := dk_79 (dk_at dksX2_keep_4 21 rfl rfl)
theorem dX2_keep_113 : decode cX2_keep 113 = .ok (.aload_n 0, 1) := dk_42 (dk_at dksX2_keep_4 22 rfl rfl)
theorem dX2_keep_114 : decode cX2_keep 114 = .ok (.getfield 7, 3) := dk_180 0 7 (dk_at dksX2_keep_5 0 rfl rfl)
theorem dX2_keep_117 : decode cX2_keep 117 = .ok (.iload_n 1, 1) := dk_27 (dk_at dksX2_keep_5 3 rfl rfl)
theorem dX2_keep_118 : decode cX2_keep 118 = .ok (.iconst 3, 1) := dk_6 (dk_at dksX2_keep_5 4 rfl rfl)
theorem dX2_keep_119 : decode cX2_keep 119 = .ok (.iadd, 1) := dk_96 (dk_at dksX2_keep_5 5 rfl rfl)
theorem dX2_keep_120 : decode cX2_keep 120 = .ok (.aload_n 0, 1) := dk_42 (dk_at dksX2_keep_5 6 rfl rfl)
theorem dX2_keep_121 : decode cX2_keep 121 = .ok (.getfield 7, 3) := dk_180 0 7 (dk_at dksX2_keep_5 7 rfl rfl)
theorem dX2_keep_124 : decode cX2_keep 124 = .ok (.iconst 4, 1) := dk_7 (dk_at dksX2_keep_5 10 rfl rfl)
theorem dX2_keep_125 : decode cX2_keep 125 = .ok (.iaload, 1) := dk_46 (dk_at dksX2_keep_5 11 rfl rfl)
theorem dX2_keep_126 : decode cX2_keep 126 = .ok (.iastore, 1) := dk_79 (dk_at dksX2_keep_5 12 rfl rfl)
theorem dX2_keep_127 : decode cX2_keep 127 = .ok (.aload_n 0, 1) := dk_42 (dk_at dksX2_keep_5 13 rfl rfl)
theorem dX2_keep_128 : decode cX2_keep 128 = .ok (.getfield 7, 3) := dk_180 0 7 (dk_at dksX2_keep_5 14 rfl rfl)
theorem dX2_keep_131 : decode cX2_keep 131 = .ok (.iload_n 1, 1) := dk_27 (dk_at dksX2_keep_5 17 rfl rfl)
theorem dX2_keep_132 : decode cX2_keep 132 = .ok (.iconst 4, 1) := dk_7 (dk_at dksX2_keep_5 18 rfl rfl)
theorem dX2_keep_133 : decode cX2_keep 133 = .ok (.iadd, 1) := dk_96 (dk_at dksX2_keep_5 19 rfl rfl)
theorem dX2_keep_134 : decode cX2_keep 134 = .ok (.aload_n 0, 1) := dk_42 (dk_at dksX2_keep_5 20 rfl rfl)
theorem dX2_keep_135 : decode cX2_keep 135 = .ok (.getfield 7, 3) := dk_180 0 7 (dk_at dksX2_keep_5 21 rfl rfl)
theorem dX2_keep_138 : decode cX2_keep 138 = .ok (.bipush 9, 2) := dk_16 9 (dk_at dksX2_keep_6 0 rfl rfl)
theorem dX2_keep_140 : decode cX2_keep 140 = .ok (.iaload, 1) := dk_46 (dk_at dksX2_keep_6 2 rfl rfl)
theorem dX2_keep_141 : decode cX2_keep 141 = .ok (.iastore, 1) := dk_79 (dk_at dksX2_keep_6 3 rfl rfl)
theorem dX2_keep_142 : decode cX2_keep 142 = .ok (.iconst 0, 1) := dk_3 (dk_at dksX2_keep_6 4 rfl rfl)
theorem dX2_keep_143 : decode cX2_keep 143 = .ok (.istore_n 2, 1) := dk_61 (dk_at dksX2_keep_6 5 rfl rfl)
theorem dX2_keep_144 : decode cX2_keep 144 = .ok (.iload_n 2, 1) := dk_28 (dk_at dksX2_keep_6 6 rfl rfl)
theorem dX2_keep_145 : decode cX2_keep 145 = .ok (.bipush 33, 2) := dk_16 33 (dk_at dksX2_keep_6 7 rfl rfl)
theorem dX2_keep_147 : decode cX2_keep 147 = .ok (.if_icmp .ge 28, 3) := dk_162 0 28 (dk_at dksX2_keep_6 9 rfl rfl)
theorem dX2_keep_150 : decode cX2_keep 150 = .ok (.aload_n 0, 1) := dk_42 (dk_at dksX2_keep_6 12 rfl rfl)
theorem dX2_keep_151 : decode cX2_keep 151 = .ok (.getfield 7, 3) := dk_180 0 7 (dk_at dksX2_keep_6 13 rfl rfl)
theorem dX2_keep_154 : decode cX2_keep 154 = .ok (.iload_n 1, 1) := dk_27 (dk_at dksX2_keep_6 16 rfl rfl)
theorem dX2_keep_155 : decode cX2_keep 155 = .ok (.iconst 5, 1) := dk_8 (dk_at dksX2_keep_6 17 rfl rfl)
theorem dX2_keep_156 : decode cX2_keep 156 = .ok (.iadd, 1) := dk_96 (dk_at dksX2_keep_6 18 rfl rfl)
theorem dX2_keep_157 : decode cX2_keep 157 = .ok (.iload_n 2, 1) := dk_28 (dk_at dksX2_keep_6 19 rfl rfl)
theorem dX2_keep_158 : decode cX2_keep 158 = .ok (.iadd, 1) := dk_96 (dk_at dksX2_keep_6 20 rfl rfl)
theorem dX2_keep_159 : decode cX2_keep 159 = .ok (.aload_n 0, 1) := dk_42 (dk_at dksX2_keep_6 21 rfl rfl)
theorem dX2_keep_160 : decode cX2_keep 160 = .ok (.getfield 7, 3) := dk_180 0 7 (dk_at dksX2_keep_7 0 rfl rfl)
theorem dX2_keep_163 : decode cX2_keep 163 = .ok (.bipush 13, 2) := dk_16 13 (dk_at dksX2_keep_7 3 rfl rfl)
theorem dX2_keep_165 : decode cX2_keep 165 = .ok (.iload_n 2, 1) := dk_28 (dk_at dksX2_keep_7 5 rfl rfl)
theorem dX2_keep_166 : decode cX2_keep 166 = .ok (.iadd, 1) := dk_96 (dk_at dksX2_keep_7 6 rfl rfl)
theorem dX2_keep_167 : decode cX2_keep 167 = .ok (.iaload, 1) := dk_46 (dk_at dksX2_keep_7 7 rfl rfl)
theorem dX2_keep_168 : decode cX2_keep 168 = .ok (.iastore, 1) := dk_79 (dk_at dksX2_keep_7 8 rfl rfl)
theorem dX2_keep_169 : decode cX2_keep 169 = .ok (.iinc 2 1, 3) := dk_132 2 1 (dk_at dksX2_keep_7 9 rfl rfl)
theorem dX2_keep_172 : decode cX2_keep 172 = .ok (.goto (-28), 3) := dk_167 255 228 (dk_at dksX2_keep_7 12 rfl rfl)
theorem dX2_keep_175 : decode cX2_keep 175 = .ok (.iconst 0, 1) := dk_3 (dk_at dksX2_keep_7 15 rfl rfl)
theorem dX2_keep_176 : decode cX2_keep 176 = .ok (.istore_n 2, 1) := dk_61 (dk_at dksX2_keep_7 16 rfl rfl)
theorem dX2_keep_177 : decode cX2_keep 177 = .ok (.iload_n 2, 1) := dk_28 (dk_at dksX2_keep_7 17 rfl rfl)
theorem dX2_keep_178 : decode cX2_keep 178 = .ok (.bipush 10, 2) := dk_16 10 (dk_at dksX2_keep_7 18 rfl rfl)
theorem dX2_keep_180 : decode cX2_keep 180 = .ok (.if_icmp .ge 26, 3) := dk_162 0 26 (dk_at dksX2_keep_7 20 rfl rfl)
theorem dX2_keep_183 : decode cX2_keep 183 = .ok (.aload_n 0, 1) := dk_42 (dk_at dksX2_keep_7 23 rfl rfl)
theorem dX2_keep_184 : decode cX2_keep 184 = .ok (.getfield 7, 3) := dk_180 0 7 (dk_at dksX2_keep_8 0 rfl rfl)
theorem dX2_keep_187 : decode cX2_keep 187 = .ok (.iload_n 1, 1) := dk_27 (dk_at dksX2_keep_8 3 rfl rfl)
theorem dX2_keep_188 : decode cX2_keep 188 = .ok (.bipush 38, 2) := dk_16 38 (dk_at dksX2_keep_8 4 rfl rfl)
theorem dX2_keep_190 : decode cX2_keep 190 = .ok (.iadd, 1) := dk_96 (dk_at dksX2_keep_8 6 rfl rfl)
theorem dX2_keep_191 : decode cX2_keep 191 = .ok (.iload_n 2, 1) := dk_28 (dk_at dksX2_keep_8 7 rfl rfl)
theorem dX2_keep_192 : decode cX2_keep 192 = .ok (.iadd, 1) := dk_96 (dk_at dksX2_keep_8 8 rfl rfl)
theorem dX2_keep_193 : decode cX2_keep 193 = .ok (.aload_n 0, 1) := dk_42 (dk_at dksX2_keep_8 9 rfl rfl)
theorem dX2_keep_194 : decode cX2_keep 194 = .ok (.iload_n 2, 1) := dk_28 (dk_at dksX2_keep_8 10 rfl rfl)
theorem dX2_keep_195 : decode cX2_keep 195 = .ok (.iconst 5, 1) := dk_8 (dk_at dksX2_keep_8 11 rfl rfl)
theorem dX2_keep_196 : decode cX2_keep 196 = .ok (.invokevirtual 97, 3) := dk_182 0 97 (dk_at dksX2_keep_8 12 rfl rfl)
theorem dX2_keep_199 : decode cX2_keep 199 = .ok (.iastore, 1) := dk_79 (dk_at dksX2_keep_8 15 rfl rfl)
theorem dX2_keep_200 : decode cX2_keep 200 = .ok (.iinc 2 1, 3) := dk_132 2 1 (dk_at dksX2_keep_8 16 rfl rfl)
theorem dX2_keep_203 : decode cX2_keep 203 = .ok (.goto (-26), 3) := dk_167 255 230 (dk_at dksX2_keep_8 19 rfl rfl)
theorem dX2_keep_206 : decode cX2_keep 206 = .ok (.aload_n 0, 1) := dk_42 (dk_at dksX2_keep_8 22 rfl rfl)
theorem dX2_keep_207 : decode cX2_keep 207 = .ok (.getfield 7, 3) := dk_180 0 7 (dk_at dksX2_keep_9 0 rfl rfl)
theorem dX2_keep_210 : decode cX2_keep 210 = .ok (.bipush 7, 2) := dk_16 7 (dk_at dksX2_keep_9 3 rfl rfl)
theorem dX2_keep_212 : decode cX2_keep 212 = .ok (.dup2, 1) := dk_92 (dk_at dksX2_keep_9 5 rfl rfl)
theorem dX2_keep_213 : decode cX2_keep 213 = .ok (.iaload, 1) := dk_46 (dk_at dksX2_keep_9 6 rfl rfl)
theorem dX2_keep_214 : decode cX2_keep 214 = .ok (.iconst 1, 1) := dk_4 (dk_at dksX2_keep_9 7 rfl rfl)
theorem dX2_keep_215 : decode cX2_keep 215 = .ok (.iadd, 1) := dk_96 (dk_at dksX2_keep_9 8 rfl rfl)
theorem dX2_keep_216 : decode cX2_keep 216 = .ok (.iastore, 1) := dk_79 (dk_at dksX2_keep_9 9 rfl rfl)
theorem dX2_keep_217 : decode cX2_keep 217 = .ok (.return_, 1) := dk_177 (dk_at dksX2_keep_9 10 rfl rfl)
abbrev MX2_keep : jjM := (yX2_keep, cX2_keep, 3, (Option.none : Option Jvm.ClassFile.FieldType))
theorem npX2_keep : yX2_keep.cls ≠ "java/lang/invoke/MethodHandle" ∧ yX2_keep.cls ≠ "java/lang/invoke/VarHandle" ∧ (parseMethodDescriptor yX2_keep.desc).map (fun d => d.parameters.length) = some 0 := by decide +kernel
abbrev cX2_changeAt : ByteArray := prog_17_method_76_code
def yX2_changeAt : MethodName := ⟨RX2, "changeAt", "(II)I"⟩
def dkwX2_changeAt_3 : List UInt8 := [182, 1, 70, 4, 172]
abbrev dktX2_changeAt_3 : List UInt8 := dkwX2_changeAt_3 ++ []
def dkwX2_changeAt_2 : List UInt8 := [42, 21, 4, 29, 3, 182, 1, 47, 153, 0, 11, 42, 21, 4, 29, 27, 182, 1, 67, 42, 27, 28]
abbrev dktX2_changeAt_2 : List UInt8 := dkwX2_changeAt_2 ++ dktX2_changeAt_3
def dkwX2_changeAt_1 : List UInt8 := [154, 0, 5, 3, 172, 42, 29, 21, 4, 4, 182, 1, 47, 153, 0, 11, 42, 29, 21, 4, 27, 182, 1, 67]
abbrev dktX2_changeAt_1 : List UInt8 := dkwX2_changeAt_1 ++ dktX2_changeAt_2
def dkwX2_changeAt_0 : List UInt8 := [42, 27, 28, 182, 0, 101, 62, 42, 27, 28, 4, 96, 182, 0, 101, 54, 4, 42, 29, 21, 4, 182, 1, 63]
abbrev dktX2_changeAt_0 : List UInt8 := dkwX2_changeAt_0 ++ dktX2_changeAt_1
theorem dksX2_changeAt_0 : cX2_changeAt.data.toList.drop 0 = dktX2_changeAt_0 := by decide +kernel
theorem dksX2_changeAt_1 : cX2_changeAt.data.toList.drop 24 = dktX2_changeAt_1 := dk_seg dksX2_changeAt_0 24 rfl rfl
theorem dksX2_changeAt_2 : cX2_changeAt.data.toList.drop 48 = dktX2_changeAt_2 := dk_seg dksX2_changeAt_1 24 rfl rfl
theorem dksX2_changeAt_3 : cX2_changeAt.data.toList.drop 70 = dktX2_changeAt_3 := dk_seg dksX2_changeAt_2 22 rfl rfl
theorem dX2_changeAt_0 : decode cX2_changeAt 0 = .ok (.aload_n 0, 1) := dk_42 (dk_at dksX2_changeAt_0 0 rfl rfl)
theorem dX2_changeAt_1 : decode cX2_changeAt 1 = .ok (.iload_n 1, 1) := dk_27 (dk_at dksX2_changeAt_0 1 rfl rfl)
theorem dX2_changeAt_2 : decode cX2_changeAt 2 = .ok (.iload_n 2, 1) := dk_28 (dk_at dksX2_changeAt_0 2 rfl rfl)
theorem dX2_changeAt_3 : decode cX2_changeAt 3 = .ok (.invokevirtual 101, 3) := dk_182 0 101 (dk_at dksX2_changeAt_0 3 rfl rfl)
theorem dX2_changeAt_6 : decode cX2_changeAt 6 = .ok (.istore_n 3, 1) := dk_62 (dk_at dksX2_changeAt_0 6 rfl rfl)
theorem dX2_changeAt_7 : decode cX2_changeAt 7 = .ok (.aload_n 0, 1) := dk_42 (dk_at dksX2_changeAt_0 7 rfl rfl)
theorem dX2_changeAt_8 : decode cX2_changeAt 8 = .ok (.iload_n 1, 1) := dk_27 (dk_at dksX2_changeAt_0 8 rfl rfl)
theorem dX2_changeAt_9 : decode cX2_changeAt 9 = .ok (.iload_n 2, 1) := dk_28 (dk_at dksX2_changeAt_0 9 rfl rfl)
theorem dX2_changeAt_10 : decode cX2_changeAt 10 = .ok (.iconst 1, 1) := dk_4 (dk_at dksX2_changeAt_0 10 rfl rfl)
theorem dX2_changeAt_11 : decode cX2_changeAt 11 = .ok (.iadd, 1) := dk_96 (dk_at dksX2_changeAt_0 11 rfl rfl)
theorem dX2_changeAt_12 : decode cX2_changeAt 12 = .ok (.invokevirtual 101, 3) := dk_182 0 101 (dk_at dksX2_changeAt_0 12 rfl rfl)
theorem dX2_changeAt_15 : decode cX2_changeAt 15 = .ok (.istore 4, 2) := dk_54 4 (dk_at dksX2_changeAt_0 15 rfl rfl)
theorem dX2_changeAt_17 : decode cX2_changeAt 17 = .ok (.aload_n 0, 1) := dk_42 (dk_at dksX2_changeAt_0 17 rfl rfl)
theorem dX2_changeAt_18 : decode cX2_changeAt 18 = .ok (.iload_n 3, 1) := dk_29 (dk_at dksX2_changeAt_0 18 rfl rfl)
theorem dX2_changeAt_19 : decode cX2_changeAt 19 = .ok (.iload 4, 2) := dk_21 4 (dk_at dksX2_changeAt_0 19 rfl rfl)
theorem dX2_changeAt_21 : decode cX2_changeAt 21 = .ok (.invokevirtual 319, 3) := dk_182 1 63 (dk_at dksX2_changeAt_0 21 rfl rfl)
theorem dX2_changeAt_24 : decode cX2_changeAt 24 = .ok (.ifCond .ne 5, 3) := dk_154 0 5 (dk_at dksX2_changeAt_1 0 rfl rfl)
theorem dX2_changeAt_27 : decode cX2_changeAt 27 = .ok (.iconst 0, 1) := dk_3 (dk_at dksX2_changeAt_1 3 rfl rfl)
theorem dX2_changeAt_28 : decode cX2_changeAt 28 = .ok (.ireturn, 1) := dk_172 (dk_at dksX2_changeAt_1 4 rfl rfl)
theorem dX2_changeAt_29 : decode cX2_changeAt 29 = .ok (.aload_n 0, 1) := dk_42 (dk_at dksX2_changeAt_1 5 rfl rfl)
theorem dX2_changeAt_30 : decode cX2_changeAt 30 = .ok (.iload_n 3, 1) := dk_29 (dk_at dksX2_changeAt_1 6 rfl rfl)
theorem dX2_changeAt_31 : decode cX2_changeAt 31 = .ok (.iload 4, 2) := dk_21 4 (dk_at dksX2_changeAt_1 7 rfl rfl)
theorem dX2_changeAt_33 : decode cX2_changeAt 33 = .ok (.iconst 1, 1) := dk_4 (dk_at dksX2_changeAt_1 9 rfl rfl)
theorem dX2_changeAt_34 : decode cX2_changeAt 34 = .ok (.invokevirtual 303, 3) := dk_182 1 47 (dk_at dksX2_changeAt_1 10 rfl rfl)
theorem dX2_changeAt_37 : decode cX2_changeAt 37 = .ok (.ifCond .eq 11, 3) := dk_153 0 11 (dk_at dksX2_changeAt_1 13 rfl rfl)
theorem dX2_changeAt_40 : decode cX2_changeAt 40 = .ok (.aload_n 0, 1) := dk_42 (dk_at dksX2_changeAt_1 16 rfl rfl)
theorem dX2_changeAt_41 : decode cX2_changeAt 41 = .ok (.iload_n 3, 1) := dk_29 (dk_at dksX2_changeAt_1 17 rfl rfl)
theorem dX2_changeAt_42 : decode cX2_changeAt 42 = .ok (.iload 4, 2) := dk_21 4 (dk_at dksX2_changeAt_1 18 rfl rfl)
theorem dX2_changeAt_44 : decode cX2_changeAt 44 = .ok (.iload_n 1, 1) := dk_27 (dk_at dksX2_changeAt_1 20 rfl rfl)
theorem dX2_changeAt_45 : decode cX2_changeAt 45 = .ok (.invokevirtual 323, 3) := dk_182 1 67 (dk_at dksX2_changeAt_1 21 rfl rfl)
theorem dX2_changeAt_48 : decode cX2_changeAt 48 = .ok (.aload_n 0, 1) := dk_42 (dk_at dksX2_changeAt_2 0 rfl rfl)
theorem dX2_changeAt_49 : decode cX2_changeAt 49 = .ok (.iload 4, 2) := dk_21 4 (dk_at dksX2_changeAt_2 1 rfl rfl)
theorem dX2_changeAt_51 : decode cX2_changeAt 51 = .ok (.iload_n 3, 1) := dk_29 (dk_at dksX2_changeAt_2 3 rfl rfl)
theorem dX2_changeAt_52 : decode cX2_changeAt 52 = .ok (.iconst 0, 1) := dk_3 (dk_at dksX2_changeAt_2 4 rfl rfl)
theorem dX2_changeAt_53 : decode cX2_changeAt 53 = .ok (.invokevirtual 303, 3) := dk_182 1 47 (dk_at dksX2_changeAt_2 5 rfl rfl)
theorem dX2_changeAt_56 : decode cX2_changeAt 56 = .ok (.ifCond .eq 11, 3) := dk_153 0 11 (dk_at dksX2_changeAt_2 8 rfl rfl)
theorem dX2_changeAt_59 : decode cX2_changeAt 59 = .ok (.aload_n 0, 1) := dk_42 (dk_at dksX2_changeAt_2 11 rfl rfl)
theorem dX2_changeAt_60 : decode cX2_changeAt 60 = .ok (.iload 4, 2) := dk_21 4 (dk_at dksX2_changeAt_2 12 rfl rfl)
theorem dX2_changeAt_62 : decode cX2_changeAt 62 = .ok (.iload_n 3, 1) := dk_29 (dk_at dksX2_changeAt_2 14 rfl rfl)
theorem dX2_changeAt_63 : decode cX2_changeAt 63 = .ok (.iload_n 1, 1) := dk_27 (dk_at dksX2_changeAt_2 15 rfl rfl)
theorem dX2_changeAt_64 : decode cX2_changeAt 64 = .ok (.invokevirtual 323, 3) := dk_182 1 67 (dk_at dksX2_changeAt_2 16 rfl rfl)
theorem dX2_changeAt_67 : decode cX2_changeAt 67 = .ok (.aload_n 0, 1) := dk_42 (dk_at dksX2_changeAt_2 19 rfl rfl)
theorem dX2_changeAt_68 : decode cX2_changeAt 68 = .ok (.iload_n 1, 1) := dk_27 (dk_at dksX2_changeAt_2 20 rfl rfl)
theorem dX2_changeAt_69 : decode cX2_changeAt 69 = .ok (.iload_n 2, 1) := dk_28 (dk_at dksX2_changeAt_2 21 rfl rfl)
theorem dX2_changeAt_70 : decode cX2_changeAt 70 = .ok (.invokevirtual 326, 3) := dk_182 1 70 (dk_at dksX2_changeAt_3 0 rfl rfl)
theorem dX2_changeAt_73 : decode cX2_changeAt 73 = .ok (.iconst 1, 1) := dk_4 (dk_at dksX2_changeAt_3 3 rfl rfl)
theorem dX2_changeAt_74 : decode cX2_changeAt 74 = .ok (.ireturn, 1) := dk_172 (dk_at dksX2_changeAt_3 4 rfl rfl)
abbrev MX2_changeAt : jjM := (yX2_changeAt, cX2_changeAt, 5, (Option.some Jvm.ClassFile.FieldType.int))
theorem npX2_changeAt : yX2_changeAt.cls ≠ "java/lang/invoke/MethodHandle" ∧ yX2_changeAt.cls ≠ "java/lang/invoke/VarHandle" ∧ (parseMethodDescriptor yX2_changeAt.desc).map (fun d => d.parameters.length) = some 2 := by decide +kernel
abbrev cX2_doChange : ByteArray := prog_17_method_66_code
def yX2_doChange : MethodName := ⟨RX2, "doChange", "(II)Z"⟩
def dkwX2_doChange_1 : List UInt8 := [153, 0, 7, 4, 167, 0, 4, 3, 96, 62, 29, 42, 182, 1, 51, 161, 0, 7, 4, 167, 0, 4, 3, 172]
abbrev dktX2_doChange_1 : List UInt8 := dkwX2_doChange_1 ++ []
def dkwX2_doChange_0 : List UInt8 := [42, 27, 28, 4, 182, 1, 47, 153, 0, 7, 4, 167, 0, 4, 3, 42, 28, 27, 3, 182, 1, 47]
abbrev dktX2_doChange_0 : List UInt8 := dkwX2_doChange_0 ++ dktX2_doChange_1
theorem dksX2_doChange_0 : cX2_doChange.data.toList.drop 0 = dktX2_doChange_0 := by decide +kernel
theorem dksX2_doChange_1 : cX2_doChange.data.toList.drop 22 = dktX2_doChange_1 := dk_seg dksX2_doChange_0 22 rfl rfl
theorem dX2_doChange_0 : decode cX2_doChange 0 = .ok (.aload_n 0, 1) := dk_42 (dk_at dksX2_doChange_0 0 rfl rfl)
theorem dX2_doChange_1 : decode cX2_doChange 1 = .ok (.iload_n 1, 1) := dk_27 (dk_at dksX2_doChange_0 1 rfl rfl)
theorem dX2_doChange_2 : decode cX2_doChange 2 = .ok (.iload_n 2, 1) := dk_28 (dk_at dksX2_doChange_0 2 rfl rfl)
theorem dX2_doChange_3 : decode cX2_doChange 3 = .ok (.iconst 1, 1) := dk_4 (dk_at dksX2_doChange_0 3 rfl rfl)
theorem dX2_doChange_4 : decode cX2_doChange 4 = .ok (.invokevirtual 303, 3) := dk_182 1 47 (dk_at dksX2_doChange_0 4 rfl rfl)
theorem dX2_doChange_7 : decode cX2_doChange 7 = .ok (.ifCond .eq 7, 3) := dk_153 0 7 (dk_at dksX2_doChange_0 7 rfl rfl)
theorem dX2_doChange_10 : decode cX2_doChange 10 = .ok (.iconst 1, 1) := dk_4 (dk_at dksX2_doChange_0 10 rfl rfl)
theorem dX2_doChange_11 : decode cX2_doChange 11 = .ok (.goto 4, 3) := dk_167 0 4 (dk_at dksX2_doChange_0 11 rfl rfl)
theorem dX2_doChange_14 : decode cX2_doChange 14 = .ok (.iconst 0, 1) := dk_3 (dk_at dksX2_doChange_0 14 rfl rfl)
theorem dX2_doChange_15 : decode cX2_doChange 15 = .ok (.aload_n 0, 1) := dk_42 (dk_at dksX2_doChange_0 15 rfl rfl)
theorem dX2_doChange_16 : decode cX2_doChange 16 = .ok (.iload_n 2, 1) := dk_28 (dk_at dksX2_doChange_0 16 rfl rfl)
theorem dX2_doChange_17 : decode cX2_doChange 17 = .ok (.iload_n 1, 1) := dk_27 (dk_at dksX2_doChange_0 17 rfl rfl)
theorem dX2_doChange_18 : decode cX2_doChange 18 = .ok (.iconst 0, 1) := dk_3 (dk_at dksX2_doChange_0 18 rfl rfl)
theorem dX2_doChange_19 : decode cX2_doChange 19 = .ok (.invokevirtual 303, 3) := dk_182 1 47 (dk_at dksX2_doChange_0 19 rfl rfl)
theorem dX2_doChange_22 : decode cX2_doChange 22 = .ok (.ifCond .eq 7, 3) := dk_153 0 7 (dk_at dksX2_doChange_1 0 rfl rfl)
theorem dX2_doChange_25 : decode cX2_doChange 25 = .ok (.iconst 1, 1) := dk_4 (dk_at dksX2_doChange_1 3 rfl rfl)
theorem dX2_doChange_26 : decode cX2_doChange 26 = .ok (.goto 4, 3) := dk_167 0 4 (dk_at dksX2_doChange_1 4 rfl rfl)
theorem dX2_doChange_29 : decode cX2_doChange 29 = .ok (.iconst 0, 1) := dk_3 (dk_at dksX2_doChange_1 7 rfl rfl)
theorem dX2_doChange_30 : decode cX2_doChange 30 = .ok (.iadd, 1) := dk_96 (dk_at dksX2_doChange_1 8 rfl rfl)
theorem dX2_doChange_31 : decode cX2_doChange 31 = .ok (.istore_n 3, 1) := dk_62 (dk_at dksX2_doChange_1 9 rfl rfl)
theorem dX2_doChange_32 : decode cX2_doChange 32 = .ok (.iload_n 3, 1) := dk_29 (dk_at dksX2_doChange_1 10 rfl rfl)
theorem dX2_doChange_33 : decode cX2_doChange 33 = .ok (.aload_n 0, 1) := dk_42 (dk_at dksX2_doChange_1 11 rfl rfl)
theorem dX2_doChange_34 : decode cX2_doChange 34 = .ok (.invokevirtual 307, 3) := dk_182 1 51 (dk_at dksX2_doChange_1 12 rfl rfl)
theorem dX2_doChange_37 : decode cX2_doChange 37 = .ok (.if_icmp .lt 7, 3) := dk_161 0 7 (dk_at dksX2_doChange_1 15 rfl rfl)
theorem dX2_doChange_40 : decode cX2_doChange 40 = .ok (.iconst 1, 1) := dk_4 (dk_at dksX2_doChange_1 18 rfl rfl)
theorem dX2_doChange_41 : decode cX2_doChange 41 = .ok (.goto 4, 3) := dk_167 0 4 (dk_at dksX2_doChange_1 19 rfl rfl)
theorem dX2_doChange_44 : decode cX2_doChange 44 = .ok (.iconst 0, 1) := dk_3 (dk_at dksX2_doChange_1 22 rfl rfl)
theorem dX2_doChange_45 : decode cX2_doChange 45 = .ok (.ireturn, 1) := dk_172 (dk_at dksX2_doChange_1 23 rfl rfl)
abbrev MX2_doChange : jjM := (yX2_doChange, cX2_doChange, 4, (Option.some Jvm.ClassFile.FieldType.boolean))
theorem npX2_doChange : yX2_doChange.cls ≠ "java/lang/invoke/MethodHandle" ∧ yX2_doChange.cls ≠ "java/lang/invoke/VarHandle" ∧ (parseMethodDescriptor yX2_doChange.desc).map (fun d => d.parameters.length) = some 2 := by decide +kernel
abbrev cX2_needNow : ByteArray := prog_17_method_60_code
def yX2_needNow : MethodName := ⟨RX2, "needNow", "()I"⟩
def dkwX2_needNow_1 : List UInt8 := [17, 2, 193, 42, 180, 0, 7, 16, 6, 46, 104, 5, 96, 7, 27, 104, 96, 46, 172]
abbrev dktX2_needNow_1 : List UInt8 := dkwX2_needNow_1 ++ []
def dkwX2_needNow_0 : List UInt8 := [42, 6, 3, 182, 1, 29, 60, 27, 156, 0, 12, 42, 180, 0, 7, 6, 46, 167, 0, 25, 42, 180, 0, 16]
abbrev dktX2_needNow_0 : List UInt8 := dkwX2_needNow_0 ++ dktX2_needNow_1
theorem dksX2_needNow_0 : cX2_needNow.data.toList.drop 0 = dktX2_needNow_0 := by decide +kernel
theorem dksX2_needNow_1 : cX2_needNow.data.toList.drop 24 = dktX2_needNow_1 := dk_seg dksX2_needNow_0 24 rfl rfl
theorem dX2_needNow_0 : decode cX2_needNow 0 = .ok (.aload_n 0, 1) := dk_42 (dk_at dksX2_needNow_0 0 rfl rfl)
theorem dX2_needNow_1 : decode cX2_needNow 1 = .ok (.iconst 3, 1) := dk_6 (dk_at dksX2_needNow_0 1 rfl rfl)
theorem dX2_needNow_2 : decode cX2_needNow 2 = .ok (.iconst 0, 1) := dk_3 (dk_at dksX2_needNow_0 2 rfl rfl)
theorem dX2_needNow_3 : decode cX2_needNow 3 = .ok (.invokevirtual 285, 3) := dk_182 1 29 (dk_at dksX2_needNow_0 3 rfl rfl)
theorem dX2_needNow_6 : decode cX2_needNow 6 = .ok (.istore_n 1, 1) := dk_60 (dk_at dksX2_needNow_0 6 rfl rfl)
theorem dX2_needNow_7 : decode cX2_needNow 7 = .ok (.iload_n 1, 1) := dk_27 (dk_at dksX2_needNow_0 7 rfl rfl)
theorem dX2_needNow_8 : decode cX2_needNow 8 = .ok (.ifCond .ge 12, 3) := dk_156 0 12 (dk_at dksX2_needNow_0 8 rfl rfl)
theorem dX2_needNow_11 : decode cX2_needNow 11 = .ok (.aload_n 0, 1) := dk_42 (dk_at dksX2_needNow_0 11 rfl rfl)
theorem dX2_needNow_12 : decode cX2_needNow 12 = .ok (.getfield 7, 3) := dk_180 0 7 (dk_at dksX2_needNow_0 12 rfl rfl)
theorem dX2_needNow_15 : decode cX2_needNow 15 = .ok (.iconst 3, 1) := dk_6 (dk_at dksX2_needNow_0 15 rfl rfl)
theorem dX2_needNow_16 : decode cX2_needNow 16 = .ok (.iaload, 1) := dk_46 (dk_at dksX2_needNow_0 16 rfl rfl)
theorem dX2_needNow_17 : decode cX2_needNow 17 = .ok (.goto 25, 3) := dk_167 0 25 (dk_at dksX2_needNow_0 17 rfl rfl)
theorem dX2_needNow_20 : decode cX2_needNow 20 = .ok (.aload_n 0, 1) := dk_42 (dk_at dksX2_needNow_0 20 rfl rfl)
theorem dX2_needNow_21 : decode cX2_needNow 21 = .ok (.getfield 16, 3) := dk_180 0 16 (dk_at dksX2_needNow_0 21 rfl rfl)
theorem dX2_needNow_24 : decode cX2_needNow 24 = .ok (.sipush 705, 3) := dk_17 2 193 (dk_at dksX2_needNow_1 0 rfl rfl)
theorem dX2_needNow_27 : decode cX2_needNow 27 = .ok (.aload_n 0, 1) := dk_42 (dk_at dksX2_needNow_1 3 rfl rfl)
theorem dX2_needNow_28 : decode cX2_needNow 28 = .ok (.getfield 7, 3) := dk_180 0 7 (dk_at dksX2_needNow_1 4 rfl rfl)
theorem dX2_needNow_31 : decode cX2_needNow 31 = .ok (.bipush 6, 2) := dk_16 6 (dk_at dksX2_needNow_1 7 rfl rfl)
theorem dX2_needNow_33 : decode cX2_needNow 33 = .ok (.iaload, 1) := dk_46 (dk_at dksX2_needNow_1 9 rfl rfl)
theorem dX2_needNow_34 : decode cX2_needNow 34 = .ok (.imul, 1) := dk_104 (dk_at dksX2_needNow_1 10 rfl rfl)
theorem dX2_needNow_35 : decode cX2_needNow 35 = .ok (.iconst 2, 1) := dk_5 (dk_at dksX2_needNow_1 11 rfl rfl)
theorem dX2_needNow_36 : decode cX2_needNow 36 = .ok (.iadd, 1) := dk_96 (dk_at dksX2_needNow_1 12 rfl rfl)
theorem dX2_needNow_37 : decode cX2_needNow 37 = .ok (.iconst 4, 1) := dk_7 (dk_at dksX2_needNow_1 13 rfl rfl)
theorem dX2_needNow_38 : decode cX2_needNow 38 = .ok (.iload_n 1, 1) := dk_27 (dk_at dksX2_needNow_1 14 rfl rfl)
theorem dX2_needNow_39 : decode cX2_needNow 39 = .ok (.imul, 1) := dk_104 (dk_at dksX2_needNow_1 15 rfl rfl)
theorem dX2_needNow_40 : decode cX2_needNow 40 = .ok (.iadd, 1) := dk_96 (dk_at dksX2_needNow_1 16 rfl rfl)
theorem dX2_needNow_41 : decode cX2_needNow 41 = .ok (.iaload, 1) := dk_46 (dk_at dksX2_needNow_1 17 rfl rfl)
theorem dX2_needNow_42 : decode cX2_needNow 42 = .ok (.ireturn, 1) := dk_172 (dk_at dksX2_needNow_1 18 rfl rfl)
abbrev MX2_needNow : jjM := (yX2_needNow, cX2_needNow, 2, (Option.some Jvm.ClassFile.FieldType.int))
theorem npX2_needNow : yX2_needNow.cls ≠ "java/lang/invoke/MethodHandle" ∧ yX2_needNow.cls ≠ "java/lang/invoke/VarHandle" ∧ (parseMethodDescriptor yX2_needNow.desc).map (fun d => d.parameters.length) = some 0 := by decide +kernel
abbrev cX2_write : ByteArray := prog_17_method_75_code
def yX2_write : MethodName := ⟨RX2, "write", "(III)V"⟩
def dkwX2_write_3 : List UInt8 := [96, 79, 177]
abbrev dktX2_write_3 : List UInt8 := dkwX2_write_3 ++ []
def dkwX2_write_2 : List UInt8 := [42, 180, 0, 7, 21, 4, 6, 96, 42, 180, 0, 7, 4, 46, 79, 42, 180, 0, 7, 16, 9, 92, 46, 4]
abbrev dktX2_write_2 : List UInt8 := dkwX2_write_2 ++ dktX2_write_3
def dkwX2_write_1 : List UInt8 := [21, 4, 27, 79, 42, 180, 0, 7, 21, 4, 4, 96, 28, 79, 42, 180, 0, 7, 21, 4, 5, 96, 29, 79]
abbrev dktX2_write_1 : List UInt8 := dkwX2_write_1 ++ dktX2_write_2
def dkwX2_write_0 : List UInt8 := [17, 6, 58, 7, 42, 180, 0, 7, 16, 9, 46, 17, 2, 0, 112, 104, 96, 54, 4, 42, 180, 0, 7]
abbrev dktX2_write_0 : List UInt8 := dkwX2_write_0 ++ dktX2_write_1
theorem dksX2_write_0 : cX2_write.data.toList.drop 0 = dktX2_write_0 := by decide +kernel
theorem dksX2_write_1 : cX2_write.data.toList.drop 23 = dktX2_write_1 := dk_seg dksX2_write_0 23 rfl rfl
theorem dksX2_write_2 : cX2_write.data.toList.drop 47 = dktX2_write_2 := dk_seg dksX2_write_1 24 rfl rfl
theorem dksX2_write_3 : cX2_write.data.toList.drop 71 = dktX2_write_3 := dk_seg dksX2_write_2 24 rfl rfl
theorem dX2_write_0 : decode cX2_write 0 = .ok (.sipush 1594, 3) := dk_17 6 58 (dk_at dksX2_write_0 0 rfl rfl)
theorem dX2_write_3 : decode cX2_write 3 = .ok (.iconst 4, 1) := dk_7 (dk_at dksX2_write_0 3 rfl rfl)
theorem dX2_write_4 : decode cX2_write 4 = .ok (.aload_n 0, 1) := dk_42 (dk_at dksX2_write_0 4 rfl rfl)
theorem dX2_write_5 : decode cX2_write 5 = .ok (.getfield 7, 3) := dk_180 0 7 (dk_at dksX2_write_0 5 rfl rfl)
theorem dX2_write_8 : decode cX2_write 8 = .ok (.bipush 9, 2) := dk_16 9 (dk_at dksX2_write_0 8 rfl rfl)
theorem dX2_write_10 : decode cX2_write 10 = .ok (.iaload, 1) := dk_46 (dk_at dksX2_write_0 10 rfl rfl)
theorem dX2_write_11 : decode cX2_write 11 = .ok (.sipush 512, 3) := dk_17 2 0 (dk_at dksX2_write_0 11 rfl rfl)
theorem dX2_write_14 : decode cX2_write 14 = .ok (.irem, 1) := dk_112 (dk_at dksX2_write_0 14 rfl rfl)
theorem dX2_write_15 : decode cX2_write 15 = .ok (.imul, 1) := dk_104 (dk_at dksX2_write_0 15 rfl rfl)
theorem dX2_write_16 : decode cX2_write 16 = .ok (.iadd, 1) := dk_96 (dk_at dksX2_write_0 16 rfl rfl)
theorem dX2_write_17 : decode cX2_write 17 = .ok (.istore 4, 2) := dk_54 4 (dk_at dksX2_write_0 17 rfl rfl)
theorem dX2_write_19 : decode cX2_write 19 = .ok (.aload_n 0, 1) := dk_42 (dk_at dksX2_write_0 19 rfl rfl)
theorem dX2_write_20 : decode cX2_write 20 = .ok (.getfield 7, 3) := dk_180 0 7 (dk_at dksX2_write_0 20 rfl rfl)
theorem dX2_write_23 : decode cX2_write 23 = .ok (.iload 4, 2) := dk_21 4 (dk_at dksX2_write_1 0 rfl rfl)
theorem dX2_write_25 : decode cX2_write 25 = .ok (.iload_n 1, 1) := dk_27 (dk_at dksX2_write_1 2 rfl rfl)
theorem dX2_write_26 : decode cX2_write 26 = .ok (.iastore, 1) := dk_79 (dk_at dksX2_write_1 3 rfl rfl)
theorem dX2_write_27 : decode cX2_write 27 = .ok (.aload_n 0, 1) := dk_42 (dk_at dksX2_write_1 4 rfl rfl)
theorem dX2_write_28 : decode cX2_write 28 = .ok (.getfield 7, 3) := dk_180 0 7 (dk_at dksX2_write_1 5 rfl rfl)
theorem dX2_write_31 : decode cX2_write 31 = .ok (.iload 4, 2) := dk_21 4 (dk_at dksX2_write_1 8 rfl rfl)
theorem dX2_write_33 : decode cX2_write 33 = .ok (.iconst 1, 1) := dk_4 (dk_at dksX2_write_1 10 rfl rfl)
theorem dX2_write_34 : decode cX2_write 34 = .ok (.iadd, 1) := dk_96 (dk_at dksX2_write_1 11 rfl rfl)
theorem dX2_write_35 : decode cX2_write 35 = .ok (.iload_n 2, 1) := dk_28 (dk_at dksX2_write_1 12 rfl rfl)
theorem dX2_write_36 : decode cX2_write 36 = .ok (.iastore, 1) := dk_79 (dk_at dksX2_write_1 13 rfl rfl)
theorem dX2_write_37 : decode cX2_write 37 = .ok (.aload_n 0, 1) := dk_42 (dk_at dksX2_write_1 14 rfl rfl)
theorem dX2_write_38 : decode cX2_write 38 = .ok (.getfield 7, 3) := dk_180 0 7 (dk_at dksX2_write_1 15 rfl rfl)
theorem dX2_write_41 : decode cX2_write 41 = .ok (.iload 4, 2) := dk_21 4 (dk_at dksX2_write_1 18 rfl rfl)
theorem dX2_write_43 : decode cX2_write 43 = .ok (.iconst 2, 1) := dk_5 (dk_at dksX2_write_1 20 rfl rfl)
theorem dX2_write_44 : decode cX2_write 44 = .ok (.iadd, 1) := dk_96 (dk_at dksX2_write_1 21 rfl rfl)
theorem dX2_write_45 : decode cX2_write 45 = .ok (.iload_n 3, 1) := dk_29 (dk_at dksX2_write_1 22 rfl rfl)
theorem dX2_write_46 : decode cX2_write 46 = .ok (.iastore, 1) := dk_79 (dk_at dksX2_write_1 23 rfl rfl)
theorem dX2_write_47 : decode cX2_write 47 = .ok (.aload_n 0, 1) := dk_42 (dk_at dksX2_write_2 0 rfl rfl)
theorem dX2_write_48 : decode cX2_write 48 = .ok (.getfield 7, 3) := dk_180 0 7 (dk_at dksX2_write_2 1 rfl rfl)
theorem dX2_write_51 : decode cX2_write 51 = .ok (.iload 4, 2) := dk_21 4 (dk_at dksX2_write_2 4 rfl rfl)
theorem dX2_write_53 : decode cX2_write 53 = .ok (.iconst 3, 1) := dk_6 (dk_at dksX2_write_2 6 rfl rfl)
theorem dX2_write_54 : decode cX2_write 54 = .ok (.iadd, 1) := dk_96 (dk_at dksX2_write_2 7 rfl rfl)
theorem dX2_write_55 : decode cX2_write 55 = .ok (.aload_n 0, 1) := dk_42 (dk_at dksX2_write_2 8 rfl rfl)
theorem dX2_write_56 : decode cX2_write 56 = .ok (.getfield 7, 3) := dk_180 0 7 (dk_at dksX2_write_2 9 rfl rfl)
theorem dX2_write_59 : decode cX2_write 59 = .ok (.iconst 1, 1) := dk_4 (dk_at dksX2_write_2 12 rfl rfl)
theorem dX2_write_60 : decode cX2_write 60 = .ok (.iaload, 1) := dk_46 (dk_at dksX2_write_2 13 rfl rfl)
theorem dX2_write_61 : decode cX2_write 61 = .ok (.iastore, 1) := dk_79 (dk_at dksX2_write_2 14 rfl rfl)
theorem dX2_write_62 : decode cX2_write 62 = .ok (.aload_n 0, 1) := dk_42 (dk_at dksX2_write_2 15 rfl rfl)
theorem dX2_write_63 : decode cX2_write 63 = .ok (.getfield 7, 3) := dk_180 0 7 (dk_at dksX2_write_2 16 rfl rfl)
theorem dX2_write_66 : decode cX2_write 66 = .ok (.bipush 9, 2) := dk_16 9 (dk_at dksX2_write_2 19 rfl rfl)
theorem dX2_write_68 : decode cX2_write 68 = .ok (.dup2, 1) := dk_92 (dk_at dksX2_write_2 21 rfl rfl)
theorem dX2_write_69 : decode cX2_write 69 = .ok (.iaload, 1) := dk_46 (dk_at dksX2_write_2 22 rfl rfl)
theorem dX2_write_70 : decode cX2_write 70 = .ok (.iconst 1, 1) := dk_4 (dk_at dksX2_write_2 23 rfl rfl)
theorem dX2_write_71 : decode cX2_write 71 = .ok (.iadd, 1) := dk_96 (dk_at dksX2_write_3 0 rfl rfl)
theorem dX2_write_72 : decode cX2_write 72 = .ok (.iastore, 1) := dk_79 (dk_at dksX2_write_3 1 rfl rfl)
theorem dX2_write_73 : decode cX2_write 73 = .ok (.return_, 1) := dk_177 (dk_at dksX2_write_3 2 rfl rfl)
abbrev MX2_write : jjM := (yX2_write, cX2_write, 5, (Option.none : Option Jvm.ClassFile.FieldType))
theorem npX2_write : yX2_write.cls ≠ "java/lang/invoke/MethodHandle" ∧ yX2_write.cls ≠ "java/lang/invoke/VarHandle" ∧ (parseMethodDescriptor yX2_write.desc).map (fun d => d.parameters.length) = some 3 := by decide +kernel
abbrev cX2_exchange : ByteArray := prog_17_method_74_code
def yX2_exchange : MethodName := ⟨RX2, "exchange", "(II)V"⟩
def dkwX2_exchange_1 : List UInt8 := [4, 96, 29, 182, 1, 60, 177]
abbrev dktX2_exchange_1 : List UInt8 := dkwX2_exchange_1 ++ []
def dkwX2_exchange_0 : List UInt8 := [42, 27, 28, 182, 0, 101, 62, 42, 27, 28, 42, 27, 28, 4, 96, 182, 0, 101, 182, 1, 60, 42, 27, 28]
abbrev dktX2_exchange_0 : List UInt8 := dkwX2_exchange_0 ++ dktX2_exchange_1
theorem dksX2_exchange_0 : cX2_exchange.data.toList.drop 0 = dktX2_exchange_0 := by decide +kernel
theorem dksX2_exchange_1 : cX2_exchange.data.toList.drop 24 = dktX2_exchange_1 := dk_seg dksX2_exchange_0 24 rfl rfl
theorem dX2_exchange_0 : decode cX2_exchange 0 = .ok (.aload_n 0, 1) := dk_42 (dk_at dksX2_exchange_0 0 rfl rfl)
theorem dX2_exchange_1 : decode cX2_exchange 1 = .ok (.iload_n 1, 1) := dk_27 (dk_at dksX2_exchange_0 1 rfl rfl)
theorem dX2_exchange_2 : decode cX2_exchange 2 = .ok (.iload_n 2, 1) := dk_28 (dk_at dksX2_exchange_0 2 rfl rfl)
theorem dX2_exchange_3 : decode cX2_exchange 3 = .ok (.invokevirtual 101, 3) := dk_182 0 101 (dk_at dksX2_exchange_0 3 rfl rfl)
theorem dX2_exchange_6 : decode cX2_exchange 6 = .ok (.istore_n 3, 1) := dk_62 (dk_at dksX2_exchange_0 6 rfl rfl)
theorem dX2_exchange_7 : decode cX2_exchange 7 = .ok (.aload_n 0, 1) := dk_42 (dk_at dksX2_exchange_0 7 rfl rfl)
theorem dX2_exchange_8 : decode cX2_exchange 8 = .ok (.iload_n 1, 1) := dk_27 (dk_at dksX2_exchange_0 8 rfl rfl)
theorem dX2_exchange_9 : decode cX2_exchange 9 = .ok (.iload_n 2, 1) := dk_28 (dk_at dksX2_exchange_0 9 rfl rfl)
theorem dX2_exchange_10 : decode cX2_exchange 10 = .ok (.aload_n 0, 1) := dk_42 (dk_at dksX2_exchange_0 10 rfl rfl)
theorem dX2_exchange_11 : decode cX2_exchange 11 = .ok (.iload_n 1, 1) := dk_27 (dk_at dksX2_exchange_0 11 rfl rfl)
theorem dX2_exchange_12 : decode cX2_exchange 12 = .ok (.iload_n 2, 1) := dk_28 (dk_at dksX2_exchange_0 12 rfl rfl)
theorem dX2_exchange_13 : decode cX2_exchange 13 = .ok (.iconst 1, 1) := dk_4 (dk_at dksX2_exchange_0 13 rfl rfl)
theorem dX2_exchange_14 : decode cX2_exchange 14 = .ok (.iadd, 1) := dk_96 (dk_at dksX2_exchange_0 14 rfl rfl)
theorem dX2_exchange_15 : decode cX2_exchange 15 = .ok (.invokevirtual 101, 3) := dk_182 0 101 (dk_at dksX2_exchange_0 15 rfl rfl)
theorem dX2_exchange_18 : decode cX2_exchange 18 = .ok (.invokevirtual 316, 3) := dk_182 1 60 (dk_at dksX2_exchange_0 18 rfl rfl)
theorem dX2_exchange_21 : decode cX2_exchange 21 = .ok (.aload_n 0, 1) := dk_42 (dk_at dksX2_exchange_0 21 rfl rfl)
theorem dX2_exchange_22 : decode cX2_exchange 22 = .ok (.iload_n 1, 1) := dk_27 (dk_at dksX2_exchange_0 22 rfl rfl)
theorem dX2_exchange_23 : decode cX2_exchange 23 = .ok (.iload_n 2, 1) := dk_28 (dk_at dksX2_exchange_0 23 rfl rfl)
theorem dX2_exchange_24 : decode cX2_exchange 24 = .ok (.iconst 1, 1) := dk_4 (dk_at dksX2_exchange_1 0 rfl rfl)
theorem dX2_exchange_25 : decode cX2_exchange 25 = .ok (.iadd, 1) := dk_96 (dk_at dksX2_exchange_1 1 rfl rfl)
theorem dX2_exchange_26 : decode cX2_exchange 26 = .ok (.iload_n 3, 1) := dk_29 (dk_at dksX2_exchange_1 2 rfl rfl)
theorem dX2_exchange_27 : decode cX2_exchange 27 = .ok (.invokevirtual 316, 3) := dk_182 1 60 (dk_at dksX2_exchange_1 3 rfl rfl)
theorem dX2_exchange_30 : decode cX2_exchange 30 = .ok (.return_, 1) := dk_177 (dk_at dksX2_exchange_1 6 rfl rfl)
abbrev MX2_exchange : jjM := (yX2_exchange, cX2_exchange, 4, (Option.none : Option Jvm.ClassFile.FieldType))
theorem npX2_exchange : yX2_exchange.cls ≠ "java/lang/invoke/MethodHandle" ∧ yX2_exchange.cls ≠ "java/lang/invoke/VarHandle" ∧ (parseMethodDescriptor yX2_exchange.desc).map (fun d => d.parameters.length) = some 2 := by decide +kernel
abbrev cX2_lay : ByteArray := prog_17_method_71_code
def yX2_lay : MethodName := ⟨RX2, "lay", "(III)V"⟩
def dkwX2_lay_0 : List UInt8 := [42, 180, 0, 7, 16, 16, 16, 10, 27, 104, 96, 28, 96, 29, 79, 177]
abbrev dktX2_lay_0 : List UInt8 := dkwX2_lay_0 ++ []
theorem dksX2_lay_0 : cX2_lay.data.toList.drop 0 = dktX2_lay_0 := by decide +kernel
theorem dX2_lay_0 : decode cX2_lay 0 = .ok (.aload_n 0, 1) := dk_42 (dk_at dksX2_lay_0 0 rfl rfl)
theorem dX2_lay_1 : decode cX2_lay 1 = .ok (.getfield 7, 3) := dk_180 0 7 (dk_at dksX2_lay_0 1 rfl rfl)
theorem dX2_lay_4 : decode cX2_lay 4 = .ok (.bipush 16, 2) := dk_16 16 (dk_at dksX2_lay_0 4 rfl rfl)
theorem dX2_lay_6 : decode cX2_lay 6 = .ok (.bipush 10, 2) := dk_16 10 (dk_at dksX2_lay_0 6 rfl rfl)
theorem dX2_lay_8 : decode cX2_lay 8 = .ok (.iload_n 1, 1) := dk_27 (dk_at dksX2_lay_0 8 rfl rfl)
theorem dX2_lay_9 : decode cX2_lay 9 = .ok (.imul, 1) := dk_104 (dk_at dksX2_lay_0 9 rfl rfl)
theorem dX2_lay_10 : decode cX2_lay 10 = .ok (.iadd, 1) := dk_96 (dk_at dksX2_lay_0 10 rfl rfl)
theorem dX2_lay_11 : decode cX2_lay 11 = .ok (.iload_n 2, 1) := dk_28 (dk_at dksX2_lay_0 11 rfl rfl)
theorem dX2_lay_12 : decode cX2_lay 12 = .ok (.iadd, 1) := dk_96 (dk_at dksX2_lay_0 12 rfl rfl)
theorem dX2_lay_13 : decode cX2_lay 13 = .ok (.iload_n 3, 1) := dk_29 (dk_at dksX2_lay_0 13 rfl rfl)
theorem dX2_lay_14 : decode cX2_lay 14 = .ok (.iastore, 1) := dk_79 (dk_at dksX2_lay_0 14 rfl rfl)
theorem dX2_lay_15 : decode cX2_lay 15 = .ok (.return_, 1) := dk_177 (dk_at dksX2_lay_0 15 rfl rfl)
abbrev MX2_lay : jjM := (yX2_lay, cX2_lay, 4, (Option.none : Option Jvm.ClassFile.FieldType))
theorem npX2_lay : yX2_lay.cls ≠ "java/lang/invoke/MethodHandle" ∧ yX2_lay.cls ≠ "java/lang/invoke/VarHandle" ∧ (parseMethodDescriptor yX2_lay.desc).map (fun d => d.parameters.length) = some 3 := by decide +kernel
abbrev cX2_fall : ByteArray := prog_17_method_79_code
def yX2_fall : MethodName := ⟨RX2, "fall", "()I"⟩
def dkwX2_fall_1 : List UInt8 := [172]
abbrev dktX2_fall_1 : List UInt8 := dkwX2_fall_1 ++ []
def dkwX2_fall_0 : List UInt8 := [3, 60, 3, 61, 28, 6, 162, 0, 17, 27, 42, 28, 182, 1, 80, 96, 60, 132, 2, 1, 167, 255, 240, 27]
abbrev dktX2_fall_0 : List UInt8 := dkwX2_fall_0 ++ dktX2_fall_1
theorem dksX2_fall_0 : cX2_fall.data.toList.drop 0 = dktX2_fall_0 := by decide +kernel
theorem dksX2_fall_1 : cX2_fall.data.toList.drop 24 = dktX2_fall_1 := dk_seg dksX2_fall_0 24 rfl rfl
theorem dX2_fall_0 : decode cX2_fall 0 = .ok (.iconst 0, 1) := dk_3 (dk_at dksX2_fall_0 0 rfl rfl)
theorem dX2_fall_1 : decode cX2_fall 1 = .ok (.istore_n 1, 1) := dk_60 (dk_at dksX2_fall_0 1 rfl rfl)
theorem dX2_fall_2 : decode cX2_fall 2 = .ok (.iconst 0, 1) := dk_3 (dk_at dksX2_fall_0 2 rfl rfl)
theorem dX2_fall_3 : decode cX2_fall 3 = .ok (.istore_n 2, 1) := dk_61 (dk_at dksX2_fall_0 3 rfl rfl)
theorem dX2_fall_4 : decode cX2_fall 4 = .ok (.iload_n 2, 1) := dk_28 (dk_at dksX2_fall_0 4 rfl rfl)
theorem dX2_fall_5 : decode cX2_fall 5 = .ok (.iconst 3, 1) := dk_6 (dk_at dksX2_fall_0 5 rfl rfl)
theorem dX2_fall_6 : decode cX2_fall 6 = .ok (.if_icmp .ge 17, 3) := dk_162 0 17 (dk_at dksX2_fall_0 6 rfl rfl)
theorem dX2_fall_9 : decode cX2_fall 9 = .ok (.iload_n 1, 1) := dk_27 (dk_at dksX2_fall_0 9 rfl rfl)
theorem dX2_fall_10 : decode cX2_fall 10 = .ok (.aload_n 0, 1) := dk_42 (dk_at dksX2_fall_0 10 rfl rfl)
theorem dX2_fall_11 : decode cX2_fall 11 = .ok (.iload_n 2, 1) := dk_28 (dk_at dksX2_fall_0 11 rfl rfl)
theorem dX2_fall_12 : decode cX2_fall 12 = .ok (.invokevirtual 336, 3) := dk_182 1 80 (dk_at dksX2_fall_0 12 rfl rfl)
theorem dX2_fall_15 : decode cX2_fall 15 = .ok (.iadd, 1) := dk_96 (dk_at dksX2_fall_0 15 rfl rfl)
theorem dX2_fall_16 : decode cX2_fall 16 = .ok (.istore_n 1, 1) := dk_60 (dk_at dksX2_fall_0 16 rfl rfl)
theorem dX2_fall_17 : decode cX2_fall 17 = .ok (.iinc 2 1, 3) := dk_132 2 1 (dk_at dksX2_fall_0 17 rfl rfl)
theorem dX2_fall_20 : decode cX2_fall 20 = .ok (.goto (-16), 3) := dk_167 255 240 (dk_at dksX2_fall_0 20 rfl rfl)
theorem dX2_fall_23 : decode cX2_fall 23 = .ok (.iload_n 1, 1) := dk_27 (dk_at dksX2_fall_0 23 rfl rfl)
theorem dX2_fall_24 : decode cX2_fall 24 = .ok (.ireturn, 1) := dk_172 (dk_at dksX2_fall_1 0 rfl rfl)
abbrev MX2_fall : jjM := (yX2_fall, cX2_fall, 3, (Option.some Jvm.ClassFile.FieldType.int))
theorem npX2_fall : yX2_fall.cls ≠ "java/lang/invoke/MethodHandle" ∧ yX2_fall.cls ≠ "java/lang/invoke/VarHandle" ∧ (parseMethodDescriptor yX2_fall.desc).map (fun d => d.parameters.length) = some 0 := by decide +kernel
abbrev cX2_fallFrom : ByteArray := prog_17_method_78_code
def yX2_fallFrom : MethodName := ⟨RX2, "fallFrom", "(I)I"⟩
def dkwX2_fallFrom_5 : List UInt8 := [167, 255, 219, 21, 4, 172]
abbrev dktX2_fallFrom_5 : List UInt8 := dkwX2_fallFrom_5 ++ []
def dkwX2_fallFrom_4 : List UInt8 := [164, 0, 26, 42, 27, 42, 180, 0, 7, 16, 13, 27, 96, 46, 4, 100, 7, 182, 1, 77, 132, 4, 1]
abbrev dktX2_fallFrom_4 : List UInt8 := dkwX2_fallFrom_4 ++ dktX2_fallFrom_5
def dkwX2_fallFrom_3 : List UInt8 := [132, 4, 1, 132, 5, 1, 167, 255, 204, 42, 27, 182, 1, 57, 42, 180, 0, 7, 16, 10, 27, 96, 46]
abbrev dktX2_fallFrom_3 : List UInt8 := dkwX2_fallFrom_3 ++ dktX2_fallFrom_4
def dkwX2_fallFrom_2 : List UInt8 := [182, 0, 101, 182, 1, 73, 154, 0, 6, 167, 0, 17, 42, 27, 21, 5, 21, 4, 100, 7, 182, 1, 77]
abbrev dktX2_fallFrom_2 : List UInt8 := dkwX2_fallFrom_2 ++ dktX2_fallFrom_3
def dkwX2_fallFrom_1 : List UInt8 := [21, 5, 29, 162, 0, 52, 28, 155, 0, 48, 42, 28, 27, 21, 5, 29, 42, 27, 21, 5, 21, 4, 100]
abbrev dktX2_fallFrom_1 : List UInt8 := dkwX2_fallFrom_1 ++ dktX2_fallFrom_2
def dkwX2_fallFrom_0 : List UInt8 := [42, 4, 3, 182, 1, 29, 61, 42, 180, 0, 7, 16, 13, 27, 96, 46, 62, 3, 54, 4, 3, 54, 5]
abbrev dktX2_fallFrom_0 : List UInt8 := dkwX2_fallFrom_0 ++ dktX2_fallFrom_1
theorem dksX2_fallFrom_0 : cX2_fallFrom.data.toList.drop 0 = dktX2_fallFrom_0 := by decide +kernel
theorem dksX2_fallFrom_1 : cX2_fallFrom.data.toList.drop 23 = dktX2_fallFrom_1 := dk_seg dksX2_fallFrom_0 23 rfl rfl
theorem dksX2_fallFrom_2 : cX2_fallFrom.data.toList.drop 46 = dktX2_fallFrom_2 := dk_seg dksX2_fallFrom_1 23 rfl rfl
theorem dksX2_fallFrom_3 : cX2_fallFrom.data.toList.drop 69 = dktX2_fallFrom_3 := dk_seg dksX2_fallFrom_2 23 rfl rfl
theorem dksX2_fallFrom_4 : cX2_fallFrom.data.toList.drop 92 = dktX2_fallFrom_4 := dk_seg dksX2_fallFrom_3 23 rfl rfl
theorem dksX2_fallFrom_5 : cX2_fallFrom.data.toList.drop 115 = dktX2_fallFrom_5 := dk_seg dksX2_fallFrom_4 23 rfl rfl
theorem dX2_fallFrom_0 : decode cX2_fallFrom 0 = .ok (.aload_n 0, 1) := dk_42 (dk_at dksX2_fallFrom_0 0 rfl rfl)
theorem dX2_fallFrom_1 : decode cX2_fallFrom 1 = .ok (.iconst 1, 1) := dk_4 (dk_at dksX2_fallFrom_0 1 rfl rfl)
theorem dX2_fallFrom_2 : decode cX2_fallFrom 2 = .ok (.iconst 0, 1) := dk_3 (dk_at dksX2_fallFrom_0 2 rfl rfl)
theorem dX2_fallFrom_3 : decode cX2_fallFrom 3 = .ok (.invokevirtual 285, 3) := dk_182 1 29 (dk_at dksX2_fallFrom_0 3 rfl rfl)
theorem dX2_fallFrom_6 : decode cX2_fallFrom 6 = .ok (.istore_n 2, 1) := dk_61 (dk_at dksX2_fallFrom_0 6 rfl rfl)
theorem dX2_fallFrom_7 : decode cX2_fallFrom 7 = .ok (.aload_n 0, 1) := dk_42 (dk_at dksX2_fallFrom_0 7 rfl rfl)
theorem dX2_fallFrom_8 : decode cX2_fallFrom 8 = .ok (.getfield 7, 3) := dk_180 0 7 (dk_at dksX2_fallFrom_0 8 rfl rfl)
theorem dX2_fallFrom_11 : decode cX2_fallFrom 11 = .ok (.bipush 13, 2) := dk_16 13 (dk_at dksX2_fallFrom_0 11 rfl rfl)
theorem dX2_fallFrom_13 : decode cX2_fallFrom 13 = .ok (.iload_n 1, 1) := dk_27 (dk_at dksX2_fallFrom_0 13 rfl rfl)
theorem dX2_fallFrom_14 : decode cX2_fallFrom 14 = .ok (.iadd, 1) := dk_96 (dk_at dksX2_fallFrom_0 14 rfl rfl)
theorem dX2_fallFrom_15 : decode cX2_fallFrom 15 = .ok (.iaload, 1) := dk_46 (dk_at dksX2_fallFrom_0 15 rfl rfl)
theorem dX2_fallFrom_16 : decode cX2_fallFrom 16 = .ok (.istore_n 3, 1) := dk_62 (dk_at dksX2_fallFrom_0 16 rfl rfl)
theorem dX2_fallFrom_17 : decode cX2_fallFrom 17 = .ok (.iconst 0, 1) := dk_3 (dk_at dksX2_fallFrom_0 17 rfl rfl)
theorem dX2_fallFrom_18 : decode cX2_fallFrom 18 = .ok (.istore 4, 2) := dk_54 4 (dk_at dksX2_fallFrom_0 18 rfl rfl)
theorem dX2_fallFrom_20 : decode cX2_fallFrom 20 = .ok (.iconst 0, 1) := dk_3 (dk_at dksX2_fallFrom_0 20 rfl rfl)
theorem dX2_fallFrom_21 : decode cX2_fallFrom 21 = .ok (.istore 5, 2) := dk_54 5 (dk_at dksX2_fallFrom_0 21 rfl rfl)
theorem dX2_fallFrom_23 : decode cX2_fallFrom 23 = .ok (.iload 5, 2) := dk_21 5 (dk_at dksX2_fallFrom_1 0 rfl rfl)
theorem dX2_fallFrom_25 : decode cX2_fallFrom 25 = .ok (.iload_n 3, 1) := dk_29 (dk_at dksX2_fallFrom_1 2 rfl rfl)
theorem dX2_fallFrom_26 : decode cX2_fallFrom 26 = .ok (.if_icmp .ge 52, 3) := dk_162 0 52 (dk_at dksX2_fallFrom_1 3 rfl rfl)
theorem dX2_fallFrom_29 : decode cX2_fallFrom 29 = .ok (.iload_n 2, 1) := dk_28 (dk_at dksX2_fallFrom_1 6 rfl rfl)
theorem dX2_fallFrom_30 : decode cX2_fallFrom 30 = .ok (.ifCond .lt 48, 3) := dk_155 0 48 (dk_at dksX2_fallFrom_1 7 rfl rfl)
theorem dX2_fallFrom_33 : decode cX2_fallFrom 33 = .ok (.aload_n 0, 1) := dk_42 (dk_at dksX2_fallFrom_1 10 rfl rfl)
theorem dX2_fallFrom_34 : decode cX2_fallFrom 34 = .ok (.iload_n 2, 1) := dk_28 (dk_at dksX2_fallFrom_1 11 rfl rfl)
theorem dX2_fallFrom_35 : decode cX2_fallFrom 35 = .ok (.iload_n 1, 1) := dk_27 (dk_at dksX2_fallFrom_1 12 rfl rfl)
theorem dX2_fallFrom_36 : decode cX2_fallFrom 36 = .ok (.iload 5, 2) := dk_21 5 (dk_at dksX2_fallFrom_1 13 rfl rfl)
theorem dX2_fallFrom_38 : decode cX2_fallFrom 38 = .ok (.iload_n 3, 1) := dk_29 (dk_at dksX2_fallFrom_1 15 rfl rfl)
theorem dX2_fallFrom_39 : decode cX2_fallFrom 39 = .ok (.aload_n 0, 1) := dk_42 (dk_at dksX2_fallFrom_1 16 rfl rfl)
theorem dX2_fallFrom_40 : decode cX2_fallFrom 40 = .ok (.iload_n 1, 1) := dk_27 (dk_at dksX2_fallFrom_1 17 rfl rfl)
theorem dX2_fallFrom_41 : decode cX2_fallFrom 41 = .ok (.iload 5, 2) := dk_21 5 (dk_at dksX2_fallFrom_1 18 rfl rfl)
theorem dX2_fallFrom_43 : decode cX2_fallFrom 43 = .ok (.iload 4, 2) := dk_21 4 (dk_at dksX2_fallFrom_1 20 rfl rfl)
theorem dX2_fallFrom_45 : decode cX2_fallFrom 45 = .ok (.isub, 1) := dk_100 (dk_at dksX2_fallFrom_1 22 rfl rfl)
theorem dX2_fallFrom_46 : decode cX2_fallFrom 46 = .ok (.invokevirtual 101, 3) := dk_182 0 101 (dk_at dksX2_fallFrom_2 0 rfl rfl)
theorem dX2_fallFrom_49 : decode cX2_fallFrom 49 = .ok (.invokevirtual 329, 3) := dk_182 1 73 (dk_at dksX2_fallFrom_2 3 rfl rfl)
theorem dX2_fallFrom_52 : decode cX2_fallFrom 52 = .ok (.ifCond .ne 6, 3) := dk_154 0 6 (dk_at dksX2_fallFrom_2 6 rfl rfl)
theorem dX2_fallFrom_55 : decode cX2_fallFrom 55 = .ok (.goto 17, 3) := dk_167 0 17 (dk_at dksX2_fallFrom_2 9 rfl rfl)
theorem dX2_fallFrom_58 : decode cX2_fallFrom 58 = .ok (.aload_n 0, 1) := dk_42 (dk_at dksX2_fallFrom_2 12 rfl rfl)
theorem dX2_fallFrom_59 : decode cX2_fallFrom 59 = .ok (.iload_n 1, 1) := dk_27 (dk_at dksX2_fallFrom_2 13 rfl rfl)
theorem dX2_fallFrom_60 : decode cX2_fallFrom 60 = .ok (.iload 5, 2) := dk_21 5 (dk_at dksX2_fallFrom_2 14 rfl rfl)
theorem dX2_fallFrom_62 : decode cX2_fallFrom 62 = .ok (.iload 4, 2) := dk_21 4 (dk_at dksX2_fallFrom_2 16 rfl rfl)
theorem dX2_fallFrom_64 : decode cX2_fallFrom 64 = .ok (.isub, 1) := dk_100 (dk_at dksX2_fallFrom_2 18 rfl rfl)
theorem dX2_fallFrom_65 : decode cX2_fallFrom 65 = .ok (.iconst 4, 1) := dk_7 (dk_at dksX2_fallFrom_2 19 rfl rfl)
theorem dX2_fallFrom_66 : decode cX2_fallFrom 66 = .ok (.invokevirtual 333, 3) := dk_182 1 77 (dk_at dksX2_fallFrom_2 20 rfl rfl)
theorem dX2_fallFrom_69 : decode cX2_fallFrom 69 = .ok (.iinc 4 1, 3) := dk_132 4 1 (dk_at dksX2_fallFrom_3 0 rfl rfl)
theorem dX2_fallFrom_72 : decode cX2_fallFrom 72 = .ok (.iinc 5 1, 3) := dk_132 5 1 (dk_at dksX2_fallFrom_3 3 rfl rfl)
theorem dX2_fallFrom_75 : decode cX2_fallFrom 75 = .ok (.goto (-52), 3) := dk_167 255 204 (dk_at dksX2_fallFrom_3 6 rfl rfl)
theorem dX2_fallFrom_78 : decode cX2_fallFrom 78 = .ok (.aload_n 0, 1) := dk_42 (dk_at dksX2_fallFrom_3 9 rfl rfl)
theorem dX2_fallFrom_79 : decode cX2_fallFrom 79 = .ok (.iload_n 1, 1) := dk_27 (dk_at dksX2_fallFrom_3 10 rfl rfl)
theorem dX2_fallFrom_80 : decode cX2_fallFrom 80 = .ok (.invokevirtual 313, 3) := dk_182 1 57 (dk_at dksX2_fallFrom_3 11 rfl rfl)
theorem dX2_fallFrom_83 : decode cX2_fallFrom 83 = .ok (.aload_n 0, 1) := dk_42 (dk_at dksX2_fallFrom_3 14 rfl rfl)
theorem dX2_fallFrom_84 : decode cX2_fallFrom 84 = .ok (.getfield 7, 3) := dk_180 0 7 (dk_at dksX2_fallFrom_3 15 rfl rfl)
theorem dX2_fallFrom_87 : decode cX2_fallFrom 87 = .ok (.bipush 10, 2) := dk_16 10 (dk_at dksX2_fallFrom_3 18 rfl rfl)
theorem dX2_fallFrom_89 : decode cX2_fallFrom 89 = .ok (.iload_n 1, 1) := dk_27 (dk_at dksX2_fallFrom_3 20 rfl rfl)
theorem dX2_fallFrom_90 : decode cX2_fallFrom 90 = .ok (.iadd, 1) := dk_96 (dk_at dksX2_fallFrom_3 21 rfl rfl)
theorem dX2_fallFrom_91 : decode cX2_fallFrom 91 = .ok (.iaload, 1) := dk_46 (dk_at dksX2_fallFrom_3 22 rfl rfl)
theorem dX2_fallFrom_92 : decode cX2_fallFrom 92 = .ok (.if_icmp .le 26, 3) := dk_164 0 26 (dk_at dksX2_fallFrom_4 0 rfl rfl)
theorem dX2_fallFrom_95 : decode cX2_fallFrom 95 = .ok (.aload_n 0, 1) := dk_42 (dk_at dksX2_fallFrom_4 3 rfl rfl)
theorem dX2_fallFrom_96 : decode cX2_fallFrom 96 = .ok (.iload_n 1, 1) := dk_27 (dk_at dksX2_fallFrom_4 4 rfl rfl)
theorem dX2_fallFrom_97 : decode cX2_fallFrom 97 = .ok (.aload_n 0, 1) := dk_42 (dk_at dksX2_fallFrom_4 5 rfl rfl)
theorem dX2_fallFrom_98 : decode cX2_fallFrom 98 = .ok (.getfield 7, 3) := dk_180 0 7 (dk_at dksX2_fallFrom_4 6 rfl rfl)
theorem dX2_fallFrom_101 : decode cX2_fallFrom 101 = .ok (.bipush 13, 2) := dk_16 13 (dk_at dksX2_fallFrom_4 9 rfl rfl)
theorem dX2_fallFrom_103 : decode cX2_fallFrom 103 = .ok (.iload_n 1, 1) := dk_27 (dk_at dksX2_fallFrom_4 11 rfl rfl)
theorem dX2_fallFrom_104 : decode cX2_fallFrom 104 = .ok (.iadd, 1) := dk_96 (dk_at dksX2_fallFrom_4 12 rfl rfl)
theorem dX2_fallFrom_105 : decode cX2_fallFrom 105 = .ok (.iaload, 1) := dk_46 (dk_at dksX2_fallFrom_4 13 rfl rfl)
theorem dX2_fallFrom_106 : decode cX2_fallFrom 106 = .ok (.iconst 1, 1) := dk_4 (dk_at dksX2_fallFrom_4 14 rfl rfl)
theorem dX2_fallFrom_107 : decode cX2_fallFrom 107 = .ok (.isub, 1) := dk_100 (dk_at dksX2_fallFrom_4 15 rfl rfl)
theorem dX2_fallFrom_108 : decode cX2_fallFrom 108 = .ok (.iconst 4, 1) := dk_7 (dk_at dksX2_fallFrom_4 16 rfl rfl)
theorem dX2_fallFrom_109 : decode cX2_fallFrom 109 = .ok (.invokevirtual 333, 3) := dk_182 1 77 (dk_at dksX2_fallFrom_4 17 rfl rfl)
theorem dX2_fallFrom_112 : decode cX2_fallFrom 112 = .ok (.iinc 4 1, 3) := dk_132 4 1 (dk_at dksX2_fallFrom_4 20 rfl rfl)
theorem dX2_fallFrom_115 : decode cX2_fallFrom 115 = .ok (.goto (-37), 3) := dk_167 255 219 (dk_at dksX2_fallFrom_5 0 rfl rfl)
theorem dX2_fallFrom_118 : decode cX2_fallFrom 118 = .ok (.iload 4, 2) := dk_21 4 (dk_at dksX2_fallFrom_5 3 rfl rfl)
theorem dX2_fallFrom_120 : decode cX2_fallFrom 120 = .ok (.ireturn, 1) := dk_172 (dk_at dksX2_fallFrom_5 5 rfl rfl)
abbrev MX2_fallFrom : jjM := (yX2_fallFrom, cX2_fallFrom, 6, (Option.some Jvm.ClassFile.FieldType.int))
theorem npX2_fallFrom : yX2_fallFrom.cls ≠ "java/lang/invoke/MethodHandle" ∧ yX2_fallFrom.cls ≠ "java/lang/invoke/VarHandle" ∧ (parseMethodDescriptor yX2_fallFrom.desc).map (fun d => d.parameters.length) = some 1 := by decide +kernel
abbrev cX2_isFalling : ByteArray := prog_17_method_77_code
def yX2_isFalling : MethodName := ⟨RX2, "isFalling", "(IIIII)Z"⟩
def dkwX2_isFalling_1 : List UInt8 := [180, 0, 32, 16, 14, 21, 4, 79, 42, 27, 182, 1, 35, 42, 180, 0, 39, 3, 51, 172]
abbrev dktX2_isFalling_1 : List UInt8 := dkwX2_isFalling_1 ++ []
def dkwX2_isFalling_0 : List UInt8 := [42, 21, 5, 182, 1, 32, 42, 180, 0, 32, 16, 12, 28, 79, 42, 180, 0, 32, 16, 13, 29, 79, 42]
abbrev dktX2_isFalling_0 : List UInt8 := dkwX2_isFalling_0 ++ dktX2_isFalling_1
theorem dksX2_isFalling_0 : cX2_isFalling.data.toList.drop 0 = dktX2_isFalling_0 := by decide +kernel
theorem dksX2_isFalling_1 : cX2_isFalling.data.toList.drop 23 = dktX2_isFalling_1 := dk_seg dksX2_isFalling_0 23 rfl rfl
theorem dX2_isFalling_0 : decode cX2_isFalling 0 = .ok (.aload_n 0, 1) := dk_42 (dk_at dksX2_isFalling_0 0 rfl rfl)
theorem dX2_isFalling_1 : decode cX2_isFalling 1 = .ok (.iload 5, 2) := dk_21 5 (dk_at dksX2_isFalling_0 1 rfl rfl)
theorem dX2_isFalling_3 : decode cX2_isFalling 3 = .ok (.invokevirtual 288, 3) := dk_182 1 32 (dk_at dksX2_isFalling_0 3 rfl rfl)
theorem dX2_isFalling_6 : decode cX2_isFalling 6 = .ok (.aload_n 0, 1) := dk_42 (dk_at dksX2_isFalling_0 6 rfl rfl)
theorem dX2_isFalling_7 : decode cX2_isFalling 7 = .ok (.getfield 32, 3) := dk_180 0 32 (dk_at dksX2_isFalling_0 7 rfl rfl)
theorem dX2_isFalling_10 : decode cX2_isFalling 10 = .ok (.bipush 12, 2) := dk_16 12 (dk_at dksX2_isFalling_0 10 rfl rfl)
theorem dX2_isFalling_12 : decode cX2_isFalling 12 = .ok (.iload_n 2, 1) := dk_28 (dk_at dksX2_isFalling_0 12 rfl rfl)
theorem dX2_isFalling_13 : decode cX2_isFalling 13 = .ok (.iastore, 1) := dk_79 (dk_at dksX2_isFalling_0 13 rfl rfl)
theorem dX2_isFalling_14 : decode cX2_isFalling 14 = .ok (.aload_n 0, 1) := dk_42 (dk_at dksX2_isFalling_0 14 rfl rfl)
theorem dX2_isFalling_15 : decode cX2_isFalling 15 = .ok (.getfield 32, 3) := dk_180 0 32 (dk_at dksX2_isFalling_0 15 rfl rfl)
theorem dX2_isFalling_18 : decode cX2_isFalling 18 = .ok (.bipush 13, 2) := dk_16 13 (dk_at dksX2_isFalling_0 18 rfl rfl)
theorem dX2_isFalling_20 : decode cX2_isFalling 20 = .ok (.iload_n 3, 1) := dk_29 (dk_at dksX2_isFalling_0 20 rfl rfl)
theorem dX2_isFalling_21 : decode cX2_isFalling 21 = .ok (.iastore, 1) := dk_79 (dk_at dksX2_isFalling_0 21 rfl rfl)
theorem dX2_isFalling_22 : decode cX2_isFalling 22 = .ok (.aload_n 0, 1) := dk_42 (dk_at dksX2_isFalling_0 22 rfl rfl)
theorem dX2_isFalling_23 : decode cX2_isFalling 23 = .ok (.getfield 32, 3) := dk_180 0 32 (dk_at dksX2_isFalling_1 0 rfl rfl)
theorem dX2_isFalling_26 : decode cX2_isFalling 26 = .ok (.bipush 14, 2) := dk_16 14 (dk_at dksX2_isFalling_1 3 rfl rfl)
theorem dX2_isFalling_28 : decode cX2_isFalling 28 = .ok (.iload 4, 2) := dk_21 4 (dk_at dksX2_isFalling_1 5 rfl rfl)
theorem dX2_isFalling_30 : decode cX2_isFalling 30 = .ok (.iastore, 1) := dk_79 (dk_at dksX2_isFalling_1 7 rfl rfl)
theorem dX2_isFalling_31 : decode cX2_isFalling 31 = .ok (.aload_n 0, 1) := dk_42 (dk_at dksX2_isFalling_1 8 rfl rfl)
theorem dX2_isFalling_32 : decode cX2_isFalling 32 = .ok (.iload_n 1, 1) := dk_27 (dk_at dksX2_isFalling_1 9 rfl rfl)
theorem dX2_isFalling_33 : decode cX2_isFalling 33 = .ok (.invokevirtual 291, 3) := dk_182 1 35 (dk_at dksX2_isFalling_1 10 rfl rfl)
theorem dX2_isFalling_36 : decode cX2_isFalling 36 = .ok (.aload_n 0, 1) := dk_42 (dk_at dksX2_isFalling_1 13 rfl rfl)
theorem dX2_isFalling_37 : decode cX2_isFalling 37 = .ok (.getfield 39, 3) := dk_180 0 39 (dk_at dksX2_isFalling_1 14 rfl rfl)
theorem dX2_isFalling_40 : decode cX2_isFalling 40 = .ok (.iconst 0, 1) := dk_3 (dk_at dksX2_isFalling_1 17 rfl rfl)
theorem dX2_isFalling_41 : decode cX2_isFalling 41 = .ok (.baload, 1) := dk_51 (dk_at dksX2_isFalling_1 18 rfl rfl)
theorem dX2_isFalling_42 : decode cX2_isFalling 42 = .ok (.ireturn, 1) := dk_172 (dk_at dksX2_isFalling_1 19 rfl rfl)
abbrev MX2_isFalling : jjM := (yX2_isFalling, cX2_isFalling, 6, (Option.some Jvm.ClassFile.FieldType.boolean))
theorem npX2_isFalling : yX2_isFalling.cls ≠ "java/lang/invoke/MethodHandle" ∧ yX2_isFalling.cls ≠ "java/lang/invoke/VarHandle" ∧ (parseMethodDescriptor yX2_isFalling.desc).map (fun d => d.parameters.length) = some 5 := by decide +kernel
