/-! names, code and decode rows of the methods (out of claim/names) -/
set_option maxRecDepth 100000
abbrev cX0_thickOf : ByteArray := prog_1_method_86_code
def yX0_thickOf : MethodName := ⟨RX0, "thickOf", "(I)I"⟩
def dkwX0_thickOf_2 : List UInt8 := [61, 132, 3, 1, 167, 255, 210, 28, 172]
abbrev dktX0_thickOf_2 : List UInt8 := dkwX0_thickOf_2 ++ []
def dkwX0_thickOf_1 : List UInt8 := [154, 0, 6, 167, 0, 22, 42, 29, 182, 0, 83, 6, 159, 0, 5, 2, 172, 28, 42, 29, 182, 0, 196, 96]
abbrev dktX0_thickOf_1 : List UInt8 := dkwX0_thickOf_1 ++ dktX0_thickOf_2
def dkwX0_thickOf_0 : List UInt8 := [3, 61, 3, 62, 29, 42, 180, 0, 12, 180, 0, 71, 3, 46, 162, 0, 39, 27, 29, 122, 4, 126]
abbrev dktX0_thickOf_0 : List UInt8 := dkwX0_thickOf_0 ++ dktX0_thickOf_1
theorem dksX0_thickOf_0 : cX0_thickOf.data.toList.drop 0 = dktX0_thickOf_0 := by decide +kernel
theorem dksX0_thickOf_1 : cX0_thickOf.data.toList.drop 22 = dktX0_thickOf_1 := dk_seg dksX0_thickOf_0 22 rfl rfl
theorem dksX0_thickOf_2 : cX0_thickOf.data.toList.drop 46 = dktX0_thickOf_2 := dk_seg dksX0_thickOf_1 24 rfl rfl
theorem dX0_thickOf_0 : decode cX0_thickOf 0 = .ok (.iconst 0, 1) := dk_3 (dk_at dksX0_thickOf_0 0 rfl rfl)
theorem dX0_thickOf_1 : decode cX0_thickOf 1 = .ok (.istore_n 2, 1) := dk_61 (dk_at dksX0_thickOf_0 1 rfl rfl)
theorem dX0_thickOf_2 : decode cX0_thickOf 2 = .ok (.iconst 0, 1) := dk_3 (dk_at dksX0_thickOf_0 2 rfl rfl)
theorem dX0_thickOf_3 : decode cX0_thickOf 3 = .ok (.istore_n 3, 1) := dk_62 (dk_at dksX0_thickOf_0 3 rfl rfl)
theorem dX0_thickOf_4 : decode cX0_thickOf 4 = .ok (.iload_n 3, 1) := dk_29 (dk_at dksX0_thickOf_0 4 rfl rfl)
theorem dX0_thickOf_5 : decode cX0_thickOf 5 = .ok (.aload_n 0, 1) := dk_42 (dk_at dksX0_thickOf_0 5 rfl rfl)
theorem dX0_thickOf_6 : decode cX0_thickOf 6 = .ok (.getfield 12, 3) := dk_180 0 12 (dk_at dksX0_thickOf_0 6 rfl rfl)
theorem dX0_thickOf_9 : decode cX0_thickOf 9 = .ok (.getfield 71, 3) := dk_180 0 71 (dk_at dksX0_thickOf_0 9 rfl rfl)
theorem dX0_thickOf_12 : decode cX0_thickOf 12 = .ok (.iconst 0, 1) := dk_3 (dk_at dksX0_thickOf_0 12 rfl rfl)
theorem dX0_thickOf_13 : decode cX0_thickOf 13 = .ok (.iaload, 1) := dk_46 (dk_at dksX0_thickOf_0 13 rfl rfl)
theorem dX0_thickOf_14 : decode cX0_thickOf 14 = .ok (.if_icmp .ge 39, 3) := dk_162 0 39 (dk_at dksX0_thickOf_0 14 rfl rfl)
theorem dX0_thickOf_17 : decode cX0_thickOf 17 = .ok (.iload_n 1, 1) := dk_27 (dk_at dksX0_thickOf_0 17 rfl rfl)
theorem dX0_thickOf_18 : decode cX0_thickOf 18 = .ok (.iload_n 3, 1) := dk_29 (dk_at dksX0_thickOf_0 18 rfl rfl)
theorem dX0_thickOf_19 : decode cX0_thickOf 19 = .ok (.ishr, 1) := dk_122 (dk_at dksX0_thickOf_0 19 rfl rfl)
theorem dX0_thickOf_20 : decode cX0_thickOf 20 = .ok (.iconst 1, 1) := dk_4 (dk_at dksX0_thickOf_0 20 rfl rfl)
theorem dX0_thickOf_21 : decode cX0_thickOf 21 = .ok (.iand, 1) := dk_126 (dk_at dksX0_thickOf_0 21 rfl rfl)
theorem dX0_thickOf_22 : decode cX0_thickOf 22 = .ok (.ifCond .ne 6, 3) := dk_154 0 6 (dk_at dksX0_thickOf_1 0 rfl rfl)
theorem dX0_thickOf_25 : decode cX0_thickOf 25 = .ok (.goto 22, 3) := dk_167 0 22 (dk_at dksX0_thickOf_1 3 rfl rfl)
theorem dX0_thickOf_28 : decode cX0_thickOf 28 = .ok (.aload_n 0, 1) := dk_42 (dk_at dksX0_thickOf_1 6 rfl rfl)
theorem dX0_thickOf_29 : decode cX0_thickOf 29 = .ok (.iload_n 3, 1) := dk_29 (dk_at dksX0_thickOf_1 7 rfl rfl)
theorem dX0_thickOf_30 : decode cX0_thickOf 30 = .ok (.invokevirtual 83, 3) := dk_182 0 83 (dk_at dksX0_thickOf_1 8 rfl rfl)
theorem dX0_thickOf_33 : decode cX0_thickOf 33 = .ok (.iconst 3, 1) := dk_6 (dk_at dksX0_thickOf_1 11 rfl rfl)
theorem dX0_thickOf_34 : decode cX0_thickOf 34 = .ok (.if_icmp .eq 5, 3) := dk_159 0 5 (dk_at dksX0_thickOf_1 12 rfl rfl)
theorem dX0_thickOf_37 : decode cX0_thickOf 37 = .ok (.iconst (-1), 1) := dk_2 (dk_at dksX0_thickOf_1 15 rfl rfl)
theorem dX0_thickOf_38 : decode cX0_thickOf 38 = .ok (.ireturn, 1) := dk_172 (dk_at dksX0_thickOf_1 16 rfl rfl)
theorem dX0_thickOf_39 : decode cX0_thickOf 39 = .ok (.iload_n 2, 1) := dk_28 (dk_at dksX0_thickOf_1 17 rfl rfl)
theorem dX0_thickOf_40 : decode cX0_thickOf 40 = .ok (.aload_n 0, 1) := dk_42 (dk_at dksX0_thickOf_1 18 rfl rfl)
theorem dX0_thickOf_41 : decode cX0_thickOf 41 = .ok (.iload_n 3, 1) := dk_29 (dk_at dksX0_thickOf_1 19 rfl rfl)
theorem dX0_thickOf_42 : decode cX0_thickOf 42 = .ok (.invokevirtual 196, 3) := dk_182 0 196 (dk_at dksX0_thickOf_1 20 rfl rfl)
theorem dX0_thickOf_45 : decode cX0_thickOf 45 = .ok (.iadd, 1) := dk_96 (dk_at dksX0_thickOf_1 23 rfl rfl)
theorem dX0_thickOf_46 : decode cX0_thickOf 46 = .ok (.istore_n 2, 1) := dk_61 (dk_at dksX0_thickOf_2 0 rfl rfl)
theorem dX0_thickOf_47 : decode cX0_thickOf 47 = .ok (.iinc 3 1, 3) := dk_132 3 1 (dk_at dksX0_thickOf_2 1 rfl rfl)
theorem dX0_thickOf_50 : decode cX0_thickOf 50 = .ok (.goto (-46), 3) := dk_167 255 210 (dk_at dksX0_thickOf_2 4 rfl rfl)
theorem dX0_thickOf_53 : decode cX0_thickOf 53 = .ok (.iload_n 2, 1) := dk_28 (dk_at dksX0_thickOf_2 7 rfl rfl)
theorem dX0_thickOf_54 : decode cX0_thickOf 54 = .ok (.ireturn, 1) := dk_172 (dk_at dksX0_thickOf_2 8 rfl rfl)
abbrev MX0_thickOf : jjM := (yX0_thickOf, cX0_thickOf, 4, (Option.some Jvm.ClassFile.FieldType.int))
theorem npX0_thickOf : yX0_thickOf.cls ≠ "java/lang/invoke/MethodHandle" ∧ yX0_thickOf.cls ≠ "java/lang/invoke/VarHandle" ∧ (parseMethodDescriptor yX0_thickOf.desc).map (fun d => d.parameters.length) = some 1 := by decide +kernel
abbrev cX0_image : ByteArray := prog_1_method_87_code
def yX0_image : MethodName := ⟨RX0, "image", "()I"⟩
def dkwX0_image_0 : List UInt8 := [42, 180, 0, 16, 42, 180, 0, 12, 182, 0, 67, 42, 180, 0, 12, 180, 0, 78, 16, 44, 46, 172]
abbrev dktX0_image_0 : List UInt8 := dkwX0_image_0 ++ []
theorem dksX0_image_0 : cX0_image.data.toList.drop 0 = dktX0_image_0 := by decide +kernel
theorem dX0_image_0 : decode cX0_image 0 = .ok (.aload_n 0, 1) := dk_42 (dk_at dksX0_image_0 0 rfl rfl)
theorem dX0_image_1 : decode cX0_image 1 = .ok (.getfield 16, 3) := dk_180 0 16 (dk_at dksX0_image_0 1 rfl rfl)
theorem dX0_image_4 : decode cX0_image 4 = .ok (.aload_n 0, 1) := dk_42 (dk_at dksX0_image_0 4 rfl rfl)
theorem dX0_image_5 : decode cX0_image 5 = .ok (.getfield 12, 3) := dk_180 0 12 (dk_at dksX0_image_0 5 rfl rfl)
theorem dX0_image_8 : decode cX0_image 8 = .ok (.invokevirtual 67, 3) := dk_182 0 67 (dk_at dksX0_image_0 8 rfl rfl)
theorem dX0_image_11 : decode cX0_image 11 = .ok (.aload_n 0, 1) := dk_42 (dk_at dksX0_image_0 11 rfl rfl)
theorem dX0_image_12 : decode cX0_image 12 = .ok (.getfield 12, 3) := dk_180 0 12 (dk_at dksX0_image_0 12 rfl rfl)
theorem dX0_image_15 : decode cX0_image 15 = .ok (.getfield 78, 3) := dk_180 0 78 (dk_at dksX0_image_0 15 rfl rfl)
theorem dX0_image_18 : decode cX0_image 18 = .ok (.bipush 44, 2) := dk_16 44 (dk_at dksX0_image_0 18 rfl rfl)
theorem dX0_image_20 : decode cX0_image 20 = .ok (.iaload, 1) := dk_46 (dk_at dksX0_image_0 20 rfl rfl)
theorem dX0_image_21 : decode cX0_image 21 = .ok (.ireturn, 1) := dk_172 (dk_at dksX0_image_0 21 rfl rfl)
abbrev MX0_image : jjM := (yX0_image, cX0_image, 1, (Option.some Jvm.ClassFile.FieldType.int))
theorem npX0_image : yX0_image.cls ≠ "java/lang/invoke/MethodHandle" ∧ yX0_image.cls ≠ "java/lang/invoke/VarHandle" ∧ (parseMethodDescriptor yX0_image.desc).map (fun d => d.parameters.length) = some 0 := by decide +kernel
abbrev cX0_back : ByteArray := prog_1_method_88_code
def yX0_back : MethodName := ⟨RX0, "back", "()I"⟩
def dkwX0_back_0 : List UInt8 := [42, 180, 0, 12, 42, 180, 0, 16, 182, 0, 67, 42, 180, 0, 12, 180, 0, 78, 16, 44, 46, 172]
abbrev dktX0_back_0 : List UInt8 := dkwX0_back_0 ++ []
theorem dksX0_back_0 : cX0_back.data.toList.drop 0 = dktX0_back_0 := by decide +kernel
theorem dX0_back_0 : decode cX0_back 0 = .ok (.aload_n 0, 1) := dk_42 (dk_at dksX0_back_0 0 rfl rfl)
theorem dX0_back_1 : decode cX0_back 1 = .ok (.getfield 12, 3) := dk_180 0 12 (dk_at dksX0_back_0 1 rfl rfl)
theorem dX0_back_4 : decode cX0_back 4 = .ok (.aload_n 0, 1) := dk_42 (dk_at dksX0_back_0 4 rfl rfl)
theorem dX0_back_5 : decode cX0_back 5 = .ok (.getfield 16, 3) := dk_180 0 16 (dk_at dksX0_back_0 5 rfl rfl)
theorem dX0_back_8 : decode cX0_back 8 = .ok (.invokevirtual 67, 3) := dk_182 0 67 (dk_at dksX0_back_0 8 rfl rfl)
theorem dX0_back_11 : decode cX0_back 11 = .ok (.aload_n 0, 1) := dk_42 (dk_at dksX0_back_0 11 rfl rfl)
theorem dX0_back_12 : decode cX0_back 12 = .ok (.getfield 12, 3) := dk_180 0 12 (dk_at dksX0_back_0 12 rfl rfl)
theorem dX0_back_15 : decode cX0_back 15 = .ok (.getfield 78, 3) := dk_180 0 78 (dk_at dksX0_back_0 15 rfl rfl)
theorem dX0_back_18 : decode cX0_back 18 = .ok (.bipush 44, 2) := dk_16 44 (dk_at dksX0_back_0 18 rfl rfl)
theorem dX0_back_20 : decode cX0_back 20 = .ok (.iaload, 1) := dk_46 (dk_at dksX0_back_0 20 rfl rfl)
theorem dX0_back_21 : decode cX0_back 21 = .ok (.ireturn, 1) := dk_172 (dk_at dksX0_back_0 21 rfl rfl)
abbrev MX0_back : jjM := (yX0_back, cX0_back, 1, (Option.some Jvm.ClassFile.FieldType.int))
theorem npX0_back : yX0_back.cls ≠ "java/lang/invoke/MethodHandle" ∧ yX0_back.cls ≠ "java/lang/invoke/VarHandle" ∧ (parseMethodDescriptor yX0_back.desc).map (fun d => d.parameters.length) = some 0 := by decide +kernel
abbrev cX0_about : ByteArray := prog_1_method_90_code
def yX0_about : MethodName := ⟨RX0, "about", "(I)I"⟩
def dkwX0_about_6 : List UInt8 := [182, 1, 163, 172, 42, 180, 0, 103, 172, 16, 254, 172]
abbrev dktX0_about_6 : List UInt8 := dkwX0_about_6 ++ []
def dkwX0_about_5 : List UInt8 := [6, 46, 172, 42, 180, 0, 12, 180, 0, 71, 7, 46, 172, 42, 180, 0, 12, 180, 0, 71, 8, 46, 172, 42]
abbrev dktX0_about_5 : List UInt8 := dkwX0_about_5 ++ dktX0_about_6
def dkwX0_about_4 : List UInt8 := [180, 0, 78, 16, 45, 46, 172, 42, 180, 0, 12, 180, 0, 71, 5, 46, 172, 42, 180, 0, 12, 180, 0, 71]
abbrev dktX0_about_4 : List UInt8 := dkwX0_about_4 ++ dktX0_about_5
def dkwX0_about_3 : List UInt8 := [180, 0, 12, 180, 0, 78, 16, 43, 46, 172, 42, 180, 0, 12, 180, 0, 71, 4, 46, 172, 42, 180, 0, 12]
abbrev dktX0_about_3 : List UInt8 := dkwX0_about_3 ++ dktX0_about_4
def dkwX0_about_2 : List UInt8 := [42, 180, 0, 12, 180, 0, 71, 3, 46, 172, 42, 180, 0, 12, 180, 0, 78, 16, 44, 46, 172, 42]
abbrev dktX0_about_2 : List UInt8 := dkwX0_about_2 ++ dktX0_about_3
def dkwX0_about_1 : List UInt8 := [170, 0, 0, 0, 0, 0, 162, 0, 0, 0, 0, 0, 0, 0, 10, 0, 0, 0, 59, 0, 0, 0, 69, 0, 0, 0, 80, 0, 0, 0, 91, 0, 0, 0, 101, 0, 0, 0, 112, 0, 0, 0, 122, 0, 0, 0, 132, 0, 0, 0, 142, 0, 0, 0, 152, 0, 0, 0, 157]
abbrev dktX0_about_1 : List UInt8 := dkwX0_about_1 ++ dktX0_about_2
def dkwX0_about_0 : List UInt8 := [27]
abbrev dktX0_about_0 : List UInt8 := dkwX0_about_0 ++ dktX0_about_1
theorem dksX0_about_0 : cX0_about.data.toList.drop 0 = dktX0_about_0 := by decide +kernel
theorem dksX0_about_1 : cX0_about.data.toList.drop 1 = dktX0_about_1 := dk_seg dksX0_about_0 1 rfl rfl
theorem dksX0_about_2 : cX0_about.data.toList.drop 60 = dktX0_about_2 := dk_seg dksX0_about_1 59 rfl rfl
theorem dksX0_about_3 : cX0_about.data.toList.drop 82 = dktX0_about_3 := dk_seg dksX0_about_2 22 rfl rfl
theorem dksX0_about_4 : cX0_about.data.toList.drop 106 = dktX0_about_4 := dk_seg dksX0_about_3 24 rfl rfl
theorem dksX0_about_5 : cX0_about.data.toList.drop 130 = dktX0_about_5 := dk_seg dksX0_about_4 24 rfl rfl
theorem dksX0_about_6 : cX0_about.data.toList.drop 154 = dktX0_about_6 := dk_seg dksX0_about_5 24 rfl rfl
theorem dX0_about_0 : decode cX0_about 0 = .ok (.iload_n 1, 1) := dk_27 (dk_at dksX0_about_0 0 rfl rfl)
theorem dX0_about_1 : decode cX0_about 1 = .ok (.tableswitch 162 0 10 #[59, 69, 80, 91, 101, 112, 122, 132, 142, 152, 157], 59) := by decide +kernel
theorem dX0_about_60 : decode cX0_about 60 = .ok (.aload_n 0, 1) := dk_42 (dk_at dksX0_about_2 0 rfl rfl)
theorem dX0_about_61 : decode cX0_about 61 = .ok (.getfield 12, 3) := dk_180 0 12 (dk_at dksX0_about_2 1 rfl rfl)
theorem dX0_about_64 : decode cX0_about 64 = .ok (.getfield 71, 3) := dk_180 0 71 (dk_at dksX0_about_2 4 rfl rfl)
theorem dX0_about_67 : decode cX0_about 67 = .ok (.iconst 0, 1) := dk_3 (dk_at dksX0_about_2 7 rfl rfl)
theorem dX0_about_68 : decode cX0_about 68 = .ok (.iaload, 1) := dk_46 (dk_at dksX0_about_2 8 rfl rfl)
theorem dX0_about_69 : decode cX0_about 69 = .ok (.ireturn, 1) := dk_172 (dk_at dksX0_about_2 9 rfl rfl)
theorem dX0_about_70 : decode cX0_about 70 = .ok (.aload_n 0, 1) := dk_42 (dk_at dksX0_about_2 10 rfl rfl)
theorem dX0_about_71 : decode cX0_about 71 = .ok (.getfield 12, 3) := dk_180 0 12 (dk_at dksX0_about_2 11 rfl rfl)
theorem dX0_about_74 : decode cX0_about 74 = .ok (.getfield 78, 3) := dk_180 0 78 (dk_at dksX0_about_2 14 rfl rfl)
theorem dX0_about_77 : decode cX0_about 77 = .ok (.bipush 44, 2) := dk_16 44 (dk_at dksX0_about_2 17 rfl rfl)
theorem dX0_about_79 : decode cX0_about 79 = .ok (.iaload, 1) := dk_46 (dk_at dksX0_about_2 19 rfl rfl)
theorem dX0_about_80 : decode cX0_about 80 = .ok (.ireturn, 1) := dk_172 (dk_at dksX0_about_2 20 rfl rfl)
theorem dX0_about_81 : decode cX0_about 81 = .ok (.aload_n 0, 1) := dk_42 (dk_at dksX0_about_2 21 rfl rfl)
theorem dX0_about_82 : decode cX0_about 82 = .ok (.getfield 12, 3) := dk_180 0 12 (dk_at dksX0_about_3 0 rfl rfl)
theorem dX0_about_85 : decode cX0_about 85 = .ok (.getfield 78, 3) := dk_180 0 78 (dk_at dksX0_about_3 3 rfl rfl)
theorem dX0_about_88 : decode cX0_about 88 = .ok (.bipush 43, 2) := dk_16 43 (dk_at dksX0_about_3 6 rfl rfl)
theorem dX0_about_90 : decode cX0_about 90 = .ok (.iaload, 1) := dk_46 (dk_at dksX0_about_3 8 rfl rfl)
theorem dX0_about_91 : decode cX0_about 91 = .ok (.ireturn, 1) := dk_172 (dk_at dksX0_about_3 9 rfl rfl)
theorem dX0_about_92 : decode cX0_about 92 = .ok (.aload_n 0, 1) := dk_42 (dk_at dksX0_about_3 10 rfl rfl)
theorem dX0_about_93 : decode cX0_about 93 = .ok (.getfield 12, 3) := dk_180 0 12 (dk_at dksX0_about_3 11 rfl rfl)
theorem dX0_about_96 : decode cX0_about 96 = .ok (.getfield 71, 3) := dk_180 0 71 (dk_at dksX0_about_3 14 rfl rfl)
theorem dX0_about_99 : decode cX0_about 99 = .ok (.iconst 1, 1) := dk_4 (dk_at dksX0_about_3 17 rfl rfl)
theorem dX0_about_100 : decode cX0_about 100 = .ok (.iaload, 1) := dk_46 (dk_at dksX0_about_3 18 rfl rfl)
theorem dX0_about_101 : decode cX0_about 101 = .ok (.ireturn, 1) := dk_172 (dk_at dksX0_about_3 19 rfl rfl)
theorem dX0_about_102 : decode cX0_about 102 = .ok (.aload_n 0, 1) := dk_42 (dk_at dksX0_about_3 20 rfl rfl)
theorem dX0_about_103 : decode cX0_about 103 = .ok (.getfield 12, 3) := dk_180 0 12 (dk_at dksX0_about_3 21 rfl rfl)
theorem dX0_about_106 : decode cX0_about 106 = .ok (.getfield 78, 3) := dk_180 0 78 (dk_at dksX0_about_4 0 rfl rfl)
theorem dX0_about_109 : decode cX0_about 109 = .ok (.bipush 45, 2) := dk_16 45 (dk_at dksX0_about_4 3 rfl rfl)
theorem dX0_about_111 : decode cX0_about 111 = .ok (.iaload, 1) := dk_46 (dk_at dksX0_about_4 5 rfl rfl)
theorem dX0_about_112 : decode cX0_about 112 = .ok (.ireturn, 1) := dk_172 (dk_at dksX0_about_4 6 rfl rfl)
theorem dX0_about_113 : decode cX0_about 113 = .ok (.aload_n 0, 1) := dk_42 (dk_at dksX0_about_4 7 rfl rfl)
theorem dX0_about_114 : decode cX0_about 114 = .ok (.getfield 12, 3) := dk_180 0 12 (dk_at dksX0_about_4 8 rfl rfl)
theorem dX0_about_117 : decode cX0_about 117 = .ok (.getfield 71, 3) := dk_180 0 71 (dk_at dksX0_about_4 11 rfl rfl)
theorem dX0_about_120 : decode cX0_about 120 = .ok (.iconst 2, 1) := dk_5 (dk_at dksX0_about_4 14 rfl rfl)
theorem dX0_about_121 : decode cX0_about 121 = .ok (.iaload, 1) := dk_46 (dk_at dksX0_about_4 15 rfl rfl)
theorem dX0_about_122 : decode cX0_about 122 = .ok (.ireturn, 1) := dk_172 (dk_at dksX0_about_4 16 rfl rfl)
theorem dX0_about_123 : decode cX0_about 123 = .ok (.aload_n 0, 1) := dk_42 (dk_at dksX0_about_4 17 rfl rfl)
theorem dX0_about_124 : decode cX0_about 124 = .ok (.getfield 12, 3) := dk_180 0 12 (dk_at dksX0_about_4 18 rfl rfl)
theorem dX0_about_127 : decode cX0_about 127 = .ok (.getfield 71, 3) := dk_180 0 71 (dk_at dksX0_about_4 21 rfl rfl)
theorem dX0_about_130 : decode cX0_about 130 = .ok (.iconst 3, 1) := dk_6 (dk_at dksX0_about_5 0 rfl rfl)
theorem dX0_about_131 : decode cX0_about 131 = .ok (.iaload, 1) := dk_46 (dk_at dksX0_about_5 1 rfl rfl)
theorem dX0_about_132 : decode cX0_about 132 = .ok (.ireturn, 1) := dk_172 (dk_at dksX0_about_5 2 rfl rfl)
theorem dX0_about_133 : decode cX0_about 133 = .ok (.aload_n 0, 1) := dk_42 (dk_at dksX0_about_5 3 rfl rfl)
theorem dX0_about_134 : decode cX0_about 134 = .ok (.getfield 12, 3) := dk_180 0 12 (dk_at dksX0_about_5 4 rfl rfl)
theorem dX0_about_137 : decode cX0_about 137 = .ok (.getfield 71, 3) := dk_180 0 71 (dk_at dksX0_about_5 7 rfl rfl)
theorem dX0_about_140 : decode cX0_about 140 = .ok (.iconst 4, 1) := dk_7 (dk_at dksX0_about_5 10 rfl rfl)
theorem dX0_about_141 : decode cX0_about 141 = .ok (.iaload, 1) := dk_46 (dk_at dksX0_about_5 11 rfl rfl)
theorem dX0_about_142 : decode cX0_about 142 = .ok (.ireturn, 1) := dk_172 (dk_at dksX0_about_5 12 rfl rfl)
theorem dX0_about_143 : decode cX0_about 143 = .ok (.aload_n 0, 1) := dk_42 (dk_at dksX0_about_5 13 rfl rfl)
theorem dX0_about_144 : decode cX0_about 144 = .ok (.getfield 12, 3) := dk_180 0 12 (dk_at dksX0_about_5 14 rfl rfl)
theorem dX0_about_147 : decode cX0_about 147 = .ok (.getfield 71, 3) := dk_180 0 71 (dk_at dksX0_about_5 17 rfl rfl)
theorem dX0_about_150 : decode cX0_about 150 = .ok (.iconst 5, 1) := dk_8 (dk_at dksX0_about_5 20 rfl rfl)
theorem dX0_about_151 : decode cX0_about 151 = .ok (.iaload, 1) := dk_46 (dk_at dksX0_about_5 21 rfl rfl)
theorem dX0_about_152 : decode cX0_about 152 = .ok (.ireturn, 1) := dk_172 (dk_at dksX0_about_5 22 rfl rfl)
theorem dX0_about_153 : decode cX0_about 153 = .ok (.aload_n 0, 1) := dk_42 (dk_at dksX0_about_5 23 rfl rfl)
theorem dX0_about_154 : decode cX0_about 154 = .ok (.invokevirtual 419, 3) := dk_182 1 163 (dk_at dksX0_about_6 0 rfl rfl)
theorem dX0_about_157 : decode cX0_about 157 = .ok (.ireturn, 1) := dk_172 (dk_at dksX0_about_6 3 rfl rfl)
theorem dX0_about_158 : decode cX0_about 158 = .ok (.aload_n 0, 1) := dk_42 (dk_at dksX0_about_6 4 rfl rfl)
theorem dX0_about_159 : decode cX0_about 159 = .ok (.getfield 103, 3) := dk_180 0 103 (dk_at dksX0_about_6 5 rfl rfl)
theorem dX0_about_162 : decode cX0_about 162 = .ok (.ireturn, 1) := dk_172 (dk_at dksX0_about_6 8 rfl rfl)
theorem dX0_about_163 : decode cX0_about 163 = .ok (.bipush (-2), 2) := dk_16 254 (dk_at dksX0_about_6 9 rfl rfl)
theorem dX0_about_165 : decode cX0_about 165 = .ok (.ireturn, 1) := dk_172 (dk_at dksX0_about_6 11 rfl rfl)
abbrev MX0_about : jjM := (yX0_about, cX0_about, 2, (Option.some Jvm.ClassFile.FieldType.int))
theorem npX0_about : yX0_about.cls ≠ "java/lang/invoke/MethodHandle" ∧ yX0_about.cls ≠ "java/lang/invoke/VarHandle" ∧ (parseMethodDescriptor yX0_about.desc).map (fun d => d.parameters.length) = some 1 := by decide +kernel
abbrev cX0_onFloor : ByteArray := prog_1_method_89_code
def yX0_onFloor : MethodName := ⟨RX0, "onFloor", "()I"⟩
def dkwX0_onFloor_1 : List UInt8 := [160, 0, 9, 4, 28, 120, 167, 0, 4, 3, 128, 60, 132, 2, 1, 167, 255, 221, 27, 172]
abbrev dktX0_onFloor_1 : List UInt8 := dkwX0_onFloor_1 ++ []
def dkwX0_onFloor_0 : List UInt8 := [3, 60, 3, 61, 28, 42, 180, 0, 12, 180, 0, 71, 3, 46, 162, 0, 28, 27, 42, 28, 182, 0, 83, 7]
abbrev dktX0_onFloor_0 : List UInt8 := dkwX0_onFloor_0 ++ dktX0_onFloor_1
theorem dksX0_onFloor_0 : cX0_onFloor.data.toList.drop 0 = dktX0_onFloor_0 := by decide +kernel
theorem dksX0_onFloor_1 : cX0_onFloor.data.toList.drop 24 = dktX0_onFloor_1 := dk_seg dksX0_onFloor_0 24 rfl rfl
theorem dX0_onFloor_0 : decode cX0_onFloor 0 = .ok (.iconst 0, 1) := dk_3 (dk_at dksX0_onFloor_0 0 rfl rfl)
theorem dX0_onFloor_1 : decode cX0_onFloor 1 = .ok (.istore_n 1, 1) := dk_60 (dk_at dksX0_onFloor_0 1 rfl rfl)
theorem dX0_onFloor_2 : decode cX0_onFloor 2 = .ok (.iconst 0, 1) := dk_3 (dk_at dksX0_onFloor_0 2 rfl rfl)
theorem dX0_onFloor_3 : decode cX0_onFloor 3 = .ok (.istore_n 2, 1) := dk_61 (dk_at dksX0_onFloor_0 3 rfl rfl)
theorem dX0_onFloor_4 : decode cX0_onFloor 4 = .ok (.iload_n 2, 1) := dk_28 (dk_at dksX0_onFloor_0 4 rfl rfl)
theorem dX0_onFloor_5 : decode cX0_onFloor 5 = .ok (.aload_n 0, 1) := dk_42 (dk_at dksX0_onFloor_0 5 rfl rfl)
theorem dX0_onFloor_6 : decode cX0_onFloor 6 = .ok (.getfield 12, 3) := dk_180 0 12 (dk_at dksX0_onFloor_0 6 rfl rfl)
theorem dX0_onFloor_9 : decode cX0_onFloor 9 = .ok (.getfield 71, 3) := dk_180 0 71 (dk_at dksX0_onFloor_0 9 rfl rfl)
theorem dX0_onFloor_12 : decode cX0_onFloor 12 = .ok (.iconst 0, 1) := dk_3 (dk_at dksX0_onFloor_0 12 rfl rfl)
theorem dX0_onFloor_13 : decode cX0_onFloor 13 = .ok (.iaload, 1) := dk_46 (dk_at dksX0_onFloor_0 13 rfl rfl)
theorem dX0_onFloor_14 : decode cX0_onFloor 14 = .ok (.if_icmp .ge 28, 3) := dk_162 0 28 (dk_at dksX0_onFloor_0 14 rfl rfl)
theorem dX0_onFloor_17 : decode cX0_onFloor 17 = .ok (.iload_n 1, 1) := dk_27 (dk_at dksX0_onFloor_0 17 rfl rfl)
theorem dX0_onFloor_18 : decode cX0_onFloor 18 = .ok (.aload_n 0, 1) := dk_42 (dk_at dksX0_onFloor_0 18 rfl rfl)
theorem dX0_onFloor_19 : decode cX0_onFloor 19 = .ok (.iload_n 2, 1) := dk_28 (dk_at dksX0_onFloor_0 19 rfl rfl)
theorem dX0_onFloor_20 : decode cX0_onFloor 20 = .ok (.invokevirtual 83, 3) := dk_182 0 83 (dk_at dksX0_onFloor_0 20 rfl rfl)
theorem dX0_onFloor_23 : decode cX0_onFloor 23 = .ok (.iconst 4, 1) := dk_7 (dk_at dksX0_onFloor_0 23 rfl rfl)
theorem dX0_onFloor_24 : decode cX0_onFloor 24 = .ok (.if_icmp .ne 9, 3) := dk_160 0 9 (dk_at dksX0_onFloor_1 0 rfl rfl)
theorem dX0_onFloor_27 : decode cX0_onFloor 27 = .ok (.iconst 1, 1) := dk_4 (dk_at dksX0_onFloor_1 3 rfl rfl)
theorem dX0_onFloor_28 : decode cX0_onFloor 28 = .ok (.iload_n 2, 1) := dk_28 (dk_at dksX0_onFloor_1 4 rfl rfl)
theorem dX0_onFloor_29 : decode cX0_onFloor 29 = .ok (.ishl, 1) := dk_120 (dk_at dksX0_onFloor_1 5 rfl rfl)
theorem dX0_onFloor_30 : decode cX0_onFloor 30 = .ok (.goto 4, 3) := dk_167 0 4 (dk_at dksX0_onFloor_1 6 rfl rfl)
theorem dX0_onFloor_33 : decode cX0_onFloor 33 = .ok (.iconst 0, 1) := dk_3 (dk_at dksX0_onFloor_1 9 rfl rfl)
theorem dX0_onFloor_34 : decode cX0_onFloor 34 = .ok (.ior, 1) := dk_128 (dk_at dksX0_onFloor_1 10 rfl rfl)
theorem dX0_onFloor_35 : decode cX0_onFloor 35 = .ok (.istore_n 1, 1) := dk_60 (dk_at dksX0_onFloor_1 11 rfl rfl)
theorem dX0_onFloor_36 : decode cX0_onFloor 36 = .ok (.iinc 2 1, 3) := dk_132 2 1 (dk_at dksX0_onFloor_1 12 rfl rfl)
theorem dX0_onFloor_39 : decode cX0_onFloor 39 = .ok (.goto (-35), 3) := dk_167 255 221 (dk_at dksX0_onFloor_1 15 rfl rfl)
theorem dX0_onFloor_42 : decode cX0_onFloor 42 = .ok (.iload_n 1, 1) := dk_27 (dk_at dksX0_onFloor_1 18 rfl rfl)
theorem dX0_onFloor_43 : decode cX0_onFloor 43 = .ok (.ireturn, 1) := dk_172 (dk_at dksX0_onFloor_1 19 rfl rfl)
abbrev MX0_onFloor : jjM := (yX0_onFloor, cX0_onFloor, 3, (Option.some Jvm.ClassFile.FieldType.int))
theorem npX0_onFloor : yX0_onFloor.cls ≠ "java/lang/invoke/MethodHandle" ∧ yX0_onFloor.cls ≠ "java/lang/invoke/VarHandle" ∧ (parseMethodDescriptor yX0_onFloor.desc).map (fun d => d.parameters.length) = some 0 := by decide +kernel
abbrev cX1_init : ByteArray := prog_11_method_1_code
def yX1_init : MethodName := ⟨RX1, "<init>", "()V"⟩
def dkwX1_init_4 : List UInt8 := [180, 0, 18, 16, 33, 16, 43, 6, 184, 0, 44, 42, 180, 0, 18, 16, 45, 16, 31, 79, 177]
abbrev dktX1_init_4 : List UInt8 := dkwX1_init_4 ++ []
def dkwX1_init_3 : List UInt8 := [42, 180, 0, 9, 6, 2, 79, 42, 180, 0, 9, 4, 4, 79, 42, 180, 0, 15, 16, 30, 184, 0, 38, 42]
abbrev dktX1_init_3 : List UInt8 := dkwX1_init_3 ++ dktX1_init_4
def dkwX1_init_2 : List UInt8 := [181, 0, 26, 42, 16, 30, 17, 1, 31, 197, 0, 21, 2, 181, 0, 29, 42, 7, 189, 0, 32, 181, 0, 34]
abbrev dktX1_init_2 : List UInt8 := dkwX1_init_2 ++ dktX1_init_3
def dkwX1_init_1 : List UInt8 := [188, 10, 181, 0, 18, 42, 16, 10, 8, 197, 0, 21, 2, 181, 0, 23, 42, 16, 12, 7, 197, 0, 21, 2]
abbrev dktX1_init_1 : List UInt8 := dkwX1_init_1 ++ dktX1_init_2
def dkwX1_init_0 : List UInt8 := [42, 183, 0, 3, 42, 16, 6, 188, 10, 181, 0, 9, 42, 6, 188, 10, 181, 0, 15, 42, 17, 1, 31]
abbrev dktX1_init_0 : List UInt8 := dkwX1_init_0 ++ dktX1_init_1
theorem dksX1_init_0 : cX1_init.data.toList.drop 0 = dktX1_init_0 := by decide +kernel
theorem dksX1_init_1 : cX1_init.data.toList.drop 23 = dktX1_init_1 := dk_seg dksX1_init_0 23 rfl rfl
theorem dksX1_init_2 : cX1_init.data.toList.drop 47 = dktX1_init_2 := dk_seg dksX1_init_1 24 rfl rfl
theorem dksX1_init_3 : cX1_init.data.toList.drop 71 = dktX1_init_3 := dk_seg dksX1_init_2 24 rfl rfl
theorem dksX1_init_4 : cX1_init.data.toList.drop 95 = dktX1_init_4 := dk_seg dksX1_init_3 24 rfl rfl
theorem dX1_init_0 : decode cX1_init 0 = .ok (.aload_n 0, 1) := dk_42 (dk_at dksX1_init_0 0 rfl rfl)
theorem dX1_init_1 : decode cX1_init 1 = .ok (.invokespecial 3, 3) := dk_183 0 3 (dk_at dksX1_init_0 1 rfl rfl)
theorem dX1_init_4 : decode cX1_init 4 = .ok (.aload_n 0, 1) := dk_42 (dk_at dksX1_init_0 4 rfl rfl)
theorem dX1_init_5 : decode cX1_init 5 = .ok (.bipush 6, 2) := dk_16 6 (dk_at dksX1_init_0 5 rfl rfl)
theorem dX1_init_7 : decode cX1_init 7 = .ok (.newarray .int, 2) := dk_188_10 (dk_at dksX1_init_0 7 rfl rfl)
theorem dX1_init_9 : decode cX1_init 9 = .ok (.putfield 9, 3) := dk_181 0 9 (dk_at dksX1_init_0 9 rfl rfl)
theorem dX1_init_12 : decode cX1_init 12 = .ok (.aload_n 0, 1) := dk_42 (dk_at dksX1_init_0 12 rfl rfl)
theorem dX1_init_13 : decode cX1_init 13 = .ok (.iconst 3, 1) := dk_6 (dk_at dksX1_init_0 13 rfl rfl)
theorem dX1_init_14 : decode cX1_init 14 = .ok (.newarray .int, 2) := dk_188_10 (dk_at dksX1_init_0 14 rfl rfl)
theorem dX1_init_16 : decode cX1_init 16 = .ok (.putfield 15, 3) := dk_181 0 15 (dk_at dksX1_init_0 16 rfl rfl)
theorem dX1_init_19 : decode cX1_init 19 = .ok (.aload_n 0, 1) := dk_42 (dk_at dksX1_init_0 19 rfl rfl)
theorem dX1_init_20 : decode cX1_init 20 = .ok (.sipush 287, 3) := dk_17 1 31 (dk_at dksX1_init_0 20 rfl rfl)
theorem dX1_init_23 : decode cX1_init 23 = .ok (.newarray .int, 2) := dk_188_10 (dk_at dksX1_init_1 0 rfl rfl)
theorem dX1_init_25 : decode cX1_init 25 = .ok (.putfield 18, 3) := dk_181 0 18 (dk_at dksX1_init_1 2 rfl rfl)
theorem dX1_init_28 : decode cX1_init 28 = .ok (.aload_n 0, 1) := dk_42 (dk_at dksX1_init_1 5 rfl rfl)
theorem dX1_init_29 : decode cX1_init 29 = .ok (.bipush 10, 2) := dk_16 10 (dk_at dksX1_init_1 6 rfl rfl)
theorem dX1_init_31 : decode cX1_init 31 = .ok (.iconst 5, 1) := dk_8 (dk_at dksX1_init_1 8 rfl rfl)
theorem dX1_init_32 : decode cX1_init 32 = .ok (.multianewarray 21 2, 4) := by decide +kernel
theorem dX1_init_36 : decode cX1_init 36 = .ok (.putfield 23, 3) := dk_181 0 23 (dk_at dksX1_init_1 13 rfl rfl)
theorem dX1_init_39 : decode cX1_init 39 = .ok (.aload_n 0, 1) := dk_42 (dk_at dksX1_init_1 16 rfl rfl)
theorem dX1_init_40 : decode cX1_init 40 = .ok (.bipush 12, 2) := dk_16 12 (dk_at dksX1_init_1 17 rfl rfl)
theorem dX1_init_42 : decode cX1_init 42 = .ok (.iconst 4, 1) := dk_7 (dk_at dksX1_init_1 19 rfl rfl)
theorem dX1_init_43 : decode cX1_init 43 = .ok (.multianewarray 21 2, 4) := by decide +kernel
theorem dX1_init_47 : decode cX1_init 47 = .ok (.putfield 26, 3) := dk_181 0 26 (dk_at dksX1_init_2 0 rfl rfl)
theorem dX1_init_50 : decode cX1_init 50 = .ok (.aload_n 0, 1) := dk_42 (dk_at dksX1_init_2 3 rfl rfl)
theorem dX1_init_51 : decode cX1_init 51 = .ok (.bipush 30, 2) := dk_16 30 (dk_at dksX1_init_2 4 rfl rfl)
theorem dX1_init_53 : decode cX1_init 53 = .ok (.sipush 287, 3) := dk_17 1 31 (dk_at dksX1_init_2 6 rfl rfl)
theorem dX1_init_56 : decode cX1_init 56 = .ok (.multianewarray 21 2, 4) := by decide +kernel
theorem dX1_init_60 : decode cX1_init 60 = .ok (.putfield 29, 3) := dk_181 0 29 (dk_at dksX1_init_2 13 rfl rfl)
theorem dX1_init_63 : decode cX1_init 63 = .ok (.aload_n 0, 1) := dk_42 (dk_at dksX1_init_2 16 rfl rfl)
theorem dX1_init_64 : decode cX1_init 64 = .ok (.iconst 4, 1) := dk_7 (dk_at dksX1_init_2 17 rfl rfl)
theorem dX1_init_65 : decode cX1_init 65 = .ok (.anewarray 32, 3) := dk_189 0 32 (dk_at dksX1_init_2 18 rfl rfl)
theorem dX1_init_68 : decode cX1_init 68 = .ok (.putfield 34, 3) := dk_181 0 34 (dk_at dksX1_init_2 21 rfl rfl)
theorem dX1_init_71 : decode cX1_init 71 = .ok (.aload_n 0, 1) := dk_42 (dk_at dksX1_init_3 0 rfl rfl)
theorem dX1_init_72 : decode cX1_init 72 = .ok (.getfield 9, 3) := dk_180 0 9 (dk_at dksX1_init_3 1 rfl rfl)
theorem dX1_init_75 : decode cX1_init 75 = .ok (.iconst 3, 1) := dk_6 (dk_at dksX1_init_3 4 rfl rfl)
theorem dX1_init_76 : decode cX1_init 76 = .ok (.iconst (-1), 1) := dk_2 (dk_at dksX1_init_3 5 rfl rfl)
theorem dX1_init_77 : decode cX1_init 77 = .ok (.iastore, 1) := dk_79 (dk_at dksX1_init_3 6 rfl rfl)
theorem dX1_init_78 : decode cX1_init 78 = .ok (.aload_n 0, 1) := dk_42 (dk_at dksX1_init_3 7 rfl rfl)
theorem dX1_init_79 : decode cX1_init 79 = .ok (.getfield 9, 3) := dk_180 0 9 (dk_at dksX1_init_3 8 rfl rfl)
theorem dX1_init_82 : decode cX1_init 82 = .ok (.iconst 1, 1) := dk_4 (dk_at dksX1_init_3 11 rfl rfl)
theorem dX1_init_83 : decode cX1_init 83 = .ok (.iconst 1, 1) := dk_4 (dk_at dksX1_init_3 12 rfl rfl)
theorem dX1_init_84 : decode cX1_init 84 = .ok (.iastore, 1) := dk_79 (dk_at dksX1_init_3 13 rfl rfl)
theorem dX1_init_85 : decode cX1_init 85 = .ok (.aload_n 0, 1) := dk_42 (dk_at dksX1_init_3 14 rfl rfl)
theorem dX1_init_86 : decode cX1_init 86 = .ok (.getfield 15, 3) := dk_180 0 15 (dk_at dksX1_init_3 15 rfl rfl)
theorem dX1_init_89 : decode cX1_init 89 = .ok (.bipush 30, 2) := dk_16 30 (dk_at dksX1_init_3 18 rfl rfl)
theorem dX1_init_91 : decode cX1_init 91 = .ok (.invokestatic 38, 3) := dk_184 0 38 (dk_at dksX1_init_3 20 rfl rfl)
theorem dX1_init_94 : decode cX1_init 94 = .ok (.aload_n 0, 1) := dk_42 (dk_at dksX1_init_3 23 rfl rfl)
theorem dX1_init_95 : decode cX1_init 95 = .ok (.getfield 18, 3) := dk_180 0 18 (dk_at dksX1_init_4 0 rfl rfl)
theorem dX1_init_98 : decode cX1_init 98 = .ok (.bipush 33, 2) := dk_16 33 (dk_at dksX1_init_4 3 rfl rfl)
theorem dX1_init_100 : decode cX1_init 100 = .ok (.bipush 43, 2) := dk_16 43 (dk_at dksX1_init_4 5 rfl rfl)
theorem dX1_init_102 : decode cX1_init 102 = .ok (.iconst 3, 1) := dk_6 (dk_at dksX1_init_4 7 rfl rfl)
theorem dX1_init_103 : decode cX1_init 103 = .ok (.invokestatic 44, 3) := dk_184 0 44 (dk_at dksX1_init_4 8 rfl rfl)
theorem dX1_init_106 : decode cX1_init 106 = .ok (.aload_n 0, 1) := dk_42 (dk_at dksX1_init_4 11 rfl rfl)
theorem dX1_init_107 : decode cX1_init 107 = .ok (.getfield 18, 3) := dk_180 0 18 (dk_at dksX1_init_4 12 rfl rfl)
theorem dX1_init_110 : decode cX1_init 110 = .ok (.bipush 45, 2) := dk_16 45 (dk_at dksX1_init_4 15 rfl rfl)
theorem dX1_init_112 : decode cX1_init 112 = .ok (.bipush 31, 2) := dk_16 31 (dk_at dksX1_init_4 17 rfl rfl)
theorem dX1_init_114 : decode cX1_init 114 = .ok (.iastore, 1) := dk_79 (dk_at dksX1_init_4 19 rfl rfl)
theorem dX1_init_115 : decode cX1_init 115 = .ok (.return_, 1) := dk_177 (dk_at dksX1_init_4 20 rfl rfl)
abbrev MX1_init : jjM := (yX1_init, cX1_init, 1, (Option.none : Option Jvm.ClassFile.FieldType))
theorem npX1_init : yX1_init.cls ≠ "java/lang/invoke/MethodHandle" ∧ yX1_init.cls ≠ "java/lang/invoke/VarHandle" ∧ (parseMethodDescriptor yX1_init.desc).map (fun d => d.parameters.length) = some 0 := by decide +kernel
abbrev cX1_be : ByteArray := prog_11_method_4_code
def yX1_be : MethodName := ⟨RX1, "be", "(LSelfSorting$State;)V"⟩
def dkwX1_be_3 : List UInt8 := [180, 0, 34, 3, 42, 180, 0, 34, 3, 7, 184, 0, 47, 177]
abbrev dktX1_be_3 : List UInt8 := dkwX1_be_3 ++ []
def dkwX1_be_2 : List UInt8 := [180, 0, 26, 42, 180, 0, 26, 184, 0, 57, 43, 180, 0, 29, 42, 180, 0, 29, 184, 0, 57, 43]
abbrev dktX1_be_2 : List UInt8 := dkwX1_be_2 ++ dktX1_be_3
def dkwX1_be_1 : List UInt8 := [180, 0, 18, 42, 180, 0, 18, 184, 0, 53, 43, 180, 0, 23, 42, 180, 0, 23, 184, 0, 57, 43]
abbrev dktX1_be_1 : List UInt8 := dkwX1_be_1 ++ dktX1_be_2
def dkwX1_be_0 : List UInt8 := [43, 180, 0, 9, 42, 180, 0, 9, 184, 0, 53, 43, 180, 0, 15, 42, 180, 0, 15, 184, 0, 53, 43]
abbrev dktX1_be_0 : List UInt8 := dkwX1_be_0 ++ dktX1_be_1
theorem dksX1_be_0 : cX1_be.data.toList.drop 0 = dktX1_be_0 := by decide +kernel
theorem dksX1_be_1 : cX1_be.data.toList.drop 23 = dktX1_be_1 := dk_seg dksX1_be_0 23 rfl rfl
theorem dksX1_be_2 : cX1_be.data.toList.drop 45 = dktX1_be_2 := dk_seg dksX1_be_1 22 rfl rfl
theorem dksX1_be_3 : cX1_be.data.toList.drop 67 = dktX1_be_3 := dk_seg dksX1_be_2 22 rfl rfl
theorem dX1_be_0 : decode cX1_be 0 = .ok (.aload_n 1, 1) := dk_43 (dk_at dksX1_be_0 0 rfl rfl)
theorem dX1_be_1 : decode cX1_be 1 = .ok (.getfield 9, 3) := dk_180 0 9 (dk_at dksX1_be_0 1 rfl rfl)
theorem dX1_be_4 : decode cX1_be 4 = .ok (.aload_n 0, 1) := dk_42 (dk_at dksX1_be_0 4 rfl rfl)
theorem dX1_be_5 : decode cX1_be 5 = .ok (.getfield 9, 3) := dk_180 0 9 (dk_at dksX1_be_0 5 rfl rfl)
theorem dX1_be_8 : decode cX1_be 8 = .ok (.invokestatic 53, 3) := dk_184 0 53 (dk_at dksX1_be_0 8 rfl rfl)
theorem dX1_be_11 : decode cX1_be 11 = .ok (.aload_n 1, 1) := dk_43 (dk_at dksX1_be_0 11 rfl rfl)
theorem dX1_be_12 : decode cX1_be 12 = .ok (.getfield 15, 3) := dk_180 0 15 (dk_at dksX1_be_0 12 rfl rfl)
theorem dX1_be_15 : decode cX1_be 15 = .ok (.aload_n 0, 1) := dk_42 (dk_at dksX1_be_0 15 rfl rfl)
theorem dX1_be_16 : decode cX1_be 16 = .ok (.getfield 15, 3) := dk_180 0 15 (dk_at dksX1_be_0 16 rfl rfl)
theorem dX1_be_19 : decode cX1_be 19 = .ok (.invokestatic 53, 3) := dk_184 0 53 (dk_at dksX1_be_0 19 rfl rfl)
theorem dX1_be_22 : decode cX1_be 22 = .ok (.aload_n 1, 1) := dk_43 (dk_at dksX1_be_0 22 rfl rfl)
theorem dX1_be_23 : decode cX1_be 23 = .ok (.getfield 18, 3) := dk_180 0 18 (dk_at dksX1_be_1 0 rfl rfl)
theorem dX1_be_26 : decode cX1_be 26 = .ok (.aload_n 0, 1) := dk_42 (dk_at dksX1_be_1 3 rfl rfl)
theorem dX1_be_27 : decode cX1_be 27 = .ok (.getfield 18, 3) := dk_180 0 18 (dk_at dksX1_be_1 4 rfl rfl)
theorem dX1_be_30 : decode cX1_be 30 = .ok (.invokestatic 53, 3) := dk_184 0 53 (dk_at dksX1_be_1 7 rfl rfl)
theorem dX1_be_33 : decode cX1_be 33 = .ok (.aload_n 1, 1) := dk_43 (dk_at dksX1_be_1 10 rfl rfl)
theorem dX1_be_34 : decode cX1_be 34 = .ok (.getfield 23, 3) := dk_180 0 23 (dk_at dksX1_be_1 11 rfl rfl)
theorem dX1_be_37 : decode cX1_be 37 = .ok (.aload_n 0, 1) := dk_42 (dk_at dksX1_be_1 14 rfl rfl)
theorem dX1_be_38 : decode cX1_be 38 = .ok (.getfield 23, 3) := dk_180 0 23 (dk_at dksX1_be_1 15 rfl rfl)
theorem dX1_be_41 : decode cX1_be 41 = .ok (.invokestatic 57, 3) := dk_184 0 57 (dk_at dksX1_be_1 18 rfl rfl)
theorem dX1_be_44 : decode cX1_be 44 = .ok (.aload_n 1, 1) := dk_43 (dk_at dksX1_be_1 21 rfl rfl)
theorem dX1_be_45 : decode cX1_be 45 = .ok (.getfield 26, 3) := dk_180 0 26 (dk_at dksX1_be_2 0 rfl rfl)
theorem dX1_be_48 : decode cX1_be 48 = .ok (.aload_n 0, 1) := dk_42 (dk_at dksX1_be_2 3 rfl rfl)
theorem dX1_be_49 : decode cX1_be 49 = .ok (.getfield 26, 3) := dk_180 0 26 (dk_at dksX1_be_2 4 rfl rfl)
theorem dX1_be_52 : decode cX1_be 52 = .ok (.invokestatic 57, 3) := dk_184 0 57 (dk_at dksX1_be_2 7 rfl rfl)
theorem dX1_be_55 : decode cX1_be 55 = .ok (.aload_n 1, 1) := dk_43 (dk_at dksX1_be_2 10 rfl rfl)
theorem dX1_be_56 : decode cX1_be 56 = .ok (.getfield 29, 3) := dk_180 0 29 (dk_at dksX1_be_2 11 rfl rfl)
theorem dX1_be_59 : decode cX1_be 59 = .ok (.aload_n 0, 1) := dk_42 (dk_at dksX1_be_2 14 rfl rfl)
theorem dX1_be_60 : decode cX1_be 60 = .ok (.getfield 29, 3) := dk_180 0 29 (dk_at dksX1_be_2 15 rfl rfl)
theorem dX1_be_63 : decode cX1_be 63 = .ok (.invokestatic 57, 3) := dk_184 0 57 (dk_at dksX1_be_2 18 rfl rfl)
theorem dX1_be_66 : decode cX1_be 66 = .ok (.aload_n 1, 1) := dk_43 (dk_at dksX1_be_2 21 rfl rfl)
theorem dX1_be_67 : decode cX1_be 67 = .ok (.getfield 34, 3) := dk_180 0 34 (dk_at dksX1_be_3 0 rfl rfl)
theorem dX1_be_70 : decode cX1_be 70 = .ok (.iconst 0, 1) := dk_3 (dk_at dksX1_be_3 3 rfl rfl)
theorem dX1_be_71 : decode cX1_be 71 = .ok (.aload_n 0, 1) := dk_42 (dk_at dksX1_be_3 4 rfl rfl)
theorem dX1_be_72 : decode cX1_be 72 = .ok (.getfield 34, 3) := dk_180 0 34 (dk_at dksX1_be_3 5 rfl rfl)
theorem dX1_be_75 : decode cX1_be 75 = .ok (.iconst 0, 1) := dk_3 (dk_at dksX1_be_3 8 rfl rfl)
theorem dX1_be_76 : decode cX1_be 76 = .ok (.iconst 4, 1) := dk_7 (dk_at dksX1_be_3 9 rfl rfl)
theorem dX1_be_77 : decode cX1_be 77 = .ok (.invokestatic 47, 3) := dk_184 0 47 (dk_at dksX1_be_3 10 rfl rfl)
theorem dX1_be_80 : decode cX1_be 80 = .ok (.return_, 1) := dk_177 (dk_at dksX1_be_3 13 rfl rfl)
abbrev MX1_be : jjM := (yX1_be, cX1_be, 2, (Option.none : Option Jvm.ClassFile.FieldType))
theorem npX1_be : yX1_be.cls ≠ "java/lang/invoke/MethodHandle" ∧ yX1_be.cls ≠ "java/lang/invoke/VarHandle" ∧ (parseMethodDescriptor yX1_be.desc).map (fun d => d.parameters.length) = some 1 := by decide +kernel
abbrev cX1_copy : ByteArray := prog_11_method_2_code
def yX1_copy : MethodName := ⟨RX1, "copy", "([I[I)V"⟩
def dkwX1_copy_0 : List UInt8 := [42, 3, 43, 3, 42, 190, 184, 0, 47, 177]
abbrev dktX1_copy_0 : List UInt8 := dkwX1_copy_0 ++ []
theorem dksX1_copy_0 : cX1_copy.data.toList.drop 0 = dktX1_copy_0 := by decide +kernel
theorem dX1_copy_0 : decode cX1_copy 0 = .ok (.aload_n 0, 1) := dk_42 (dk_at dksX1_copy_0 0 rfl rfl)
theorem dX1_copy_1 : decode cX1_copy 1 = .ok (.iconst 0, 1) := dk_3 (dk_at dksX1_copy_0 1 rfl rfl)
theorem dX1_copy_2 : decode cX1_copy 2 = .ok (.aload_n 1, 1) := dk_43 (dk_at dksX1_copy_0 2 rfl rfl)
theorem dX1_copy_3 : decode cX1_copy 3 = .ok (.iconst 0, 1) := dk_3 (dk_at dksX1_copy_0 3 rfl rfl)
theorem dX1_copy_4 : decode cX1_copy 4 = .ok (.aload_n 0, 1) := dk_42 (dk_at dksX1_copy_0 4 rfl rfl)
theorem dX1_copy_5 : decode cX1_copy 5 = .ok (.arraylength, 1) := dk_190 (dk_at dksX1_copy_0 5 rfl rfl)
theorem dX1_copy_6 : decode cX1_copy 6 = .ok (.invokestatic 47, 3) := dk_184 0 47 (dk_at dksX1_copy_0 6 rfl rfl)
theorem dX1_copy_9 : decode cX1_copy 9 = .ok (.return_, 1) := dk_177 (dk_at dksX1_copy_0 9 rfl rfl)
abbrev MX1_copy : jjM := (yX1_copy, cX1_copy, 2, (Option.none : Option Jvm.ClassFile.FieldType))
theorem npX1_copy : yX1_copy.cls ≠ "java/lang/invoke/MethodHandle" ∧ yX1_copy.cls ≠ "java/lang/invoke/VarHandle" ∧ (parseMethodDescriptor yX1_copy.desc).map (fun d => d.parameters.length) = some 2 := by decide +kernel
abbrev cX1_copy_2 : ByteArray := prog_11_method_3_code
def yX1_copy_2 : MethodName := ⟨RX1, "copy", "([[I[[I)V"⟩
def dkwX1_copy_2_0 : List UInt8 := [3, 61, 28, 42, 190, 162, 0, 18, 42, 28, 50, 43, 28, 50, 184, 0, 53, 132, 2, 1, 167, 255, 238, 177]
abbrev dktX1_copy_2_0 : List UInt8 := dkwX1_copy_2_0 ++ []
theorem dksX1_copy_2_0 : cX1_copy_2.data.toList.drop 0 = dktX1_copy_2_0 := by decide +kernel
theorem dX1_copy_2_0 : decode cX1_copy_2 0 = .ok (.iconst 0, 1) := dk_3 (dk_at dksX1_copy_2_0 0 rfl rfl)
theorem dX1_copy_2_1 : decode cX1_copy_2 1 = .ok (.istore_n 2, 1) := dk_61 (dk_at dksX1_copy_2_0 1 rfl rfl)
theorem dX1_copy_2_2 : decode cX1_copy_2 2 = .ok (.iload_n 2, 1) := dk_28 (dk_at dksX1_copy_2_0 2 rfl rfl)
theorem dX1_copy_2_3 : decode cX1_copy_2 3 = .ok (.aload_n 0, 1) := dk_42 (dk_at dksX1_copy_2_0 3 rfl rfl)
theorem dX1_copy_2_4 : decode cX1_copy_2 4 = .ok (.arraylength, 1) := dk_190 (dk_at dksX1_copy_2_0 4 rfl rfl)
theorem dX1_copy_2_5 : decode cX1_copy_2 5 = .ok (.if_icmp .ge 18, 3) := dk_162 0 18 (dk_at dksX1_copy_2_0 5 rfl rfl)
theorem dX1_copy_2_8 : decode cX1_copy_2 8 = .ok (.aload_n 0, 1) := dk_42 (dk_at dksX1_copy_2_0 8 rfl rfl)
theorem dX1_copy_2_9 : decode cX1_copy_2 9 = .ok (.iload_n 2, 1) := dk_28 (dk_at dksX1_copy_2_0 9 rfl rfl)
theorem dX1_copy_2_10 : decode cX1_copy_2 10 = .ok (.aaload, 1) := dk_50 (dk_at dksX1_copy_2_0 10 rfl rfl)
theorem dX1_copy_2_11 : decode cX1_copy_2 11 = .ok (.aload_n 1, 1) := dk_43 (dk_at dksX1_copy_2_0 11 rfl rfl)
theorem dX1_copy_2_12 : decode cX1_copy_2 12 = .ok (.iload_n 2, 1) := dk_28 (dk_at dksX1_copy_2_0 12 rfl rfl)
theorem dX1_copy_2_13 : decode cX1_copy_2 13 = .ok (.aaload, 1) := dk_50 (dk_at dksX1_copy_2_0 13 rfl rfl)
theorem dX1_copy_2_14 : decode cX1_copy_2 14 = .ok (.invokestatic 53, 3) := dk_184 0 53 (dk_at dksX1_copy_2_0 14 rfl rfl)
theorem dX1_copy_2_17 : decode cX1_copy_2 17 = .ok (.iinc 2 1, 3) := dk_132 2 1 (dk_at dksX1_copy_2_0 17 rfl rfl)
theorem dX1_copy_2_20 : decode cX1_copy_2 20 = .ok (.goto (-18), 3) := dk_167 255 238 (dk_at dksX1_copy_2_0 20 rfl rfl)
theorem dX1_copy_2_23 : decode cX1_copy_2 23 = .ok (.return_, 1) := dk_177 (dk_at dksX1_copy_2_0 23 rfl rfl)
abbrev MX1_copy_2 : jjM := (yX1_copy_2, cX1_copy_2, 3, (Option.none : Option Jvm.ClassFile.FieldType))
theorem npX1_copy_2 : yX1_copy_2.cls ≠ "java/lang/invoke/MethodHandle" ∧ yX1_copy_2.cls ≠ "java/lang/invoke/VarHandle" ∧ (parseMethodDescriptor yX1_copy_2.desc).map (fun d => d.parameters.length) = some 2 := by decide +kernel
abbrev cX1_many : ByteArray := prog_11_method_6_code
def yX1_many : MethodName := ⟨RX1, "many", "(I)I"⟩
def dkwX1_many_0 : List UInt8 := [42, 180, 0, 18, 16, 11, 27, 104, 46, 172]
abbrev dktX1_many_0 : List UInt8 := dkwX1_many_0 ++ []
theorem dksX1_many_0 : cX1_many.data.toList.drop 0 = dktX1_many_0 := by decide +kernel
theorem dX1_many_0 : decode cX1_many 0 = .ok (.aload_n 0, 1) := dk_42 (dk_at dksX1_many_0 0 rfl rfl)
theorem dX1_many_1 : decode cX1_many 1 = .ok (.getfield 18, 3) := dk_180 0 18 (dk_at dksX1_many_0 1 rfl rfl)
theorem dX1_many_4 : decode cX1_many 4 = .ok (.bipush 11, 2) := dk_16 11 (dk_at dksX1_many_0 4 rfl rfl)
theorem dX1_many_6 : decode cX1_many 6 = .ok (.iload_n 1, 1) := dk_27 (dk_at dksX1_many_0 6 rfl rfl)
theorem dX1_many_7 : decode cX1_many 7 = .ok (.imul, 1) := dk_104 (dk_at dksX1_many_0 7 rfl rfl)
theorem dX1_many_8 : decode cX1_many 8 = .ok (.iaload, 1) := dk_46 (dk_at dksX1_many_0 8 rfl rfl)
theorem dX1_many_9 : decode cX1_many 9 = .ok (.ireturn, 1) := dk_172 (dk_at dksX1_many_0 9 rfl rfl)
abbrev MX1_many : jjM := (yX1_many, cX1_many, 2, (Option.some Jvm.ClassFile.FieldType.int))
theorem npX1_many : yX1_many.cls ≠ "java/lang/invoke/MethodHandle" ∧ yX1_many.cls ≠ "java/lang/invoke/VarHandle" ∧ (parseMethodDescriptor yX1_many.desc).map (fun d => d.parameters.length) = some 1 := by decide +kernel
abbrev cX1_bookAt : ByteArray := prog_11_method_7_code
def yX1_bookAt : MethodName := ⟨RX1, "bookAt", "(II)I"⟩
def dkwX1_bookAt_0 : List UInt8 := [42, 180, 0, 18, 16, 11, 27, 104, 4, 96, 28, 96, 46, 172]
abbrev dktX1_bookAt_0 : List UInt8 := dkwX1_bookAt_0 ++ []
theorem dksX1_bookAt_0 : cX1_bookAt.data.toList.drop 0 = dktX1_bookAt_0 := by decide +kernel
theorem dX1_bookAt_0 : decode cX1_bookAt 0 = .ok (.aload_n 0, 1) := dk_42 (dk_at dksX1_bookAt_0 0 rfl rfl)
theorem dX1_bookAt_1 : decode cX1_bookAt 1 = .ok (.getfield 18, 3) := dk_180 0 18 (dk_at dksX1_bookAt_0 1 rfl rfl)
theorem dX1_bookAt_4 : decode cX1_bookAt 4 = .ok (.bipush 11, 2) := dk_16 11 (dk_at dksX1_bookAt_0 4 rfl rfl)
theorem dX1_bookAt_6 : decode cX1_bookAt 6 = .ok (.iload_n 1, 1) := dk_27 (dk_at dksX1_bookAt_0 6 rfl rfl)
theorem dX1_bookAt_7 : decode cX1_bookAt 7 = .ok (.imul, 1) := dk_104 (dk_at dksX1_bookAt_0 7 rfl rfl)
theorem dX1_bookAt_8 : decode cX1_bookAt 8 = .ok (.iconst 1, 1) := dk_4 (dk_at dksX1_bookAt_0 8 rfl rfl)
theorem dX1_bookAt_9 : decode cX1_bookAt 9 = .ok (.iadd, 1) := dk_96 (dk_at dksX1_bookAt_0 9 rfl rfl)
theorem dX1_bookAt_10 : decode cX1_bookAt 10 = .ok (.iload_n 2, 1) := dk_28 (dk_at dksX1_bookAt_0 10 rfl rfl)
theorem dX1_bookAt_11 : decode cX1_bookAt 11 = .ok (.iadd, 1) := dk_96 (dk_at dksX1_bookAt_0 11 rfl rfl)
theorem dX1_bookAt_12 : decode cX1_bookAt 12 = .ok (.iaload, 1) := dk_46 (dk_at dksX1_bookAt_0 12 rfl rfl)
theorem dX1_bookAt_13 : decode cX1_bookAt 13 = .ok (.ireturn, 1) := dk_172 (dk_at dksX1_bookAt_0 13 rfl rfl)
abbrev MX1_bookAt : jjM := (yX1_bookAt, cX1_bookAt, 3, (Option.some Jvm.ClassFile.FieldType.int))
theorem npX1_bookAt : yX1_bookAt.cls ≠ "java/lang/invoke/MethodHandle" ∧ yX1_bookAt.cls ≠ "java/lang/invoke/VarHandle" ∧ (parseMethodDescriptor yX1_bookAt.desc).map (fun d => d.parameters.length) = some 2 := by decide +kernel
abbrev cX1_keeps : ByteArray := prog_11_method_5_code
def yX1_keeps : MethodName := ⟨RX1, "keeps", "()V"⟩
def dkwX1_keeps_3 : List UInt8 := [180, 0, 9, 7, 92, 46, 4, 96, 79, 177]
abbrev dktX1_keeps_3 : List UInt8 := dkwX1_keeps_3 ++ []
def dkwX1_keeps_2 : List UInt8 := [46, 4, 100, 79, 42, 180, 0, 18, 42, 180, 0, 29, 42, 180, 0, 9, 7, 46, 50, 184, 0, 53, 42]
abbrev dktX1_keeps_2 : List UInt8 := dkwX1_keeps_2 ++ dktX1_keeps_3
def dkwX1_keeps_1 : List UInt8 := [50, 42, 180, 0, 29, 27, 4, 100, 50, 184, 0, 53, 132, 1, 1, 167, 255, 230, 42, 180, 0, 9, 7, 92]
abbrev dktX1_keeps_1 : List UInt8 := dkwX1_keeps_1 ++ dktX1_keeps_2
def dkwX1_keeps_0 : List UInt8 := [42, 180, 0, 9, 7, 46, 16, 30, 160, 0, 44, 4, 60, 27, 16, 30, 162, 0, 26, 42, 180, 0, 29, 27]
abbrev dktX1_keeps_0 : List UInt8 := dkwX1_keeps_0 ++ dktX1_keeps_1
theorem dksX1_keeps_0 : cX1_keeps.data.toList.drop 0 = dktX1_keeps_0 := by decide +kernel
theorem dksX1_keeps_1 : cX1_keeps.data.toList.drop 24 = dktX1_keeps_1 := dk_seg dksX1_keeps_0 24 rfl rfl
theorem dksX1_keeps_2 : cX1_keeps.data.toList.drop 48 = dktX1_keeps_2 := dk_seg dksX1_keeps_1 24 rfl rfl
theorem dksX1_keeps_3 : cX1_keeps.data.toList.drop 71 = dktX1_keeps_3 := dk_seg dksX1_keeps_2 23 rfl rfl
theorem dX1_keeps_0 : decode cX1_keeps 0 = .ok (.aload_n 0, 1) := dk_42 (dk_at dksX1_keeps_0 0 rfl rfl)
theorem dX1_keeps_1 : decode cX1_keeps 1 = .ok (.getfield 9, 3) := dk_180 0 9 (dk_at dksX1_keeps_0 1 rfl rfl)
theorem dX1_keeps_4 : decode cX1_keeps 4 = .ok (.iconst 4, 1) := dk_7 (dk_at dksX1_keeps_0 4 rfl rfl)
theorem dX1_keeps_5 : decode cX1_keeps 5 = .ok (.iaload, 1) := dk_46 (dk_at dksX1_keeps_0 5 rfl rfl)
theorem dX1_keeps_6 : decode cX1_keeps 6 = .ok (.bipush 30, 2) := dk_16 30 (dk_at dksX1_keeps_0 6 rfl rfl)
theorem dX1_keeps_8 : decode cX1_keeps 8 = .ok (.if_icmp .ne 44, 3) := dk_160 0 44 (dk_at dksX1_keeps_0 8 rfl rfl)
theorem dX1_keeps_11 : decode cX1_keeps 11 = .ok (.iconst 1, 1) := dk_4 (dk_at dksX1_keeps_0 11 rfl rfl)
theorem dX1_keeps_12 : decode cX1_keeps 12 = .ok (.istore_n 1, 1) := dk_60 (dk_at dksX1_keeps_0 12 rfl rfl)
theorem dX1_keeps_13 : decode cX1_keeps 13 = .ok (.iload_n 1, 1) := dk_27 (dk_at dksX1_keeps_0 13 rfl rfl)
theorem dX1_keeps_14 : decode cX1_keeps 14 = .ok (.bipush 30, 2) := dk_16 30 (dk_at dksX1_keeps_0 14 rfl rfl)
theorem dX1_keeps_16 : decode cX1_keeps 16 = .ok (.if_icmp .ge 26, 3) := dk_162 0 26 (dk_at dksX1_keeps_0 16 rfl rfl)
theorem dX1_keeps_19 : decode cX1_keeps 19 = .ok (.aload_n 0, 1) := dk_42 (dk_at dksX1_keeps_0 19 rfl rfl)
theorem dX1_keeps_20 : decode cX1_keeps 20 = .ok (.getfield 29, 3) := dk_180 0 29 (dk_at dksX1_keeps_0 20 rfl rfl)
theorem dX1_keeps_23 : decode cX1_keeps 23 = .ok (.iload_n 1, 1) := dk_27 (dk_at dksX1_keeps_0 23 rfl rfl)
theorem dX1_keeps_24 : decode cX1_keeps 24 = .ok (.aaload, 1) := dk_50 (dk_at dksX1_keeps_1 0 rfl rfl)
theorem dX1_keeps_25 : decode cX1_keeps 25 = .ok (.aload_n 0, 1) := dk_42 (dk_at dksX1_keeps_1 1 rfl rfl)
theorem dX1_keeps_26 : decode cX1_keeps 26 = .ok (.getfield 29, 3) := dk_180 0 29 (dk_at dksX1_keeps_1 2 rfl rfl)
theorem dX1_keeps_29 : decode cX1_keeps 29 = .ok (.iload_n 1, 1) := dk_27 (dk_at dksX1_keeps_1 5 rfl rfl)
theorem dX1_keeps_30 : decode cX1_keeps 30 = .ok (.iconst 1, 1) := dk_4 (dk_at dksX1_keeps_1 6 rfl rfl)
theorem dX1_keeps_31 : decode cX1_keeps 31 = .ok (.isub, 1) := dk_100 (dk_at dksX1_keeps_1 7 rfl rfl)
theorem dX1_keeps_32 : decode cX1_keeps 32 = .ok (.aaload, 1) := dk_50 (dk_at dksX1_keeps_1 8 rfl rfl)
theorem dX1_keeps_33 : decode cX1_keeps 33 = .ok (.invokestatic 53, 3) := dk_184 0 53 (dk_at dksX1_keeps_1 9 rfl rfl)
theorem dX1_keeps_36 : decode cX1_keeps 36 = .ok (.iinc 1 1, 3) := dk_132 1 1 (dk_at dksX1_keeps_1 12 rfl rfl)
theorem dX1_keeps_39 : decode cX1_keeps 39 = .ok (.goto (-26), 3) := dk_167 255 230 (dk_at dksX1_keeps_1 15 rfl rfl)
theorem dX1_keeps_42 : decode cX1_keeps 42 = .ok (.aload_n 0, 1) := dk_42 (dk_at dksX1_keeps_1 18 rfl rfl)
theorem dX1_keeps_43 : decode cX1_keeps 43 = .ok (.getfield 9, 3) := dk_180 0 9 (dk_at dksX1_keeps_1 19 rfl rfl)
theorem dX1_keeps_46 : decode cX1_keeps 46 = .ok (.iconst 4, 1) := dk_7 (dk_at dksX1_keeps_1 22 rfl rfl)
theorem dX1_keeps_47 : decode cX1_keeps 47 = .ok (.dup2, 1) := dk_92 (dk_at dksX1_keeps_1 23 rfl rfl)
theorem dX1_keeps_48 : decode cX1_keeps 48 = .ok (.iaload, 1) := dk_46 (dk_at dksX1_keeps_2 0 rfl rfl)
theorem dX1_keeps_49 : decode cX1_keeps 49 = .ok (.iconst 1, 1) := dk_4 (dk_at dksX1_keeps_2 1 rfl rfl)
theorem dX1_keeps_50 : decode cX1_keeps 50 = .ok (.isub, 1) := dk_100 (dk_at dksX1_keeps_2 2 rfl rfl)
theorem dX1_keeps_51 : decode cX1_keeps 51 = .ok (.iastore, 1) := dk_79 (dk_at dksX1_keeps_2 3 rfl rfl)
theorem dX1_keeps_52 : decode cX1_keeps 52 = .ok (.aload_n 0, 1) := dk_42 (dk_at dksX1_keeps_2 4 rfl rfl)
theorem dX1_keeps_53 : decode cX1_keeps 53 = .ok (.getfield 18, 3) := dk_180 0 18 (dk_at dksX1_keeps_2 5 rfl rfl)
theorem dX1_keeps_56 : decode cX1_keeps 56 = .ok (.aload_n 0, 1) := dk_42 (dk_at dksX1_keeps_2 8 rfl rfl)
theorem dX1_keeps_57 : decode cX1_keeps 57 = .ok (.getfield 29, 3) := dk_180 0 29 (dk_at dksX1_keeps_2 9 rfl rfl)
theorem dX1_keeps_60 : decode cX1_keeps 60 = .ok (.aload_n 0, 1) := dk_42 (dk_at dksX1_keeps_2 12 rfl rfl)
theorem dX1_keeps_61 : decode cX1_keeps 61 = .ok (.getfield 9, 3) := dk_180 0 9 (dk_at dksX1_keeps_2 13 rfl rfl)
theorem dX1_keeps_64 : decode cX1_keeps 64 = .ok (.iconst 4, 1) := dk_7 (dk_at dksX1_keeps_2 16 rfl rfl)
theorem dX1_keeps_65 : decode cX1_keeps 65 = .ok (.iaload, 1) := dk_46 (dk_at dksX1_keeps_2 17 rfl rfl)
theorem dX1_keeps_66 : decode cX1_keeps 66 = .ok (.aaload, 1) := dk_50 (dk_at dksX1_keeps_2 18 rfl rfl)
theorem dX1_keeps_67 : decode cX1_keeps 67 = .ok (.invokestatic 53, 3) := dk_184 0 53 (dk_at dksX1_keeps_2 19 rfl rfl)
theorem dX1_keeps_70 : decode cX1_keeps 70 = .ok (.aload_n 0, 1) := dk_42 (dk_at dksX1_keeps_2 22 rfl rfl)
theorem dX1_keeps_71 : decode cX1_keeps 71 = .ok (.getfield 9, 3) := dk_180 0 9 (dk_at dksX1_keeps_3 0 rfl rfl)
theorem dX1_keeps_74 : decode cX1_keeps 74 = .ok (.iconst 4, 1) := dk_7 (dk_at dksX1_keeps_3 3 rfl rfl)
theorem dX1_keeps_75 : decode cX1_keeps 75 = .ok (.dup2, 1) := dk_92 (dk_at dksX1_keeps_3 4 rfl rfl)
theorem dX1_keeps_76 : decode cX1_keeps 76 = .ok (.iaload, 1) := dk_46 (dk_at dksX1_keeps_3 5 rfl rfl)
theorem dX1_keeps_77 : decode cX1_keeps 77 = .ok (.iconst 1, 1) := dk_4 (dk_at dksX1_keeps_3 6 rfl rfl)
theorem dX1_keeps_78 : decode cX1_keeps 78 = .ok (.iadd, 1) := dk_96 (dk_at dksX1_keeps_3 7 rfl rfl)
theorem dX1_keeps_79 : decode cX1_keeps 79 = .ok (.iastore, 1) := dk_79 (dk_at dksX1_keeps_3 8 rfl rfl)
theorem dX1_keeps_80 : decode cX1_keeps 80 = .ok (.return_, 1) := dk_177 (dk_at dksX1_keeps_3 9 rfl rfl)
abbrev MX1_keeps : jjM := (yX1_keeps, cX1_keeps, 2, (Option.none : Option Jvm.ClassFile.FieldType))
theorem npX1_keeps : yX1_keeps.cls ≠ "java/lang/invoke/MethodHandle" ∧ yX1_keeps.cls ≠ "java/lang/invoke/VarHandle" ∧ (parseMethodDescriptor yX1_keeps.desc).map (fun d => d.parameters.length) = some 0 := by decide +kernel
abbrev cX1_writes : ByteArray := prog_11_method_11_code
def yX1_writes : MethodName := ⟨RX1, "writes", "(III)V"⟩
def dkwX1_writes_4 : List UInt8 := [16, 44, 46, 79, 42, 180, 0, 18, 16, 46, 92, 46, 4, 96, 79, 177]
abbrev dktX1_writes_4 : List UInt8 := dkwX1_writes_4 ++ []
def dkwX1_writes_3 : List UInt8 := [79, 42, 180, 0, 18, 21, 4, 5, 96, 29, 79, 42, 180, 0, 18, 21, 4, 6, 96, 42, 180, 0, 18]
abbrev dktX1_writes_3 : List UInt8 := dkwX1_writes_3 ++ dktX1_writes_4
def dkwX1_writes_2 : List UInt8 := [16, 46, 46, 104, 96, 54, 4, 42, 180, 0, 18, 21, 4, 27, 79, 42, 180, 0, 18, 21, 4, 4, 96, 28]
abbrev dktX1_writes_2 : List UInt8 := dkwX1_writes_2 ++ dktX1_writes_3
def dkwX1_writes_1 : List UInt8 := [17, 0, 236, 184, 0, 47, 42, 180, 0, 18, 16, 46, 92, 46, 4, 100, 79, 16, 47, 7, 42, 180, 0, 18]
abbrev dktX1_writes_1 : List UInt8 := dkwX1_writes_1 ++ dktX1_writes_2
def dkwX1_writes_0 : List UInt8 := [42, 180, 0, 18, 16, 46, 46, 16, 60, 160, 0, 32, 42, 180, 0, 18, 16, 51, 42, 180, 0, 18, 16, 47]
abbrev dktX1_writes_0 : List UInt8 := dkwX1_writes_0 ++ dktX1_writes_1
theorem dksX1_writes_0 : cX1_writes.data.toList.drop 0 = dktX1_writes_0 := by decide +kernel
theorem dksX1_writes_1 : cX1_writes.data.toList.drop 24 = dktX1_writes_1 := dk_seg dksX1_writes_0 24 rfl rfl
theorem dksX1_writes_2 : cX1_writes.data.toList.drop 48 = dktX1_writes_2 := dk_seg dksX1_writes_1 24 rfl rfl
theorem dksX1_writes_3 : cX1_writes.data.toList.drop 72 = dktX1_writes_3 := dk_seg dksX1_writes_2 24 rfl rfl
theorem dksX1_writes_4 : cX1_writes.data.toList.drop 95 = dktX1_writes_4 := dk_seg dksX1_writes_3 23 rfl rfl
theorem dX1_writes_0 : decode cX1_writes 0 = .ok (.aload_n 0, 1) := dk_42 (dk_at dksX1_writes_0 0 rfl rfl)
theorem dX1_writes_1 : decode cX1_writes 1 = .ok (.getfield 18, 3) := dk_180 0 18 (dk_at dksX1_writes_0 1 rfl rfl)
theorem dX1_writes_4 : decode cX1_writes 4 = .ok (.bipush 46, 2) := dk_16 46 (dk_at dksX1_writes_0 4 rfl rfl)
theorem dX1_writes_6 : decode cX1_writes 6 = .ok (.iaload, 1) := dk_46 (dk_at dksX1_writes_0 6 rfl rfl)
theorem dX1_writes_7 : decode cX1_writes 7 = .ok (.bipush 60, 2) := dk_16 60 (dk_at dksX1_writes_0 7 rfl rfl)
theorem dX1_writes_9 : decode cX1_writes 9 = .ok (.if_icmp .ne 32, 3) := dk_160 0 32 (dk_at dksX1_writes_0 9 rfl rfl)
theorem dX1_writes_12 : decode cX1_writes 12 = .ok (.aload_n 0, 1) := dk_42 (dk_at dksX1_writes_0 12 rfl rfl)
theorem dX1_writes_13 : decode cX1_writes 13 = .ok (.getfield 18, 3) := dk_180 0 18 (dk_at dksX1_writes_0 13 rfl rfl)
theorem dX1_writes_16 : decode cX1_writes 16 = .ok (.bipush 51, 2) := dk_16 51 (dk_at dksX1_writes_0 16 rfl rfl)
theorem dX1_writes_18 : decode cX1_writes 18 = .ok (.aload_n 0, 1) := dk_42 (dk_at dksX1_writes_0 18 rfl rfl)
theorem dX1_writes_19 : decode cX1_writes 19 = .ok (.getfield 18, 3) := dk_180 0 18 (dk_at dksX1_writes_0 19 rfl rfl)
theorem dX1_writes_22 : decode cX1_writes 22 = .ok (.bipush 47, 2) := dk_16 47 (dk_at dksX1_writes_0 22 rfl rfl)
theorem dX1_writes_24 : decode cX1_writes 24 = .ok (.sipush 236, 3) := dk_17 0 236 (dk_at dksX1_writes_1 0 rfl rfl)
theorem dX1_writes_27 : decode cX1_writes 27 = .ok (.invokestatic 47, 3) := dk_184 0 47 (dk_at dksX1_writes_1 3 rfl rfl)
theorem dX1_writes_30 : decode cX1_writes 30 = .ok (.aload_n 0, 1) := dk_42 (dk_at dksX1_writes_1 6 rfl rfl)
theorem dX1_writes_31 : decode cX1_writes 31 = .ok (.getfield 18, 3) := dk_180 0 18 (dk_at dksX1_writes_1 7 rfl rfl)
theorem dX1_writes_34 : decode cX1_writes 34 = .ok (.bipush 46, 2) := dk_16 46 (dk_at dksX1_writes_1 10 rfl rfl)
theorem dX1_writes_36 : decode cX1_writes 36 = .ok (.dup2, 1) := dk_92 (dk_at dksX1_writes_1 12 rfl rfl)
theorem dX1_writes_37 : decode cX1_writes 37 = .ok (.iaload, 1) := dk_46 (dk_at dksX1_writes_1 13 rfl rfl)
theorem dX1_writes_38 : decode cX1_writes 38 = .ok (.iconst 1, 1) := dk_4 (dk_at dksX1_writes_1 14 rfl rfl)
theorem dX1_writes_39 : decode cX1_writes 39 = .ok (.isub, 1) := dk_100 (dk_at dksX1_writes_1 15 rfl rfl)
theorem dX1_writes_40 : decode cX1_writes 40 = .ok (.iastore, 1) := dk_79 (dk_at dksX1_writes_1 16 rfl rfl)
theorem dX1_writes_41 : decode cX1_writes 41 = .ok (.bipush 47, 2) := dk_16 47 (dk_at dksX1_writes_1 17 rfl rfl)
theorem dX1_writes_43 : decode cX1_writes 43 = .ok (.iconst 4, 1) := dk_7 (dk_at dksX1_writes_1 19 rfl rfl)
theorem dX1_writes_44 : decode cX1_writes 44 = .ok (.aload_n 0, 1) := dk_42 (dk_at dksX1_writes_1 20 rfl rfl)
theorem dX1_writes_45 : decode cX1_writes 45 = .ok (.getfield 18, 3) := dk_180 0 18 (dk_at dksX1_writes_1 21 rfl rfl)
theorem dX1_writes_48 : decode cX1_writes 48 = .ok (.bipush 46, 2) := dk_16 46 (dk_at dksX1_writes_2 0 rfl rfl)
theorem dX1_writes_50 : decode cX1_writes 50 = .ok (.iaload, 1) := dk_46 (dk_at dksX1_writes_2 2 rfl rfl)
theorem dX1_writes_51 : decode cX1_writes 51 = .ok (.imul, 1) := dk_104 (dk_at dksX1_writes_2 3 rfl rfl)
theorem dX1_writes_52 : decode cX1_writes 52 = .ok (.iadd, 1) := dk_96 (dk_at dksX1_writes_2 4 rfl rfl)
theorem dX1_writes_53 : decode cX1_writes 53 = .ok (.istore 4, 2) := dk_54 4 (dk_at dksX1_writes_2 5 rfl rfl)
theorem dX1_writes_55 : decode cX1_writes 55 = .ok (.aload_n 0, 1) := dk_42 (dk_at dksX1_writes_2 7 rfl rfl)
theorem dX1_writes_56 : decode cX1_writes 56 = .ok (.getfield 18, 3) := dk_180 0 18 (dk_at dksX1_writes_2 8 rfl rfl)
theorem dX1_writes_59 : decode cX1_writes 59 = .ok (.iload 4, 2) := dk_21 4 (dk_at dksX1_writes_2 11 rfl rfl)
theorem dX1_writes_61 : decode cX1_writes 61 = .ok (.iload_n 1, 1) := dk_27 (dk_at dksX1_writes_2 13 rfl rfl)
theorem dX1_writes_62 : decode cX1_writes 62 = .ok (.iastore, 1) := dk_79 (dk_at dksX1_writes_2 14 rfl rfl)
theorem dX1_writes_63 : decode cX1_writes 63 = .ok (.aload_n 0, 1) := dk_42 (dk_at dksX1_writes_2 15 rfl rfl)
theorem dX1_writes_64 : decode cX1_writes 64 = .ok (.getfield 18, 3) := dk_180 0 18 (dk_at dksX1_writes_2 16 rfl rfl)
theorem dX1_writes_67 : decode cX1_writes 67 = .ok (.iload 4, 2) := dk_21 4 (dk_at dksX1_writes_2 19 rfl rfl)
theorem dX1_writes_69 : decode cX1_writes 69 = .ok (.iconst 1, 1) := dk_4 (dk_at dksX1_writes_2 21 rfl rfl)
theorem dX1_writes_70 : decode cX1_writes 70 = .ok (.iadd, 1) := dk_96 (dk_at dksX1_writes_2 22 rfl rfl)
theorem dX1_writes_71 : decode cX1_writes 71 = .ok (.iload_n 2, 1) := dk_28 (dk_at dksX1_writes_2 23 rfl rfl)
theorem dX1_writes_72 : decode cX1_writes 72 = .ok (.iastore, 1) := dk_79 (dk_at dksX1_writes_3 0 rfl rfl)
theorem dX1_writes_73 : decode cX1_writes 73 = .ok (.aload_n 0, 1) := dk_42 (dk_at dksX1_writes_3 1 rfl rfl)
theorem dX1_writes_74 : decode cX1_writes 74 = .ok (.getfield 18, 3) := dk_180 0 18 (dk_at dksX1_writes_3 2 rfl rfl)
theorem dX1_writes_77 : decode cX1_writes 77 = .ok (.iload 4, 2) := dk_21 4 (dk_at dksX1_writes_3 5 rfl rfl)
theorem dX1_writes_79 : decode cX1_writes 79 = .ok (.iconst 2, 1) := dk_5 (dk_at dksX1_writes_3 7 rfl rfl)
theorem dX1_writes_80 : decode cX1_writes 80 = .ok (.iadd, 1) := dk_96 (dk_at dksX1_writes_3 8 rfl rfl)
theorem dX1_writes_81 : decode cX1_writes 81 = .ok (.iload_n 3, 1) := dk_29 (dk_at dksX1_writes_3 9 rfl rfl)
theorem dX1_writes_82 : decode cX1_writes 82 = .ok (.iastore, 1) := dk_79 (dk_at dksX1_writes_3 10 rfl rfl)
theorem dX1_writes_83 : decode cX1_writes 83 = .ok (.aload_n 0, 1) := dk_42 (dk_at dksX1_writes_3 11 rfl rfl)
theorem dX1_writes_84 : decode cX1_writes 84 = .ok (.getfield 18, 3) := dk_180 0 18 (dk_at dksX1_writes_3 12 rfl rfl)
theorem dX1_writes_87 : decode cX1_writes 87 = .ok (.iload 4, 2) := dk_21 4 (dk_at dksX1_writes_3 15 rfl rfl)
theorem dX1_writes_89 : decode cX1_writes 89 = .ok (.iconst 3, 1) := dk_6 (dk_at dksX1_writes_3 17 rfl rfl)
theorem dX1_writes_90 : decode cX1_writes 90 = .ok (.iadd, 1) := dk_96 (dk_at dksX1_writes_3 18 rfl rfl)
theorem dX1_writes_91 : decode cX1_writes 91 = .ok (.aload_n 0, 1) := dk_42 (dk_at dksX1_writes_3 19 rfl rfl)
theorem dX1_writes_92 : decode cX1_writes 92 = .ok (.getfield 18, 3) := dk_180 0 18 (dk_at dksX1_writes_3 20 rfl rfl)
theorem dX1_writes_95 : decode cX1_writes 95 = .ok (.bipush 44, 2) := dk_16 44 (dk_at dksX1_writes_4 0 rfl rfl)
theorem dX1_writes_97 : decode cX1_writes 97 = .ok (.iaload, 1) := dk_46 (dk_at dksX1_writes_4 2 rfl rfl)
theorem dX1_writes_98 : decode cX1_writes 98 = .ok (.iastore, 1) := dk_79 (dk_at dksX1_writes_4 3 rfl rfl)
theorem dX1_writes_99 : decode cX1_writes 99 = .ok (.aload_n 0, 1) := dk_42 (dk_at dksX1_writes_4 4 rfl rfl)
theorem dX1_writes_100 : decode cX1_writes 100 = .ok (.getfield 18, 3) := dk_180 0 18 (dk_at dksX1_writes_4 5 rfl rfl)
theorem dX1_writes_103 : decode cX1_writes 103 = .ok (.bipush 46, 2) := dk_16 46 (dk_at dksX1_writes_4 8 rfl rfl)
theorem dX1_writes_105 : decode cX1_writes 105 = .ok (.dup2, 1) := dk_92 (dk_at dksX1_writes_4 10 rfl rfl)
theorem dX1_writes_106 : decode cX1_writes 106 = .ok (.iaload, 1) := dk_46 (dk_at dksX1_writes_4 11 rfl rfl)
theorem dX1_writes_107 : decode cX1_writes 107 = .ok (.iconst 1, 1) := dk_4 (dk_at dksX1_writes_4 12 rfl rfl)
theorem dX1_writes_108 : decode cX1_writes 108 = .ok (.iadd, 1) := dk_96 (dk_at dksX1_writes_4 13 rfl rfl)
theorem dX1_writes_109 : decode cX1_writes 109 = .ok (.iastore, 1) := dk_79 (dk_at dksX1_writes_4 14 rfl rfl)
theorem dX1_writes_110 : decode cX1_writes 110 = .ok (.return_, 1) := dk_177 (dk_at dksX1_writes_4 15 rfl rfl)
abbrev MX1_writes : jjM := (yX1_writes, cX1_writes, 5, (Option.none : Option Jvm.ClassFile.FieldType))
theorem npX1_writes : yX1_writes.cls ≠ "java/lang/invoke/MethodHandle" ∧ yX1_writes.cls ≠ "java/lang/invoke/VarHandle" ∧ (parseMethodDescriptor yX1_writes.desc).map (fun d => d.parameters.length) = some 3 := by decide +kernel
abbrev cX1_removes : ByteArray := prog_11_method_8_code
def yX1_removes : MethodName := ⟨RX1, "removes", "(II)V"⟩
def dkwX1_removes_1 : List UInt8 := [182, 0, 60, 28, 100, 4, 100, 184, 0, 47, 42, 180, 0, 18, 16, 11, 27, 104, 92, 46, 4, 100, 79, 177]
abbrev dktX1_removes_1 : List UInt8 := dkwX1_removes_1 ++ []
def dkwX1_removes_0 : List UInt8 := [16, 11, 27, 104, 4, 96, 28, 96, 62, 42, 180, 0, 18, 29, 4, 96, 42, 180, 0, 18, 29, 42, 27]
abbrev dktX1_removes_0 : List UInt8 := dkwX1_removes_0 ++ dktX1_removes_1
theorem dksX1_removes_0 : cX1_removes.data.toList.drop 0 = dktX1_removes_0 := by decide +kernel
theorem dksX1_removes_1 : cX1_removes.data.toList.drop 23 = dktX1_removes_1 := dk_seg dksX1_removes_0 23 rfl rfl
theorem dX1_removes_0 : decode cX1_removes 0 = .ok (.bipush 11, 2) := dk_16 11 (dk_at dksX1_removes_0 0 rfl rfl)
theorem dX1_removes_2 : decode cX1_removes 2 = .ok (.iload_n 1, 1) := dk_27 (dk_at dksX1_removes_0 2 rfl rfl)
theorem dX1_removes_3 : decode cX1_removes 3 = .ok (.imul, 1) := dk_104 (dk_at dksX1_removes_0 3 rfl rfl)
theorem dX1_removes_4 : decode cX1_removes 4 = .ok (.iconst 1, 1) := dk_4 (dk_at dksX1_removes_0 4 rfl rfl)
theorem dX1_removes_5 : decode cX1_removes 5 = .ok (.iadd, 1) := dk_96 (dk_at dksX1_removes_0 5 rfl rfl)
theorem dX1_removes_6 : decode cX1_removes 6 = .ok (.iload_n 2, 1) := dk_28 (dk_at dksX1_removes_0 6 rfl rfl)
theorem dX1_removes_7 : decode cX1_removes 7 = .ok (.iadd, 1) := dk_96 (dk_at dksX1_removes_0 7 rfl rfl)
theorem dX1_removes_8 : decode cX1_removes 8 = .ok (.istore_n 3, 1) := dk_62 (dk_at dksX1_removes_0 8 rfl rfl)
theorem dX1_removes_9 : decode cX1_removes 9 = .ok (.aload_n 0, 1) := dk_42 (dk_at dksX1_removes_0 9 rfl rfl)
theorem dX1_removes_10 : decode cX1_removes 10 = .ok (.getfield 18, 3) := dk_180 0 18 (dk_at dksX1_removes_0 10 rfl rfl)
theorem dX1_removes_13 : decode cX1_removes 13 = .ok (.iload_n 3, 1) := dk_29 (dk_at dksX1_removes_0 13 rfl rfl)
theorem dX1_removes_14 : decode cX1_removes 14 = .ok (.iconst 1, 1) := dk_4 (dk_at dksX1_removes_0 14 rfl rfl)
theorem dX1_removes_15 : decode cX1_removes 15 = .ok (.iadd, 1) := dk_96 (dk_at dksX1_removes_0 15 rfl rfl)
theorem dX1_removes_16 : decode cX1_removes 16 = .ok (.aload_n 0, 1) := dk_42 (dk_at dksX1_removes_0 16 rfl rfl)
theorem dX1_removes_17 : decode cX1_removes 17 = .ok (.getfield 18, 3) := dk_180 0 18 (dk_at dksX1_removes_0 17 rfl rfl)
theorem dX1_removes_20 : decode cX1_removes 20 = .ok (.iload_n 3, 1) := dk_29 (dk_at dksX1_removes_0 20 rfl rfl)
theorem dX1_removes_21 : decode cX1_removes 21 = .ok (.aload_n 0, 1) := dk_42 (dk_at dksX1_removes_0 21 rfl rfl)
theorem dX1_removes_22 : decode cX1_removes 22 = .ok (.iload_n 1, 1) := dk_27 (dk_at dksX1_removes_0 22 rfl rfl)
theorem dX1_removes_23 : decode cX1_removes 23 = .ok (.invokevirtual 60, 3) := dk_182 0 60 (dk_at dksX1_removes_1 0 rfl rfl)
theorem dX1_removes_26 : decode cX1_removes 26 = .ok (.iload_n 2, 1) := dk_28 (dk_at dksX1_removes_1 3 rfl rfl)
theorem dX1_removes_27 : decode cX1_removes 27 = .ok (.isub, 1) := dk_100 (dk_at dksX1_removes_1 4 rfl rfl)
theorem dX1_removes_28 : decode cX1_removes 28 = .ok (.iconst 1, 1) := dk_4 (dk_at dksX1_removes_1 5 rfl rfl)
theorem dX1_removes_29 : decode cX1_removes 29 = .ok (.isub, 1) := dk_100 (dk_at dksX1_removes_1 6 rfl rfl)
theorem dX1_removes_30 : decode cX1_removes 30 = .ok (.invokestatic 47, 3) := dk_184 0 47 (dk_at dksX1_removes_1 7 rfl rfl)
theorem dX1_removes_33 : decode cX1_removes 33 = .ok (.aload_n 0, 1) := dk_42 (dk_at dksX1_removes_1 10 rfl rfl)
theorem dX1_removes_34 : decode cX1_removes 34 = .ok (.getfield 18, 3) := dk_180 0 18 (dk_at dksX1_removes_1 11 rfl rfl)
theorem dX1_removes_37 : decode cX1_removes 37 = .ok (.bipush 11, 2) := dk_16 11 (dk_at dksX1_removes_1 14 rfl rfl)
theorem dX1_removes_39 : decode cX1_removes 39 = .ok (.iload_n 1, 1) := dk_27 (dk_at dksX1_removes_1 16 rfl rfl)
theorem dX1_removes_40 : decode cX1_removes 40 = .ok (.imul, 1) := dk_104 (dk_at dksX1_removes_1 17 rfl rfl)
theorem dX1_removes_41 : decode cX1_removes 41 = .ok (.dup2, 1) := dk_92 (dk_at dksX1_removes_1 18 rfl rfl)
theorem dX1_removes_42 : decode cX1_removes 42 = .ok (.iaload, 1) := dk_46 (dk_at dksX1_removes_1 19 rfl rfl)
theorem dX1_removes_43 : decode cX1_removes 43 = .ok (.iconst 1, 1) := dk_4 (dk_at dksX1_removes_1 20 rfl rfl)
theorem dX1_removes_44 : decode cX1_removes 44 = .ok (.isub, 1) := dk_100 (dk_at dksX1_removes_1 21 rfl rfl)
theorem dX1_removes_45 : decode cX1_removes 45 = .ok (.iastore, 1) := dk_79 (dk_at dksX1_removes_1 22 rfl rfl)
theorem dX1_removes_46 : decode cX1_removes 46 = .ok (.return_, 1) := dk_177 (dk_at dksX1_removes_1 23 rfl rfl)
abbrev MX1_removes : jjM := (yX1_removes, cX1_removes, 4, (Option.none : Option Jvm.ClassFile.FieldType))
theorem npX1_removes : yX1_removes.cls ≠ "java/lang/invoke/MethodHandle" ∧ yX1_removes.cls ≠ "java/lang/invoke/VarHandle" ∧ (parseMethodDescriptor yX1_removes.desc).map (fun d => d.parameters.length) = some 2 := by decide +kernel
abbrev cX1_placeOf : ByteArray := prog_11_method_10_code
def yX1_placeOf : MethodName := ⟨RX1, "placeOf", "(I)I"⟩
def dkwX1_placeOf_1 : List UInt8 := [132, 3, 1, 167, 255, 243, 29, 172]
abbrev dktX1_placeOf_1 : List UInt8 := dkwX1_placeOf_1 ++ []
def dkwX1_placeOf_0 : List UInt8 := [42, 180, 0, 18, 16, 33, 27, 96, 46, 61, 3, 62, 42, 28, 29, 182, 0, 64, 27, 159, 0, 9]
abbrev dktX1_placeOf_0 : List UInt8 := dkwX1_placeOf_0 ++ dktX1_placeOf_1
theorem dksX1_placeOf_0 : cX1_placeOf.data.toList.drop 0 = dktX1_placeOf_0 := by decide +kernel
theorem dksX1_placeOf_1 : cX1_placeOf.data.toList.drop 22 = dktX1_placeOf_1 := dk_seg dksX1_placeOf_0 22 rfl rfl
theorem dX1_placeOf_0 : decode cX1_placeOf 0 = .ok (.aload_n 0, 1) := dk_42 (dk_at dksX1_placeOf_0 0 rfl rfl)
theorem dX1_placeOf_1 : decode cX1_placeOf 1 = .ok (.getfield 18, 3) := dk_180 0 18 (dk_at dksX1_placeOf_0 1 rfl rfl)
theorem dX1_placeOf_4 : decode cX1_placeOf 4 = .ok (.bipush 33, 2) := dk_16 33 (dk_at dksX1_placeOf_0 4 rfl rfl)
theorem dX1_placeOf_6 : decode cX1_placeOf 6 = .ok (.iload_n 1, 1) := dk_27 (dk_at dksX1_placeOf_0 6 rfl rfl)
theorem dX1_placeOf_7 : decode cX1_placeOf 7 = .ok (.iadd, 1) := dk_96 (dk_at dksX1_placeOf_0 7 rfl rfl)
theorem dX1_placeOf_8 : decode cX1_placeOf 8 = .ok (.iaload, 1) := dk_46 (dk_at dksX1_placeOf_0 8 rfl rfl)
theorem dX1_placeOf_9 : decode cX1_placeOf 9 = .ok (.istore_n 2, 1) := dk_61 (dk_at dksX1_placeOf_0 9 rfl rfl)
theorem dX1_placeOf_10 : decode cX1_placeOf 10 = .ok (.iconst 0, 1) := dk_3 (dk_at dksX1_placeOf_0 10 rfl rfl)
theorem dX1_placeOf_11 : decode cX1_placeOf 11 = .ok (.istore_n 3, 1) := dk_62 (dk_at dksX1_placeOf_0 11 rfl rfl)
theorem dX1_placeOf_12 : decode cX1_placeOf 12 = .ok (.aload_n 0, 1) := dk_42 (dk_at dksX1_placeOf_0 12 rfl rfl)
theorem dX1_placeOf_13 : decode cX1_placeOf 13 = .ok (.iload_n 2, 1) := dk_28 (dk_at dksX1_placeOf_0 13 rfl rfl)
theorem dX1_placeOf_14 : decode cX1_placeOf 14 = .ok (.iload_n 3, 1) := dk_29 (dk_at dksX1_placeOf_0 14 rfl rfl)
theorem dX1_placeOf_15 : decode cX1_placeOf 15 = .ok (.invokevirtual 64, 3) := dk_182 0 64 (dk_at dksX1_placeOf_0 15 rfl rfl)
theorem dX1_placeOf_18 : decode cX1_placeOf 18 = .ok (.iload_n 1, 1) := dk_27 (dk_at dksX1_placeOf_0 18 rfl rfl)
theorem dX1_placeOf_19 : decode cX1_placeOf 19 = .ok (.if_icmp .eq 9, 3) := dk_159 0 9 (dk_at dksX1_placeOf_0 19 rfl rfl)
theorem dX1_placeOf_22 : decode cX1_placeOf 22 = .ok (.iinc 3 1, 3) := dk_132 3 1 (dk_at dksX1_placeOf_1 0 rfl rfl)
theorem dX1_placeOf_25 : decode cX1_placeOf 25 = .ok (.goto (-13), 3) := dk_167 255 243 (dk_at dksX1_placeOf_1 3 rfl rfl)
theorem dX1_placeOf_28 : decode cX1_placeOf 28 = .ok (.iload_n 3, 1) := dk_29 (dk_at dksX1_placeOf_1 6 rfl rfl)
theorem dX1_placeOf_29 : decode cX1_placeOf 29 = .ok (.ireturn, 1) := dk_172 (dk_at dksX1_placeOf_1 7 rfl rfl)
abbrev MX1_placeOf : jjM := (yX1_placeOf, cX1_placeOf, 4, (Option.some Jvm.ClassFile.FieldType.int))
theorem npX1_placeOf : yX1_placeOf.cls ≠ "java/lang/invoke/MethodHandle" ∧ yX1_placeOf.cls ≠ "java/lang/invoke/VarHandle" ∧ (parseMethodDescriptor yX1_placeOf.desc).map (fun d => d.parameters.length) = some 1 := by decide +kernel
abbrev cX1_inserts : ByteArray := prog_11_method_9_code
def yX1_inserts : MethodName := ⟨RX1, "inserts", "(III)V"⟩
def dkwX1_inserts_2 : List UInt8 := [27, 104, 92, 46, 4, 96, 79, 42, 180, 0, 18, 16, 33, 29, 96, 27, 79, 177]
abbrev dktX1_inserts_2 : List UInt8 := dkwX1_inserts_2 ++ []
def dkwX1_inserts_1 : List UInt8 := [42, 27, 182, 0, 60, 28, 100, 184, 0, 47, 42, 180, 0, 18, 21, 4, 29, 79, 42, 180, 0, 18, 16, 11]
abbrev dktX1_inserts_1 : List UInt8 := dkwX1_inserts_1 ++ dktX1_inserts_2
def dkwX1_inserts_0 : List UInt8 := [16, 11, 27, 104, 4, 96, 28, 96, 54, 4, 42, 180, 0, 18, 21, 4, 42, 180, 0, 18, 21, 4, 4, 96]
abbrev dktX1_inserts_0 : List UInt8 := dkwX1_inserts_0 ++ dktX1_inserts_1
theorem dksX1_inserts_0 : cX1_inserts.data.toList.drop 0 = dktX1_inserts_0 := by decide +kernel
theorem dksX1_inserts_1 : cX1_inserts.data.toList.drop 24 = dktX1_inserts_1 := dk_seg dksX1_inserts_0 24 rfl rfl
theorem dksX1_inserts_2 : cX1_inserts.data.toList.drop 48 = dktX1_inserts_2 := dk_seg dksX1_inserts_1 24 rfl rfl
theorem dX1_inserts_0 : decode cX1_inserts 0 = .ok (.bipush 11, 2) := dk_16 11 (dk_at dksX1_inserts_0 0 rfl rfl)
theorem dX1_inserts_2 : decode cX1_inserts 2 = .ok (.iload_n 1, 1) := dk_27 (dk_at dksX1_inserts_0 2 rfl rfl)
theorem dX1_inserts_3 : decode cX1_inserts 3 = .ok (.imul, 1) := dk_104 (dk_at dksX1_inserts_0 3 rfl rfl)
theorem dX1_inserts_4 : decode cX1_inserts 4 = .ok (.iconst 1, 1) := dk_4 (dk_at dksX1_inserts_0 4 rfl rfl)
theorem dX1_inserts_5 : decode cX1_inserts 5 = .ok (.iadd, 1) := dk_96 (dk_at dksX1_inserts_0 5 rfl rfl)
theorem dX1_inserts_6 : decode cX1_inserts 6 = .ok (.iload_n 2, 1) := dk_28 (dk_at dksX1_inserts_0 6 rfl rfl)
theorem dX1_inserts_7 : decode cX1_inserts 7 = .ok (.iadd, 1) := dk_96 (dk_at dksX1_inserts_0 7 rfl rfl)
theorem dX1_inserts_8 : decode cX1_inserts 8 = .ok (.istore 4, 2) := dk_54 4 (dk_at dksX1_inserts_0 8 rfl rfl)
theorem dX1_inserts_10 : decode cX1_inserts 10 = .ok (.aload_n 0, 1) := dk_42 (dk_at dksX1_inserts_0 10 rfl rfl)
theorem dX1_inserts_11 : decode cX1_inserts 11 = .ok (.getfield 18, 3) := dk_180 0 18 (dk_at dksX1_inserts_0 11 rfl rfl)
theorem dX1_inserts_14 : decode cX1_inserts 14 = .ok (.iload 4, 2) := dk_21 4 (dk_at dksX1_inserts_0 14 rfl rfl)
theorem dX1_inserts_16 : decode cX1_inserts 16 = .ok (.aload_n 0, 1) := dk_42 (dk_at dksX1_inserts_0 16 rfl rfl)
theorem dX1_inserts_17 : decode cX1_inserts 17 = .ok (.getfield 18, 3) := dk_180 0 18 (dk_at dksX1_inserts_0 17 rfl rfl)
theorem dX1_inserts_20 : decode cX1_inserts 20 = .ok (.iload 4, 2) := dk_21 4 (dk_at dksX1_inserts_0 20 rfl rfl)
theorem dX1_inserts_22 : decode cX1_inserts 22 = .ok (.iconst 1, 1) := dk_4 (dk_at dksX1_inserts_0 22 rfl rfl)
theorem dX1_inserts_23 : decode cX1_inserts 23 = .ok (.iadd, 1) := dk_96 (dk_at dksX1_inserts_0 23 rfl rfl)
theorem dX1_inserts_24 : decode cX1_inserts 24 = .ok (.aload_n 0, 1) := dk_42 (dk_at dksX1_inserts_1 0 rfl rfl)
theorem dX1_inserts_25 : decode cX1_inserts 25 = .ok (.iload_n 1, 1) := dk_27 (dk_at dksX1_inserts_1 1 rfl rfl)
theorem dX1_inserts_26 : decode cX1_inserts 26 = .ok (.invokevirtual 60, 3) := dk_182 0 60 (dk_at dksX1_inserts_1 2 rfl rfl)
theorem dX1_inserts_29 : decode cX1_inserts 29 = .ok (.iload_n 2, 1) := dk_28 (dk_at dksX1_inserts_1 5 rfl rfl)
theorem dX1_inserts_30 : decode cX1_inserts 30 = .ok (.isub, 1) := dk_100 (dk_at dksX1_inserts_1 6 rfl rfl)
theorem dX1_inserts_31 : decode cX1_inserts 31 = .ok (.invokestatic 47, 3) := dk_184 0 47 (dk_at dksX1_inserts_1 7 rfl rfl)
theorem dX1_inserts_34 : decode cX1_inserts 34 = .ok (.aload_n 0, 1) := dk_42 (dk_at dksX1_inserts_1 10 rfl rfl)
theorem dX1_inserts_35 : decode cX1_inserts 35 = .ok (.getfield 18, 3) := dk_180 0 18 (dk_at dksX1_inserts_1 11 rfl rfl)
theorem dX1_inserts_38 : decode cX1_inserts 38 = .ok (.iload 4, 2) := dk_21 4 (dk_at dksX1_inserts_1 14 rfl rfl)
theorem dX1_inserts_40 : decode cX1_inserts 40 = .ok (.iload_n 3, 1) := dk_29 (dk_at dksX1_inserts_1 16 rfl rfl)
theorem dX1_inserts_41 : decode cX1_inserts 41 = .ok (.iastore, 1) := dk_79 (dk_at dksX1_inserts_1 17 rfl rfl)
theorem dX1_inserts_42 : decode cX1_inserts 42 = .ok (.aload_n 0, 1) := dk_42 (dk_at dksX1_inserts_1 18 rfl rfl)
theorem dX1_inserts_43 : decode cX1_inserts 43 = .ok (.getfield 18, 3) := dk_180 0 18 (dk_at dksX1_inserts_1 19 rfl rfl)
theorem dX1_inserts_46 : decode cX1_inserts 46 = .ok (.bipush 11, 2) := dk_16 11 (dk_at dksX1_inserts_1 22 rfl rfl)
theorem dX1_inserts_48 : decode cX1_inserts 48 = .ok (.iload_n 1, 1) := dk_27 (dk_at dksX1_inserts_2 0 rfl rfl)
theorem dX1_inserts_49 : decode cX1_inserts 49 = .ok (.imul, 1) := dk_104 (dk_at dksX1_inserts_2 1 rfl rfl)
theorem dX1_inserts_50 : decode cX1_inserts 50 = .ok (.dup2, 1) := dk_92 (dk_at dksX1_inserts_2 2 rfl rfl)
theorem dX1_inserts_51 : decode cX1_inserts 51 = .ok (.iaload, 1) := dk_46 (dk_at dksX1_inserts_2 3 rfl rfl)
theorem dX1_inserts_52 : decode cX1_inserts 52 = .ok (.iconst 1, 1) := dk_4 (dk_at dksX1_inserts_2 4 rfl rfl)
theorem dX1_inserts_53 : decode cX1_inserts 53 = .ok (.iadd, 1) := dk_96 (dk_at dksX1_inserts_2 5 rfl rfl)
theorem dX1_inserts_54 : decode cX1_inserts 54 = .ok (.iastore, 1) := dk_79 (dk_at dksX1_inserts_2 6 rfl rfl)
theorem dX1_inserts_55 : decode cX1_inserts 55 = .ok (.aload_n 0, 1) := dk_42 (dk_at dksX1_inserts_2 7 rfl rfl)
theorem dX1_inserts_56 : decode cX1_inserts 56 = .ok (.getfield 18, 3) := dk_180 0 18 (dk_at dksX1_inserts_2 8 rfl rfl)
theorem dX1_inserts_59 : decode cX1_inserts 59 = .ok (.bipush 33, 2) := dk_16 33 (dk_at dksX1_inserts_2 11 rfl rfl)
theorem dX1_inserts_61 : decode cX1_inserts 61 = .ok (.iload_n 3, 1) := dk_29 (dk_at dksX1_inserts_2 13 rfl rfl)
theorem dX1_inserts_62 : decode cX1_inserts 62 = .ok (.iadd, 1) := dk_96 (dk_at dksX1_inserts_2 14 rfl rfl)
theorem dX1_inserts_63 : decode cX1_inserts 63 = .ok (.iload_n 1, 1) := dk_27 (dk_at dksX1_inserts_2 15 rfl rfl)
theorem dX1_inserts_64 : decode cX1_inserts 64 = .ok (.iastore, 1) := dk_79 (dk_at dksX1_inserts_2 16 rfl rfl)
theorem dX1_inserts_65 : decode cX1_inserts 65 = .ok (.return_, 1) := dk_177 (dk_at dksX1_inserts_2 17 rfl rfl)
abbrev MX1_inserts : jjM := (yX1_inserts, cX1_inserts, 5, (Option.none : Option Jvm.ClassFile.FieldType))
theorem npX1_inserts : yX1_inserts.cls ≠ "java/lang/invoke/MethodHandle" ∧ yX1_inserts.cls ≠ "java/lang/invoke/VarHandle" ∧ (parseMethodDescriptor yX1_inserts.desc).map (fun d => d.parameters.length) = some 3 := by decide +kernel
abbrev cX10_of : ByteArray := prog_7_method_2_code
def yX10_of : MethodName := ⟨RX10, "of", "([I)J"⟩
def dkwX10_of_0 : List UInt8 := [42, 180, 0, 7, 43, 185, 0, 13, 2, 0, 117, 173]
abbrev dktX10_of_0 : List UInt8 := dkwX10_of_0 ++ []
theorem dksX10_of_0 : cX10_of.data.toList.drop 0 = dktX10_of_0 := by decide +kernel
theorem dX10_of_0 : decode cX10_of 0 = .ok (.aload_n 0, 1) := dk_42 (dk_at dksX10_of_0 0 rfl rfl)
theorem dX10_of_1 : decode cX10_of 1 = .ok (.getfield 7, 3) := dk_180 0 7 (dk_at dksX10_of_0 1 rfl rfl)
theorem dX10_of_4 : decode cX10_of 4 = .ok (.aload_n 1, 1) := dk_43 (dk_at dksX10_of_0 4 rfl rfl)
theorem dX10_of_5 : decode cX10_of 5 = .ok (.invokeinterface 13 2, 5) := by decide +kernel
theorem dX10_of_10 : decode cX10_of 10 = .ok (.lneg, 1) := dk_117 (dk_at dksX10_of_0 10 rfl rfl)
theorem dX10_of_11 : decode cX10_of 11 = .ok (.lreturn, 1) := dk_173 (dk_at dksX10_of_0 11 rfl rfl)
abbrev MX10_of : jjM := (yX10_of, cX10_of, 2, (Option.some Jvm.ClassFile.FieldType.long))
theorem npX10_of : yX10_of.cls ≠ "java/lang/invoke/MethodHandle" ∧ yX10_of.cls ≠ "java/lang/invoke/VarHandle" ∧ (parseMethodDescriptor yX10_of.desc).map (fun d => d.parameters.length) = some 1 := by decide +kernel
abbrev cX10_init : ByteArray := prog_7_method_1_code
def yX10_init : MethodName := ⟨RX10, "<init>", "(LSelfSorting$Sum;)V"⟩
def dkwX10_init_0 : List UInt8 := [42, 183, 0, 1, 42, 43, 181, 0, 7, 177]
abbrev dktX10_init_0 : List UInt8 := dkwX10_init_0 ++ []
theorem dksX10_init_0 : cX10_init.data.toList.drop 0 = dktX10_init_0 := by decide +kernel
theorem dX10_init_0 : decode cX10_init 0 = .ok (.aload_n 0, 1) := dk_42 (dk_at dksX10_init_0 0 rfl rfl)
theorem dX10_init_1 : decode cX10_init 1 = .ok (.invokespecial 1, 3) := dk_183 0 1 (dk_at dksX10_init_0 1 rfl rfl)
theorem dX10_init_4 : decode cX10_init 4 = .ok (.aload_n 0, 1) := dk_42 (dk_at dksX10_init_0 4 rfl rfl)
theorem dX10_init_5 : decode cX10_init 5 = .ok (.aload_n 1, 1) := dk_43 (dk_at dksX10_init_0 5 rfl rfl)
theorem dX10_init_6 : decode cX10_init 6 = .ok (.putfield 7, 3) := dk_181 0 7 (dk_at dksX10_init_0 6 rfl rfl)
theorem dX10_init_9 : decode cX10_init 9 = .ok (.return_, 1) := dk_177 (dk_at dksX10_init_0 9 rfl rfl)
abbrev MX10_init : jjM := (yX10_init, cX10_init, 2, (Option.none : Option Jvm.ClassFile.FieldType))
theorem npX10_init : yX10_init.cls ≠ "java/lang/invoke/MethodHandle" ∧ yX10_init.cls ≠ "java/lang/invoke/VarHandle" ∧ (parseMethodDescriptor yX10_init.desc).map (fun d => d.parameters.length) = some 1 := by decide +kernel
abbrev cX11_init : ByteArray := prog_5_method_1_code
def yX11_init : MethodName := ⟨RX11, "<init>", "(ILSelfSorting$Sum;LSelfSorting$Sum;)V"⟩
def dkwX11_init_0 : List UInt8 := [42, 183, 0, 1, 42, 27, 181, 0, 7, 42, 44, 181, 0, 13, 42, 45, 181, 0, 17, 177]
abbrev dktX11_init_0 : List UInt8 := dkwX11_init_0 ++ []
theorem dksX11_init_0 : cX11_init.data.toList.drop 0 = dktX11_init_0 := by decide +kernel
theorem dX11_init_0 : decode cX11_init 0 = .ok (.aload_n 0, 1) := dk_42 (dk_at dksX11_init_0 0 rfl rfl)
theorem dX11_init_1 : decode cX11_init 1 = .ok (.invokespecial 1, 3) := dk_183 0 1 (dk_at dksX11_init_0 1 rfl rfl)
theorem dX11_init_4 : decode cX11_init 4 = .ok (.aload_n 0, 1) := dk_42 (dk_at dksX11_init_0 4 rfl rfl)
theorem dX11_init_5 : decode cX11_init 5 = .ok (.iload_n 1, 1) := dk_27 (dk_at dksX11_init_0 5 rfl rfl)
theorem dX11_init_6 : decode cX11_init 6 = .ok (.putfield 7, 3) := dk_181 0 7 (dk_at dksX11_init_0 6 rfl rfl)
theorem dX11_init_9 : decode cX11_init 9 = .ok (.aload_n 0, 1) := dk_42 (dk_at dksX11_init_0 9 rfl rfl)
theorem dX11_init_10 : decode cX11_init 10 = .ok (.aload_n 2, 1) := dk_44 (dk_at dksX11_init_0 10 rfl rfl)
theorem dX11_init_11 : decode cX11_init 11 = .ok (.putfield 13, 3) := dk_181 0 13 (dk_at dksX11_init_0 11 rfl rfl)
theorem dX11_init_14 : decode cX11_init 14 = .ok (.aload_n 0, 1) := dk_42 (dk_at dksX11_init_0 14 rfl rfl)
theorem dX11_init_15 : decode cX11_init 15 = .ok (.aload_n 3, 1) := dk_45 (dk_at dksX11_init_0 15 rfl rfl)
theorem dX11_init_16 : decode cX11_init 16 = .ok (.putfield 17, 3) := dk_181 0 17 (dk_at dksX11_init_0 16 rfl rfl)
theorem dX11_init_19 : decode cX11_init 19 = .ok (.return_, 1) := dk_177 (dk_at dksX11_init_0 19 rfl rfl)
abbrev MX11_init : jjM := (yX11_init, cX11_init, 4, (Option.none : Option Jvm.ClassFile.FieldType))
theorem npX11_init : yX11_init.cls ≠ "java/lang/invoke/MethodHandle" ∧ yX11_init.cls ≠ "java/lang/invoke/VarHandle" ∧ (parseMethodDescriptor yX11_init.desc).map (fun d => d.parameters.length) = some 3 := by decide +kernel
abbrev cX11_is : ByteArray := prog_5_method_2_code
def yX11_is : MethodName := ⟨RX11, "is", "([I)Z"⟩
def dkwX11_is_5 : List UInt8 := [32, 9, 148, 157, 0, 7, 4, 167, 0, 4, 3, 172, 32, 9, 148, 155, 0, 7, 4, 167, 0, 4, 3, 172]
abbrev dktX11_is_5 : List UInt8 := dkwX11_is_5 ++ []
def dkwX11_is_4 : List UInt8 := [32, 9, 148, 154, 0, 7, 4, 167, 0, 4, 3, 172, 32, 9, 148, 153, 0, 7, 4, 167, 0, 4, 3, 172]
abbrev dktX11_is_4 : List UInt8 := dkwX11_is_4 ++ dktX11_is_5
def dkwX11_is_3 : List UInt8 := [32, 9, 148, 156, 0, 7, 4, 167, 0, 4, 3, 172, 32, 9, 148, 158, 0, 7, 4, 167, 0, 4, 3, 172]
abbrev dktX11_is_3 : List UInt8 := dkwX11_is_3 ++ dktX11_is_4
def dkwX11_is_2 : List UInt8 := [171, 0, 0, 0, 0, 110, 0, 0, 0, 5, 0, 0, 0, 35, 0, 0, 0, 86, 0, 0, 0, 60, 0, 0, 0, 50, 0, 0, 0, 61, 0, 0, 0, 74, 0, 0, 0, 62, 0, 0, 0, 62, 0, 0, 1, 47, 0, 0, 0, 98]
abbrev dktX11_is_2 : List UInt8 := dkwX11_is_2 ++ dktX11_is_3
def dkwX11_is_1 : List UInt8 := [180, 0, 7]
abbrev dktX11_is_1 : List UInt8 := dkwX11_is_1 ++ dktX11_is_2
def dkwX11_is_0 : List UInt8 := [42, 180, 0, 13, 43, 185, 0, 20, 2, 0, 42, 180, 0, 17, 43, 185, 0, 20, 2, 0, 101, 65, 42]
abbrev dktX11_is_0 : List UInt8 := dkwX11_is_0 ++ dktX11_is_1
theorem dksX11_is_0 : cX11_is.data.toList.drop 0 = dktX11_is_0 := by decide +kernel
theorem dksX11_is_1 : cX11_is.data.toList.drop 23 = dktX11_is_1 := dk_seg dksX11_is_0 23 rfl rfl
theorem dksX11_is_2 : cX11_is.data.toList.drop 26 = dktX11_is_2 := dk_seg dksX11_is_1 3 rfl rfl
theorem dksX11_is_3 : cX11_is.data.toList.drop 76 = dktX11_is_3 := dk_seg dksX11_is_2 50 rfl rfl
theorem dksX11_is_4 : cX11_is.data.toList.drop 100 = dktX11_is_4 := dk_seg dksX11_is_3 24 rfl rfl
theorem dksX11_is_5 : cX11_is.data.toList.drop 124 = dktX11_is_5 := dk_seg dksX11_is_4 24 rfl rfl
theorem dX11_is_0 : decode cX11_is 0 = .ok (.aload_n 0, 1) := dk_42 (dk_at dksX11_is_0 0 rfl rfl)
theorem dX11_is_1 : decode cX11_is 1 = .ok (.getfield 13, 3) := dk_180 0 13 (dk_at dksX11_is_0 1 rfl rfl)
theorem dX11_is_4 : decode cX11_is 4 = .ok (.aload_n 1, 1) := dk_43 (dk_at dksX11_is_0 4 rfl rfl)
theorem dX11_is_5 : decode cX11_is 5 = .ok (.invokeinterface 20 2, 5) := by decide +kernel
theorem dX11_is_10 : decode cX11_is 10 = .ok (.aload_n 0, 1) := dk_42 (dk_at dksX11_is_0 10 rfl rfl)
theorem dX11_is_11 : decode cX11_is 11 = .ok (.getfield 17, 3) := dk_180 0 17 (dk_at dksX11_is_0 11 rfl rfl)
theorem dX11_is_14 : decode cX11_is 14 = .ok (.aload_n 1, 1) := dk_43 (dk_at dksX11_is_0 14 rfl rfl)
theorem dX11_is_15 : decode cX11_is 15 = .ok (.invokeinterface 20 2, 5) := by decide +kernel
theorem dX11_is_20 : decode cX11_is 20 = .ok (.lsub, 1) := dk_101 (dk_at dksX11_is_0 20 rfl rfl)
theorem dX11_is_21 : decode cX11_is 21 = .ok (.lstore_n 2, 1) := dk_65 (dk_at dksX11_is_0 21 rfl rfl)
theorem dX11_is_22 : decode cX11_is 22 = .ok (.aload_n 0, 1) := dk_42 (dk_at dksX11_is_0 22 rfl rfl)
theorem dX11_is_23 : decode cX11_is 23 = .ok (.getfield 7, 3) := dk_180 0 7 (dk_at dksX11_is_1 0 rfl rfl)
theorem dX11_is_26 : decode cX11_is 26 = .ok (.lookupswitch 110 #[(35, 86), (60, 50), (61, 74), (62, 62), (303, 98)], 50) := by decide +kernel
theorem dX11_is_76 : decode cX11_is 76 = .ok (.lload_n 2, 1) := dk_32 (dk_at dksX11_is_3 0 rfl rfl)
theorem dX11_is_77 : decode cX11_is 77 = .ok (.lconst 0, 1) := dk_9 (dk_at dksX11_is_3 1 rfl rfl)
theorem dX11_is_78 : decode cX11_is 78 = .ok (.lcmp, 1) := dk_148 (dk_at dksX11_is_3 2 rfl rfl)
theorem dX11_is_79 : decode cX11_is 79 = .ok (.ifCond .ge 7, 3) := dk_156 0 7 (dk_at dksX11_is_3 3 rfl rfl)
theorem dX11_is_82 : decode cX11_is 82 = .ok (.iconst 1, 1) := dk_4 (dk_at dksX11_is_3 6 rfl rfl)
theorem dX11_is_83 : decode cX11_is 83 = .ok (.goto 4, 3) := dk_167 0 4 (dk_at dksX11_is_3 7 rfl rfl)
theorem dX11_is_86 : decode cX11_is 86 = .ok (.iconst 0, 1) := dk_3 (dk_at dksX11_is_3 10 rfl rfl)
theorem dX11_is_87 : decode cX11_is 87 = .ok (.ireturn, 1) := dk_172 (dk_at dksX11_is_3 11 rfl rfl)
theorem dX11_is_88 : decode cX11_is 88 = .ok (.lload_n 2, 1) := dk_32 (dk_at dksX11_is_3 12 rfl rfl)
theorem dX11_is_89 : decode cX11_is 89 = .ok (.lconst 0, 1) := dk_9 (dk_at dksX11_is_3 13 rfl rfl)
theorem dX11_is_90 : decode cX11_is 90 = .ok (.lcmp, 1) := dk_148 (dk_at dksX11_is_3 14 rfl rfl)
theorem dX11_is_91 : decode cX11_is 91 = .ok (.ifCond .le 7, 3) := dk_158 0 7 (dk_at dksX11_is_3 15 rfl rfl)
theorem dX11_is_94 : decode cX11_is 94 = .ok (.iconst 1, 1) := dk_4 (dk_at dksX11_is_3 18 rfl rfl)
theorem dX11_is_95 : decode cX11_is 95 = .ok (.goto 4, 3) := dk_167 0 4 (dk_at dksX11_is_3 19 rfl rfl)
theorem dX11_is_98 : decode cX11_is 98 = .ok (.iconst 0, 1) := dk_3 (dk_at dksX11_is_3 22 rfl rfl)
theorem dX11_is_99 : decode cX11_is 99 = .ok (.ireturn, 1) := dk_172 (dk_at dksX11_is_3 23 rfl rfl)
theorem dX11_is_100 : decode cX11_is 100 = .ok (.lload_n 2, 1) := dk_32 (dk_at dksX11_is_4 0 rfl rfl)
theorem dX11_is_101 : decode cX11_is 101 = .ok (.lconst 0, 1) := dk_9 (dk_at dksX11_is_4 1 rfl rfl)
theorem dX11_is_102 : decode cX11_is 102 = .ok (.lcmp, 1) := dk_148 (dk_at dksX11_is_4 2 rfl rfl)
theorem dX11_is_103 : decode cX11_is 103 = .ok (.ifCond .ne 7, 3) := dk_154 0 7 (dk_at dksX11_is_4 3 rfl rfl)
theorem dX11_is_106 : decode cX11_is 106 = .ok (.iconst 1, 1) := dk_4 (dk_at dksX11_is_4 6 rfl rfl)
theorem dX11_is_107 : decode cX11_is 107 = .ok (.goto 4, 3) := dk_167 0 4 (dk_at dksX11_is_4 7 rfl rfl)
theorem dX11_is_110 : decode cX11_is 110 = .ok (.iconst 0, 1) := dk_3 (dk_at dksX11_is_4 10 rfl rfl)
theorem dX11_is_111 : decode cX11_is 111 = .ok (.ireturn, 1) := dk_172 (dk_at dksX11_is_4 11 rfl rfl)
theorem dX11_is_112 : decode cX11_is 112 = .ok (.lload_n 2, 1) := dk_32 (dk_at dksX11_is_4 12 rfl rfl)
theorem dX11_is_113 : decode cX11_is 113 = .ok (.lconst 0, 1) := dk_9 (dk_at dksX11_is_4 13 rfl rfl)
theorem dX11_is_114 : decode cX11_is 114 = .ok (.lcmp, 1) := dk_148 (dk_at dksX11_is_4 14 rfl rfl)
theorem dX11_is_115 : decode cX11_is 115 = .ok (.ifCond .eq 7, 3) := dk_153 0 7 (dk_at dksX11_is_4 15 rfl rfl)
theorem dX11_is_118 : decode cX11_is 118 = .ok (.iconst 1, 1) := dk_4 (dk_at dksX11_is_4 18 rfl rfl)
theorem dX11_is_119 : decode cX11_is 119 = .ok (.goto 4, 3) := dk_167 0 4 (dk_at dksX11_is_4 19 rfl rfl)
theorem dX11_is_122 : decode cX11_is 122 = .ok (.iconst 0, 1) := dk_3 (dk_at dksX11_is_4 22 rfl rfl)
theorem dX11_is_123 : decode cX11_is 123 = .ok (.ireturn, 1) := dk_172 (dk_at dksX11_is_4 23 rfl rfl)
theorem dX11_is_124 : decode cX11_is 124 = .ok (.lload_n 2, 1) := dk_32 (dk_at dksX11_is_5 0 rfl rfl)
theorem dX11_is_125 : decode cX11_is 125 = .ok (.lconst 0, 1) := dk_9 (dk_at dksX11_is_5 1 rfl rfl)
theorem dX11_is_126 : decode cX11_is 126 = .ok (.lcmp, 1) := dk_148 (dk_at dksX11_is_5 2 rfl rfl)
theorem dX11_is_127 : decode cX11_is 127 = .ok (.ifCond .gt 7, 3) := dk_157 0 7 (dk_at dksX11_is_5 3 rfl rfl)
theorem dX11_is_130 : decode cX11_is 130 = .ok (.iconst 1, 1) := dk_4 (dk_at dksX11_is_5 6 rfl rfl)
theorem dX11_is_131 : decode cX11_is 131 = .ok (.goto 4, 3) := dk_167 0 4 (dk_at dksX11_is_5 7 rfl rfl)
theorem dX11_is_134 : decode cX11_is 134 = .ok (.iconst 0, 1) := dk_3 (dk_at dksX11_is_5 10 rfl rfl)
theorem dX11_is_135 : decode cX11_is 135 = .ok (.ireturn, 1) := dk_172 (dk_at dksX11_is_5 11 rfl rfl)
theorem dX11_is_136 : decode cX11_is 136 = .ok (.lload_n 2, 1) := dk_32 (dk_at dksX11_is_5 12 rfl rfl)
theorem dX11_is_137 : decode cX11_is 137 = .ok (.lconst 0, 1) := dk_9 (dk_at dksX11_is_5 13 rfl rfl)
theorem dX11_is_138 : decode cX11_is 138 = .ok (.lcmp, 1) := dk_148 (dk_at dksX11_is_5 14 rfl rfl)
theorem dX11_is_139 : decode cX11_is 139 = .ok (.ifCond .lt 7, 3) := dk_155 0 7 (dk_at dksX11_is_5 15 rfl rfl)
theorem dX11_is_142 : decode cX11_is 142 = .ok (.iconst 1, 1) := dk_4 (dk_at dksX11_is_5 18 rfl rfl)
theorem dX11_is_143 : decode cX11_is 143 = .ok (.goto 4, 3) := dk_167 0 4 (dk_at dksX11_is_5 19 rfl rfl)
theorem dX11_is_146 : decode cX11_is 146 = .ok (.iconst 0, 1) := dk_3 (dk_at dksX11_is_5 22 rfl rfl)
theorem dX11_is_147 : decode cX11_is 147 = .ok (.ireturn, 1) := dk_172 (dk_at dksX11_is_5 23 rfl rfl)
abbrev MX11_is : jjM := (yX11_is, cX11_is, 4, (Option.some Jvm.ClassFile.FieldType.boolean))
theorem npX11_is : yX11_is.cls ≠ "java/lang/invoke/MethodHandle" ∧ yX11_is.cls ≠ "java/lang/invoke/VarHandle" ∧ (parseMethodDescriptor yX11_is.desc).map (fun d => d.parameters.length) = some 1 := by decide +kernel
abbrev cX12_init : ByteArray := prog_2_method_1_code
def yX12_init : MethodName := ⟨RX12, "<init>", "(ZLjava/util/ArrayList;)V"⟩
def dkwX12_init_0 : List UInt8 := [42, 183, 0, 1, 42, 27, 181, 0, 7, 42, 44, 181, 0, 13, 177]
abbrev dktX12_init_0 : List UInt8 := dkwX12_init_0 ++ []
theorem dksX12_init_0 : cX12_init.data.toList.drop 0 = dktX12_init_0 := by decide +kernel
theorem dX12_init_0 : decode cX12_init 0 = .ok (.aload_n 0, 1) := dk_42 (dk_at dksX12_init_0 0 rfl rfl)
theorem dX12_init_1 : decode cX12_init 1 = .ok (.invokespecial 1, 3) := dk_183 0 1 (dk_at dksX12_init_0 1 rfl rfl)
theorem dX12_init_4 : decode cX12_init 4 = .ok (.aload_n 0, 1) := dk_42 (dk_at dksX12_init_0 4 rfl rfl)
theorem dX12_init_5 : decode cX12_init 5 = .ok (.iload_n 1, 1) := dk_27 (dk_at dksX12_init_0 5 rfl rfl)
theorem dX12_init_6 : decode cX12_init 6 = .ok (.putfield 7, 3) := dk_181 0 7 (dk_at dksX12_init_0 6 rfl rfl)
theorem dX12_init_9 : decode cX12_init 9 = .ok (.aload_n 0, 1) := dk_42 (dk_at dksX12_init_0 9 rfl rfl)
theorem dX12_init_10 : decode cX12_init 10 = .ok (.aload_n 2, 1) := dk_44 (dk_at dksX12_init_0 10 rfl rfl)
theorem dX12_init_11 : decode cX12_init 11 = .ok (.putfield 13, 3) := dk_181 0 13 (dk_at dksX12_init_0 11 rfl rfl)
theorem dX12_init_14 : decode cX12_init 14 = .ok (.return_, 1) := dk_177 (dk_at dksX12_init_0 14 rfl rfl)
abbrev MX12_init : jjM := (yX12_init, cX12_init, 3, (Option.none : Option Jvm.ClassFile.FieldType))
theorem npX12_init : yX12_init.cls ≠ "java/lang/invoke/MethodHandle" ∧ yX12_init.cls ≠ "java/lang/invoke/VarHandle" ∧ (parseMethodDescriptor yX12_init.desc).map (fun d => d.parameters.length) = some 2 := by decide +kernel
abbrev cX12_is : ByteArray := prog_2_method_2_code
def yX12_is : MethodName := ⟨RX12, "is", "([I)Z"⟩
def dkwX12_is_3 : List UInt8 := [167, 0, 16, 3, 167, 0, 12, 28, 158, 0, 7, 4, 167, 0, 4, 3, 172]
abbrev dktX12_is_3 : List UInt8 := dkwX12_is_3 ++ []
def dkwX12_is_2 : List UInt8 := [167, 255, 214, 42, 180, 0, 7, 153, 0, 22, 28, 42, 180, 0, 13, 182, 0, 17, 160, 0, 7, 4]
abbrev dktX12_is_2 : List UInt8 := dkwX12_is_2 ++ dktX12_is_3
def dkwX12_is_1 : List UInt8 := [192, 0, 27, 43, 185, 0, 29, 2, 0, 153, 0, 7, 4, 167, 0, 4, 3, 96, 61, 132, 3, 1]
abbrev dktX12_is_1 : List UInt8 := dkwX12_is_1 ++ dktX12_is_2
def dkwX12_is_0 : List UInt8 := [3, 61, 3, 62, 29, 42, 180, 0, 13, 182, 0, 17, 162, 0, 37, 28, 42, 180, 0, 13, 29, 182, 0, 23]
abbrev dktX12_is_0 : List UInt8 := dkwX12_is_0 ++ dktX12_is_1
theorem dksX12_is_0 : cX12_is.data.toList.drop 0 = dktX12_is_0 := by decide +kernel
theorem dksX12_is_1 : cX12_is.data.toList.drop 24 = dktX12_is_1 := dk_seg dksX12_is_0 24 rfl rfl
theorem dksX12_is_2 : cX12_is.data.toList.drop 46 = dktX12_is_2 := dk_seg dksX12_is_1 22 rfl rfl
theorem dksX12_is_3 : cX12_is.data.toList.drop 68 = dktX12_is_3 := dk_seg dksX12_is_2 22 rfl rfl
theorem dX12_is_0 : decode cX12_is 0 = .ok (.iconst 0, 1) := dk_3 (dk_at dksX12_is_0 0 rfl rfl)
theorem dX12_is_1 : decode cX12_is 1 = .ok (.istore_n 2, 1) := dk_61 (dk_at dksX12_is_0 1 rfl rfl)
theorem dX12_is_2 : decode cX12_is 2 = .ok (.iconst 0, 1) := dk_3 (dk_at dksX12_is_0 2 rfl rfl)
theorem dX12_is_3 : decode cX12_is 3 = .ok (.istore_n 3, 1) := dk_62 (dk_at dksX12_is_0 3 rfl rfl)
theorem dX12_is_4 : decode cX12_is 4 = .ok (.iload_n 3, 1) := dk_29 (dk_at dksX12_is_0 4 rfl rfl)
theorem dX12_is_5 : decode cX12_is 5 = .ok (.aload_n 0, 1) := dk_42 (dk_at dksX12_is_0 5 rfl rfl)
theorem dX12_is_6 : decode cX12_is 6 = .ok (.getfield 13, 3) := dk_180 0 13 (dk_at dksX12_is_0 6 rfl rfl)
theorem dX12_is_9 : decode cX12_is 9 = .ok (.invokevirtual 17, 3) := dk_182 0 17 (dk_at dksX12_is_0 9 rfl rfl)
theorem dX12_is_12 : decode cX12_is 12 = .ok (.if_icmp .ge 37, 3) := dk_162 0 37 (dk_at dksX12_is_0 12 rfl rfl)
theorem dX12_is_15 : decode cX12_is 15 = .ok (.iload_n 2, 1) := dk_28 (dk_at dksX12_is_0 15 rfl rfl)
theorem dX12_is_16 : decode cX12_is 16 = .ok (.aload_n 0, 1) := dk_42 (dk_at dksX12_is_0 16 rfl rfl)
theorem dX12_is_17 : decode cX12_is 17 = .ok (.getfield 13, 3) := dk_180 0 13 (dk_at dksX12_is_0 17 rfl rfl)
theorem dX12_is_20 : decode cX12_is 20 = .ok (.iload_n 3, 1) := dk_29 (dk_at dksX12_is_0 20 rfl rfl)
theorem dX12_is_21 : decode cX12_is 21 = .ok (.invokevirtual 23, 3) := dk_182 0 23 (dk_at dksX12_is_0 21 rfl rfl)
theorem dX12_is_24 : decode cX12_is 24 = .ok (.checkcast 27, 3) := dk_192 0 27 (dk_at dksX12_is_1 0 rfl rfl)
theorem dX12_is_27 : decode cX12_is 27 = .ok (.aload_n 1, 1) := dk_43 (dk_at dksX12_is_1 3 rfl rfl)
theorem dX12_is_28 : decode cX12_is 28 = .ok (.invokeinterface 29 2, 5) := by decide +kernel
theorem dX12_is_33 : decode cX12_is 33 = .ok (.ifCond .eq 7, 3) := dk_153 0 7 (dk_at dksX12_is_1 9 rfl rfl)
theorem dX12_is_36 : decode cX12_is 36 = .ok (.iconst 1, 1) := dk_4 (dk_at dksX12_is_1 12 rfl rfl)
theorem dX12_is_37 : decode cX12_is 37 = .ok (.goto 4, 3) := dk_167 0 4 (dk_at dksX12_is_1 13 rfl rfl)
theorem dX12_is_40 : decode cX12_is 40 = .ok (.iconst 0, 1) := dk_3 (dk_at dksX12_is_1 16 rfl rfl)
theorem dX12_is_41 : decode cX12_is 41 = .ok (.iadd, 1) := dk_96 (dk_at dksX12_is_1 17 rfl rfl)
theorem dX12_is_42 : decode cX12_is 42 = .ok (.istore_n 2, 1) := dk_61 (dk_at dksX12_is_1 18 rfl rfl)
theorem dX12_is_43 : decode cX12_is 43 = .ok (.iinc 3 1, 3) := dk_132 3 1 (dk_at dksX12_is_1 19 rfl rfl)
theorem dX12_is_46 : decode cX12_is 46 = .ok (.goto (-42), 3) := dk_167 255 214 (dk_at dksX12_is_2 0 rfl rfl)
theorem dX12_is_49 : decode cX12_is 49 = .ok (.aload_n 0, 1) := dk_42 (dk_at dksX12_is_2 3 rfl rfl)
theorem dX12_is_50 : decode cX12_is 50 = .ok (.getfield 7, 3) := dk_180 0 7 (dk_at dksX12_is_2 4 rfl rfl)
theorem dX12_is_53 : decode cX12_is 53 = .ok (.ifCond .eq 22, 3) := dk_153 0 22 (dk_at dksX12_is_2 7 rfl rfl)
theorem dX12_is_56 : decode cX12_is 56 = .ok (.iload_n 2, 1) := dk_28 (dk_at dksX12_is_2 10 rfl rfl)
theorem dX12_is_57 : decode cX12_is 57 = .ok (.aload_n 0, 1) := dk_42 (dk_at dksX12_is_2 11 rfl rfl)
theorem dX12_is_58 : decode cX12_is 58 = .ok (.getfield 13, 3) := dk_180 0 13 (dk_at dksX12_is_2 12 rfl rfl)
theorem dX12_is_61 : decode cX12_is 61 = .ok (.invokevirtual 17, 3) := dk_182 0 17 (dk_at dksX12_is_2 15 rfl rfl)
theorem dX12_is_64 : decode cX12_is 64 = .ok (.if_icmp .ne 7, 3) := dk_160 0 7 (dk_at dksX12_is_2 18 rfl rfl)
theorem dX12_is_67 : decode cX12_is 67 = .ok (.iconst 1, 1) := dk_4 (dk_at dksX12_is_2 21 rfl rfl)
theorem dX12_is_68 : decode cX12_is 68 = .ok (.goto 16, 3) := dk_167 0 16 (dk_at dksX12_is_3 0 rfl rfl)
theorem dX12_is_71 : decode cX12_is 71 = .ok (.iconst 0, 1) := dk_3 (dk_at dksX12_is_3 3 rfl rfl)
theorem dX12_is_72 : decode cX12_is 72 = .ok (.goto 12, 3) := dk_167 0 12 (dk_at dksX12_is_3 4 rfl rfl)
theorem dX12_is_75 : decode cX12_is 75 = .ok (.iload_n 2, 1) := dk_28 (dk_at dksX12_is_3 7 rfl rfl)
theorem dX12_is_76 : decode cX12_is 76 = .ok (.ifCond .le 7, 3) := dk_158 0 7 (dk_at dksX12_is_3 8 rfl rfl)
theorem dX12_is_79 : decode cX12_is 79 = .ok (.iconst 1, 1) := dk_4 (dk_at dksX12_is_3 11 rfl rfl)
theorem dX12_is_80 : decode cX12_is 80 = .ok (.goto 4, 3) := dk_167 0 4 (dk_at dksX12_is_3 12 rfl rfl)
theorem dX12_is_83 : decode cX12_is 83 = .ok (.iconst 0, 1) := dk_3 (dk_at dksX12_is_3 15 rfl rfl)
theorem dX12_is_84 : decode cX12_is 84 = .ok (.ireturn, 1) := dk_172 (dk_at dksX12_is_3 16 rfl rfl)
abbrev MX12_is : jjM := (yX12_is, cX12_is, 4, (Option.some Jvm.ClassFile.FieldType.boolean))
theorem npX12_is : yX12_is.cls ≠ "java/lang/invoke/MethodHandle" ∧ yX12_is.cls ≠ "java/lang/invoke/VarHandle" ∧ (parseMethodDescriptor yX12_is.desc).map (fun d => d.parameters.length) = some 1 := by decide +kernel
abbrev cX13_init : ByteArray := prog_6_method_1_code
def yX13_init : MethodName := ⟨RX13, "<init>", "(IIIII)V"⟩
def dkwX13_init_1 : List UInt8 := [181, 0, 19, 42, 21, 5, 181, 0, 22, 177]
abbrev dktX13_init_1 : List UInt8 := dkwX13_init_1 ++ []
def dkwX13_init_0 : List UInt8 := [42, 183, 0, 1, 42, 27, 181, 0, 7, 42, 28, 181, 0, 13, 42, 29, 181, 0, 16, 42, 21, 4]
abbrev dktX13_init_0 : List UInt8 := dkwX13_init_0 ++ dktX13_init_1
theorem dksX13_init_0 : cX13_init.data.toList.drop 0 = dktX13_init_0 := by decide +kernel
theorem dksX13_init_1 : cX13_init.data.toList.drop 22 = dktX13_init_1 := dk_seg dksX13_init_0 22 rfl rfl
theorem dX13_init_0 : decode cX13_init 0 = .ok (.aload_n 0, 1) := dk_42 (dk_at dksX13_init_0 0 rfl rfl)
theorem dX13_init_1 : decode cX13_init 1 = .ok (.invokespecial 1, 3) := dk_183 0 1 (dk_at dksX13_init_0 1 rfl rfl)
theorem dX13_init_4 : decode cX13_init 4 = .ok (.aload_n 0, 1) := dk_42 (dk_at dksX13_init_0 4 rfl rfl)
theorem dX13_init_5 : decode cX13_init 5 = .ok (.iload_n 1, 1) := dk_27 (dk_at dksX13_init_0 5 rfl rfl)
theorem dX13_init_6 : decode cX13_init 6 = .ok (.putfield 7, 3) := dk_181 0 7 (dk_at dksX13_init_0 6 rfl rfl)
theorem dX13_init_9 : decode cX13_init 9 = .ok (.aload_n 0, 1) := dk_42 (dk_at dksX13_init_0 9 rfl rfl)
theorem dX13_init_10 : decode cX13_init 10 = .ok (.iload_n 2, 1) := dk_28 (dk_at dksX13_init_0 10 rfl rfl)
theorem dX13_init_11 : decode cX13_init 11 = .ok (.putfield 13, 3) := dk_181 0 13 (dk_at dksX13_init_0 11 rfl rfl)
theorem dX13_init_14 : decode cX13_init 14 = .ok (.aload_n 0, 1) := dk_42 (dk_at dksX13_init_0 14 rfl rfl)
theorem dX13_init_15 : decode cX13_init 15 = .ok (.iload_n 3, 1) := dk_29 (dk_at dksX13_init_0 15 rfl rfl)
theorem dX13_init_16 : decode cX13_init 16 = .ok (.putfield 16, 3) := dk_181 0 16 (dk_at dksX13_init_0 16 rfl rfl)
theorem dX13_init_19 : decode cX13_init 19 = .ok (.aload_n 0, 1) := dk_42 (dk_at dksX13_init_0 19 rfl rfl)
theorem dX13_init_20 : decode cX13_init 20 = .ok (.iload 4, 2) := dk_21 4 (dk_at dksX13_init_0 20 rfl rfl)
theorem dX13_init_22 : decode cX13_init 22 = .ok (.putfield 19, 3) := dk_181 0 19 (dk_at dksX13_init_1 0 rfl rfl)
theorem dX13_init_25 : decode cX13_init 25 = .ok (.aload_n 0, 1) := dk_42 (dk_at dksX13_init_1 3 rfl rfl)
theorem dX13_init_26 : decode cX13_init 26 = .ok (.iload 5, 2) := dk_21 5 (dk_at dksX13_init_1 4 rfl rfl)
theorem dX13_init_28 : decode cX13_init 28 = .ok (.putfield 22, 3) := dk_181 0 22 (dk_at dksX13_init_1 6 rfl rfl)
theorem dX13_init_31 : decode cX13_init 31 = .ok (.return_, 1) := dk_177 (dk_at dksX13_init_1 9 rfl rfl)
abbrev MX13_init : jjM := (yX13_init, cX13_init, 6, (Option.none : Option Jvm.ClassFile.FieldType))
theorem npX13_init : yX13_init.cls ≠ "java/lang/invoke/MethodHandle" ∧ yX13_init.cls ≠ "java/lang/invoke/VarHandle" ∧ (parseMethodDescriptor yX13_init.desc).map (fun d => d.parameters.length) = some 5 := by decide +kernel
abbrev cX13_sort : ByteArray := prog_6_method_5_code
def yX13_sort : MethodName := ⟨RX13, "sort", "()I"⟩
theorem dX13_sort_0 : decode cX13_sort 0 = .ok (.aload_n 0, 1) := by decide +kernel
theorem dX13_sort_1 : decode cX13_sort 1 = .ok (.getfield 7, 3) := by decide +kernel
theorem dX13_sort_4 : decode cX13_sort 4 = .ok (.ireturn, 1) := by decide +kernel
abbrev MX13_sort : jjM := (yX13_sort, cX13_sort, 1, (Option.some Jvm.ClassFile.FieldType.int))
theorem npX13_sort : yX13_sort.cls ≠ "java/lang/invoke/MethodHandle" ∧ yX13_sort.cls ≠ "java/lang/invoke/VarHandle" ∧ (parseMethodDescriptor yX13_sort.desc).map (fun d => d.parameters.length) = some 0 := by decide +kernel
abbrev cX13_a : ByteArray := prog_6_method_6_code
def yX13_a : MethodName := ⟨RX13, "a", "()I"⟩
theorem dX13_a_0 : decode cX13_a 0 = .ok (.aload_n 0, 1) := by decide +kernel
theorem dX13_a_1 : decode cX13_a 1 = .ok (.getfield 13, 3) := by decide +kernel
theorem dX13_a_4 : decode cX13_a 4 = .ok (.ireturn, 1) := by decide +kernel
abbrev MX13_a : jjM := (yX13_a, cX13_a, 1, (Option.some Jvm.ClassFile.FieldType.int))
theorem npX13_a : yX13_a.cls ≠ "java/lang/invoke/MethodHandle" ∧ yX13_a.cls ≠ "java/lang/invoke/VarHandle" ∧ (parseMethodDescriptor yX13_a.desc).map (fun d => d.parameters.length) = some 0 := by decide +kernel
abbrev cX13_b : ByteArray := prog_6_method_7_code
def yX13_b : MethodName := ⟨RX13, "b", "()I"⟩
theorem dX13_b_0 : decode cX13_b 0 = .ok (.aload_n 0, 1) := by decide +kernel
theorem dX13_b_1 : decode cX13_b 1 = .ok (.getfield 16, 3) := by decide +kernel
theorem dX13_b_4 : decode cX13_b 4 = .ok (.ireturn, 1) := by decide +kernel
abbrev MX13_b : jjM := (yX13_b, cX13_b, 1, (Option.some Jvm.ClassFile.FieldType.int))
theorem npX13_b : yX13_b.cls ≠ "java/lang/invoke/MethodHandle" ∧ yX13_b.cls ≠ "java/lang/invoke/VarHandle" ∧ (parseMethodDescriptor yX13_b.desc).map (fun d => d.parameters.length) = some 0 := by decide +kernel
abbrev cX13_c : ByteArray := prog_6_method_8_code
def yX13_c : MethodName := ⟨RX13, "c", "()I"⟩
theorem dX13_c_0 : decode cX13_c 0 = .ok (.aload_n 0, 1) := by decide +kernel
theorem dX13_c_1 : decode cX13_c 1 = .ok (.getfield 19, 3) := by decide +kernel
theorem dX13_c_4 : decode cX13_c 4 = .ok (.ireturn, 1) := by decide +kernel
abbrev MX13_c : jjM := (yX13_c, cX13_c, 1, (Option.some Jvm.ClassFile.FieldType.int))
theorem npX13_c : yX13_c.cls ≠ "java/lang/invoke/MethodHandle" ∧ yX13_c.cls ≠ "java/lang/invoke/VarHandle" ∧ (parseMethodDescriptor yX13_c.desc).map (fun d => d.parameters.length) = some 0 := by decide +kernel
abbrev cX13_number : ByteArray := prog_6_method_9_code
def yX13_number : MethodName := ⟨RX13, "number", "()I"⟩
theorem dX13_number_0 : decode cX13_number 0 = .ok (.aload_n 0, 1) := by decide +kernel
theorem dX13_number_1 : decode cX13_number 1 = .ok (.getfield 22, 3) := by decide +kernel
theorem dX13_number_4 : decode cX13_number 4 = .ok (.ireturn, 1) := by decide +kernel
abbrev MX13_number : jjM := (yX13_number, cX13_number, 1, (Option.some Jvm.ClassFile.FieldType.int))
theorem npX13_number : yX13_number.cls ≠ "java/lang/invoke/MethodHandle" ∧ yX13_number.cls ≠ "java/lang/invoke/VarHandle" ∧ (parseMethodDescriptor yX13_number.desc).map (fun d => d.parameters.length) = some 0 := by decide +kernel
abbrev cX2_init : ByteArray := prog_17_method_1_code
def yX2_init : MethodName := ⟨RX2, "<init>", "()V"⟩
def dkwX2_init_11 : List UInt8 := [42, 180, 0, 13, 184, 0, 85, 177]
abbrev dktX2_init_11 : List UInt8 := dkwX2_init_11 ++ []
def dkwX2_init_10 : List UInt8 := [162, 0, 20, 42, 180, 0, 7, 16, 10, 27, 96, 16, 30, 79, 132, 1, 1, 167, 255, 237, 42, 180, 0, 7]
abbrev dktX2_init_10 : List UInt8 := dkwX2_init_10 ++ dktX2_init_11
def dkwX2_init_9 : List UInt8 := [4, 79, 42, 180, 0, 7, 7, 16, 31, 79, 42, 180, 0, 7, 16, 6, 2, 79, 3, 60, 27, 6]
abbrev dktX2_init_9 : List UInt8 := dkwX2_init_9 ++ dktX2_init_10
def dkwX2_init_8 : List UInt8 := [181, 0, 76, 42, 16, 10, 188, 10, 181, 0, 79, 42, 16, 10, 188, 10, 181, 0, 82, 42, 180, 0, 7, 6]
abbrev dktX2_init_8 : List UInt8 := dkwX2_init_8 ++ dktX2_init_9
def dkwX2_init_7 : List UInt8 := [17, 2, 208, 188, 10, 181, 0, 70, 42, 17, 2, 208, 188, 10, 181, 0, 73, 42, 17, 2, 208, 188, 10]
abbrev dktX2_init_7 : List UInt8 := dkwX2_init_7 ++ dktX2_init_8
def dkwX2_init_6 : List UInt8 := [188, 10, 181, 0, 61, 42, 16, 6, 188, 10, 181, 0, 64, 42, 17, 2, 208, 188, 10, 181, 0, 67, 42]
abbrev dktX2_init_6 : List UInt8 := dkwX2_init_6 ++ dktX2_init_7
def dkwX2_init_5 : List UInt8 := [181, 0, 52, 42, 17, 5, 160, 188, 10, 181, 0, 55, 42, 17, 2, 208, 188, 4, 181, 0, 58, 42, 16, 10]
abbrev dktX2_init_5 : List UInt8 := dkwX2_init_5 ++ dktX2_init_6
def dkwX2_init_4 : List UInt8 := [16, 10, 188, 10, 181, 0, 46, 42, 17, 1, 245, 188, 11, 181, 0, 49, 42, 17, 16, 224, 188, 10]
abbrev dktX2_init_4 : List UInt8 := dkwX2_init_4 ++ dktX2_init_5
def dkwX2_init_3 : List UInt8 := [188, 11, 181, 0, 35, 42, 17, 1, 74, 188, 4, 181, 0, 39, 42, 16, 100, 188, 4, 181, 0, 43, 42]
abbrev dktX2_init_3 : List UInt8 := dkwX2_init_3 ++ dktX2_init_4
def dkwX2_init_2 : List UInt8 := [181, 0, 26, 42, 17, 0, 160, 188, 10, 181, 0, 29, 42, 16, 15, 188, 10, 181, 0, 32, 42, 17, 1, 74]
abbrev dktX2_init_2 : List UInt8 := dkwX2_init_2 ++ dktX2_init_3
def dkwX2_init_1 : List UInt8 := [17, 11, 4, 188, 10, 181, 0, 16, 42, 17, 1, 44, 188, 10, 181, 0, 19, 42, 2, 181, 0, 22, 42, 2]
abbrev dktX2_init_1 : List UInt8 := dkwX2_init_1 ++ dktX2_init_2
def dkwX2_init_0 : List UInt8 := [42, 183, 0, 1, 42, 17, 14, 58, 188, 10, 181, 0, 7, 42, 17, 14, 58, 188, 10, 181, 0, 13, 42]
abbrev dktX2_init_0 : List UInt8 := dkwX2_init_0 ++ dktX2_init_1
theorem dksX2_init_0 : cX2_init.data.toList.drop 0 = dktX2_init_0 := by decide +kernel
theorem dksX2_init_1 : cX2_init.data.toList.drop 23 = dktX2_init_1 := dk_seg dksX2_init_0 23 rfl rfl
theorem dksX2_init_2 : cX2_init.data.toList.drop 47 = dktX2_init_2 := dk_seg dksX2_init_1 24 rfl rfl
theorem dksX2_init_3 : cX2_init.data.toList.drop 71 = dktX2_init_3 := dk_seg dksX2_init_2 24 rfl rfl
theorem dksX2_init_4 : cX2_init.data.toList.drop 94 = dktX2_init_4 := dk_seg dksX2_init_3 23 rfl rfl
theorem dksX2_init_5 : cX2_init.data.toList.drop 116 = dktX2_init_5 := dk_seg dksX2_init_4 22 rfl rfl
theorem dksX2_init_6 : cX2_init.data.toList.drop 140 = dktX2_init_6 := dk_seg dksX2_init_5 24 rfl rfl
theorem dksX2_init_7 : cX2_init.data.toList.drop 163 = dktX2_init_7 := dk_seg dksX2_init_6 23 rfl rfl
theorem dksX2_init_8 : cX2_init.data.toList.drop 186 = dktX2_init_8 := dk_seg dksX2_init_7 23 rfl rfl
theorem dksX2_init_9 : cX2_init.data.toList.drop 210 = dktX2_init_9 := dk_seg dksX2_init_8 24 rfl rfl
theorem dksX2_init_10 : cX2_init.data.toList.drop 232 = dktX2_init_10 := dk_seg dksX2_init_9 22 rfl rfl
theorem dksX2_init_11 : cX2_init.data.toList.drop 256 = dktX2_init_11 := dk_seg dksX2_init_10 24 rfl rfl
theorem dX2_init_0 : decode cX2_init 0 = .ok (.aload_n 0, 1) := dk_42 (dk_at dksX2_init_0 0 rfl rfl)
theorem dX2_init_1 : decode cX2_init 1 = .ok (.invokespecial 1, 3) := dk_183 0 1 (dk_at dksX2_init_0 1 rfl rfl)
theorem dX2_init_4 : decode cX2_init 4 = .ok (.aload_n 0, 1) := dk_42 (dk_at dksX2_init_0 4 rfl rfl)
theorem dX2_init_5 : decode cX2_init 5 = .ok (.sipush 3642, 3) := dk_17 14 58 (dk_at dksX2_init_0 5 rfl rfl)
theorem dX2_init_8 : decode cX2_init 8 = .ok (.newarray .int, 2) := dk_188_10 (dk_at dksX2_init_0 8 rfl rfl)
theorem dX2_init_10 : decode cX2_init 10 = .ok (.putfield 7, 3) := dk_181 0 7 (dk_at dksX2_init_0 10 rfl rfl)
theorem dX2_init_13 : decode cX2_init 13 = .ok (.aload_n 0, 1) := dk_42 (dk_at dksX2_init_0 13 rfl rfl)
theorem dX2_init_14 : decode cX2_init 14 = .ok (.sipush 3642, 3) := dk_17 14 58 (dk_at dksX2_init_0 14 rfl rfl)
theorem dX2_init_17 : decode cX2_init 17 = .ok (.newarray .int, 2) := dk_188_10 (dk_at dksX2_init_0 17 rfl rfl)
theorem dX2_init_19 : decode cX2_init 19 = .ok (.putfield 13, 3) := dk_181 0 13 (dk_at dksX2_init_0 19 rfl rfl)
theorem dX2_init_22 : decode cX2_init 22 = .ok (.aload_n 0, 1) := dk_42 (dk_at dksX2_init_0 22 rfl rfl)
theorem dX2_init_23 : decode cX2_init 23 = .ok (.sipush 2820, 3) := dk_17 11 4 (dk_at dksX2_init_1 0 rfl rfl)
theorem dX2_init_26 : decode cX2_init 26 = .ok (.newarray .int, 2) := dk_188_10 (dk_at dksX2_init_1 3 rfl rfl)
theorem dX2_init_28 : decode cX2_init 28 = .ok (.putfield 16, 3) := dk_181 0 16 (dk_at dksX2_init_1 5 rfl rfl)
theorem dX2_init_31 : decode cX2_init 31 = .ok (.aload_n 0, 1) := dk_42 (dk_at dksX2_init_1 8 rfl rfl)
theorem dX2_init_32 : decode cX2_init 32 = .ok (.sipush 300, 3) := dk_17 1 44 (dk_at dksX2_init_1 9 rfl rfl)
theorem dX2_init_35 : decode cX2_init 35 = .ok (.newarray .int, 2) := dk_188_10 (dk_at dksX2_init_1 12 rfl rfl)
theorem dX2_init_37 : decode cX2_init 37 = .ok (.putfield 19, 3) := dk_181 0 19 (dk_at dksX2_init_1 14 rfl rfl)
theorem dX2_init_40 : decode cX2_init 40 = .ok (.aload_n 0, 1) := dk_42 (dk_at dksX2_init_1 17 rfl rfl)
theorem dX2_init_41 : decode cX2_init 41 = .ok (.iconst (-1), 1) := dk_2 (dk_at dksX2_init_1 18 rfl rfl)
theorem dX2_init_42 : decode cX2_init 42 = .ok (.putfield 22, 3) := dk_181 0 22 (dk_at dksX2_init_1 19 rfl rfl)
theorem dX2_init_45 : decode cX2_init 45 = .ok (.aload_n 0, 1) := dk_42 (dk_at dksX2_init_1 22 rfl rfl)
theorem dX2_init_46 : decode cX2_init 46 = .ok (.iconst (-1), 1) := dk_2 (dk_at dksX2_init_1 23 rfl rfl)
theorem dX2_init_47 : decode cX2_init 47 = .ok (.putfield 26, 3) := dk_181 0 26 (dk_at dksX2_init_2 0 rfl rfl)
theorem dX2_init_50 : decode cX2_init 50 = .ok (.aload_n 0, 1) := dk_42 (dk_at dksX2_init_2 3 rfl rfl)
theorem dX2_init_51 : decode cX2_init 51 = .ok (.sipush 160, 3) := dk_17 0 160 (dk_at dksX2_init_2 4 rfl rfl)
theorem dX2_init_54 : decode cX2_init 54 = .ok (.newarray .int, 2) := dk_188_10 (dk_at dksX2_init_2 7 rfl rfl)
theorem dX2_init_56 : decode cX2_init 56 = .ok (.putfield 29, 3) := dk_181 0 29 (dk_at dksX2_init_2 9 rfl rfl)
theorem dX2_init_59 : decode cX2_init 59 = .ok (.aload_n 0, 1) := dk_42 (dk_at dksX2_init_2 12 rfl rfl)
theorem dX2_init_60 : decode cX2_init 60 = .ok (.bipush 15, 2) := dk_16 15 (dk_at dksX2_init_2 13 rfl rfl)
theorem dX2_init_62 : decode cX2_init 62 = .ok (.newarray .int, 2) := dk_188_10 (dk_at dksX2_init_2 15 rfl rfl)
theorem dX2_init_64 : decode cX2_init 64 = .ok (.putfield 32, 3) := dk_181 0 32 (dk_at dksX2_init_2 17 rfl rfl)
theorem dX2_init_67 : decode cX2_init 67 = .ok (.aload_n 0, 1) := dk_42 (dk_at dksX2_init_2 20 rfl rfl)
theorem dX2_init_68 : decode cX2_init 68 = .ok (.sipush 330, 3) := dk_17 1 74 (dk_at dksX2_init_2 21 rfl rfl)
theorem dX2_init_71 : decode cX2_init 71 = .ok (.newarray .long, 2) := dk_188_11 (dk_at dksX2_init_3 0 rfl rfl)
theorem dX2_init_73 : decode cX2_init 73 = .ok (.putfield 35, 3) := dk_181 0 35 (dk_at dksX2_init_3 2 rfl rfl)
theorem dX2_init_76 : decode cX2_init 76 = .ok (.aload_n 0, 1) := dk_42 (dk_at dksX2_init_3 5 rfl rfl)
theorem dX2_init_77 : decode cX2_init 77 = .ok (.sipush 330, 3) := dk_17 1 74 (dk_at dksX2_init_3 6 rfl rfl)
theorem dX2_init_80 : decode cX2_init 80 = .ok (.newarray .boolean, 2) := dk_188_4 (dk_at dksX2_init_3 9 rfl rfl)
theorem dX2_init_82 : decode cX2_init 82 = .ok (.putfield 39, 3) := dk_181 0 39 (dk_at dksX2_init_3 11 rfl rfl)
theorem dX2_init_85 : decode cX2_init 85 = .ok (.aload_n 0, 1) := dk_42 (dk_at dksX2_init_3 14 rfl rfl)
theorem dX2_init_86 : decode cX2_init 86 = .ok (.bipush 100, 2) := dk_16 100 (dk_at dksX2_init_3 15 rfl rfl)
theorem dX2_init_88 : decode cX2_init 88 = .ok (.newarray .boolean, 2) := dk_188_4 (dk_at dksX2_init_3 17 rfl rfl)
theorem dX2_init_90 : decode cX2_init 90 = .ok (.putfield 43, 3) := dk_181 0 43 (dk_at dksX2_init_3 19 rfl rfl)
theorem dX2_init_93 : decode cX2_init 93 = .ok (.aload_n 0, 1) := dk_42 (dk_at dksX2_init_3 22 rfl rfl)
theorem dX2_init_94 : decode cX2_init 94 = .ok (.bipush 10, 2) := dk_16 10 (dk_at dksX2_init_4 0 rfl rfl)
theorem dX2_init_96 : decode cX2_init 96 = .ok (.newarray .int, 2) := dk_188_10 (dk_at dksX2_init_4 2 rfl rfl)
theorem dX2_init_98 : decode cX2_init 98 = .ok (.putfield 46, 3) := dk_181 0 46 (dk_at dksX2_init_4 4 rfl rfl)
theorem dX2_init_101 : decode cX2_init 101 = .ok (.aload_n 0, 1) := dk_42 (dk_at dksX2_init_4 7 rfl rfl)
theorem dX2_init_102 : decode cX2_init 102 = .ok (.sipush 501, 3) := dk_17 1 245 (dk_at dksX2_init_4 8 rfl rfl)
theorem dX2_init_105 : decode cX2_init 105 = .ok (.newarray .long, 2) := dk_188_11 (dk_at dksX2_init_4 11 rfl rfl)
theorem dX2_init_107 : decode cX2_init 107 = .ok (.putfield 49, 3) := dk_181 0 49 (dk_at dksX2_init_4 13 rfl rfl)
theorem dX2_init_110 : decode cX2_init 110 = .ok (.aload_n 0, 1) := dk_42 (dk_at dksX2_init_4 16 rfl rfl)
theorem dX2_init_111 : decode cX2_init 111 = .ok (.sipush 4320, 3) := dk_17 16 224 (dk_at dksX2_init_4 17 rfl rfl)
theorem dX2_init_114 : decode cX2_init 114 = .ok (.newarray .int, 2) := dk_188_10 (dk_at dksX2_init_4 20 rfl rfl)
theorem dX2_init_116 : decode cX2_init 116 = .ok (.putfield 52, 3) := dk_181 0 52 (dk_at dksX2_init_5 0 rfl rfl)
theorem dX2_init_119 : decode cX2_init 119 = .ok (.aload_n 0, 1) := dk_42 (dk_at dksX2_init_5 3 rfl rfl)
theorem dX2_init_120 : decode cX2_init 120 = .ok (.sipush 1440, 3) := dk_17 5 160 (dk_at dksX2_init_5 4 rfl rfl)
theorem dX2_init_123 : decode cX2_init 123 = .ok (.newarray .int, 2) := dk_188_10 (dk_at dksX2_init_5 7 rfl rfl)
theorem dX2_init_125 : decode cX2_init 125 = .ok (.putfield 55, 3) := dk_181 0 55 (dk_at dksX2_init_5 9 rfl rfl)
theorem dX2_init_128 : decode cX2_init 128 = .ok (.aload_n 0, 1) := dk_42 (dk_at dksX2_init_5 12 rfl rfl)
theorem dX2_init_129 : decode cX2_init 129 = .ok (.sipush 720, 3) := dk_17 2 208 (dk_at dksX2_init_5 13 rfl rfl)
theorem dX2_init_132 : decode cX2_init 132 = .ok (.newarray .boolean, 2) := dk_188_4 (dk_at dksX2_init_5 16 rfl rfl)
theorem dX2_init_134 : decode cX2_init 134 = .ok (.putfield 58, 3) := dk_181 0 58 (dk_at dksX2_init_5 18 rfl rfl)
theorem dX2_init_137 : decode cX2_init 137 = .ok (.aload_n 0, 1) := dk_42 (dk_at dksX2_init_5 21 rfl rfl)
theorem dX2_init_138 : decode cX2_init 138 = .ok (.bipush 10, 2) := dk_16 10 (dk_at dksX2_init_5 22 rfl rfl)
theorem dX2_init_140 : decode cX2_init 140 = .ok (.newarray .int, 2) := dk_188_10 (dk_at dksX2_init_6 0 rfl rfl)
theorem dX2_init_142 : decode cX2_init 142 = .ok (.putfield 61, 3) := dk_181 0 61 (dk_at dksX2_init_6 2 rfl rfl)
theorem dX2_init_145 : decode cX2_init 145 = .ok (.aload_n 0, 1) := dk_42 (dk_at dksX2_init_6 5 rfl rfl)
theorem dX2_init_146 : decode cX2_init 146 = .ok (.bipush 6, 2) := dk_16 6 (dk_at dksX2_init_6 6 rfl rfl)
theorem dX2_init_148 : decode cX2_init 148 = .ok (.newarray .int, 2) := dk_188_10 (dk_at dksX2_init_6 8 rfl rfl)
theorem dX2_init_150 : decode cX2_init 150 = .ok (.putfield 64, 3) := dk_181 0 64 (dk_at dksX2_init_6 10 rfl rfl)
theorem dX2_init_153 : decode cX2_init 153 = .ok (.aload_n 0, 1) := dk_42 (dk_at dksX2_init_6 13 rfl rfl)
theorem dX2_init_154 : decode cX2_init 154 = .ok (.sipush 720, 3) := dk_17 2 208 (dk_at dksX2_init_6 14 rfl rfl)
theorem dX2_init_157 : decode cX2_init 157 = .ok (.newarray .int, 2) := dk_188_10 (dk_at dksX2_init_6 17 rfl rfl)
theorem dX2_init_159 : decode cX2_init 159 = .ok (.putfield 67, 3) := dk_181 0 67 (dk_at dksX2_init_6 19 rfl rfl)
theorem dX2_init_162 : decode cX2_init 162 = .ok (.aload_n 0, 1) := dk_42 (dk_at dksX2_init_6 22 rfl rfl)
theorem dX2_init_163 : decode cX2_init 163 = .ok (.sipush 720, 3) := dk_17 2 208 (dk_at dksX2_init_7 0 rfl rfl)
theorem dX2_init_166 : decode cX2_init 166 = .ok (.newarray .int, 2) := dk_188_10 (dk_at dksX2_init_7 3 rfl rfl)
theorem dX2_init_168 : decode cX2_init 168 = .ok (.putfield 70, 3) := dk_181 0 70 (dk_at dksX2_init_7 5 rfl rfl)
theorem dX2_init_171 : decode cX2_init 171 = .ok (.aload_n 0, 1) := dk_42 (dk_at dksX2_init_7 8 rfl rfl)
theorem dX2_init_172 : decode cX2_init 172 = .ok (.sipush 720, 3) := dk_17 2 208 (dk_at dksX2_init_7 9 rfl rfl)
theorem dX2_init_175 : decode cX2_init 175 = .ok (.newarray .int, 2) := dk_188_10 (dk_at dksX2_init_7 12 rfl rfl)
theorem dX2_init_177 : decode cX2_init 177 = .ok (.putfield 73, 3) := dk_181 0 73 (dk_at dksX2_init_7 14 rfl rfl)
theorem dX2_init_180 : decode cX2_init 180 = .ok (.aload_n 0, 1) := dk_42 (dk_at dksX2_init_7 17 rfl rfl)
theorem dX2_init_181 : decode cX2_init 181 = .ok (.sipush 720, 3) := dk_17 2 208 (dk_at dksX2_init_7 18 rfl rfl)
theorem dX2_init_184 : decode cX2_init 184 = .ok (.newarray .int, 2) := dk_188_10 (dk_at dksX2_init_7 21 rfl rfl)
theorem dX2_init_186 : decode cX2_init 186 = .ok (.putfield 76, 3) := dk_181 0 76 (dk_at dksX2_init_8 0 rfl rfl)
theorem dX2_init_189 : decode cX2_init 189 = .ok (.aload_n 0, 1) := dk_42 (dk_at dksX2_init_8 3 rfl rfl)
theorem dX2_init_190 : decode cX2_init 190 = .ok (.bipush 10, 2) := dk_16 10 (dk_at dksX2_init_8 4 rfl rfl)
theorem dX2_init_192 : decode cX2_init 192 = .ok (.newarray .int, 2) := dk_188_10 (dk_at dksX2_init_8 6 rfl rfl)
theorem dX2_init_194 : decode cX2_init 194 = .ok (.putfield 79, 3) := dk_181 0 79 (dk_at dksX2_init_8 8 rfl rfl)
theorem dX2_init_197 : decode cX2_init 197 = .ok (.aload_n 0, 1) := dk_42 (dk_at dksX2_init_8 11 rfl rfl)
theorem dX2_init_198 : decode cX2_init 198 = .ok (.bipush 10, 2) := dk_16 10 (dk_at dksX2_init_8 12 rfl rfl)
theorem dX2_init_200 : decode cX2_init 200 = .ok (.newarray .int, 2) := dk_188_10 (dk_at dksX2_init_8 14 rfl rfl)
theorem dX2_init_202 : decode cX2_init 202 = .ok (.putfield 82, 3) := dk_181 0 82 (dk_at dksX2_init_8 16 rfl rfl)
theorem dX2_init_205 : decode cX2_init 205 = .ok (.aload_n 0, 1) := dk_42 (dk_at dksX2_init_8 19 rfl rfl)
theorem dX2_init_206 : decode cX2_init 206 = .ok (.getfield 7, 3) := dk_180 0 7 (dk_at dksX2_init_8 20 rfl rfl)
theorem dX2_init_209 : decode cX2_init 209 = .ok (.iconst 3, 1) := dk_6 (dk_at dksX2_init_8 23 rfl rfl)
theorem dX2_init_210 : decode cX2_init 210 = .ok (.iconst 1, 1) := dk_4 (dk_at dksX2_init_9 0 rfl rfl)
theorem dX2_init_211 : decode cX2_init 211 = .ok (.iastore, 1) := dk_79 (dk_at dksX2_init_9 1 rfl rfl)
theorem dX2_init_212 : decode cX2_init 212 = .ok (.aload_n 0, 1) := dk_42 (dk_at dksX2_init_9 2 rfl rfl)
theorem dX2_init_213 : decode cX2_init 213 = .ok (.getfield 7, 3) := dk_180 0 7 (dk_at dksX2_init_9 3 rfl rfl)
theorem dX2_init_216 : decode cX2_init 216 = .ok (.iconst 4, 1) := dk_7 (dk_at dksX2_init_9 6 rfl rfl)
theorem dX2_init_217 : decode cX2_init 217 = .ok (.bipush 31, 2) := dk_16 31 (dk_at dksX2_init_9 7 rfl rfl)
theorem dX2_init_219 : decode cX2_init 219 = .ok (.iastore, 1) := dk_79 (dk_at dksX2_init_9 9 rfl rfl)
theorem dX2_init_220 : decode cX2_init 220 = .ok (.aload_n 0, 1) := dk_42 (dk_at dksX2_init_9 10 rfl rfl)
theorem dX2_init_221 : decode cX2_init 221 = .ok (.getfield 7, 3) := dk_180 0 7 (dk_at dksX2_init_9 11 rfl rfl)
theorem dX2_init_224 : decode cX2_init 224 = .ok (.bipush 6, 2) := dk_16 6 (dk_at dksX2_init_9 14 rfl rfl)
theorem dX2_init_226 : decode cX2_init 226 = .ok (.iconst (-1), 1) := dk_2 (dk_at dksX2_init_9 16 rfl rfl)
theorem dX2_init_227 : decode cX2_init 227 = .ok (.iastore, 1) := dk_79 (dk_at dksX2_init_9 17 rfl rfl)
theorem dX2_init_228 : decode cX2_init 228 = .ok (.iconst 0, 1) := dk_3 (dk_at dksX2_init_9 18 rfl rfl)
theorem dX2_init_229 : decode cX2_init 229 = .ok (.istore_n 1, 1) := dk_60 (dk_at dksX2_init_9 19 rfl rfl)
theorem dX2_init_230 : decode cX2_init 230 = .ok (.iload_n 1, 1) := dk_27 (dk_at dksX2_init_9 20 rfl rfl)
theorem dX2_init_231 : decode cX2_init 231 = .ok (.iconst 3, 1) := dk_6 (dk_at dksX2_init_9 21 rfl rfl)
theorem dX2_init_232 : decode cX2_init 232 = .ok (.if_icmp .ge 20, 3) := dk_162 0 20 (dk_at dksX2_init_10 0 rfl rfl)
theorem dX2_init_235 : decode cX2_init 235 = .ok (.aload_n 0, 1) := dk_42 (dk_at dksX2_init_10 3 rfl rfl)
theorem dX2_init_236 : decode cX2_init 236 = .ok (.getfield 7, 3) := dk_180 0 7 (dk_at dksX2_init_10 4 rfl rfl)
theorem dX2_init_239 : decode cX2_init 239 = .ok (.bipush 10, 2) := dk_16 10 (dk_at dksX2_init_10 7 rfl rfl)
theorem dX2_init_241 : decode cX2_init 241 = .ok (.iload_n 1, 1) := dk_27 (dk_at dksX2_init_10 9 rfl rfl)
theorem dX2_init_242 : decode cX2_init 242 = .ok (.iadd, 1) := dk_96 (dk_at dksX2_init_10 10 rfl rfl)
theorem dX2_init_243 : decode cX2_init 243 = .ok (.bipush 30, 2) := dk_16 30 (dk_at dksX2_init_10 11 rfl rfl)
theorem dX2_init_245 : decode cX2_init 245 = .ok (.iastore, 1) := dk_79 (dk_at dksX2_init_10 13 rfl rfl)
theorem dX2_init_246 : decode cX2_init 246 = .ok (.iinc 1 1, 3) := dk_132 1 1 (dk_at dksX2_init_10 14 rfl rfl)
theorem dX2_init_249 : decode cX2_init 249 = .ok (.goto (-19), 3) := dk_167 255 237 (dk_at dksX2_init_10 17 rfl rfl)
theorem dX2_init_252 : decode cX2_init 252 = .ok (.aload_n 0, 1) := dk_42 (dk_at dksX2_init_10 20 rfl rfl)
theorem dX2_init_253 : decode cX2_init 253 = .ok (.getfield 7, 3) := dk_180 0 7 (dk_at dksX2_init_10 21 rfl rfl)
theorem dX2_init_256 : decode cX2_init 256 = .ok (.aload_n 0, 1) := dk_42 (dk_at dksX2_init_11 0 rfl rfl)
theorem dX2_init_257 : decode cX2_init 257 = .ok (.getfield 13, 3) := dk_180 0 13 (dk_at dksX2_init_11 1 rfl rfl)
theorem dX2_init_260 : decode cX2_init 260 = .ok (.invokestatic 85, 3) := dk_184 0 85 (dk_at dksX2_init_11 4 rfl rfl)
theorem dX2_init_263 : decode cX2_init 263 = .ok (.return_, 1) := dk_177 (dk_at dksX2_init_11 7 rfl rfl)
abbrev MX2_init : jjM := (yX2_init, cX2_init, 2, (Option.none : Option Jvm.ClassFile.FieldType))
theorem npX2_init : yX2_init.cls ≠ "java/lang/invoke/MethodHandle" ∧ yX2_init.cls ≠ "java/lang/invoke/VarHandle" ∧ (parseMethodDescriptor yX2_init.desc).map (fun d => d.parameters.length) = some 0 := by decide +kernel
abbrev cX2_copy : ByteArray := prog_17_method_2_code
def yX2_copy : MethodName := ⟨RX2, "copy", "([I[I)V"⟩
def dkwX2_copy_0 : List UInt8 := [3, 61, 28, 17, 14, 58, 162, 0, 15, 43, 28, 42, 28, 46, 79, 132, 2, 1, 167, 255, 240, 177]
abbrev dktX2_copy_0 : List UInt8 := dkwX2_copy_0 ++ []
theorem dksX2_copy_0 : cX2_copy.data.toList.drop 0 = dktX2_copy_0 := by decide +kernel
theorem dX2_copy_0 : decode cX2_copy 0 = .ok (.iconst 0, 1) := dk_3 (dk_at dksX2_copy_0 0 rfl rfl)
theorem dX2_copy_1 : decode cX2_copy 1 = .ok (.istore_n 2, 1) := dk_61 (dk_at dksX2_copy_0 1 rfl rfl)
theorem dX2_copy_2 : decode cX2_copy 2 = .ok (.iload_n 2, 1) := dk_28 (dk_at dksX2_copy_0 2 rfl rfl)
theorem dX2_copy_3 : decode cX2_copy 3 = .ok (.sipush 3642, 3) := dk_17 14 58 (dk_at dksX2_copy_0 3 rfl rfl)
theorem dX2_copy_6 : decode cX2_copy 6 = .ok (.if_icmp .ge 15, 3) := dk_162 0 15 (dk_at dksX2_copy_0 6 rfl rfl)
theorem dX2_copy_9 : decode cX2_copy 9 = .ok (.aload_n 1, 1) := dk_43 (dk_at dksX2_copy_0 9 rfl rfl)
theorem dX2_copy_10 : decode cX2_copy 10 = .ok (.iload_n 2, 1) := dk_28 (dk_at dksX2_copy_0 10 rfl rfl)
theorem dX2_copy_11 : decode cX2_copy 11 = .ok (.aload_n 0, 1) := dk_42 (dk_at dksX2_copy_0 11 rfl rfl)
theorem dX2_copy_12 : decode cX2_copy 12 = .ok (.iload_n 2, 1) := dk_28 (dk_at dksX2_copy_0 12 rfl rfl)
theorem dX2_copy_13 : decode cX2_copy 13 = .ok (.iaload, 1) := dk_46 (dk_at dksX2_copy_0 13 rfl rfl)
theorem dX2_copy_14 : decode cX2_copy 14 = .ok (.iastore, 1) := dk_79 (dk_at dksX2_copy_0 14 rfl rfl)
theorem dX2_copy_15 : decode cX2_copy 15 = .ok (.iinc 2 1, 3) := dk_132 2 1 (dk_at dksX2_copy_0 15 rfl rfl)
theorem dX2_copy_18 : decode cX2_copy 18 = .ok (.goto (-16), 3) := dk_167 255 240 (dk_at dksX2_copy_0 18 rfl rfl)
theorem dX2_copy_21 : decode cX2_copy 21 = .ok (.return_, 1) := dk_177 (dk_at dksX2_copy_0 21 rfl rfl)
abbrev MX2_copy : jjM := (yX2_copy, cX2_copy, 3, (Option.none : Option Jvm.ClassFile.FieldType))
theorem npX2_copy : yX2_copy.cls ≠ "java/lang/invoke/MethodHandle" ∧ yX2_copy.cls ≠ "java/lang/invoke/VarHandle" ∧ (parseMethodDescriptor yX2_copy.desc).map (fun d => d.parameters.length) = some 2 := by decide +kernel
abbrev cX2_book : ByteArray := prog_17_method_13_code
def yX2_book : MethodName := ⟨RX2, "book", "(IIIII)I"⟩
def dkwX2_book_5 : List UInt8 := [182, 0, 104, 42, 180, 0, 7, 3, 92, 46, 4, 96, 79, 21, 6, 172]
abbrev dktX2_book_5 : List UInt8 := dkwX2_book_5 ++ []
def dkwX2_book_4 : List UInt8 := [42, 21, 6, 6, 21, 4, 182, 0, 104, 42, 21, 6, 7, 21, 5, 182, 0, 104, 42, 21, 6, 8, 6]
abbrev dktX2_book_4 : List UInt8 := dkwX2_book_4 ++ dktX2_book_5
def dkwX2_book_3 : List UInt8 := [42, 21, 6, 3, 27, 182, 0, 104, 42, 21, 6, 4, 28, 182, 0, 104, 42, 21, 6, 5, 29, 182, 0, 104]
abbrev dktX2_book_3 : List UInt8 := dkwX2_book_3 ++ dktX2_book_4
def dkwX2_book_2 : List UInt8 := [153, 0, 14, 42, 180, 0, 7, 3, 46, 16, 10, 160, 0, 5, 2, 172, 42, 180, 0, 7, 3, 46, 54, 6]
abbrev dktX2_book_2 : List UInt8 := dkwX2_book_2 ++ dktX2_book_3
def dkwX2_book_1 : List UInt8 := [184, 0, 89, 153, 0, 35, 21, 4, 3, 16, 9, 184, 0, 89, 153, 0, 24, 21, 5, 3, 8, 184, 0, 89]
abbrev dktX2_book_1 : List UInt8 := dkwX2_book_1 ++ dktX2_book_2
def dkwX2_book_0 : List UInt8 := [27, 3, 16, 9, 184, 0, 89, 153, 0, 55, 28, 3, 16, 9, 184, 0, 89, 153, 0, 45, 29, 4, 16, 9]
abbrev dktX2_book_0 : List UInt8 := dkwX2_book_0 ++ dktX2_book_1
theorem dksX2_book_0 : cX2_book.data.toList.drop 0 = dktX2_book_0 := by decide +kernel
theorem dksX2_book_1 : cX2_book.data.toList.drop 24 = dktX2_book_1 := dk_seg dksX2_book_0 24 rfl rfl
theorem dksX2_book_2 : cX2_book.data.toList.drop 48 = dktX2_book_2 := dk_seg dksX2_book_1 24 rfl rfl
theorem dksX2_book_3 : cX2_book.data.toList.drop 72 = dktX2_book_3 := dk_seg dksX2_book_2 24 rfl rfl
theorem dksX2_book_4 : cX2_book.data.toList.drop 96 = dktX2_book_4 := dk_seg dksX2_book_3 24 rfl rfl
theorem dksX2_book_5 : cX2_book.data.toList.drop 119 = dktX2_book_5 := dk_seg dksX2_book_4 23 rfl rfl
theorem dX2_book_0 : decode cX2_book 0 = .ok (.iload_n 1, 1) := dk_27 (dk_at dksX2_book_0 0 rfl rfl)
theorem dX2_book_1 : decode cX2_book 1 = .ok (.iconst 0, 1) := dk_3 (dk_at dksX2_book_0 1 rfl rfl)
theorem dX2_book_2 : decode cX2_book 2 = .ok (.bipush 9, 2) := dk_16 9 (dk_at dksX2_book_0 2 rfl rfl)
theorem dX2_book_4 : decode cX2_book 4 = .ok (.invokestatic 89, 3) := dk_184 0 89 (dk_at dksX2_book_0 4 rfl rfl)
theorem dX2_book_7 : decode cX2_book 7 = .ok (.ifCond .eq 55, 3) := dk_153 0 55 (dk_at dksX2_book_0 7 rfl rfl)
theorem dX2_book_10 : decode cX2_book 10 = .ok (.iload_n 2, 1) := dk_28 (dk_at dksX2_book_0 10 rfl rfl)
theorem dX2_book_11 : decode cX2_book 11 = .ok (.iconst 0, 1) := dk_3 (dk_at dksX2_book_0 11 rfl rfl)
theorem dX2_book_12 : decode cX2_book 12 = .ok (.bipush 9, 2) := dk_16 9 (dk_at dksX2_book_0 12 rfl rfl)
theorem dX2_book_14 : decode cX2_book 14 = .ok (.invokestatic 89, 3) := dk_184 0 89 (dk_at dksX2_book_0 14 rfl rfl)
theorem dX2_book_17 : decode cX2_book 17 = .ok (.ifCond .eq 45, 3) := dk_153 0 45 (dk_at dksX2_book_0 17 rfl rfl)
theorem dX2_book_20 : decode cX2_book 20 = .ok (.iload_n 3, 1) := dk_29 (dk_at dksX2_book_0 20 rfl rfl)
theorem dX2_book_21 : decode cX2_book 21 = .ok (.iconst 1, 1) := dk_4 (dk_at dksX2_book_0 21 rfl rfl)
theorem dX2_book_22 : decode cX2_book 22 = .ok (.bipush 9, 2) := dk_16 9 (dk_at dksX2_book_0 22 rfl rfl)
theorem dX2_book_24 : decode cX2_book 24 = .ok (.invokestatic 89, 3) := dk_184 0 89 (dk_at dksX2_book_1 0 rfl rfl)
theorem dX2_book_27 : decode cX2_book 27 = .ok (.ifCond .eq 35, 3) := dk_153 0 35 (dk_at dksX2_book_1 3 rfl rfl)
theorem dX2_book_30 : decode cX2_book 30 = .ok (.iload 4, 2) := dk_21 4 (dk_at dksX2_book_1 6 rfl rfl)
theorem dX2_book_32 : decode cX2_book 32 = .ok (.iconst 0, 1) := dk_3 (dk_at dksX2_book_1 8 rfl rfl)
theorem dX2_book_33 : decode cX2_book 33 = .ok (.bipush 9, 2) := dk_16 9 (dk_at dksX2_book_1 9 rfl rfl)
theorem dX2_book_35 : decode cX2_book 35 = .ok (.invokestatic 89, 3) := dk_184 0 89 (dk_at dksX2_book_1 11 rfl rfl)
theorem dX2_book_38 : decode cX2_book 38 = .ok (.ifCond .eq 24, 3) := dk_153 0 24 (dk_at dksX2_book_1 14 rfl rfl)
theorem dX2_book_41 : decode cX2_book 41 = .ok (.iload 5, 2) := dk_21 5 (dk_at dksX2_book_1 17 rfl rfl)
theorem dX2_book_43 : decode cX2_book 43 = .ok (.iconst 0, 1) := dk_3 (dk_at dksX2_book_1 19 rfl rfl)
theorem dX2_book_44 : decode cX2_book 44 = .ok (.iconst 5, 1) := dk_8 (dk_at dksX2_book_1 20 rfl rfl)
theorem dX2_book_45 : decode cX2_book 45 = .ok (.invokestatic 89, 3) := dk_184 0 89 (dk_at dksX2_book_1 21 rfl rfl)
theorem dX2_book_48 : decode cX2_book 48 = .ok (.ifCond .eq 14, 3) := dk_153 0 14 (dk_at dksX2_book_2 0 rfl rfl)
theorem dX2_book_51 : decode cX2_book 51 = .ok (.aload_n 0, 1) := dk_42 (dk_at dksX2_book_2 3 rfl rfl)
theorem dX2_book_52 : decode cX2_book 52 = .ok (.getfield 7, 3) := dk_180 0 7 (dk_at dksX2_book_2 4 rfl rfl)
theorem dX2_book_55 : decode cX2_book 55 = .ok (.iconst 0, 1) := dk_3 (dk_at dksX2_book_2 7 rfl rfl)
theorem dX2_book_56 : decode cX2_book 56 = .ok (.iaload, 1) := dk_46 (dk_at dksX2_book_2 8 rfl rfl)
theorem dX2_book_57 : decode cX2_book 57 = .ok (.bipush 10, 2) := dk_16 10 (dk_at dksX2_book_2 9 rfl rfl)
theorem dX2_book_59 : decode cX2_book 59 = .ok (.if_icmp .ne 5, 3) := dk_160 0 5 (dk_at dksX2_book_2 11 rfl rfl)
theorem dX2_book_62 : decode cX2_book 62 = .ok (.iconst (-1), 1) := dk_2 (dk_at dksX2_book_2 14 rfl rfl)
theorem dX2_book_63 : decode cX2_book 63 = .ok (.ireturn, 1) := dk_172 (dk_at dksX2_book_2 15 rfl rfl)
theorem dX2_book_64 : decode cX2_book 64 = .ok (.aload_n 0, 1) := dk_42 (dk_at dksX2_book_2 16 rfl rfl)
theorem dX2_book_65 : decode cX2_book 65 = .ok (.getfield 7, 3) := dk_180 0 7 (dk_at dksX2_book_2 17 rfl rfl)
theorem dX2_book_68 : decode cX2_book 68 = .ok (.iconst 0, 1) := dk_3 (dk_at dksX2_book_2 20 rfl rfl)
theorem dX2_book_69 : decode cX2_book 69 = .ok (.iaload, 1) := dk_46 (dk_at dksX2_book_2 21 rfl rfl)
theorem dX2_book_70 : decode cX2_book 70 = .ok (.istore 6, 2) := dk_54 6 (dk_at dksX2_book_2 22 rfl rfl)
theorem dX2_book_72 : decode cX2_book 72 = .ok (.aload_n 0, 1) := dk_42 (dk_at dksX2_book_3 0 rfl rfl)
theorem dX2_book_73 : decode cX2_book 73 = .ok (.iload 6, 2) := dk_21 6 (dk_at dksX2_book_3 1 rfl rfl)
theorem dX2_book_75 : decode cX2_book 75 = .ok (.iconst 0, 1) := dk_3 (dk_at dksX2_book_3 3 rfl rfl)
theorem dX2_book_76 : decode cX2_book 76 = .ok (.iload_n 1, 1) := dk_27 (dk_at dksX2_book_3 4 rfl rfl)
theorem dX2_book_77 : decode cX2_book 77 = .ok (.invokevirtual 104, 3) := dk_182 0 104 (dk_at dksX2_book_3 5 rfl rfl)
theorem dX2_book_80 : decode cX2_book 80 = .ok (.aload_n 0, 1) := dk_42 (dk_at dksX2_book_3 8 rfl rfl)
theorem dX2_book_81 : decode cX2_book 81 = .ok (.iload 6, 2) := dk_21 6 (dk_at dksX2_book_3 9 rfl rfl)
theorem dX2_book_83 : decode cX2_book 83 = .ok (.iconst 1, 1) := dk_4 (dk_at dksX2_book_3 11 rfl rfl)
theorem dX2_book_84 : decode cX2_book 84 = .ok (.iload_n 2, 1) := dk_28 (dk_at dksX2_book_3 12 rfl rfl)
theorem dX2_book_85 : decode cX2_book 85 = .ok (.invokevirtual 104, 3) := dk_182 0 104 (dk_at dksX2_book_3 13 rfl rfl)
theorem dX2_book_88 : decode cX2_book 88 = .ok (.aload_n 0, 1) := dk_42 (dk_at dksX2_book_3 16 rfl rfl)
theorem dX2_book_89 : decode cX2_book 89 = .ok (.iload 6, 2) := dk_21 6 (dk_at dksX2_book_3 17 rfl rfl)
theorem dX2_book_91 : decode cX2_book 91 = .ok (.iconst 2, 1) := dk_5 (dk_at dksX2_book_3 19 rfl rfl)
theorem dX2_book_92 : decode cX2_book 92 = .ok (.iload_n 3, 1) := dk_29 (dk_at dksX2_book_3 20 rfl rfl)
theorem dX2_book_93 : decode cX2_book 93 = .ok (.invokevirtual 104, 3) := dk_182 0 104 (dk_at dksX2_book_3 21 rfl rfl)
theorem dX2_book_96 : decode cX2_book 96 = .ok (.aload_n 0, 1) := dk_42 (dk_at dksX2_book_4 0 rfl rfl)
theorem dX2_book_97 : decode cX2_book 97 = .ok (.iload 6, 2) := dk_21 6 (dk_at dksX2_book_4 1 rfl rfl)
theorem dX2_book_99 : decode cX2_book 99 = .ok (.iconst 3, 1) := dk_6 (dk_at dksX2_book_4 3 rfl rfl)
theorem dX2_book_100 : decode cX2_book 100 = .ok (.iload 4, 2) := dk_21 4 (dk_at dksX2_book_4 4 rfl rfl)
theorem dX2_book_102 : decode cX2_book 102 = .ok (.invokevirtual 104, 3) := dk_182 0 104 (dk_at dksX2_book_4 6 rfl rfl)
theorem dX2_book_105 : decode cX2_book 105 = .ok (.aload_n 0, 1) := dk_42 (dk_at dksX2_book_4 9 rfl rfl)
theorem dX2_book_106 : decode cX2_book 106 = .ok (.iload 6, 2) := dk_21 6 (dk_at dksX2_book_4 10 rfl rfl)
theorem dX2_book_108 : decode cX2_book 108 = .ok (.iconst 4, 1) := dk_7 (dk_at dksX2_book_4 12 rfl rfl)
theorem dX2_book_109 : decode cX2_book 109 = .ok (.iload 5, 2) := dk_21 5 (dk_at dksX2_book_4 13 rfl rfl)
theorem dX2_book_111 : decode cX2_book 111 = .ok (.invokevirtual 104, 3) := dk_182 0 104 (dk_at dksX2_book_4 15 rfl rfl)
theorem dX2_book_114 : decode cX2_book 114 = .ok (.aload_n 0, 1) := dk_42 (dk_at dksX2_book_4 18 rfl rfl)
theorem dX2_book_115 : decode cX2_book 115 = .ok (.iload 6, 2) := dk_21 6 (dk_at dksX2_book_4 19 rfl rfl)
theorem dX2_book_117 : decode cX2_book 117 = .ok (.iconst 5, 1) := dk_8 (dk_at dksX2_book_4 21 rfl rfl)
theorem dX2_book_118 : decode cX2_book 118 = .ok (.iconst 3, 1) := dk_6 (dk_at dksX2_book_4 22 rfl rfl)
theorem dX2_book_119 : decode cX2_book 119 = .ok (.invokevirtual 104, 3) := dk_182 0 104 (dk_at dksX2_book_5 0 rfl rfl)
theorem dX2_book_122 : decode cX2_book 122 = .ok (.aload_n 0, 1) := dk_42 (dk_at dksX2_book_5 3 rfl rfl)
theorem dX2_book_123 : decode cX2_book 123 = .ok (.getfield 7, 3) := dk_180 0 7 (dk_at dksX2_book_5 4 rfl rfl)
theorem dX2_book_126 : decode cX2_book 126 = .ok (.iconst 0, 1) := dk_3 (dk_at dksX2_book_5 7 rfl rfl)
theorem dX2_book_127 : decode cX2_book 127 = .ok (.dup2, 1) := dk_92 (dk_at dksX2_book_5 8 rfl rfl)
theorem dX2_book_128 : decode cX2_book 128 = .ok (.iaload, 1) := dk_46 (dk_at dksX2_book_5 9 rfl rfl)
theorem dX2_book_129 : decode cX2_book 129 = .ok (.iconst 1, 1) := dk_4 (dk_at dksX2_book_5 10 rfl rfl)
theorem dX2_book_130 : decode cX2_book 130 = .ok (.iadd, 1) := dk_96 (dk_at dksX2_book_5 11 rfl rfl)
theorem dX2_book_131 : decode cX2_book 131 = .ok (.iastore, 1) := dk_79 (dk_at dksX2_book_5 12 rfl rfl)
theorem dX2_book_132 : decode cX2_book 132 = .ok (.iload 6, 2) := dk_21 6 (dk_at dksX2_book_5 13 rfl rfl)
theorem dX2_book_134 : decode cX2_book 134 = .ok (.ireturn, 1) := dk_172 (dk_at dksX2_book_5 15 rfl rfl)
abbrev MX2_book : jjM := (yX2_book, cX2_book, 7, (Option.some Jvm.ClassFile.FieldType.int))
theorem npX2_book : yX2_book.cls ≠ "java/lang/invoke/MethodHandle" ∧ yX2_book.cls ≠ "java/lang/invoke/VarHandle" ∧ (parseMethodDescriptor yX2_book.desc).map (fun d => d.parameters.length) = some 5 := by decide +kernel
abbrev cX2_isIn : ByteArray := prog_17_method_3_code
def yX2_isIn : MethodName := ⟨RX2, "isIn", "(III)Z"⟩
def dkwX2_isIn_0 : List UInt8 := [26, 27, 161, 0, 12, 26, 28, 163, 0, 7, 4, 167, 0, 4, 3, 172]
abbrev dktX2_isIn_0 : List UInt8 := dkwX2_isIn_0 ++ []
theorem dksX2_isIn_0 : cX2_isIn.data.toList.drop 0 = dktX2_isIn_0 := by decide +kernel
theorem dX2_isIn_0 : decode cX2_isIn 0 = .ok (.iload_n 0, 1) := dk_26 (dk_at dksX2_isIn_0 0 rfl rfl)
theorem dX2_isIn_1 : decode cX2_isIn 1 = .ok (.iload_n 1, 1) := dk_27 (dk_at dksX2_isIn_0 1 rfl rfl)
theorem dX2_isIn_2 : decode cX2_isIn 2 = .ok (.if_icmp .lt 12, 3) := dk_161 0 12 (dk_at dksX2_isIn_0 2 rfl rfl)
theorem dX2_isIn_5 : decode cX2_isIn 5 = .ok (.iload_n 0, 1) := dk_26 (dk_at dksX2_isIn_0 5 rfl rfl)
theorem dX2_isIn_6 : decode cX2_isIn 6 = .ok (.iload_n 2, 1) := dk_28 (dk_at dksX2_isIn_0 6 rfl rfl)
theorem dX2_isIn_7 : decode cX2_isIn 7 = .ok (.if_icmp .gt 7, 3) := dk_163 0 7 (dk_at dksX2_isIn_0 7 rfl rfl)
theorem dX2_isIn_10 : decode cX2_isIn 10 = .ok (.iconst 1, 1) := dk_4 (dk_at dksX2_isIn_0 10 rfl rfl)
theorem dX2_isIn_11 : decode cX2_isIn 11 = .ok (.goto 4, 3) := dk_167 0 4 (dk_at dksX2_isIn_0 11 rfl rfl)
theorem dX2_isIn_14 : decode cX2_isIn 14 = .ok (.iconst 0, 1) := dk_3 (dk_at dksX2_isIn_0 14 rfl rfl)
theorem dX2_isIn_15 : decode cX2_isIn 15 = .ok (.ireturn, 1) := dk_172 (dk_at dksX2_isIn_0 15 rfl rfl)
abbrev MX2_isIn : jjM := (yX2_isIn, cX2_isIn, 3, (Option.some Jvm.ClassFile.FieldType.boolean))
theorem npX2_isIn : yX2_isIn.cls ≠ "java/lang/invoke/MethodHandle" ∧ yX2_isIn.cls ≠ "java/lang/invoke/VarHandle" ∧ (parseMethodDescriptor yX2_isIn.desc).map (fun d => d.parameters.length) = some 3 := by decide +kernel
abbrev cX2_set : ByteArray := prog_17_method_9_code
def yX2_set : MethodName := ⟨RX2, "set", "(III)V"⟩
def dkwX2_set_0 : List UInt8 := [42, 180, 0, 7, 16, 46, 16, 6, 27, 104, 96, 28, 96, 29, 79, 177]
abbrev dktX2_set_0 : List UInt8 := dkwX2_set_0 ++ []
theorem dksX2_set_0 : cX2_set.data.toList.drop 0 = dktX2_set_0 := by decide +kernel
theorem dX2_set_0 : decode cX2_set 0 = .ok (.aload_n 0, 1) := dk_42 (dk_at dksX2_set_0 0 rfl rfl)
theorem dX2_set_1 : decode cX2_set 1 = .ok (.getfield 7, 3) := dk_180 0 7 (dk_at dksX2_set_0 1 rfl rfl)
theorem dX2_set_4 : decode cX2_set 4 = .ok (.bipush 46, 2) := dk_16 46 (dk_at dksX2_set_0 4 rfl rfl)
theorem dX2_set_6 : decode cX2_set 6 = .ok (.bipush 6, 2) := dk_16 6 (dk_at dksX2_set_0 6 rfl rfl)
theorem dX2_set_8 : decode cX2_set 8 = .ok (.iload_n 1, 1) := dk_27 (dk_at dksX2_set_0 8 rfl rfl)
theorem dX2_set_9 : decode cX2_set 9 = .ok (.imul, 1) := dk_104 (dk_at dksX2_set_0 9 rfl rfl)
theorem dX2_set_10 : decode cX2_set 10 = .ok (.iadd, 1) := dk_96 (dk_at dksX2_set_0 10 rfl rfl)
theorem dX2_set_11 : decode cX2_set 11 = .ok (.iload_n 2, 1) := dk_28 (dk_at dksX2_set_0 11 rfl rfl)
theorem dX2_set_12 : decode cX2_set 12 = .ok (.iadd, 1) := dk_96 (dk_at dksX2_set_0 12 rfl rfl)
theorem dX2_set_13 : decode cX2_set 13 = .ok (.iload_n 3, 1) := dk_29 (dk_at dksX2_set_0 13 rfl rfl)
theorem dX2_set_14 : decode cX2_set 14 = .ok (.iastore, 1) := dk_79 (dk_at dksX2_set_0 14 rfl rfl)
theorem dX2_set_15 : decode cX2_set 15 = .ok (.return_, 1) := dk_177 (dk_at dksX2_set_0 15 rfl rfl)
abbrev MX2_set : jjM := (yX2_set, cX2_set, 4, (Option.none : Option Jvm.ClassFile.FieldType))
theorem npX2_set : yX2_set.cls ≠ "java/lang/invoke/MethodHandle" ∧ yX2_set.cls ≠ "java/lang/invoke/VarHandle" ∧ (parseMethodDescriptor yX2_set.desc).map (fun d => d.parameters.length) = some 3 := by decide +kernel
abbrev cX2_need : ByteArray := prog_17_method_14_code
def yX2_need : MethodName := ⟨RX2, "need", "(I)Z"⟩
def dkwX2_need_0 : List UInt8 := [27, 4, 5, 184, 0, 89, 154, 0, 5, 3, 172, 42, 180, 0, 7, 6, 27, 79, 4, 172]
abbrev dktX2_need_0 : List UInt8 := dkwX2_need_0 ++ []
theorem dksX2_need_0 : cX2_need.data.toList.drop 0 = dktX2_need_0 := by decide +kernel
theorem dX2_need_0 : decode cX2_need 0 = .ok (.iload_n 1, 1) := dk_27 (dk_at dksX2_need_0 0 rfl rfl)
theorem dX2_need_1 : decode cX2_need 1 = .ok (.iconst 1, 1) := dk_4 (dk_at dksX2_need_0 1 rfl rfl)
theorem dX2_need_2 : decode cX2_need 2 = .ok (.iconst 2, 1) := dk_5 (dk_at dksX2_need_0 2 rfl rfl)
theorem dX2_need_3 : decode cX2_need 3 = .ok (.invokestatic 89, 3) := dk_184 0 89 (dk_at dksX2_need_0 3 rfl rfl)
theorem dX2_need_6 : decode cX2_need 6 = .ok (.ifCond .ne 5, 3) := dk_154 0 5 (dk_at dksX2_need_0 6 rfl rfl)
theorem dX2_need_9 : decode cX2_need 9 = .ok (.iconst 0, 1) := dk_3 (dk_at dksX2_need_0 9 rfl rfl)
theorem dX2_need_10 : decode cX2_need 10 = .ok (.ireturn, 1) := dk_172 (dk_at dksX2_need_0 10 rfl rfl)
theorem dX2_need_11 : decode cX2_need 11 = .ok (.aload_n 0, 1) := dk_42 (dk_at dksX2_need_0 11 rfl rfl)
theorem dX2_need_12 : decode cX2_need 12 = .ok (.getfield 7, 3) := dk_180 0 7 (dk_at dksX2_need_0 12 rfl rfl)
theorem dX2_need_15 : decode cX2_need 15 = .ok (.iconst 3, 1) := dk_6 (dk_at dksX2_need_0 15 rfl rfl)
theorem dX2_need_16 : decode cX2_need 16 = .ok (.iload_n 1, 1) := dk_27 (dk_at dksX2_need_0 16 rfl rfl)
theorem dX2_need_17 : decode cX2_need 17 = .ok (.iastore, 1) := dk_79 (dk_at dksX2_need_0 17 rfl rfl)
theorem dX2_need_18 : decode cX2_need 18 = .ok (.iconst 1, 1) := dk_4 (dk_at dksX2_need_0 18 rfl rfl)
theorem dX2_need_19 : decode cX2_need 19 = .ok (.ireturn, 1) := dk_172 (dk_at dksX2_need_0 19 rfl rfl)
abbrev MX2_need : jjM := (yX2_need, cX2_need, 2, (Option.some Jvm.ClassFile.FieldType.boolean))
theorem npX2_need : yX2_need.cls ≠ "java/lang/invoke/MethodHandle" ∧ yX2_need.cls ≠ "java/lang/invoke/VarHandle" ∧ (parseMethodDescriptor yX2_need.desc).map (fun d => d.parameters.length) = some 1 := by decide +kernel
abbrev cX2_feed : ByteArray := prog_17_method_16_code
def yX2_feed : MethodName := ⟨RX2, "feed", "(IIIII)I"⟩
def dkwX2_feed_2 : List UInt8 := [172]
abbrev dktX2_feed_2 : List UInt8 := dkwX2_feed_2 ++ []
def dkwX2_feed_1 : List UInt8 := [182, 0, 111, 42, 29, 182, 0, 111, 42, 21, 4, 182, 0, 111, 42, 21, 5, 182, 0, 111, 42, 180, 0, 108]
abbrev dktX2_feed_1 : List UInt8 := dkwX2_feed_1 ++ dktX2_feed_2
def dkwX2_feed_0 : List UInt8 := [42, 180, 0, 108, 16, 20, 96, 17, 1, 44, 164, 0, 5, 2, 172, 42, 27, 182, 0, 111, 42, 28]
abbrev dktX2_feed_0 : List UInt8 := dkwX2_feed_0 ++ dktX2_feed_1
theorem dksX2_feed_0 : cX2_feed.data.toList.drop 0 = dktX2_feed_0 := by decide +kernel
theorem dksX2_feed_1 : cX2_feed.data.toList.drop 22 = dktX2_feed_1 := dk_seg dksX2_feed_0 22 rfl rfl
theorem dksX2_feed_2 : cX2_feed.data.toList.drop 46 = dktX2_feed_2 := dk_seg dksX2_feed_1 24 rfl rfl
theorem dX2_feed_0 : decode cX2_feed 0 = .ok (.aload_n 0, 1) := dk_42 (dk_at dksX2_feed_0 0 rfl rfl)
theorem dX2_feed_1 : decode cX2_feed 1 = .ok (.getfield 108, 3) := dk_180 0 108 (dk_at dksX2_feed_0 1 rfl rfl)
theorem dX2_feed_4 : decode cX2_feed 4 = .ok (.bipush 20, 2) := dk_16 20 (dk_at dksX2_feed_0 4 rfl rfl)
theorem dX2_feed_6 : decode cX2_feed 6 = .ok (.iadd, 1) := dk_96 (dk_at dksX2_feed_0 6 rfl rfl)
theorem dX2_feed_7 : decode cX2_feed 7 = .ok (.sipush 300, 3) := dk_17 1 44 (dk_at dksX2_feed_0 7 rfl rfl)
theorem dX2_feed_10 : decode cX2_feed 10 = .ok (.if_icmp .le 5, 3) := dk_164 0 5 (dk_at dksX2_feed_0 10 rfl rfl)
theorem dX2_feed_13 : decode cX2_feed 13 = .ok (.iconst (-1), 1) := dk_2 (dk_at dksX2_feed_0 13 rfl rfl)
theorem dX2_feed_14 : decode cX2_feed 14 = .ok (.ireturn, 1) := dk_172 (dk_at dksX2_feed_0 14 rfl rfl)
theorem dX2_feed_15 : decode cX2_feed 15 = .ok (.aload_n 0, 1) := dk_42 (dk_at dksX2_feed_0 15 rfl rfl)
theorem dX2_feed_16 : decode cX2_feed 16 = .ok (.iload_n 1, 1) := dk_27 (dk_at dksX2_feed_0 16 rfl rfl)
theorem dX2_feed_17 : decode cX2_feed 17 = .ok (.invokevirtual 111, 3) := dk_182 0 111 (dk_at dksX2_feed_0 17 rfl rfl)
theorem dX2_feed_20 : decode cX2_feed 20 = .ok (.aload_n 0, 1) := dk_42 (dk_at dksX2_feed_0 20 rfl rfl)
theorem dX2_feed_21 : decode cX2_feed 21 = .ok (.iload_n 2, 1) := dk_28 (dk_at dksX2_feed_0 21 rfl rfl)
theorem dX2_feed_22 : decode cX2_feed 22 = .ok (.invokevirtual 111, 3) := dk_182 0 111 (dk_at dksX2_feed_1 0 rfl rfl)
theorem dX2_feed_25 : decode cX2_feed 25 = .ok (.aload_n 0, 1) := dk_42 (dk_at dksX2_feed_1 3 rfl rfl)
theorem dX2_feed_26 : decode cX2_feed 26 = .ok (.iload_n 3, 1) := dk_29 (dk_at dksX2_feed_1 4 rfl rfl)
theorem dX2_feed_27 : decode cX2_feed 27 = .ok (.invokevirtual 111, 3) := dk_182 0 111 (dk_at dksX2_feed_1 5 rfl rfl)
theorem dX2_feed_30 : decode cX2_feed 30 = .ok (.aload_n 0, 1) := dk_42 (dk_at dksX2_feed_1 8 rfl rfl)
theorem dX2_feed_31 : decode cX2_feed 31 = .ok (.iload 4, 2) := dk_21 4 (dk_at dksX2_feed_1 9 rfl rfl)
theorem dX2_feed_33 : decode cX2_feed 33 = .ok (.invokevirtual 111, 3) := dk_182 0 111 (dk_at dksX2_feed_1 11 rfl rfl)
theorem dX2_feed_36 : decode cX2_feed 36 = .ok (.aload_n 0, 1) := dk_42 (dk_at dksX2_feed_1 14 rfl rfl)
theorem dX2_feed_37 : decode cX2_feed 37 = .ok (.iload 5, 2) := dk_21 5 (dk_at dksX2_feed_1 15 rfl rfl)
theorem dX2_feed_39 : decode cX2_feed 39 = .ok (.invokevirtual 111, 3) := dk_182 0 111 (dk_at dksX2_feed_1 17 rfl rfl)
theorem dX2_feed_42 : decode cX2_feed 42 = .ok (.aload_n 0, 1) := dk_42 (dk_at dksX2_feed_1 20 rfl rfl)
theorem dX2_feed_43 : decode cX2_feed 43 = .ok (.getfield 108, 3) := dk_180 0 108 (dk_at dksX2_feed_1 21 rfl rfl)
theorem dX2_feed_46 : decode cX2_feed 46 = .ok (.ireturn, 1) := dk_172 (dk_at dksX2_feed_2 0 rfl rfl)
abbrev MX2_feed : jjM := (yX2_feed, cX2_feed, 6, (Option.some Jvm.ClassFile.FieldType.int))
theorem npX2_feed : yX2_feed.cls ≠ "java/lang/invoke/MethodHandle" ∧ yX2_feed.cls ≠ "java/lang/invoke/VarHandle" ∧ (parseMethodDescriptor yX2_feed.desc).map (fun d => d.parameters.length) = some 5 := by decide +kernel
abbrev cX2_four : ByteArray := prog_17_method_15_code
def yX2_four : MethodName := ⟨RX2, "four", "(I)V"⟩
def dkwX2_four_1 : List UInt8 := [89, 180, 0, 108, 4, 96, 181, 0, 108, 132, 2, 248, 167, 255, 223, 177]
abbrev dktX2_four_1 : List UInt8 := dkwX2_four_1 ++ []
def dkwX2_four_0 : List UInt8 := [16, 24, 61, 28, 155, 0, 35, 42, 180, 0, 19, 42, 180, 0, 108, 27, 28, 122, 17, 0, 255, 126, 79, 42]
abbrev dktX2_four_0 : List UInt8 := dkwX2_four_0 ++ dktX2_four_1
theorem dksX2_four_0 : cX2_four.data.toList.drop 0 = dktX2_four_0 := by decide +kernel
theorem dksX2_four_1 : cX2_four.data.toList.drop 24 = dktX2_four_1 := dk_seg dksX2_four_0 24 rfl rfl
theorem dX2_four_0 : decode cX2_four 0 = .ok (.bipush 24, 2) := dk_16 24 (dk_at dksX2_four_0 0 rfl rfl)
theorem dX2_four_2 : decode cX2_four 2 = .ok (.istore_n 2, 1) := dk_61 (dk_at dksX2_four_0 2 rfl rfl)
theorem dX2_four_3 : decode cX2_four 3 = .ok (.iload_n 2, 1) := dk_28 (dk_at dksX2_four_0 3 rfl rfl)
theorem dX2_four_4 : decode cX2_four 4 = .ok (.ifCond .lt 35, 3) := dk_155 0 35 (dk_at dksX2_four_0 4 rfl rfl)
theorem dX2_four_7 : decode cX2_four 7 = .ok (.aload_n 0, 1) := dk_42 (dk_at dksX2_four_0 7 rfl rfl)
theorem dX2_four_8 : decode cX2_four 8 = .ok (.getfield 19, 3) := dk_180 0 19 (dk_at dksX2_four_0 8 rfl rfl)
theorem dX2_four_11 : decode cX2_four 11 = .ok (.aload_n 0, 1) := dk_42 (dk_at dksX2_four_0 11 rfl rfl)
theorem dX2_four_12 : decode cX2_four 12 = .ok (.getfield 108, 3) := dk_180 0 108 (dk_at dksX2_four_0 12 rfl rfl)
theorem dX2_four_15 : decode cX2_four 15 = .ok (.iload_n 1, 1) := dk_27 (dk_at dksX2_four_0 15 rfl rfl)
theorem dX2_four_16 : decode cX2_four 16 = .ok (.iload_n 2, 1) := dk_28 (dk_at dksX2_four_0 16 rfl rfl)
theorem dX2_four_17 : decode cX2_four 17 = .ok (.ishr, 1) := dk_122 (dk_at dksX2_four_0 17 rfl rfl)
theorem dX2_four_18 : decode cX2_four 18 = .ok (.sipush 255, 3) := dk_17 0 255 (dk_at dksX2_four_0 18 rfl rfl)
theorem dX2_four_21 : decode cX2_four 21 = .ok (.iand, 1) := dk_126 (dk_at dksX2_four_0 21 rfl rfl)
theorem dX2_four_22 : decode cX2_four 22 = .ok (.iastore, 1) := dk_79 (dk_at dksX2_four_0 22 rfl rfl)
theorem dX2_four_23 : decode cX2_four 23 = .ok (.aload_n 0, 1) := dk_42 (dk_at dksX2_four_0 23 rfl rfl)
theorem dX2_four_24 : decode cX2_four 24 = .ok (.dup, 1) := dk_89 (dk_at dksX2_four_1 0 rfl rfl)
theorem dX2_four_25 : decode cX2_four 25 = .ok (.getfield 108, 3) := dk_180 0 108 (dk_at dksX2_four_1 1 rfl rfl)
theorem dX2_four_28 : decode cX2_four 28 = .ok (.iconst 1, 1) := dk_4 (dk_at dksX2_four_1 4 rfl rfl)
theorem dX2_four_29 : decode cX2_four 29 = .ok (.iadd, 1) := dk_96 (dk_at dksX2_four_1 5 rfl rfl)
theorem dX2_four_30 : decode cX2_four 30 = .ok (.putfield 108, 3) := dk_181 0 108 (dk_at dksX2_four_1 6 rfl rfl)
theorem dX2_four_33 : decode cX2_four 33 = .ok (.iinc 2 (-8), 3) := dk_132 2 248 (dk_at dksX2_four_1 9 rfl rfl)
theorem dX2_four_36 : decode cX2_four 36 = .ok (.goto (-33), 3) := dk_167 255 223 (dk_at dksX2_four_1 12 rfl rfl)
theorem dX2_four_39 : decode cX2_four 39 = .ok (.return_, 1) := dk_177 (dk_at dksX2_four_1 15 rfl rfl)
abbrev MX2_four : jjM := (yX2_four, cX2_four, 3, (Option.none : Option Jvm.ClassFile.FieldType))
theorem npX2_four : yX2_four.cls ≠ "java/lang/invoke/MethodHandle" ∧ yX2_four.cls ≠ "java/lang/invoke/VarHandle" ∧ (parseMethodDescriptor yX2_four.desc).map (fun d => d.parameters.length) = some 1 := by decide +kernel
abbrev cX2_end : ByteArray := prog_17_method_17_code
def yX2_end : MethodName := ⟨RX2, "end", "(I)I"⟩
def dkwX2_end_0 : List UInt8 := [27, 3, 42, 180, 0, 108, 184, 0, 89, 154, 0, 5, 2, 172, 42, 27, 181, 0, 108, 27, 172]
abbrev dktX2_end_0 : List UInt8 := dkwX2_end_0 ++ []
theorem dksX2_end_0 : cX2_end.data.toList.drop 0 = dktX2_end_0 := by decide +kernel
theorem dX2_end_0 : decode cX2_end 0 = .ok (.iload_n 1, 1) := dk_27 (dk_at dksX2_end_0 0 rfl rfl)
theorem dX2_end_1 : decode cX2_end 1 = .ok (.iconst 0, 1) := dk_3 (dk_at dksX2_end_0 1 rfl rfl)
theorem dX2_end_2 : decode cX2_end 2 = .ok (.aload_n 0, 1) := dk_42 (dk_at dksX2_end_0 2 rfl rfl)
theorem dX2_end_3 : decode cX2_end 3 = .ok (.getfield 108, 3) := dk_180 0 108 (dk_at dksX2_end_0 3 rfl rfl)
theorem dX2_end_6 : decode cX2_end 6 = .ok (.invokestatic 89, 3) := dk_184 0 89 (dk_at dksX2_end_0 6 rfl rfl)
theorem dX2_end_9 : decode cX2_end 9 = .ok (.ifCond .ne 5, 3) := dk_154 0 5 (dk_at dksX2_end_0 9 rfl rfl)
theorem dX2_end_12 : decode cX2_end 12 = .ok (.iconst (-1), 1) := dk_2 (dk_at dksX2_end_0 12 rfl rfl)
theorem dX2_end_13 : decode cX2_end 13 = .ok (.ireturn, 1) := dk_172 (dk_at dksX2_end_0 13 rfl rfl)
theorem dX2_end_14 : decode cX2_end 14 = .ok (.aload_n 0, 1) := dk_42 (dk_at dksX2_end_0 14 rfl rfl)
theorem dX2_end_15 : decode cX2_end 15 = .ok (.iload_n 1, 1) := dk_27 (dk_at dksX2_end_0 15 rfl rfl)
theorem dX2_end_16 : decode cX2_end 16 = .ok (.putfield 108, 3) := dk_181 0 108 (dk_at dksX2_end_0 16 rfl rfl)
theorem dX2_end_19 : decode cX2_end 19 = .ok (.iload_n 1, 1) := dk_27 (dk_at dksX2_end_0 19 rfl rfl)
theorem dX2_end_20 : decode cX2_end 20 = .ok (.ireturn, 1) := dk_172 (dk_at dksX2_end_0 20 rfl rfl)
abbrev MX2_end : jjM := (yX2_end, cX2_end, 2, (Option.some Jvm.ClassFile.FieldType.int))
theorem npX2_end : yX2_end.cls ≠ "java/lang/invoke/MethodHandle" ∧ yX2_end.cls ≠ "java/lang/invoke/VarHandle" ∧ (parseMethodDescriptor yX2_end.desc).map (fun d => d.parameters.length) = some 1 := by decide +kernel
abbrev cX2_text : ByteArray := prog_17_method_52_code
def yX2_text : MethodName := ⟨RX2, "text", "()I"⟩
def dkwX2_text_3 : List UInt8 := [4, 100, 172]
abbrev dktX2_text_3 : List UInt8 := dkwX2_text_3 ++ []
def dkwX2_text_2 : List UInt8 := [180, 0, 22, 153, 0, 5, 2, 172, 42, 180, 0, 7, 8, 92, 46, 4, 96, 79, 42, 180, 0, 7, 8, 46]
abbrev dktX2_text_2 : List UInt8 := dkwX2_text_2 ++ dktX2_text_3
def dkwX2_text_1 : List UInt8 := [180, 0, 22, 154, 0, 7, 2, 167, 0, 7, 42, 180, 0, 122, 181, 0, 26, 42, 3, 181, 0, 108, 42]
abbrev dktX2_text_1 : List UInt8 := dkwX2_text_1 ++ dktX2_text_2
def dkwX2_text_0 : List UInt8 := [42, 180, 0, 7, 8, 46, 7, 160, 0, 5, 2, 172, 42, 42, 182, 1, 10, 181, 0, 22, 42, 42]
abbrev dktX2_text_0 : List UInt8 := dkwX2_text_0 ++ dktX2_text_1
theorem dksX2_text_0 : cX2_text.data.toList.drop 0 = dktX2_text_0 := by decide +kernel
theorem dksX2_text_1 : cX2_text.data.toList.drop 22 = dktX2_text_1 := dk_seg dksX2_text_0 22 rfl rfl
theorem dksX2_text_2 : cX2_text.data.toList.drop 45 = dktX2_text_2 := dk_seg dksX2_text_1 23 rfl rfl
theorem dksX2_text_3 : cX2_text.data.toList.drop 69 = dktX2_text_3 := dk_seg dksX2_text_2 24 rfl rfl
theorem dX2_text_0 : decode cX2_text 0 = .ok (.aload_n 0, 1) := dk_42 (dk_at dksX2_text_0 0 rfl rfl)
theorem dX2_text_1 : decode cX2_text 1 = .ok (.getfield 7, 3) := dk_180 0 7 (dk_at dksX2_text_0 1 rfl rfl)
theorem dX2_text_4 : decode cX2_text 4 = .ok (.iconst 5, 1) := dk_8 (dk_at dksX2_text_0 4 rfl rfl)
theorem dX2_text_5 : decode cX2_text 5 = .ok (.iaload, 1) := dk_46 (dk_at dksX2_text_0 5 rfl rfl)
theorem dX2_text_6 : decode cX2_text 6 = .ok (.iconst 4, 1) := dk_7 (dk_at dksX2_text_0 6 rfl rfl)
theorem dX2_text_7 : decode cX2_text 7 = .ok (.if_icmp .ne 5, 3) := dk_160 0 5 (dk_at dksX2_text_0 7 rfl rfl)
theorem dX2_text_10 : decode cX2_text 10 = .ok (.iconst (-1), 1) := dk_2 (dk_at dksX2_text_0 10 rfl rfl)
theorem dX2_text_11 : decode cX2_text 11 = .ok (.ireturn, 1) := dk_172 (dk_at dksX2_text_0 11 rfl rfl)
theorem dX2_text_12 : decode cX2_text 12 = .ok (.aload_n 0, 1) := dk_42 (dk_at dksX2_text_0 12 rfl rfl)
theorem dX2_text_13 : decode cX2_text 13 = .ok (.aload_n 0, 1) := dk_42 (dk_at dksX2_text_0 13 rfl rfl)
theorem dX2_text_14 : decode cX2_text 14 = .ok (.invokevirtual 266, 3) := dk_182 1 10 (dk_at dksX2_text_0 14 rfl rfl)
theorem dX2_text_17 : decode cX2_text 17 = .ok (.putfield 22, 3) := dk_181 0 22 (dk_at dksX2_text_0 17 rfl rfl)
theorem dX2_text_20 : decode cX2_text 20 = .ok (.aload_n 0, 1) := dk_42 (dk_at dksX2_text_0 20 rfl rfl)
theorem dX2_text_21 : decode cX2_text 21 = .ok (.aload_n 0, 1) := dk_42 (dk_at dksX2_text_0 21 rfl rfl)
theorem dX2_text_22 : decode cX2_text 22 = .ok (.getfield 22, 3) := dk_180 0 22 (dk_at dksX2_text_1 0 rfl rfl)
theorem dX2_text_25 : decode cX2_text 25 = .ok (.ifCond .ne 7, 3) := dk_154 0 7 (dk_at dksX2_text_1 3 rfl rfl)
theorem dX2_text_28 : decode cX2_text 28 = .ok (.iconst (-1), 1) := dk_2 (dk_at dksX2_text_1 6 rfl rfl)
theorem dX2_text_29 : decode cX2_text 29 = .ok (.goto 7, 3) := dk_167 0 7 (dk_at dksX2_text_1 7 rfl rfl)
theorem dX2_text_32 : decode cX2_text 32 = .ok (.aload_n 0, 1) := dk_42 (dk_at dksX2_text_1 10 rfl rfl)
theorem dX2_text_33 : decode cX2_text 33 = .ok (.getfield 122, 3) := dk_180 0 122 (dk_at dksX2_text_1 11 rfl rfl)
theorem dX2_text_36 : decode cX2_text 36 = .ok (.putfield 26, 3) := dk_181 0 26 (dk_at dksX2_text_1 14 rfl rfl)
theorem dX2_text_39 : decode cX2_text 39 = .ok (.aload_n 0, 1) := dk_42 (dk_at dksX2_text_1 17 rfl rfl)
theorem dX2_text_40 : decode cX2_text 40 = .ok (.iconst 0, 1) := dk_3 (dk_at dksX2_text_1 18 rfl rfl)
theorem dX2_text_41 : decode cX2_text 41 = .ok (.putfield 108, 3) := dk_181 0 108 (dk_at dksX2_text_1 19 rfl rfl)
theorem dX2_text_44 : decode cX2_text 44 = .ok (.aload_n 0, 1) := dk_42 (dk_at dksX2_text_1 22 rfl rfl)
theorem dX2_text_45 : decode cX2_text 45 = .ok (.getfield 22, 3) := dk_180 0 22 (dk_at dksX2_text_2 0 rfl rfl)
theorem dX2_text_48 : decode cX2_text 48 = .ok (.ifCond .eq 5, 3) := dk_153 0 5 (dk_at dksX2_text_2 3 rfl rfl)
theorem dX2_text_51 : decode cX2_text 51 = .ok (.iconst (-1), 1) := dk_2 (dk_at dksX2_text_2 6 rfl rfl)
theorem dX2_text_52 : decode cX2_text 52 = .ok (.ireturn, 1) := dk_172 (dk_at dksX2_text_2 7 rfl rfl)
theorem dX2_text_53 : decode cX2_text 53 = .ok (.aload_n 0, 1) := dk_42 (dk_at dksX2_text_2 8 rfl rfl)
theorem dX2_text_54 : decode cX2_text 54 = .ok (.getfield 7, 3) := dk_180 0 7 (dk_at dksX2_text_2 9 rfl rfl)
theorem dX2_text_57 : decode cX2_text 57 = .ok (.iconst 5, 1) := dk_8 (dk_at dksX2_text_2 12 rfl rfl)
theorem dX2_text_58 : decode cX2_text 58 = .ok (.dup2, 1) := dk_92 (dk_at dksX2_text_2 13 rfl rfl)
theorem dX2_text_59 : decode cX2_text 59 = .ok (.iaload, 1) := dk_46 (dk_at dksX2_text_2 14 rfl rfl)
theorem dX2_text_60 : decode cX2_text 60 = .ok (.iconst 1, 1) := dk_4 (dk_at dksX2_text_2 15 rfl rfl)
theorem dX2_text_61 : decode cX2_text 61 = .ok (.iadd, 1) := dk_96 (dk_at dksX2_text_2 16 rfl rfl)
theorem dX2_text_62 : decode cX2_text 62 = .ok (.iastore, 1) := dk_79 (dk_at dksX2_text_2 17 rfl rfl)
theorem dX2_text_63 : decode cX2_text 63 = .ok (.aload_n 0, 1) := dk_42 (dk_at dksX2_text_2 18 rfl rfl)
theorem dX2_text_64 : decode cX2_text 64 = .ok (.getfield 7, 3) := dk_180 0 7 (dk_at dksX2_text_2 19 rfl rfl)
theorem dX2_text_67 : decode cX2_text 67 = .ok (.iconst 5, 1) := dk_8 (dk_at dksX2_text_2 22 rfl rfl)
theorem dX2_text_68 : decode cX2_text 68 = .ok (.iaload, 1) := dk_46 (dk_at dksX2_text_2 23 rfl rfl)
theorem dX2_text_69 : decode cX2_text 69 = .ok (.iconst 1, 1) := dk_4 (dk_at dksX2_text_3 0 rfl rfl)
theorem dX2_text_70 : decode cX2_text 70 = .ok (.isub, 1) := dk_100 (dk_at dksX2_text_3 1 rfl rfl)
theorem dX2_text_71 : decode cX2_text 71 = .ok (.ireturn, 1) := dk_172 (dk_at dksX2_text_3 2 rfl rfl)
abbrev MX2_text : jjM := (yX2_text, cX2_text, 1, (Option.some Jvm.ClassFile.FieldType.int))
theorem npX2_text : yX2_text.cls ≠ "java/lang/invoke/MethodHandle" ∧ yX2_text.cls ≠ "java/lang/invoke/VarHandle" ∧ (parseMethodDescriptor yX2_text.desc).map (fun d => d.parameters.length) = some 0 := by decide +kernel
abbrev cX2_readText : ByteArray := prog_17_method_51_code
def yX2_readText : MethodName := ⟨RX2, "readText", "()I"⟩
def dkwX2_readText_2 : List UInt8 := [42, 180, 0, 125, 153, 0, 17, 42, 182, 1, 7, 60, 27, 153, 0, 5, 27, 172, 167, 255, 238, 3, 172]
abbrev dktX2_readText_2 : List UInt8 := dkwX2_readText_2 ++ []
def dkwX2_readText_1 : List UInt8 := [42, 3, 181, 0, 153, 42, 3, 181, 0, 163, 42, 3, 181, 1, 1, 42, 3, 181, 0, 115, 42, 182, 0, 185]
abbrev dktX2_readText_1 : List UInt8 := dkwX2_readText_1 ++ dktX2_readText_2
def dkwX2_readText_0 : List UInt8 := [42, 17, 2, 193, 42, 180, 0, 7, 8, 46, 104, 181, 0, 150, 42, 180, 0, 16, 42, 180, 0, 150, 3, 79]
abbrev dktX2_readText_0 : List UInt8 := dkwX2_readText_0 ++ dktX2_readText_1
theorem dksX2_readText_0 : cX2_readText.data.toList.drop 0 = dktX2_readText_0 := by decide +kernel
theorem dksX2_readText_1 : cX2_readText.data.toList.drop 24 = dktX2_readText_1 := dk_seg dksX2_readText_0 24 rfl rfl
theorem dksX2_readText_2 : cX2_readText.data.toList.drop 48 = dktX2_readText_2 := dk_seg dksX2_readText_1 24 rfl rfl
theorem dX2_readText_0 : decode cX2_readText 0 = .ok (.aload_n 0, 1) := dk_42 (dk_at dksX2_readText_0 0 rfl rfl)
theorem dX2_readText_1 : decode cX2_readText 1 = .ok (.sipush 705, 3) := dk_17 2 193 (dk_at dksX2_readText_0 1 rfl rfl)
theorem dX2_readText_4 : decode cX2_readText 4 = .ok (.aload_n 0, 1) := dk_42 (dk_at dksX2_readText_0 4 rfl rfl)
theorem dX2_readText_5 : decode cX2_readText 5 = .ok (.getfield 7, 3) := dk_180 0 7 (dk_at dksX2_readText_0 5 rfl rfl)
theorem dX2_readText_8 : decode cX2_readText 8 = .ok (.iconst 5, 1) := dk_8 (dk_at dksX2_readText_0 8 rfl rfl)
theorem dX2_readText_9 : decode cX2_readText 9 = .ok (.iaload, 1) := dk_46 (dk_at dksX2_readText_0 9 rfl rfl)
theorem dX2_readText_10 : decode cX2_readText 10 = .ok (.imul, 1) := dk_104 (dk_at dksX2_readText_0 10 rfl rfl)
theorem dX2_readText_11 : decode cX2_readText 11 = .ok (.putfield 150, 3) := dk_181 0 150 (dk_at dksX2_readText_0 11 rfl rfl)
theorem dX2_readText_14 : decode cX2_readText 14 = .ok (.aload_n 0, 1) := dk_42 (dk_at dksX2_readText_0 14 rfl rfl)
theorem dX2_readText_15 : decode cX2_readText 15 = .ok (.getfield 16, 3) := dk_180 0 16 (dk_at dksX2_readText_0 15 rfl rfl)
theorem dX2_readText_18 : decode cX2_readText 18 = .ok (.aload_n 0, 1) := dk_42 (dk_at dksX2_readText_0 18 rfl rfl)
theorem dX2_readText_19 : decode cX2_readText 19 = .ok (.getfield 150, 3) := dk_180 0 150 (dk_at dksX2_readText_0 19 rfl rfl)
theorem dX2_readText_22 : decode cX2_readText 22 = .ok (.iconst 0, 1) := dk_3 (dk_at dksX2_readText_0 22 rfl rfl)
theorem dX2_readText_23 : decode cX2_readText 23 = .ok (.iastore, 1) := dk_79 (dk_at dksX2_readText_0 23 rfl rfl)
theorem dX2_readText_24 : decode cX2_readText 24 = .ok (.aload_n 0, 1) := dk_42 (dk_at dksX2_readText_1 0 rfl rfl)
theorem dX2_readText_25 : decode cX2_readText 25 = .ok (.iconst 0, 1) := dk_3 (dk_at dksX2_readText_1 1 rfl rfl)
theorem dX2_readText_26 : decode cX2_readText 26 = .ok (.putfield 153, 3) := dk_181 0 153 (dk_at dksX2_readText_1 2 rfl rfl)
theorem dX2_readText_29 : decode cX2_readText 29 = .ok (.aload_n 0, 1) := dk_42 (dk_at dksX2_readText_1 5 rfl rfl)
theorem dX2_readText_30 : decode cX2_readText 30 = .ok (.iconst 0, 1) := dk_3 (dk_at dksX2_readText_1 6 rfl rfl)
theorem dX2_readText_31 : decode cX2_readText 31 = .ok (.putfield 163, 3) := dk_181 0 163 (dk_at dksX2_readText_1 7 rfl rfl)
theorem dX2_readText_34 : decode cX2_readText 34 = .ok (.aload_n 0, 1) := dk_42 (dk_at dksX2_readText_1 10 rfl rfl)
theorem dX2_readText_35 : decode cX2_readText 35 = .ok (.iconst 0, 1) := dk_3 (dk_at dksX2_readText_1 11 rfl rfl)
theorem dX2_readText_36 : decode cX2_readText 36 = .ok (.putfield 257, 3) := dk_181 1 1 (dk_at dksX2_readText_1 12 rfl rfl)
theorem dX2_readText_39 : decode cX2_readText 39 = .ok (.aload_n 0, 1) := dk_42 (dk_at dksX2_readText_1 15 rfl rfl)
theorem dX2_readText_40 : decode cX2_readText 40 = .ok (.iconst 0, 1) := dk_3 (dk_at dksX2_readText_1 16 rfl rfl)
theorem dX2_readText_41 : decode cX2_readText 41 = .ok (.putfield 115, 3) := dk_181 0 115 (dk_at dksX2_readText_1 17 rfl rfl)
theorem dX2_readText_44 : decode cX2_readText 44 = .ok (.aload_n 0, 1) := dk_42 (dk_at dksX2_readText_1 20 rfl rfl)
theorem dX2_readText_45 : decode cX2_readText 45 = .ok (.invokevirtual 185, 3) := dk_182 0 185 (dk_at dksX2_readText_1 21 rfl rfl)
theorem dX2_readText_48 : decode cX2_readText 48 = .ok (.aload_n 0, 1) := dk_42 (dk_at dksX2_readText_2 0 rfl rfl)
theorem dX2_readText_49 : decode cX2_readText 49 = .ok (.getfield 125, 3) := dk_180 0 125 (dk_at dksX2_readText_2 1 rfl rfl)
theorem dX2_readText_52 : decode cX2_readText 52 = .ok (.ifCond .eq 17, 3) := dk_153 0 17 (dk_at dksX2_readText_2 4 rfl rfl)
theorem dX2_readText_55 : decode cX2_readText 55 = .ok (.aload_n 0, 1) := dk_42 (dk_at dksX2_readText_2 7 rfl rfl)
theorem dX2_readText_56 : decode cX2_readText 56 = .ok (.invokevirtual 263, 3) := dk_182 1 7 (dk_at dksX2_readText_2 8 rfl rfl)
theorem dX2_readText_59 : decode cX2_readText 59 = .ok (.istore_n 1, 1) := dk_60 (dk_at dksX2_readText_2 11 rfl rfl)
theorem dX2_readText_60 : decode cX2_readText 60 = .ok (.iload_n 1, 1) := dk_27 (dk_at dksX2_readText_2 12 rfl rfl)
theorem dX2_readText_61 : decode cX2_readText 61 = .ok (.ifCond .eq 5, 3) := dk_153 0 5 (dk_at dksX2_readText_2 13 rfl rfl)
theorem dX2_readText_64 : decode cX2_readText 64 = .ok (.iload_n 1, 1) := dk_27 (dk_at dksX2_readText_2 16 rfl rfl)
theorem dX2_readText_65 : decode cX2_readText 65 = .ok (.ireturn, 1) := dk_172 (dk_at dksX2_readText_2 17 rfl rfl)
theorem dX2_readText_66 : decode cX2_readText 66 = .ok (.goto (-18), 3) := dk_167 255 238 (dk_at dksX2_readText_2 18 rfl rfl)
theorem dX2_readText_69 : decode cX2_readText 69 = .ok (.iconst 0, 1) := dk_3 (dk_at dksX2_readText_2 21 rfl rfl)
theorem dX2_readText_70 : decode cX2_readText 70 = .ok (.ireturn, 1) := dk_172 (dk_at dksX2_readText_2 22 rfl rfl)
abbrev MX2_readText : jjM := (yX2_readText, cX2_readText, 2, (Option.some Jvm.ClassFile.FieldType.int))
theorem npX2_readText : yX2_readText.cls ≠ "java/lang/invoke/MethodHandle" ∧ yX2_readText.cls ≠ "java/lang/invoke/VarHandle" ∧ (parseMethodDescriptor yX2_readText.desc).map (fun d => d.parameters.length) = some 0 := by decide +kernel
abbrev cX2_nextToken : ByteArray := prog_17_method_21_code
def yX2_nextToken : MethodName := ⟨RX2, "nextToken", "()V"⟩
def dkwX2_nextToken_16 : List UInt8 := [16, 60, 160, 0, 7, 7, 167, 0, 4, 8, 181, 0, 125, 177]
abbrev dktX2_nextToken_16 : List UInt8 := dkwX2_nextToken_16 ++ []
def dkwX2_nextToken_15 : List UInt8 := [42, 180, 0, 115, 182, 0, 118, 16, 61, 160, 0, 28, 42, 89, 180, 0, 115, 4, 96, 181, 0, 115, 42, 27]
abbrev dktX2_nextToken_15 : List UInt8 := dkwX2_nextToken_15 ++ dktX2_nextToken_16
def dkwX2_nextToken_14 : List UInt8 := [153, 0, 7, 27, 167, 0, 4, 6, 181, 0, 125, 27, 16, 60, 159, 0, 9, 27, 16, 62, 160, 0, 41, 42]
abbrev dktX2_nextToken_14 : List UInt8 := dkwX2_nextToken_14 ++ dktX2_nextToken_15
def dkwX2_nextToken_13 : List UInt8 := [159, 0, 15, 27, 16, 41, 159, 0, 9, 27, 16, 59, 160, 0, 7, 4, 167, 0, 4, 3, 61, 42, 28]
abbrev dktX2_nextToken_13 : List UInt8 := dkwX2_nextToken_13 ++ dktX2_nextToken_14
def dkwX2_nextToken_12 : List UInt8 := [159, 0, 39, 27, 16, 45, 159, 0, 33, 27, 16, 42, 159, 0, 27, 27, 16, 47, 159, 0, 21, 27, 16, 40]
abbrev dktX2_nextToken_12 : List UInt8 := dkwX2_nextToken_12 ++ dktX2_nextToken_13
def dkwX2_nextToken_11 : List UInt8 := [159, 0, 63, 27, 16, 62, 159, 0, 57, 27, 16, 61, 159, 0, 51, 27, 16, 35, 159, 0, 45, 27, 16, 43]
abbrev dktX2_nextToken_11 : List UInt8 := dkwX2_nextToken_11 ++ dktX2_nextToken_12
def dkwX2_nextToken_10 : List UInt8 := [164, 0, 156, 42, 9, 181, 0, 138, 167, 0, 148, 42, 89, 180, 0, 115, 4, 96, 181, 0, 115, 27, 16, 60]
abbrev dktX2_nextToken_10 : List UInt8 := dkwX2_nextToken_10 ++ dktX2_nextToken_11
def dkwX2_nextToken_9 : List UInt8 := [42, 89, 180, 0, 115, 4, 96, 181, 0, 115, 167, 255, 197, 42, 180, 0, 115, 42, 180, 0, 122, 100, 16, 7]
abbrev dktX2_nextToken_9 : List UInt8 := dkwX2_nextToken_9 ++ dktX2_nextToken_10
def dkwX2_nextToken_8 : List UInt8 := [162, 0, 24, 42, 42, 180, 0, 138, 16, 8, 121, 42, 42, 180, 0, 115, 182, 0, 118, 133, 129, 181, 0, 138]
abbrev dktX2_nextToken_8 : List UInt8 := dkwX2_nextToken_8 ++ dktX2_nextToken_9
def dkwX2_nextToken_7 : List UInt8 := [180, 0, 115, 182, 0, 118, 184, 0, 135, 153, 0, 51, 42, 180, 0, 115, 42, 180, 0, 122, 100, 16, 7]
abbrev dktX2_nextToken_7 : List UInt8 := dkwX2_nextToken_7 ++ dktX2_nextToken_8
def dkwX2_nextToken_6 : List UInt8 := [167, 255, 200, 27, 184, 0, 135, 153, 0, 97, 42, 5, 181, 0, 125, 42, 9, 181, 0, 138, 42, 42]
abbrev dktX2_nextToken_6 : List UInt8 := dkwX2_nextToken_6 ++ dktX2_nextToken_7
def dkwX2_nextToken_5 : List UInt8 := [42, 180, 0, 115, 182, 0, 118, 96, 16, 48, 100, 181, 0, 131, 42, 89, 180, 0, 115, 4, 96, 181, 0, 115]
abbrev dktX2_nextToken_5 : List UInt8 := dkwX2_nextToken_5 ++ dktX2_nextToken_6
def dkwX2_nextToken_4 : List UInt8 := [184, 0, 128, 153, 1, 38, 42, 180, 0, 131, 18, 134, 162, 0, 26, 42, 16, 10, 42, 180, 0, 131, 104, 42]
abbrev dktX2_nextToken_4 : List UInt8 := dkwX2_nextToken_4 ++ dktX2_nextToken_5
def dkwX2_nextToken_3 : List UInt8 := [184, 0, 128, 153, 0, 72, 42, 4, 181, 0, 125, 42, 3, 181, 0, 131, 42, 42, 180, 0, 115, 182, 0, 118]
abbrev dktX2_nextToken_3 : List UInt8 := dkwX2_nextToken_3 ++ dktX2_nextToken_4
def dkwX2_nextToken_2 : List UInt8 := [42, 42, 180, 0, 115, 182, 0, 118, 60, 27, 156, 0, 11, 42, 3, 181, 0, 125, 167, 1, 69, 27]
abbrev dktX2_nextToken_2 : List UInt8 := dkwX2_nextToken_2 ++ dktX2_nextToken_3
def dkwX2_nextToken_1 : List UInt8 := [160, 0, 16, 42, 89, 180, 0, 115, 4, 96, 181, 0, 115, 167, 255, 220, 42, 42, 180, 0, 115, 181, 0, 122]
abbrev dktX2_nextToken_1 : List UInt8 := dkwX2_nextToken_1 ++ dktX2_nextToken_2
def dkwX2_nextToken_0 : List UInt8 := [42, 42, 180, 0, 115, 182, 0, 118, 16, 32, 159, 0, 16, 42, 42, 180, 0, 115, 182, 0, 118, 16, 10]
abbrev dktX2_nextToken_0 : List UInt8 := dkwX2_nextToken_0 ++ dktX2_nextToken_1
theorem dksX2_nextToken_0 : cX2_nextToken.data.toList.drop 0 = dktX2_nextToken_0 := by decide +kernel
theorem dksX2_nextToken_1 : cX2_nextToken.data.toList.drop 23 = dktX2_nextToken_1 := dk_seg dksX2_nextToken_0 23 rfl rfl
theorem dksX2_nextToken_2 : cX2_nextToken.data.toList.drop 47 = dktX2_nextToken_2 := dk_seg dksX2_nextToken_1 24 rfl rfl
theorem dksX2_nextToken_3 : cX2_nextToken.data.toList.drop 69 = dktX2_nextToken_3 := dk_seg dksX2_nextToken_2 22 rfl rfl
theorem dksX2_nextToken_4 : cX2_nextToken.data.toList.drop 93 = dktX2_nextToken_4 := dk_seg dksX2_nextToken_3 24 rfl rfl
theorem dksX2_nextToken_5 : cX2_nextToken.data.toList.drop 117 = dktX2_nextToken_5 := dk_seg dksX2_nextToken_4 24 rfl rfl
theorem dksX2_nextToken_6 : cX2_nextToken.data.toList.drop 141 = dktX2_nextToken_6 := dk_seg dksX2_nextToken_5 24 rfl rfl
theorem dksX2_nextToken_7 : cX2_nextToken.data.toList.drop 163 = dktX2_nextToken_7 := dk_seg dksX2_nextToken_6 22 rfl rfl
theorem dksX2_nextToken_8 : cX2_nextToken.data.toList.drop 186 = dktX2_nextToken_8 := dk_seg dksX2_nextToken_7 23 rfl rfl
theorem dksX2_nextToken_9 : cX2_nextToken.data.toList.drop 210 = dktX2_nextToken_9 := dk_seg dksX2_nextToken_8 24 rfl rfl
theorem dksX2_nextToken_10 : cX2_nextToken.data.toList.drop 234 = dktX2_nextToken_10 := dk_seg dksX2_nextToken_9 24 rfl rfl
theorem dksX2_nextToken_11 : cX2_nextToken.data.toList.drop 258 = dktX2_nextToken_11 := dk_seg dksX2_nextToken_10 24 rfl rfl
theorem dksX2_nextToken_12 : cX2_nextToken.data.toList.drop 282 = dktX2_nextToken_12 := dk_seg dksX2_nextToken_11 24 rfl rfl
theorem dksX2_nextToken_13 : cX2_nextToken.data.toList.drop 306 = dktX2_nextToken_13 := dk_seg dksX2_nextToken_12 24 rfl rfl
theorem dksX2_nextToken_14 : cX2_nextToken.data.toList.drop 329 = dktX2_nextToken_14 := dk_seg dksX2_nextToken_13 23 rfl rfl
theorem dksX2_nextToken_15 : cX2_nextToken.data.toList.drop 353 = dktX2_nextToken_15 := dk_seg dksX2_nextToken_14 24 rfl rfl
theorem dksX2_nextToken_16 : cX2_nextToken.data.toList.drop 377 = dktX2_nextToken_16 := dk_seg dksX2_nextToken_15 24 rfl rfl
theorem dX2_nextToken_0 : decode cX2_nextToken 0 = .ok (.aload_n 0, 1) := dk_42 (dk_at dksX2_nextToken_0 0 rfl rfl)
theorem dX2_nextToken_1 : decode cX2_nextToken 1 = .ok (.aload_n 0, 1) := dk_42 (dk_at dksX2_nextToken_0 1 rfl rfl)
theorem dX2_nextToken_2 : decode cX2_nextToken 2 = .ok (.getfield 115, 3) := dk_180 0 115 (dk_at dksX2_nextToken_0 2 rfl rfl)
theorem dX2_nextToken_5 : decode cX2_nextToken 5 = .ok (.invokevirtual 118, 3) := dk_182 0 118 (dk_at dksX2_nextToken_0 5 rfl rfl)
theorem dX2_nextToken_8 : decode cX2_nextToken 8 = .ok (.bipush 32, 2) := dk_16 32 (dk_at dksX2_nextToken_0 8 rfl rfl)
theorem dX2_nextToken_10 : decode cX2_nextToken 10 = .ok (.if_icmp .eq 16, 3) := dk_159 0 16 (dk_at dksX2_nextToken_0 10 rfl rfl)
theorem dX2_nextToken_13 : decode cX2_nextToken 13 = .ok (.aload_n 0, 1) := dk_42 (dk_at dksX2_nextToken_0 13 rfl rfl)
theorem dX2_nextToken_14 : decode cX2_nextToken 14 = .ok (.aload_n 0, 1) := dk_42 (dk_at dksX2_nextToken_0 14 rfl rfl)
theorem dX2_nextToken_15 : decode cX2_nextToken 15 = .ok (.getfield 115, 3) := dk_180 0 115 (dk_at dksX2_nextToken_0 15 rfl rfl)
theorem dX2_nextToken_18 : decode cX2_nextToken 18 = .ok (.invokevirtual 118, 3) := dk_182 0 118 (dk_at dksX2_nextToken_0 18 rfl rfl)
theorem dX2_nextToken_21 : decode cX2_nextToken 21 = .ok (.bipush 10, 2) := dk_16 10 (dk_at dksX2_nextToken_0 21 rfl rfl)
theorem dX2_nextToken_23 : decode cX2_nextToken 23 = .ok (.if_icmp .ne 16, 3) := dk_160 0 16 (dk_at dksX2_nextToken_1 0 rfl rfl)
theorem dX2_nextToken_26 : decode cX2_nextToken 26 = .ok (.aload_n 0, 1) := dk_42 (dk_at dksX2_nextToken_1 3 rfl rfl)
theorem dX2_nextToken_27 : decode cX2_nextToken 27 = .ok (.dup, 1) := dk_89 (dk_at dksX2_nextToken_1 4 rfl rfl)
theorem dX2_nextToken_28 : decode cX2_nextToken 28 = .ok (.getfield 115, 3) := dk_180 0 115 (dk_at dksX2_nextToken_1 5 rfl rfl)
theorem dX2_nextToken_31 : decode cX2_nextToken 31 = .ok (.iconst 1, 1) := dk_4 (dk_at dksX2_nextToken_1 8 rfl rfl)
theorem dX2_nextToken_32 : decode cX2_nextToken 32 = .ok (.iadd, 1) := dk_96 (dk_at dksX2_nextToken_1 9 rfl rfl)
theorem dX2_nextToken_33 : decode cX2_nextToken 33 = .ok (.putfield 115, 3) := dk_181 0 115 (dk_at dksX2_nextToken_1 10 rfl rfl)
theorem dX2_nextToken_36 : decode cX2_nextToken 36 = .ok (.goto (-36), 3) := dk_167 255 220 (dk_at dksX2_nextToken_1 13 rfl rfl)
theorem dX2_nextToken_39 : decode cX2_nextToken 39 = .ok (.aload_n 0, 1) := dk_42 (dk_at dksX2_nextToken_1 16 rfl rfl)
theorem dX2_nextToken_40 : decode cX2_nextToken 40 = .ok (.aload_n 0, 1) := dk_42 (dk_at dksX2_nextToken_1 17 rfl rfl)
theorem dX2_nextToken_41 : decode cX2_nextToken 41 = .ok (.getfield 115, 3) := dk_180 0 115 (dk_at dksX2_nextToken_1 18 rfl rfl)
theorem dX2_nextToken_44 : decode cX2_nextToken 44 = .ok (.putfield 122, 3) := dk_181 0 122 (dk_at dksX2_nextToken_1 21 rfl rfl)
theorem dX2_nextToken_47 : decode cX2_nextToken 47 = .ok (.aload_n 0, 1) := dk_42 (dk_at dksX2_nextToken_2 0 rfl rfl)
theorem dX2_nextToken_48 : decode cX2_nextToken 48 = .ok (.aload_n 0, 1) := dk_42 (dk_at dksX2_nextToken_2 1 rfl rfl)
theorem dX2_nextToken_49 : decode cX2_nextToken 49 = .ok (.getfield 115, 3) := dk_180 0 115 (dk_at dksX2_nextToken_2 2 rfl rfl)
theorem dX2_nextToken_52 : decode cX2_nextToken 52 = .ok (.invokevirtual 118, 3) := dk_182 0 118 (dk_at dksX2_nextToken_2 5 rfl rfl)
theorem dX2_nextToken_55 : decode cX2_nextToken 55 = .ok (.istore_n 1, 1) := dk_60 (dk_at dksX2_nextToken_2 8 rfl rfl)
theorem dX2_nextToken_56 : decode cX2_nextToken 56 = .ok (.iload_n 1, 1) := dk_27 (dk_at dksX2_nextToken_2 9 rfl rfl)
theorem dX2_nextToken_57 : decode cX2_nextToken 57 = .ok (.ifCond .ge 11, 3) := dk_156 0 11 (dk_at dksX2_nextToken_2 10 rfl rfl)
theorem dX2_nextToken_60 : decode cX2_nextToken 60 = .ok (.aload_n 0, 1) := dk_42 (dk_at dksX2_nextToken_2 13 rfl rfl)
theorem dX2_nextToken_61 : decode cX2_nextToken 61 = .ok (.iconst 0, 1) := dk_3 (dk_at dksX2_nextToken_2 14 rfl rfl)
theorem dX2_nextToken_62 : decode cX2_nextToken 62 = .ok (.putfield 125, 3) := dk_181 0 125 (dk_at dksX2_nextToken_2 15 rfl rfl)
theorem dX2_nextToken_65 : decode cX2_nextToken 65 = .ok (.goto 325, 3) := dk_167 1 69 (dk_at dksX2_nextToken_2 18 rfl rfl)
theorem dX2_nextToken_68 : decode cX2_nextToken 68 = .ok (.iload_n 1, 1) := dk_27 (dk_at dksX2_nextToken_2 21 rfl rfl)
theorem dX2_nextToken_69 : decode cX2_nextToken 69 = .ok (.invokestatic 128, 3) := dk_184 0 128 (dk_at dksX2_nextToken_3 0 rfl rfl)
theorem dX2_nextToken_72 : decode cX2_nextToken 72 = .ok (.ifCond .eq 72, 3) := dk_153 0 72 (dk_at dksX2_nextToken_3 3 rfl rfl)
theorem dX2_nextToken_75 : decode cX2_nextToken 75 = .ok (.aload_n 0, 1) := dk_42 (dk_at dksX2_nextToken_3 6 rfl rfl)
theorem dX2_nextToken_76 : decode cX2_nextToken 76 = .ok (.iconst 1, 1) := dk_4 (dk_at dksX2_nextToken_3 7 rfl rfl)
theorem dX2_nextToken_77 : decode cX2_nextToken 77 = .ok (.putfield 125, 3) := dk_181 0 125 (dk_at dksX2_nextToken_3 8 rfl rfl)
theorem dX2_nextToken_80 : decode cX2_nextToken 80 = .ok (.aload_n 0, 1) := dk_42 (dk_at dksX2_nextToken_3 11 rfl rfl)
theorem dX2_nextToken_81 : decode cX2_nextToken 81 = .ok (.iconst 0, 1) := dk_3 (dk_at dksX2_nextToken_3 12 rfl rfl)
theorem dX2_nextToken_82 : decode cX2_nextToken 82 = .ok (.putfield 131, 3) := dk_181 0 131 (dk_at dksX2_nextToken_3 13 rfl rfl)
theorem dX2_nextToken_85 : decode cX2_nextToken 85 = .ok (.aload_n 0, 1) := dk_42 (dk_at dksX2_nextToken_3 16 rfl rfl)
theorem dX2_nextToken_86 : decode cX2_nextToken 86 = .ok (.aload_n 0, 1) := dk_42 (dk_at dksX2_nextToken_3 17 rfl rfl)
theorem dX2_nextToken_87 : decode cX2_nextToken 87 = .ok (.getfield 115, 3) := dk_180 0 115 (dk_at dksX2_nextToken_3 18 rfl rfl)
theorem dX2_nextToken_90 : decode cX2_nextToken 90 = .ok (.invokevirtual 118, 3) := dk_182 0 118 (dk_at dksX2_nextToken_3 21 rfl rfl)
theorem dX2_nextToken_93 : decode cX2_nextToken 93 = .ok (.invokestatic 128, 3) := dk_184 0 128 (dk_at dksX2_nextToken_4 0 rfl rfl)
theorem dX2_nextToken_96 : decode cX2_nextToken 96 = .ok (.ifCond .eq 294, 3) := dk_153 1 38 (dk_at dksX2_nextToken_4 3 rfl rfl)
theorem dX2_nextToken_99 : decode cX2_nextToken 99 = .ok (.aload_n 0, 1) := dk_42 (dk_at dksX2_nextToken_4 6 rfl rfl)
theorem dX2_nextToken_100 : decode cX2_nextToken 100 = .ok (.getfield 131, 3) := dk_180 0 131 (dk_at dksX2_nextToken_4 7 rfl rfl)
theorem dX2_nextToken_103 : decode cX2_nextToken 103 = .ok (.ldc 134, 2) := dk_18 134 (dk_at dksX2_nextToken_4 10 rfl rfl)
theorem dX2_nextToken_105 : decode cX2_nextToken 105 = .ok (.if_icmp .ge 26, 3) := dk_162 0 26 (dk_at dksX2_nextToken_4 12 rfl rfl)
theorem dX2_nextToken_108 : decode cX2_nextToken 108 = .ok (.aload_n 0, 1) := dk_42 (dk_at dksX2_nextToken_4 15 rfl rfl)
theorem dX2_nextToken_109 : decode cX2_nextToken 109 = .ok (.bipush 10, 2) := dk_16 10 (dk_at dksX2_nextToken_4 16 rfl rfl)
theorem dX2_nextToken_111 : decode cX2_nextToken 111 = .ok (.aload_n 0, 1) := dk_42 (dk_at dksX2_nextToken_4 18 rfl rfl)
theorem dX2_nextToken_112 : decode cX2_nextToken 112 = .ok (.getfield 131, 3) := dk_180 0 131 (dk_at dksX2_nextToken_4 19 rfl rfl)
theorem dX2_nextToken_115 : decode cX2_nextToken 115 = .ok (.imul, 1) := dk_104 (dk_at dksX2_nextToken_4 22 rfl rfl)
theorem dX2_nextToken_116 : decode cX2_nextToken 116 = .ok (.aload_n 0, 1) := dk_42 (dk_at dksX2_nextToken_4 23 rfl rfl)
theorem dX2_nextToken_117 : decode cX2_nextToken 117 = .ok (.aload_n 0, 1) := dk_42 (dk_at dksX2_nextToken_5 0 rfl rfl)
theorem dX2_nextToken_118 : decode cX2_nextToken 118 = .ok (.getfield 115, 3) := dk_180 0 115 (dk_at dksX2_nextToken_5 1 rfl rfl)
theorem dX2_nextToken_121 : decode cX2_nextToken 121 = .ok (.invokevirtual 118, 3) := dk_182 0 118 (dk_at dksX2_nextToken_5 4 rfl rfl)
theorem dX2_nextToken_124 : decode cX2_nextToken 124 = .ok (.iadd, 1) := dk_96 (dk_at dksX2_nextToken_5 7 rfl rfl)
theorem dX2_nextToken_125 : decode cX2_nextToken 125 = .ok (.bipush 48, 2) := dk_16 48 (dk_at dksX2_nextToken_5 8 rfl rfl)
theorem dX2_nextToken_127 : decode cX2_nextToken 127 = .ok (.isub, 1) := dk_100 (dk_at dksX2_nextToken_5 10 rfl rfl)
theorem dX2_nextToken_128 : decode cX2_nextToken 128 = .ok (.putfield 131, 3) := dk_181 0 131 (dk_at dksX2_nextToken_5 11 rfl rfl)
theorem dX2_nextToken_131 : decode cX2_nextToken 131 = .ok (.aload_n 0, 1) := dk_42 (dk_at dksX2_nextToken_5 14 rfl rfl)
theorem dX2_nextToken_132 : decode cX2_nextToken 132 = .ok (.dup, 1) := dk_89 (dk_at dksX2_nextToken_5 15 rfl rfl)
theorem dX2_nextToken_133 : decode cX2_nextToken 133 = .ok (.getfield 115, 3) := dk_180 0 115 (dk_at dksX2_nextToken_5 16 rfl rfl)
theorem dX2_nextToken_136 : decode cX2_nextToken 136 = .ok (.iconst 1, 1) := dk_4 (dk_at dksX2_nextToken_5 19 rfl rfl)
theorem dX2_nextToken_137 : decode cX2_nextToken 137 = .ok (.iadd, 1) := dk_96 (dk_at dksX2_nextToken_5 20 rfl rfl)
theorem dX2_nextToken_138 : decode cX2_nextToken 138 = .ok (.putfield 115, 3) := dk_181 0 115 (dk_at dksX2_nextToken_5 21 rfl rfl)
theorem dX2_nextToken_141 : decode cX2_nextToken 141 = .ok (.goto (-56), 3) := dk_167 255 200 (dk_at dksX2_nextToken_6 0 rfl rfl)
theorem dX2_nextToken_144 : decode cX2_nextToken 144 = .ok (.iload_n 1, 1) := dk_27 (dk_at dksX2_nextToken_6 3 rfl rfl)
theorem dX2_nextToken_145 : decode cX2_nextToken 145 = .ok (.invokestatic 135, 3) := dk_184 0 135 (dk_at dksX2_nextToken_6 4 rfl rfl)
theorem dX2_nextToken_148 : decode cX2_nextToken 148 = .ok (.ifCond .eq 97, 3) := dk_153 0 97 (dk_at dksX2_nextToken_6 7 rfl rfl)
theorem dX2_nextToken_151 : decode cX2_nextToken 151 = .ok (.aload_n 0, 1) := dk_42 (dk_at dksX2_nextToken_6 10 rfl rfl)
theorem dX2_nextToken_152 : decode cX2_nextToken 152 = .ok (.iconst 2, 1) := dk_5 (dk_at dksX2_nextToken_6 11 rfl rfl)
theorem dX2_nextToken_153 : decode cX2_nextToken 153 = .ok (.putfield 125, 3) := dk_181 0 125 (dk_at dksX2_nextToken_6 12 rfl rfl)
theorem dX2_nextToken_156 : decode cX2_nextToken 156 = .ok (.aload_n 0, 1) := dk_42 (dk_at dksX2_nextToken_6 15 rfl rfl)
theorem dX2_nextToken_157 : decode cX2_nextToken 157 = .ok (.lconst 0, 1) := dk_9 (dk_at dksX2_nextToken_6 16 rfl rfl)
theorem dX2_nextToken_158 : decode cX2_nextToken 158 = .ok (.putfield 138, 3) := dk_181 0 138 (dk_at dksX2_nextToken_6 17 rfl rfl)
theorem dX2_nextToken_161 : decode cX2_nextToken 161 = .ok (.aload_n 0, 1) := dk_42 (dk_at dksX2_nextToken_6 20 rfl rfl)
theorem dX2_nextToken_162 : decode cX2_nextToken 162 = .ok (.aload_n 0, 1) := dk_42 (dk_at dksX2_nextToken_6 21 rfl rfl)
theorem dX2_nextToken_163 : decode cX2_nextToken 163 = .ok (.getfield 115, 3) := dk_180 0 115 (dk_at dksX2_nextToken_7 0 rfl rfl)
theorem dX2_nextToken_166 : decode cX2_nextToken 166 = .ok (.invokevirtual 118, 3) := dk_182 0 118 (dk_at dksX2_nextToken_7 3 rfl rfl)
theorem dX2_nextToken_169 : decode cX2_nextToken 169 = .ok (.invokestatic 135, 3) := dk_184 0 135 (dk_at dksX2_nextToken_7 6 rfl rfl)
theorem dX2_nextToken_172 : decode cX2_nextToken 172 = .ok (.ifCond .eq 51, 3) := dk_153 0 51 (dk_at dksX2_nextToken_7 9 rfl rfl)
theorem dX2_nextToken_175 : decode cX2_nextToken 175 = .ok (.aload_n 0, 1) := dk_42 (dk_at dksX2_nextToken_7 12 rfl rfl)
theorem dX2_nextToken_176 : decode cX2_nextToken 176 = .ok (.getfield 115, 3) := dk_180 0 115 (dk_at dksX2_nextToken_7 13 rfl rfl)
theorem dX2_nextToken_179 : decode cX2_nextToken 179 = .ok (.aload_n 0, 1) := dk_42 (dk_at dksX2_nextToken_7 16 rfl rfl)
theorem dX2_nextToken_180 : decode cX2_nextToken 180 = .ok (.getfield 122, 3) := dk_180 0 122 (dk_at dksX2_nextToken_7 17 rfl rfl)
theorem dX2_nextToken_183 : decode cX2_nextToken 183 = .ok (.isub, 1) := dk_100 (dk_at dksX2_nextToken_7 20 rfl rfl)
theorem dX2_nextToken_184 : decode cX2_nextToken 184 = .ok (.bipush 7, 2) := dk_16 7 (dk_at dksX2_nextToken_7 21 rfl rfl)
theorem dX2_nextToken_186 : decode cX2_nextToken 186 = .ok (.if_icmp .ge 24, 3) := dk_162 0 24 (dk_at dksX2_nextToken_8 0 rfl rfl)
theorem dX2_nextToken_189 : decode cX2_nextToken 189 = .ok (.aload_n 0, 1) := dk_42 (dk_at dksX2_nextToken_8 3 rfl rfl)
theorem dX2_nextToken_190 : decode cX2_nextToken 190 = .ok (.aload_n 0, 1) := dk_42 (dk_at dksX2_nextToken_8 4 rfl rfl)
theorem dX2_nextToken_191 : decode cX2_nextToken 191 = .ok (.getfield 138, 3) := dk_180 0 138 (dk_at dksX2_nextToken_8 5 rfl rfl)
theorem dX2_nextToken_194 : decode cX2_nextToken 194 = .ok (.bipush 8, 2) := dk_16 8 (dk_at dksX2_nextToken_8 8 rfl rfl)
theorem dX2_nextToken_196 : decode cX2_nextToken 196 = .ok (.lshl, 1) := dk_121 (dk_at dksX2_nextToken_8 10 rfl rfl)
theorem dX2_nextToken_197 : decode cX2_nextToken 197 = .ok (.aload_n 0, 1) := dk_42 (dk_at dksX2_nextToken_8 11 rfl rfl)
theorem dX2_nextToken_198 : decode cX2_nextToken 198 = .ok (.aload_n 0, 1) := dk_42 (dk_at dksX2_nextToken_8 12 rfl rfl)
theorem dX2_nextToken_199 : decode cX2_nextToken 199 = .ok (.getfield 115, 3) := dk_180 0 115 (dk_at dksX2_nextToken_8 13 rfl rfl)
theorem dX2_nextToken_202 : decode cX2_nextToken 202 = .ok (.invokevirtual 118, 3) := dk_182 0 118 (dk_at dksX2_nextToken_8 16 rfl rfl)
theorem dX2_nextToken_205 : decode cX2_nextToken 205 = .ok (.i2l, 1) := dk_133 (dk_at dksX2_nextToken_8 19 rfl rfl)
theorem dX2_nextToken_206 : decode cX2_nextToken 206 = .ok (.lor, 1) := dk_129 (dk_at dksX2_nextToken_8 20 rfl rfl)
theorem dX2_nextToken_207 : decode cX2_nextToken 207 = .ok (.putfield 138, 3) := dk_181 0 138 (dk_at dksX2_nextToken_8 21 rfl rfl)
theorem dX2_nextToken_210 : decode cX2_nextToken 210 = .ok (.aload_n 0, 1) := dk_42 (dk_at dksX2_nextToken_9 0 rfl rfl)
theorem dX2_nextToken_211 : decode cX2_nextToken 211 = .ok (.dup, 1) := dk_89 (dk_at dksX2_nextToken_9 1 rfl rfl)
theorem dX2_nextToken_212 : decode cX2_nextToken 212 = .ok (.getfield 115, 3) := dk_180 0 115 (dk_at dksX2_nextToken_9 2 rfl rfl)
theorem dX2_nextToken_215 : decode cX2_nextToken 215 = .ok (.iconst 1, 1) := dk_4 (dk_at dksX2_nextToken_9 5 rfl rfl)
theorem dX2_nextToken_216 : decode cX2_nextToken 216 = .ok (.iadd, 1) := dk_96 (dk_at dksX2_nextToken_9 6 rfl rfl)
theorem dX2_nextToken_217 : decode cX2_nextToken 217 = .ok (.putfield 115, 3) := dk_181 0 115 (dk_at dksX2_nextToken_9 7 rfl rfl)
theorem dX2_nextToken_220 : decode cX2_nextToken 220 = .ok (.goto (-59), 3) := dk_167 255 197 (dk_at dksX2_nextToken_9 10 rfl rfl)
theorem dX2_nextToken_223 : decode cX2_nextToken 223 = .ok (.aload_n 0, 1) := dk_42 (dk_at dksX2_nextToken_9 13 rfl rfl)
theorem dX2_nextToken_224 : decode cX2_nextToken 224 = .ok (.getfield 115, 3) := dk_180 0 115 (dk_at dksX2_nextToken_9 14 rfl rfl)
theorem dX2_nextToken_227 : decode cX2_nextToken 227 = .ok (.aload_n 0, 1) := dk_42 (dk_at dksX2_nextToken_9 17 rfl rfl)
theorem dX2_nextToken_228 : decode cX2_nextToken 228 = .ok (.getfield 122, 3) := dk_180 0 122 (dk_at dksX2_nextToken_9 18 rfl rfl)
theorem dX2_nextToken_231 : decode cX2_nextToken 231 = .ok (.isub, 1) := dk_100 (dk_at dksX2_nextToken_9 21 rfl rfl)
theorem dX2_nextToken_232 : decode cX2_nextToken 232 = .ok (.bipush 7, 2) := dk_16 7 (dk_at dksX2_nextToken_9 22 rfl rfl)
theorem dX2_nextToken_234 : decode cX2_nextToken 234 = .ok (.if_icmp .le 156, 3) := dk_164 0 156 (dk_at dksX2_nextToken_10 0 rfl rfl)
theorem dX2_nextToken_237 : decode cX2_nextToken 237 = .ok (.aload_n 0, 1) := dk_42 (dk_at dksX2_nextToken_10 3 rfl rfl)
theorem dX2_nextToken_238 : decode cX2_nextToken 238 = .ok (.lconst 0, 1) := dk_9 (dk_at dksX2_nextToken_10 4 rfl rfl)
theorem dX2_nextToken_239 : decode cX2_nextToken 239 = .ok (.putfield 138, 3) := dk_181 0 138 (dk_at dksX2_nextToken_10 5 rfl rfl)
theorem dX2_nextToken_242 : decode cX2_nextToken 242 = .ok (.goto 148, 3) := dk_167 0 148 (dk_at dksX2_nextToken_10 8 rfl rfl)
theorem dX2_nextToken_245 : decode cX2_nextToken 245 = .ok (.aload_n 0, 1) := dk_42 (dk_at dksX2_nextToken_10 11 rfl rfl)
theorem dX2_nextToken_246 : decode cX2_nextToken 246 = .ok (.dup, 1) := dk_89 (dk_at dksX2_nextToken_10 12 rfl rfl)
theorem dX2_nextToken_247 : decode cX2_nextToken 247 = .ok (.getfield 115, 3) := dk_180 0 115 (dk_at dksX2_nextToken_10 13 rfl rfl)
theorem dX2_nextToken_250 : decode cX2_nextToken 250 = .ok (.iconst 1, 1) := dk_4 (dk_at dksX2_nextToken_10 16 rfl rfl)
theorem dX2_nextToken_251 : decode cX2_nextToken 251 = .ok (.iadd, 1) := dk_96 (dk_at dksX2_nextToken_10 17 rfl rfl)
theorem dX2_nextToken_252 : decode cX2_nextToken 252 = .ok (.putfield 115, 3) := dk_181 0 115 (dk_at dksX2_nextToken_10 18 rfl rfl)
theorem dX2_nextToken_255 : decode cX2_nextToken 255 = .ok (.iload_n 1, 1) := dk_27 (dk_at dksX2_nextToken_10 21 rfl rfl)
theorem dX2_nextToken_256 : decode cX2_nextToken 256 = .ok (.bipush 60, 2) := dk_16 60 (dk_at dksX2_nextToken_10 22 rfl rfl)
theorem dX2_nextToken_258 : decode cX2_nextToken 258 = .ok (.if_icmp .eq 63, 3) := dk_159 0 63 (dk_at dksX2_nextToken_11 0 rfl rfl)
theorem dX2_nextToken_261 : decode cX2_nextToken 261 = .ok (.iload_n 1, 1) := dk_27 (dk_at dksX2_nextToken_11 3 rfl rfl)
theorem dX2_nextToken_262 : decode cX2_nextToken 262 = .ok (.bipush 62, 2) := dk_16 62 (dk_at dksX2_nextToken_11 4 rfl rfl)
theorem dX2_nextToken_264 : decode cX2_nextToken 264 = .ok (.if_icmp .eq 57, 3) := dk_159 0 57 (dk_at dksX2_nextToken_11 6 rfl rfl)
theorem dX2_nextToken_267 : decode cX2_nextToken 267 = .ok (.iload_n 1, 1) := dk_27 (dk_at dksX2_nextToken_11 9 rfl rfl)
theorem dX2_nextToken_268 : decode cX2_nextToken 268 = .ok (.bipush 61, 2) := dk_16 61 (dk_at dksX2_nextToken_11 10 rfl rfl)
theorem dX2_nextToken_270 : decode cX2_nextToken 270 = .ok (.if_icmp .eq 51, 3) := dk_159 0 51 (dk_at dksX2_nextToken_11 12 rfl rfl)
theorem dX2_nextToken_273 : decode cX2_nextToken 273 = .ok (.iload_n 1, 1) := dk_27 (dk_at dksX2_nextToken_11 15 rfl rfl)
theorem dX2_nextToken_274 : decode cX2_nextToken 274 = .ok (.bipush 35, 2) := dk_16 35 (dk_at dksX2_nextToken_11 16 rfl rfl)
theorem dX2_nextToken_276 : decode cX2_nextToken 276 = .ok (.if_icmp .eq 45, 3) := dk_159 0 45 (dk_at dksX2_nextToken_11 18 rfl rfl)
theorem dX2_nextToken_279 : decode cX2_nextToken 279 = .ok (.iload_n 1, 1) := dk_27 (dk_at dksX2_nextToken_11 21 rfl rfl)
theorem dX2_nextToken_280 : decode cX2_nextToken 280 = .ok (.bipush 43, 2) := dk_16 43 (dk_at dksX2_nextToken_11 22 rfl rfl)
theorem dX2_nextToken_282 : decode cX2_nextToken 282 = .ok (.if_icmp .eq 39, 3) := dk_159 0 39 (dk_at dksX2_nextToken_12 0 rfl rfl)
theorem dX2_nextToken_285 : decode cX2_nextToken 285 = .ok (.iload_n 1, 1) := dk_27 (dk_at dksX2_nextToken_12 3 rfl rfl)
theorem dX2_nextToken_286 : decode cX2_nextToken 286 = .ok (.bipush 45, 2) := dk_16 45 (dk_at dksX2_nextToken_12 4 rfl rfl)
theorem dX2_nextToken_288 : decode cX2_nextToken 288 = .ok (.if_icmp .eq 33, 3) := dk_159 0 33 (dk_at dksX2_nextToken_12 6 rfl rfl)
theorem dX2_nextToken_291 : decode cX2_nextToken 291 = .ok (.iload_n 1, 1) := dk_27 (dk_at dksX2_nextToken_12 9 rfl rfl)
theorem dX2_nextToken_292 : decode cX2_nextToken 292 = .ok (.bipush 42, 2) := dk_16 42 (dk_at dksX2_nextToken_12 10 rfl rfl)
theorem dX2_nextToken_294 : decode cX2_nextToken 294 = .ok (.if_icmp .eq 27, 3) := dk_159 0 27 (dk_at dksX2_nextToken_12 12 rfl rfl)
theorem dX2_nextToken_297 : decode cX2_nextToken 297 = .ok (.iload_n 1, 1) := dk_27 (dk_at dksX2_nextToken_12 15 rfl rfl)
theorem dX2_nextToken_298 : decode cX2_nextToken 298 = .ok (.bipush 47, 2) := dk_16 47 (dk_at dksX2_nextToken_12 16 rfl rfl)
theorem dX2_nextToken_300 : decode cX2_nextToken 300 = .ok (.if_icmp .eq 21, 3) := dk_159 0 21 (dk_at dksX2_nextToken_12 18 rfl rfl)
theorem dX2_nextToken_303 : decode cX2_nextToken 303 = .ok (.iload_n 1, 1) := dk_27 (dk_at dksX2_nextToken_12 21 rfl rfl)
theorem dX2_nextToken_304 : decode cX2_nextToken 304 = .ok (.bipush 40, 2) := dk_16 40 (dk_at dksX2_nextToken_12 22 rfl rfl)
theorem dX2_nextToken_306 : decode cX2_nextToken 306 = .ok (.if_icmp .eq 15, 3) := dk_159 0 15 (dk_at dksX2_nextToken_13 0 rfl rfl)
theorem dX2_nextToken_309 : decode cX2_nextToken 309 = .ok (.iload_n 1, 1) := dk_27 (dk_at dksX2_nextToken_13 3 rfl rfl)
theorem dX2_nextToken_310 : decode cX2_nextToken 310 = .ok (.bipush 41, 2) := dk_16 41 (dk_at dksX2_nextToken_13 4 rfl rfl)
theorem dX2_nextToken_312 : decode cX2_nextToken 312 = .ok (.if_icmp .eq 9, 3) := dk_159 0 9 (dk_at dksX2_nextToken_13 6 rfl rfl)
theorem dX2_nextToken_315 : decode cX2_nextToken 315 = .ok (.iload_n 1, 1) := dk_27 (dk_at dksX2_nextToken_13 9 rfl rfl)
theorem dX2_nextToken_316 : decode cX2_nextToken 316 = .ok (.bipush 59, 2) := dk_16 59 (dk_at dksX2_nextToken_13 10 rfl rfl)
theorem dX2_nextToken_318 : decode cX2_nextToken 318 = .ok (.if_icmp .ne 7, 3) := dk_160 0 7 (dk_at dksX2_nextToken_13 12 rfl rfl)
theorem dX2_nextToken_321 : decode cX2_nextToken 321 = .ok (.iconst 1, 1) := dk_4 (dk_at dksX2_nextToken_13 15 rfl rfl)
theorem dX2_nextToken_322 : decode cX2_nextToken 322 = .ok (.goto 4, 3) := dk_167 0 4 (dk_at dksX2_nextToken_13 16 rfl rfl)
theorem dX2_nextToken_325 : decode cX2_nextToken 325 = .ok (.iconst 0, 1) := dk_3 (dk_at dksX2_nextToken_13 19 rfl rfl)
theorem dX2_nextToken_326 : decode cX2_nextToken 326 = .ok (.istore_n 2, 1) := dk_61 (dk_at dksX2_nextToken_13 20 rfl rfl)
theorem dX2_nextToken_327 : decode cX2_nextToken 327 = .ok (.aload_n 0, 1) := dk_42 (dk_at dksX2_nextToken_13 21 rfl rfl)
theorem dX2_nextToken_328 : decode cX2_nextToken 328 = .ok (.iload_n 2, 1) := dk_28 (dk_at dksX2_nextToken_13 22 rfl rfl)
theorem dX2_nextToken_329 : decode cX2_nextToken 329 = .ok (.ifCond .eq 7, 3) := dk_153 0 7 (dk_at dksX2_nextToken_14 0 rfl rfl)
theorem dX2_nextToken_332 : decode cX2_nextToken 332 = .ok (.iload_n 1, 1) := dk_27 (dk_at dksX2_nextToken_14 3 rfl rfl)
theorem dX2_nextToken_333 : decode cX2_nextToken 333 = .ok (.goto 4, 3) := dk_167 0 4 (dk_at dksX2_nextToken_14 4 rfl rfl)
theorem dX2_nextToken_336 : decode cX2_nextToken 336 = .ok (.iconst 3, 1) := dk_6 (dk_at dksX2_nextToken_14 7 rfl rfl)
theorem dX2_nextToken_337 : decode cX2_nextToken 337 = .ok (.putfield 125, 3) := dk_181 0 125 (dk_at dksX2_nextToken_14 8 rfl rfl)
theorem dX2_nextToken_340 : decode cX2_nextToken 340 = .ok (.iload_n 1, 1) := dk_27 (dk_at dksX2_nextToken_14 11 rfl rfl)
theorem dX2_nextToken_341 : decode cX2_nextToken 341 = .ok (.bipush 60, 2) := dk_16 60 (dk_at dksX2_nextToken_14 12 rfl rfl)
theorem dX2_nextToken_343 : decode cX2_nextToken 343 = .ok (.if_icmp .eq 9, 3) := dk_159 0 9 (dk_at dksX2_nextToken_14 14 rfl rfl)
theorem dX2_nextToken_346 : decode cX2_nextToken 346 = .ok (.iload_n 1, 1) := dk_27 (dk_at dksX2_nextToken_14 17 rfl rfl)
theorem dX2_nextToken_347 : decode cX2_nextToken 347 = .ok (.bipush 62, 2) := dk_16 62 (dk_at dksX2_nextToken_14 18 rfl rfl)
theorem dX2_nextToken_349 : decode cX2_nextToken 349 = .ok (.if_icmp .ne 41, 3) := dk_160 0 41 (dk_at dksX2_nextToken_14 20 rfl rfl)
theorem dX2_nextToken_352 : decode cX2_nextToken 352 = .ok (.aload_n 0, 1) := dk_42 (dk_at dksX2_nextToken_14 23 rfl rfl)
theorem dX2_nextToken_353 : decode cX2_nextToken 353 = .ok (.aload_n 0, 1) := dk_42 (dk_at dksX2_nextToken_15 0 rfl rfl)
theorem dX2_nextToken_354 : decode cX2_nextToken 354 = .ok (.getfield 115, 3) := dk_180 0 115 (dk_at dksX2_nextToken_15 1 rfl rfl)
theorem dX2_nextToken_357 : decode cX2_nextToken 357 = .ok (.invokevirtual 118, 3) := dk_182 0 118 (dk_at dksX2_nextToken_15 4 rfl rfl)
theorem dX2_nextToken_360 : decode cX2_nextToken 360 = .ok (.bipush 61, 2) := dk_16 61 (dk_at dksX2_nextToken_15 7 rfl rfl)
theorem dX2_nextToken_362 : decode cX2_nextToken 362 = .ok (.if_icmp .ne 28, 3) := dk_160 0 28 (dk_at dksX2_nextToken_15 9 rfl rfl)
theorem dX2_nextToken_365 : decode cX2_nextToken 365 = .ok (.aload_n 0, 1) := dk_42 (dk_at dksX2_nextToken_15 12 rfl rfl)
theorem dX2_nextToken_366 : decode cX2_nextToken 366 = .ok (.dup, 1) := dk_89 (dk_at dksX2_nextToken_15 13 rfl rfl)
theorem dX2_nextToken_367 : decode cX2_nextToken 367 = .ok (.getfield 115, 3) := dk_180 0 115 (dk_at dksX2_nextToken_15 14 rfl rfl)
theorem dX2_nextToken_370 : decode cX2_nextToken 370 = .ok (.iconst 1, 1) := dk_4 (dk_at dksX2_nextToken_15 17 rfl rfl)
theorem dX2_nextToken_371 : decode cX2_nextToken 371 = .ok (.iadd, 1) := dk_96 (dk_at dksX2_nextToken_15 18 rfl rfl)
theorem dX2_nextToken_372 : decode cX2_nextToken 372 = .ok (.putfield 115, 3) := dk_181 0 115 (dk_at dksX2_nextToken_15 19 rfl rfl)
theorem dX2_nextToken_375 : decode cX2_nextToken 375 = .ok (.aload_n 0, 1) := dk_42 (dk_at dksX2_nextToken_15 22 rfl rfl)
theorem dX2_nextToken_376 : decode cX2_nextToken 376 = .ok (.iload_n 1, 1) := dk_27 (dk_at dksX2_nextToken_15 23 rfl rfl)
theorem dX2_nextToken_377 : decode cX2_nextToken 377 = .ok (.bipush 60, 2) := dk_16 60 (dk_at dksX2_nextToken_16 0 rfl rfl)
theorem dX2_nextToken_379 : decode cX2_nextToken 379 = .ok (.if_icmp .ne 7, 3) := dk_160 0 7 (dk_at dksX2_nextToken_16 2 rfl rfl)
theorem dX2_nextToken_382 : decode cX2_nextToken 382 = .ok (.iconst 4, 1) := dk_7 (dk_at dksX2_nextToken_16 5 rfl rfl)
theorem dX2_nextToken_383 : decode cX2_nextToken 383 = .ok (.goto 4, 3) := dk_167 0 4 (dk_at dksX2_nextToken_16 6 rfl rfl)
theorem dX2_nextToken_386 : decode cX2_nextToken 386 = .ok (.iconst 5, 1) := dk_8 (dk_at dksX2_nextToken_16 9 rfl rfl)
theorem dX2_nextToken_387 : decode cX2_nextToken 387 = .ok (.putfield 125, 3) := dk_181 0 125 (dk_at dksX2_nextToken_16 10 rfl rfl)
theorem dX2_nextToken_390 : decode cX2_nextToken 390 = .ok (.return_, 1) := dk_177 (dk_at dksX2_nextToken_16 13 rfl rfl)
abbrev MX2_nextToken : jjM := (yX2_nextToken, cX2_nextToken, 3, (Option.none : Option Jvm.ClassFile.FieldType))
theorem npX2_nextToken : yX2_nextToken.cls ≠ "java/lang/invoke/MethodHandle" ∧ yX2_nextToken.cls ≠ "java/lang/invoke/VarHandle" ∧ (parseMethodDescriptor yX2_nextToken.desc).map (fun d => d.parameters.length) = some 0 := by decide +kernel
abbrev cX2_byteAt : ByteArray := prog_17_method_18_code
def yX2_byteAt : MethodName := ⟨RX2, "byteAt", "(I)I"⟩
def dkwX2_byteAt_0 : List UInt8 := [27, 42, 180, 0, 108, 162, 0, 12, 42, 180, 0, 19, 27, 46, 167, 0, 4, 2, 172]
abbrev dktX2_byteAt_0 : List UInt8 := dkwX2_byteAt_0 ++ []
theorem dksX2_byteAt_0 : cX2_byteAt.data.toList.drop 0 = dktX2_byteAt_0 := by decide +kernel
theorem dX2_byteAt_0 : decode cX2_byteAt 0 = .ok (.iload_n 1, 1) := dk_27 (dk_at dksX2_byteAt_0 0 rfl rfl)
theorem dX2_byteAt_1 : decode cX2_byteAt 1 = .ok (.aload_n 0, 1) := dk_42 (dk_at dksX2_byteAt_0 1 rfl rfl)
theorem dX2_byteAt_2 : decode cX2_byteAt 2 = .ok (.getfield 108, 3) := dk_180 0 108 (dk_at dksX2_byteAt_0 2 rfl rfl)
theorem dX2_byteAt_5 : decode cX2_byteAt 5 = .ok (.if_icmp .ge 12, 3) := dk_162 0 12 (dk_at dksX2_byteAt_0 5 rfl rfl)
theorem dX2_byteAt_8 : decode cX2_byteAt 8 = .ok (.aload_n 0, 1) := dk_42 (dk_at dksX2_byteAt_0 8 rfl rfl)
theorem dX2_byteAt_9 : decode cX2_byteAt 9 = .ok (.getfield 19, 3) := dk_180 0 19 (dk_at dksX2_byteAt_0 9 rfl rfl)
theorem dX2_byteAt_12 : decode cX2_byteAt 12 = .ok (.iload_n 1, 1) := dk_27 (dk_at dksX2_byteAt_0 12 rfl rfl)
theorem dX2_byteAt_13 : decode cX2_byteAt 13 = .ok (.iaload, 1) := dk_46 (dk_at dksX2_byteAt_0 13 rfl rfl)
theorem dX2_byteAt_14 : decode cX2_byteAt 14 = .ok (.goto 4, 3) := dk_167 0 4 (dk_at dksX2_byteAt_0 14 rfl rfl)
theorem dX2_byteAt_17 : decode cX2_byteAt 17 = .ok (.iconst (-1), 1) := dk_2 (dk_at dksX2_byteAt_0 17 rfl rfl)
theorem dX2_byteAt_18 : decode cX2_byteAt 18 = .ok (.ireturn, 1) := dk_172 (dk_at dksX2_byteAt_0 18 rfl rfl)
abbrev MX2_byteAt : jjM := (yX2_byteAt, cX2_byteAt, 2, (Option.some Jvm.ClassFile.FieldType.int))
theorem npX2_byteAt : yX2_byteAt.cls ≠ "java/lang/invoke/MethodHandle" ∧ yX2_byteAt.cls ≠ "java/lang/invoke/VarHandle" ∧ (parseMethodDescriptor yX2_byteAt.desc).map (fun d => d.parameters.length) = some 1 := by decide +kernel
abbrev cX2_isDigit : ByteArray := prog_17_method_20_code
def yX2_isDigit : MethodName := ⟨RX2, "isDigit", "(I)Z"⟩
def dkwX2_isDigit_0 : List UInt8 := [26, 16, 48, 16, 57, 184, 0, 89, 172]
abbrev dktX2_isDigit_0 : List UInt8 := dkwX2_isDigit_0 ++ []
theorem dksX2_isDigit_0 : cX2_isDigit.data.toList.drop 0 = dktX2_isDigit_0 := by decide +kernel
theorem dX2_isDigit_0 : decode cX2_isDigit 0 = .ok (.iload_n 0, 1) := dk_26 (dk_at dksX2_isDigit_0 0 rfl rfl)
theorem dX2_isDigit_1 : decode cX2_isDigit 1 = .ok (.bipush 48, 2) := dk_16 48 (dk_at dksX2_isDigit_0 1 rfl rfl)
theorem dX2_isDigit_3 : decode cX2_isDigit 3 = .ok (.bipush 57, 2) := dk_16 57 (dk_at dksX2_isDigit_0 3 rfl rfl)
theorem dX2_isDigit_5 : decode cX2_isDigit 5 = .ok (.invokestatic 89, 3) := dk_184 0 89 (dk_at dksX2_isDigit_0 5 rfl rfl)
theorem dX2_isDigit_8 : decode cX2_isDigit 8 = .ok (.ireturn, 1) := dk_172 (dk_at dksX2_isDigit_0 8 rfl rfl)
abbrev MX2_isDigit : jjM := (yX2_isDigit, cX2_isDigit, 1, (Option.some Jvm.ClassFile.FieldType.boolean))
theorem npX2_isDigit : yX2_isDigit.cls ≠ "java/lang/invoke/MethodHandle" ∧ yX2_isDigit.cls ≠ "java/lang/invoke/VarHandle" ∧ (parseMethodDescriptor yX2_isDigit.desc).map (fun d => d.parameters.length) = some 1 := by decide +kernel
abbrev cX2_isLetter : ByteArray := prog_17_method_19_code
def yX2_isLetter : MethodName := ⟨RX2, "isLetter", "(I)Z"⟩
def dkwX2_isLetter_1 : List UInt8 := [167, 0, 4, 3, 172]
abbrev dktX2_isLetter_1 : List UInt8 := dkwX2_isLetter_1 ++ []
def dkwX2_isLetter_0 : List UInt8 := [26, 16, 97, 16, 122, 184, 0, 89, 154, 0, 14, 26, 16, 65, 16, 90, 184, 0, 89, 153, 0, 7, 4]
abbrev dktX2_isLetter_0 : List UInt8 := dkwX2_isLetter_0 ++ dktX2_isLetter_1
theorem dksX2_isLetter_0 : cX2_isLetter.data.toList.drop 0 = dktX2_isLetter_0 := by decide +kernel
theorem dksX2_isLetter_1 : cX2_isLetter.data.toList.drop 23 = dktX2_isLetter_1 := dk_seg dksX2_isLetter_0 23 rfl rfl
theorem dX2_isLetter_0 : decode cX2_isLetter 0 = .ok (.iload_n 0, 1) := dk_26 (dk_at dksX2_isLetter_0 0 rfl rfl)
theorem dX2_isLetter_1 : decode cX2_isLetter 1 = .ok (.bipush 97, 2) := dk_16 97 (dk_at dksX2_isLetter_0 1 rfl rfl)
theorem dX2_isLetter_3 : decode cX2_isLetter 3 = .ok (.bipush 122, 2) := dk_16 122 (dk_at dksX2_isLetter_0 3 rfl rfl)
theorem dX2_isLetter_5 : decode cX2_isLetter 5 = .ok (.invokestatic 89, 3) := dk_184 0 89 (dk_at dksX2_isLetter_0 5 rfl rfl)
theorem dX2_isLetter_8 : decode cX2_isLetter 8 = .ok (.ifCond .ne 14, 3) := dk_154 0 14 (dk_at dksX2_isLetter_0 8 rfl rfl)
theorem dX2_isLetter_11 : decode cX2_isLetter 11 = .ok (.iload_n 0, 1) := dk_26 (dk_at dksX2_isLetter_0 11 rfl rfl)
theorem dX2_isLetter_12 : decode cX2_isLetter 12 = .ok (.bipush 65, 2) := dk_16 65 (dk_at dksX2_isLetter_0 12 rfl rfl)
theorem dX2_isLetter_14 : decode cX2_isLetter 14 = .ok (.bipush 90, 2) := dk_16 90 (dk_at dksX2_isLetter_0 14 rfl rfl)
theorem dX2_isLetter_16 : decode cX2_isLetter 16 = .ok (.invokestatic 89, 3) := dk_184 0 89 (dk_at dksX2_isLetter_0 16 rfl rfl)
theorem dX2_isLetter_19 : decode cX2_isLetter 19 = .ok (.ifCond .eq 7, 3) := dk_153 0 7 (dk_at dksX2_isLetter_0 19 rfl rfl)
theorem dX2_isLetter_22 : decode cX2_isLetter 22 = .ok (.iconst 1, 1) := dk_4 (dk_at dksX2_isLetter_0 22 rfl rfl)
theorem dX2_isLetter_23 : decode cX2_isLetter 23 = .ok (.goto 4, 3) := dk_167 0 4 (dk_at dksX2_isLetter_1 0 rfl rfl)
theorem dX2_isLetter_26 : decode cX2_isLetter 26 = .ok (.iconst 0, 1) := dk_3 (dk_at dksX2_isLetter_1 3 rfl rfl)
theorem dX2_isLetter_27 : decode cX2_isLetter 27 = .ok (.ireturn, 1) := dk_172 (dk_at dksX2_isLetter_1 4 rfl rfl)
abbrev MX2_isLetter : jjM := (yX2_isLetter, cX2_isLetter, 1, (Option.some Jvm.ClassFile.FieldType.boolean))
theorem npX2_isLetter : yX2_isLetter.cls ≠ "java/lang/invoke/MethodHandle" ∧ yX2_isLetter.cls ≠ "java/lang/invoke/VarHandle" ∧ (parseMethodDescriptor yX2_isLetter.desc).map (fun d => d.parameters.length) = some 1 := by decide +kernel
abbrev cX2_clause : ByteArray := prog_17_method_50_code
def yX2_clause : MethodName := ⟨RX2, "clause", "()I"⟩
def dkwX2_clause_6 : List UInt8 := [182, 0, 185, 3, 172]
abbrev dktX2_clause_6 : List UInt8 := dkwX2_clause_6 ++ []
def dkwX2_clause_5 : List UInt8 := [180, 0, 16, 42, 180, 0, 150, 92, 46, 4, 96, 79, 42, 180, 0, 125, 16, 59, 159, 0, 5, 4, 172, 42]
abbrev dktX2_clause_5 : List UInt8 := dkwX2_clause_5 ++ dktX2_clause_6
def dkwX2_clause_4 : List UInt8 := [21, 4, 182, 1, 4, 54, 5, 21, 5, 153, 0, 6, 21, 5, 172, 42, 180, 0, 16, 21, 4, 27, 79, 42]
abbrev dktX2_clause_4 : List UInt8 := dkwX2_clause_4 ++ dktX2_clause_5
def dkwX2_clause_3 : List UInt8 := [42, 27, 181, 0, 182, 42, 182, 0, 185, 42, 180, 0, 150, 4, 96, 7, 29, 104, 96, 54, 4, 42, 27]
abbrev dktX2_clause_3 : List UInt8 := dkwX2_clause_3 ++ dktX2_clause_4
def dkwX2_clause_2 : List UInt8 := [16, 24, 160, 0, 6, 16, 6, 172, 28, 153, 0, 15, 42, 89, 180, 1, 1, 4, 27, 120, 128, 181, 1, 1]
abbrev dktX2_clause_2 : List UInt8 := dkwX2_clause_2 ++ dktX2_clause_3
def dkwX2_clause_1 : List UInt8 := [180, 1, 1, 27, 122, 4, 126, 4, 160, 0, 5, 7, 172, 42, 180, 0, 16, 42, 180, 0, 150, 46, 62, 29]
abbrev dktX2_clause_1 : List UInt8 := dkwX2_clause_1 ++ dktX2_clause_2
def dkwX2_clause_0 : List UInt8 := [42, 182, 0, 254, 60, 27, 156, 0, 5, 4, 172, 27, 4, 6, 184, 0, 89, 61, 28, 153, 0, 17, 42]
abbrev dktX2_clause_0 : List UInt8 := dkwX2_clause_0 ++ dktX2_clause_1
theorem dksX2_clause_0 : cX2_clause.data.toList.drop 0 = dktX2_clause_0 := by decide +kernel
theorem dksX2_clause_1 : cX2_clause.data.toList.drop 23 = dktX2_clause_1 := dk_seg dksX2_clause_0 23 rfl rfl
theorem dksX2_clause_2 : cX2_clause.data.toList.drop 47 = dktX2_clause_2 := dk_seg dksX2_clause_1 24 rfl rfl
theorem dksX2_clause_3 : cX2_clause.data.toList.drop 71 = dktX2_clause_3 := dk_seg dksX2_clause_2 24 rfl rfl
theorem dksX2_clause_4 : cX2_clause.data.toList.drop 94 = dktX2_clause_4 := dk_seg dksX2_clause_3 23 rfl rfl
theorem dksX2_clause_5 : cX2_clause.data.toList.drop 118 = dktX2_clause_5 := dk_seg dksX2_clause_4 24 rfl rfl
theorem dksX2_clause_6 : cX2_clause.data.toList.drop 142 = dktX2_clause_6 := dk_seg dksX2_clause_5 24 rfl rfl
theorem dX2_clause_0 : decode cX2_clause 0 = .ok (.aload_n 0, 1) := dk_42 (dk_at dksX2_clause_0 0 rfl rfl)
theorem dX2_clause_1 : decode cX2_clause 1 = .ok (.invokevirtual 254, 3) := dk_182 0 254 (dk_at dksX2_clause_0 1 rfl rfl)
theorem dX2_clause_4 : decode cX2_clause 4 = .ok (.istore_n 1, 1) := dk_60 (dk_at dksX2_clause_0 4 rfl rfl)
theorem dX2_clause_5 : decode cX2_clause 5 = .ok (.iload_n 1, 1) := dk_27 (dk_at dksX2_clause_0 5 rfl rfl)
theorem dX2_clause_6 : decode cX2_clause 6 = .ok (.ifCond .ge 5, 3) := dk_156 0 5 (dk_at dksX2_clause_0 6 rfl rfl)
theorem dX2_clause_9 : decode cX2_clause 9 = .ok (.iconst 1, 1) := dk_4 (dk_at dksX2_clause_0 9 rfl rfl)
theorem dX2_clause_10 : decode cX2_clause 10 = .ok (.ireturn, 1) := dk_172 (dk_at dksX2_clause_0 10 rfl rfl)
theorem dX2_clause_11 : decode cX2_clause 11 = .ok (.iload_n 1, 1) := dk_27 (dk_at dksX2_clause_0 11 rfl rfl)
theorem dX2_clause_12 : decode cX2_clause 12 = .ok (.iconst 1, 1) := dk_4 (dk_at dksX2_clause_0 12 rfl rfl)
theorem dX2_clause_13 : decode cX2_clause 13 = .ok (.iconst 3, 1) := dk_6 (dk_at dksX2_clause_0 13 rfl rfl)
theorem dX2_clause_14 : decode cX2_clause 14 = .ok (.invokestatic 89, 3) := dk_184 0 89 (dk_at dksX2_clause_0 14 rfl rfl)
theorem dX2_clause_17 : decode cX2_clause 17 = .ok (.istore_n 2, 1) := dk_61 (dk_at dksX2_clause_0 17 rfl rfl)
theorem dX2_clause_18 : decode cX2_clause 18 = .ok (.iload_n 2, 1) := dk_28 (dk_at dksX2_clause_0 18 rfl rfl)
theorem dX2_clause_19 : decode cX2_clause 19 = .ok (.ifCond .eq 17, 3) := dk_153 0 17 (dk_at dksX2_clause_0 19 rfl rfl)
theorem dX2_clause_22 : decode cX2_clause 22 = .ok (.aload_n 0, 1) := dk_42 (dk_at dksX2_clause_0 22 rfl rfl)
theorem dX2_clause_23 : decode cX2_clause 23 = .ok (.getfield 257, 3) := dk_180 1 1 (dk_at dksX2_clause_1 0 rfl rfl)
theorem dX2_clause_26 : decode cX2_clause 26 = .ok (.iload_n 1, 1) := dk_27 (dk_at dksX2_clause_1 3 rfl rfl)
theorem dX2_clause_27 : decode cX2_clause 27 = .ok (.ishr, 1) := dk_122 (dk_at dksX2_clause_1 4 rfl rfl)
theorem dX2_clause_28 : decode cX2_clause 28 = .ok (.iconst 1, 1) := dk_4 (dk_at dksX2_clause_1 5 rfl rfl)
theorem dX2_clause_29 : decode cX2_clause 29 = .ok (.iand, 1) := dk_126 (dk_at dksX2_clause_1 6 rfl rfl)
theorem dX2_clause_30 : decode cX2_clause 30 = .ok (.iconst 1, 1) := dk_4 (dk_at dksX2_clause_1 7 rfl rfl)
theorem dX2_clause_31 : decode cX2_clause 31 = .ok (.if_icmp .ne 5, 3) := dk_160 0 5 (dk_at dksX2_clause_1 8 rfl rfl)
theorem dX2_clause_34 : decode cX2_clause 34 = .ok (.iconst 4, 1) := dk_7 (dk_at dksX2_clause_1 11 rfl rfl)
theorem dX2_clause_35 : decode cX2_clause 35 = .ok (.ireturn, 1) := dk_172 (dk_at dksX2_clause_1 12 rfl rfl)
theorem dX2_clause_36 : decode cX2_clause 36 = .ok (.aload_n 0, 1) := dk_42 (dk_at dksX2_clause_1 13 rfl rfl)
theorem dX2_clause_37 : decode cX2_clause 37 = .ok (.getfield 16, 3) := dk_180 0 16 (dk_at dksX2_clause_1 14 rfl rfl)
theorem dX2_clause_40 : decode cX2_clause 40 = .ok (.aload_n 0, 1) := dk_42 (dk_at dksX2_clause_1 17 rfl rfl)
theorem dX2_clause_41 : decode cX2_clause 41 = .ok (.getfield 150, 3) := dk_180 0 150 (dk_at dksX2_clause_1 18 rfl rfl)
theorem dX2_clause_44 : decode cX2_clause 44 = .ok (.iaload, 1) := dk_46 (dk_at dksX2_clause_1 21 rfl rfl)
theorem dX2_clause_45 : decode cX2_clause 45 = .ok (.istore_n 3, 1) := dk_62 (dk_at dksX2_clause_1 22 rfl rfl)
theorem dX2_clause_46 : decode cX2_clause 46 = .ok (.iload_n 3, 1) := dk_29 (dk_at dksX2_clause_1 23 rfl rfl)
theorem dX2_clause_47 : decode cX2_clause 47 = .ok (.bipush 24, 2) := dk_16 24 (dk_at dksX2_clause_2 0 rfl rfl)
theorem dX2_clause_49 : decode cX2_clause 49 = .ok (.if_icmp .ne 6, 3) := dk_160 0 6 (dk_at dksX2_clause_2 2 rfl rfl)
theorem dX2_clause_52 : decode cX2_clause 52 = .ok (.bipush 6, 2) := dk_16 6 (dk_at dksX2_clause_2 5 rfl rfl)
theorem dX2_clause_54 : decode cX2_clause 54 = .ok (.ireturn, 1) := dk_172 (dk_at dksX2_clause_2 7 rfl rfl)
theorem dX2_clause_55 : decode cX2_clause 55 = .ok (.iload_n 2, 1) := dk_28 (dk_at dksX2_clause_2 8 rfl rfl)
theorem dX2_clause_56 : decode cX2_clause 56 = .ok (.ifCond .eq 15, 3) := dk_153 0 15 (dk_at dksX2_clause_2 9 rfl rfl)
theorem dX2_clause_59 : decode cX2_clause 59 = .ok (.aload_n 0, 1) := dk_42 (dk_at dksX2_clause_2 12 rfl rfl)
theorem dX2_clause_60 : decode cX2_clause 60 = .ok (.dup, 1) := dk_89 (dk_at dksX2_clause_2 13 rfl rfl)
theorem dX2_clause_61 : decode cX2_clause 61 = .ok (.getfield 257, 3) := dk_180 1 1 (dk_at dksX2_clause_2 14 rfl rfl)
theorem dX2_clause_64 : decode cX2_clause 64 = .ok (.iconst 1, 1) := dk_4 (dk_at dksX2_clause_2 17 rfl rfl)
theorem dX2_clause_65 : decode cX2_clause 65 = .ok (.iload_n 1, 1) := dk_27 (dk_at dksX2_clause_2 18 rfl rfl)
theorem dX2_clause_66 : decode cX2_clause 66 = .ok (.ishl, 1) := dk_120 (dk_at dksX2_clause_2 19 rfl rfl)
theorem dX2_clause_67 : decode cX2_clause 67 = .ok (.ior, 1) := dk_128 (dk_at dksX2_clause_2 20 rfl rfl)
theorem dX2_clause_68 : decode cX2_clause 68 = .ok (.putfield 257, 3) := dk_181 1 1 (dk_at dksX2_clause_2 21 rfl rfl)
theorem dX2_clause_71 : decode cX2_clause 71 = .ok (.aload_n 0, 1) := dk_42 (dk_at dksX2_clause_3 0 rfl rfl)
theorem dX2_clause_72 : decode cX2_clause 72 = .ok (.iload_n 1, 1) := dk_27 (dk_at dksX2_clause_3 1 rfl rfl)
theorem dX2_clause_73 : decode cX2_clause 73 = .ok (.putfield 182, 3) := dk_181 0 182 (dk_at dksX2_clause_3 2 rfl rfl)
theorem dX2_clause_76 : decode cX2_clause 76 = .ok (.aload_n 0, 1) := dk_42 (dk_at dksX2_clause_3 5 rfl rfl)
theorem dX2_clause_77 : decode cX2_clause 77 = .ok (.invokevirtual 185, 3) := dk_182 0 185 (dk_at dksX2_clause_3 6 rfl rfl)
theorem dX2_clause_80 : decode cX2_clause 80 = .ok (.aload_n 0, 1) := dk_42 (dk_at dksX2_clause_3 9 rfl rfl)
theorem dX2_clause_81 : decode cX2_clause 81 = .ok (.getfield 150, 3) := dk_180 0 150 (dk_at dksX2_clause_3 10 rfl rfl)
theorem dX2_clause_84 : decode cX2_clause 84 = .ok (.iconst 1, 1) := dk_4 (dk_at dksX2_clause_3 13 rfl rfl)
theorem dX2_clause_85 : decode cX2_clause 85 = .ok (.iadd, 1) := dk_96 (dk_at dksX2_clause_3 14 rfl rfl)
theorem dX2_clause_86 : decode cX2_clause 86 = .ok (.iconst 4, 1) := dk_7 (dk_at dksX2_clause_3 15 rfl rfl)
theorem dX2_clause_87 : decode cX2_clause 87 = .ok (.iload_n 3, 1) := dk_29 (dk_at dksX2_clause_3 16 rfl rfl)
theorem dX2_clause_88 : decode cX2_clause 88 = .ok (.imul, 1) := dk_104 (dk_at dksX2_clause_3 17 rfl rfl)
theorem dX2_clause_89 : decode cX2_clause 89 = .ok (.iadd, 1) := dk_96 (dk_at dksX2_clause_3 18 rfl rfl)
theorem dX2_clause_90 : decode cX2_clause 90 = .ok (.istore 4, 2) := dk_54 4 (dk_at dksX2_clause_3 19 rfl rfl)
theorem dX2_clause_92 : decode cX2_clause 92 = .ok (.aload_n 0, 1) := dk_42 (dk_at dksX2_clause_3 21 rfl rfl)
theorem dX2_clause_93 : decode cX2_clause 93 = .ok (.iload_n 1, 1) := dk_27 (dk_at dksX2_clause_3 22 rfl rfl)
theorem dX2_clause_94 : decode cX2_clause 94 = .ok (.iload 4, 2) := dk_21 4 (dk_at dksX2_clause_4 0 rfl rfl)
theorem dX2_clause_96 : decode cX2_clause 96 = .ok (.invokevirtual 260, 3) := dk_182 1 4 (dk_at dksX2_clause_4 2 rfl rfl)
theorem dX2_clause_99 : decode cX2_clause 99 = .ok (.istore 5, 2) := dk_54 5 (dk_at dksX2_clause_4 5 rfl rfl)
theorem dX2_clause_101 : decode cX2_clause 101 = .ok (.iload 5, 2) := dk_21 5 (dk_at dksX2_clause_4 7 rfl rfl)
theorem dX2_clause_103 : decode cX2_clause 103 = .ok (.ifCond .eq 6, 3) := dk_153 0 6 (dk_at dksX2_clause_4 9 rfl rfl)
theorem dX2_clause_106 : decode cX2_clause 106 = .ok (.iload 5, 2) := dk_21 5 (dk_at dksX2_clause_4 12 rfl rfl)
theorem dX2_clause_108 : decode cX2_clause 108 = .ok (.ireturn, 1) := dk_172 (dk_at dksX2_clause_4 14 rfl rfl)
theorem dX2_clause_109 : decode cX2_clause 109 = .ok (.aload_n 0, 1) := dk_42 (dk_at dksX2_clause_4 15 rfl rfl)
theorem dX2_clause_110 : decode cX2_clause 110 = .ok (.getfield 16, 3) := dk_180 0 16 (dk_at dksX2_clause_4 16 rfl rfl)
theorem dX2_clause_113 : decode cX2_clause 113 = .ok (.iload 4, 2) := dk_21 4 (dk_at dksX2_clause_4 19 rfl rfl)
theorem dX2_clause_115 : decode cX2_clause 115 = .ok (.iload_n 1, 1) := dk_27 (dk_at dksX2_clause_4 21 rfl rfl)
theorem dX2_clause_116 : decode cX2_clause 116 = .ok (.iastore, 1) := dk_79 (dk_at dksX2_clause_4 22 rfl rfl)
theorem dX2_clause_117 : decode cX2_clause 117 = .ok (.aload_n 0, 1) := dk_42 (dk_at dksX2_clause_4 23 rfl rfl)
theorem dX2_clause_118 : decode cX2_clause 118 = .ok (.getfield 16, 3) := dk_180 0 16 (dk_at dksX2_clause_5 0 rfl rfl)
theorem dX2_clause_121 : decode cX2_clause 121 = .ok (.aload_n 0, 1) := dk_42 (dk_at dksX2_clause_5 3 rfl rfl)
theorem dX2_clause_122 : decode cX2_clause 122 = .ok (.getfield 150, 3) := dk_180 0 150 (dk_at dksX2_clause_5 4 rfl rfl)
theorem dX2_clause_125 : decode cX2_clause 125 = .ok (.dup2, 1) := dk_92 (dk_at dksX2_clause_5 7 rfl rfl)
theorem dX2_clause_126 : decode cX2_clause 126 = .ok (.iaload, 1) := dk_46 (dk_at dksX2_clause_5 8 rfl rfl)
theorem dX2_clause_127 : decode cX2_clause 127 = .ok (.iconst 1, 1) := dk_4 (dk_at dksX2_clause_5 9 rfl rfl)
theorem dX2_clause_128 : decode cX2_clause 128 = .ok (.iadd, 1) := dk_96 (dk_at dksX2_clause_5 10 rfl rfl)
theorem dX2_clause_129 : decode cX2_clause 129 = .ok (.iastore, 1) := dk_79 (dk_at dksX2_clause_5 11 rfl rfl)
theorem dX2_clause_130 : decode cX2_clause 130 = .ok (.aload_n 0, 1) := dk_42 (dk_at dksX2_clause_5 12 rfl rfl)
theorem dX2_clause_131 : decode cX2_clause 131 = .ok (.getfield 125, 3) := dk_180 0 125 (dk_at dksX2_clause_5 13 rfl rfl)
theorem dX2_clause_134 : decode cX2_clause 134 = .ok (.bipush 59, 2) := dk_16 59 (dk_at dksX2_clause_5 16 rfl rfl)
theorem dX2_clause_136 : decode cX2_clause 136 = .ok (.if_icmp .eq 5, 3) := dk_159 0 5 (dk_at dksX2_clause_5 18 rfl rfl)
theorem dX2_clause_139 : decode cX2_clause 139 = .ok (.iconst 1, 1) := dk_4 (dk_at dksX2_clause_5 21 rfl rfl)
theorem dX2_clause_140 : decode cX2_clause 140 = .ok (.ireturn, 1) := dk_172 (dk_at dksX2_clause_5 22 rfl rfl)
theorem dX2_clause_141 : decode cX2_clause 141 = .ok (.aload_n 0, 1) := dk_42 (dk_at dksX2_clause_5 23 rfl rfl)
theorem dX2_clause_142 : decode cX2_clause 142 = .ok (.invokevirtual 185, 3) := dk_182 0 185 (dk_at dksX2_clause_6 0 rfl rfl)
theorem dX2_clause_145 : decode cX2_clause 145 = .ok (.iconst 0, 1) := dk_3 (dk_at dksX2_clause_6 3 rfl rfl)
theorem dX2_clause_146 : decode cX2_clause 146 = .ok (.ireturn, 1) := dk_172 (dk_at dksX2_clause_6 4 rfl rfl)
abbrev MX2_clause : jjM := (yX2_clause, cX2_clause, 6, (Option.some Jvm.ClassFile.FieldType.int))
theorem npX2_clause : yX2_clause.cls ≠ "java/lang/invoke/MethodHandle" ∧ yX2_clause.cls ≠ "java/lang/invoke/VarHandle" ∧ (parseMethodDescriptor yX2_clause.desc).map (fun d => d.parameters.length) = some 0 := by decide +kernel
abbrev cX2_sortOf : ByteArray := prog_17_method_42_code
def yX2_sortOf : MethodName := ⟨RX2, "sortOf", "()I"⟩
def dkwX2_sortOf_9 : List UInt8 := [2, 172]
abbrev dktX2_sortOf_9 : List UInt8 := dkwX2_sortOf_9 ++ []
def dkwX2_sortOf_8 : List UInt8 := [167, 0, 25, 42, 16, 100, 16, 114, 16, 121, 184, 0, 142, 182, 0, 216, 153, 0, 8, 16, 9, 167, 0, 4]
abbrev dktX2_sortOf_8 : List UInt8 := dkwX2_sortOf_8 ++ dktX2_sortOf_9
def dkwX2_sortOf_7 : List UInt8 := [153, 0, 6, 16, 7, 172, 42, 16, 119, 16, 101, 16, 116, 184, 0, 142, 182, 0, 216, 153, 0, 8, 16, 8]
abbrev dktX2_sortOf_7 : List UInt8 := dkwX2_sortOf_7 ++ dktX2_sortOf_8
def dkwX2_sortOf_6 : List UInt8 := [182, 0, 216, 153, 0, 6, 16, 6, 172, 42, 16, 112, 16, 117, 16, 116, 184, 0, 142, 182, 0, 216]
abbrev dktX2_sortOf_6 : List UInt8 := dkwX2_sortOf_6 ++ dktX2_sortOf_7
def dkwX2_sortOf_5 : List UInt8 := [184, 0, 146, 182, 0, 216, 153, 0, 5, 8, 172, 42, 16, 116, 16, 97, 16, 107, 16, 101, 184, 0, 170]
abbrev dktX2_sortOf_5 : List UInt8 := dkwX2_sortOf_5 ++ dktX2_sortOf_6
def dkwX2_sortOf_4 : List UInt8 := [184, 0, 146, 182, 0, 216, 153, 0, 5, 7, 172, 42, 16, 110, 16, 117, 16, 100, 16, 103, 16, 101]
abbrev dktX2_sortOf_4 : List UInt8 := dkwX2_sortOf_4 ++ dktX2_sortOf_5
def dkwX2_sortOf_3 : List UInt8 := [184, 0, 170, 182, 0, 216, 153, 0, 5, 6, 172, 42, 16, 110, 16, 105, 16, 103, 16, 104, 16, 116]
abbrev dktX2_sortOf_3 : List UInt8 := dkwX2_sortOf_3 ++ dktX2_sortOf_4
def dkwX2_sortOf_2 : List UInt8 := [16, 108, 16, 108, 184, 0, 146, 182, 0, 216, 153, 0, 5, 5, 172, 42, 16, 110, 16, 101, 16, 101, 16, 100]
abbrev dktX2_sortOf_2 : List UInt8 := dkwX2_sortOf_2 ++ dktX2_sortOf_3
def dkwX2_sortOf_1 : List UInt8 := [16, 108, 16, 108, 16, 115, 184, 0, 146, 182, 0, 216, 153, 0, 5, 4, 172, 42, 16, 115, 16, 119, 16, 101]
abbrev dktX2_sortOf_1 : List UInt8 := dkwX2_sortOf_1 ++ dktX2_sortOf_2
def dkwX2_sortOf_0 : List UInt8 := [42, 16, 108, 16, 97, 16, 119, 184, 0, 142, 182, 0, 216, 153, 0, 5, 3, 172, 42, 16, 102, 16, 97]
abbrev dktX2_sortOf_0 : List UInt8 := dkwX2_sortOf_0 ++ dktX2_sortOf_1
theorem dksX2_sortOf_0 : cX2_sortOf.data.toList.drop 0 = dktX2_sortOf_0 := by decide +kernel
theorem dksX2_sortOf_1 : cX2_sortOf.data.toList.drop 23 = dktX2_sortOf_1 := dk_seg dksX2_sortOf_0 23 rfl rfl
theorem dksX2_sortOf_2 : cX2_sortOf.data.toList.drop 47 = dktX2_sortOf_2 := dk_seg dksX2_sortOf_1 24 rfl rfl
theorem dksX2_sortOf_3 : cX2_sortOf.data.toList.drop 71 = dktX2_sortOf_3 := dk_seg dksX2_sortOf_2 24 rfl rfl
theorem dksX2_sortOf_4 : cX2_sortOf.data.toList.drop 93 = dktX2_sortOf_4 := dk_seg dksX2_sortOf_3 22 rfl rfl
theorem dksX2_sortOf_5 : cX2_sortOf.data.toList.drop 115 = dktX2_sortOf_5 := dk_seg dksX2_sortOf_4 22 rfl rfl
theorem dksX2_sortOf_6 : cX2_sortOf.data.toList.drop 138 = dktX2_sortOf_6 := dk_seg dksX2_sortOf_5 23 rfl rfl
theorem dksX2_sortOf_7 : cX2_sortOf.data.toList.drop 160 = dktX2_sortOf_7 := dk_seg dksX2_sortOf_6 22 rfl rfl
theorem dksX2_sortOf_8 : cX2_sortOf.data.toList.drop 184 = dktX2_sortOf_8 := dk_seg dksX2_sortOf_7 24 rfl rfl
theorem dksX2_sortOf_9 : cX2_sortOf.data.toList.drop 208 = dktX2_sortOf_9 := dk_seg dksX2_sortOf_8 24 rfl rfl
theorem dX2_sortOf_0 : decode cX2_sortOf 0 = .ok (.aload_n 0, 1) := dk_42 (dk_at dksX2_sortOf_0 0 rfl rfl)
theorem dX2_sortOf_1 : decode cX2_sortOf 1 = .ok (.bipush 108, 2) := dk_16 108 (dk_at dksX2_sortOf_0 1 rfl rfl)
theorem dX2_sortOf_3 : decode cX2_sortOf 3 = .ok (.bipush 97, 2) := dk_16 97 (dk_at dksX2_sortOf_0 3 rfl rfl)
theorem dX2_sortOf_5 : decode cX2_sortOf 5 = .ok (.bipush 119, 2) := dk_16 119 (dk_at dksX2_sortOf_0 5 rfl rfl)
theorem dX2_sortOf_7 : decode cX2_sortOf 7 = .ok (.invokestatic 142, 3) := dk_184 0 142 (dk_at dksX2_sortOf_0 7 rfl rfl)
theorem dX2_sortOf_10 : decode cX2_sortOf 10 = .ok (.invokevirtual 216, 3) := dk_182 0 216 (dk_at dksX2_sortOf_0 10 rfl rfl)
theorem dX2_sortOf_13 : decode cX2_sortOf 13 = .ok (.ifCond .eq 5, 3) := dk_153 0 5 (dk_at dksX2_sortOf_0 13 rfl rfl)
theorem dX2_sortOf_16 : decode cX2_sortOf 16 = .ok (.iconst 0, 1) := dk_3 (dk_at dksX2_sortOf_0 16 rfl rfl)
theorem dX2_sortOf_17 : decode cX2_sortOf 17 = .ok (.ireturn, 1) := dk_172 (dk_at dksX2_sortOf_0 17 rfl rfl)
theorem dX2_sortOf_18 : decode cX2_sortOf 18 = .ok (.aload_n 0, 1) := dk_42 (dk_at dksX2_sortOf_0 18 rfl rfl)
theorem dX2_sortOf_19 : decode cX2_sortOf 19 = .ok (.bipush 102, 2) := dk_16 102 (dk_at dksX2_sortOf_0 19 rfl rfl)
theorem dX2_sortOf_21 : decode cX2_sortOf 21 = .ok (.bipush 97, 2) := dk_16 97 (dk_at dksX2_sortOf_0 21 rfl rfl)
theorem dX2_sortOf_23 : decode cX2_sortOf 23 = .ok (.bipush 108, 2) := dk_16 108 (dk_at dksX2_sortOf_1 0 rfl rfl)
theorem dX2_sortOf_25 : decode cX2_sortOf 25 = .ok (.bipush 108, 2) := dk_16 108 (dk_at dksX2_sortOf_1 2 rfl rfl)
theorem dX2_sortOf_27 : decode cX2_sortOf 27 = .ok (.bipush 115, 2) := dk_16 115 (dk_at dksX2_sortOf_1 4 rfl rfl)
theorem dX2_sortOf_29 : decode cX2_sortOf 29 = .ok (.invokestatic 146, 3) := dk_184 0 146 (dk_at dksX2_sortOf_1 6 rfl rfl)
theorem dX2_sortOf_32 : decode cX2_sortOf 32 = .ok (.invokevirtual 216, 3) := dk_182 0 216 (dk_at dksX2_sortOf_1 9 rfl rfl)
theorem dX2_sortOf_35 : decode cX2_sortOf 35 = .ok (.ifCond .eq 5, 3) := dk_153 0 5 (dk_at dksX2_sortOf_1 12 rfl rfl)
theorem dX2_sortOf_38 : decode cX2_sortOf 38 = .ok (.iconst 1, 1) := dk_4 (dk_at dksX2_sortOf_1 15 rfl rfl)
theorem dX2_sortOf_39 : decode cX2_sortOf 39 = .ok (.ireturn, 1) := dk_172 (dk_at dksX2_sortOf_1 16 rfl rfl)
theorem dX2_sortOf_40 : decode cX2_sortOf 40 = .ok (.aload_n 0, 1) := dk_42 (dk_at dksX2_sortOf_1 17 rfl rfl)
theorem dX2_sortOf_41 : decode cX2_sortOf 41 = .ok (.bipush 115, 2) := dk_16 115 (dk_at dksX2_sortOf_1 18 rfl rfl)
theorem dX2_sortOf_43 : decode cX2_sortOf 43 = .ok (.bipush 119, 2) := dk_16 119 (dk_at dksX2_sortOf_1 20 rfl rfl)
theorem dX2_sortOf_45 : decode cX2_sortOf 45 = .ok (.bipush 101, 2) := dk_16 101 (dk_at dksX2_sortOf_1 22 rfl rfl)
theorem dX2_sortOf_47 : decode cX2_sortOf 47 = .ok (.bipush 108, 2) := dk_16 108 (dk_at dksX2_sortOf_2 0 rfl rfl)
theorem dX2_sortOf_49 : decode cX2_sortOf 49 = .ok (.bipush 108, 2) := dk_16 108 (dk_at dksX2_sortOf_2 2 rfl rfl)
theorem dX2_sortOf_51 : decode cX2_sortOf 51 = .ok (.invokestatic 146, 3) := dk_184 0 146 (dk_at dksX2_sortOf_2 4 rfl rfl)
theorem dX2_sortOf_54 : decode cX2_sortOf 54 = .ok (.invokevirtual 216, 3) := dk_182 0 216 (dk_at dksX2_sortOf_2 7 rfl rfl)
theorem dX2_sortOf_57 : decode cX2_sortOf 57 = .ok (.ifCond .eq 5, 3) := dk_153 0 5 (dk_at dksX2_sortOf_2 10 rfl rfl)
theorem dX2_sortOf_60 : decode cX2_sortOf 60 = .ok (.iconst 2, 1) := dk_5 (dk_at dksX2_sortOf_2 13 rfl rfl)
theorem dX2_sortOf_61 : decode cX2_sortOf 61 = .ok (.ireturn, 1) := dk_172 (dk_at dksX2_sortOf_2 14 rfl rfl)
theorem dX2_sortOf_62 : decode cX2_sortOf 62 = .ok (.aload_n 0, 1) := dk_42 (dk_at dksX2_sortOf_2 15 rfl rfl)
theorem dX2_sortOf_63 : decode cX2_sortOf 63 = .ok (.bipush 110, 2) := dk_16 110 (dk_at dksX2_sortOf_2 16 rfl rfl)
theorem dX2_sortOf_65 : decode cX2_sortOf 65 = .ok (.bipush 101, 2) := dk_16 101 (dk_at dksX2_sortOf_2 18 rfl rfl)
theorem dX2_sortOf_67 : decode cX2_sortOf 67 = .ok (.bipush 101, 2) := dk_16 101 (dk_at dksX2_sortOf_2 20 rfl rfl)
theorem dX2_sortOf_69 : decode cX2_sortOf 69 = .ok (.bipush 100, 2) := dk_16 100 (dk_at dksX2_sortOf_2 22 rfl rfl)
theorem dX2_sortOf_71 : decode cX2_sortOf 71 = .ok (.invokestatic 170, 3) := dk_184 0 170 (dk_at dksX2_sortOf_3 0 rfl rfl)
theorem dX2_sortOf_74 : decode cX2_sortOf 74 = .ok (.invokevirtual 216, 3) := dk_182 0 216 (dk_at dksX2_sortOf_3 3 rfl rfl)
theorem dX2_sortOf_77 : decode cX2_sortOf 77 = .ok (.ifCond .eq 5, 3) := dk_153 0 5 (dk_at dksX2_sortOf_3 6 rfl rfl)
theorem dX2_sortOf_80 : decode cX2_sortOf 80 = .ok (.iconst 3, 1) := dk_6 (dk_at dksX2_sortOf_3 9 rfl rfl)
theorem dX2_sortOf_81 : decode cX2_sortOf 81 = .ok (.ireturn, 1) := dk_172 (dk_at dksX2_sortOf_3 10 rfl rfl)
theorem dX2_sortOf_82 : decode cX2_sortOf 82 = .ok (.aload_n 0, 1) := dk_42 (dk_at dksX2_sortOf_3 11 rfl rfl)
theorem dX2_sortOf_83 : decode cX2_sortOf 83 = .ok (.bipush 110, 2) := dk_16 110 (dk_at dksX2_sortOf_3 12 rfl rfl)
theorem dX2_sortOf_85 : decode cX2_sortOf 85 = .ok (.bipush 105, 2) := dk_16 105 (dk_at dksX2_sortOf_3 14 rfl rfl)
theorem dX2_sortOf_87 : decode cX2_sortOf 87 = .ok (.bipush 103, 2) := dk_16 103 (dk_at dksX2_sortOf_3 16 rfl rfl)
theorem dX2_sortOf_89 : decode cX2_sortOf 89 = .ok (.bipush 104, 2) := dk_16 104 (dk_at dksX2_sortOf_3 18 rfl rfl)
theorem dX2_sortOf_91 : decode cX2_sortOf 91 = .ok (.bipush 116, 2) := dk_16 116 (dk_at dksX2_sortOf_3 20 rfl rfl)
theorem dX2_sortOf_93 : decode cX2_sortOf 93 = .ok (.invokestatic 146, 3) := dk_184 0 146 (dk_at dksX2_sortOf_4 0 rfl rfl)
theorem dX2_sortOf_96 : decode cX2_sortOf 96 = .ok (.invokevirtual 216, 3) := dk_182 0 216 (dk_at dksX2_sortOf_4 3 rfl rfl)
theorem dX2_sortOf_99 : decode cX2_sortOf 99 = .ok (.ifCond .eq 5, 3) := dk_153 0 5 (dk_at dksX2_sortOf_4 6 rfl rfl)
theorem dX2_sortOf_102 : decode cX2_sortOf 102 = .ok (.iconst 4, 1) := dk_7 (dk_at dksX2_sortOf_4 9 rfl rfl)
theorem dX2_sortOf_103 : decode cX2_sortOf 103 = .ok (.ireturn, 1) := dk_172 (dk_at dksX2_sortOf_4 10 rfl rfl)
theorem dX2_sortOf_104 : decode cX2_sortOf 104 = .ok (.aload_n 0, 1) := dk_42 (dk_at dksX2_sortOf_4 11 rfl rfl)
theorem dX2_sortOf_105 : decode cX2_sortOf 105 = .ok (.bipush 110, 2) := dk_16 110 (dk_at dksX2_sortOf_4 12 rfl rfl)
theorem dX2_sortOf_107 : decode cX2_sortOf 107 = .ok (.bipush 117, 2) := dk_16 117 (dk_at dksX2_sortOf_4 14 rfl rfl)
theorem dX2_sortOf_109 : decode cX2_sortOf 109 = .ok (.bipush 100, 2) := dk_16 100 (dk_at dksX2_sortOf_4 16 rfl rfl)
theorem dX2_sortOf_111 : decode cX2_sortOf 111 = .ok (.bipush 103, 2) := dk_16 103 (dk_at dksX2_sortOf_4 18 rfl rfl)
theorem dX2_sortOf_113 : decode cX2_sortOf 113 = .ok (.bipush 101, 2) := dk_16 101 (dk_at dksX2_sortOf_4 20 rfl rfl)
theorem dX2_sortOf_115 : decode cX2_sortOf 115 = .ok (.invokestatic 146, 3) := dk_184 0 146 (dk_at dksX2_sortOf_5 0 rfl rfl)
theorem dX2_sortOf_118 : decode cX2_sortOf 118 = .ok (.invokevirtual 216, 3) := dk_182 0 216 (dk_at dksX2_sortOf_5 3 rfl rfl)
theorem dX2_sortOf_121 : decode cX2_sortOf 121 = .ok (.ifCond .eq 5, 3) := dk_153 0 5 (dk_at dksX2_sortOf_5 6 rfl rfl)
theorem dX2_sortOf_124 : decode cX2_sortOf 124 = .ok (.iconst 5, 1) := dk_8 (dk_at dksX2_sortOf_5 9 rfl rfl)
theorem dX2_sortOf_125 : decode cX2_sortOf 125 = .ok (.ireturn, 1) := dk_172 (dk_at dksX2_sortOf_5 10 rfl rfl)
theorem dX2_sortOf_126 : decode cX2_sortOf 126 = .ok (.aload_n 0, 1) := dk_42 (dk_at dksX2_sortOf_5 11 rfl rfl)
theorem dX2_sortOf_127 : decode cX2_sortOf 127 = .ok (.bipush 116, 2) := dk_16 116 (dk_at dksX2_sortOf_5 12 rfl rfl)
theorem dX2_sortOf_129 : decode cX2_sortOf 129 = .ok (.bipush 97, 2) := dk_16 97 (dk_at dksX2_sortOf_5 14 rfl rfl)
theorem dX2_sortOf_131 : decode cX2_sortOf 131 = .ok (.bipush 107, 2) := dk_16 107 (dk_at dksX2_sortOf_5 16 rfl rfl)
theorem dX2_sortOf_133 : decode cX2_sortOf 133 = .ok (.bipush 101, 2) := dk_16 101 (dk_at dksX2_sortOf_5 18 rfl rfl)
theorem dX2_sortOf_135 : decode cX2_sortOf 135 = .ok (.invokestatic 170, 3) := dk_184 0 170 (dk_at dksX2_sortOf_5 20 rfl rfl)
theorem dX2_sortOf_138 : decode cX2_sortOf 138 = .ok (.invokevirtual 216, 3) := dk_182 0 216 (dk_at dksX2_sortOf_6 0 rfl rfl)
theorem dX2_sortOf_141 : decode cX2_sortOf 141 = .ok (.ifCond .eq 6, 3) := dk_153 0 6 (dk_at dksX2_sortOf_6 3 rfl rfl)
theorem dX2_sortOf_144 : decode cX2_sortOf 144 = .ok (.bipush 6, 2) := dk_16 6 (dk_at dksX2_sortOf_6 6 rfl rfl)
theorem dX2_sortOf_146 : decode cX2_sortOf 146 = .ok (.ireturn, 1) := dk_172 (dk_at dksX2_sortOf_6 8 rfl rfl)
theorem dX2_sortOf_147 : decode cX2_sortOf 147 = .ok (.aload_n 0, 1) := dk_42 (dk_at dksX2_sortOf_6 9 rfl rfl)
theorem dX2_sortOf_148 : decode cX2_sortOf 148 = .ok (.bipush 112, 2) := dk_16 112 (dk_at dksX2_sortOf_6 10 rfl rfl)
theorem dX2_sortOf_150 : decode cX2_sortOf 150 = .ok (.bipush 117, 2) := dk_16 117 (dk_at dksX2_sortOf_6 12 rfl rfl)
theorem dX2_sortOf_152 : decode cX2_sortOf 152 = .ok (.bipush 116, 2) := dk_16 116 (dk_at dksX2_sortOf_6 14 rfl rfl)
theorem dX2_sortOf_154 : decode cX2_sortOf 154 = .ok (.invokestatic 142, 3) := dk_184 0 142 (dk_at dksX2_sortOf_6 16 rfl rfl)
theorem dX2_sortOf_157 : decode cX2_sortOf 157 = .ok (.invokevirtual 216, 3) := dk_182 0 216 (dk_at dksX2_sortOf_6 19 rfl rfl)
theorem dX2_sortOf_160 : decode cX2_sortOf 160 = .ok (.ifCond .eq 6, 3) := dk_153 0 6 (dk_at dksX2_sortOf_7 0 rfl rfl)
theorem dX2_sortOf_163 : decode cX2_sortOf 163 = .ok (.bipush 7, 2) := dk_16 7 (dk_at dksX2_sortOf_7 3 rfl rfl)
theorem dX2_sortOf_165 : decode cX2_sortOf 165 = .ok (.ireturn, 1) := dk_172 (dk_at dksX2_sortOf_7 5 rfl rfl)
theorem dX2_sortOf_166 : decode cX2_sortOf 166 = .ok (.aload_n 0, 1) := dk_42 (dk_at dksX2_sortOf_7 6 rfl rfl)
theorem dX2_sortOf_167 : decode cX2_sortOf 167 = .ok (.bipush 119, 2) := dk_16 119 (dk_at dksX2_sortOf_7 7 rfl rfl)
theorem dX2_sortOf_169 : decode cX2_sortOf 169 = .ok (.bipush 101, 2) := dk_16 101 (dk_at dksX2_sortOf_7 9 rfl rfl)
theorem dX2_sortOf_171 : decode cX2_sortOf 171 = .ok (.bipush 116, 2) := dk_16 116 (dk_at dksX2_sortOf_7 11 rfl rfl)
theorem dX2_sortOf_173 : decode cX2_sortOf 173 = .ok (.invokestatic 142, 3) := dk_184 0 142 (dk_at dksX2_sortOf_7 13 rfl rfl)
theorem dX2_sortOf_176 : decode cX2_sortOf 176 = .ok (.invokevirtual 216, 3) := dk_182 0 216 (dk_at dksX2_sortOf_7 16 rfl rfl)
theorem dX2_sortOf_179 : decode cX2_sortOf 179 = .ok (.ifCond .eq 8, 3) := dk_153 0 8 (dk_at dksX2_sortOf_7 19 rfl rfl)
theorem dX2_sortOf_182 : decode cX2_sortOf 182 = .ok (.bipush 8, 2) := dk_16 8 (dk_at dksX2_sortOf_7 22 rfl rfl)
theorem dX2_sortOf_184 : decode cX2_sortOf 184 = .ok (.goto 25, 3) := dk_167 0 25 (dk_at dksX2_sortOf_8 0 rfl rfl)
theorem dX2_sortOf_187 : decode cX2_sortOf 187 = .ok (.aload_n 0, 1) := dk_42 (dk_at dksX2_sortOf_8 3 rfl rfl)
theorem dX2_sortOf_188 : decode cX2_sortOf 188 = .ok (.bipush 100, 2) := dk_16 100 (dk_at dksX2_sortOf_8 4 rfl rfl)
theorem dX2_sortOf_190 : decode cX2_sortOf 190 = .ok (.bipush 114, 2) := dk_16 114 (dk_at dksX2_sortOf_8 6 rfl rfl)
theorem dX2_sortOf_192 : decode cX2_sortOf 192 = .ok (.bipush 121, 2) := dk_16 121 (dk_at dksX2_sortOf_8 8 rfl rfl)
theorem dX2_sortOf_194 : decode cX2_sortOf 194 = .ok (.invokestatic 142, 3) := dk_184 0 142 (dk_at dksX2_sortOf_8 10 rfl rfl)
theorem dX2_sortOf_197 : decode cX2_sortOf 197 = .ok (.invokevirtual 216, 3) := dk_182 0 216 (dk_at dksX2_sortOf_8 13 rfl rfl)
theorem dX2_sortOf_200 : decode cX2_sortOf 200 = .ok (.ifCond .eq 8, 3) := dk_153 0 8 (dk_at dksX2_sortOf_8 16 rfl rfl)
theorem dX2_sortOf_203 : decode cX2_sortOf 203 = .ok (.bipush 9, 2) := dk_16 9 (dk_at dksX2_sortOf_8 19 rfl rfl)
theorem dX2_sortOf_205 : decode cX2_sortOf 205 = .ok (.goto 4, 3) := dk_167 0 4 (dk_at dksX2_sortOf_8 21 rfl rfl)
theorem dX2_sortOf_208 : decode cX2_sortOf 208 = .ok (.iconst (-1), 1) := dk_2 (dk_at dksX2_sortOf_9 0 rfl rfl)
theorem dX2_sortOf_209 : decode cX2_sortOf 209 = .ok (.ireturn, 1) := dk_172 (dk_at dksX2_sortOf_9 1 rfl rfl)
abbrev MX2_sortOf : jjM := (yX2_sortOf, cX2_sortOf, 1, (Option.some Jvm.ClassFile.FieldType.int))
theorem npX2_sortOf : yX2_sortOf.cls ≠ "java/lang/invoke/MethodHandle" ∧ yX2_sortOf.cls ≠ "java/lang/invoke/VarHandle" ∧ (parseMethodDescriptor yX2_sortOf.desc).map (fun d => d.parameters.length) = some 0 := by decide +kernel
abbrev cX2_w3 : ByteArray := prog_17_method_22_code
def yX2_w3 : MethodName := ⟨RX2, "w3", "(III)J"⟩
def dkwX2_w3_0 : List UInt8 := [26, 133, 16, 8, 121, 27, 133, 129, 16, 8, 121, 28, 133, 129, 173]
abbrev dktX2_w3_0 : List UInt8 := dkwX2_w3_0 ++ []
theorem dksX2_w3_0 : cX2_w3.data.toList.drop 0 = dktX2_w3_0 := by decide +kernel
theorem dX2_w3_0 : decode cX2_w3 0 = .ok (.iload_n 0, 1) := dk_26 (dk_at dksX2_w3_0 0 rfl rfl)
theorem dX2_w3_1 : decode cX2_w3 1 = .ok (.i2l, 1) := dk_133 (dk_at dksX2_w3_0 1 rfl rfl)
theorem dX2_w3_2 : decode cX2_w3 2 = .ok (.bipush 8, 2) := dk_16 8 (dk_at dksX2_w3_0 2 rfl rfl)
theorem dX2_w3_4 : decode cX2_w3 4 = .ok (.lshl, 1) := dk_121 (dk_at dksX2_w3_0 4 rfl rfl)
theorem dX2_w3_5 : decode cX2_w3 5 = .ok (.iload_n 1, 1) := dk_27 (dk_at dksX2_w3_0 5 rfl rfl)
theorem dX2_w3_6 : decode cX2_w3 6 = .ok (.i2l, 1) := dk_133 (dk_at dksX2_w3_0 6 rfl rfl)
theorem dX2_w3_7 : decode cX2_w3 7 = .ok (.lor, 1) := dk_129 (dk_at dksX2_w3_0 7 rfl rfl)
theorem dX2_w3_8 : decode cX2_w3 8 = .ok (.bipush 8, 2) := dk_16 8 (dk_at dksX2_w3_0 8 rfl rfl)
theorem dX2_w3_10 : decode cX2_w3 10 = .ok (.lshl, 1) := dk_121 (dk_at dksX2_w3_0 10 rfl rfl)
theorem dX2_w3_11 : decode cX2_w3 11 = .ok (.iload_n 2, 1) := dk_28 (dk_at dksX2_w3_0 11 rfl rfl)
theorem dX2_w3_12 : decode cX2_w3 12 = .ok (.i2l, 1) := dk_133 (dk_at dksX2_w3_0 12 rfl rfl)
theorem dX2_w3_13 : decode cX2_w3 13 = .ok (.lor, 1) := dk_129 (dk_at dksX2_w3_0 13 rfl rfl)
theorem dX2_w3_14 : decode cX2_w3 14 = .ok (.lreturn, 1) := dk_173 (dk_at dksX2_w3_0 14 rfl rfl)
abbrev MX2_w3 : jjM := (yX2_w3, cX2_w3, 3, (Option.some Jvm.ClassFile.FieldType.long))
theorem npX2_w3 : yX2_w3.cls ≠ "java/lang/invoke/MethodHandle" ∧ yX2_w3.cls ≠ "java/lang/invoke/VarHandle" ∧ (parseMethodDescriptor yX2_w3.desc).map (fun d => d.parameters.length) = some 3 := by decide +kernel
abbrev cX2_isWord : ByteArray := prog_17_method_26_code
def yX2_isWord : MethodName := ⟨RX2, "isWord", "(J)Z"⟩
def dkwX2_isWord_0 : List UInt8 := [42, 180, 0, 125, 5, 160, 0, 16, 42, 180, 0, 138, 31, 148, 154, 0, 7, 4, 167, 0, 4, 3, 172]
abbrev dktX2_isWord_0 : List UInt8 := dkwX2_isWord_0 ++ []
theorem dksX2_isWord_0 : cX2_isWord.data.toList.drop 0 = dktX2_isWord_0 := by decide +kernel
theorem dX2_isWord_0 : decode cX2_isWord 0 = .ok (.aload_n 0, 1) := dk_42 (dk_at dksX2_isWord_0 0 rfl rfl)
theorem dX2_isWord_1 : decode cX2_isWord 1 = .ok (.getfield 125, 3) := dk_180 0 125 (dk_at dksX2_isWord_0 1 rfl rfl)
theorem dX2_isWord_4 : decode cX2_isWord 4 = .ok (.iconst 2, 1) := dk_5 (dk_at dksX2_isWord_0 4 rfl rfl)
theorem dX2_isWord_5 : decode cX2_isWord 5 = .ok (.if_icmp .ne 16, 3) := dk_160 0 16 (dk_at dksX2_isWord_0 5 rfl rfl)
theorem dX2_isWord_8 : decode cX2_isWord 8 = .ok (.aload_n 0, 1) := dk_42 (dk_at dksX2_isWord_0 8 rfl rfl)
theorem dX2_isWord_9 : decode cX2_isWord 9 = .ok (.getfield 138, 3) := dk_180 0 138 (dk_at dksX2_isWord_0 9 rfl rfl)
theorem dX2_isWord_12 : decode cX2_isWord 12 = .ok (.lload_n 1, 1) := dk_31 (dk_at dksX2_isWord_0 12 rfl rfl)
theorem dX2_isWord_13 : decode cX2_isWord 13 = .ok (.lcmp, 1) := dk_148 (dk_at dksX2_isWord_0 13 rfl rfl)
theorem dX2_isWord_14 : decode cX2_isWord 14 = .ok (.ifCond .ne 7, 3) := dk_154 0 7 (dk_at dksX2_isWord_0 14 rfl rfl)
theorem dX2_isWord_17 : decode cX2_isWord 17 = .ok (.iconst 1, 1) := dk_4 (dk_at dksX2_isWord_0 17 rfl rfl)
theorem dX2_isWord_18 : decode cX2_isWord 18 = .ok (.goto 4, 3) := dk_167 0 4 (dk_at dksX2_isWord_0 18 rfl rfl)
theorem dX2_isWord_21 : decode cX2_isWord 21 = .ok (.iconst 0, 1) := dk_3 (dk_at dksX2_isWord_0 21 rfl rfl)
theorem dX2_isWord_22 : decode cX2_isWord 22 = .ok (.ireturn, 1) := dk_172 (dk_at dksX2_isWord_0 22 rfl rfl)
abbrev MX2_isWord : jjM := (yX2_isWord, cX2_isWord, 3, (Option.some Jvm.ClassFile.FieldType.boolean))
theorem npX2_isWord : yX2_isWord.cls ≠ "java/lang/invoke/MethodHandle" ∧ yX2_isWord.cls ≠ "java/lang/invoke/VarHandle" ∧ (parseMethodDescriptor yX2_isWord.desc).map (fun d => d.parameters.length) = some 1 := by decide +kernel
abbrev cX2_w5 : ByteArray := prog_17_method_23_code
def yX2_w5 : MethodName := ⟨RX2, "w5", "(IIIII)J"⟩
def dkwX2_w5_0 : List UInt8 := [26, 27, 28, 184, 0, 142, 16, 8, 121, 29, 133, 129, 16, 8, 121, 21, 4, 133, 129, 173]
abbrev dktX2_w5_0 : List UInt8 := dkwX2_w5_0 ++ []
theorem dksX2_w5_0 : cX2_w5.data.toList.drop 0 = dktX2_w5_0 := by decide +kernel
theorem dX2_w5_0 : decode cX2_w5 0 = .ok (.iload_n 0, 1) := dk_26 (dk_at dksX2_w5_0 0 rfl rfl)
theorem dX2_w5_1 : decode cX2_w5 1 = .ok (.iload_n 1, 1) := dk_27 (dk_at dksX2_w5_0 1 rfl rfl)
theorem dX2_w5_2 : decode cX2_w5 2 = .ok (.iload_n 2, 1) := dk_28 (dk_at dksX2_w5_0 2 rfl rfl)
theorem dX2_w5_3 : decode cX2_w5 3 = .ok (.invokestatic 142, 3) := dk_184 0 142 (dk_at dksX2_w5_0 3 rfl rfl)
theorem dX2_w5_6 : decode cX2_w5 6 = .ok (.bipush 8, 2) := dk_16 8 (dk_at dksX2_w5_0 6 rfl rfl)
theorem dX2_w5_8 : decode cX2_w5 8 = .ok (.lshl, 1) := dk_121 (dk_at dksX2_w5_0 8 rfl rfl)
theorem dX2_w5_9 : decode cX2_w5 9 = .ok (.iload_n 3, 1) := dk_29 (dk_at dksX2_w5_0 9 rfl rfl)
theorem dX2_w5_10 : decode cX2_w5 10 = .ok (.i2l, 1) := dk_133 (dk_at dksX2_w5_0 10 rfl rfl)
theorem dX2_w5_11 : decode cX2_w5 11 = .ok (.lor, 1) := dk_129 (dk_at dksX2_w5_0 11 rfl rfl)
theorem dX2_w5_12 : decode cX2_w5 12 = .ok (.bipush 8, 2) := dk_16 8 (dk_at dksX2_w5_0 12 rfl rfl)
theorem dX2_w5_14 : decode cX2_w5 14 = .ok (.lshl, 1) := dk_121 (dk_at dksX2_w5_0 14 rfl rfl)
theorem dX2_w5_15 : decode cX2_w5 15 = .ok (.iload 4, 2) := dk_21 4 (dk_at dksX2_w5_0 15 rfl rfl)
theorem dX2_w5_17 : decode cX2_w5 17 = .ok (.i2l, 1) := dk_133 (dk_at dksX2_w5_0 17 rfl rfl)
theorem dX2_w5_18 : decode cX2_w5 18 = .ok (.lor, 1) := dk_129 (dk_at dksX2_w5_0 18 rfl rfl)
theorem dX2_w5_19 : decode cX2_w5 19 = .ok (.lreturn, 1) := dk_173 (dk_at dksX2_w5_0 19 rfl rfl)
abbrev MX2_w5 : jjM := (yX2_w5, cX2_w5, 5, (Option.some Jvm.ClassFile.FieldType.long))
theorem npX2_w5 : yX2_w5.cls ≠ "java/lang/invoke/MethodHandle" ∧ yX2_w5.cls ≠ "java/lang/invoke/VarHandle" ∧ (parseMethodDescriptor yX2_w5.desc).map (fun d => d.parameters.length) = some 5 := by decide +kernel
abbrev cX2_w4 : ByteArray := prog_17_method_24_code
def yX2_w4 : MethodName := ⟨RX2, "w4", "(IIII)J"⟩
def dkwX2_w4_0 : List UInt8 := [26, 27, 28, 184, 0, 142, 16, 8, 121, 29, 133, 129, 173]
abbrev dktX2_w4_0 : List UInt8 := dkwX2_w4_0 ++ []
theorem dksX2_w4_0 : cX2_w4.data.toList.drop 0 = dktX2_w4_0 := by decide +kernel
theorem dX2_w4_0 : decode cX2_w4 0 = .ok (.iload_n 0, 1) := dk_26 (dk_at dksX2_w4_0 0 rfl rfl)
theorem dX2_w4_1 : decode cX2_w4 1 = .ok (.iload_n 1, 1) := dk_27 (dk_at dksX2_w4_0 1 rfl rfl)
theorem dX2_w4_2 : decode cX2_w4 2 = .ok (.iload_n 2, 1) := dk_28 (dk_at dksX2_w4_0 2 rfl rfl)
theorem dX2_w4_3 : decode cX2_w4 3 = .ok (.invokestatic 142, 3) := dk_184 0 142 (dk_at dksX2_w4_0 3 rfl rfl)
theorem dX2_w4_6 : decode cX2_w4 6 = .ok (.bipush 8, 2) := dk_16 8 (dk_at dksX2_w4_0 6 rfl rfl)
theorem dX2_w4_8 : decode cX2_w4 8 = .ok (.lshl, 1) := dk_121 (dk_at dksX2_w4_0 8 rfl rfl)
theorem dX2_w4_9 : decode cX2_w4 9 = .ok (.iload_n 3, 1) := dk_29 (dk_at dksX2_w4_0 9 rfl rfl)
theorem dX2_w4_10 : decode cX2_w4 10 = .ok (.i2l, 1) := dk_133 (dk_at dksX2_w4_0 10 rfl rfl)
theorem dX2_w4_11 : decode cX2_w4 11 = .ok (.lor, 1) := dk_129 (dk_at dksX2_w4_0 11 rfl rfl)
theorem dX2_w4_12 : decode cX2_w4 12 = .ok (.lreturn, 1) := dk_173 (dk_at dksX2_w4_0 12 rfl rfl)
abbrev MX2_w4 : jjM := (yX2_w4, cX2_w4, 4, (Option.some Jvm.ClassFile.FieldType.long))
theorem npX2_w4 : yX2_w4.cls ≠ "java/lang/invoke/MethodHandle" ∧ yX2_w4.cls ≠ "java/lang/invoke/VarHandle" ∧ (parseMethodDescriptor yX2_w4.desc).map (fun d => d.parameters.length) = some 4 := by decide +kernel
abbrev cX2_body : ByteArray := prog_17_method_49_code
def yX2_body : MethodName := ⟨RX2, "body", "(II)I"⟩
def dkwX2_body_5 : List UInt8 := [182, 0, 241, 172, 42, 28, 4, 96, 3, 16, 9, 182, 0, 231, 172, 42, 28, 182, 0, 251, 172, 3, 172]
abbrev dktX2_body_5 : List UInt8 := dkwX2_body_5 ++ []
def dkwX2_body_4 : List UInt8 := [182, 0, 231, 62, 29, 153, 0, 7, 29, 167, 0, 16, 42, 16, 97, 16, 116, 28, 5, 96, 16, 9]
abbrev dktX2_body_4 : List UInt8 := dkwX2_body_4 ++ dktX2_body_5
def dkwX2_body_3 : List UInt8 := [4, 5, 182, 0, 231, 172, 42, 28, 4, 96, 4, 16, 99, 182, 0, 231, 172, 42, 28, 4, 96, 3, 5]
abbrev dktX2_body_3 : List UInt8 := dkwX2_body_3 ++ dktX2_body_4
def dkwX2_body_2 : List UInt8 := [42, 28, 182, 0, 245, 172, 42, 27, 28, 182, 0, 248, 172, 42, 27, 28, 182, 0, 248, 172, 42, 28, 4, 96]
abbrev dktX2_body_2 : List UInt8 := dkwX2_body_2 ++ dktX2_body_3
def dkwX2_body_1 : List UInt8 := [170, 0, 0, 0, 0, 0, 137, 0, 0, 0, 0, 0, 0, 0, 7, 0, 0, 0, 47, 0, 0, 0, 53, 0, 0, 0, 60, 0, 0, 0, 67, 0, 0, 0, 77, 0, 0, 0, 88, 0, 0, 0, 120, 0, 0, 0, 131]
abbrev dktX2_body_1 : List UInt8 := dkwX2_body_1 ++ dktX2_body_2
def dkwX2_body_0 : List UInt8 := [27]
abbrev dktX2_body_0 : List UInt8 := dkwX2_body_0 ++ dktX2_body_1
theorem dksX2_body_0 : cX2_body.data.toList.drop 0 = dktX2_body_0 := by decide +kernel
theorem dksX2_body_1 : cX2_body.data.toList.drop 1 = dktX2_body_1 := dk_seg dksX2_body_0 1 rfl rfl
theorem dksX2_body_2 : cX2_body.data.toList.drop 48 = dktX2_body_2 := dk_seg dksX2_body_1 47 rfl rfl
theorem dksX2_body_3 : cX2_body.data.toList.drop 72 = dktX2_body_3 := dk_seg dksX2_body_2 24 rfl rfl
theorem dksX2_body_4 : cX2_body.data.toList.drop 95 = dktX2_body_4 := dk_seg dksX2_body_3 23 rfl rfl
theorem dksX2_body_5 : cX2_body.data.toList.drop 117 = dktX2_body_5 := dk_seg dksX2_body_4 22 rfl rfl
theorem dX2_body_0 : decode cX2_body 0 = .ok (.iload_n 1, 1) := dk_27 (dk_at dksX2_body_0 0 rfl rfl)
theorem dX2_body_1 : decode cX2_body 1 = .ok (.tableswitch 137 0 7 #[47, 53, 60, 67, 77, 88, 120, 131], 47) := by decide +kernel
theorem dX2_body_48 : decode cX2_body 48 = .ok (.aload_n 0, 1) := dk_42 (dk_at dksX2_body_2 0 rfl rfl)
theorem dX2_body_49 : decode cX2_body 49 = .ok (.iload_n 2, 1) := dk_28 (dk_at dksX2_body_2 1 rfl rfl)
theorem dX2_body_50 : decode cX2_body 50 = .ok (.invokevirtual 245, 3) := dk_182 0 245 (dk_at dksX2_body_2 2 rfl rfl)
theorem dX2_body_53 : decode cX2_body 53 = .ok (.ireturn, 1) := dk_172 (dk_at dksX2_body_2 5 rfl rfl)
theorem dX2_body_54 : decode cX2_body 54 = .ok (.aload_n 0, 1) := dk_42 (dk_at dksX2_body_2 6 rfl rfl)
theorem dX2_body_55 : decode cX2_body 55 = .ok (.iload_n 1, 1) := dk_27 (dk_at dksX2_body_2 7 rfl rfl)
theorem dX2_body_56 : decode cX2_body 56 = .ok (.iload_n 2, 1) := dk_28 (dk_at dksX2_body_2 8 rfl rfl)
theorem dX2_body_57 : decode cX2_body 57 = .ok (.invokevirtual 248, 3) := dk_182 0 248 (dk_at dksX2_body_2 9 rfl rfl)
theorem dX2_body_60 : decode cX2_body 60 = .ok (.ireturn, 1) := dk_172 (dk_at dksX2_body_2 12 rfl rfl)
theorem dX2_body_61 : decode cX2_body 61 = .ok (.aload_n 0, 1) := dk_42 (dk_at dksX2_body_2 13 rfl rfl)
theorem dX2_body_62 : decode cX2_body 62 = .ok (.iload_n 1, 1) := dk_27 (dk_at dksX2_body_2 14 rfl rfl)
theorem dX2_body_63 : decode cX2_body 63 = .ok (.iload_n 2, 1) := dk_28 (dk_at dksX2_body_2 15 rfl rfl)
theorem dX2_body_64 : decode cX2_body 64 = .ok (.invokevirtual 248, 3) := dk_182 0 248 (dk_at dksX2_body_2 16 rfl rfl)
theorem dX2_body_67 : decode cX2_body 67 = .ok (.ireturn, 1) := dk_172 (dk_at dksX2_body_2 19 rfl rfl)
theorem dX2_body_68 : decode cX2_body 68 = .ok (.aload_n 0, 1) := dk_42 (dk_at dksX2_body_2 20 rfl rfl)
theorem dX2_body_69 : decode cX2_body 69 = .ok (.iload_n 2, 1) := dk_28 (dk_at dksX2_body_2 21 rfl rfl)
theorem dX2_body_70 : decode cX2_body 70 = .ok (.iconst 1, 1) := dk_4 (dk_at dksX2_body_2 22 rfl rfl)
theorem dX2_body_71 : decode cX2_body 71 = .ok (.iadd, 1) := dk_96 (dk_at dksX2_body_2 23 rfl rfl)
theorem dX2_body_72 : decode cX2_body 72 = .ok (.iconst 1, 1) := dk_4 (dk_at dksX2_body_3 0 rfl rfl)
theorem dX2_body_73 : decode cX2_body 73 = .ok (.iconst 2, 1) := dk_5 (dk_at dksX2_body_3 1 rfl rfl)
theorem dX2_body_74 : decode cX2_body 74 = .ok (.invokevirtual 231, 3) := dk_182 0 231 (dk_at dksX2_body_3 2 rfl rfl)
theorem dX2_body_77 : decode cX2_body 77 = .ok (.ireturn, 1) := dk_172 (dk_at dksX2_body_3 5 rfl rfl)
theorem dX2_body_78 : decode cX2_body 78 = .ok (.aload_n 0, 1) := dk_42 (dk_at dksX2_body_3 6 rfl rfl)
theorem dX2_body_79 : decode cX2_body 79 = .ok (.iload_n 2, 1) := dk_28 (dk_at dksX2_body_3 7 rfl rfl)
theorem dX2_body_80 : decode cX2_body 80 = .ok (.iconst 1, 1) := dk_4 (dk_at dksX2_body_3 8 rfl rfl)
theorem dX2_body_81 : decode cX2_body 81 = .ok (.iadd, 1) := dk_96 (dk_at dksX2_body_3 9 rfl rfl)
theorem dX2_body_82 : decode cX2_body 82 = .ok (.iconst 1, 1) := dk_4 (dk_at dksX2_body_3 10 rfl rfl)
theorem dX2_body_83 : decode cX2_body 83 = .ok (.bipush 99, 2) := dk_16 99 (dk_at dksX2_body_3 11 rfl rfl)
theorem dX2_body_85 : decode cX2_body 85 = .ok (.invokevirtual 231, 3) := dk_182 0 231 (dk_at dksX2_body_3 13 rfl rfl)
theorem dX2_body_88 : decode cX2_body 88 = .ok (.ireturn, 1) := dk_172 (dk_at dksX2_body_3 16 rfl rfl)
theorem dX2_body_89 : decode cX2_body 89 = .ok (.aload_n 0, 1) := dk_42 (dk_at dksX2_body_3 17 rfl rfl)
theorem dX2_body_90 : decode cX2_body 90 = .ok (.iload_n 2, 1) := dk_28 (dk_at dksX2_body_3 18 rfl rfl)
theorem dX2_body_91 : decode cX2_body 91 = .ok (.iconst 1, 1) := dk_4 (dk_at dksX2_body_3 19 rfl rfl)
theorem dX2_body_92 : decode cX2_body 92 = .ok (.iadd, 1) := dk_96 (dk_at dksX2_body_3 20 rfl rfl)
theorem dX2_body_93 : decode cX2_body 93 = .ok (.iconst 0, 1) := dk_3 (dk_at dksX2_body_3 21 rfl rfl)
theorem dX2_body_94 : decode cX2_body 94 = .ok (.iconst 2, 1) := dk_5 (dk_at dksX2_body_3 22 rfl rfl)
theorem dX2_body_95 : decode cX2_body 95 = .ok (.invokevirtual 231, 3) := dk_182 0 231 (dk_at dksX2_body_4 0 rfl rfl)
theorem dX2_body_98 : decode cX2_body 98 = .ok (.istore_n 3, 1) := dk_62 (dk_at dksX2_body_4 3 rfl rfl)
theorem dX2_body_99 : decode cX2_body 99 = .ok (.iload_n 3, 1) := dk_29 (dk_at dksX2_body_4 4 rfl rfl)
theorem dX2_body_100 : decode cX2_body 100 = .ok (.ifCond .eq 7, 3) := dk_153 0 7 (dk_at dksX2_body_4 5 rfl rfl)
theorem dX2_body_103 : decode cX2_body 103 = .ok (.iload_n 3, 1) := dk_29 (dk_at dksX2_body_4 8 rfl rfl)
theorem dX2_body_104 : decode cX2_body 104 = .ok (.goto 16, 3) := dk_167 0 16 (dk_at dksX2_body_4 9 rfl rfl)
theorem dX2_body_107 : decode cX2_body 107 = .ok (.aload_n 0, 1) := dk_42 (dk_at dksX2_body_4 12 rfl rfl)
theorem dX2_body_108 : decode cX2_body 108 = .ok (.bipush 97, 2) := dk_16 97 (dk_at dksX2_body_4 13 rfl rfl)
theorem dX2_body_110 : decode cX2_body 110 = .ok (.bipush 116, 2) := dk_16 116 (dk_at dksX2_body_4 15 rfl rfl)
theorem dX2_body_112 : decode cX2_body 112 = .ok (.iload_n 2, 1) := dk_28 (dk_at dksX2_body_4 17 rfl rfl)
theorem dX2_body_113 : decode cX2_body 113 = .ok (.iconst 2, 1) := dk_5 (dk_at dksX2_body_4 18 rfl rfl)
theorem dX2_body_114 : decode cX2_body 114 = .ok (.iadd, 1) := dk_96 (dk_at dksX2_body_4 19 rfl rfl)
theorem dX2_body_115 : decode cX2_body 115 = .ok (.bipush 9, 2) := dk_16 9 (dk_at dksX2_body_4 20 rfl rfl)
theorem dX2_body_117 : decode cX2_body 117 = .ok (.invokevirtual 241, 3) := dk_182 0 241 (dk_at dksX2_body_5 0 rfl rfl)
theorem dX2_body_120 : decode cX2_body 120 = .ok (.ireturn, 1) := dk_172 (dk_at dksX2_body_5 3 rfl rfl)
theorem dX2_body_121 : decode cX2_body 121 = .ok (.aload_n 0, 1) := dk_42 (dk_at dksX2_body_5 4 rfl rfl)
theorem dX2_body_122 : decode cX2_body 122 = .ok (.iload_n 2, 1) := dk_28 (dk_at dksX2_body_5 5 rfl rfl)
theorem dX2_body_123 : decode cX2_body 123 = .ok (.iconst 1, 1) := dk_4 (dk_at dksX2_body_5 6 rfl rfl)
theorem dX2_body_124 : decode cX2_body 124 = .ok (.iadd, 1) := dk_96 (dk_at dksX2_body_5 7 rfl rfl)
theorem dX2_body_125 : decode cX2_body 125 = .ok (.iconst 0, 1) := dk_3 (dk_at dksX2_body_5 8 rfl rfl)
theorem dX2_body_126 : decode cX2_body 126 = .ok (.bipush 9, 2) := dk_16 9 (dk_at dksX2_body_5 9 rfl rfl)
theorem dX2_body_128 : decode cX2_body 128 = .ok (.invokevirtual 231, 3) := dk_182 0 231 (dk_at dksX2_body_5 11 rfl rfl)
theorem dX2_body_131 : decode cX2_body 131 = .ok (.ireturn, 1) := dk_172 (dk_at dksX2_body_5 14 rfl rfl)
theorem dX2_body_132 : decode cX2_body 132 = .ok (.aload_n 0, 1) := dk_42 (dk_at dksX2_body_5 15 rfl rfl)
theorem dX2_body_133 : decode cX2_body 133 = .ok (.iload_n 2, 1) := dk_28 (dk_at dksX2_body_5 16 rfl rfl)
theorem dX2_body_134 : decode cX2_body 134 = .ok (.invokevirtual 251, 3) := dk_182 0 251 (dk_at dksX2_body_5 17 rfl rfl)
theorem dX2_body_137 : decode cX2_body 137 = .ok (.ireturn, 1) := dk_172 (dk_at dksX2_body_5 20 rfl rfl)
theorem dX2_body_138 : decode cX2_body 138 = .ok (.iconst 0, 1) := dk_3 (dk_at dksX2_body_5 21 rfl rfl)
theorem dX2_body_139 : decode cX2_body 139 = .ok (.ireturn, 1) := dk_172 (dk_at dksX2_body_5 22 rfl rfl)
abbrev MX2_body : jjM := (yX2_body, cX2_body, 4, (Option.some Jvm.ClassFile.FieldType.int))
theorem npX2_body : yX2_body.cls ≠ "java/lang/invoke/MethodHandle" ∧ yX2_body.cls ≠ "java/lang/invoke/VarHandle" ∧ (parseMethodDescriptor yX2_body.desc).map (fun d => d.parameters.length) = some 2 := by decide +kernel
abbrev cX2_lawClause : ByteArray := prog_17_method_46_code
def yX2_lawClause : MethodName := ⟨RX2, "lawClause", "(I)I"⟩
def dkwX2_lawClause_3 : List UInt8 := [42, 180, 0, 153, 79, 28, 172]
abbrev dktX2_lawClause_3 : List UInt8 := dkwX2_lawClause_3 ++ []
def dkwX2_lawClause_2 : List UInt8 := [42, 180, 0, 16, 27, 5, 96, 42, 180, 0, 153, 79, 42, 182, 0, 238, 61, 42, 180, 0, 16, 27, 6, 96]
abbrev dktX2_lawClause_2 : List UInt8 := dkwX2_lawClause_2 ++ dktX2_lawClause_3
def dkwX2_lawClause_1 : List UInt8 := [182, 0, 235, 153, 0, 5, 7, 172, 42, 27, 4, 96, 3, 8, 182, 0, 231, 61, 28, 153, 0, 5, 28, 172]
abbrev dktX2_lawClause_1 : List UInt8 := dkwX2_lawClause_1 ++ dktX2_lawClause_2
def dkwX2_lawClause_0 : List UInt8 := [42, 180, 0, 125, 4, 160, 0, 25, 42, 180, 0, 131, 16, 6, 162, 0, 16, 42, 42, 180, 0, 131]
abbrev dktX2_lawClause_0 : List UInt8 := dkwX2_lawClause_0 ++ dktX2_lawClause_1
theorem dksX2_lawClause_0 : cX2_lawClause.data.toList.drop 0 = dktX2_lawClause_0 := by decide +kernel
theorem dksX2_lawClause_1 : cX2_lawClause.data.toList.drop 22 = dktX2_lawClause_1 := dk_seg dksX2_lawClause_0 22 rfl rfl
theorem dksX2_lawClause_2 : cX2_lawClause.data.toList.drop 46 = dktX2_lawClause_2 := dk_seg dksX2_lawClause_1 24 rfl rfl
theorem dksX2_lawClause_3 : cX2_lawClause.data.toList.drop 70 = dktX2_lawClause_3 := dk_seg dksX2_lawClause_2 24 rfl rfl
theorem dX2_lawClause_0 : decode cX2_lawClause 0 = .ok (.aload_n 0, 1) := dk_42 (dk_at dksX2_lawClause_0 0 rfl rfl)
theorem dX2_lawClause_1 : decode cX2_lawClause 1 = .ok (.getfield 125, 3) := dk_180 0 125 (dk_at dksX2_lawClause_0 1 rfl rfl)
theorem dX2_lawClause_4 : decode cX2_lawClause 4 = .ok (.iconst 1, 1) := dk_4 (dk_at dksX2_lawClause_0 4 rfl rfl)
theorem dX2_lawClause_5 : decode cX2_lawClause 5 = .ok (.if_icmp .ne 25, 3) := dk_160 0 25 (dk_at dksX2_lawClause_0 5 rfl rfl)
theorem dX2_lawClause_8 : decode cX2_lawClause 8 = .ok (.aload_n 0, 1) := dk_42 (dk_at dksX2_lawClause_0 8 rfl rfl)
theorem dX2_lawClause_9 : decode cX2_lawClause 9 = .ok (.getfield 131, 3) := dk_180 0 131 (dk_at dksX2_lawClause_0 9 rfl rfl)
theorem dX2_lawClause_12 : decode cX2_lawClause 12 = .ok (.bipush 6, 2) := dk_16 6 (dk_at dksX2_lawClause_0 12 rfl rfl)
theorem dX2_lawClause_14 : decode cX2_lawClause 14 = .ok (.if_icmp .ge 16, 3) := dk_162 0 16 (dk_at dksX2_lawClause_0 14 rfl rfl)
theorem dX2_lawClause_17 : decode cX2_lawClause 17 = .ok (.aload_n 0, 1) := dk_42 (dk_at dksX2_lawClause_0 17 rfl rfl)
theorem dX2_lawClause_18 : decode cX2_lawClause 18 = .ok (.aload_n 0, 1) := dk_42 (dk_at dksX2_lawClause_0 18 rfl rfl)
theorem dX2_lawClause_19 : decode cX2_lawClause 19 = .ok (.getfield 131, 3) := dk_180 0 131 (dk_at dksX2_lawClause_0 19 rfl rfl)
theorem dX2_lawClause_22 : decode cX2_lawClause 22 = .ok (.invokevirtual 235, 3) := dk_182 0 235 (dk_at dksX2_lawClause_1 0 rfl rfl)
theorem dX2_lawClause_25 : decode cX2_lawClause 25 = .ok (.ifCond .eq 5, 3) := dk_153 0 5 (dk_at dksX2_lawClause_1 3 rfl rfl)
theorem dX2_lawClause_28 : decode cX2_lawClause 28 = .ok (.iconst 4, 1) := dk_7 (dk_at dksX2_lawClause_1 6 rfl rfl)
theorem dX2_lawClause_29 : decode cX2_lawClause 29 = .ok (.ireturn, 1) := dk_172 (dk_at dksX2_lawClause_1 7 rfl rfl)
theorem dX2_lawClause_30 : decode cX2_lawClause 30 = .ok (.aload_n 0, 1) := dk_42 (dk_at dksX2_lawClause_1 8 rfl rfl)
theorem dX2_lawClause_31 : decode cX2_lawClause 31 = .ok (.iload_n 1, 1) := dk_27 (dk_at dksX2_lawClause_1 9 rfl rfl)
theorem dX2_lawClause_32 : decode cX2_lawClause 32 = .ok (.iconst 1, 1) := dk_4 (dk_at dksX2_lawClause_1 10 rfl rfl)
theorem dX2_lawClause_33 : decode cX2_lawClause 33 = .ok (.iadd, 1) := dk_96 (dk_at dksX2_lawClause_1 11 rfl rfl)
theorem dX2_lawClause_34 : decode cX2_lawClause 34 = .ok (.iconst 0, 1) := dk_3 (dk_at dksX2_lawClause_1 12 rfl rfl)
theorem dX2_lawClause_35 : decode cX2_lawClause 35 = .ok (.iconst 5, 1) := dk_8 (dk_at dksX2_lawClause_1 13 rfl rfl)
theorem dX2_lawClause_36 : decode cX2_lawClause 36 = .ok (.invokevirtual 231, 3) := dk_182 0 231 (dk_at dksX2_lawClause_1 14 rfl rfl)
theorem dX2_lawClause_39 : decode cX2_lawClause 39 = .ok (.istore_n 2, 1) := dk_61 (dk_at dksX2_lawClause_1 17 rfl rfl)
theorem dX2_lawClause_40 : decode cX2_lawClause 40 = .ok (.iload_n 2, 1) := dk_28 (dk_at dksX2_lawClause_1 18 rfl rfl)
theorem dX2_lawClause_41 : decode cX2_lawClause 41 = .ok (.ifCond .eq 5, 3) := dk_153 0 5 (dk_at dksX2_lawClause_1 19 rfl rfl)
theorem dX2_lawClause_44 : decode cX2_lawClause 44 = .ok (.iload_n 2, 1) := dk_28 (dk_at dksX2_lawClause_1 22 rfl rfl)
theorem dX2_lawClause_45 : decode cX2_lawClause 45 = .ok (.ireturn, 1) := dk_172 (dk_at dksX2_lawClause_1 23 rfl rfl)
theorem dX2_lawClause_46 : decode cX2_lawClause 46 = .ok (.aload_n 0, 1) := dk_42 (dk_at dksX2_lawClause_2 0 rfl rfl)
theorem dX2_lawClause_47 : decode cX2_lawClause 47 = .ok (.getfield 16, 3) := dk_180 0 16 (dk_at dksX2_lawClause_2 1 rfl rfl)
theorem dX2_lawClause_50 : decode cX2_lawClause 50 = .ok (.iload_n 1, 1) := dk_27 (dk_at dksX2_lawClause_2 4 rfl rfl)
theorem dX2_lawClause_51 : decode cX2_lawClause 51 = .ok (.iconst 2, 1) := dk_5 (dk_at dksX2_lawClause_2 5 rfl rfl)
theorem dX2_lawClause_52 : decode cX2_lawClause 52 = .ok (.iadd, 1) := dk_96 (dk_at dksX2_lawClause_2 6 rfl rfl)
theorem dX2_lawClause_53 : decode cX2_lawClause 53 = .ok (.aload_n 0, 1) := dk_42 (dk_at dksX2_lawClause_2 7 rfl rfl)
theorem dX2_lawClause_54 : decode cX2_lawClause 54 = .ok (.getfield 153, 3) := dk_180 0 153 (dk_at dksX2_lawClause_2 8 rfl rfl)
theorem dX2_lawClause_57 : decode cX2_lawClause 57 = .ok (.iastore, 1) := dk_79 (dk_at dksX2_lawClause_2 11 rfl rfl)
theorem dX2_lawClause_58 : decode cX2_lawClause 58 = .ok (.aload_n 0, 1) := dk_42 (dk_at dksX2_lawClause_2 12 rfl rfl)
theorem dX2_lawClause_59 : decode cX2_lawClause 59 = .ok (.invokevirtual 238, 3) := dk_182 0 238 (dk_at dksX2_lawClause_2 13 rfl rfl)
theorem dX2_lawClause_62 : decode cX2_lawClause 62 = .ok (.istore_n 2, 1) := dk_61 (dk_at dksX2_lawClause_2 16 rfl rfl)
theorem dX2_lawClause_63 : decode cX2_lawClause 63 = .ok (.aload_n 0, 1) := dk_42 (dk_at dksX2_lawClause_2 17 rfl rfl)
theorem dX2_lawClause_64 : decode cX2_lawClause 64 = .ok (.getfield 16, 3) := dk_180 0 16 (dk_at dksX2_lawClause_2 18 rfl rfl)
theorem dX2_lawClause_67 : decode cX2_lawClause 67 = .ok (.iload_n 1, 1) := dk_27 (dk_at dksX2_lawClause_2 21 rfl rfl)
theorem dX2_lawClause_68 : decode cX2_lawClause 68 = .ok (.iconst 3, 1) := dk_6 (dk_at dksX2_lawClause_2 22 rfl rfl)
theorem dX2_lawClause_69 : decode cX2_lawClause 69 = .ok (.iadd, 1) := dk_96 (dk_at dksX2_lawClause_2 23 rfl rfl)
theorem dX2_lawClause_70 : decode cX2_lawClause 70 = .ok (.aload_n 0, 1) := dk_42 (dk_at dksX2_lawClause_3 0 rfl rfl)
theorem dX2_lawClause_71 : decode cX2_lawClause 71 = .ok (.getfield 153, 3) := dk_180 0 153 (dk_at dksX2_lawClause_3 1 rfl rfl)
theorem dX2_lawClause_74 : decode cX2_lawClause 74 = .ok (.iastore, 1) := dk_79 (dk_at dksX2_lawClause_3 4 rfl rfl)
theorem dX2_lawClause_75 : decode cX2_lawClause 75 = .ok (.iload_n 2, 1) := dk_28 (dk_at dksX2_lawClause_3 5 rfl rfl)
theorem dX2_lawClause_76 : decode cX2_lawClause 76 = .ok (.ireturn, 1) := dk_172 (dk_at dksX2_lawClause_3 6 rfl rfl)
abbrev MX2_lawClause : jjM := (yX2_lawClause, cX2_lawClause, 3, (Option.some Jvm.ClassFile.FieldType.int))
theorem npX2_lawClause : yX2_lawClause.cls ≠ "java/lang/invoke/MethodHandle" ∧ yX2_lawClause.cls ≠ "java/lang/invoke/VarHandle" ∧ (parseMethodDescriptor yX2_lawClause.desc).map (fun d => d.parameters.length) = some 1 := by decide +kernel
abbrev cX2_hasLaw : ByteArray := prog_17_method_45_code
def yX2_hasLaw : MethodName := ⟨RX2, "hasLaw", "(I)Z"⟩
def dkwX2_hasLaw_2 : List UInt8 := [27, 160, 0, 5, 4, 172, 132, 2, 1, 167, 255, 201, 3, 172]
abbrev dktX2_hasLaw_2 : List UInt8 := dkwX2_hasLaw_2 ++ []
def dkwX2_hasLaw_1 : List UInt8 := [96, 7, 28, 104, 96, 46, 154, 0, 24, 42, 180, 0, 16, 42, 180, 0, 150, 5, 96, 7, 28, 104, 96, 46]
abbrev dktX2_hasLaw_1 : List UInt8 := dkwX2_hasLaw_1 ++ dktX2_hasLaw_2
def dkwX2_hasLaw_0 : List UInt8 := [3, 61, 28, 42, 180, 0, 16, 42, 180, 0, 150, 46, 162, 0, 48, 42, 180, 0, 16, 42, 180, 0, 150, 4]
abbrev dktX2_hasLaw_0 : List UInt8 := dkwX2_hasLaw_0 ++ dktX2_hasLaw_1
theorem dksX2_hasLaw_0 : cX2_hasLaw.data.toList.drop 0 = dktX2_hasLaw_0 := by decide +kernel
theorem dksX2_hasLaw_1 : cX2_hasLaw.data.toList.drop 24 = dktX2_hasLaw_1 := dk_seg dksX2_hasLaw_0 24 rfl rfl
theorem dksX2_hasLaw_2 : cX2_hasLaw.data.toList.drop 48 = dktX2_hasLaw_2 := dk_seg dksX2_hasLaw_1 24 rfl rfl
theorem dX2_hasLaw_0 : decode cX2_hasLaw 0 = .ok (.iconst 0, 1) := dk_3 (dk_at dksX2_hasLaw_0 0 rfl rfl)
theorem dX2_hasLaw_1 : decode cX2_hasLaw 1 = .ok (.istore_n 2, 1) := dk_61 (dk_at dksX2_hasLaw_0 1 rfl rfl)
theorem dX2_hasLaw_2 : decode cX2_hasLaw 2 = .ok (.iload_n 2, 1) := dk_28 (dk_at dksX2_hasLaw_0 2 rfl rfl)
theorem dX2_hasLaw_3 : decode cX2_hasLaw 3 = .ok (.aload_n 0, 1) := dk_42 (dk_at dksX2_hasLaw_0 3 rfl rfl)
theorem dX2_hasLaw_4 : decode cX2_hasLaw 4 = .ok (.getfield 16, 3) := dk_180 0 16 (dk_at dksX2_hasLaw_0 4 rfl rfl)
theorem dX2_hasLaw_7 : decode cX2_hasLaw 7 = .ok (.aload_n 0, 1) := dk_42 (dk_at dksX2_hasLaw_0 7 rfl rfl)
theorem dX2_hasLaw_8 : decode cX2_hasLaw 8 = .ok (.getfield 150, 3) := dk_180 0 150 (dk_at dksX2_hasLaw_0 8 rfl rfl)
theorem dX2_hasLaw_11 : decode cX2_hasLaw 11 = .ok (.iaload, 1) := dk_46 (dk_at dksX2_hasLaw_0 11 rfl rfl)
theorem dX2_hasLaw_12 : decode cX2_hasLaw 12 = .ok (.if_icmp .ge 48, 3) := dk_162 0 48 (dk_at dksX2_hasLaw_0 12 rfl rfl)
theorem dX2_hasLaw_15 : decode cX2_hasLaw 15 = .ok (.aload_n 0, 1) := dk_42 (dk_at dksX2_hasLaw_0 15 rfl rfl)
theorem dX2_hasLaw_16 : decode cX2_hasLaw 16 = .ok (.getfield 16, 3) := dk_180 0 16 (dk_at dksX2_hasLaw_0 16 rfl rfl)
theorem dX2_hasLaw_19 : decode cX2_hasLaw 19 = .ok (.aload_n 0, 1) := dk_42 (dk_at dksX2_hasLaw_0 19 rfl rfl)
theorem dX2_hasLaw_20 : decode cX2_hasLaw 20 = .ok (.getfield 150, 3) := dk_180 0 150 (dk_at dksX2_hasLaw_0 20 rfl rfl)
theorem dX2_hasLaw_23 : decode cX2_hasLaw 23 = .ok (.iconst 1, 1) := dk_4 (dk_at dksX2_hasLaw_0 23 rfl rfl)
theorem dX2_hasLaw_24 : decode cX2_hasLaw 24 = .ok (.iadd, 1) := dk_96 (dk_at dksX2_hasLaw_1 0 rfl rfl)
theorem dX2_hasLaw_25 : decode cX2_hasLaw 25 = .ok (.iconst 4, 1) := dk_7 (dk_at dksX2_hasLaw_1 1 rfl rfl)
theorem dX2_hasLaw_26 : decode cX2_hasLaw 26 = .ok (.iload_n 2, 1) := dk_28 (dk_at dksX2_hasLaw_1 2 rfl rfl)
theorem dX2_hasLaw_27 : decode cX2_hasLaw 27 = .ok (.imul, 1) := dk_104 (dk_at dksX2_hasLaw_1 3 rfl rfl)
theorem dX2_hasLaw_28 : decode cX2_hasLaw 28 = .ok (.iadd, 1) := dk_96 (dk_at dksX2_hasLaw_1 4 rfl rfl)
theorem dX2_hasLaw_29 : decode cX2_hasLaw 29 = .ok (.iaload, 1) := dk_46 (dk_at dksX2_hasLaw_1 5 rfl rfl)
theorem dX2_hasLaw_30 : decode cX2_hasLaw 30 = .ok (.ifCond .ne 24, 3) := dk_154 0 24 (dk_at dksX2_hasLaw_1 6 rfl rfl)
theorem dX2_hasLaw_33 : decode cX2_hasLaw 33 = .ok (.aload_n 0, 1) := dk_42 (dk_at dksX2_hasLaw_1 9 rfl rfl)
theorem dX2_hasLaw_34 : decode cX2_hasLaw 34 = .ok (.getfield 16, 3) := dk_180 0 16 (dk_at dksX2_hasLaw_1 10 rfl rfl)
theorem dX2_hasLaw_37 : decode cX2_hasLaw 37 = .ok (.aload_n 0, 1) := dk_42 (dk_at dksX2_hasLaw_1 13 rfl rfl)
theorem dX2_hasLaw_38 : decode cX2_hasLaw 38 = .ok (.getfield 150, 3) := dk_180 0 150 (dk_at dksX2_hasLaw_1 14 rfl rfl)
theorem dX2_hasLaw_41 : decode cX2_hasLaw 41 = .ok (.iconst 2, 1) := dk_5 (dk_at dksX2_hasLaw_1 17 rfl rfl)
theorem dX2_hasLaw_42 : decode cX2_hasLaw 42 = .ok (.iadd, 1) := dk_96 (dk_at dksX2_hasLaw_1 18 rfl rfl)
theorem dX2_hasLaw_43 : decode cX2_hasLaw 43 = .ok (.iconst 4, 1) := dk_7 (dk_at dksX2_hasLaw_1 19 rfl rfl)
theorem dX2_hasLaw_44 : decode cX2_hasLaw 44 = .ok (.iload_n 2, 1) := dk_28 (dk_at dksX2_hasLaw_1 20 rfl rfl)
theorem dX2_hasLaw_45 : decode cX2_hasLaw 45 = .ok (.imul, 1) := dk_104 (dk_at dksX2_hasLaw_1 21 rfl rfl)
theorem dX2_hasLaw_46 : decode cX2_hasLaw 46 = .ok (.iadd, 1) := dk_96 (dk_at dksX2_hasLaw_1 22 rfl rfl)
theorem dX2_hasLaw_47 : decode cX2_hasLaw 47 = .ok (.iaload, 1) := dk_46 (dk_at dksX2_hasLaw_1 23 rfl rfl)
theorem dX2_hasLaw_48 : decode cX2_hasLaw 48 = .ok (.iload_n 1, 1) := dk_27 (dk_at dksX2_hasLaw_2 0 rfl rfl)
theorem dX2_hasLaw_49 : decode cX2_hasLaw 49 = .ok (.if_icmp .ne 5, 3) := dk_160 0 5 (dk_at dksX2_hasLaw_2 1 rfl rfl)
theorem dX2_hasLaw_52 : decode cX2_hasLaw 52 = .ok (.iconst 1, 1) := dk_4 (dk_at dksX2_hasLaw_2 4 rfl rfl)
theorem dX2_hasLaw_53 : decode cX2_hasLaw 53 = .ok (.ireturn, 1) := dk_172 (dk_at dksX2_hasLaw_2 5 rfl rfl)
theorem dX2_hasLaw_54 : decode cX2_hasLaw 54 = .ok (.iinc 2 1, 3) := dk_132 2 1 (dk_at dksX2_hasLaw_2 6 rfl rfl)
theorem dX2_hasLaw_57 : decode cX2_hasLaw 57 = .ok (.goto (-55), 3) := dk_167 255 201 (dk_at dksX2_hasLaw_2 9 rfl rfl)
theorem dX2_hasLaw_60 : decode cX2_hasLaw 60 = .ok (.iconst 0, 1) := dk_3 (dk_at dksX2_hasLaw_2 12 rfl rfl)
theorem dX2_hasLaw_61 : decode cX2_hasLaw 61 = .ok (.ireturn, 1) := dk_172 (dk_at dksX2_hasLaw_2 13 rfl rfl)
abbrev MX2_hasLaw : jjM := (yX2_hasLaw, cX2_hasLaw, 3, (Option.some Jvm.ClassFile.FieldType.boolean))
theorem npX2_hasLaw : yX2_hasLaw.cls ≠ "java/lang/invoke/MethodHandle" ∧ yX2_hasLaw.cls ≠ "java/lang/invoke/VarHandle" ∧ (parseMethodDescriptor yX2_hasLaw.desc).map (fun d => d.parameters.length) = some 1 := by decide +kernel
abbrev cX2_figure : ByteArray := prog_17_method_43_code
def yX2_figure : MethodName := ⟨RX2, "figure", "(III)I"⟩
def dkwX2_figure_1 : List UInt8 := [42, 180, 0, 16, 27, 42, 180, 0, 131, 79, 42, 182, 0, 185, 3, 172]
abbrev dktX2_figure_1 : List UInt8 := dkwX2_figure_1 ++ []
def dkwX2_figure_0 : List UInt8 := [42, 180, 0, 125, 4, 159, 0, 5, 4, 172, 42, 180, 0, 131, 28, 29, 184, 0, 89, 154, 0, 5, 5, 172]
abbrev dktX2_figure_0 : List UInt8 := dkwX2_figure_0 ++ dktX2_figure_1
theorem dksX2_figure_0 : cX2_figure.data.toList.drop 0 = dktX2_figure_0 := by decide +kernel
theorem dksX2_figure_1 : cX2_figure.data.toList.drop 24 = dktX2_figure_1 := dk_seg dksX2_figure_0 24 rfl rfl
theorem dX2_figure_0 : decode cX2_figure 0 = .ok (.aload_n 0, 1) := dk_42 (dk_at dksX2_figure_0 0 rfl rfl)
theorem dX2_figure_1 : decode cX2_figure 1 = .ok (.getfield 125, 3) := dk_180 0 125 (dk_at dksX2_figure_0 1 rfl rfl)
theorem dX2_figure_4 : decode cX2_figure 4 = .ok (.iconst 1, 1) := dk_4 (dk_at dksX2_figure_0 4 rfl rfl)
theorem dX2_figure_5 : decode cX2_figure 5 = .ok (.if_icmp .eq 5, 3) := dk_159 0 5 (dk_at dksX2_figure_0 5 rfl rfl)
theorem dX2_figure_8 : decode cX2_figure 8 = .ok (.iconst 1, 1) := dk_4 (dk_at dksX2_figure_0 8 rfl rfl)
theorem dX2_figure_9 : decode cX2_figure 9 = .ok (.ireturn, 1) := dk_172 (dk_at dksX2_figure_0 9 rfl rfl)
theorem dX2_figure_10 : decode cX2_figure 10 = .ok (.aload_n 0, 1) := dk_42 (dk_at dksX2_figure_0 10 rfl rfl)
theorem dX2_figure_11 : decode cX2_figure 11 = .ok (.getfield 131, 3) := dk_180 0 131 (dk_at dksX2_figure_0 11 rfl rfl)
theorem dX2_figure_14 : decode cX2_figure 14 = .ok (.iload_n 2, 1) := dk_28 (dk_at dksX2_figure_0 14 rfl rfl)
theorem dX2_figure_15 : decode cX2_figure 15 = .ok (.iload_n 3, 1) := dk_29 (dk_at dksX2_figure_0 15 rfl rfl)
theorem dX2_figure_16 : decode cX2_figure 16 = .ok (.invokestatic 89, 3) := dk_184 0 89 (dk_at dksX2_figure_0 16 rfl rfl)
theorem dX2_figure_19 : decode cX2_figure 19 = .ok (.ifCond .ne 5, 3) := dk_154 0 5 (dk_at dksX2_figure_0 19 rfl rfl)
theorem dX2_figure_22 : decode cX2_figure 22 = .ok (.iconst 2, 1) := dk_5 (dk_at dksX2_figure_0 22 rfl rfl)
theorem dX2_figure_23 : decode cX2_figure 23 = .ok (.ireturn, 1) := dk_172 (dk_at dksX2_figure_0 23 rfl rfl)
theorem dX2_figure_24 : decode cX2_figure 24 = .ok (.aload_n 0, 1) := dk_42 (dk_at dksX2_figure_1 0 rfl rfl)
theorem dX2_figure_25 : decode cX2_figure 25 = .ok (.getfield 16, 3) := dk_180 0 16 (dk_at dksX2_figure_1 1 rfl rfl)
theorem dX2_figure_28 : decode cX2_figure 28 = .ok (.iload_n 1, 1) := dk_27 (dk_at dksX2_figure_1 4 rfl rfl)
theorem dX2_figure_29 : decode cX2_figure 29 = .ok (.aload_n 0, 1) := dk_42 (dk_at dksX2_figure_1 5 rfl rfl)
theorem dX2_figure_30 : decode cX2_figure 30 = .ok (.getfield 131, 3) := dk_180 0 131 (dk_at dksX2_figure_1 6 rfl rfl)
theorem dX2_figure_33 : decode cX2_figure 33 = .ok (.iastore, 1) := dk_79 (dk_at dksX2_figure_1 9 rfl rfl)
theorem dX2_figure_34 : decode cX2_figure 34 = .ok (.aload_n 0, 1) := dk_42 (dk_at dksX2_figure_1 10 rfl rfl)
theorem dX2_figure_35 : decode cX2_figure 35 = .ok (.invokevirtual 185, 3) := dk_182 0 185 (dk_at dksX2_figure_1 11 rfl rfl)
theorem dX2_figure_38 : decode cX2_figure 38 = .ok (.iconst 0, 1) := dk_3 (dk_at dksX2_figure_1 14 rfl rfl)
theorem dX2_figure_39 : decode cX2_figure 39 = .ok (.ireturn, 1) := dk_172 (dk_at dksX2_figure_1 15 rfl rfl)
abbrev MX2_figure : jjM := (yX2_figure, cX2_figure, 4, (Option.some Jvm.ClassFile.FieldType.int))
theorem npX2_figure : yX2_figure.cls ≠ "java/lang/invoke/MethodHandle" ∧ yX2_figure.cls ≠ "java/lang/invoke/VarHandle" ∧ (parseMethodDescriptor yX2_figure.desc).map (fun d => d.parameters.length) = some 3 := by decide +kernel
abbrev cX2_either : ByteArray := prog_17_method_41_code
def yX2_either : MethodName := ⟨RX2, "either", "()I"⟩
def dkwX2_either_5 : List UInt8 := [167, 255, 146, 3, 172]
abbrev dktX2_either_5 : List UInt8 := dkwX2_either_5 ++ []
def dkwX2_either_4 : List UInt8 := [154, 0, 8, 21, 5, 153, 0, 7, 4, 167, 0, 4, 3, 62, 29, 153, 0, 7, 42, 182, 0, 185]
abbrev dktX2_either_4 : List UInt8 := dkwX2_either_4 ++ dktX2_either_5
def dkwX2_either_3 : List UInt8 := [3, 54, 5, 27, 154, 0, 17, 28, 153, 0, 10, 42, 16, 22, 3, 182, 0, 166, 21, 5, 61, 27]
abbrev dktX2_either_3 : List UInt8 := dkwX2_either_3 ++ dktX2_either_4
def dkwX2_either_2 : List UInt8 := [60, 42, 180, 0, 125, 5, 160, 0, 18, 42, 180, 0, 138, 20, 0, 229, 148, 154, 0, 7, 4, 167, 0, 4]
abbrev dktX2_either_2 : List UInt8 := dkwX2_either_2 ++ dktX2_either_3
def dkwX2_either_1 : List UInt8 := [27, 153, 0, 10, 42, 16, 21, 3, 182, 0, 166, 42, 16, 97, 16, 110, 16, 100, 184, 0, 142, 182, 0, 216]
abbrev dktX2_either_1 : List UInt8 := dkwX2_either_1 ++ dktX2_either_2
def dkwX2_either_0 : List UInt8 := [3, 60, 3, 61, 4, 62, 29, 153, 0, 112, 42, 182, 0, 226, 54, 4, 21, 4, 153, 0, 6, 21, 4, 172]
abbrev dktX2_either_0 : List UInt8 := dkwX2_either_0 ++ dktX2_either_1
theorem dksX2_either_0 : cX2_either.data.toList.drop 0 = dktX2_either_0 := by decide +kernel
theorem dksX2_either_1 : cX2_either.data.toList.drop 24 = dktX2_either_1 := dk_seg dksX2_either_0 24 rfl rfl
theorem dksX2_either_2 : cX2_either.data.toList.drop 48 = dktX2_either_2 := dk_seg dksX2_either_1 24 rfl rfl
theorem dksX2_either_3 : cX2_either.data.toList.drop 72 = dktX2_either_3 := dk_seg dksX2_either_2 24 rfl rfl
theorem dksX2_either_4 : cX2_either.data.toList.drop 94 = dktX2_either_4 := dk_seg dksX2_either_3 22 rfl rfl
theorem dksX2_either_5 : cX2_either.data.toList.drop 116 = dktX2_either_5 := dk_seg dksX2_either_4 22 rfl rfl
theorem dX2_either_0 : decode cX2_either 0 = .ok (.iconst 0, 1) := dk_3 (dk_at dksX2_either_0 0 rfl rfl)
theorem dX2_either_1 : decode cX2_either 1 = .ok (.istore_n 1, 1) := dk_60 (dk_at dksX2_either_0 1 rfl rfl)
theorem dX2_either_2 : decode cX2_either 2 = .ok (.iconst 0, 1) := dk_3 (dk_at dksX2_either_0 2 rfl rfl)
theorem dX2_either_3 : decode cX2_either 3 = .ok (.istore_n 2, 1) := dk_61 (dk_at dksX2_either_0 3 rfl rfl)
theorem dX2_either_4 : decode cX2_either 4 = .ok (.iconst 1, 1) := dk_4 (dk_at dksX2_either_0 4 rfl rfl)
theorem dX2_either_5 : decode cX2_either 5 = .ok (.istore_n 3, 1) := dk_62 (dk_at dksX2_either_0 5 rfl rfl)
theorem dX2_either_6 : decode cX2_either 6 = .ok (.iload_n 3, 1) := dk_29 (dk_at dksX2_either_0 6 rfl rfl)
theorem dX2_either_7 : decode cX2_either 7 = .ok (.ifCond .eq 112, 3) := dk_153 0 112 (dk_at dksX2_either_0 7 rfl rfl)
theorem dX2_either_10 : decode cX2_either 10 = .ok (.aload_n 0, 1) := dk_42 (dk_at dksX2_either_0 10 rfl rfl)
theorem dX2_either_11 : decode cX2_either 11 = .ok (.invokevirtual 226, 3) := dk_182 0 226 (dk_at dksX2_either_0 11 rfl rfl)
theorem dX2_either_14 : decode cX2_either 14 = .ok (.istore 4, 2) := dk_54 4 (dk_at dksX2_either_0 14 rfl rfl)
theorem dX2_either_16 : decode cX2_either 16 = .ok (.iload 4, 2) := dk_21 4 (dk_at dksX2_either_0 16 rfl rfl)
theorem dX2_either_18 : decode cX2_either 18 = .ok (.ifCond .eq 6, 3) := dk_153 0 6 (dk_at dksX2_either_0 18 rfl rfl)
theorem dX2_either_21 : decode cX2_either 21 = .ok (.iload 4, 2) := dk_21 4 (dk_at dksX2_either_0 21 rfl rfl)
theorem dX2_either_23 : decode cX2_either 23 = .ok (.ireturn, 1) := dk_172 (dk_at dksX2_either_0 23 rfl rfl)
theorem dX2_either_24 : decode cX2_either 24 = .ok (.iload_n 1, 1) := dk_27 (dk_at dksX2_either_1 0 rfl rfl)
theorem dX2_either_25 : decode cX2_either 25 = .ok (.ifCond .eq 10, 3) := dk_153 0 10 (dk_at dksX2_either_1 1 rfl rfl)
theorem dX2_either_28 : decode cX2_either 28 = .ok (.aload_n 0, 1) := dk_42 (dk_at dksX2_either_1 4 rfl rfl)
theorem dX2_either_29 : decode cX2_either 29 = .ok (.bipush 21, 2) := dk_16 21 (dk_at dksX2_either_1 5 rfl rfl)
theorem dX2_either_31 : decode cX2_either 31 = .ok (.iconst 0, 1) := dk_3 (dk_at dksX2_either_1 7 rfl rfl)
theorem dX2_either_32 : decode cX2_either 32 = .ok (.invokevirtual 166, 3) := dk_182 0 166 (dk_at dksX2_either_1 8 rfl rfl)
theorem dX2_either_35 : decode cX2_either 35 = .ok (.aload_n 0, 1) := dk_42 (dk_at dksX2_either_1 11 rfl rfl)
theorem dX2_either_36 : decode cX2_either 36 = .ok (.bipush 97, 2) := dk_16 97 (dk_at dksX2_either_1 12 rfl rfl)
theorem dX2_either_38 : decode cX2_either 38 = .ok (.bipush 110, 2) := dk_16 110 (dk_at dksX2_either_1 14 rfl rfl)
theorem dX2_either_40 : decode cX2_either 40 = .ok (.bipush 100, 2) := dk_16 100 (dk_at dksX2_either_1 16 rfl rfl)
theorem dX2_either_42 : decode cX2_either 42 = .ok (.invokestatic 142, 3) := dk_184 0 142 (dk_at dksX2_either_1 18 rfl rfl)
theorem dX2_either_45 : decode cX2_either 45 = .ok (.invokevirtual 216, 3) := dk_182 0 216 (dk_at dksX2_either_1 21 rfl rfl)
theorem dX2_either_48 : decode cX2_either 48 = .ok (.istore_n 1, 1) := dk_60 (dk_at dksX2_either_2 0 rfl rfl)
theorem dX2_either_49 : decode cX2_either 49 = .ok (.aload_n 0, 1) := dk_42 (dk_at dksX2_either_2 1 rfl rfl)
theorem dX2_either_50 : decode cX2_either 50 = .ok (.getfield 125, 3) := dk_180 0 125 (dk_at dksX2_either_2 2 rfl rfl)
theorem dX2_either_53 : decode cX2_either 53 = .ok (.iconst 2, 1) := dk_5 (dk_at dksX2_either_2 5 rfl rfl)
theorem dX2_either_54 : decode cX2_either 54 = .ok (.if_icmp .ne 18, 3) := dk_160 0 18 (dk_at dksX2_either_2 6 rfl rfl)
theorem dX2_either_57 : decode cX2_either 57 = .ok (.aload_n 0, 1) := dk_42 (dk_at dksX2_either_2 9 rfl rfl)
theorem dX2_either_58 : decode cX2_either 58 = .ok (.getfield 138, 3) := dk_180 0 138 (dk_at dksX2_either_2 10 rfl rfl)
theorem dX2_either_61 : decode cX2_either 61 = .ok (.ldc2_w 229, 3) := dk_20 0 229 (dk_at dksX2_either_2 13 rfl rfl)
theorem dX2_either_64 : decode cX2_either 64 = .ok (.lcmp, 1) := dk_148 (dk_at dksX2_either_2 16 rfl rfl)
theorem dX2_either_65 : decode cX2_either 65 = .ok (.ifCond .ne 7, 3) := dk_154 0 7 (dk_at dksX2_either_2 17 rfl rfl)
theorem dX2_either_68 : decode cX2_either 68 = .ok (.iconst 1, 1) := dk_4 (dk_at dksX2_either_2 20 rfl rfl)
theorem dX2_either_69 : decode cX2_either 69 = .ok (.goto 4, 3) := dk_167 0 4 (dk_at dksX2_either_2 21 rfl rfl)
theorem dX2_either_72 : decode cX2_either 72 = .ok (.iconst 0, 1) := dk_3 (dk_at dksX2_either_3 0 rfl rfl)
theorem dX2_either_73 : decode cX2_either 73 = .ok (.istore 5, 2) := dk_54 5 (dk_at dksX2_either_3 1 rfl rfl)
theorem dX2_either_75 : decode cX2_either 75 = .ok (.iload_n 1, 1) := dk_27 (dk_at dksX2_either_3 3 rfl rfl)
theorem dX2_either_76 : decode cX2_either 76 = .ok (.ifCond .ne 17, 3) := dk_154 0 17 (dk_at dksX2_either_3 4 rfl rfl)
theorem dX2_either_79 : decode cX2_either 79 = .ok (.iload_n 2, 1) := dk_28 (dk_at dksX2_either_3 7 rfl rfl)
theorem dX2_either_80 : decode cX2_either 80 = .ok (.ifCond .eq 10, 3) := dk_153 0 10 (dk_at dksX2_either_3 8 rfl rfl)
theorem dX2_either_83 : decode cX2_either 83 = .ok (.aload_n 0, 1) := dk_42 (dk_at dksX2_either_3 11 rfl rfl)
theorem dX2_either_84 : decode cX2_either 84 = .ok (.bipush 22, 2) := dk_16 22 (dk_at dksX2_either_3 12 rfl rfl)
theorem dX2_either_86 : decode cX2_either 86 = .ok (.iconst 0, 1) := dk_3 (dk_at dksX2_either_3 14 rfl rfl)
theorem dX2_either_87 : decode cX2_either 87 = .ok (.invokevirtual 166, 3) := dk_182 0 166 (dk_at dksX2_either_3 15 rfl rfl)
theorem dX2_either_90 : decode cX2_either 90 = .ok (.iload 5, 2) := dk_21 5 (dk_at dksX2_either_3 18 rfl rfl)
theorem dX2_either_92 : decode cX2_either 92 = .ok (.istore_n 2, 1) := dk_61 (dk_at dksX2_either_3 20 rfl rfl)
theorem dX2_either_93 : decode cX2_either 93 = .ok (.iload_n 1, 1) := dk_27 (dk_at dksX2_either_3 21 rfl rfl)
theorem dX2_either_94 : decode cX2_either 94 = .ok (.ifCond .ne 8, 3) := dk_154 0 8 (dk_at dksX2_either_4 0 rfl rfl)
theorem dX2_either_97 : decode cX2_either 97 = .ok (.iload 5, 2) := dk_21 5 (dk_at dksX2_either_4 3 rfl rfl)
theorem dX2_either_99 : decode cX2_either 99 = .ok (.ifCond .eq 7, 3) := dk_153 0 7 (dk_at dksX2_either_4 5 rfl rfl)
theorem dX2_either_102 : decode cX2_either 102 = .ok (.iconst 1, 1) := dk_4 (dk_at dksX2_either_4 8 rfl rfl)
theorem dX2_either_103 : decode cX2_either 103 = .ok (.goto 4, 3) := dk_167 0 4 (dk_at dksX2_either_4 9 rfl rfl)
theorem dX2_either_106 : decode cX2_either 106 = .ok (.iconst 0, 1) := dk_3 (dk_at dksX2_either_4 12 rfl rfl)
theorem dX2_either_107 : decode cX2_either 107 = .ok (.istore_n 3, 1) := dk_62 (dk_at dksX2_either_4 13 rfl rfl)
theorem dX2_either_108 : decode cX2_either 108 = .ok (.iload_n 3, 1) := dk_29 (dk_at dksX2_either_4 14 rfl rfl)
theorem dX2_either_109 : decode cX2_either 109 = .ok (.ifCond .eq 7, 3) := dk_153 0 7 (dk_at dksX2_either_4 15 rfl rfl)
theorem dX2_either_112 : decode cX2_either 112 = .ok (.aload_n 0, 1) := dk_42 (dk_at dksX2_either_4 18 rfl rfl)
theorem dX2_either_113 : decode cX2_either 113 = .ok (.invokevirtual 185, 3) := dk_182 0 185 (dk_at dksX2_either_4 19 rfl rfl)
theorem dX2_either_116 : decode cX2_either 116 = .ok (.goto (-110), 3) := dk_167 255 146 (dk_at dksX2_either_5 0 rfl rfl)
theorem dX2_either_119 : decode cX2_either 119 = .ok (.iconst 0, 1) := dk_3 (dk_at dksX2_either_5 3 rfl rfl)
theorem dX2_either_120 : decode cX2_either 120 = .ok (.ireturn, 1) := dk_172 (dk_at dksX2_either_5 4 rfl rfl)
abbrev MX2_either : jjM := (yX2_either, cX2_either, 6, (Option.some Jvm.ClassFile.FieldType.int))
theorem npX2_either : yX2_either.cls ≠ "java/lang/invoke/MethodHandle" ∧ yX2_either.cls ≠ "java/lang/invoke/VarHandle" ∧ (parseMethodDescriptor yX2_either.desc).map (fun d => d.parameters.length) = some 0 := by decide +kernel
abbrev cX2_asks : ByteArray := prog_17_method_40_code
def yX2_asks : MethodName := ⟨RX2, "asks", "()I"⟩
def dkwX2_asks_5 : List UInt8 := [132, 4, 1, 167, 255, 240, 3, 172]
abbrev dktX2_asks_5 : List UInt8 := dkwX2_asks_5 ++ []
def dkwX2_asks_4 : List UInt8 := [180, 0, 163, 27, 100, 181, 0, 163, 3, 54, 4, 21, 4, 27, 162, 0, 16, 42, 16, 20, 3, 182, 0, 166]
abbrev dktX2_asks_4 : List UInt8 := dkwX2_asks_4 ++ dktX2_asks_5
def dkwX2_asks_3 : List UInt8 := [172, 42, 182, 0, 185, 42, 182, 0, 220, 61, 28, 153, 0, 5, 28, 172, 42, 29, 3, 182, 0, 166, 42, 89]
abbrev dktX2_asks_3 : List UInt8 := dkwX2_asks_3 ++ dktX2_asks_4
def dkwX2_asks_2 : List UInt8 := [167, 255, 212, 42, 182, 0, 220, 61, 28, 153, 0, 5, 28, 172, 42, 182, 0, 223, 62, 29, 156, 0, 5, 4]
abbrev dktX2_asks_2 : List UInt8 := dkwX2_asks_2 ++ dktX2_asks_3
def dkwX2_asks_1 : List UInt8 := [160, 0, 5, 6, 172, 42, 89, 180, 0, 163, 4, 96, 181, 0, 163, 132, 1, 1, 42, 182, 0, 185]
abbrev dktX2_asks_1 : List UInt8 := dkwX2_asks_1 ++ dktX2_asks_2
def dkwX2_asks_0 : List UInt8 := [3, 60, 42, 16, 110, 16, 111, 16, 116, 184, 0, 142, 182, 0, 216, 153, 0, 34, 42, 180, 0, 163, 16, 8]
abbrev dktX2_asks_0 : List UInt8 := dkwX2_asks_0 ++ dktX2_asks_1
theorem dksX2_asks_0 : cX2_asks.data.toList.drop 0 = dktX2_asks_0 := by decide +kernel
theorem dksX2_asks_1 : cX2_asks.data.toList.drop 24 = dktX2_asks_1 := dk_seg dksX2_asks_0 24 rfl rfl
theorem dksX2_asks_2 : cX2_asks.data.toList.drop 46 = dktX2_asks_2 := dk_seg dksX2_asks_1 22 rfl rfl
theorem dksX2_asks_3 : cX2_asks.data.toList.drop 70 = dktX2_asks_3 := dk_seg dksX2_asks_2 24 rfl rfl
theorem dksX2_asks_4 : cX2_asks.data.toList.drop 94 = dktX2_asks_4 := dk_seg dksX2_asks_3 24 rfl rfl
theorem dksX2_asks_5 : cX2_asks.data.toList.drop 118 = dktX2_asks_5 := dk_seg dksX2_asks_4 24 rfl rfl
theorem dX2_asks_0 : decode cX2_asks 0 = .ok (.iconst 0, 1) := dk_3 (dk_at dksX2_asks_0 0 rfl rfl)
theorem dX2_asks_1 : decode cX2_asks 1 = .ok (.istore_n 1, 1) := dk_60 (dk_at dksX2_asks_0 1 rfl rfl)
theorem dX2_asks_2 : decode cX2_asks 2 = .ok (.aload_n 0, 1) := dk_42 (dk_at dksX2_asks_0 2 rfl rfl)
theorem dX2_asks_3 : decode cX2_asks 3 = .ok (.bipush 110, 2) := dk_16 110 (dk_at dksX2_asks_0 3 rfl rfl)
theorem dX2_asks_5 : decode cX2_asks 5 = .ok (.bipush 111, 2) := dk_16 111 (dk_at dksX2_asks_0 5 rfl rfl)
theorem dX2_asks_7 : decode cX2_asks 7 = .ok (.bipush 116, 2) := dk_16 116 (dk_at dksX2_asks_0 7 rfl rfl)
theorem dX2_asks_9 : decode cX2_asks 9 = .ok (.invokestatic 142, 3) := dk_184 0 142 (dk_at dksX2_asks_0 9 rfl rfl)
theorem dX2_asks_12 : decode cX2_asks 12 = .ok (.invokevirtual 216, 3) := dk_182 0 216 (dk_at dksX2_asks_0 12 rfl rfl)
theorem dX2_asks_15 : decode cX2_asks 15 = .ok (.ifCond .eq 34, 3) := dk_153 0 34 (dk_at dksX2_asks_0 15 rfl rfl)
theorem dX2_asks_18 : decode cX2_asks 18 = .ok (.aload_n 0, 1) := dk_42 (dk_at dksX2_asks_0 18 rfl rfl)
theorem dX2_asks_19 : decode cX2_asks 19 = .ok (.getfield 163, 3) := dk_180 0 163 (dk_at dksX2_asks_0 19 rfl rfl)
theorem dX2_asks_22 : decode cX2_asks 22 = .ok (.bipush 8, 2) := dk_16 8 (dk_at dksX2_asks_0 22 rfl rfl)
theorem dX2_asks_24 : decode cX2_asks 24 = .ok (.if_icmp .ne 5, 3) := dk_160 0 5 (dk_at dksX2_asks_1 0 rfl rfl)
theorem dX2_asks_27 : decode cX2_asks 27 = .ok (.iconst 3, 1) := dk_6 (dk_at dksX2_asks_1 3 rfl rfl)
theorem dX2_asks_28 : decode cX2_asks 28 = .ok (.ireturn, 1) := dk_172 (dk_at dksX2_asks_1 4 rfl rfl)
theorem dX2_asks_29 : decode cX2_asks 29 = .ok (.aload_n 0, 1) := dk_42 (dk_at dksX2_asks_1 5 rfl rfl)
theorem dX2_asks_30 : decode cX2_asks 30 = .ok (.dup, 1) := dk_89 (dk_at dksX2_asks_1 6 rfl rfl)
theorem dX2_asks_31 : decode cX2_asks 31 = .ok (.getfield 163, 3) := dk_180 0 163 (dk_at dksX2_asks_1 7 rfl rfl)
theorem dX2_asks_34 : decode cX2_asks 34 = .ok (.iconst 1, 1) := dk_4 (dk_at dksX2_asks_1 10 rfl rfl)
theorem dX2_asks_35 : decode cX2_asks 35 = .ok (.iadd, 1) := dk_96 (dk_at dksX2_asks_1 11 rfl rfl)
theorem dX2_asks_36 : decode cX2_asks 36 = .ok (.putfield 163, 3) := dk_181 0 163 (dk_at dksX2_asks_1 12 rfl rfl)
theorem dX2_asks_39 : decode cX2_asks 39 = .ok (.iinc 1 1, 3) := dk_132 1 1 (dk_at dksX2_asks_1 15 rfl rfl)
theorem dX2_asks_42 : decode cX2_asks 42 = .ok (.aload_n 0, 1) := dk_42 (dk_at dksX2_asks_1 18 rfl rfl)
theorem dX2_asks_43 : decode cX2_asks 43 = .ok (.invokevirtual 185, 3) := dk_182 0 185 (dk_at dksX2_asks_1 19 rfl rfl)
theorem dX2_asks_46 : decode cX2_asks 46 = .ok (.goto (-44), 3) := dk_167 255 212 (dk_at dksX2_asks_2 0 rfl rfl)
theorem dX2_asks_49 : decode cX2_asks 49 = .ok (.aload_n 0, 1) := dk_42 (dk_at dksX2_asks_2 3 rfl rfl)
theorem dX2_asks_50 : decode cX2_asks 50 = .ok (.invokevirtual 220, 3) := dk_182 0 220 (dk_at dksX2_asks_2 4 rfl rfl)
theorem dX2_asks_53 : decode cX2_asks 53 = .ok (.istore_n 2, 1) := dk_61 (dk_at dksX2_asks_2 7 rfl rfl)
theorem dX2_asks_54 : decode cX2_asks 54 = .ok (.iload_n 2, 1) := dk_28 (dk_at dksX2_asks_2 8 rfl rfl)
theorem dX2_asks_55 : decode cX2_asks 55 = .ok (.ifCond .eq 5, 3) := dk_153 0 5 (dk_at dksX2_asks_2 9 rfl rfl)
theorem dX2_asks_58 : decode cX2_asks 58 = .ok (.iload_n 2, 1) := dk_28 (dk_at dksX2_asks_2 12 rfl rfl)
theorem dX2_asks_59 : decode cX2_asks 59 = .ok (.ireturn, 1) := dk_172 (dk_at dksX2_asks_2 13 rfl rfl)
theorem dX2_asks_60 : decode cX2_asks 60 = .ok (.aload_n 0, 1) := dk_42 (dk_at dksX2_asks_2 14 rfl rfl)
theorem dX2_asks_61 : decode cX2_asks 61 = .ok (.invokevirtual 223, 3) := dk_182 0 223 (dk_at dksX2_asks_2 15 rfl rfl)
theorem dX2_asks_64 : decode cX2_asks 64 = .ok (.istore_n 3, 1) := dk_62 (dk_at dksX2_asks_2 18 rfl rfl)
theorem dX2_asks_65 : decode cX2_asks 65 = .ok (.iload_n 3, 1) := dk_29 (dk_at dksX2_asks_2 19 rfl rfl)
theorem dX2_asks_66 : decode cX2_asks 66 = .ok (.ifCond .ge 5, 3) := dk_156 0 5 (dk_at dksX2_asks_2 20 rfl rfl)
theorem dX2_asks_69 : decode cX2_asks 69 = .ok (.iconst 1, 1) := dk_4 (dk_at dksX2_asks_2 23 rfl rfl)
theorem dX2_asks_70 : decode cX2_asks 70 = .ok (.ireturn, 1) := dk_172 (dk_at dksX2_asks_3 0 rfl rfl)
theorem dX2_asks_71 : decode cX2_asks 71 = .ok (.aload_n 0, 1) := dk_42 (dk_at dksX2_asks_3 1 rfl rfl)
theorem dX2_asks_72 : decode cX2_asks 72 = .ok (.invokevirtual 185, 3) := dk_182 0 185 (dk_at dksX2_asks_3 2 rfl rfl)
theorem dX2_asks_75 : decode cX2_asks 75 = .ok (.aload_n 0, 1) := dk_42 (dk_at dksX2_asks_3 5 rfl rfl)
theorem dX2_asks_76 : decode cX2_asks 76 = .ok (.invokevirtual 220, 3) := dk_182 0 220 (dk_at dksX2_asks_3 6 rfl rfl)
theorem dX2_asks_79 : decode cX2_asks 79 = .ok (.istore_n 2, 1) := dk_61 (dk_at dksX2_asks_3 9 rfl rfl)
theorem dX2_asks_80 : decode cX2_asks 80 = .ok (.iload_n 2, 1) := dk_28 (dk_at dksX2_asks_3 10 rfl rfl)
theorem dX2_asks_81 : decode cX2_asks 81 = .ok (.ifCond .eq 5, 3) := dk_153 0 5 (dk_at dksX2_asks_3 11 rfl rfl)
theorem dX2_asks_84 : decode cX2_asks 84 = .ok (.iload_n 2, 1) := dk_28 (dk_at dksX2_asks_3 14 rfl rfl)
theorem dX2_asks_85 : decode cX2_asks 85 = .ok (.ireturn, 1) := dk_172 (dk_at dksX2_asks_3 15 rfl rfl)
theorem dX2_asks_86 : decode cX2_asks 86 = .ok (.aload_n 0, 1) := dk_42 (dk_at dksX2_asks_3 16 rfl rfl)
theorem dX2_asks_87 : decode cX2_asks 87 = .ok (.iload_n 3, 1) := dk_29 (dk_at dksX2_asks_3 17 rfl rfl)
theorem dX2_asks_88 : decode cX2_asks 88 = .ok (.iconst 0, 1) := dk_3 (dk_at dksX2_asks_3 18 rfl rfl)
theorem dX2_asks_89 : decode cX2_asks 89 = .ok (.invokevirtual 166, 3) := dk_182 0 166 (dk_at dksX2_asks_3 19 rfl rfl)
theorem dX2_asks_92 : decode cX2_asks 92 = .ok (.aload_n 0, 1) := dk_42 (dk_at dksX2_asks_3 22 rfl rfl)
theorem dX2_asks_93 : decode cX2_asks 93 = .ok (.dup, 1) := dk_89 (dk_at dksX2_asks_3 23 rfl rfl)
theorem dX2_asks_94 : decode cX2_asks 94 = .ok (.getfield 163, 3) := dk_180 0 163 (dk_at dksX2_asks_4 0 rfl rfl)
theorem dX2_asks_97 : decode cX2_asks 97 = .ok (.iload_n 1, 1) := dk_27 (dk_at dksX2_asks_4 3 rfl rfl)
theorem dX2_asks_98 : decode cX2_asks 98 = .ok (.isub, 1) := dk_100 (dk_at dksX2_asks_4 4 rfl rfl)
theorem dX2_asks_99 : decode cX2_asks 99 = .ok (.putfield 163, 3) := dk_181 0 163 (dk_at dksX2_asks_4 5 rfl rfl)
theorem dX2_asks_102 : decode cX2_asks 102 = .ok (.iconst 0, 1) := dk_3 (dk_at dksX2_asks_4 8 rfl rfl)
theorem dX2_asks_103 : decode cX2_asks 103 = .ok (.istore 4, 2) := dk_54 4 (dk_at dksX2_asks_4 9 rfl rfl)
theorem dX2_asks_105 : decode cX2_asks 105 = .ok (.iload 4, 2) := dk_21 4 (dk_at dksX2_asks_4 11 rfl rfl)
theorem dX2_asks_107 : decode cX2_asks 107 = .ok (.iload_n 1, 1) := dk_27 (dk_at dksX2_asks_4 13 rfl rfl)
theorem dX2_asks_108 : decode cX2_asks 108 = .ok (.if_icmp .ge 16, 3) := dk_162 0 16 (dk_at dksX2_asks_4 14 rfl rfl)
theorem dX2_asks_111 : decode cX2_asks 111 = .ok (.aload_n 0, 1) := dk_42 (dk_at dksX2_asks_4 17 rfl rfl)
theorem dX2_asks_112 : decode cX2_asks 112 = .ok (.bipush 20, 2) := dk_16 20 (dk_at dksX2_asks_4 18 rfl rfl)
theorem dX2_asks_114 : decode cX2_asks 114 = .ok (.iconst 0, 1) := dk_3 (dk_at dksX2_asks_4 20 rfl rfl)
theorem dX2_asks_115 : decode cX2_asks 115 = .ok (.invokevirtual 166, 3) := dk_182 0 166 (dk_at dksX2_asks_4 21 rfl rfl)
theorem dX2_asks_118 : decode cX2_asks 118 = .ok (.iinc 4 1, 3) := dk_132 4 1 (dk_at dksX2_asks_5 0 rfl rfl)
theorem dX2_asks_121 : decode cX2_asks 121 = .ok (.goto (-16), 3) := dk_167 255 240 (dk_at dksX2_asks_5 3 rfl rfl)
theorem dX2_asks_124 : decode cX2_asks 124 = .ok (.iconst 0, 1) := dk_3 (dk_at dksX2_asks_5 6 rfl rfl)
theorem dX2_asks_125 : decode cX2_asks 125 = .ok (.ireturn, 1) := dk_172 (dk_at dksX2_asks_5 7 rfl rfl)
abbrev MX2_asks : jjM := (yX2_asks, cX2_asks, 5, (Option.some Jvm.ClassFile.FieldType.int))
theorem npX2_asks : yX2_asks.cls ≠ "java/lang/invoke/MethodHandle" ∧ yX2_asks.cls ≠ "java/lang/invoke/VarHandle" ∧ (parseMethodDescriptor yX2_asks.desc).map (fun d => d.parameters.length) = some 0 := by decide +kernel
abbrev cX2_summed : ByteArray := prog_17_method_38_code
def yX2_summed : MethodName := ⟨RX2, "summed", "()I"⟩
def dkwX2_summed_2 : List UInt8 := [172, 167, 255, 217, 42, 6, 182, 0, 204, 42, 180, 0, 156, 158, 0, 7, 4, 167, 0, 4, 3, 172]
abbrev dktX2_summed_2 : List UInt8 := dkwX2_summed_2 ++ []
def dkwX2_summed_1 : List UInt8 := [42, 180, 0, 159, 153, 0, 10, 42, 182, 0, 210, 167, 0, 7, 42, 182, 0, 213, 60, 27, 153, 0, 5, 27]
abbrev dktX2_summed_1 : List UInt8 := dkwX2_summed_1 ++ dktX2_summed_2
def dkwX2_summed_0 : List UInt8 := [42, 3, 181, 0, 156, 42, 3, 181, 0, 159, 42, 180, 0, 159, 153, 0, 10, 42, 182, 0, 207, 153, 0, 31]
abbrev dktX2_summed_0 : List UInt8 := dkwX2_summed_0 ++ dktX2_summed_1
theorem dksX2_summed_0 : cX2_summed.data.toList.drop 0 = dktX2_summed_0 := by decide +kernel
theorem dksX2_summed_1 : cX2_summed.data.toList.drop 24 = dktX2_summed_1 := dk_seg dksX2_summed_0 24 rfl rfl
theorem dksX2_summed_2 : cX2_summed.data.toList.drop 48 = dktX2_summed_2 := dk_seg dksX2_summed_1 24 rfl rfl
theorem dX2_summed_0 : decode cX2_summed 0 = .ok (.aload_n 0, 1) := dk_42 (dk_at dksX2_summed_0 0 rfl rfl)
theorem dX2_summed_1 : decode cX2_summed 1 = .ok (.iconst 0, 1) := dk_3 (dk_at dksX2_summed_0 1 rfl rfl)
theorem dX2_summed_2 : decode cX2_summed 2 = .ok (.putfield 156, 3) := dk_181 0 156 (dk_at dksX2_summed_0 2 rfl rfl)
theorem dX2_summed_5 : decode cX2_summed 5 = .ok (.aload_n 0, 1) := dk_42 (dk_at dksX2_summed_0 5 rfl rfl)
theorem dX2_summed_6 : decode cX2_summed 6 = .ok (.iconst 0, 1) := dk_3 (dk_at dksX2_summed_0 6 rfl rfl)
theorem dX2_summed_7 : decode cX2_summed 7 = .ok (.putfield 159, 3) := dk_181 0 159 (dk_at dksX2_summed_0 7 rfl rfl)
theorem dX2_summed_10 : decode cX2_summed 10 = .ok (.aload_n 0, 1) := dk_42 (dk_at dksX2_summed_0 10 rfl rfl)
theorem dX2_summed_11 : decode cX2_summed 11 = .ok (.getfield 159, 3) := dk_180 0 159 (dk_at dksX2_summed_0 11 rfl rfl)
theorem dX2_summed_14 : decode cX2_summed 14 = .ok (.ifCond .eq 10, 3) := dk_153 0 10 (dk_at dksX2_summed_0 14 rfl rfl)
theorem dX2_summed_17 : decode cX2_summed 17 = .ok (.aload_n 0, 1) := dk_42 (dk_at dksX2_summed_0 17 rfl rfl)
theorem dX2_summed_18 : decode cX2_summed 18 = .ok (.invokevirtual 207, 3) := dk_182 0 207 (dk_at dksX2_summed_0 18 rfl rfl)
theorem dX2_summed_21 : decode cX2_summed 21 = .ok (.ifCond .eq 31, 3) := dk_153 0 31 (dk_at dksX2_summed_0 21 rfl rfl)
theorem dX2_summed_24 : decode cX2_summed 24 = .ok (.aload_n 0, 1) := dk_42 (dk_at dksX2_summed_1 0 rfl rfl)
theorem dX2_summed_25 : decode cX2_summed 25 = .ok (.getfield 159, 3) := dk_180 0 159 (dk_at dksX2_summed_1 1 rfl rfl)
theorem dX2_summed_28 : decode cX2_summed 28 = .ok (.ifCond .eq 10, 3) := dk_153 0 10 (dk_at dksX2_summed_1 4 rfl rfl)
theorem dX2_summed_31 : decode cX2_summed 31 = .ok (.aload_n 0, 1) := dk_42 (dk_at dksX2_summed_1 7 rfl rfl)
theorem dX2_summed_32 : decode cX2_summed 32 = .ok (.invokevirtual 210, 3) := dk_182 0 210 (dk_at dksX2_summed_1 8 rfl rfl)
theorem dX2_summed_35 : decode cX2_summed 35 = .ok (.goto 7, 3) := dk_167 0 7 (dk_at dksX2_summed_1 11 rfl rfl)
theorem dX2_summed_38 : decode cX2_summed 38 = .ok (.aload_n 0, 1) := dk_42 (dk_at dksX2_summed_1 14 rfl rfl)
theorem dX2_summed_39 : decode cX2_summed 39 = .ok (.invokevirtual 213, 3) := dk_182 0 213 (dk_at dksX2_summed_1 15 rfl rfl)
theorem dX2_summed_42 : decode cX2_summed 42 = .ok (.istore_n 1, 1) := dk_60 (dk_at dksX2_summed_1 18 rfl rfl)
theorem dX2_summed_43 : decode cX2_summed 43 = .ok (.iload_n 1, 1) := dk_27 (dk_at dksX2_summed_1 19 rfl rfl)
theorem dX2_summed_44 : decode cX2_summed 44 = .ok (.ifCond .eq 5, 3) := dk_153 0 5 (dk_at dksX2_summed_1 20 rfl rfl)
theorem dX2_summed_47 : decode cX2_summed 47 = .ok (.iload_n 1, 1) := dk_27 (dk_at dksX2_summed_1 23 rfl rfl)
theorem dX2_summed_48 : decode cX2_summed 48 = .ok (.ireturn, 1) := dk_172 (dk_at dksX2_summed_2 0 rfl rfl)
theorem dX2_summed_49 : decode cX2_summed 49 = .ok (.goto (-39), 3) := dk_167 255 217 (dk_at dksX2_summed_2 1 rfl rfl)
theorem dX2_summed_52 : decode cX2_summed 52 = .ok (.aload_n 0, 1) := dk_42 (dk_at dksX2_summed_2 4 rfl rfl)
theorem dX2_summed_53 : decode cX2_summed 53 = .ok (.iconst 3, 1) := dk_6 (dk_at dksX2_summed_2 5 rfl rfl)
theorem dX2_summed_54 : decode cX2_summed 54 = .ok (.invokevirtual 204, 3) := dk_182 0 204 (dk_at dksX2_summed_2 6 rfl rfl)
theorem dX2_summed_57 : decode cX2_summed 57 = .ok (.aload_n 0, 1) := dk_42 (dk_at dksX2_summed_2 9 rfl rfl)
theorem dX2_summed_58 : decode cX2_summed 58 = .ok (.getfield 156, 3) := dk_180 0 156 (dk_at dksX2_summed_2 10 rfl rfl)
theorem dX2_summed_61 : decode cX2_summed 61 = .ok (.ifCond .le 7, 3) := dk_158 0 7 (dk_at dksX2_summed_2 13 rfl rfl)
theorem dX2_summed_64 : decode cX2_summed 64 = .ok (.iconst 1, 1) := dk_4 (dk_at dksX2_summed_2 16 rfl rfl)
theorem dX2_summed_65 : decode cX2_summed 65 = .ok (.goto 4, 3) := dk_167 0 4 (dk_at dksX2_summed_2 17 rfl rfl)
theorem dX2_summed_68 : decode cX2_summed 68 = .ok (.iconst 0, 1) := dk_3 (dk_at dksX2_summed_2 20 rfl rfl)
theorem dX2_summed_69 : decode cX2_summed 69 = .ok (.ireturn, 1) := dk_172 (dk_at dksX2_summed_2 21 rfl rfl)
abbrev MX2_summed : jjM := (yX2_summed, cX2_summed, 2, (Option.some Jvm.ClassFile.FieldType.int))
theorem npX2_summed : yX2_summed.cls ≠ "java/lang/invoke/MethodHandle" ∧ yX2_summed.cls ≠ "java/lang/invoke/VarHandle" ∧ (parseMethodDescriptor yX2_summed.desc).map (fun d => d.parameters.length) = some 0 := by decide +kernel
