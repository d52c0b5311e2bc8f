/-! names, code and decode rows of the methods (out of claim/names) -/
set_option maxRecDepth 100000
abbrev cX7_add : ByteArray := prog_4_method_2_code
def yX7_add : MethodName := ⟨RX7, "add", "(ILSelfSorting$Sum;)V"⟩
def dkwX7_add_0 : List UInt8 := [42, 180, 0, 18, 27, 184, 0, 25, 182, 0, 31, 87, 42, 180, 0, 12, 44, 182, 0, 31, 87, 177]
abbrev dktX7_add_0 : List UInt8 := dkwX7_add_0 ++ []
theorem dksX7_add_0 : cX7_add.data.toList.drop 0 = dktX7_add_0 := by decide +kernel
theorem dX7_add_0 : decode cX7_add 0 = .ok (.aload_n 0, 1) := dk_42 (dk_at dksX7_add_0 0 rfl rfl)
theorem dX7_add_1 : decode cX7_add 1 = .ok (.getfield 18, 3) := dk_180 0 18 (dk_at dksX7_add_0 1 rfl rfl)
theorem dX7_add_4 : decode cX7_add 4 = .ok (.iload_n 1, 1) := dk_27 (dk_at dksX7_add_0 4 rfl rfl)
theorem dX7_add_5 : decode cX7_add 5 = .ok (.invokestatic 25, 3) := dk_184 0 25 (dk_at dksX7_add_0 5 rfl rfl)
theorem dX7_add_8 : decode cX7_add 8 = .ok (.invokevirtual 31, 3) := dk_182 0 31 (dk_at dksX7_add_0 8 rfl rfl)
theorem dX7_add_11 : decode cX7_add 11 = .ok (.pop, 1) := dk_87 (dk_at dksX7_add_0 11 rfl rfl)
theorem dX7_add_12 : decode cX7_add 12 = .ok (.aload_n 0, 1) := dk_42 (dk_at dksX7_add_0 12 rfl rfl)
theorem dX7_add_13 : decode cX7_add 13 = .ok (.getfield 12, 3) := dk_180 0 12 (dk_at dksX7_add_0 13 rfl rfl)
theorem dX7_add_16 : decode cX7_add 16 = .ok (.aload_n 2, 1) := dk_44 (dk_at dksX7_add_0 16 rfl rfl)
theorem dX7_add_17 : decode cX7_add 17 = .ok (.invokevirtual 31, 3) := dk_182 0 31 (dk_at dksX7_add_0 17 rfl rfl)
theorem dX7_add_20 : decode cX7_add 20 = .ok (.pop, 1) := dk_87 (dk_at dksX7_add_0 20 rfl rfl)
theorem dX7_add_21 : decode cX7_add 21 = .ok (.return_, 1) := dk_177 (dk_at dksX7_add_0 21 rfl rfl)
abbrev MX7_add : jjM := (yX7_add, cX7_add, 3, (Option.none : Option Jvm.ClassFile.FieldType))
theorem npX7_add : yX7_add.cls ≠ "java/lang/invoke/MethodHandle" ∧ yX7_add.cls ≠ "java/lang/invoke/VarHandle" ∧ (parseMethodDescriptor yX7_add.desc).map (fun d => d.parameters.length) = some 2 := by decide +kernel
abbrev cX7_itself : ByteArray := prog_4_method_3_code
def yX7_itself : MethodName := ⟨RX7, "itself", "()LSelfSorting$Sum;"⟩
def dkwX7_itself_0 : List UInt8 := [42, 180, 0, 12, 182, 0, 35, 153, 0, 10, 42, 180, 0, 21, 167, 0, 4, 42, 176]
abbrev dktX7_itself_0 : List UInt8 := dkwX7_itself_0 ++ []
theorem dksX7_itself_0 : cX7_itself.data.toList.drop 0 = dktX7_itself_0 := by decide +kernel
theorem dX7_itself_0 : decode cX7_itself 0 = .ok (.aload_n 0, 1) := dk_42 (dk_at dksX7_itself_0 0 rfl rfl)
theorem dX7_itself_1 : decode cX7_itself 1 = .ok (.getfield 12, 3) := dk_180 0 12 (dk_at dksX7_itself_0 1 rfl rfl)
theorem dX7_itself_4 : decode cX7_itself 4 = .ok (.invokevirtual 35, 3) := dk_182 0 35 (dk_at dksX7_itself_0 4 rfl rfl)
theorem dX7_itself_7 : decode cX7_itself 7 = .ok (.ifCond .eq 10, 3) := dk_153 0 10 (dk_at dksX7_itself_0 7 rfl rfl)
theorem dX7_itself_10 : decode cX7_itself 10 = .ok (.aload_n 0, 1) := dk_42 (dk_at dksX7_itself_0 10 rfl rfl)
theorem dX7_itself_11 : decode cX7_itself 11 = .ok (.getfield 21, 3) := dk_180 0 21 (dk_at dksX7_itself_0 11 rfl rfl)
theorem dX7_itself_14 : decode cX7_itself 14 = .ok (.goto 4, 3) := dk_167 0 4 (dk_at dksX7_itself_0 14 rfl rfl)
theorem dX7_itself_17 : decode cX7_itself 17 = .ok (.aload_n 0, 1) := dk_42 (dk_at dksX7_itself_0 17 rfl rfl)
theorem dX7_itself_18 : decode cX7_itself 18 = .ok (.areturn, 1) := dk_176 (dk_at dksX7_itself_0 18 rfl rfl)
abbrev MX7_itself : jjM := (yX7_itself, cX7_itself, 1, (Option.some (Jvm.ClassFile.FieldType.object "SelfSorting$Sum")))
theorem npX7_itself : yX7_itself.cls ≠ "java/lang/invoke/MethodHandle" ∧ yX7_itself.cls ≠ "java/lang/invoke/VarHandle" ∧ (parseMethodDescriptor yX7_itself.desc).map (fun d => d.parameters.length) = some 0 := by decide +kernel
abbrev cX8_of : ByteArray := prog_10_method_2_code
def yX8_of : MethodName := ⟨RX8, "of", "([I)J"⟩
def dkwX8_of_0 : List UInt8 := [42, 180, 0, 7, 133, 173]
abbrev dktX8_of_0 : List UInt8 := dkwX8_of_0 ++ []
theorem dksX8_of_0 : cX8_of.data.toList.drop 0 = dktX8_of_0 := by decide +kernel
theorem dX8_of_0 : decode cX8_of 0 = .ok (.aload_n 0, 1) := dk_42 (dk_at dksX8_of_0 0 rfl rfl)
theorem dX8_of_1 : decode cX8_of 1 = .ok (.getfield 7, 3) := dk_180 0 7 (dk_at dksX8_of_0 1 rfl rfl)
theorem dX8_of_4 : decode cX8_of 4 = .ok (.i2l, 1) := dk_133 (dk_at dksX8_of_0 4 rfl rfl)
theorem dX8_of_5 : decode cX8_of 5 = .ok (.lreturn, 1) := dk_173 (dk_at dksX8_of_0 5 rfl rfl)
abbrev MX8_of : jjM := (yX8_of, cX8_of, 2, (Option.some Jvm.ClassFile.FieldType.long))
theorem npX8_of : yX8_of.cls ≠ "java/lang/invoke/MethodHandle" ∧ yX8_of.cls ≠ "java/lang/invoke/VarHandle" ∧ (parseMethodDescriptor yX8_of.desc).map (fun d => d.parameters.length) = some 1 := by decide +kernel
abbrev cX8_init : ByteArray := prog_10_method_1_code
def yX8_init : MethodName := ⟨RX8, "<init>", "(I)V"⟩
def dkwX8_init_0 : List UInt8 := [42, 183, 0, 1, 42, 27, 181, 0, 7, 177]
abbrev dktX8_init_0 : List UInt8 := dkwX8_init_0 ++ []
theorem dksX8_init_0 : cX8_init.data.toList.drop 0 = dktX8_init_0 := by decide +kernel
theorem dX8_init_0 : decode cX8_init 0 = .ok (.aload_n 0, 1) := dk_42 (dk_at dksX8_init_0 0 rfl rfl)
theorem dX8_init_1 : decode cX8_init 1 = .ok (.invokespecial 1, 3) := dk_183 0 1 (dk_at dksX8_init_0 1 rfl rfl)
theorem dX8_init_4 : decode cX8_init 4 = .ok (.aload_n 0, 1) := dk_42 (dk_at dksX8_init_0 4 rfl rfl)
theorem dX8_init_5 : decode cX8_init 5 = .ok (.iload_n 1, 1) := dk_27 (dk_at dksX8_init_0 5 rfl rfl)
theorem dX8_init_6 : decode cX8_init 6 = .ok (.putfield 7, 3) := dk_181 0 7 (dk_at dksX8_init_0 6 rfl rfl)
theorem dX8_init_9 : decode cX8_init 9 = .ok (.return_, 1) := dk_177 (dk_at dksX8_init_0 9 rfl rfl)
abbrev MX8_init : jjM := (yX8_init, cX8_init, 2, (Option.none : Option Jvm.ClassFile.FieldType))
theorem npX8_init : yX8_init.cls ≠ "java/lang/invoke/MethodHandle" ∧ yX8_init.cls ≠ "java/lang/invoke/VarHandle" ∧ (parseMethodDescriptor yX8_init.desc).map (fun d => d.parameters.length) = some 1 := by decide +kernel
abbrev cX9_of : ByteArray := prog_8_method_2_code
def yX9_of : MethodName := ⟨RX9, "of", "([I)J"⟩
def dkwX9_of_0 : List UInt8 := [43, 42, 180, 0, 7, 46, 133, 173]
abbrev dktX9_of_0 : List UInt8 := dkwX9_of_0 ++ []
theorem dksX9_of_0 : cX9_of.data.toList.drop 0 = dktX9_of_0 := by decide +kernel
theorem dX9_of_0 : decode cX9_of 0 = .ok (.aload_n 1, 1) := dk_43 (dk_at dksX9_of_0 0 rfl rfl)
theorem dX9_of_1 : decode cX9_of 1 = .ok (.aload_n 0, 1) := dk_42 (dk_at dksX9_of_0 1 rfl rfl)
theorem dX9_of_2 : decode cX9_of 2 = .ok (.getfield 7, 3) := dk_180 0 7 (dk_at dksX9_of_0 2 rfl rfl)
theorem dX9_of_5 : decode cX9_of 5 = .ok (.iaload, 1) := dk_46 (dk_at dksX9_of_0 5 rfl rfl)
theorem dX9_of_6 : decode cX9_of 6 = .ok (.i2l, 1) := dk_133 (dk_at dksX9_of_0 6 rfl rfl)
theorem dX9_of_7 : decode cX9_of 7 = .ok (.lreturn, 1) := dk_173 (dk_at dksX9_of_0 7 rfl rfl)
abbrev MX9_of : jjM := (yX9_of, cX9_of, 2, (Option.some Jvm.ClassFile.FieldType.long))
theorem npX9_of : yX9_of.cls ≠ "java/lang/invoke/MethodHandle" ∧ yX9_of.cls ≠ "java/lang/invoke/VarHandle" ∧ (parseMethodDescriptor yX9_of.desc).map (fun d => d.parameters.length) = some 1 := by decide +kernel
abbrev cX9_init : ByteArray := prog_8_method_1_code
def yX9_init : MethodName := ⟨RX9, "<init>", "(I)V"⟩
def dkwX9_init_0 : List UInt8 := [42, 183, 0, 1, 42, 27, 181, 0, 7, 177]
abbrev dktX9_init_0 : List UInt8 := dkwX9_init_0 ++ []
theorem dksX9_init_0 : cX9_init.data.toList.drop 0 = dktX9_init_0 := by decide +kernel
theorem dX9_init_0 : decode cX9_init 0 = .ok (.aload_n 0, 1) := dk_42 (dk_at dksX9_init_0 0 rfl rfl)
theorem dX9_init_1 : decode cX9_init 1 = .ok (.invokespecial 1, 3) := dk_183 0 1 (dk_at dksX9_init_0 1 rfl rfl)
theorem dX9_init_4 : decode cX9_init 4 = .ok (.aload_n 0, 1) := dk_42 (dk_at dksX9_init_0 4 rfl rfl)
theorem dX9_init_5 : decode cX9_init 5 = .ok (.iload_n 1, 1) := dk_27 (dk_at dksX9_init_0 5 rfl rfl)
theorem dX9_init_6 : decode cX9_init 6 = .ok (.putfield 7, 3) := dk_181 0 7 (dk_at dksX9_init_0 6 rfl rfl)
theorem dX9_init_9 : decode cX9_init 9 = .ok (.return_, 1) := dk_177 (dk_at dksX9_init_0 9 rfl rfl)
abbrev MX9_init : jjM := (yX9_init, cX9_init, 2, (Option.none : Option Jvm.ClassFile.FieldType))
theorem npX9_init : yX9_init.cls ≠ "java/lang/invoke/MethodHandle" ∧ yX9_init.cls ≠ "java/lang/invoke/VarHandle" ∧ (parseMethodDescriptor yX9_init.desc).map (fun d => d.parameters.length) = some 1 := by decide +kernel
