/-! ExactChains -/
set_option maxRecDepth 100000
def RX1 : String := "ExactChains"
def TX1 : u_T := fun k => match k with
  | 0 => ("ExactChains", "process", "LExactChains$Process;", false)
  | 1 => ("ExactChains", "history", "Ljava/util/ArrayDeque;", true)
  | 2 => ("ExactChains", "slots", "[LExactChains$Process;", true)
  | 3 => ("ExactChains", "buffer", "[B", true)
  | 4 => ("ExactChains", "length", "I", false)
  | 5 => ("ExactChains", "errorAt", "I", false)
  | _ => ("ExactChains", "written", "Ljava/lang/StringBuilder;", true)
def tyX1 : Nat → FieldType := fun k => match k with
  | 0 => .object "ExactChains$Process"
  | 1 => .object "java/util/ArrayDeque"
  | 2 => .array (.object "ExactChains$Process")
  | 3 => .array .byte
  | 4 => .int
  | 5 => .int
  | _ => .object "java/lang/StringBuilder"
abbrev wsX10 : List Cond := u_ws RX1 TX1 7
theorem nmX1 : ∀ a, a < 7 → ∀ b, b < 7 → a ≠ b → (TX1 a).2.1 ≠ (TX1 b).2.1 := by decide +kernel
theorem tyX1_ok : ∀ k, k < 7 → parseFieldDescriptor (TX1 k).2.2.1 = some (tyX1 k) := by decide +kernel
abbrev cX1_init : ByteArray := prog_1_method_8_code
def yX1_init : MethodName := ⟨RX1, "<init>", "()V"⟩
def dkwX1_init_2 : List UInt8 := [181, 0, 67, 42, 187, 0, 71, 89, 183, 0, 73, 181, 0, 74, 177]
abbrev dktX1_init_2 : List UInt8 := dkwX1_init_2 ++ []
def dkwX1_init_1 : List UInt8 := [181, 0, 22, 42, 5, 189, 0, 36, 181, 0, 59, 42, 17, 3, 32, 188, 8, 181, 0, 63, 42, 2]
abbrev dktX1_init_1 : List UInt8 := dkwX1_init_1 ++ dktX1_init_2
def dkwX1_init_0 : List UInt8 := [42, 183, 0, 54, 42, 187, 0, 36, 89, 183, 0, 57, 181, 0, 38, 42, 187, 0, 27, 89, 183, 0, 58]
abbrev dktX1_init_0 : List UInt8 := dkwX1_init_0 ++ dktX1_init_1
theorem dksX1_init_0 : cX1_init.data.toList.drop 0 = dktX1_init_0 := by decide +kernel
theorem dksX1_init_1 : cX1_init.data.toList.drop 23 = dktX1_init_1 := dk_seg dksX1_init_0 23 rfl rfl
theorem dksX1_init_2 : cX1_init.data.toList.drop 45 = dktX1_init_2 := dk_seg dksX1_init_1 22 rfl rfl
theorem dX1_init_0 : decode cX1_init 0 = .ok (.aload_n 0, 1) := dk_42 (dk_at dksX1_init_0 0 rfl rfl)
theorem dX1_init_1 : decode cX1_init 1 = .ok (.invokespecial 54, 3) := dk_183 0 54 (dk_at dksX1_init_0 1 rfl rfl)
theorem dX1_init_4 : decode cX1_init 4 = .ok (.aload_n 0, 1) := dk_42 (dk_at dksX1_init_0 4 rfl rfl)
theorem dX1_init_5 : decode cX1_init 5 = .ok (.new 36, 3) := dk_187 0 36 (dk_at dksX1_init_0 5 rfl rfl)
theorem dX1_init_8 : decode cX1_init 8 = .ok (.dup, 1) := dk_89 (dk_at dksX1_init_0 8 rfl rfl)
theorem dX1_init_9 : decode cX1_init 9 = .ok (.invokespecial 57, 3) := dk_183 0 57 (dk_at dksX1_init_0 9 rfl rfl)
theorem dX1_init_12 : decode cX1_init 12 = .ok (.putfield 38, 3) := dk_181 0 38 (dk_at dksX1_init_0 12 rfl rfl)
theorem dX1_init_15 : decode cX1_init 15 = .ok (.aload_n 0, 1) := dk_42 (dk_at dksX1_init_0 15 rfl rfl)
theorem dX1_init_16 : decode cX1_init 16 = .ok (.new 27, 3) := dk_187 0 27 (dk_at dksX1_init_0 16 rfl rfl)
theorem dX1_init_19 : decode cX1_init 19 = .ok (.dup, 1) := dk_89 (dk_at dksX1_init_0 19 rfl rfl)
theorem dX1_init_20 : decode cX1_init 20 = .ok (.invokespecial 58, 3) := dk_183 0 58 (dk_at dksX1_init_0 20 rfl rfl)
theorem dX1_init_23 : decode cX1_init 23 = .ok (.putfield 22, 3) := dk_181 0 22 (dk_at dksX1_init_1 0 rfl rfl)
theorem dX1_init_26 : decode cX1_init 26 = .ok (.aload_n 0, 1) := dk_42 (dk_at dksX1_init_1 3 rfl rfl)
theorem dX1_init_27 : decode cX1_init 27 = .ok (.iconst 2, 1) := dk_5 (dk_at dksX1_init_1 4 rfl rfl)
theorem dX1_init_28 : decode cX1_init 28 = .ok (.anewarray 36, 3) := dk_189 0 36 (dk_at dksX1_init_1 5 rfl rfl)
theorem dX1_init_31 : decode cX1_init 31 = .ok (.putfield 59, 3) := dk_181 0 59 (dk_at dksX1_init_1 8 rfl rfl)
theorem dX1_init_34 : decode cX1_init 34 = .ok (.aload_n 0, 1) := dk_42 (dk_at dksX1_init_1 11 rfl rfl)
theorem dX1_init_35 : decode cX1_init 35 = .ok (.sipush 800, 3) := dk_17 3 32 (dk_at dksX1_init_1 12 rfl rfl)
theorem dX1_init_38 : decode cX1_init 38 = .ok (.newarray .byte, 2) := dk_188_8 (dk_at dksX1_init_1 15 rfl rfl)
theorem dX1_init_40 : decode cX1_init 40 = .ok (.putfield 63, 3) := dk_181 0 63 (dk_at dksX1_init_1 17 rfl rfl)
theorem dX1_init_43 : decode cX1_init 43 = .ok (.aload_n 0, 1) := dk_42 (dk_at dksX1_init_1 20 rfl rfl)
theorem dX1_init_44 : decode cX1_init 44 = .ok (.iconst (-1), 1) := dk_2 (dk_at dksX1_init_1 21 rfl rfl)
theorem dX1_init_45 : decode cX1_init 45 = .ok (.putfield 67, 3) := dk_181 0 67 (dk_at dksX1_init_2 0 rfl rfl)
theorem dX1_init_48 : decode cX1_init 48 = .ok (.aload_n 0, 1) := dk_42 (dk_at dksX1_init_2 3 rfl rfl)
theorem dX1_init_49 : decode cX1_init 49 = .ok (.new 71, 3) := dk_187 0 71 (dk_at dksX1_init_2 4 rfl rfl)
theorem dX1_init_52 : decode cX1_init 52 = .ok (.dup, 1) := dk_89 (dk_at dksX1_init_2 7 rfl rfl)
theorem dX1_init_53 : decode cX1_init 53 = .ok (.invokespecial 73, 3) := dk_183 0 73 (dk_at dksX1_init_2 8 rfl rfl)
theorem dX1_init_56 : decode cX1_init 56 = .ok (.putfield 74, 3) := dk_181 0 74 (dk_at dksX1_init_2 11 rfl rfl)
theorem dX1_init_59 : decode cX1_init 59 = .ok (.return_, 1) := dk_177 (dk_at dksX1_init_2 14 rfl rfl)
abbrev cX1_errorPosition : ByteArray := prog_1_method_12_code
def yX1_errorPosition : MethodName := ⟨RX1, "errorPosition", "()I"⟩
theorem dX1_errorPosition_0 : decode cX1_errorPosition 0 = .ok (.aload_n 0, 1) := by decide +kernel
theorem dX1_errorPosition_1 : decode cX1_errorPosition 1 = .ok (.getfield 67, 3) := by decide +kernel
theorem dX1_errorPosition_4 : decode cX1_errorPosition 4 = .ok (.ireturn, 1) := by decide +kernel
abbrev cX1_setFull : ByteArray := prog_1_method_22_code
def yX1_setFull : MethodName := ⟨RX1, "setFull", "(Z)Z"⟩
def dkwX1_setFull_0 : List UInt8 := [42, 180, 0, 38, 180, 0, 134, 61, 42, 182, 0, 183, 27, 181, 0, 134, 28, 172]
abbrev dktX1_setFull_0 : List UInt8 := dkwX1_setFull_0 ++ []
theorem dksX1_setFull_0 : cX1_setFull.data.toList.drop 0 = dktX1_setFull_0 := by decide +kernel
theorem dX1_setFull_0 : decode cX1_setFull 0 = .ok (.aload_n 0, 1) := dk_42 (dk_at dksX1_setFull_0 0 rfl rfl)
theorem dX1_setFull_1 : decode cX1_setFull 1 = .ok (.getfield 38, 3) := dk_180 0 38 (dk_at dksX1_setFull_0 1 rfl rfl)
theorem dX1_setFull_4 : decode cX1_setFull 4 = .ok (.getfield 134, 3) := dk_180 0 134 (dk_at dksX1_setFull_0 4 rfl rfl)
theorem dX1_setFull_7 : decode cX1_setFull 7 = .ok (.istore_n 2, 1) := dk_61 (dk_at dksX1_setFull_0 7 rfl rfl)
theorem dX1_setFull_8 : decode cX1_setFull 8 = .ok (.aload_n 0, 1) := dk_42 (dk_at dksX1_setFull_0 8 rfl rfl)
theorem dX1_setFull_9 : decode cX1_setFull 9 = .ok (.invokevirtual 183, 3) := dk_182 0 183 (dk_at dksX1_setFull_0 9 rfl rfl)
theorem dX1_setFull_12 : decode cX1_setFull 12 = .ok (.iload_n 1, 1) := dk_27 (dk_at dksX1_setFull_0 12 rfl rfl)
theorem dX1_setFull_13 : decode cX1_setFull 13 = .ok (.putfield 134, 3) := dk_181 0 134 (dk_at dksX1_setFull_0 13 rfl rfl)
theorem dX1_setFull_16 : decode cX1_setFull 16 = .ok (.iload_n 2, 1) := dk_28 (dk_at dksX1_setFull_0 16 rfl rfl)
theorem dX1_setFull_17 : decode cX1_setFull 17 = .ok (.ireturn, 1) := dk_172 (dk_at dksX1_setFull_0 17 rfl rfl)
abbrev cX1_changed : ByteArray := prog_1_method_7_code
def yX1_changed : MethodName := ⟨RX1, "changed", "()LExactChains$Process;"⟩
def dkwX1_changed_0 : List UInt8 := [42, 42, 180, 0, 38, 182, 0, 46, 182, 0, 50, 42, 180, 0, 38, 176]
abbrev dktX1_changed_0 : List UInt8 := dkwX1_changed_0 ++ []
theorem dksX1_changed_0 : cX1_changed.data.toList.drop 0 = dktX1_changed_0 := by decide +kernel
theorem dX1_changed_0 : decode cX1_changed 0 = .ok (.aload_n 0, 1) := dk_42 (dk_at dksX1_changed_0 0 rfl rfl)
theorem dX1_changed_1 : decode cX1_changed 1 = .ok (.aload_n 0, 1) := dk_42 (dk_at dksX1_changed_0 1 rfl rfl)
theorem dX1_changed_2 : decode cX1_changed 2 = .ok (.getfield 38, 3) := dk_180 0 38 (dk_at dksX1_changed_0 2 rfl rfl)
theorem dX1_changed_5 : decode cX1_changed 5 = .ok (.invokevirtual 46, 3) := dk_182 0 46 (dk_at dksX1_changed_0 5 rfl rfl)
theorem dX1_changed_8 : decode cX1_changed 8 = .ok (.invokevirtual 50, 3) := dk_182 0 50 (dk_at dksX1_changed_0 8 rfl rfl)
theorem dX1_changed_11 : decode cX1_changed 11 = .ok (.aload_n 0, 1) := dk_42 (dk_at dksX1_changed_0 11 rfl rfl)
theorem dX1_changed_12 : decode cX1_changed 12 = .ok (.getfield 38, 3) := dk_180 0 38 (dk_at dksX1_changed_0 12 rfl rfl)
theorem dX1_changed_15 : decode cX1_changed 15 = .ok (.areturn, 1) := dk_176 (dk_at dksX1_changed_0 15 rfl rfl)
abbrev cX1_become : ByteArray := prog_1_method_6_code
def yX1_become : MethodName := ⟨RX1, "become", "(LExactChains$Process;)V"⟩
def dkwX1_become_1 : List UInt8 := [180, 0, 22, 42, 180, 0, 38, 182, 0, 42, 42, 43, 181, 0, 38, 177]
abbrev dktX1_become_1 : List UInt8 := dkwX1_become_1 ++ []
def dkwX1_become_0 : List UInt8 := [42, 180, 0, 22, 182, 0, 26, 16, 8, 160, 0, 14, 42, 180, 0, 22, 182, 0, 32, 192, 0, 36, 77, 42]
abbrev dktX1_become_0 : List UInt8 := dkwX1_become_0 ++ dktX1_become_1
theorem dksX1_become_0 : cX1_become.data.toList.drop 0 = dktX1_become_0 := by decide +kernel
theorem dksX1_become_1 : cX1_become.data.toList.drop 24 = dktX1_become_1 := dk_seg dksX1_become_0 24 rfl rfl
theorem dX1_become_0 : decode cX1_become 0 = .ok (.aload_n 0, 1) := dk_42 (dk_at dksX1_become_0 0 rfl rfl)
theorem dX1_become_1 : decode cX1_become 1 = .ok (.getfield 22, 3) := dk_180 0 22 (dk_at dksX1_become_0 1 rfl rfl)
theorem dX1_become_4 : decode cX1_become 4 = .ok (.invokevirtual 26, 3) := dk_182 0 26 (dk_at dksX1_become_0 4 rfl rfl)
theorem dX1_become_7 : decode cX1_become 7 = .ok (.bipush 8, 2) := dk_16 8 (dk_at dksX1_become_0 7 rfl rfl)
theorem dX1_become_9 : decode cX1_become 9 = .ok (.if_icmp .ne 14, 3) := dk_160 0 14 (dk_at dksX1_become_0 9 rfl rfl)
theorem dX1_become_12 : decode cX1_become 12 = .ok (.aload_n 0, 1) := dk_42 (dk_at dksX1_become_0 12 rfl rfl)
theorem dX1_become_13 : decode cX1_become 13 = .ok (.getfield 22, 3) := dk_180 0 22 (dk_at dksX1_become_0 13 rfl rfl)
theorem dX1_become_16 : decode cX1_become 16 = .ok (.invokevirtual 32, 3) := dk_182 0 32 (dk_at dksX1_become_0 16 rfl rfl)
theorem dX1_become_19 : decode cX1_become 19 = .ok (.checkcast 36, 3) := dk_192 0 36 (dk_at dksX1_become_0 19 rfl rfl)
theorem dX1_become_22 : decode cX1_become 22 = .ok (.astore_n 2, 1) := dk_77 (dk_at dksX1_become_0 22 rfl rfl)
theorem dX1_become_23 : decode cX1_become 23 = .ok (.aload_n 0, 1) := dk_42 (dk_at dksX1_become_0 23 rfl rfl)
theorem dX1_become_24 : decode cX1_become 24 = .ok (.getfield 22, 3) := dk_180 0 22 (dk_at dksX1_become_1 0 rfl rfl)
theorem dX1_become_27 : decode cX1_become 27 = .ok (.aload_n 0, 1) := dk_42 (dk_at dksX1_become_1 3 rfl rfl)
theorem dX1_become_28 : decode cX1_become 28 = .ok (.getfield 38, 3) := dk_180 0 38 (dk_at dksX1_become_1 4 rfl rfl)
theorem dX1_become_31 : decode cX1_become 31 = .ok (.invokevirtual 42, 3) := dk_182 0 42 (dk_at dksX1_become_1 7 rfl rfl)
theorem dX1_become_34 : decode cX1_become 34 = .ok (.aload_n 0, 1) := dk_42 (dk_at dksX1_become_1 10 rfl rfl)
theorem dX1_become_35 : decode cX1_become 35 = .ok (.aload_n 1, 1) := dk_43 (dk_at dksX1_become_1 11 rfl rfl)
theorem dX1_become_36 : decode cX1_become 36 = .ok (.putfield 38, 3) := dk_181 0 38 (dk_at dksX1_become_1 12 rfl rfl)
theorem dX1_become_39 : decode cX1_become 39 = .ok (.return_, 1) := dk_177 (dk_at dksX1_become_1 15 rfl rfl)
abbrev cX1_step : ByteArray := prog_1_method_23_code
def yX1_step : MethodName := ⟨RX1, "step", "()I"⟩
def dkwX1_step_0 : List UInt8 := [42, 42, 180, 0, 38, 182, 0, 196, 182, 0, 50, 42, 180, 0, 38, 182, 0, 199, 172]
abbrev dktX1_step_0 : List UInt8 := dkwX1_step_0 ++ []
theorem dksX1_step_0 : cX1_step.data.toList.drop 0 = dktX1_step_0 := by decide +kernel
theorem dX1_step_0 : decode cX1_step 0 = .ok (.aload_n 0, 1) := dk_42 (dk_at dksX1_step_0 0 rfl rfl)
theorem dX1_step_1 : decode cX1_step 1 = .ok (.aload_n 0, 1) := dk_42 (dk_at dksX1_step_0 1 rfl rfl)
theorem dX1_step_2 : decode cX1_step 2 = .ok (.getfield 38, 3) := dk_180 0 38 (dk_at dksX1_step_0 2 rfl rfl)
theorem dX1_step_5 : decode cX1_step 5 = .ok (.invokevirtual 196, 3) := dk_182 0 196 (dk_at dksX1_step_0 5 rfl rfl)
theorem dX1_step_8 : decode cX1_step 8 = .ok (.invokevirtual 50, 3) := dk_182 0 50 (dk_at dksX1_step_0 8 rfl rfl)
theorem dX1_step_11 : decode cX1_step 11 = .ok (.aload_n 0, 1) := dk_42 (dk_at dksX1_step_0 11 rfl rfl)
theorem dX1_step_12 : decode cX1_step 12 = .ok (.getfield 38, 3) := dk_180 0 38 (dk_at dksX1_step_0 12 rfl rfl)
theorem dX1_step_15 : decode cX1_step 15 = .ok (.invokevirtual 199, 3) := dk_182 0 199 (dk_at dksX1_step_0 15 rfl rfl)
theorem dX1_step_18 : decode cX1_step 18 = .ok (.ireturn, 1) := dk_172 (dk_at dksX1_step_0 18 rfl rfl)
abbrev cX1_reset : ByteArray := prog_1_method_25_code
def yX1_reset : MethodName := ⟨RX1, "reset", "()I"⟩
def dkwX1_reset_0 : List UInt8 := [42, 180, 0, 38, 180, 0, 138, 185, 0, 142, 1, 0, 60, 42, 182, 0, 183, 77, 27, 172]
abbrev dktX1_reset_0 : List UInt8 := dkwX1_reset_0 ++ []
theorem dksX1_reset_0 : cX1_reset.data.toList.drop 0 = dktX1_reset_0 := by decide +kernel
theorem dX1_reset_0 : decode cX1_reset 0 = .ok (.aload_n 0, 1) := dk_42 (dk_at dksX1_reset_0 0 rfl rfl)
theorem dX1_reset_1 : decode cX1_reset 1 = .ok (.getfield 38, 3) := dk_180 0 38 (dk_at dksX1_reset_0 1 rfl rfl)
theorem dX1_reset_4 : decode cX1_reset 4 = .ok (.getfield 138, 3) := dk_180 0 138 (dk_at dksX1_reset_0 4 rfl rfl)
theorem dX1_reset_7 : decode cX1_reset 7 = .ok (.invokeinterface 142 1, 5) := by decide +kernel
theorem dX1_reset_12 : decode cX1_reset 12 = .ok (.istore_n 1, 1) := dk_60 (dk_at dksX1_reset_0 12 rfl rfl)
theorem dX1_reset_13 : decode cX1_reset 13 = .ok (.aload_n 0, 1) := dk_42 (dk_at dksX1_reset_0 13 rfl rfl)
theorem dX1_reset_14 : decode cX1_reset 14 = .ok (.invokevirtual 183, 3) := dk_182 0 183 (dk_at dksX1_reset_0 14 rfl rfl)
theorem dX1_reset_17 : decode cX1_reset 17 = .ok (.astore_n 2, 1) := dk_77 (dk_at dksX1_reset_0 17 rfl rfl)
theorem dX1_reset_18 : decode cX1_reset 18 = .ok (.iload_n 1, 1) := dk_27 (dk_at dksX1_reset_0 18 rfl rfl)
theorem dX1_reset_19 : decode cX1_reset 19 = .ok (.ireturn, 1) := dk_172 (dk_at dksX1_reset_0 19 rfl rfl)
abbrev cX1_skew : ByteArray := prog_1_method_38_code
def yX1_skew : MethodName := ⟨RX1, "skew", "()I"⟩
def dkwX1_skew_2 : List UInt8 := [167, 255, 231, 132, 2, 1, 167, 255, 207, 27, 172]
abbrev dktX1_skew_2 : List UInt8 := dkwX1_skew_2 ++ []
def dkwX1_skew_1 : List UInt8 := [162, 0, 26, 27, 42, 28, 29, 182, 1, 4, 154, 0, 7, 3, 167, 0, 4, 4, 96, 60, 132, 3, 1]
abbrev dktX1_skew_1 : List UInt8 := dkwX1_skew_1 ++ dktX1_skew_2
def dkwX1_skew_0 : List UInt8 := [3, 60, 3, 61, 28, 42, 180, 0, 38, 180, 0, 138, 185, 0, 142, 1, 0, 162, 0, 39, 3, 62, 29, 28]
abbrev dktX1_skew_0 : List UInt8 := dkwX1_skew_0 ++ dktX1_skew_1
theorem dksX1_skew_0 : cX1_skew.data.toList.drop 0 = dktX1_skew_0 := by decide +kernel
theorem dksX1_skew_1 : cX1_skew.data.toList.drop 24 = dktX1_skew_1 := dk_seg dksX1_skew_0 24 rfl rfl
theorem dksX1_skew_2 : cX1_skew.data.toList.drop 47 = dktX1_skew_2 := dk_seg dksX1_skew_1 23 rfl rfl
theorem dX1_skew_0 : decode cX1_skew 0 = .ok (.iconst 0, 1) := dk_3 (dk_at dksX1_skew_0 0 rfl rfl)
theorem dX1_skew_1 : decode cX1_skew 1 = .ok (.istore_n 1, 1) := dk_60 (dk_at dksX1_skew_0 1 rfl rfl)
theorem dX1_skew_2 : decode cX1_skew 2 = .ok (.iconst 0, 1) := dk_3 (dk_at dksX1_skew_0 2 rfl rfl)
theorem dX1_skew_3 : decode cX1_skew 3 = .ok (.istore_n 2, 1) := dk_61 (dk_at dksX1_skew_0 3 rfl rfl)
theorem dX1_skew_4 : decode cX1_skew 4 = .ok (.iload_n 2, 1) := dk_28 (dk_at dksX1_skew_0 4 rfl rfl)
theorem dX1_skew_5 : decode cX1_skew 5 = .ok (.aload_n 0, 1) := dk_42 (dk_at dksX1_skew_0 5 rfl rfl)
theorem dX1_skew_6 : decode cX1_skew 6 = .ok (.getfield 38, 3) := dk_180 0 38 (dk_at dksX1_skew_0 6 rfl rfl)
theorem dX1_skew_9 : decode cX1_skew 9 = .ok (.getfield 138, 3) := dk_180 0 138 (dk_at dksX1_skew_0 9 rfl rfl)
theorem dX1_skew_12 : decode cX1_skew 12 = .ok (.invokeinterface 142 1, 5) := by decide +kernel
theorem dX1_skew_17 : decode cX1_skew 17 = .ok (.if_icmp .ge 39, 3) := dk_162 0 39 (dk_at dksX1_skew_0 17 rfl rfl)
theorem dX1_skew_20 : decode cX1_skew 20 = .ok (.iconst 0, 1) := dk_3 (dk_at dksX1_skew_0 20 rfl rfl)
theorem dX1_skew_21 : decode cX1_skew 21 = .ok (.istore_n 3, 1) := dk_62 (dk_at dksX1_skew_0 21 rfl rfl)
theorem dX1_skew_22 : decode cX1_skew 22 = .ok (.iload_n 3, 1) := dk_29 (dk_at dksX1_skew_0 22 rfl rfl)
theorem dX1_skew_23 : decode cX1_skew 23 = .ok (.iload_n 2, 1) := dk_28 (dk_at dksX1_skew_0 23 rfl rfl)
theorem dX1_skew_24 : decode cX1_skew 24 = .ok (.if_icmp .ge 26, 3) := dk_162 0 26 (dk_at dksX1_skew_1 0 rfl rfl)
theorem dX1_skew_27 : decode cX1_skew 27 = .ok (.iload_n 1, 1) := dk_27 (dk_at dksX1_skew_1 3 rfl rfl)
theorem dX1_skew_28 : decode cX1_skew 28 = .ok (.aload_n 0, 1) := dk_42 (dk_at dksX1_skew_1 4 rfl rfl)
theorem dX1_skew_29 : decode cX1_skew 29 = .ok (.iload_n 2, 1) := dk_28 (dk_at dksX1_skew_1 5 rfl rfl)
theorem dX1_skew_30 : decode cX1_skew 30 = .ok (.iload_n 3, 1) := dk_29 (dk_at dksX1_skew_1 6 rfl rfl)
theorem dX1_skew_31 : decode cX1_skew 31 = .ok (.invokevirtual 260, 3) := dk_182 1 4 (dk_at dksX1_skew_1 7 rfl rfl)
theorem dX1_skew_34 : decode cX1_skew 34 = .ok (.ifCond .ne 7, 3) := dk_154 0 7 (dk_at dksX1_skew_1 10 rfl rfl)
theorem dX1_skew_37 : decode cX1_skew 37 = .ok (.iconst 0, 1) := dk_3 (dk_at dksX1_skew_1 13 rfl rfl)
theorem dX1_skew_38 : decode cX1_skew 38 = .ok (.goto 4, 3) := dk_167 0 4 (dk_at dksX1_skew_1 14 rfl rfl)
theorem dX1_skew_41 : decode cX1_skew 41 = .ok (.iconst 1, 1) := dk_4 (dk_at dksX1_skew_1 17 rfl rfl)
theorem dX1_skew_42 : decode cX1_skew 42 = .ok (.iadd, 1) := dk_96 (dk_at dksX1_skew_1 18 rfl rfl)
theorem dX1_skew_43 : decode cX1_skew 43 = .ok (.istore_n 1, 1) := dk_60 (dk_at dksX1_skew_1 19 rfl rfl)
theorem dX1_skew_44 : decode cX1_skew 44 = .ok (.iinc 3 1, 3) := dk_132 3 1 (dk_at dksX1_skew_1 20 rfl rfl)
theorem dX1_skew_47 : decode cX1_skew 47 = .ok (.goto (-25), 3) := dk_167 255 231 (dk_at dksX1_skew_2 0 rfl rfl)
theorem dX1_skew_50 : decode cX1_skew 50 = .ok (.iinc 2 1, 3) := dk_132 2 1 (dk_at dksX1_skew_2 3 rfl rfl)
theorem dX1_skew_53 : decode cX1_skew 53 = .ok (.goto (-49), 3) := dk_167 255 207 (dk_at dksX1_skew_2 6 rfl rfl)
theorem dX1_skew_56 : decode cX1_skew 56 = .ok (.iload_n 1, 1) := dk_27 (dk_at dksX1_skew_2 9 rfl rfl)
theorem dX1_skew_57 : decode cX1_skew 57 = .ok (.ireturn, 1) := dk_172 (dk_at dksX1_skew_2 10 rfl rfl)
abbrev cX1_productOf : ByteArray := prog_1_method_36_code
def yX1_productOf : MethodName := ⟨RX1, "productOf", "(II)I"⟩
def dkwX1_productOf_1 : List UInt8 := [182, 1, 0, 172]
abbrev dktX1_productOf_1 : List UInt8 := dkwX1_productOf_1 ++ []
def dkwX1_productOf_0 : List UInt8 := [42, 180, 0, 38, 180, 0, 119, 42, 180, 0, 38, 27, 182, 0, 247, 42, 180, 0, 38, 28, 182, 0, 247]
abbrev dktX1_productOf_0 : List UInt8 := dkwX1_productOf_0 ++ dktX1_productOf_1
theorem dksX1_productOf_0 : cX1_productOf.data.toList.drop 0 = dktX1_productOf_0 := by decide +kernel
theorem dksX1_productOf_1 : cX1_productOf.data.toList.drop 23 = dktX1_productOf_1 := dk_seg dksX1_productOf_0 23 rfl rfl
theorem dX1_productOf_0 : decode cX1_productOf 0 = .ok (.aload_n 0, 1) := dk_42 (dk_at dksX1_productOf_0 0 rfl rfl)
theorem dX1_productOf_1 : decode cX1_productOf 1 = .ok (.getfield 38, 3) := dk_180 0 38 (dk_at dksX1_productOf_0 1 rfl rfl)
theorem dX1_productOf_4 : decode cX1_productOf 4 = .ok (.getfield 119, 3) := dk_180 0 119 (dk_at dksX1_productOf_0 4 rfl rfl)
theorem dX1_productOf_7 : decode cX1_productOf 7 = .ok (.aload_n 0, 1) := dk_42 (dk_at dksX1_productOf_0 7 rfl rfl)
theorem dX1_productOf_8 : decode cX1_productOf 8 = .ok (.getfield 38, 3) := dk_180 0 38 (dk_at dksX1_productOf_0 8 rfl rfl)
theorem dX1_productOf_11 : decode cX1_productOf 11 = .ok (.iload_n 1, 1) := dk_27 (dk_at dksX1_productOf_0 11 rfl rfl)
theorem dX1_productOf_12 : decode cX1_productOf 12 = .ok (.invokevirtual 247, 3) := dk_182 0 247 (dk_at dksX1_productOf_0 12 rfl rfl)
theorem dX1_productOf_15 : decode cX1_productOf 15 = .ok (.aload_n 0, 1) := dk_42 (dk_at dksX1_productOf_0 15 rfl rfl)
theorem dX1_productOf_16 : decode cX1_productOf 16 = .ok (.getfield 38, 3) := dk_180 0 38 (dk_at dksX1_productOf_0 16 rfl rfl)
theorem dX1_productOf_19 : decode cX1_productOf 19 = .ok (.iload_n 2, 1) := dk_28 (dk_at dksX1_productOf_0 19 rfl rfl)
theorem dX1_productOf_20 : decode cX1_productOf 20 = .ok (.invokevirtual 247, 3) := dk_182 0 247 (dk_at dksX1_productOf_0 20 rfl rfl)
theorem dX1_productOf_23 : decode cX1_productOf 23 = .ok (.invokevirtual 256, 3) := dk_182 1 0 (dk_at dksX1_productOf_1 0 rfl rfl)
theorem dX1_productOf_26 : decode cX1_productOf 26 = .ok (.ireturn, 1) := dk_172 (dk_at dksX1_productOf_1 3 rfl rfl)
abbrev cX1_rank : ByteArray := prog_1_method_39_code
def yX1_rank : MethodName := ⟨RX1, "rank", "()I"⟩
def dkwX1_rank_0 : List UInt8 := [42, 180, 0, 38, 182, 1, 8, 172]
abbrev dktX1_rank_0 : List UInt8 := dkwX1_rank_0 ++ []
theorem dksX1_rank_0 : cX1_rank.data.toList.drop 0 = dktX1_rank_0 := by decide +kernel
theorem dX1_rank_0 : decode cX1_rank 0 = .ok (.aload_n 0, 1) := dk_42 (dk_at dksX1_rank_0 0 rfl rfl)
theorem dX1_rank_1 : decode cX1_rank 1 = .ok (.getfield 38, 3) := dk_180 0 38 (dk_at dksX1_rank_0 1 rfl rfl)
theorem dX1_rank_4 : decode cX1_rank 4 = .ok (.invokevirtual 264, 3) := dk_182 1 8 (dk_at dksX1_rank_0 4 rfl rfl)
theorem dX1_rank_7 : decode cX1_rank 7 = .ok (.ireturn, 1) := dk_172 (dk_at dksX1_rank_0 7 rfl rfl)
abbrev cX1_width : ByteArray := prog_1_method_42_code
def yX1_width : MethodName := ⟨RX1, "width", "()I"⟩
def dkwX1_width_2 : List UInt8 := [132, 4, 1, 167, 255, 225, 132, 3, 1, 167, 255, 210, 28, 172]
abbrev dktX1_width_2 : List UInt8 := dkwX1_width_2 ++ []
def dkwX1_width_1 : List UInt8 := [162, 0, 30, 43, 29, 50, 21, 4, 46, 153, 0, 15, 28, 29, 21, 4, 100, 184, 1, 21, 184, 1, 27, 61]
abbrev dktX1_width_1 : List UInt8 := dkwX1_width_1 ++ dktX1_width_2
def dkwX1_width_0 : List UInt8 := [42, 182, 1, 17, 76, 2, 61, 3, 62, 29, 43, 190, 162, 0, 46, 3, 54, 4, 21, 4, 43, 190]
abbrev dktX1_width_0 : List UInt8 := dkwX1_width_0 ++ dktX1_width_1
theorem dksX1_width_0 : cX1_width.data.toList.drop 0 = dktX1_width_0 := by decide +kernel
theorem dksX1_width_1 : cX1_width.data.toList.drop 22 = dktX1_width_1 := dk_seg dksX1_width_0 22 rfl rfl
theorem dksX1_width_2 : cX1_width.data.toList.drop 46 = dktX1_width_2 := dk_seg dksX1_width_1 24 rfl rfl
theorem dX1_width_0 : decode cX1_width 0 = .ok (.aload_n 0, 1) := dk_42 (dk_at dksX1_width_0 0 rfl rfl)
theorem dX1_width_1 : decode cX1_width 1 = .ok (.invokevirtual 273, 3) := dk_182 1 17 (dk_at dksX1_width_0 1 rfl rfl)
theorem dX1_width_4 : decode cX1_width 4 = .ok (.astore_n 1, 1) := dk_76 (dk_at dksX1_width_0 4 rfl rfl)
theorem dX1_width_5 : decode cX1_width 5 = .ok (.iconst (-1), 1) := dk_2 (dk_at dksX1_width_0 5 rfl rfl)
theorem dX1_width_6 : decode cX1_width 6 = .ok (.istore_n 2, 1) := dk_61 (dk_at dksX1_width_0 6 rfl rfl)
theorem dX1_width_7 : decode cX1_width 7 = .ok (.iconst 0, 1) := dk_3 (dk_at dksX1_width_0 7 rfl rfl)
theorem dX1_width_8 : decode cX1_width 8 = .ok (.istore_n 3, 1) := dk_62 (dk_at dksX1_width_0 8 rfl rfl)
theorem dX1_width_9 : decode cX1_width 9 = .ok (.iload_n 3, 1) := dk_29 (dk_at dksX1_width_0 9 rfl rfl)
theorem dX1_width_10 : decode cX1_width 10 = .ok (.aload_n 1, 1) := dk_43 (dk_at dksX1_width_0 10 rfl rfl)
theorem dX1_width_11 : decode cX1_width 11 = .ok (.arraylength, 1) := dk_190 (dk_at dksX1_width_0 11 rfl rfl)
theorem dX1_width_12 : decode cX1_width 12 = .ok (.if_icmp .ge 46, 3) := dk_162 0 46 (dk_at dksX1_width_0 12 rfl rfl)
theorem dX1_width_15 : decode cX1_width 15 = .ok (.iconst 0, 1) := dk_3 (dk_at dksX1_width_0 15 rfl rfl)
theorem dX1_width_16 : decode cX1_width 16 = .ok (.istore 4, 2) := dk_54 4 (dk_at dksX1_width_0 16 rfl rfl)
theorem dX1_width_18 : decode cX1_width 18 = .ok (.iload 4, 2) := dk_21 4 (dk_at dksX1_width_0 18 rfl rfl)
theorem dX1_width_20 : decode cX1_width 20 = .ok (.aload_n 1, 1) := dk_43 (dk_at dksX1_width_0 20 rfl rfl)
theorem dX1_width_21 : decode cX1_width 21 = .ok (.arraylength, 1) := dk_190 (dk_at dksX1_width_0 21 rfl rfl)
theorem dX1_width_22 : decode cX1_width 22 = .ok (.if_icmp .ge 30, 3) := dk_162 0 30 (dk_at dksX1_width_1 0 rfl rfl)
theorem dX1_width_25 : decode cX1_width 25 = .ok (.aload_n 1, 1) := dk_43 (dk_at dksX1_width_1 3 rfl rfl)
theorem dX1_width_26 : decode cX1_width 26 = .ok (.iload_n 3, 1) := dk_29 (dk_at dksX1_width_1 4 rfl rfl)
theorem dX1_width_27 : decode cX1_width 27 = .ok (.aaload, 1) := dk_50 (dk_at dksX1_width_1 5 rfl rfl)
theorem dX1_width_28 : decode cX1_width 28 = .ok (.iload 4, 2) := dk_21 4 (dk_at dksX1_width_1 6 rfl rfl)
theorem dX1_width_30 : decode cX1_width 30 = .ok (.iaload, 1) := dk_46 (dk_at dksX1_width_1 8 rfl rfl)
theorem dX1_width_31 : decode cX1_width 31 = .ok (.ifCond .eq 15, 3) := dk_153 0 15 (dk_at dksX1_width_1 9 rfl rfl)
theorem dX1_width_34 : decode cX1_width 34 = .ok (.iload_n 2, 1) := dk_28 (dk_at dksX1_width_1 12 rfl rfl)
theorem dX1_width_35 : decode cX1_width 35 = .ok (.iload_n 3, 1) := dk_29 (dk_at dksX1_width_1 13 rfl rfl)
theorem dX1_width_36 : decode cX1_width 36 = .ok (.iload 4, 2) := dk_21 4 (dk_at dksX1_width_1 14 rfl rfl)
theorem dX1_width_38 : decode cX1_width 38 = .ok (.isub, 1) := dk_100 (dk_at dksX1_width_1 16 rfl rfl)
theorem dX1_width_39 : decode cX1_width 39 = .ok (.invokestatic 277, 3) := dk_184 1 21 (dk_at dksX1_width_1 17 rfl rfl)
theorem dX1_width_42 : decode cX1_width 42 = .ok (.invokestatic 283, 3) := dk_184 1 27 (dk_at dksX1_width_1 20 rfl rfl)
theorem dX1_width_45 : decode cX1_width 45 = .ok (.istore_n 2, 1) := dk_61 (dk_at dksX1_width_1 23 rfl rfl)
theorem dX1_width_46 : decode cX1_width 46 = .ok (.iinc 4 1, 3) := dk_132 4 1 (dk_at dksX1_width_2 0 rfl rfl)
theorem dX1_width_49 : decode cX1_width 49 = .ok (.goto (-31), 3) := dk_167 255 225 (dk_at dksX1_width_2 3 rfl rfl)
theorem dX1_width_52 : decode cX1_width 52 = .ok (.iinc 3 1, 3) := dk_132 3 1 (dk_at dksX1_width_2 6 rfl rfl)
theorem dX1_width_55 : decode cX1_width 55 = .ok (.goto (-46), 3) := dk_167 255 210 (dk_at dksX1_width_2 9 rfl rfl)
theorem dX1_width_58 : decode cX1_width 58 = .ok (.iload_n 2, 1) := dk_28 (dk_at dksX1_width_2 12 rfl rfl)
theorem dX1_width_59 : decode cX1_width 59 = .ok (.ireturn, 1) := dk_172 (dk_at dksX1_width_2 13 rfl rfl)
abbrev cX1_wholeTable : ByteArray := prog_1_method_41_code
def yX1_wholeTable : MethodName := ⟨RX1, "wholeTable", "()[[I"⟩
def dkwX1_wholeTable_0 : List UInt8 := [42, 180, 0, 38, 42, 180, 0, 38, 180, 0, 138, 185, 0, 142, 1, 0, 182, 1, 14, 176]
abbrev dktX1_wholeTable_0 : List UInt8 := dkwX1_wholeTable_0 ++ []
theorem dksX1_wholeTable_0 : cX1_wholeTable.data.toList.drop 0 = dktX1_wholeTable_0 := by decide +kernel
theorem dX1_wholeTable_0 : decode cX1_wholeTable 0 = .ok (.aload_n 0, 1) := dk_42 (dk_at dksX1_wholeTable_0 0 rfl rfl)
theorem dX1_wholeTable_1 : decode cX1_wholeTable 1 = .ok (.getfield 38, 3) := dk_180 0 38 (dk_at dksX1_wholeTable_0 1 rfl rfl)
theorem dX1_wholeTable_4 : decode cX1_wholeTable 4 = .ok (.aload_n 0, 1) := dk_42 (dk_at dksX1_wholeTable_0 4 rfl rfl)
theorem dX1_wholeTable_5 : decode cX1_wholeTable 5 = .ok (.getfield 38, 3) := dk_180 0 38 (dk_at dksX1_wholeTable_0 5 rfl rfl)
theorem dX1_wholeTable_8 : decode cX1_wholeTable 8 = .ok (.getfield 138, 3) := dk_180 0 138 (dk_at dksX1_wholeTable_0 8 rfl rfl)
theorem dX1_wholeTable_11 : decode cX1_wholeTable 11 = .ok (.invokeinterface 142 1, 5) := by decide +kernel
theorem dX1_wholeTable_16 : decode cX1_wholeTable 16 = .ok (.invokevirtual 270, 3) := dk_182 1 14 (dk_at dksX1_wholeTable_0 16 rfl rfl)
theorem dX1_wholeTable_19 : decode cX1_wholeTable 19 = .ok (.areturn, 1) := dk_176 (dk_at dksX1_wholeTable_0 19 rfl rfl)
abbrev cX1_determinant : ByteArray := prog_1_method_43_code
def yX1_determinant : MethodName := ⟨RX1, "determinant", "()I"⟩
def dkwX1_determinant_0 : List UInt8 := [187, 1, 30, 89, 42, 180, 0, 38, 180, 0, 119, 42, 182, 1, 17, 183, 1, 32, 180, 1, 35, 172]
abbrev dktX1_determinant_0 : List UInt8 := dkwX1_determinant_0 ++ []
theorem dksX1_determinant_0 : cX1_determinant.data.toList.drop 0 = dktX1_determinant_0 := by decide +kernel
theorem dX1_determinant_0 : decode cX1_determinant 0 = .ok (.new 286, 3) := dk_187 1 30 (dk_at dksX1_determinant_0 0 rfl rfl)
theorem dX1_determinant_3 : decode cX1_determinant 3 = .ok (.dup, 1) := dk_89 (dk_at dksX1_determinant_0 3 rfl rfl)
theorem dX1_determinant_4 : decode cX1_determinant 4 = .ok (.aload_n 0, 1) := dk_42 (dk_at dksX1_determinant_0 4 rfl rfl)
theorem dX1_determinant_5 : decode cX1_determinant 5 = .ok (.getfield 38, 3) := dk_180 0 38 (dk_at dksX1_determinant_0 5 rfl rfl)
theorem dX1_determinant_8 : decode cX1_determinant 8 = .ok (.getfield 119, 3) := dk_180 0 119 (dk_at dksX1_determinant_0 8 rfl rfl)
theorem dX1_determinant_11 : decode cX1_determinant 11 = .ok (.aload_n 0, 1) := dk_42 (dk_at dksX1_determinant_0 11 rfl rfl)
theorem dX1_determinant_12 : decode cX1_determinant 12 = .ok (.invokevirtual 273, 3) := dk_182 1 17 (dk_at dksX1_determinant_0 12 rfl rfl)
theorem dX1_determinant_15 : decode cX1_determinant 15 = .ok (.invokespecial 288, 3) := dk_183 1 32 (dk_at dksX1_determinant_0 15 rfl rfl)
theorem dX1_determinant_18 : decode cX1_determinant 18 = .ok (.getfield 291, 3) := dk_180 1 35 (dk_at dksX1_determinant_0 18 rfl rfl)
theorem dX1_determinant_21 : decode cX1_determinant 21 = .ok (.ireturn, 1) := dk_172 (dk_at dksX1_determinant_0 21 rfl rfl)
abbrev cX1_filled : ByteArray := prog_1_method_44_code
def yX1_filled : MethodName := ⟨RX1, "filled", "()F"⟩
def dkwX1_filled_4 : List UInt8 := [104, 134, 110, 174]
abbrev dktX1_filled_4 : List UInt8 := dkwX1_filled_4 ++ []
def dkwX1_filled_3 : List UInt8 := [167, 255, 226, 132, 5, 1, 167, 255, 195, 43, 190, 154, 0, 7, 11, 167, 0, 12, 28, 134, 43, 190, 43, 190]
abbrev dktX1_filled_3 : List UInt8 := dkwX1_filled_3 ++ dktX1_filled_4
def dkwX1_filled_2 : List UInt8 := [25, 7, 21, 9, 46, 54, 10, 28, 21, 10, 154, 0, 7, 3, 167, 0, 4, 4, 96, 61, 132, 9, 1]
abbrev dktX1_filled_2 : List UInt8 := dkwX1_filled_2 ++ dktX1_filled_3
def dkwX1_filled_1 : List UInt8 := [21, 5, 50, 58, 6, 25, 6, 58, 7, 25, 7, 190, 54, 8, 3, 54, 9, 21, 9, 21, 8, 162, 0, 29]
abbrev dktX1_filled_1 : List UInt8 := dkwX1_filled_1 ++ dktX1_filled_2
def dkwX1_filled_0 : List UInt8 := [42, 182, 1, 17, 76, 3, 61, 43, 78, 45, 190, 54, 4, 3, 54, 5, 21, 5, 21, 4, 162, 0, 60, 45]
abbrev dktX1_filled_0 : List UInt8 := dkwX1_filled_0 ++ dktX1_filled_1
theorem dksX1_filled_0 : cX1_filled.data.toList.drop 0 = dktX1_filled_0 := by decide +kernel
theorem dksX1_filled_1 : cX1_filled.data.toList.drop 24 = dktX1_filled_1 := dk_seg dksX1_filled_0 24 rfl rfl
theorem dksX1_filled_2 : cX1_filled.data.toList.drop 48 = dktX1_filled_2 := dk_seg dksX1_filled_1 24 rfl rfl
theorem dksX1_filled_3 : cX1_filled.data.toList.drop 71 = dktX1_filled_3 := dk_seg dksX1_filled_2 23 rfl rfl
theorem dksX1_filled_4 : cX1_filled.data.toList.drop 95 = dktX1_filled_4 := dk_seg dksX1_filled_3 24 rfl rfl
theorem dX1_filled_0 : decode cX1_filled 0 = .ok (.aload_n 0, 1) := dk_42 (dk_at dksX1_filled_0 0 rfl rfl)
theorem dX1_filled_1 : decode cX1_filled 1 = .ok (.invokevirtual 273, 3) := dk_182 1 17 (dk_at dksX1_filled_0 1 rfl rfl)
theorem dX1_filled_4 : decode cX1_filled 4 = .ok (.astore_n 1, 1) := dk_76 (dk_at dksX1_filled_0 4 rfl rfl)
theorem dX1_filled_5 : decode cX1_filled 5 = .ok (.iconst 0, 1) := dk_3 (dk_at dksX1_filled_0 5 rfl rfl)
theorem dX1_filled_6 : decode cX1_filled 6 = .ok (.istore_n 2, 1) := dk_61 (dk_at dksX1_filled_0 6 rfl rfl)
theorem dX1_filled_7 : decode cX1_filled 7 = .ok (.aload_n 1, 1) := dk_43 (dk_at dksX1_filled_0 7 rfl rfl)
theorem dX1_filled_8 : decode cX1_filled 8 = .ok (.astore_n 3, 1) := dk_78 (dk_at dksX1_filled_0 8 rfl rfl)
theorem dX1_filled_9 : decode cX1_filled 9 = .ok (.aload_n 3, 1) := dk_45 (dk_at dksX1_filled_0 9 rfl rfl)
theorem dX1_filled_10 : decode cX1_filled 10 = .ok (.arraylength, 1) := dk_190 (dk_at dksX1_filled_0 10 rfl rfl)
theorem dX1_filled_11 : decode cX1_filled 11 = .ok (.istore 4, 2) := dk_54 4 (dk_at dksX1_filled_0 11 rfl rfl)
theorem dX1_filled_13 : decode cX1_filled 13 = .ok (.iconst 0, 1) := dk_3 (dk_at dksX1_filled_0 13 rfl rfl)
theorem dX1_filled_14 : decode cX1_filled 14 = .ok (.istore 5, 2) := dk_54 5 (dk_at dksX1_filled_0 14 rfl rfl)
theorem dX1_filled_16 : decode cX1_filled 16 = .ok (.iload 5, 2) := dk_21 5 (dk_at dksX1_filled_0 16 rfl rfl)
theorem dX1_filled_18 : decode cX1_filled 18 = .ok (.iload 4, 2) := dk_21 4 (dk_at dksX1_filled_0 18 rfl rfl)
theorem dX1_filled_20 : decode cX1_filled 20 = .ok (.if_icmp .ge 60, 3) := dk_162 0 60 (dk_at dksX1_filled_0 20 rfl rfl)
theorem dX1_filled_23 : decode cX1_filled 23 = .ok (.aload_n 3, 1) := dk_45 (dk_at dksX1_filled_0 23 rfl rfl)
theorem dX1_filled_24 : decode cX1_filled 24 = .ok (.iload 5, 2) := dk_21 5 (dk_at dksX1_filled_1 0 rfl rfl)
theorem dX1_filled_26 : decode cX1_filled 26 = .ok (.aaload, 1) := dk_50 (dk_at dksX1_filled_1 2 rfl rfl)
theorem dX1_filled_27 : decode cX1_filled 27 = .ok (.astore 6, 2) := dk_58 6 (dk_at dksX1_filled_1 3 rfl rfl)
theorem dX1_filled_29 : decode cX1_filled 29 = .ok (.aload 6, 2) := dk_25 6 (dk_at dksX1_filled_1 5 rfl rfl)
theorem dX1_filled_31 : decode cX1_filled 31 = .ok (.astore 7, 2) := dk_58 7 (dk_at dksX1_filled_1 7 rfl rfl)
theorem dX1_filled_33 : decode cX1_filled 33 = .ok (.aload 7, 2) := dk_25 7 (dk_at dksX1_filled_1 9 rfl rfl)
theorem dX1_filled_35 : decode cX1_filled 35 = .ok (.arraylength, 1) := dk_190 (dk_at dksX1_filled_1 11 rfl rfl)
theorem dX1_filled_36 : decode cX1_filled 36 = .ok (.istore 8, 2) := dk_54 8 (dk_at dksX1_filled_1 12 rfl rfl)
theorem dX1_filled_38 : decode cX1_filled 38 = .ok (.iconst 0, 1) := dk_3 (dk_at dksX1_filled_1 14 rfl rfl)
theorem dX1_filled_39 : decode cX1_filled 39 = .ok (.istore 9, 2) := dk_54 9 (dk_at dksX1_filled_1 15 rfl rfl)
theorem dX1_filled_41 : decode cX1_filled 41 = .ok (.iload 9, 2) := dk_21 9 (dk_at dksX1_filled_1 17 rfl rfl)
theorem dX1_filled_43 : decode cX1_filled 43 = .ok (.iload 8, 2) := dk_21 8 (dk_at dksX1_filled_1 19 rfl rfl)
theorem dX1_filled_45 : decode cX1_filled 45 = .ok (.if_icmp .ge 29, 3) := dk_162 0 29 (dk_at dksX1_filled_1 21 rfl rfl)
theorem dX1_filled_48 : decode cX1_filled 48 = .ok (.aload 7, 2) := dk_25 7 (dk_at dksX1_filled_2 0 rfl rfl)
theorem dX1_filled_50 : decode cX1_filled 50 = .ok (.iload 9, 2) := dk_21 9 (dk_at dksX1_filled_2 2 rfl rfl)
theorem dX1_filled_52 : decode cX1_filled 52 = .ok (.iaload, 1) := dk_46 (dk_at dksX1_filled_2 4 rfl rfl)
theorem dX1_filled_53 : decode cX1_filled 53 = .ok (.istore 10, 2) := dk_54 10 (dk_at dksX1_filled_2 5 rfl rfl)
theorem dX1_filled_55 : decode cX1_filled 55 = .ok (.iload_n 2, 1) := dk_28 (dk_at dksX1_filled_2 7 rfl rfl)
theorem dX1_filled_56 : decode cX1_filled 56 = .ok (.iload 10, 2) := dk_21 10 (dk_at dksX1_filled_2 8 rfl rfl)
theorem dX1_filled_58 : decode cX1_filled 58 = .ok (.ifCond .ne 7, 3) := dk_154 0 7 (dk_at dksX1_filled_2 10 rfl rfl)
theorem dX1_filled_61 : decode cX1_filled 61 = .ok (.iconst 0, 1) := dk_3 (dk_at dksX1_filled_2 13 rfl rfl)
theorem dX1_filled_62 : decode cX1_filled 62 = .ok (.goto 4, 3) := dk_167 0 4 (dk_at dksX1_filled_2 14 rfl rfl)
theorem dX1_filled_65 : decode cX1_filled 65 = .ok (.iconst 1, 1) := dk_4 (dk_at dksX1_filled_2 17 rfl rfl)
theorem dX1_filled_66 : decode cX1_filled 66 = .ok (.iadd, 1) := dk_96 (dk_at dksX1_filled_2 18 rfl rfl)
theorem dX1_filled_67 : decode cX1_filled 67 = .ok (.istore_n 2, 1) := dk_61 (dk_at dksX1_filled_2 19 rfl rfl)
theorem dX1_filled_68 : decode cX1_filled 68 = .ok (.iinc 9 1, 3) := dk_132 9 1 (dk_at dksX1_filled_2 20 rfl rfl)
theorem dX1_filled_71 : decode cX1_filled 71 = .ok (.goto (-30), 3) := dk_167 255 226 (dk_at dksX1_filled_3 0 rfl rfl)
theorem dX1_filled_74 : decode cX1_filled 74 = .ok (.iinc 5 1, 3) := dk_132 5 1 (dk_at dksX1_filled_3 3 rfl rfl)
theorem dX1_filled_77 : decode cX1_filled 77 = .ok (.goto (-61), 3) := dk_167 255 195 (dk_at dksX1_filled_3 6 rfl rfl)
theorem dX1_filled_80 : decode cX1_filled 80 = .ok (.aload_n 1, 1) := dk_43 (dk_at dksX1_filled_3 9 rfl rfl)
theorem dX1_filled_81 : decode cX1_filled 81 = .ok (.arraylength, 1) := dk_190 (dk_at dksX1_filled_3 10 rfl rfl)
theorem dX1_filled_82 : decode cX1_filled 82 = .ok (.ifCond .ne 7, 3) := dk_154 0 7 (dk_at dksX1_filled_3 11 rfl rfl)
theorem dX1_filled_85 : decode cX1_filled 85 = .ok (.fconst 0, 1) := dk_11 (dk_at dksX1_filled_3 14 rfl rfl)
theorem dX1_filled_86 : decode cX1_filled 86 = .ok (.goto 12, 3) := dk_167 0 12 (dk_at dksX1_filled_3 15 rfl rfl)
theorem dX1_filled_89 : decode cX1_filled 89 = .ok (.iload_n 2, 1) := dk_28 (dk_at dksX1_filled_3 18 rfl rfl)
theorem dX1_filled_90 : decode cX1_filled 90 = .ok (.i2f, 1) := dk_134 (dk_at dksX1_filled_3 19 rfl rfl)
theorem dX1_filled_91 : decode cX1_filled 91 = .ok (.aload_n 1, 1) := dk_43 (dk_at dksX1_filled_3 20 rfl rfl)
theorem dX1_filled_92 : decode cX1_filled 92 = .ok (.arraylength, 1) := dk_190 (dk_at dksX1_filled_3 21 rfl rfl)
theorem dX1_filled_93 : decode cX1_filled 93 = .ok (.aload_n 1, 1) := dk_43 (dk_at dksX1_filled_3 22 rfl rfl)
theorem dX1_filled_94 : decode cX1_filled 94 = .ok (.arraylength, 1) := dk_190 (dk_at dksX1_filled_3 23 rfl rfl)
theorem dX1_filled_95 : decode cX1_filled 95 = .ok (.imul, 1) := dk_104 (dk_at dksX1_filled_4 0 rfl rfl)
theorem dX1_filled_96 : decode cX1_filled 96 = .ok (.i2f, 1) := dk_134 (dk_at dksX1_filled_4 1 rfl rfl)
theorem dX1_filled_97 : decode cX1_filled 97 = .ok (.fdiv, 1) := dk_110 (dk_at dksX1_filled_4 2 rfl rfl)
theorem dX1_filled_98 : decode cX1_filled 98 = .ok (.freturn, 1) := dk_174 (dk_at dksX1_filled_4 3 rfl rfl)
abbrev cX1_eigenvalues : ByteArray := prog_1_method_47_code
def yX1_eigenvalues : MethodName := ⟨RX1, "eigenvalues", "()I"⟩
def dkwX1_eigenvalues_1 : List UInt8 := [182, 1, 38, 154, 0, 7, 4, 167, 0, 4, 3, 96, 60, 132, 2, 1, 167, 255, 220, 27, 172]
abbrev dktX1_eigenvalues_1 : List UInt8 := dkwX1_eigenvalues_1 ++ []
def dkwX1_eigenvalues_0 : List UInt8 := [3, 60, 3, 61, 28, 42, 180, 0, 38, 180, 0, 119, 180, 0, 123, 162, 0, 28, 27, 42, 180, 0, 38, 28]
abbrev dktX1_eigenvalues_0 : List UInt8 := dkwX1_eigenvalues_0 ++ dktX1_eigenvalues_1
theorem dksX1_eigenvalues_0 : cX1_eigenvalues.data.toList.drop 0 = dktX1_eigenvalues_0 := by decide +kernel
theorem dksX1_eigenvalues_1 : cX1_eigenvalues.data.toList.drop 24 = dktX1_eigenvalues_1 := dk_seg dksX1_eigenvalues_0 24 rfl rfl
theorem dX1_eigenvalues_0 : decode cX1_eigenvalues 0 = .ok (.iconst 0, 1) := dk_3 (dk_at dksX1_eigenvalues_0 0 rfl rfl)
theorem dX1_eigenvalues_1 : decode cX1_eigenvalues 1 = .ok (.istore_n 1, 1) := dk_60 (dk_at dksX1_eigenvalues_0 1 rfl rfl)
theorem dX1_eigenvalues_2 : decode cX1_eigenvalues 2 = .ok (.iconst 0, 1) := dk_3 (dk_at dksX1_eigenvalues_0 2 rfl rfl)
theorem dX1_eigenvalues_3 : decode cX1_eigenvalues 3 = .ok (.istore_n 2, 1) := dk_61 (dk_at dksX1_eigenvalues_0 3 rfl rfl)
theorem dX1_eigenvalues_4 : decode cX1_eigenvalues 4 = .ok (.iload_n 2, 1) := dk_28 (dk_at dksX1_eigenvalues_0 4 rfl rfl)
theorem dX1_eigenvalues_5 : decode cX1_eigenvalues 5 = .ok (.aload_n 0, 1) := dk_42 (dk_at dksX1_eigenvalues_0 5 rfl rfl)
theorem dX1_eigenvalues_6 : decode cX1_eigenvalues 6 = .ok (.getfield 38, 3) := dk_180 0 38 (dk_at dksX1_eigenvalues_0 6 rfl rfl)
theorem dX1_eigenvalues_9 : decode cX1_eigenvalues 9 = .ok (.getfield 119, 3) := dk_180 0 119 (dk_at dksX1_eigenvalues_0 9 rfl rfl)
theorem dX1_eigenvalues_12 : decode cX1_eigenvalues 12 = .ok (.getfield 123, 3) := dk_180 0 123 (dk_at dksX1_eigenvalues_0 12 rfl rfl)
theorem dX1_eigenvalues_15 : decode cX1_eigenvalues 15 = .ok (.if_icmp .ge 28, 3) := dk_162 0 28 (dk_at dksX1_eigenvalues_0 15 rfl rfl)
theorem dX1_eigenvalues_18 : decode cX1_eigenvalues 18 = .ok (.iload_n 1, 1) := dk_27 (dk_at dksX1_eigenvalues_0 18 rfl rfl)
theorem dX1_eigenvalues_19 : decode cX1_eigenvalues 19 = .ok (.aload_n 0, 1) := dk_42 (dk_at dksX1_eigenvalues_0 19 rfl rfl)
theorem dX1_eigenvalues_20 : decode cX1_eigenvalues 20 = .ok (.getfield 38, 3) := dk_180 0 38 (dk_at dksX1_eigenvalues_0 20 rfl rfl)
theorem dX1_eigenvalues_23 : decode cX1_eigenvalues 23 = .ok (.iload_n 2, 1) := dk_28 (dk_at dksX1_eigenvalues_0 23 rfl rfl)
theorem dX1_eigenvalues_24 : decode cX1_eigenvalues 24 = .ok (.invokevirtual 294, 3) := dk_182 1 38 (dk_at dksX1_eigenvalues_1 0 rfl rfl)
theorem dX1_eigenvalues_27 : decode cX1_eigenvalues 27 = .ok (.ifCond .ne 7, 3) := dk_154 0 7 (dk_at dksX1_eigenvalues_1 3 rfl rfl)
theorem dX1_eigenvalues_30 : decode cX1_eigenvalues 30 = .ok (.iconst 1, 1) := dk_4 (dk_at dksX1_eigenvalues_1 6 rfl rfl)
theorem dX1_eigenvalues_31 : decode cX1_eigenvalues 31 = .ok (.goto 4, 3) := dk_167 0 4 (dk_at dksX1_eigenvalues_1 7 rfl rfl)
theorem dX1_eigenvalues_34 : decode cX1_eigenvalues 34 = .ok (.iconst 0, 1) := dk_3 (dk_at dksX1_eigenvalues_1 10 rfl rfl)
theorem dX1_eigenvalues_35 : decode cX1_eigenvalues 35 = .ok (.iadd, 1) := dk_96 (dk_at dksX1_eigenvalues_1 11 rfl rfl)
theorem dX1_eigenvalues_36 : decode cX1_eigenvalues 36 = .ok (.istore_n 1, 1) := dk_60 (dk_at dksX1_eigenvalues_1 12 rfl rfl)
theorem dX1_eigenvalues_37 : decode cX1_eigenvalues 37 = .ok (.iinc 2 1, 3) := dk_132 2 1 (dk_at dksX1_eigenvalues_1 13 rfl rfl)
theorem dX1_eigenvalues_40 : decode cX1_eigenvalues 40 = .ok (.goto (-36), 3) := dk_167 255 220 (dk_at dksX1_eigenvalues_1 16 rfl rfl)
theorem dX1_eigenvalues_43 : decode cX1_eigenvalues 43 = .ok (.iload_n 1, 1) := dk_27 (dk_at dksX1_eigenvalues_1 19 rfl rfl)
theorem dX1_eigenvalues_44 : decode cX1_eigenvalues 44 = .ok (.ireturn, 1) := dk_172 (dk_at dksX1_eigenvalues_1 20 rfl rfl)
abbrev cX1_isSplit : ByteArray := prog_1_method_48_code
def yX1_isSplit : MethodName := ⟨RX1, "isSplit", "()Z"⟩
def dkwX1_isSplit_2 : List UInt8 := [167, 0, 4, 3, 172]
abbrev dktX1_isSplit_2 : List UInt8 := dkwX1_isSplit_2 ++ []
def dkwX1_isSplit_1 : List UInt8 := [182, 1, 41, 96, 60, 132, 2, 1, 167, 255, 228, 27, 42, 180, 0, 38, 180, 0, 100, 160, 0, 7, 4]
abbrev dktX1_isSplit_1 : List UInt8 := dkwX1_isSplit_1 ++ dktX1_isSplit_2
def dkwX1_isSplit_0 : List UInt8 := [3, 60, 3, 61, 28, 42, 180, 0, 38, 180, 0, 119, 180, 0, 123, 162, 0, 20, 27, 42, 180, 0, 38, 28]
abbrev dktX1_isSplit_0 : List UInt8 := dkwX1_isSplit_0 ++ dktX1_isSplit_1
theorem dksX1_isSplit_0 : cX1_isSplit.data.toList.drop 0 = dktX1_isSplit_0 := by decide +kernel
theorem dksX1_isSplit_1 : cX1_isSplit.data.toList.drop 24 = dktX1_isSplit_1 := dk_seg dksX1_isSplit_0 24 rfl rfl
theorem dksX1_isSplit_2 : cX1_isSplit.data.toList.drop 47 = dktX1_isSplit_2 := dk_seg dksX1_isSplit_1 23 rfl rfl
theorem dX1_isSplit_0 : decode cX1_isSplit 0 = .ok (.iconst 0, 1) := dk_3 (dk_at dksX1_isSplit_0 0 rfl rfl)
theorem dX1_isSplit_1 : decode cX1_isSplit 1 = .ok (.istore_n 1, 1) := dk_60 (dk_at dksX1_isSplit_0 1 rfl rfl)
theorem dX1_isSplit_2 : decode cX1_isSplit 2 = .ok (.iconst 0, 1) := dk_3 (dk_at dksX1_isSplit_0 2 rfl rfl)
theorem dX1_isSplit_3 : decode cX1_isSplit 3 = .ok (.istore_n 2, 1) := dk_61 (dk_at dksX1_isSplit_0 3 rfl rfl)
theorem dX1_isSplit_4 : decode cX1_isSplit 4 = .ok (.iload_n 2, 1) := dk_28 (dk_at dksX1_isSplit_0 4 rfl rfl)
theorem dX1_isSplit_5 : decode cX1_isSplit 5 = .ok (.aload_n 0, 1) := dk_42 (dk_at dksX1_isSplit_0 5 rfl rfl)
theorem dX1_isSplit_6 : decode cX1_isSplit 6 = .ok (.getfield 38, 3) := dk_180 0 38 (dk_at dksX1_isSplit_0 6 rfl rfl)
theorem dX1_isSplit_9 : decode cX1_isSplit 9 = .ok (.getfield 119, 3) := dk_180 0 119 (dk_at dksX1_isSplit_0 9 rfl rfl)
theorem dX1_isSplit_12 : decode cX1_isSplit 12 = .ok (.getfield 123, 3) := dk_180 0 123 (dk_at dksX1_isSplit_0 12 rfl rfl)
theorem dX1_isSplit_15 : decode cX1_isSplit 15 = .ok (.if_icmp .ge 20, 3) := dk_162 0 20 (dk_at dksX1_isSplit_0 15 rfl rfl)
theorem dX1_isSplit_18 : decode cX1_isSplit 18 = .ok (.iload_n 1, 1) := dk_27 (dk_at dksX1_isSplit_0 18 rfl rfl)
theorem dX1_isSplit_19 : decode cX1_isSplit 19 = .ok (.aload_n 0, 1) := dk_42 (dk_at dksX1_isSplit_0 19 rfl rfl)
theorem dX1_isSplit_20 : decode cX1_isSplit 20 = .ok (.getfield 38, 3) := dk_180 0 38 (dk_at dksX1_isSplit_0 20 rfl rfl)
theorem dX1_isSplit_23 : decode cX1_isSplit 23 = .ok (.iload_n 2, 1) := dk_28 (dk_at dksX1_isSplit_0 23 rfl rfl)
theorem dX1_isSplit_24 : decode cX1_isSplit 24 = .ok (.invokevirtual 297, 3) := dk_182 1 41 (dk_at dksX1_isSplit_1 0 rfl rfl)
theorem dX1_isSplit_27 : decode cX1_isSplit 27 = .ok (.iadd, 1) := dk_96 (dk_at dksX1_isSplit_1 3 rfl rfl)
theorem dX1_isSplit_28 : decode cX1_isSplit 28 = .ok (.istore_n 1, 1) := dk_60 (dk_at dksX1_isSplit_1 4 rfl rfl)
theorem dX1_isSplit_29 : decode cX1_isSplit 29 = .ok (.iinc 2 1, 3) := dk_132 2 1 (dk_at dksX1_isSplit_1 5 rfl rfl)
theorem dX1_isSplit_32 : decode cX1_isSplit 32 = .ok (.goto (-28), 3) := dk_167 255 228 (dk_at dksX1_isSplit_1 8 rfl rfl)
theorem dX1_isSplit_35 : decode cX1_isSplit 35 = .ok (.iload_n 1, 1) := dk_27 (dk_at dksX1_isSplit_1 11 rfl rfl)
theorem dX1_isSplit_36 : decode cX1_isSplit 36 = .ok (.aload_n 0, 1) := dk_42 (dk_at dksX1_isSplit_1 12 rfl rfl)
theorem dX1_isSplit_37 : decode cX1_isSplit 37 = .ok (.getfield 38, 3) := dk_180 0 38 (dk_at dksX1_isSplit_1 13 rfl rfl)
theorem dX1_isSplit_40 : decode cX1_isSplit 40 = .ok (.getfield 100, 3) := dk_180 0 100 (dk_at dksX1_isSplit_1 16 rfl rfl)
theorem dX1_isSplit_43 : decode cX1_isSplit 43 = .ok (.if_icmp .ne 7, 3) := dk_160 0 7 (dk_at dksX1_isSplit_1 19 rfl rfl)
theorem dX1_isSplit_46 : decode cX1_isSplit 46 = .ok (.iconst 1, 1) := dk_4 (dk_at dksX1_isSplit_1 22 rfl rfl)
theorem dX1_isSplit_47 : decode cX1_isSplit 47 = .ok (.goto 4, 3) := dk_167 0 4 (dk_at dksX1_isSplit_2 0 rfl rfl)
theorem dX1_isSplit_50 : decode cX1_isSplit 50 = .ok (.iconst 0, 1) := dk_3 (dk_at dksX1_isSplit_2 3 rfl rfl)
theorem dX1_isSplit_51 : decode cX1_isSplit 51 = .ok (.ireturn, 1) := dk_172 (dk_at dksX1_isSplit_2 4 rfl rfl)
abbrev cX1_reach : ByteArray := prog_1_method_49_code
def yX1_reach : MethodName := ⟨RX1, "reach", "()I"⟩
def dkwX1_reach_0 : List UInt8 := [42, 180, 0, 38, 42, 180, 0, 38, 180, 0, 170, 182, 1, 44, 172]
abbrev dktX1_reach_0 : List UInt8 := dkwX1_reach_0 ++ []
theorem dksX1_reach_0 : cX1_reach.data.toList.drop 0 = dktX1_reach_0 := by decide +kernel
theorem dX1_reach_0 : decode cX1_reach 0 = .ok (.aload_n 0, 1) := dk_42 (dk_at dksX1_reach_0 0 rfl rfl)
theorem dX1_reach_1 : decode cX1_reach 1 = .ok (.getfield 38, 3) := dk_180 0 38 (dk_at dksX1_reach_0 1 rfl rfl)
theorem dX1_reach_4 : decode cX1_reach 4 = .ok (.aload_n 0, 1) := dk_42 (dk_at dksX1_reach_0 4 rfl rfl)
theorem dX1_reach_5 : decode cX1_reach 5 = .ok (.getfield 38, 3) := dk_180 0 38 (dk_at dksX1_reach_0 5 rfl rfl)
theorem dX1_reach_8 : decode cX1_reach 8 = .ok (.getfield 170, 3) := dk_180 0 170 (dk_at dksX1_reach_0 8 rfl rfl)
theorem dX1_reach_11 : decode cX1_reach 11 = .ok (.invokevirtual 300, 3) := dk_182 1 44 (dk_at dksX1_reach_0 11 rfl rfl)
theorem dX1_reach_14 : decode cX1_reach 14 = .ok (.ireturn, 1) := dk_172 (dk_at dksX1_reach_0 14 rfl rfl)
abbrev cX1_writeChains : ByteArray := prog_1_method_53_code
def yX1_writeChains : MethodName := ⟨RX1, "writeChains", "()I"⟩
def dkwX1_writeChains_4 : List UInt8 := [158, 0, 13, 42, 180, 0, 74, 16, 33, 182, 1, 66, 87, 42, 180, 0, 74, 182, 1, 81, 172]
abbrev dktX1_writeChains_4 : List UInt8 := dkwX1_writeChains_4 ++ []
def dkwX1_writeChains_3 : List UInt8 := [44, 182, 0, 224, 182, 1, 75, 182, 1, 66, 87, 132, 1, 1, 167, 255, 181, 42, 180, 0, 38, 180, 0, 148]
abbrev dktX1_writeChains_3 : List UInt8 := dkwX1_writeChains_3 ++ dktX1_writeChains_4
def dkwX1_writeChains_2 : List UInt8 := [42, 180, 0, 74, 16, 32, 182, 1, 66, 87, 42, 180, 0, 74, 44, 182, 0, 218, 182, 1, 70, 19, 1, 73]
abbrev dktX1_writeChains_2 : List UInt8 := dkwX1_writeChains_2 ++ dktX1_writeChains_3
def dkwX1_writeChains_1 : List UInt8 := [162, 0, 65, 42, 180, 0, 38, 180, 0, 145, 27, 185, 0, 204, 2, 0, 192, 0, 208, 77, 27, 158, 0, 13]
abbrev dktX1_writeChains_1 : List UInt8 := dkwX1_writeChains_1 ++ dktX1_writeChains_2
def dkwX1_writeChains_0 : List UInt8 := [42, 180, 0, 74, 3, 182, 1, 63, 3, 60, 27, 42, 180, 0, 38, 180, 0, 145, 185, 0, 142, 1, 0]
abbrev dktX1_writeChains_0 : List UInt8 := dkwX1_writeChains_0 ++ dktX1_writeChains_1
theorem dksX1_writeChains_0 : cX1_writeChains.data.toList.drop 0 = dktX1_writeChains_0 := by decide +kernel
theorem dksX1_writeChains_1 : cX1_writeChains.data.toList.drop 23 = dktX1_writeChains_1 := dk_seg dksX1_writeChains_0 23 rfl rfl
theorem dksX1_writeChains_2 : cX1_writeChains.data.toList.drop 47 = dktX1_writeChains_2 := dk_seg dksX1_writeChains_1 24 rfl rfl
theorem dksX1_writeChains_3 : cX1_writeChains.data.toList.drop 71 = dktX1_writeChains_3 := dk_seg dksX1_writeChains_2 24 rfl rfl
theorem dksX1_writeChains_4 : cX1_writeChains.data.toList.drop 95 = dktX1_writeChains_4 := dk_seg dksX1_writeChains_3 24 rfl rfl
theorem dX1_writeChains_0 : decode cX1_writeChains 0 = .ok (.aload_n 0, 1) := dk_42 (dk_at dksX1_writeChains_0 0 rfl rfl)
theorem dX1_writeChains_1 : decode cX1_writeChains 1 = .ok (.getfield 74, 3) := dk_180 0 74 (dk_at dksX1_writeChains_0 1 rfl rfl)
theorem dX1_writeChains_4 : decode cX1_writeChains 4 = .ok (.iconst 0, 1) := dk_3 (dk_at dksX1_writeChains_0 4 rfl rfl)
theorem dX1_writeChains_5 : decode cX1_writeChains 5 = .ok (.invokevirtual 319, 3) := dk_182 1 63 (dk_at dksX1_writeChains_0 5 rfl rfl)
theorem dX1_writeChains_8 : decode cX1_writeChains 8 = .ok (.iconst 0, 1) := dk_3 (dk_at dksX1_writeChains_0 8 rfl rfl)
theorem dX1_writeChains_9 : decode cX1_writeChains 9 = .ok (.istore_n 1, 1) := dk_60 (dk_at dksX1_writeChains_0 9 rfl rfl)
theorem dX1_writeChains_10 : decode cX1_writeChains 10 = .ok (.iload_n 1, 1) := dk_27 (dk_at dksX1_writeChains_0 10 rfl rfl)
theorem dX1_writeChains_11 : decode cX1_writeChains 11 = .ok (.aload_n 0, 1) := dk_42 (dk_at dksX1_writeChains_0 11 rfl rfl)
theorem dX1_writeChains_12 : decode cX1_writeChains 12 = .ok (.getfield 38, 3) := dk_180 0 38 (dk_at dksX1_writeChains_0 12 rfl rfl)
theorem dX1_writeChains_15 : decode cX1_writeChains 15 = .ok (.getfield 145, 3) := dk_180 0 145 (dk_at dksX1_writeChains_0 15 rfl rfl)
theorem dX1_writeChains_18 : decode cX1_writeChains 18 = .ok (.invokeinterface 142 1, 5) := by decide +kernel
theorem dX1_writeChains_23 : decode cX1_writeChains 23 = .ok (.if_icmp .ge 65, 3) := dk_162 0 65 (dk_at dksX1_writeChains_1 0 rfl rfl)
theorem dX1_writeChains_26 : decode cX1_writeChains 26 = .ok (.aload_n 0, 1) := dk_42 (dk_at dksX1_writeChains_1 3 rfl rfl)
theorem dX1_writeChains_27 : decode cX1_writeChains 27 = .ok (.getfield 38, 3) := dk_180 0 38 (dk_at dksX1_writeChains_1 4 rfl rfl)
theorem dX1_writeChains_30 : decode cX1_writeChains 30 = .ok (.getfield 145, 3) := dk_180 0 145 (dk_at dksX1_writeChains_1 7 rfl rfl)
theorem dX1_writeChains_33 : decode cX1_writeChains 33 = .ok (.iload_n 1, 1) := dk_27 (dk_at dksX1_writeChains_1 10 rfl rfl)
theorem dX1_writeChains_34 : decode cX1_writeChains 34 = .ok (.invokeinterface 204 2, 5) := by decide +kernel
theorem dX1_writeChains_39 : decode cX1_writeChains 39 = .ok (.checkcast 208, 3) := dk_192 0 208 (dk_at dksX1_writeChains_1 16 rfl rfl)
theorem dX1_writeChains_42 : decode cX1_writeChains 42 = .ok (.astore_n 2, 1) := dk_77 (dk_at dksX1_writeChains_1 19 rfl rfl)
theorem dX1_writeChains_43 : decode cX1_writeChains 43 = .ok (.iload_n 1, 1) := dk_27 (dk_at dksX1_writeChains_1 20 rfl rfl)
theorem dX1_writeChains_44 : decode cX1_writeChains 44 = .ok (.ifCond .le 13, 3) := dk_158 0 13 (dk_at dksX1_writeChains_1 21 rfl rfl)
theorem dX1_writeChains_47 : decode cX1_writeChains 47 = .ok (.aload_n 0, 1) := dk_42 (dk_at dksX1_writeChains_2 0 rfl rfl)
theorem dX1_writeChains_48 : decode cX1_writeChains 48 = .ok (.getfield 74, 3) := dk_180 0 74 (dk_at dksX1_writeChains_2 1 rfl rfl)
theorem dX1_writeChains_51 : decode cX1_writeChains 51 = .ok (.bipush 32, 2) := dk_16 32 (dk_at dksX1_writeChains_2 4 rfl rfl)
theorem dX1_writeChains_53 : decode cX1_writeChains 53 = .ok (.invokevirtual 322, 3) := dk_182 1 66 (dk_at dksX1_writeChains_2 6 rfl rfl)
theorem dX1_writeChains_56 : decode cX1_writeChains 56 = .ok (.pop, 1) := dk_87 (dk_at dksX1_writeChains_2 9 rfl rfl)
theorem dX1_writeChains_57 : decode cX1_writeChains 57 = .ok (.aload_n 0, 1) := dk_42 (dk_at dksX1_writeChains_2 10 rfl rfl)
theorem dX1_writeChains_58 : decode cX1_writeChains 58 = .ok (.getfield 74, 3) := dk_180 0 74 (dk_at dksX1_writeChains_2 11 rfl rfl)
theorem dX1_writeChains_61 : decode cX1_writeChains 61 = .ok (.aload_n 2, 1) := dk_44 (dk_at dksX1_writeChains_2 14 rfl rfl)
theorem dX1_writeChains_62 : decode cX1_writeChains 62 = .ok (.invokevirtual 218, 3) := dk_182 0 218 (dk_at dksX1_writeChains_2 15 rfl rfl)
theorem dX1_writeChains_65 : decode cX1_writeChains 65 = .ok (.invokevirtual 326, 3) := dk_182 1 70 (dk_at dksX1_writeChains_2 18 rfl rfl)
theorem dX1_writeChains_68 : decode cX1_writeChains 68 = .ok (.ldc_w 329, 3) := dk_19 1 73 (dk_at dksX1_writeChains_2 21 rfl rfl)
theorem dX1_writeChains_71 : decode cX1_writeChains 71 = .ok (.aload_n 2, 1) := dk_44 (dk_at dksX1_writeChains_3 0 rfl rfl)
theorem dX1_writeChains_72 : decode cX1_writeChains 72 = .ok (.invokevirtual 224, 3) := dk_182 0 224 (dk_at dksX1_writeChains_3 1 rfl rfl)
theorem dX1_writeChains_75 : decode cX1_writeChains 75 = .ok (.invokevirtual 331, 3) := dk_182 1 75 (dk_at dksX1_writeChains_3 4 rfl rfl)
theorem dX1_writeChains_78 : decode cX1_writeChains 78 = .ok (.invokevirtual 322, 3) := dk_182 1 66 (dk_at dksX1_writeChains_3 7 rfl rfl)
theorem dX1_writeChains_81 : decode cX1_writeChains 81 = .ok (.pop, 1) := dk_87 (dk_at dksX1_writeChains_3 10 rfl rfl)
theorem dX1_writeChains_82 : decode cX1_writeChains 82 = .ok (.iinc 1 1, 3) := dk_132 1 1 (dk_at dksX1_writeChains_3 11 rfl rfl)
theorem dX1_writeChains_85 : decode cX1_writeChains 85 = .ok (.goto (-75), 3) := dk_167 255 181 (dk_at dksX1_writeChains_3 14 rfl rfl)
theorem dX1_writeChains_88 : decode cX1_writeChains 88 = .ok (.aload_n 0, 1) := dk_42 (dk_at dksX1_writeChains_3 17 rfl rfl)
theorem dX1_writeChains_89 : decode cX1_writeChains 89 = .ok (.getfield 38, 3) := dk_180 0 38 (dk_at dksX1_writeChains_3 18 rfl rfl)
theorem dX1_writeChains_92 : decode cX1_writeChains 92 = .ok (.getfield 148, 3) := dk_180 0 148 (dk_at dksX1_writeChains_3 21 rfl rfl)
theorem dX1_writeChains_95 : decode cX1_writeChains 95 = .ok (.ifCond .le 13, 3) := dk_158 0 13 (dk_at dksX1_writeChains_4 0 rfl rfl)
theorem dX1_writeChains_98 : decode cX1_writeChains 98 = .ok (.aload_n 0, 1) := dk_42 (dk_at dksX1_writeChains_4 3 rfl rfl)
theorem dX1_writeChains_99 : decode cX1_writeChains 99 = .ok (.getfield 74, 3) := dk_180 0 74 (dk_at dksX1_writeChains_4 4 rfl rfl)
theorem dX1_writeChains_102 : decode cX1_writeChains 102 = .ok (.bipush 33, 2) := dk_16 33 (dk_at dksX1_writeChains_4 7 rfl rfl)
theorem dX1_writeChains_104 : decode cX1_writeChains 104 = .ok (.invokevirtual 322, 3) := dk_182 1 66 (dk_at dksX1_writeChains_4 9 rfl rfl)
theorem dX1_writeChains_107 : decode cX1_writeChains 107 = .ok (.pop, 1) := dk_87 (dk_at dksX1_writeChains_4 12 rfl rfl)
theorem dX1_writeChains_108 : decode cX1_writeChains 108 = .ok (.aload_n 0, 1) := dk_42 (dk_at dksX1_writeChains_4 13 rfl rfl)
theorem dX1_writeChains_109 : decode cX1_writeChains 109 = .ok (.getfield 74, 3) := dk_180 0 74 (dk_at dksX1_writeChains_4 14 rfl rfl)
theorem dX1_writeChains_112 : decode cX1_writeChains 112 = .ok (.invokevirtual 337, 3) := dk_182 1 81 (dk_at dksX1_writeChains_4 17 rfl rfl)
theorem dX1_writeChains_115 : decode cX1_writeChains 115 = .ok (.ireturn, 1) := dk_172 (dk_at dksX1_writeChains_4 20 rfl rfl)
abbrev cX1_append : ByteArray := prog_1_method_10_code
def yX1_append : MethodName := ⟨RX1, "append", "(IIIII)I"⟩
def dkwX1_append_2 : List UInt8 := [182, 0, 85, 42, 180, 0, 78, 172]
abbrev dktX1_append_2 : List UInt8 := dkwX1_append_2 ++ []
def dkwX1_append_1 : List UInt8 := [182, 0, 85, 42, 28, 182, 0, 85, 42, 29, 182, 0, 85, 42, 21, 4, 182, 0, 85, 42, 21, 5]
abbrev dktX1_append_1 : List UInt8 := dkwX1_append_1 ++ dktX1_append_2
def dkwX1_append_0 : List UInt8 := [42, 180, 0, 78, 16, 20, 96, 17, 3, 32, 163, 0, 7, 4, 167, 0, 4, 3, 184, 0, 81, 42, 27]
abbrev dktX1_append_0 : List UInt8 := dkwX1_append_0 ++ dktX1_append_1
theorem dksX1_append_0 : cX1_append.data.toList.drop 0 = dktX1_append_0 := by decide +kernel
theorem dksX1_append_1 : cX1_append.data.toList.drop 23 = dktX1_append_1 := dk_seg dksX1_append_0 23 rfl rfl
theorem dksX1_append_2 : cX1_append.data.toList.drop 45 = dktX1_append_2 := dk_seg dksX1_append_1 22 rfl rfl
theorem dX1_append_0 : decode cX1_append 0 = .ok (.aload_n 0, 1) := dk_42 (dk_at dksX1_append_0 0 rfl rfl)
theorem dX1_append_1 : decode cX1_append 1 = .ok (.getfield 78, 3) := dk_180 0 78 (dk_at dksX1_append_0 1 rfl rfl)
theorem dX1_append_4 : decode cX1_append 4 = .ok (.bipush 20, 2) := dk_16 20 (dk_at dksX1_append_0 4 rfl rfl)
theorem dX1_append_6 : decode cX1_append 6 = .ok (.iadd, 1) := dk_96 (dk_at dksX1_append_0 6 rfl rfl)
theorem dX1_append_7 : decode cX1_append 7 = .ok (.sipush 800, 3) := dk_17 3 32 (dk_at dksX1_append_0 7 rfl rfl)
theorem dX1_append_10 : decode cX1_append 10 = .ok (.if_icmp .gt 7, 3) := dk_163 0 7 (dk_at dksX1_append_0 10 rfl rfl)
theorem dX1_append_13 : decode cX1_append 13 = .ok (.iconst 1, 1) := dk_4 (dk_at dksX1_append_0 13 rfl rfl)
theorem dX1_append_14 : decode cX1_append 14 = .ok (.goto 4, 3) := dk_167 0 4 (dk_at dksX1_append_0 14 rfl rfl)
theorem dX1_append_17 : decode cX1_append 17 = .ok (.iconst 0, 1) := dk_3 (dk_at dksX1_append_0 17 rfl rfl)
theorem dX1_append_18 : decode cX1_append 18 = .ok (.invokestatic 81, 3) := dk_184 0 81 (dk_at dksX1_append_0 18 rfl rfl)
theorem dX1_append_21 : decode cX1_append 21 = .ok (.aload_n 0, 1) := dk_42 (dk_at dksX1_append_0 21 rfl rfl)
theorem dX1_append_22 : decode cX1_append 22 = .ok (.iload_n 1, 1) := dk_27 (dk_at dksX1_append_0 22 rfl rfl)
theorem dX1_append_23 : decode cX1_append 23 = .ok (.invokevirtual 85, 3) := dk_182 0 85 (dk_at dksX1_append_1 0 rfl rfl)
theorem dX1_append_26 : decode cX1_append 26 = .ok (.aload_n 0, 1) := dk_42 (dk_at dksX1_append_1 3 rfl rfl)
theorem dX1_append_27 : decode cX1_append 27 = .ok (.iload_n 2, 1) := dk_28 (dk_at dksX1_append_1 4 rfl rfl)
theorem dX1_append_28 : decode cX1_append 28 = .ok (.invokevirtual 85, 3) := dk_182 0 85 (dk_at dksX1_append_1 5 rfl rfl)
theorem dX1_append_31 : decode cX1_append 31 = .ok (.aload_n 0, 1) := dk_42 (dk_at dksX1_append_1 8 rfl rfl)
theorem dX1_append_32 : decode cX1_append 32 = .ok (.iload_n 3, 1) := dk_29 (dk_at dksX1_append_1 9 rfl rfl)
theorem dX1_append_33 : decode cX1_append 33 = .ok (.invokevirtual 85, 3) := dk_182 0 85 (dk_at dksX1_append_1 10 rfl rfl)
theorem dX1_append_36 : decode cX1_append 36 = .ok (.aload_n 0, 1) := dk_42 (dk_at dksX1_append_1 13 rfl rfl)
theorem dX1_append_37 : decode cX1_append 37 = .ok (.iload 4, 2) := dk_21 4 (dk_at dksX1_append_1 14 rfl rfl)
theorem dX1_append_39 : decode cX1_append 39 = .ok (.invokevirtual 85, 3) := dk_182 0 85 (dk_at dksX1_append_1 16 rfl rfl)
theorem dX1_append_42 : decode cX1_append 42 = .ok (.aload_n 0, 1) := dk_42 (dk_at dksX1_append_1 19 rfl rfl)
theorem dX1_append_43 : decode cX1_append 43 = .ok (.iload 5, 2) := dk_21 5 (dk_at dksX1_append_1 20 rfl rfl)
theorem dX1_append_45 : decode cX1_append 45 = .ok (.invokevirtual 85, 3) := dk_182 0 85 (dk_at dksX1_append_2 0 rfl rfl)
theorem dX1_append_48 : decode cX1_append 48 = .ok (.aload_n 0, 1) := dk_42 (dk_at dksX1_append_2 3 rfl rfl)
theorem dX1_append_49 : decode cX1_append 49 = .ok (.getfield 78, 3) := dk_180 0 78 (dk_at dksX1_append_2 4 rfl rfl)
theorem dX1_append_52 : decode cX1_append 52 = .ok (.ireturn, 1) := dk_172 (dk_at dksX1_append_2 7 rfl rfl)
abbrev cX1_requireState : ByteArray := prog_1_method_4_code
def yX1_requireState : MethodName := ⟨RX1, "requireState", "(Z)V"⟩
def dkwX1_requireState_0 : List UInt8 := [26, 154, 0, 11, 187, 0, 16, 89, 183, 0, 18, 191, 177]
abbrev dktX1_requireState_0 : List UInt8 := dkwX1_requireState_0 ++ []
theorem dksX1_requireState_0 : cX1_requireState.data.toList.drop 0 = dktX1_requireState_0 := by decide +kernel
theorem dX1_requireState_0 : decode cX1_requireState 0 = .ok (.iload_n 0, 1) := dk_26 (dk_at dksX1_requireState_0 0 rfl rfl)
theorem dX1_requireState_1 : decode cX1_requireState 1 = .ok (.ifCond .ne 11, 3) := dk_154 0 11 (dk_at dksX1_requireState_0 1 rfl rfl)
theorem dX1_requireState_4 : decode cX1_requireState 4 = .ok (.new 16, 3) := dk_187 0 16 (dk_at dksX1_requireState_0 4 rfl rfl)
theorem dX1_requireState_7 : decode cX1_requireState 7 = .ok (.dup, 1) := dk_89 (dk_at dksX1_requireState_0 7 rfl rfl)
theorem dX1_requireState_8 : decode cX1_requireState 8 = .ok (.invokespecial 18, 3) := dk_183 0 18 (dk_at dksX1_requireState_0 8 rfl rfl)
theorem dX1_requireState_11 : decode cX1_requireState 11 = .ok (.athrow, 1) := dk_191 (dk_at dksX1_requireState_0 11 rfl rfl)
theorem dX1_requireState_12 : decode cX1_requireState 12 = .ok (.return_, 1) := dk_177 (dk_at dksX1_requireState_0 12 rfl rfl)
abbrev cX1_write : ByteArray := prog_1_method_9_code
def yX1_write : MethodName := ⟨RX1, "write", "(I)V"⟩
def dkwX1_write_1 : List UInt8 := [180, 0, 78, 4, 96, 181, 0, 78, 132, 2, 248, 167, 255, 226, 177]
abbrev dktX1_write_1 : List UInt8 := dkwX1_write_1 ++ []
def dkwX1_write_0 : List UInt8 := [16, 24, 61, 28, 155, 0, 32, 42, 180, 0, 63, 42, 180, 0, 78, 27, 28, 122, 145, 84, 42, 89]
abbrev dktX1_write_0 : List UInt8 := dkwX1_write_0 ++ dktX1_write_1
theorem dksX1_write_0 : cX1_write.data.toList.drop 0 = dktX1_write_0 := by decide +kernel
theorem dksX1_write_1 : cX1_write.data.toList.drop 22 = dktX1_write_1 := dk_seg dksX1_write_0 22 rfl rfl
theorem dX1_write_0 : decode cX1_write 0 = .ok (.bipush 24, 2) := dk_16 24 (dk_at dksX1_write_0 0 rfl rfl)
theorem dX1_write_2 : decode cX1_write 2 = .ok (.istore_n 2, 1) := dk_61 (dk_at dksX1_write_0 2 rfl rfl)
theorem dX1_write_3 : decode cX1_write 3 = .ok (.iload_n 2, 1) := dk_28 (dk_at dksX1_write_0 3 rfl rfl)
theorem dX1_write_4 : decode cX1_write 4 = .ok (.ifCond .lt 32, 3) := dk_155 0 32 (dk_at dksX1_write_0 4 rfl rfl)
theorem dX1_write_7 : decode cX1_write 7 = .ok (.aload_n 0, 1) := dk_42 (dk_at dksX1_write_0 7 rfl rfl)
theorem dX1_write_8 : decode cX1_write 8 = .ok (.getfield 63, 3) := dk_180 0 63 (dk_at dksX1_write_0 8 rfl rfl)
theorem dX1_write_11 : decode cX1_write 11 = .ok (.aload_n 0, 1) := dk_42 (dk_at dksX1_write_0 11 rfl rfl)
theorem dX1_write_12 : decode cX1_write 12 = .ok (.getfield 78, 3) := dk_180 0 78 (dk_at dksX1_write_0 12 rfl rfl)
theorem dX1_write_15 : decode cX1_write 15 = .ok (.iload_n 1, 1) := dk_27 (dk_at dksX1_write_0 15 rfl rfl)
theorem dX1_write_16 : decode cX1_write 16 = .ok (.iload_n 2, 1) := dk_28 (dk_at dksX1_write_0 16 rfl rfl)
theorem dX1_write_17 : decode cX1_write 17 = .ok (.ishr, 1) := dk_122 (dk_at dksX1_write_0 17 rfl rfl)
theorem dX1_write_18 : decode cX1_write 18 = .ok (.i2b, 1) := dk_145 (dk_at dksX1_write_0 18 rfl rfl)
theorem dX1_write_19 : decode cX1_write 19 = .ok (.bastore, 1) := dk_84 (dk_at dksX1_write_0 19 rfl rfl)
theorem dX1_write_20 : decode cX1_write 20 = .ok (.aload_n 0, 1) := dk_42 (dk_at dksX1_write_0 20 rfl rfl)
theorem dX1_write_21 : decode cX1_write 21 = .ok (.dup, 1) := dk_89 (dk_at dksX1_write_0 21 rfl rfl)
theorem dX1_write_22 : decode cX1_write 22 = .ok (.getfield 78, 3) := dk_180 0 78 (dk_at dksX1_write_1 0 rfl rfl)
theorem dX1_write_25 : decode cX1_write 25 = .ok (.iconst 1, 1) := dk_4 (dk_at dksX1_write_1 3 rfl rfl)
theorem dX1_write_26 : decode cX1_write 26 = .ok (.iadd, 1) := dk_96 (dk_at dksX1_write_1 4 rfl rfl)
theorem dX1_write_27 : decode cX1_write 27 = .ok (.putfield 78, 3) := dk_181 0 78 (dk_at dksX1_write_1 5 rfl rfl)
theorem dX1_write_30 : decode cX1_write 30 = .ok (.iinc 2 (-8), 3) := dk_132 2 248 (dk_at dksX1_write_1 8 rfl rfl)
theorem dX1_write_33 : decode cX1_write 33 = .ok (.goto (-30), 3) := dk_167 255 226 (dk_at dksX1_write_1 11 rfl rfl)
theorem dX1_write_36 : decode cX1_write 36 = .ok (.return_, 1) := dk_177 (dk_at dksX1_write_1 14 rfl rfl)
abbrev cX1_load : ByteArray := prog_1_method_11_code
def yX1_load : MethodName := ⟨RX1, "load", "(I)I"⟩
def dkwX1_load_3 : List UInt8 := [181, 0, 67, 44, 180, 0, 116, 172]
abbrev dktX1_load_3 : List UInt8 := dkwX1_load_3 ++ []
def dkwX1_load_2 : List UInt8 := [182, 0, 102, 167, 0, 11, 58, 4, 45, 25, 4, 182, 0, 107, 45, 191, 77, 42, 44, 180, 0, 113]
abbrev dktX1_load_2 : List UInt8 := dkwX1_load_2 ++ dktX1_load_3
def dkwX1_load_1 : List UInt8 := [42, 44, 182, 0, 97, 182, 0, 50, 42, 180, 0, 38, 180, 0, 100, 62, 44, 182, 0, 102, 29, 172, 78, 44]
abbrev dktX1_load_1 : List UInt8 := dkwX1_load_1 ++ dktX1_load_2
def dkwX1_load_0 : List UInt8 := [27, 133, 9, 42, 180, 0, 78, 133, 184, 0, 1, 184, 0, 89, 187, 0, 92, 89, 42, 27, 183, 0, 94, 77]
abbrev dktX1_load_0 : List UInt8 := dkwX1_load_0 ++ dktX1_load_1
theorem dksX1_load_0 : cX1_load.data.toList.drop 0 = dktX1_load_0 := by decide +kernel
theorem dksX1_load_1 : cX1_load.data.toList.drop 24 = dktX1_load_1 := dk_seg dksX1_load_0 24 rfl rfl
theorem dksX1_load_2 : cX1_load.data.toList.drop 48 = dktX1_load_2 := dk_seg dksX1_load_1 24 rfl rfl
theorem dksX1_load_3 : cX1_load.data.toList.drop 70 = dktX1_load_3 := dk_seg dksX1_load_2 22 rfl rfl
theorem dX1_load_0 : decode cX1_load 0 = .ok (.iload_n 1, 1) := dk_27 (dk_at dksX1_load_0 0 rfl rfl)
theorem dX1_load_1 : decode cX1_load 1 = .ok (.i2l, 1) := dk_133 (dk_at dksX1_load_0 1 rfl rfl)
theorem dX1_load_2 : decode cX1_load 2 = .ok (.lconst 0, 1) := dk_9 (dk_at dksX1_load_0 2 rfl rfl)
theorem dX1_load_3 : decode cX1_load 3 = .ok (.aload_n 0, 1) := dk_42 (dk_at dksX1_load_0 3 rfl rfl)
theorem dX1_load_4 : decode cX1_load 4 = .ok (.getfield 78, 3) := dk_180 0 78 (dk_at dksX1_load_0 4 rfl rfl)
theorem dX1_load_7 : decode cX1_load 7 = .ok (.i2l, 1) := dk_133 (dk_at dksX1_load_0 7 rfl rfl)
theorem dX1_load_8 : decode cX1_load 8 = .ok (.invokestatic 1, 3) := dk_184 0 1 (dk_at dksX1_load_0 8 rfl rfl)
theorem dX1_load_11 : decode cX1_load 11 = .ok (.invokestatic 89, 3) := dk_184 0 89 (dk_at dksX1_load_0 11 rfl rfl)
theorem dX1_load_14 : decode cX1_load 14 = .ok (.new 92, 3) := dk_187 0 92 (dk_at dksX1_load_0 14 rfl rfl)
theorem dX1_load_17 : decode cX1_load 17 = .ok (.dup, 1) := dk_89 (dk_at dksX1_load_0 17 rfl rfl)
theorem dX1_load_18 : decode cX1_load 18 = .ok (.aload_n 0, 1) := dk_42 (dk_at dksX1_load_0 18 rfl rfl)
theorem dX1_load_19 : decode cX1_load 19 = .ok (.iload_n 1, 1) := dk_27 (dk_at dksX1_load_0 19 rfl rfl)
theorem dX1_load_20 : decode cX1_load 20 = .ok (.invokespecial 94, 3) := dk_183 0 94 (dk_at dksX1_load_0 20 rfl rfl)
theorem dX1_load_23 : decode cX1_load 23 = .ok (.astore_n 2, 1) := dk_77 (dk_at dksX1_load_0 23 rfl rfl)
theorem dX1_load_24 : decode cX1_load 24 = .ok (.aload_n 0, 1) := dk_42 (dk_at dksX1_load_1 0 rfl rfl)
theorem dX1_load_25 : decode cX1_load 25 = .ok (.aload_n 2, 1) := dk_44 (dk_at dksX1_load_1 1 rfl rfl)
theorem dX1_load_26 : decode cX1_load 26 = .ok (.invokevirtual 97, 3) := dk_182 0 97 (dk_at dksX1_load_1 2 rfl rfl)
theorem dX1_load_29 : decode cX1_load 29 = .ok (.invokevirtual 50, 3) := dk_182 0 50 (dk_at dksX1_load_1 5 rfl rfl)
theorem dX1_load_32 : decode cX1_load 32 = .ok (.aload_n 0, 1) := dk_42 (dk_at dksX1_load_1 8 rfl rfl)
theorem dX1_load_33 : decode cX1_load 33 = .ok (.getfield 38, 3) := dk_180 0 38 (dk_at dksX1_load_1 9 rfl rfl)
theorem dX1_load_36 : decode cX1_load 36 = .ok (.getfield 100, 3) := dk_180 0 100 (dk_at dksX1_load_1 12 rfl rfl)
theorem dX1_load_39 : decode cX1_load 39 = .ok (.istore_n 3, 1) := dk_62 (dk_at dksX1_load_1 15 rfl rfl)
theorem dX1_load_40 : decode cX1_load 40 = .ok (.aload_n 2, 1) := dk_44 (dk_at dksX1_load_1 16 rfl rfl)
theorem dX1_load_41 : decode cX1_load 41 = .ok (.invokevirtual 102, 3) := dk_182 0 102 (dk_at dksX1_load_1 17 rfl rfl)
theorem dX1_load_44 : decode cX1_load 44 = .ok (.iload_n 3, 1) := dk_29 (dk_at dksX1_load_1 20 rfl rfl)
theorem dX1_load_45 : decode cX1_load 45 = .ok (.ireturn, 1) := dk_172 (dk_at dksX1_load_1 21 rfl rfl)
theorem dX1_load_46 : decode cX1_load 46 = .ok (.astore_n 3, 1) := dk_78 (dk_at dksX1_load_1 22 rfl rfl)
theorem dX1_load_47 : decode cX1_load 47 = .ok (.aload_n 2, 1) := dk_44 (dk_at dksX1_load_1 23 rfl rfl)
theorem dX1_load_48 : decode cX1_load 48 = .ok (.invokevirtual 102, 3) := dk_182 0 102 (dk_at dksX1_load_2 0 rfl rfl)
theorem dX1_load_51 : decode cX1_load 51 = .ok (.goto 11, 3) := dk_167 0 11 (dk_at dksX1_load_2 3 rfl rfl)
theorem dX1_load_54 : decode cX1_load 54 = .ok (.astore 4, 2) := dk_58 4 (dk_at dksX1_load_2 6 rfl rfl)
theorem dX1_load_56 : decode cX1_load 56 = .ok (.aload_n 3, 1) := dk_45 (dk_at dksX1_load_2 8 rfl rfl)
theorem dX1_load_57 : decode cX1_load 57 = .ok (.aload 4, 2) := dk_25 4 (dk_at dksX1_load_2 9 rfl rfl)
theorem dX1_load_59 : decode cX1_load 59 = .ok (.invokevirtual 107, 3) := dk_182 0 107 (dk_at dksX1_load_2 11 rfl rfl)
theorem dX1_load_62 : decode cX1_load 62 = .ok (.aload_n 3, 1) := dk_45 (dk_at dksX1_load_2 14 rfl rfl)
theorem dX1_load_63 : decode cX1_load 63 = .ok (.athrow, 1) := dk_191 (dk_at dksX1_load_2 15 rfl rfl)
theorem dX1_load_64 : decode cX1_load 64 = .ok (.astore_n 2, 1) := dk_77 (dk_at dksX1_load_2 16 rfl rfl)
theorem dX1_load_65 : decode cX1_load 65 = .ok (.aload_n 0, 1) := dk_42 (dk_at dksX1_load_2 17 rfl rfl)
theorem dX1_load_66 : decode cX1_load 66 = .ok (.aload_n 2, 1) := dk_44 (dk_at dksX1_load_2 18 rfl rfl)
theorem dX1_load_67 : decode cX1_load 67 = .ok (.getfield 113, 3) := dk_180 0 113 (dk_at dksX1_load_2 19 rfl rfl)
theorem dX1_load_70 : decode cX1_load 70 = .ok (.putfield 67, 3) := dk_181 0 67 (dk_at dksX1_load_3 0 rfl rfl)
theorem dX1_load_73 : decode cX1_load 73 = .ok (.aload_n 2, 1) := dk_44 (dk_at dksX1_load_3 3 rfl rfl)
theorem dX1_load_74 : decode cX1_load 74 = .ok (.getfield 116, 3) := dk_180 0 116 (dk_at dksX1_load_3 4 rfl rfl)
theorem dX1_load_77 : decode cX1_load 77 = .ok (.ireturn, 1) := dk_172 (dk_at dksX1_load_3 7 rfl rfl)
abbrev cX1_inRange : ByteArray := prog_1_method_1_code
def yX1_inRange : MethodName := ⟨RX1, "inRange", "(JJJ)Z"⟩
def dkwX1_inRange_0 : List UInt8 := [30, 32, 148, 155, 0, 14, 30, 22, 4, 148, 157, 0, 7, 4, 167, 0, 4, 3, 172]
abbrev dktX1_inRange_0 : List UInt8 := dkwX1_inRange_0 ++ []
theorem dksX1_inRange_0 : cX1_inRange.data.toList.drop 0 = dktX1_inRange_0 := by decide +kernel
theorem dX1_inRange_0 : decode cX1_inRange 0 = .ok (.lload_n 0, 1) := dk_30 (dk_at dksX1_inRange_0 0 rfl rfl)
theorem dX1_inRange_1 : decode cX1_inRange 1 = .ok (.lload_n 2, 1) := dk_32 (dk_at dksX1_inRange_0 1 rfl rfl)
theorem dX1_inRange_2 : decode cX1_inRange 2 = .ok (.lcmp, 1) := dk_148 (dk_at dksX1_inRange_0 2 rfl rfl)
theorem dX1_inRange_3 : decode cX1_inRange 3 = .ok (.ifCond .lt 14, 3) := dk_155 0 14 (dk_at dksX1_inRange_0 3 rfl rfl)
theorem dX1_inRange_6 : decode cX1_inRange 6 = .ok (.lload_n 0, 1) := dk_30 (dk_at dksX1_inRange_0 6 rfl rfl)
theorem dX1_inRange_7 : decode cX1_inRange 7 = .ok (.lload 4, 2) := dk_22 4 (dk_at dksX1_inRange_0 7 rfl rfl)
theorem dX1_inRange_9 : decode cX1_inRange 9 = .ok (.lcmp, 1) := dk_148 (dk_at dksX1_inRange_0 9 rfl rfl)
theorem dX1_inRange_10 : decode cX1_inRange 10 = .ok (.ifCond .gt 7, 3) := dk_157 0 7 (dk_at dksX1_inRange_0 10 rfl rfl)
theorem dX1_inRange_13 : decode cX1_inRange 13 = .ok (.iconst 1, 1) := dk_4 (dk_at dksX1_inRange_0 13 rfl rfl)
theorem dX1_inRange_14 : decode cX1_inRange 14 = .ok (.goto 4, 3) := dk_167 0 4 (dk_at dksX1_inRange_0 14 rfl rfl)
theorem dX1_inRange_17 : decode cX1_inRange 17 = .ok (.iconst 0, 1) := dk_3 (dk_at dksX1_inRange_0 17 rfl rfl)
theorem dX1_inRange_18 : decode cX1_inRange 18 = .ok (.ireturn, 1) := dk_172 (dk_at dksX1_inRange_0 18 rfl rfl)
abbrev cX1_requireArgument : ByteArray := prog_1_method_3_code
def yX1_requireArgument : MethodName := ⟨RX1, "requireArgument", "(Z)V"⟩
def dkwX1_requireArgument_0 : List UInt8 := [26, 154, 0, 11, 187, 0, 13, 89, 183, 0, 15, 191, 177]
abbrev dktX1_requireArgument_0 : List UInt8 := dkwX1_requireArgument_0 ++ []
theorem dksX1_requireArgument_0 : cX1_requireArgument.data.toList.drop 0 = dktX1_requireArgument_0 := by decide +kernel
theorem dX1_requireArgument_0 : decode cX1_requireArgument 0 = .ok (.iload_n 0, 1) := dk_26 (dk_at dksX1_requireArgument_0 0 rfl rfl)
theorem dX1_requireArgument_1 : decode cX1_requireArgument 1 = .ok (.ifCond .ne 11, 3) := dk_154 0 11 (dk_at dksX1_requireArgument_0 1 rfl rfl)
theorem dX1_requireArgument_4 : decode cX1_requireArgument 4 = .ok (.new 13, 3) := dk_187 0 13 (dk_at dksX1_requireArgument_0 4 rfl rfl)
theorem dX1_requireArgument_7 : decode cX1_requireArgument 7 = .ok (.dup, 1) := dk_89 (dk_at dksX1_requireArgument_0 7 rfl rfl)
theorem dX1_requireArgument_8 : decode cX1_requireArgument 8 = .ok (.invokespecial 15, 3) := dk_183 0 15 (dk_at dksX1_requireArgument_0 8 rfl rfl)
theorem dX1_requireArgument_11 : decode cX1_requireArgument 11 = .ok (.athrow, 1) := dk_191 (dk_at dksX1_requireArgument_0 11 rfl rfl)
theorem dX1_requireArgument_12 : decode cX1_requireArgument 12 = .ok (.return_, 1) := dk_177 (dk_at dksX1_requireArgument_0 12 rfl rfl)
abbrev cX1_count : ByteArray := prog_1_method_13_code
def yX1_count : MethodName := ⟨RX1, "count", "(I)I"⟩
def dkwX1_count_6 : List UInt8 := [172, 187, 0, 13, 89, 183, 0, 15, 191]
abbrev dktX1_count_6 : List UInt8 := dkwX1_count_6 ++ []
def dkwX1_count_5 : List UInt8 := [180, 0, 145, 185, 0, 142, 1, 0, 172, 42, 180, 0, 38, 180, 0, 148, 172, 42, 180, 0, 38, 180, 0, 151]
abbrev dktX1_count_5 : List UInt8 := dkwX1_count_5 ++ dktX1_count_6
def dkwX1_count_4 : List UInt8 := [167, 0, 4, 3, 172, 42, 180, 0, 38, 180, 0, 138, 185, 0, 142, 1, 0, 172, 42, 180, 0, 38]
abbrev dktX1_count_4 : List UInt8 := dkwX1_count_4 ++ dktX1_count_5
def dkwX1_count_3 : List UInt8 := [180, 0, 128, 172, 42, 180, 0, 38, 180, 0, 131, 172, 42, 180, 0, 38, 180, 0, 134, 153, 0, 7, 4]
abbrev dktX1_count_3 : List UInt8 := dkwX1_count_3 ++ dktX1_count_4
def dkwX1_count_2 : List UInt8 := [42, 180, 0, 38, 180, 0, 119, 180, 0, 123, 172, 42, 180, 0, 38, 180, 0, 100, 172, 42, 180, 0, 38]
abbrev dktX1_count_2 : List UInt8 := dkwX1_count_2 ++ dktX1_count_3
def dkwX1_count_1 : List UInt8 := [170, 0, 0, 0, 0, 0, 144, 0, 0, 0, 0, 0, 0, 0, 8, 0, 0, 0, 51, 0, 0, 0, 62, 0, 0, 0, 70, 0, 0, 0, 78, 0, 0, 0, 86, 0, 0, 0, 102, 0, 0, 0, 115, 0, 0, 0, 128, 0, 0, 0, 136]
abbrev dktX1_count_1 : List UInt8 := dkwX1_count_1 ++ dktX1_count_2
def dkwX1_count_0 : List UInt8 := [27]
abbrev dktX1_count_0 : List UInt8 := dkwX1_count_0 ++ dktX1_count_1
theorem dksX1_count_0 : cX1_count.data.toList.drop 0 = dktX1_count_0 := by decide +kernel
theorem dksX1_count_1 : cX1_count.data.toList.drop 1 = dktX1_count_1 := dk_seg dksX1_count_0 1 rfl rfl
theorem dksX1_count_2 : cX1_count.data.toList.drop 52 = dktX1_count_2 := dk_seg dksX1_count_1 51 rfl rfl
theorem dksX1_count_3 : cX1_count.data.toList.drop 75 = dktX1_count_3 := dk_seg dksX1_count_2 23 rfl rfl
theorem dksX1_count_4 : cX1_count.data.toList.drop 98 = dktX1_count_4 := dk_seg dksX1_count_3 23 rfl rfl
theorem dksX1_count_5 : cX1_count.data.toList.drop 120 = dktX1_count_5 := dk_seg dksX1_count_4 22 rfl rfl
theorem dksX1_count_6 : cX1_count.data.toList.drop 144 = dktX1_count_6 := dk_seg dksX1_count_5 24 rfl rfl
theorem dX1_count_0 : decode cX1_count 0 = .ok (.iload_n 1, 1) := dk_27 (dk_at dksX1_count_0 0 rfl rfl)
theorem dX1_count_1 : decode cX1_count 1 = .ok (.tableswitch 144 0 8 #[51, 62, 70, 78, 86, 102, 115, 128, 136], 51) := by decide +kernel
theorem dX1_count_52 : decode cX1_count 52 = .ok (.aload_n 0, 1) := dk_42 (dk_at dksX1_count_2 0 rfl rfl)
theorem dX1_count_53 : decode cX1_count 53 = .ok (.getfield 38, 3) := dk_180 0 38 (dk_at dksX1_count_2 1 rfl rfl)
theorem dX1_count_56 : decode cX1_count 56 = .ok (.getfield 119, 3) := dk_180 0 119 (dk_at dksX1_count_2 4 rfl rfl)
theorem dX1_count_59 : decode cX1_count 59 = .ok (.getfield 123, 3) := dk_180 0 123 (dk_at dksX1_count_2 7 rfl rfl)
theorem dX1_count_62 : decode cX1_count 62 = .ok (.ireturn, 1) := dk_172 (dk_at dksX1_count_2 10 rfl rfl)
theorem dX1_count_63 : decode cX1_count 63 = .ok (.aload_n 0, 1) := dk_42 (dk_at dksX1_count_2 11 rfl rfl)
theorem dX1_count_64 : decode cX1_count 64 = .ok (.getfield 38, 3) := dk_180 0 38 (dk_at dksX1_count_2 12 rfl rfl)
theorem dX1_count_67 : decode cX1_count 67 = .ok (.getfield 100, 3) := dk_180 0 100 (dk_at dksX1_count_2 15 rfl rfl)
theorem dX1_count_70 : decode cX1_count 70 = .ok (.ireturn, 1) := dk_172 (dk_at dksX1_count_2 18 rfl rfl)
theorem dX1_count_71 : decode cX1_count 71 = .ok (.aload_n 0, 1) := dk_42 (dk_at dksX1_count_2 19 rfl rfl)
theorem dX1_count_72 : decode cX1_count 72 = .ok (.getfield 38, 3) := dk_180 0 38 (dk_at dksX1_count_2 20 rfl rfl)
theorem dX1_count_75 : decode cX1_count 75 = .ok (.getfield 128, 3) := dk_180 0 128 (dk_at dksX1_count_3 0 rfl rfl)
theorem dX1_count_78 : decode cX1_count 78 = .ok (.ireturn, 1) := dk_172 (dk_at dksX1_count_3 3 rfl rfl)
theorem dX1_count_79 : decode cX1_count 79 = .ok (.aload_n 0, 1) := dk_42 (dk_at dksX1_count_3 4 rfl rfl)
theorem dX1_count_80 : decode cX1_count 80 = .ok (.getfield 38, 3) := dk_180 0 38 (dk_at dksX1_count_3 5 rfl rfl)
theorem dX1_count_83 : decode cX1_count 83 = .ok (.getfield 131, 3) := dk_180 0 131 (dk_at dksX1_count_3 8 rfl rfl)
theorem dX1_count_86 : decode cX1_count 86 = .ok (.ireturn, 1) := dk_172 (dk_at dksX1_count_3 11 rfl rfl)
theorem dX1_count_87 : decode cX1_count 87 = .ok (.aload_n 0, 1) := dk_42 (dk_at dksX1_count_3 12 rfl rfl)
theorem dX1_count_88 : decode cX1_count 88 = .ok (.getfield 38, 3) := dk_180 0 38 (dk_at dksX1_count_3 13 rfl rfl)
theorem dX1_count_91 : decode cX1_count 91 = .ok (.getfield 134, 3) := dk_180 0 134 (dk_at dksX1_count_3 16 rfl rfl)
theorem dX1_count_94 : decode cX1_count 94 = .ok (.ifCond .eq 7, 3) := dk_153 0 7 (dk_at dksX1_count_3 19 rfl rfl)
theorem dX1_count_97 : decode cX1_count 97 = .ok (.iconst 1, 1) := dk_4 (dk_at dksX1_count_3 22 rfl rfl)
theorem dX1_count_98 : decode cX1_count 98 = .ok (.goto 4, 3) := dk_167 0 4 (dk_at dksX1_count_4 0 rfl rfl)
theorem dX1_count_101 : decode cX1_count 101 = .ok (.iconst 0, 1) := dk_3 (dk_at dksX1_count_4 3 rfl rfl)
theorem dX1_count_102 : decode cX1_count 102 = .ok (.ireturn, 1) := dk_172 (dk_at dksX1_count_4 4 rfl rfl)
theorem dX1_count_103 : decode cX1_count 103 = .ok (.aload_n 0, 1) := dk_42 (dk_at dksX1_count_4 5 rfl rfl)
theorem dX1_count_104 : decode cX1_count 104 = .ok (.getfield 38, 3) := dk_180 0 38 (dk_at dksX1_count_4 6 rfl rfl)
theorem dX1_count_107 : decode cX1_count 107 = .ok (.getfield 138, 3) := dk_180 0 138 (dk_at dksX1_count_4 9 rfl rfl)
theorem dX1_count_110 : decode cX1_count 110 = .ok (.invokeinterface 142 1, 5) := by decide +kernel
theorem dX1_count_115 : decode cX1_count 115 = .ok (.ireturn, 1) := dk_172 (dk_at dksX1_count_4 17 rfl rfl)
theorem dX1_count_116 : decode cX1_count 116 = .ok (.aload_n 0, 1) := dk_42 (dk_at dksX1_count_4 18 rfl rfl)
theorem dX1_count_117 : decode cX1_count 117 = .ok (.getfield 38, 3) := dk_180 0 38 (dk_at dksX1_count_4 19 rfl rfl)
theorem dX1_count_120 : decode cX1_count 120 = .ok (.getfield 145, 3) := dk_180 0 145 (dk_at dksX1_count_5 0 rfl rfl)
theorem dX1_count_123 : decode cX1_count 123 = .ok (.invokeinterface 142 1, 5) := by decide +kernel
theorem dX1_count_128 : decode cX1_count 128 = .ok (.ireturn, 1) := dk_172 (dk_at dksX1_count_5 8 rfl rfl)
theorem dX1_count_129 : decode cX1_count 129 = .ok (.aload_n 0, 1) := dk_42 (dk_at dksX1_count_5 9 rfl rfl)
theorem dX1_count_130 : decode cX1_count 130 = .ok (.getfield 38, 3) := dk_180 0 38 (dk_at dksX1_count_5 10 rfl rfl)
theorem dX1_count_133 : decode cX1_count 133 = .ok (.getfield 148, 3) := dk_180 0 148 (dk_at dksX1_count_5 13 rfl rfl)
theorem dX1_count_136 : decode cX1_count 136 = .ok (.ireturn, 1) := dk_172 (dk_at dksX1_count_5 16 rfl rfl)
theorem dX1_count_137 : decode cX1_count 137 = .ok (.aload_n 0, 1) := dk_42 (dk_at dksX1_count_5 17 rfl rfl)
theorem dX1_count_138 : decode cX1_count 138 = .ok (.getfield 38, 3) := dk_180 0 38 (dk_at dksX1_count_5 18 rfl rfl)
theorem dX1_count_141 : decode cX1_count 141 = .ok (.getfield 151, 3) := dk_180 0 151 (dk_at dksX1_count_5 21 rfl rfl)
theorem dX1_count_144 : decode cX1_count 144 = .ok (.ireturn, 1) := dk_172 (dk_at dksX1_count_6 0 rfl rfl)
theorem dX1_count_145 : decode cX1_count 145 = .ok (.new 13, 3) := dk_187 0 13 (dk_at dksX1_count_6 1 rfl rfl)
theorem dX1_count_148 : decode cX1_count 148 = .ok (.dup, 1) := dk_89 (dk_at dksX1_count_6 4 rfl rfl)
theorem dX1_count_149 : decode cX1_count 149 = .ok (.invokespecial 15, 3) := dk_183 0 15 (dk_at dksX1_count_6 5 rfl rfl)
theorem dX1_count_152 : decode cX1_count 152 = .ok (.athrow, 1) := dk_191 (dk_at dksX1_count_6 8 rfl rfl)
abbrev cX1_cell : ByteArray := prog_1_method_16_code
def yX1_cell : MethodName := ⟨RX1, "cell", "(II)I"⟩
def dkwX1_cell_1 : List UInt8 := [28, 46, 172]
abbrev dktX1_cell_1 : List UInt8 := dkwX1_cell_1 ++ []
def dkwX1_cell_0 : List UInt8 := [42, 5, 188, 10, 89, 3, 27, 79, 89, 4, 28, 79, 182, 0, 162, 42, 180, 0, 38, 180, 0, 166, 27, 50]
abbrev dktX1_cell_0 : List UInt8 := dkwX1_cell_0 ++ dktX1_cell_1
theorem dksX1_cell_0 : cX1_cell.data.toList.drop 0 = dktX1_cell_0 := by decide +kernel
theorem dksX1_cell_1 : cX1_cell.data.toList.drop 24 = dktX1_cell_1 := dk_seg dksX1_cell_0 24 rfl rfl
theorem dX1_cell_0 : decode cX1_cell 0 = .ok (.aload_n 0, 1) := dk_42 (dk_at dksX1_cell_0 0 rfl rfl)
theorem dX1_cell_1 : decode cX1_cell 1 = .ok (.iconst 2, 1) := dk_5 (dk_at dksX1_cell_0 1 rfl rfl)
theorem dX1_cell_2 : decode cX1_cell 2 = .ok (.newarray .int, 2) := dk_188_10 (dk_at dksX1_cell_0 2 rfl rfl)
theorem dX1_cell_4 : decode cX1_cell 4 = .ok (.dup, 1) := dk_89 (dk_at dksX1_cell_0 4 rfl rfl)
theorem dX1_cell_5 : decode cX1_cell 5 = .ok (.iconst 0, 1) := dk_3 (dk_at dksX1_cell_0 5 rfl rfl)
theorem dX1_cell_6 : decode cX1_cell 6 = .ok (.iload_n 1, 1) := dk_27 (dk_at dksX1_cell_0 6 rfl rfl)
theorem dX1_cell_7 : decode cX1_cell 7 = .ok (.iastore, 1) := dk_79 (dk_at dksX1_cell_0 7 rfl rfl)
theorem dX1_cell_8 : decode cX1_cell 8 = .ok (.dup, 1) := dk_89 (dk_at dksX1_cell_0 8 rfl rfl)
theorem dX1_cell_9 : decode cX1_cell 9 = .ok (.iconst 1, 1) := dk_4 (dk_at dksX1_cell_0 9 rfl rfl)
theorem dX1_cell_10 : decode cX1_cell 10 = .ok (.iload_n 2, 1) := dk_28 (dk_at dksX1_cell_0 10 rfl rfl)
theorem dX1_cell_11 : decode cX1_cell 11 = .ok (.iastore, 1) := dk_79 (dk_at dksX1_cell_0 11 rfl rfl)
theorem dX1_cell_12 : decode cX1_cell 12 = .ok (.invokevirtual 162, 3) := dk_182 0 162 (dk_at dksX1_cell_0 12 rfl rfl)
theorem dX1_cell_15 : decode cX1_cell 15 = .ok (.aload_n 0, 1) := dk_42 (dk_at dksX1_cell_0 15 rfl rfl)
theorem dX1_cell_16 : decode cX1_cell 16 = .ok (.getfield 38, 3) := dk_180 0 38 (dk_at dksX1_cell_0 16 rfl rfl)
theorem dX1_cell_19 : decode cX1_cell 19 = .ok (.getfield 166, 3) := dk_180 0 166 (dk_at dksX1_cell_0 19 rfl rfl)
theorem dX1_cell_22 : decode cX1_cell 22 = .ok (.iload_n 1, 1) := dk_27 (dk_at dksX1_cell_0 22 rfl rfl)
theorem dX1_cell_23 : decode cX1_cell 23 = .ok (.aaload, 1) := dk_50 (dk_at dksX1_cell_0 23 rfl rfl)
theorem dX1_cell_24 : decode cX1_cell 24 = .ok (.iload_n 2, 1) := dk_28 (dk_at dksX1_cell_1 0 rfl rfl)
theorem dX1_cell_25 : decode cX1_cell 25 = .ok (.iaload, 1) := dk_46 (dk_at dksX1_cell_1 1 rfl rfl)
theorem dX1_cell_26 : decode cX1_cell 26 = .ok (.ireturn, 1) := dk_172 (dk_at dksX1_cell_1 2 rfl rfl)
abbrev cX1_requirePlaces : ByteArray := prog_1_method_14_code
def yX1_requirePlaces : MethodName := ⟨RX1, "requirePlaces", "([I)V"⟩
def dkwX1_requirePlaces_1 : List UInt8 := [180, 0, 38, 180, 0, 100, 184, 0, 154, 132, 4, 1, 167, 255, 229, 177]
abbrev dktX1_requirePlaces_1 : List UInt8 := dkwX1_requirePlaces_1 ++ []
def dkwX1_requirePlaces_0 : List UInt8 := [43, 77, 44, 190, 62, 3, 54, 4, 21, 4, 29, 162, 0, 27, 44, 21, 4, 46, 54, 5, 21, 5, 42]
abbrev dktX1_requirePlaces_0 : List UInt8 := dkwX1_requirePlaces_0 ++ dktX1_requirePlaces_1
theorem dksX1_requirePlaces_0 : cX1_requirePlaces.data.toList.drop 0 = dktX1_requirePlaces_0 := by decide +kernel
theorem dksX1_requirePlaces_1 : cX1_requirePlaces.data.toList.drop 23 = dktX1_requirePlaces_1 := dk_seg dksX1_requirePlaces_0 23 rfl rfl
theorem dX1_requirePlaces_0 : decode cX1_requirePlaces 0 = .ok (.aload_n 1, 1) := dk_43 (dk_at dksX1_requirePlaces_0 0 rfl rfl)
theorem dX1_requirePlaces_1 : decode cX1_requirePlaces 1 = .ok (.astore_n 2, 1) := dk_77 (dk_at dksX1_requirePlaces_0 1 rfl rfl)
theorem dX1_requirePlaces_2 : decode cX1_requirePlaces 2 = .ok (.aload_n 2, 1) := dk_44 (dk_at dksX1_requirePlaces_0 2 rfl rfl)
theorem dX1_requirePlaces_3 : decode cX1_requirePlaces 3 = .ok (.arraylength, 1) := dk_190 (dk_at dksX1_requirePlaces_0 3 rfl rfl)
theorem dX1_requirePlaces_4 : decode cX1_requirePlaces 4 = .ok (.istore_n 3, 1) := dk_62 (dk_at dksX1_requirePlaces_0 4 rfl rfl)
theorem dX1_requirePlaces_5 : decode cX1_requirePlaces 5 = .ok (.iconst 0, 1) := dk_3 (dk_at dksX1_requirePlaces_0 5 rfl rfl)
theorem dX1_requirePlaces_6 : decode cX1_requirePlaces 6 = .ok (.istore 4, 2) := dk_54 4 (dk_at dksX1_requirePlaces_0 6 rfl rfl)
theorem dX1_requirePlaces_8 : decode cX1_requirePlaces 8 = .ok (.iload 4, 2) := dk_21 4 (dk_at dksX1_requirePlaces_0 8 rfl rfl)
theorem dX1_requirePlaces_10 : decode cX1_requirePlaces 10 = .ok (.iload_n 3, 1) := dk_29 (dk_at dksX1_requirePlaces_0 10 rfl rfl)
theorem dX1_requirePlaces_11 : decode cX1_requirePlaces 11 = .ok (.if_icmp .ge 27, 3) := dk_162 0 27 (dk_at dksX1_requirePlaces_0 11 rfl rfl)
theorem dX1_requirePlaces_14 : decode cX1_requirePlaces 14 = .ok (.aload_n 2, 1) := dk_44 (dk_at dksX1_requirePlaces_0 14 rfl rfl)
theorem dX1_requirePlaces_15 : decode cX1_requirePlaces 15 = .ok (.iload 4, 2) := dk_21 4 (dk_at dksX1_requirePlaces_0 15 rfl rfl)
theorem dX1_requirePlaces_17 : decode cX1_requirePlaces 17 = .ok (.iaload, 1) := dk_46 (dk_at dksX1_requirePlaces_0 17 rfl rfl)
theorem dX1_requirePlaces_18 : decode cX1_requirePlaces 18 = .ok (.istore 5, 2) := dk_54 5 (dk_at dksX1_requirePlaces_0 18 rfl rfl)
theorem dX1_requirePlaces_20 : decode cX1_requirePlaces 20 = .ok (.iload 5, 2) := dk_21 5 (dk_at dksX1_requirePlaces_0 20 rfl rfl)
theorem dX1_requirePlaces_22 : decode cX1_requirePlaces 22 = .ok (.aload_n 0, 1) := dk_42 (dk_at dksX1_requirePlaces_0 22 rfl rfl)
theorem dX1_requirePlaces_23 : decode cX1_requirePlaces 23 = .ok (.getfield 38, 3) := dk_180 0 38 (dk_at dksX1_requirePlaces_1 0 rfl rfl)
theorem dX1_requirePlaces_26 : decode cX1_requirePlaces 26 = .ok (.getfield 100, 3) := dk_180 0 100 (dk_at dksX1_requirePlaces_1 3 rfl rfl)
theorem dX1_requirePlaces_29 : decode cX1_requirePlaces 29 = .ok (.invokestatic 154, 3) := dk_184 0 154 (dk_at dksX1_requirePlaces_1 6 rfl rfl)
theorem dX1_requirePlaces_32 : decode cX1_requirePlaces 32 = .ok (.iinc 4 1, 3) := dk_132 4 1 (dk_at dksX1_requirePlaces_1 9 rfl rfl)
theorem dX1_requirePlaces_35 : decode cX1_requirePlaces 35 = .ok (.goto (-27), 3) := dk_167 255 229 (dk_at dksX1_requirePlaces_1 12 rfl rfl)
theorem dX1_requirePlaces_38 : decode cX1_requirePlaces 38 = .ok (.return_, 1) := dk_177 (dk_at dksX1_requirePlaces_1 15 rfl rfl)
abbrev cX1_requireIndex : ByteArray := prog_1_method_2_code
def yX1_requireIndex : MethodName := ⟨RX1, "requireIndex", "(II)V"⟩
def dkwX1_requireIndex_0 : List UInt8 := [26, 133, 9, 27, 4, 100, 133, 184, 0, 1, 154, 0, 11, 187, 0, 7, 89, 183, 0, 9, 191, 177]
abbrev dktX1_requireIndex_0 : List UInt8 := dkwX1_requireIndex_0 ++ []
theorem dksX1_requireIndex_0 : cX1_requireIndex.data.toList.drop 0 = dktX1_requireIndex_0 := by decide +kernel
theorem dX1_requireIndex_0 : decode cX1_requireIndex 0 = .ok (.iload_n 0, 1) := dk_26 (dk_at dksX1_requireIndex_0 0 rfl rfl)
theorem dX1_requireIndex_1 : decode cX1_requireIndex 1 = .ok (.i2l, 1) := dk_133 (dk_at dksX1_requireIndex_0 1 rfl rfl)
theorem dX1_requireIndex_2 : decode cX1_requireIndex 2 = .ok (.lconst 0, 1) := dk_9 (dk_at dksX1_requireIndex_0 2 rfl rfl)
theorem dX1_requireIndex_3 : decode cX1_requireIndex 3 = .ok (.iload_n 1, 1) := dk_27 (dk_at dksX1_requireIndex_0 3 rfl rfl)
theorem dX1_requireIndex_4 : decode cX1_requireIndex 4 = .ok (.iconst 1, 1) := dk_4 (dk_at dksX1_requireIndex_0 4 rfl rfl)
theorem dX1_requireIndex_5 : decode cX1_requireIndex 5 = .ok (.isub, 1) := dk_100 (dk_at dksX1_requireIndex_0 5 rfl rfl)
theorem dX1_requireIndex_6 : decode cX1_requireIndex 6 = .ok (.i2l, 1) := dk_133 (dk_at dksX1_requireIndex_0 6 rfl rfl)
theorem dX1_requireIndex_7 : decode cX1_requireIndex 7 = .ok (.invokestatic 1, 3) := dk_184 0 1 (dk_at dksX1_requireIndex_0 7 rfl rfl)
theorem dX1_requireIndex_10 : decode cX1_requireIndex 10 = .ok (.ifCond .ne 11, 3) := dk_154 0 11 (dk_at dksX1_requireIndex_0 10 rfl rfl)
theorem dX1_requireIndex_13 : decode cX1_requireIndex 13 = .ok (.new 7, 3) := dk_187 0 7 (dk_at dksX1_requireIndex_0 13 rfl rfl)
theorem dX1_requireIndex_16 : decode cX1_requireIndex 16 = .ok (.dup, 1) := dk_89 (dk_at dksX1_requireIndex_0 16 rfl rfl)
theorem dX1_requireIndex_17 : decode cX1_requireIndex 17 = .ok (.invokespecial 9, 3) := dk_183 0 9 (dk_at dksX1_requireIndex_0 17 rfl rfl)
theorem dX1_requireIndex_20 : decode cX1_requireIndex 20 = .ok (.athrow, 1) := dk_191 (dk_at dksX1_requireIndex_0 20 rfl rfl)
theorem dX1_requireIndex_21 : decode cX1_requireIndex 21 = .ok (.return_, 1) := dk_177 (dk_at dksX1_requireIndex_0 21 rfl rfl)
abbrev cX1_start : ByteArray := prog_1_method_17_code
def yX1_start : MethodName := ⟨RX1, "start", "(I)I"⟩
def dkwX1_start_0 : List UInt8 := [42, 4, 188, 10, 89, 3, 27, 79, 182, 0, 162, 42, 180, 0, 38, 180, 0, 170, 180, 0, 174, 27, 46, 172]
abbrev dktX1_start_0 : List UInt8 := dkwX1_start_0 ++ []
theorem dksX1_start_0 : cX1_start.data.toList.drop 0 = dktX1_start_0 := by decide +kernel
theorem dX1_start_0 : decode cX1_start 0 = .ok (.aload_n 0, 1) := dk_42 (dk_at dksX1_start_0 0 rfl rfl)
theorem dX1_start_1 : decode cX1_start 1 = .ok (.iconst 1, 1) := dk_4 (dk_at dksX1_start_0 1 rfl rfl)
theorem dX1_start_2 : decode cX1_start 2 = .ok (.newarray .int, 2) := dk_188_10 (dk_at dksX1_start_0 2 rfl rfl)
theorem dX1_start_4 : decode cX1_start 4 = .ok (.dup, 1) := dk_89 (dk_at dksX1_start_0 4 rfl rfl)
theorem dX1_start_5 : decode cX1_start 5 = .ok (.iconst 0, 1) := dk_3 (dk_at dksX1_start_0 5 rfl rfl)
theorem dX1_start_6 : decode cX1_start 6 = .ok (.iload_n 1, 1) := dk_27 (dk_at dksX1_start_0 6 rfl rfl)
theorem dX1_start_7 : decode cX1_start 7 = .ok (.iastore, 1) := dk_79 (dk_at dksX1_start_0 7 rfl rfl)
theorem dX1_start_8 : decode cX1_start 8 = .ok (.invokevirtual 162, 3) := dk_182 0 162 (dk_at dksX1_start_0 8 rfl rfl)
theorem dX1_start_11 : decode cX1_start 11 = .ok (.aload_n 0, 1) := dk_42 (dk_at dksX1_start_0 11 rfl rfl)
theorem dX1_start_12 : decode cX1_start 12 = .ok (.getfield 38, 3) := dk_180 0 38 (dk_at dksX1_start_0 12 rfl rfl)
theorem dX1_start_15 : decode cX1_start 15 = .ok (.getfield 170, 3) := dk_180 0 170 (dk_at dksX1_start_0 15 rfl rfl)
theorem dX1_start_18 : decode cX1_start 18 = .ok (.getfield 174, 3) := dk_180 0 174 (dk_at dksX1_start_0 18 rfl rfl)
theorem dX1_start_21 : decode cX1_start 21 = .ok (.iload_n 1, 1) := dk_27 (dk_at dksX1_start_0 21 rfl rfl)
theorem dX1_start_22 : decode cX1_start 22 = .ok (.iaload, 1) := dk_46 (dk_at dksX1_start_0 22 rfl rfl)
theorem dX1_start_23 : decode cX1_start 23 = .ok (.ireturn, 1) := dk_172 (dk_at dksX1_start_0 23 rfl rfl)
abbrev cX1_setCell : ByteArray := prog_1_method_18_code
def yX1_setCell : MethodName := ⟨RX1, "setCell", "(III)I"⟩
def dkwX1_setCell_1 : List UInt8 := [180, 0, 166, 27, 50, 28, 46, 54, 4, 42, 182, 0, 183, 27, 28, 29, 182, 0, 186, 21, 4, 172]
abbrev dktX1_setCell_1 : List UInt8 := dkwX1_setCell_1 ++ []
def dkwX1_setCell_0 : List UInt8 := [42, 5, 188, 10, 89, 3, 27, 79, 89, 4, 28, 79, 182, 0, 162, 42, 29, 182, 0, 180, 42, 180, 0, 38]
abbrev dktX1_setCell_0 : List UInt8 := dkwX1_setCell_0 ++ dktX1_setCell_1
theorem dksX1_setCell_0 : cX1_setCell.data.toList.drop 0 = dktX1_setCell_0 := by decide +kernel
theorem dksX1_setCell_1 : cX1_setCell.data.toList.drop 24 = dktX1_setCell_1 := dk_seg dksX1_setCell_0 24 rfl rfl
theorem dX1_setCell_0 : decode cX1_setCell 0 = .ok (.aload_n 0, 1) := dk_42 (dk_at dksX1_setCell_0 0 rfl rfl)
theorem dX1_setCell_1 : decode cX1_setCell 1 = .ok (.iconst 2, 1) := dk_5 (dk_at dksX1_setCell_0 1 rfl rfl)
theorem dX1_setCell_2 : decode cX1_setCell 2 = .ok (.newarray .int, 2) := dk_188_10 (dk_at dksX1_setCell_0 2 rfl rfl)
theorem dX1_setCell_4 : decode cX1_setCell 4 = .ok (.dup, 1) := dk_89 (dk_at dksX1_setCell_0 4 rfl rfl)
theorem dX1_setCell_5 : decode cX1_setCell 5 = .ok (.iconst 0, 1) := dk_3 (dk_at dksX1_setCell_0 5 rfl rfl)
theorem dX1_setCell_6 : decode cX1_setCell 6 = .ok (.iload_n 1, 1) := dk_27 (dk_at dksX1_setCell_0 6 rfl rfl)
theorem dX1_setCell_7 : decode cX1_setCell 7 = .ok (.iastore, 1) := dk_79 (dk_at dksX1_setCell_0 7 rfl rfl)
theorem dX1_setCell_8 : decode cX1_setCell 8 = .ok (.dup, 1) := dk_89 (dk_at dksX1_setCell_0 8 rfl rfl)
theorem dX1_setCell_9 : decode cX1_setCell 9 = .ok (.iconst 1, 1) := dk_4 (dk_at dksX1_setCell_0 9 rfl rfl)
theorem dX1_setCell_10 : decode cX1_setCell 10 = .ok (.iload_n 2, 1) := dk_28 (dk_at dksX1_setCell_0 10 rfl rfl)
theorem dX1_setCell_11 : decode cX1_setCell 11 = .ok (.iastore, 1) := dk_79 (dk_at dksX1_setCell_0 11 rfl rfl)
theorem dX1_setCell_12 : decode cX1_setCell 12 = .ok (.invokevirtual 162, 3) := dk_182 0 162 (dk_at dksX1_setCell_0 12 rfl rfl)
theorem dX1_setCell_15 : decode cX1_setCell 15 = .ok (.aload_n 0, 1) := dk_42 (dk_at dksX1_setCell_0 15 rfl rfl)
theorem dX1_setCell_16 : decode cX1_setCell 16 = .ok (.iload_n 3, 1) := dk_29 (dk_at dksX1_setCell_0 16 rfl rfl)
theorem dX1_setCell_17 : decode cX1_setCell 17 = .ok (.invokevirtual 180, 3) := dk_182 0 180 (dk_at dksX1_setCell_0 17 rfl rfl)
theorem dX1_setCell_20 : decode cX1_setCell 20 = .ok (.aload_n 0, 1) := dk_42 (dk_at dksX1_setCell_0 20 rfl rfl)
theorem dX1_setCell_21 : decode cX1_setCell 21 = .ok (.getfield 38, 3) := dk_180 0 38 (dk_at dksX1_setCell_0 21 rfl rfl)
theorem dX1_setCell_24 : decode cX1_setCell 24 = .ok (.getfield 166, 3) := dk_180 0 166 (dk_at dksX1_setCell_1 0 rfl rfl)
theorem dX1_setCell_27 : decode cX1_setCell 27 = .ok (.iload_n 1, 1) := dk_27 (dk_at dksX1_setCell_1 3 rfl rfl)
theorem dX1_setCell_28 : decode cX1_setCell 28 = .ok (.aaload, 1) := dk_50 (dk_at dksX1_setCell_1 4 rfl rfl)
theorem dX1_setCell_29 : decode cX1_setCell 29 = .ok (.iload_n 2, 1) := dk_28 (dk_at dksX1_setCell_1 5 rfl rfl)
theorem dX1_setCell_30 : decode cX1_setCell 30 = .ok (.iaload, 1) := dk_46 (dk_at dksX1_setCell_1 6 rfl rfl)
theorem dX1_setCell_31 : decode cX1_setCell 31 = .ok (.istore 4, 2) := dk_54 4 (dk_at dksX1_setCell_1 7 rfl rfl)
theorem dX1_setCell_33 : decode cX1_setCell 33 = .ok (.aload_n 0, 1) := dk_42 (dk_at dksX1_setCell_1 9 rfl rfl)
theorem dX1_setCell_34 : decode cX1_setCell 34 = .ok (.invokevirtual 183, 3) := dk_182 0 183 (dk_at dksX1_setCell_1 10 rfl rfl)
theorem dX1_setCell_37 : decode cX1_setCell 37 = .ok (.iload_n 1, 1) := dk_27 (dk_at dksX1_setCell_1 13 rfl rfl)
theorem dX1_setCell_38 : decode cX1_setCell 38 = .ok (.iload_n 2, 1) := dk_28 (dk_at dksX1_setCell_1 14 rfl rfl)
theorem dX1_setCell_39 : decode cX1_setCell 39 = .ok (.iload_n 3, 1) := dk_29 (dk_at dksX1_setCell_1 15 rfl rfl)
theorem dX1_setCell_40 : decode cX1_setCell 40 = .ok (.invokevirtual 186, 3) := dk_182 0 186 (dk_at dksX1_setCell_1 16 rfl rfl)
theorem dX1_setCell_43 : decode cX1_setCell 43 = .ok (.iload 4, 2) := dk_21 4 (dk_at dksX1_setCell_1 19 rfl rfl)
theorem dX1_setCell_45 : decode cX1_setCell 45 = .ok (.ireturn, 1) := dk_172 (dk_at dksX1_setCell_1 21 rfl rfl)
abbrev cX1_requireNumber : ByteArray := prog_1_method_15_code
def yX1_requireNumber : MethodName := ⟨RX1, "requireNumber", "(I)V"⟩
def dkwX1_requireNumber_0 : List UInt8 := [42, 180, 0, 38, 180, 0, 119, 27, 182, 0, 158, 184, 0, 89, 177]
abbrev dktX1_requireNumber_0 : List UInt8 := dkwX1_requireNumber_0 ++ []
theorem dksX1_requireNumber_0 : cX1_requireNumber.data.toList.drop 0 = dktX1_requireNumber_0 := by decide +kernel
theorem dX1_requireNumber_0 : decode cX1_requireNumber 0 = .ok (.aload_n 0, 1) := dk_42 (dk_at dksX1_requireNumber_0 0 rfl rfl)
theorem dX1_requireNumber_1 : decode cX1_requireNumber 1 = .ok (.getfield 38, 3) := dk_180 0 38 (dk_at dksX1_requireNumber_0 1 rfl rfl)
theorem dX1_requireNumber_4 : decode cX1_requireNumber 4 = .ok (.getfield 119, 3) := dk_180 0 119 (dk_at dksX1_requireNumber_0 4 rfl rfl)
theorem dX1_requireNumber_7 : decode cX1_requireNumber 7 = .ok (.iload_n 1, 1) := dk_27 (dk_at dksX1_requireNumber_0 7 rfl rfl)
theorem dX1_requireNumber_8 : decode cX1_requireNumber 8 = .ok (.invokevirtual 158, 3) := dk_182 0 158 (dk_at dksX1_requireNumber_0 8 rfl rfl)
theorem dX1_requireNumber_11 : decode cX1_requireNumber 11 = .ok (.invokestatic 89, 3) := dk_184 0 89 (dk_at dksX1_requireNumber_0 11 rfl rfl)
theorem dX1_requireNumber_14 : decode cX1_requireNumber 14 = .ok (.return_, 1) := dk_177 (dk_at dksX1_requireNumber_0 14 rfl rfl)
abbrev cX1_setStart : ByteArray := prog_1_method_19_code
def yX1_setStart : MethodName := ⟨RX1, "setStart", "(II)I"⟩
def dkwX1_setStart_2 : List UInt8 := [181, 0, 170, 29, 172]
abbrev dktX1_setStart_2 : List UInt8 := dkwX1_setStart_2 ++ []
def dkwX1_setStart_1 : List UInt8 := [180, 0, 174, 27, 46, 62, 42, 182, 0, 183, 58, 4, 25, 4, 25, 4, 180, 0, 170, 27, 28, 182, 0, 190]
abbrev dktX1_setStart_1 : List UInt8 := dkwX1_setStart_1 ++ dktX1_setStart_2
def dkwX1_setStart_0 : List UInt8 := [42, 4, 188, 10, 89, 3, 27, 79, 182, 0, 162, 42, 28, 182, 0, 180, 42, 180, 0, 38, 180, 0, 170]
abbrev dktX1_setStart_0 : List UInt8 := dkwX1_setStart_0 ++ dktX1_setStart_1
theorem dksX1_setStart_0 : cX1_setStart.data.toList.drop 0 = dktX1_setStart_0 := by decide +kernel
theorem dksX1_setStart_1 : cX1_setStart.data.toList.drop 23 = dktX1_setStart_1 := dk_seg dksX1_setStart_0 23 rfl rfl
theorem dksX1_setStart_2 : cX1_setStart.data.toList.drop 47 = dktX1_setStart_2 := dk_seg dksX1_setStart_1 24 rfl rfl
theorem dX1_setStart_0 : decode cX1_setStart 0 = .ok (.aload_n 0, 1) := dk_42 (dk_at dksX1_setStart_0 0 rfl rfl)
theorem dX1_setStart_1 : decode cX1_setStart 1 = .ok (.iconst 1, 1) := dk_4 (dk_at dksX1_setStart_0 1 rfl rfl)
theorem dX1_setStart_2 : decode cX1_setStart 2 = .ok (.newarray .int, 2) := dk_188_10 (dk_at dksX1_setStart_0 2 rfl rfl)
theorem dX1_setStart_4 : decode cX1_setStart 4 = .ok (.dup, 1) := dk_89 (dk_at dksX1_setStart_0 4 rfl rfl)
theorem dX1_setStart_5 : decode cX1_setStart 5 = .ok (.iconst 0, 1) := dk_3 (dk_at dksX1_setStart_0 5 rfl rfl)
theorem dX1_setStart_6 : decode cX1_setStart 6 = .ok (.iload_n 1, 1) := dk_27 (dk_at dksX1_setStart_0 6 rfl rfl)
theorem dX1_setStart_7 : decode cX1_setStart 7 = .ok (.iastore, 1) := dk_79 (dk_at dksX1_setStart_0 7 rfl rfl)
theorem dX1_setStart_8 : decode cX1_setStart 8 = .ok (.invokevirtual 162, 3) := dk_182 0 162 (dk_at dksX1_setStart_0 8 rfl rfl)
theorem dX1_setStart_11 : decode cX1_setStart 11 = .ok (.aload_n 0, 1) := dk_42 (dk_at dksX1_setStart_0 11 rfl rfl)
theorem dX1_setStart_12 : decode cX1_setStart 12 = .ok (.iload_n 2, 1) := dk_28 (dk_at dksX1_setStart_0 12 rfl rfl)
theorem dX1_setStart_13 : decode cX1_setStart 13 = .ok (.invokevirtual 180, 3) := dk_182 0 180 (dk_at dksX1_setStart_0 13 rfl rfl)
theorem dX1_setStart_16 : decode cX1_setStart 16 = .ok (.aload_n 0, 1) := dk_42 (dk_at dksX1_setStart_0 16 rfl rfl)
theorem dX1_setStart_17 : decode cX1_setStart 17 = .ok (.getfield 38, 3) := dk_180 0 38 (dk_at dksX1_setStart_0 17 rfl rfl)
theorem dX1_setStart_20 : decode cX1_setStart 20 = .ok (.getfield 170, 3) := dk_180 0 170 (dk_at dksX1_setStart_0 20 rfl rfl)
theorem dX1_setStart_23 : decode cX1_setStart 23 = .ok (.getfield 174, 3) := dk_180 0 174 (dk_at dksX1_setStart_1 0 rfl rfl)
theorem dX1_setStart_26 : decode cX1_setStart 26 = .ok (.iload_n 1, 1) := dk_27 (dk_at dksX1_setStart_1 3 rfl rfl)
theorem dX1_setStart_27 : decode cX1_setStart 27 = .ok (.iaload, 1) := dk_46 (dk_at dksX1_setStart_1 4 rfl rfl)
theorem dX1_setStart_28 : decode cX1_setStart 28 = .ok (.istore_n 3, 1) := dk_62 (dk_at dksX1_setStart_1 5 rfl rfl)
theorem dX1_setStart_29 : decode cX1_setStart 29 = .ok (.aload_n 0, 1) := dk_42 (dk_at dksX1_setStart_1 6 rfl rfl)
theorem dX1_setStart_30 : decode cX1_setStart 30 = .ok (.invokevirtual 183, 3) := dk_182 0 183 (dk_at dksX1_setStart_1 7 rfl rfl)
theorem dX1_setStart_33 : decode cX1_setStart 33 = .ok (.astore 4, 2) := dk_58 4 (dk_at dksX1_setStart_1 10 rfl rfl)
theorem dX1_setStart_35 : decode cX1_setStart 35 = .ok (.aload 4, 2) := dk_25 4 (dk_at dksX1_setStart_1 12 rfl rfl)
theorem dX1_setStart_37 : decode cX1_setStart 37 = .ok (.aload 4, 2) := dk_25 4 (dk_at dksX1_setStart_1 14 rfl rfl)
theorem dX1_setStart_39 : decode cX1_setStart 39 = .ok (.getfield 170, 3) := dk_180 0 170 (dk_at dksX1_setStart_1 16 rfl rfl)
theorem dX1_setStart_42 : decode cX1_setStart 42 = .ok (.iload_n 1, 1) := dk_27 (dk_at dksX1_setStart_1 19 rfl rfl)
theorem dX1_setStart_43 : decode cX1_setStart 43 = .ok (.iload_n 2, 1) := dk_28 (dk_at dksX1_setStart_1 20 rfl rfl)
theorem dX1_setStart_44 : decode cX1_setStart 44 = .ok (.invokevirtual 190, 3) := dk_182 0 190 (dk_at dksX1_setStart_1 21 rfl rfl)
theorem dX1_setStart_47 : decode cX1_setStart 47 = .ok (.putfield 170, 3) := dk_181 0 170 (dk_at dksX1_setStart_2 0 rfl rfl)
theorem dX1_setStart_50 : decode cX1_setStart 50 = .ok (.iload_n 3, 1) := dk_29 (dk_at dksX1_setStart_2 3 rfl rfl)
theorem dX1_setStart_51 : decode cX1_setStart 51 = .ok (.ireturn, 1) := dk_172 (dk_at dksX1_setStart_2 4 rfl rfl)
abbrev cX1_setLimit : ByteArray := prog_1_method_20_code
def yX1_setLimit : MethodName := ⟨RX1, "setLimit", "(I)I"⟩
def dkwX1_setLimit_1 : List UInt8 := [27, 181, 0, 128, 28, 172]
abbrev dktX1_setLimit_1 : List UInt8 := dkwX1_setLimit_1 ++ []
def dkwX1_setLimit_0 : List UInt8 := [27, 133, 10, 20, 0, 194, 184, 0, 1, 184, 0, 89, 42, 180, 0, 38, 180, 0, 128, 61, 42, 182, 0, 183]
abbrev dktX1_setLimit_0 : List UInt8 := dkwX1_setLimit_0 ++ dktX1_setLimit_1
theorem dksX1_setLimit_0 : cX1_setLimit.data.toList.drop 0 = dktX1_setLimit_0 := by decide +kernel
theorem dksX1_setLimit_1 : cX1_setLimit.data.toList.drop 24 = dktX1_setLimit_1 := dk_seg dksX1_setLimit_0 24 rfl rfl
theorem dX1_setLimit_0 : decode cX1_setLimit 0 = .ok (.iload_n 1, 1) := dk_27 (dk_at dksX1_setLimit_0 0 rfl rfl)
theorem dX1_setLimit_1 : decode cX1_setLimit 1 = .ok (.i2l, 1) := dk_133 (dk_at dksX1_setLimit_0 1 rfl rfl)
theorem dX1_setLimit_2 : decode cX1_setLimit 2 = .ok (.lconst 1, 1) := dk_10 (dk_at dksX1_setLimit_0 2 rfl rfl)
theorem dX1_setLimit_3 : decode cX1_setLimit 3 = .ok (.ldc2_w 194, 3) := dk_20 0 194 (dk_at dksX1_setLimit_0 3 rfl rfl)
theorem dX1_setLimit_6 : decode cX1_setLimit 6 = .ok (.invokestatic 1, 3) := dk_184 0 1 (dk_at dksX1_setLimit_0 6 rfl rfl)
theorem dX1_setLimit_9 : decode cX1_setLimit 9 = .ok (.invokestatic 89, 3) := dk_184 0 89 (dk_at dksX1_setLimit_0 9 rfl rfl)
theorem dX1_setLimit_12 : decode cX1_setLimit 12 = .ok (.aload_n 0, 1) := dk_42 (dk_at dksX1_setLimit_0 12 rfl rfl)
theorem dX1_setLimit_13 : decode cX1_setLimit 13 = .ok (.getfield 38, 3) := dk_180 0 38 (dk_at dksX1_setLimit_0 13 rfl rfl)
theorem dX1_setLimit_16 : decode cX1_setLimit 16 = .ok (.getfield 128, 3) := dk_180 0 128 (dk_at dksX1_setLimit_0 16 rfl rfl)
theorem dX1_setLimit_19 : decode cX1_setLimit 19 = .ok (.istore_n 2, 1) := dk_61 (dk_at dksX1_setLimit_0 19 rfl rfl)
theorem dX1_setLimit_20 : decode cX1_setLimit 20 = .ok (.aload_n 0, 1) := dk_42 (dk_at dksX1_setLimit_0 20 rfl rfl)
theorem dX1_setLimit_21 : decode cX1_setLimit 21 = .ok (.invokevirtual 183, 3) := dk_182 0 183 (dk_at dksX1_setLimit_0 21 rfl rfl)
theorem dX1_setLimit_24 : decode cX1_setLimit 24 = .ok (.iload_n 1, 1) := dk_27 (dk_at dksX1_setLimit_1 0 rfl rfl)
theorem dX1_setLimit_25 : decode cX1_setLimit 25 = .ok (.putfield 128, 3) := dk_181 0 128 (dk_at dksX1_setLimit_1 1 rfl rfl)
theorem dX1_setLimit_28 : decode cX1_setLimit 28 = .ok (.iload_n 2, 1) := dk_28 (dk_at dksX1_setLimit_1 4 rfl rfl)
theorem dX1_setLimit_29 : decode cX1_setLimit 29 = .ok (.ireturn, 1) := dk_172 (dk_at dksX1_setLimit_1 5 rfl rfl)
abbrev cX1_setRestarts : ByteArray := prog_1_method_21_code
def yX1_setRestarts : MethodName := ⟨RX1, "setRestarts", "(I)I"⟩
def dkwX1_setRestarts_1 : List UInt8 := [27, 181, 0, 131, 28, 172]
abbrev dktX1_setRestarts_1 : List UInt8 := dkwX1_setRestarts_1 ++ []
def dkwX1_setRestarts_0 : List UInt8 := [27, 133, 9, 20, 0, 194, 184, 0, 1, 184, 0, 89, 42, 180, 0, 38, 180, 0, 131, 61, 42, 182, 0, 183]
abbrev dktX1_setRestarts_0 : List UInt8 := dkwX1_setRestarts_0 ++ dktX1_setRestarts_1
theorem dksX1_setRestarts_0 : cX1_setRestarts.data.toList.drop 0 = dktX1_setRestarts_0 := by decide +kernel
theorem dksX1_setRestarts_1 : cX1_setRestarts.data.toList.drop 24 = dktX1_setRestarts_1 := dk_seg dksX1_setRestarts_0 24 rfl rfl
theorem dX1_setRestarts_0 : decode cX1_setRestarts 0 = .ok (.iload_n 1, 1) := dk_27 (dk_at dksX1_setRestarts_0 0 rfl rfl)
theorem dX1_setRestarts_1 : decode cX1_setRestarts 1 = .ok (.i2l, 1) := dk_133 (dk_at dksX1_setRestarts_0 1 rfl rfl)
theorem dX1_setRestarts_2 : decode cX1_setRestarts 2 = .ok (.lconst 0, 1) := dk_9 (dk_at dksX1_setRestarts_0 2 rfl rfl)
theorem dX1_setRestarts_3 : decode cX1_setRestarts 3 = .ok (.ldc2_w 194, 3) := dk_20 0 194 (dk_at dksX1_setRestarts_0 3 rfl rfl)
theorem dX1_setRestarts_6 : decode cX1_setRestarts 6 = .ok (.invokestatic 1, 3) := dk_184 0 1 (dk_at dksX1_setRestarts_0 6 rfl rfl)
theorem dX1_setRestarts_9 : decode cX1_setRestarts 9 = .ok (.invokestatic 89, 3) := dk_184 0 89 (dk_at dksX1_setRestarts_0 9 rfl rfl)
theorem dX1_setRestarts_12 : decode cX1_setRestarts 12 = .ok (.aload_n 0, 1) := dk_42 (dk_at dksX1_setRestarts_0 12 rfl rfl)
theorem dX1_setRestarts_13 : decode cX1_setRestarts 13 = .ok (.getfield 38, 3) := dk_180 0 38 (dk_at dksX1_setRestarts_0 13 rfl rfl)
theorem dX1_setRestarts_16 : decode cX1_setRestarts 16 = .ok (.getfield 131, 3) := dk_180 0 131 (dk_at dksX1_setRestarts_0 16 rfl rfl)
theorem dX1_setRestarts_19 : decode cX1_setRestarts 19 = .ok (.istore_n 2, 1) := dk_61 (dk_at dksX1_setRestarts_0 19 rfl rfl)
theorem dX1_setRestarts_20 : decode cX1_setRestarts 20 = .ok (.aload_n 0, 1) := dk_42 (dk_at dksX1_setRestarts_0 20 rfl rfl)
theorem dX1_setRestarts_21 : decode cX1_setRestarts 21 = .ok (.invokevirtual 183, 3) := dk_182 0 183 (dk_at dksX1_setRestarts_0 21 rfl rfl)
theorem dX1_setRestarts_24 : decode cX1_setRestarts 24 = .ok (.iload_n 1, 1) := dk_27 (dk_at dksX1_setRestarts_1 0 rfl rfl)
theorem dX1_setRestarts_25 : decode cX1_setRestarts 25 = .ok (.putfield 131, 3) := dk_181 0 131 (dk_at dksX1_setRestarts_1 1 rfl rfl)
theorem dX1_setRestarts_28 : decode cX1_setRestarts 28 = .ok (.iload_n 2, 1) := dk_28 (dk_at dksX1_setRestarts_1 4 rfl rfl)
theorem dX1_setRestarts_29 : decode cX1_setRestarts 29 = .ok (.ireturn, 1) := dk_172 (dk_at dksX1_setRestarts_1 5 rfl rfl)
abbrev cX1_run : ByteArray := prog_1_method_24_code
def yX1_run : MethodName := ⟨RX1, "run", "(I)I"⟩
def dkwX1_run_3 : List UInt8 := [180, 0, 38, 180, 0, 138, 185, 0, 142, 1, 0, 28, 100, 172]
abbrev dktX1_run_3 : List UInt8 := dkwX1_run_3 ++ []
def dkwX1_run_2 : List UInt8 := [180, 0, 148, 154, 0, 18, 42, 180, 0, 38, 182, 0, 199, 54, 4, 132, 3, 1, 167, 255, 229, 42]
abbrev dktX1_run_2 : List UInt8 := dkwX1_run_2 ++ dktX1_run_3
def dkwX1_run_1 : List UInt8 := [61, 42, 42, 180, 0, 38, 182, 0, 196, 182, 0, 50, 3, 62, 29, 27, 162, 0, 28, 42, 180, 0, 38]
abbrev dktX1_run_1 : List UInt8 := dkwX1_run_1 ++ dktX1_run_2
def dkwX1_run_0 : List UInt8 := [27, 133, 10, 20, 0, 202, 184, 0, 1, 184, 0, 89, 42, 180, 0, 38, 180, 0, 138, 185, 0, 142, 1, 0]
abbrev dktX1_run_0 : List UInt8 := dkwX1_run_0 ++ dktX1_run_1
theorem dksX1_run_0 : cX1_run.data.toList.drop 0 = dktX1_run_0 := by decide +kernel
theorem dksX1_run_1 : cX1_run.data.toList.drop 24 = dktX1_run_1 := dk_seg dksX1_run_0 24 rfl rfl
theorem dksX1_run_2 : cX1_run.data.toList.drop 47 = dktX1_run_2 := dk_seg dksX1_run_1 23 rfl rfl
theorem dksX1_run_3 : cX1_run.data.toList.drop 69 = dktX1_run_3 := dk_seg dksX1_run_2 22 rfl rfl
theorem dX1_run_0 : decode cX1_run 0 = .ok (.iload_n 1, 1) := dk_27 (dk_at dksX1_run_0 0 rfl rfl)
theorem dX1_run_1 : decode cX1_run 1 = .ok (.i2l, 1) := dk_133 (dk_at dksX1_run_0 1 rfl rfl)
theorem dX1_run_2 : decode cX1_run 2 = .ok (.lconst 1, 1) := dk_10 (dk_at dksX1_run_0 2 rfl rfl)
theorem dX1_run_3 : decode cX1_run 3 = .ok (.ldc2_w 202, 3) := dk_20 0 202 (dk_at dksX1_run_0 3 rfl rfl)
theorem dX1_run_6 : decode cX1_run 6 = .ok (.invokestatic 1, 3) := dk_184 0 1 (dk_at dksX1_run_0 6 rfl rfl)
theorem dX1_run_9 : decode cX1_run 9 = .ok (.invokestatic 89, 3) := dk_184 0 89 (dk_at dksX1_run_0 9 rfl rfl)
theorem dX1_run_12 : decode cX1_run 12 = .ok (.aload_n 0, 1) := dk_42 (dk_at dksX1_run_0 12 rfl rfl)
theorem dX1_run_13 : decode cX1_run 13 = .ok (.getfield 38, 3) := dk_180 0 38 (dk_at dksX1_run_0 13 rfl rfl)
theorem dX1_run_16 : decode cX1_run 16 = .ok (.getfield 138, 3) := dk_180 0 138 (dk_at dksX1_run_0 16 rfl rfl)
theorem dX1_run_19 : decode cX1_run 19 = .ok (.invokeinterface 142 1, 5) := by decide +kernel
theorem dX1_run_24 : decode cX1_run 24 = .ok (.istore_n 2, 1) := dk_61 (dk_at dksX1_run_1 0 rfl rfl)
theorem dX1_run_25 : decode cX1_run 25 = .ok (.aload_n 0, 1) := dk_42 (dk_at dksX1_run_1 1 rfl rfl)
theorem dX1_run_26 : decode cX1_run 26 = .ok (.aload_n 0, 1) := dk_42 (dk_at dksX1_run_1 2 rfl rfl)
theorem dX1_run_27 : decode cX1_run 27 = .ok (.getfield 38, 3) := dk_180 0 38 (dk_at dksX1_run_1 3 rfl rfl)
theorem dX1_run_30 : decode cX1_run 30 = .ok (.invokevirtual 196, 3) := dk_182 0 196 (dk_at dksX1_run_1 6 rfl rfl)
theorem dX1_run_33 : decode cX1_run 33 = .ok (.invokevirtual 50, 3) := dk_182 0 50 (dk_at dksX1_run_1 9 rfl rfl)
theorem dX1_run_36 : decode cX1_run 36 = .ok (.iconst 0, 1) := dk_3 (dk_at dksX1_run_1 12 rfl rfl)
theorem dX1_run_37 : decode cX1_run 37 = .ok (.istore_n 3, 1) := dk_62 (dk_at dksX1_run_1 13 rfl rfl)
theorem dX1_run_38 : decode cX1_run 38 = .ok (.iload_n 3, 1) := dk_29 (dk_at dksX1_run_1 14 rfl rfl)
theorem dX1_run_39 : decode cX1_run 39 = .ok (.iload_n 1, 1) := dk_27 (dk_at dksX1_run_1 15 rfl rfl)
theorem dX1_run_40 : decode cX1_run 40 = .ok (.if_icmp .ge 28, 3) := dk_162 0 28 (dk_at dksX1_run_1 16 rfl rfl)
theorem dX1_run_43 : decode cX1_run 43 = .ok (.aload_n 0, 1) := dk_42 (dk_at dksX1_run_1 19 rfl rfl)
theorem dX1_run_44 : decode cX1_run 44 = .ok (.getfield 38, 3) := dk_180 0 38 (dk_at dksX1_run_1 20 rfl rfl)
theorem dX1_run_47 : decode cX1_run 47 = .ok (.getfield 148, 3) := dk_180 0 148 (dk_at dksX1_run_2 0 rfl rfl)
theorem dX1_run_50 : decode cX1_run 50 = .ok (.ifCond .ne 18, 3) := dk_154 0 18 (dk_at dksX1_run_2 3 rfl rfl)
theorem dX1_run_53 : decode cX1_run 53 = .ok (.aload_n 0, 1) := dk_42 (dk_at dksX1_run_2 6 rfl rfl)
theorem dX1_run_54 : decode cX1_run 54 = .ok (.getfield 38, 3) := dk_180 0 38 (dk_at dksX1_run_2 7 rfl rfl)
theorem dX1_run_57 : decode cX1_run 57 = .ok (.invokevirtual 199, 3) := dk_182 0 199 (dk_at dksX1_run_2 10 rfl rfl)
theorem dX1_run_60 : decode cX1_run 60 = .ok (.istore 4, 2) := dk_54 4 (dk_at dksX1_run_2 13 rfl rfl)
theorem dX1_run_62 : decode cX1_run 62 = .ok (.iinc 3 1, 3) := dk_132 3 1 (dk_at dksX1_run_2 15 rfl rfl)
theorem dX1_run_65 : decode cX1_run 65 = .ok (.goto (-27), 3) := dk_167 255 229 (dk_at dksX1_run_2 18 rfl rfl)
theorem dX1_run_68 : decode cX1_run 68 = .ok (.aload_n 0, 1) := dk_42 (dk_at dksX1_run_2 21 rfl rfl)
theorem dX1_run_69 : decode cX1_run 69 = .ok (.getfield 38, 3) := dk_180 0 38 (dk_at dksX1_run_3 0 rfl rfl)
theorem dX1_run_72 : decode cX1_run 72 = .ok (.getfield 138, 3) := dk_180 0 138 (dk_at dksX1_run_3 3 rfl rfl)
theorem dX1_run_75 : decode cX1_run 75 = .ok (.invokeinterface 142 1, 5) := by decide +kernel
theorem dX1_run_80 : decode cX1_run 80 = .ok (.iload_n 2, 1) := dk_28 (dk_at dksX1_run_3 11 rfl rfl)
theorem dX1_run_81 : decode cX1_run 81 = .ok (.isub, 1) := dk_100 (dk_at dksX1_run_3 12 rfl rfl)
theorem dX1_run_82 : decode cX1_run 82 = .ok (.ireturn, 1) := dk_172 (dk_at dksX1_run_3 13 rfl rfl)
abbrev cX1_chain : ByteArray := prog_1_method_28_code
def yX1_chain : MethodName := ⟨RX1, "chain", "(II)I"⟩
def dkwX1_chain_3 : List UInt8 := [182, 0, 224, 172, 42, 45, 182, 0, 227, 172, 187, 0, 13, 89, 183, 0, 15, 191]
abbrev dktX1_chain_3 : List UInt8 := dkwX1_chain_3 ++ []
def dkwX1_chain_2 : List UInt8 := [45, 182, 0, 218, 172, 45, 182, 0, 218, 154, 0, 7, 2, 167, 0, 7, 45, 182, 0, 221, 172, 45]
abbrev dktX1_chain_2 : List UInt8 := dkwX1_chain_2 ++ dktX1_chain_3
def dkwX1_chain_1 : List UInt8 := [170, 0, 0, 0, 61, 0, 0, 0, 0, 0, 0, 0, 3, 0, 0, 0, 29, 0, 0, 0, 34, 0, 0, 0, 50, 0, 0, 0, 55]
abbrev dktX1_chain_1 : List UInt8 := dkwX1_chain_1 ++ dktX1_chain_2
def dkwX1_chain_0 : List UInt8 := [42, 27, 182, 0, 214, 78, 28]
abbrev dktX1_chain_0 : List UInt8 := dkwX1_chain_0 ++ dktX1_chain_1
theorem dksX1_chain_0 : cX1_chain.data.toList.drop 0 = dktX1_chain_0 := by decide +kernel
theorem dksX1_chain_1 : cX1_chain.data.toList.drop 7 = dktX1_chain_1 := dk_seg dksX1_chain_0 7 rfl rfl
theorem dksX1_chain_2 : cX1_chain.data.toList.drop 36 = dktX1_chain_2 := dk_seg dksX1_chain_1 29 rfl rfl
theorem dksX1_chain_3 : cX1_chain.data.toList.drop 58 = dktX1_chain_3 := dk_seg dksX1_chain_2 22 rfl rfl
theorem dX1_chain_0 : decode cX1_chain 0 = .ok (.aload_n 0, 1) := dk_42 (dk_at dksX1_chain_0 0 rfl rfl)
theorem dX1_chain_1 : decode cX1_chain 1 = .ok (.iload_n 1, 1) := dk_27 (dk_at dksX1_chain_0 1 rfl rfl)
theorem dX1_chain_2 : decode cX1_chain 2 = .ok (.invokevirtual 214, 3) := dk_182 0 214 (dk_at dksX1_chain_0 2 rfl rfl)
theorem dX1_chain_5 : decode cX1_chain 5 = .ok (.astore_n 3, 1) := dk_78 (dk_at dksX1_chain_0 5 rfl rfl)
theorem dX1_chain_6 : decode cX1_chain 6 = .ok (.iload_n 2, 1) := dk_28 (dk_at dksX1_chain_0 6 rfl rfl)
theorem dX1_chain_7 : decode cX1_chain 7 = .ok (.tableswitch 61 0 3 #[29, 34, 50, 55], 29) := by decide +kernel
theorem dX1_chain_36 : decode cX1_chain 36 = .ok (.aload_n 3, 1) := dk_45 (dk_at dksX1_chain_2 0 rfl rfl)
theorem dX1_chain_37 : decode cX1_chain 37 = .ok (.invokevirtual 218, 3) := dk_182 0 218 (dk_at dksX1_chain_2 1 rfl rfl)
theorem dX1_chain_40 : decode cX1_chain 40 = .ok (.ireturn, 1) := dk_172 (dk_at dksX1_chain_2 4 rfl rfl)
theorem dX1_chain_41 : decode cX1_chain 41 = .ok (.aload_n 3, 1) := dk_45 (dk_at dksX1_chain_2 5 rfl rfl)
theorem dX1_chain_42 : decode cX1_chain 42 = .ok (.invokevirtual 218, 3) := dk_182 0 218 (dk_at dksX1_chain_2 6 rfl rfl)
theorem dX1_chain_45 : decode cX1_chain 45 = .ok (.ifCond .ne 7, 3) := dk_154 0 7 (dk_at dksX1_chain_2 9 rfl rfl)
theorem dX1_chain_48 : decode cX1_chain 48 = .ok (.iconst (-1), 1) := dk_2 (dk_at dksX1_chain_2 12 rfl rfl)
theorem dX1_chain_49 : decode cX1_chain 49 = .ok (.goto 7, 3) := dk_167 0 7 (dk_at dksX1_chain_2 13 rfl rfl)
theorem dX1_chain_52 : decode cX1_chain 52 = .ok (.aload_n 3, 1) := dk_45 (dk_at dksX1_chain_2 16 rfl rfl)
theorem dX1_chain_53 : decode cX1_chain 53 = .ok (.invokevirtual 221, 3) := dk_182 0 221 (dk_at dksX1_chain_2 17 rfl rfl)
theorem dX1_chain_56 : decode cX1_chain 56 = .ok (.ireturn, 1) := dk_172 (dk_at dksX1_chain_2 20 rfl rfl)
theorem dX1_chain_57 : decode cX1_chain 57 = .ok (.aload_n 3, 1) := dk_45 (dk_at dksX1_chain_2 21 rfl rfl)
theorem dX1_chain_58 : decode cX1_chain 58 = .ok (.invokevirtual 224, 3) := dk_182 0 224 (dk_at dksX1_chain_3 0 rfl rfl)
theorem dX1_chain_61 : decode cX1_chain 61 = .ok (.ireturn, 1) := dk_172 (dk_at dksX1_chain_3 3 rfl rfl)
theorem dX1_chain_62 : decode cX1_chain 62 = .ok (.aload_n 0, 1) := dk_42 (dk_at dksX1_chain_3 4 rfl rfl)
theorem dX1_chain_63 : decode cX1_chain 63 = .ok (.aload_n 3, 1) := dk_45 (dk_at dksX1_chain_3 5 rfl rfl)
theorem dX1_chain_64 : decode cX1_chain 64 = .ok (.invokevirtual 227, 3) := dk_182 0 227 (dk_at dksX1_chain_3 6 rfl rfl)
theorem dX1_chain_67 : decode cX1_chain 67 = .ok (.ireturn, 1) := dk_172 (dk_at dksX1_chain_3 9 rfl rfl)
theorem dX1_chain_68 : decode cX1_chain 68 = .ok (.new 13, 3) := dk_187 0 13 (dk_at dksX1_chain_3 10 rfl rfl)
theorem dX1_chain_71 : decode cX1_chain 71 = .ok (.dup, 1) := dk_89 (dk_at dksX1_chain_3 13 rfl rfl)
theorem dX1_chain_72 : decode cX1_chain 72 = .ok (.invokespecial 15, 3) := dk_183 0 15 (dk_at dksX1_chain_3 14 rfl rfl)
theorem dX1_chain_75 : decode cX1_chain 75 = .ok (.athrow, 1) := dk_191 (dk_at dksX1_chain_3 17 rfl rfl)
abbrev cX1_chainAt : ByteArray := prog_1_method_26_code
def yX1_chainAt : MethodName := ⟨RX1, "chainAt", "(I)LExactChains$Chain;"⟩
def dkwX1_chainAt_1 : List UInt8 := [185, 0, 204, 2, 0, 192, 0, 208, 176]
abbrev dktX1_chainAt_1 : List UInt8 := dkwX1_chainAt_1 ++ []
def dkwX1_chainAt_0 : List UInt8 := [27, 42, 180, 0, 38, 180, 0, 145, 185, 0, 142, 1, 0, 184, 0, 154, 42, 180, 0, 38, 180, 0, 145, 27]
abbrev dktX1_chainAt_0 : List UInt8 := dkwX1_chainAt_0 ++ dktX1_chainAt_1
theorem dksX1_chainAt_0 : cX1_chainAt.data.toList.drop 0 = dktX1_chainAt_0 := by decide +kernel
theorem dksX1_chainAt_1 : cX1_chainAt.data.toList.drop 24 = dktX1_chainAt_1 := dk_seg dksX1_chainAt_0 24 rfl rfl
theorem dX1_chainAt_0 : decode cX1_chainAt 0 = .ok (.iload_n 1, 1) := dk_27 (dk_at dksX1_chainAt_0 0 rfl rfl)
theorem dX1_chainAt_1 : decode cX1_chainAt 1 = .ok (.aload_n 0, 1) := dk_42 (dk_at dksX1_chainAt_0 1 rfl rfl)
theorem dX1_chainAt_2 : decode cX1_chainAt 2 = .ok (.getfield 38, 3) := dk_180 0 38 (dk_at dksX1_chainAt_0 2 rfl rfl)
theorem dX1_chainAt_5 : decode cX1_chainAt 5 = .ok (.getfield 145, 3) := dk_180 0 145 (dk_at dksX1_chainAt_0 5 rfl rfl)
theorem dX1_chainAt_8 : decode cX1_chainAt 8 = .ok (.invokeinterface 142 1, 5) := by decide +kernel
theorem dX1_chainAt_13 : decode cX1_chainAt 13 = .ok (.invokestatic 154, 3) := dk_184 0 154 (dk_at dksX1_chainAt_0 13 rfl rfl)
theorem dX1_chainAt_16 : decode cX1_chainAt 16 = .ok (.aload_n 0, 1) := dk_42 (dk_at dksX1_chainAt_0 16 rfl rfl)
theorem dX1_chainAt_17 : decode cX1_chainAt 17 = .ok (.getfield 38, 3) := dk_180 0 38 (dk_at dksX1_chainAt_0 17 rfl rfl)
theorem dX1_chainAt_20 : decode cX1_chainAt 20 = .ok (.getfield 145, 3) := dk_180 0 145 (dk_at dksX1_chainAt_0 20 rfl rfl)
theorem dX1_chainAt_23 : decode cX1_chainAt 23 = .ok (.iload_n 1, 1) := dk_27 (dk_at dksX1_chainAt_0 23 rfl rfl)
theorem dX1_chainAt_24 : decode cX1_chainAt 24 = .ok (.invokeinterface 204 2, 5) := by decide +kernel
theorem dX1_chainAt_29 : decode cX1_chainAt 29 = .ok (.checkcast 208, 3) := dk_192 0 208 (dk_at dksX1_chainAt_1 5 rfl rfl)
theorem dX1_chainAt_32 : decode cX1_chainAt 32 = .ok (.areturn, 1) := dk_176 (dk_at dksX1_chainAt_1 8 rfl rfl)
abbrev cX1_roots : ByteArray := prog_1_method_27_code
def yX1_roots : MethodName := ⟨RX1, "roots", "(LExactChains$Chain;)I"⟩
def dkwX1_roots_1 : List UInt8 := [29, 182, 0, 210, 154, 0, 7, 4, 167, 0, 4, 3, 96, 61, 132, 3, 1, 167, 255, 219, 28, 172]
abbrev dktX1_roots_1 : List UInt8 := dkwX1_roots_1 ++ []
def dkwX1_roots_0 : List UInt8 := [3, 61, 3, 62, 29, 42, 180, 0, 38, 180, 0, 119, 180, 0, 123, 162, 0, 29, 28, 42, 180, 0, 38, 43]
abbrev dktX1_roots_0 : List UInt8 := dkwX1_roots_0 ++ dktX1_roots_1
theorem dksX1_roots_0 : cX1_roots.data.toList.drop 0 = dktX1_roots_0 := by decide +kernel
theorem dksX1_roots_1 : cX1_roots.data.toList.drop 24 = dktX1_roots_1 := dk_seg dksX1_roots_0 24 rfl rfl
theorem dX1_roots_0 : decode cX1_roots 0 = .ok (.iconst 0, 1) := dk_3 (dk_at dksX1_roots_0 0 rfl rfl)
theorem dX1_roots_1 : decode cX1_roots 1 = .ok (.istore_n 2, 1) := dk_61 (dk_at dksX1_roots_0 1 rfl rfl)
theorem dX1_roots_2 : decode cX1_roots 2 = .ok (.iconst 0, 1) := dk_3 (dk_at dksX1_roots_0 2 rfl rfl)
theorem dX1_roots_3 : decode cX1_roots 3 = .ok (.istore_n 3, 1) := dk_62 (dk_at dksX1_roots_0 3 rfl rfl)
theorem dX1_roots_4 : decode cX1_roots 4 = .ok (.iload_n 3, 1) := dk_29 (dk_at dksX1_roots_0 4 rfl rfl)
theorem dX1_roots_5 : decode cX1_roots 5 = .ok (.aload_n 0, 1) := dk_42 (dk_at dksX1_roots_0 5 rfl rfl)
theorem dX1_roots_6 : decode cX1_roots 6 = .ok (.getfield 38, 3) := dk_180 0 38 (dk_at dksX1_roots_0 6 rfl rfl)
theorem dX1_roots_9 : decode cX1_roots 9 = .ok (.getfield 119, 3) := dk_180 0 119 (dk_at dksX1_roots_0 9 rfl rfl)
theorem dX1_roots_12 : decode cX1_roots 12 = .ok (.getfield 123, 3) := dk_180 0 123 (dk_at dksX1_roots_0 12 rfl rfl)
theorem dX1_roots_15 : decode cX1_roots 15 = .ok (.if_icmp .ge 29, 3) := dk_162 0 29 (dk_at dksX1_roots_0 15 rfl rfl)
theorem dX1_roots_18 : decode cX1_roots 18 = .ok (.iload_n 2, 1) := dk_28 (dk_at dksX1_roots_0 18 rfl rfl)
theorem dX1_roots_19 : decode cX1_roots 19 = .ok (.aload_n 0, 1) := dk_42 (dk_at dksX1_roots_0 19 rfl rfl)
theorem dX1_roots_20 : decode cX1_roots 20 = .ok (.getfield 38, 3) := dk_180 0 38 (dk_at dksX1_roots_0 20 rfl rfl)
theorem dX1_roots_23 : decode cX1_roots 23 = .ok (.aload_n 1, 1) := dk_43 (dk_at dksX1_roots_0 23 rfl rfl)
theorem dX1_roots_24 : decode cX1_roots 24 = .ok (.iload_n 3, 1) := dk_29 (dk_at dksX1_roots_1 0 rfl rfl)
theorem dX1_roots_25 : decode cX1_roots 25 = .ok (.invokevirtual 210, 3) := dk_182 0 210 (dk_at dksX1_roots_1 1 rfl rfl)
theorem dX1_roots_28 : decode cX1_roots 28 = .ok (.ifCond .ne 7, 3) := dk_154 0 7 (dk_at dksX1_roots_1 4 rfl rfl)
theorem dX1_roots_31 : decode cX1_roots 31 = .ok (.iconst 1, 1) := dk_4 (dk_at dksX1_roots_1 7 rfl rfl)
theorem dX1_roots_32 : decode cX1_roots 32 = .ok (.goto 4, 3) := dk_167 0 4 (dk_at dksX1_roots_1 8 rfl rfl)
theorem dX1_roots_35 : decode cX1_roots 35 = .ok (.iconst 0, 1) := dk_3 (dk_at dksX1_roots_1 11 rfl rfl)
theorem dX1_roots_36 : decode cX1_roots 36 = .ok (.iadd, 1) := dk_96 (dk_at dksX1_roots_1 12 rfl rfl)
theorem dX1_roots_37 : decode cX1_roots 37 = .ok (.istore_n 2, 1) := dk_61 (dk_at dksX1_roots_1 13 rfl rfl)
theorem dX1_roots_38 : decode cX1_roots 38 = .ok (.iinc 3 1, 3) := dk_132 3 1 (dk_at dksX1_roots_1 14 rfl rfl)
theorem dX1_roots_41 : decode cX1_roots 41 = .ok (.goto (-37), 3) := dk_167 255 219 (dk_at dksX1_roots_1 17 rfl rfl)
theorem dX1_roots_44 : decode cX1_roots 44 = .ok (.iload_n 2, 1) := dk_28 (dk_at dksX1_roots_1 20 rfl rfl)
theorem dX1_roots_45 : decode cX1_roots 45 = .ok (.ireturn, 1) := dk_172 (dk_at dksX1_roots_1 21 rfl rfl)
abbrev cX1_polynomial : ByteArray := prog_1_method_29_code
def yX1_polynomial : MethodName := ⟨RX1, "polynomial", "(II)I"⟩
def dkwX1_polynomial_0 : List UInt8 := [42, 27, 182, 0, 214, 78, 42, 28, 182, 0, 180, 42, 180, 0, 38, 45, 28, 182, 0, 210, 172]
abbrev dktX1_polynomial_0 : List UInt8 := dkwX1_polynomial_0 ++ []
theorem dksX1_polynomial_0 : cX1_polynomial.data.toList.drop 0 = dktX1_polynomial_0 := by decide +kernel
theorem dX1_polynomial_0 : decode cX1_polynomial 0 = .ok (.aload_n 0, 1) := dk_42 (dk_at dksX1_polynomial_0 0 rfl rfl)
theorem dX1_polynomial_1 : decode cX1_polynomial 1 = .ok (.iload_n 1, 1) := dk_27 (dk_at dksX1_polynomial_0 1 rfl rfl)
theorem dX1_polynomial_2 : decode cX1_polynomial 2 = .ok (.invokevirtual 214, 3) := dk_182 0 214 (dk_at dksX1_polynomial_0 2 rfl rfl)
theorem dX1_polynomial_5 : decode cX1_polynomial 5 = .ok (.astore_n 3, 1) := dk_78 (dk_at dksX1_polynomial_0 5 rfl rfl)
theorem dX1_polynomial_6 : decode cX1_polynomial 6 = .ok (.aload_n 0, 1) := dk_42 (dk_at dksX1_polynomial_0 6 rfl rfl)
theorem dX1_polynomial_7 : decode cX1_polynomial 7 = .ok (.iload_n 2, 1) := dk_28 (dk_at dksX1_polynomial_0 7 rfl rfl)
theorem dX1_polynomial_8 : decode cX1_polynomial 8 = .ok (.invokevirtual 180, 3) := dk_182 0 180 (dk_at dksX1_polynomial_0 8 rfl rfl)
theorem dX1_polynomial_11 : decode cX1_polynomial 11 = .ok (.aload_n 0, 1) := dk_42 (dk_at dksX1_polynomial_0 11 rfl rfl)
theorem dX1_polynomial_12 : decode cX1_polynomial 12 = .ok (.getfield 38, 3) := dk_180 0 38 (dk_at dksX1_polynomial_0 12 rfl rfl)
theorem dX1_polynomial_15 : decode cX1_polynomial 15 = .ok (.aload_n 3, 1) := dk_45 (dk_at dksX1_polynomial_0 15 rfl rfl)
theorem dX1_polynomial_16 : decode cX1_polynomial 16 = .ok (.iload_n 2, 1) := dk_28 (dk_at dksX1_polynomial_0 16 rfl rfl)
theorem dX1_polynomial_17 : decode cX1_polynomial 17 = .ok (.invokevirtual 210, 3) := dk_182 0 210 (dk_at dksX1_polynomial_0 17 rfl rfl)
theorem dX1_polynomial_20 : decode cX1_polynomial 20 = .ok (.ireturn, 1) := dk_172 (dk_at dksX1_polynomial_0 20 rfl rfl)
abbrev cX1_coefficient : ByteArray := prog_1_method_30_code
def yX1_coefficient : MethodName := ⟨RX1, "coefficient", "(II)I"⟩
def dkwX1_coefficient_1 : List UInt8 := [45, 182, 0, 231, 28, 46, 172]
abbrev dktX1_coefficient_1 : List UInt8 := dkwX1_coefficient_1 ++ []
def dkwX1_coefficient_0 : List UInt8 := [42, 27, 182, 0, 214, 78, 28, 133, 9, 45, 182, 0, 218, 133, 184, 0, 1, 184, 0, 89, 42, 180, 0, 38]
abbrev dktX1_coefficient_0 : List UInt8 := dkwX1_coefficient_0 ++ dktX1_coefficient_1
theorem dksX1_coefficient_0 : cX1_coefficient.data.toList.drop 0 = dktX1_coefficient_0 := by decide +kernel
theorem dksX1_coefficient_1 : cX1_coefficient.data.toList.drop 24 = dktX1_coefficient_1 := dk_seg dksX1_coefficient_0 24 rfl rfl
theorem dX1_coefficient_0 : decode cX1_coefficient 0 = .ok (.aload_n 0, 1) := dk_42 (dk_at dksX1_coefficient_0 0 rfl rfl)
theorem dX1_coefficient_1 : decode cX1_coefficient 1 = .ok (.iload_n 1, 1) := dk_27 (dk_at dksX1_coefficient_0 1 rfl rfl)
theorem dX1_coefficient_2 : decode cX1_coefficient 2 = .ok (.invokevirtual 214, 3) := dk_182 0 214 (dk_at dksX1_coefficient_0 2 rfl rfl)
theorem dX1_coefficient_5 : decode cX1_coefficient 5 = .ok (.astore_n 3, 1) := dk_78 (dk_at dksX1_coefficient_0 5 rfl rfl)
theorem dX1_coefficient_6 : decode cX1_coefficient 6 = .ok (.iload_n 2, 1) := dk_28 (dk_at dksX1_coefficient_0 6 rfl rfl)
theorem dX1_coefficient_7 : decode cX1_coefficient 7 = .ok (.i2l, 1) := dk_133 (dk_at dksX1_coefficient_0 7 rfl rfl)
theorem dX1_coefficient_8 : decode cX1_coefficient 8 = .ok (.lconst 0, 1) := dk_9 (dk_at dksX1_coefficient_0 8 rfl rfl)
theorem dX1_coefficient_9 : decode cX1_coefficient 9 = .ok (.aload_n 3, 1) := dk_45 (dk_at dksX1_coefficient_0 9 rfl rfl)
theorem dX1_coefficient_10 : decode cX1_coefficient 10 = .ok (.invokevirtual 218, 3) := dk_182 0 218 (dk_at dksX1_coefficient_0 10 rfl rfl)
theorem dX1_coefficient_13 : decode cX1_coefficient 13 = .ok (.i2l, 1) := dk_133 (dk_at dksX1_coefficient_0 13 rfl rfl)
theorem dX1_coefficient_14 : decode cX1_coefficient 14 = .ok (.invokestatic 1, 3) := dk_184 0 1 (dk_at dksX1_coefficient_0 14 rfl rfl)
theorem dX1_coefficient_17 : decode cX1_coefficient 17 = .ok (.invokestatic 89, 3) := dk_184 0 89 (dk_at dksX1_coefficient_0 17 rfl rfl)
theorem dX1_coefficient_20 : decode cX1_coefficient 20 = .ok (.aload_n 0, 1) := dk_42 (dk_at dksX1_coefficient_0 20 rfl rfl)
theorem dX1_coefficient_21 : decode cX1_coefficient 21 = .ok (.getfield 38, 3) := dk_180 0 38 (dk_at dksX1_coefficient_0 21 rfl rfl)
theorem dX1_coefficient_24 : decode cX1_coefficient 24 = .ok (.aload_n 3, 1) := dk_45 (dk_at dksX1_coefficient_1 0 rfl rfl)
theorem dX1_coefficient_25 : decode cX1_coefficient 25 = .ok (.invokevirtual 231, 3) := dk_182 0 231 (dk_at dksX1_coefficient_1 1 rfl rfl)
theorem dX1_coefficient_28 : decode cX1_coefficient 28 = .ok (.iload_n 2, 1) := dk_28 (dk_at dksX1_coefficient_1 4 rfl rfl)
theorem dX1_coefficient_29 : decode cX1_coefficient 29 = .ok (.iaload, 1) := dk_46 (dk_at dksX1_coefficient_1 5 rfl rfl)
theorem dX1_coefficient_30 : decode cX1_coefficient 30 = .ok (.ireturn, 1) := dk_172 (dk_at dksX1_coefficient_1 6 rfl rfl)
abbrev cX1_applied : ByteArray := prog_1_method_31_code
def yX1_applied : MethodName := ⟨RX1, "applied", "(III)I"⟩
def dkwX1_applied_2 : List UInt8 := [182, 0, 238, 180, 0, 174, 29, 46, 172]
abbrev dktX1_applied_2 : List UInt8 := dkwX1_applied_2 ++ []
def dkwX1_applied_1 : List UInt8 := [180, 0, 38, 42, 180, 0, 38, 25, 4, 182, 0, 231, 42, 180, 0, 38, 180, 0, 100, 28, 184, 0, 235]
abbrev dktX1_applied_1 : List UInt8 := dkwX1_applied_1 ++ dktX1_applied_2
def dkwX1_applied_0 : List UInt8 := [42, 27, 182, 0, 214, 58, 4, 42, 5, 188, 10, 89, 3, 28, 79, 89, 4, 29, 79, 182, 0, 162, 42]
abbrev dktX1_applied_0 : List UInt8 := dkwX1_applied_0 ++ dktX1_applied_1
theorem dksX1_applied_0 : cX1_applied.data.toList.drop 0 = dktX1_applied_0 := by decide +kernel
theorem dksX1_applied_1 : cX1_applied.data.toList.drop 23 = dktX1_applied_1 := dk_seg dksX1_applied_0 23 rfl rfl
theorem dksX1_applied_2 : cX1_applied.data.toList.drop 46 = dktX1_applied_2 := dk_seg dksX1_applied_1 23 rfl rfl
theorem dX1_applied_0 : decode cX1_applied 0 = .ok (.aload_n 0, 1) := dk_42 (dk_at dksX1_applied_0 0 rfl rfl)
theorem dX1_applied_1 : decode cX1_applied 1 = .ok (.iload_n 1, 1) := dk_27 (dk_at dksX1_applied_0 1 rfl rfl)
theorem dX1_applied_2 : decode cX1_applied 2 = .ok (.invokevirtual 214, 3) := dk_182 0 214 (dk_at dksX1_applied_0 2 rfl rfl)
theorem dX1_applied_5 : decode cX1_applied 5 = .ok (.astore 4, 2) := dk_58 4 (dk_at dksX1_applied_0 5 rfl rfl)
theorem dX1_applied_7 : decode cX1_applied 7 = .ok (.aload_n 0, 1) := dk_42 (dk_at dksX1_applied_0 7 rfl rfl)
theorem dX1_applied_8 : decode cX1_applied 8 = .ok (.iconst 2, 1) := dk_5 (dk_at dksX1_applied_0 8 rfl rfl)
theorem dX1_applied_9 : decode cX1_applied 9 = .ok (.newarray .int, 2) := dk_188_10 (dk_at dksX1_applied_0 9 rfl rfl)
theorem dX1_applied_11 : decode cX1_applied 11 = .ok (.dup, 1) := dk_89 (dk_at dksX1_applied_0 11 rfl rfl)
theorem dX1_applied_12 : decode cX1_applied 12 = .ok (.iconst 0, 1) := dk_3 (dk_at dksX1_applied_0 12 rfl rfl)
theorem dX1_applied_13 : decode cX1_applied 13 = .ok (.iload_n 2, 1) := dk_28 (dk_at dksX1_applied_0 13 rfl rfl)
theorem dX1_applied_14 : decode cX1_applied 14 = .ok (.iastore, 1) := dk_79 (dk_at dksX1_applied_0 14 rfl rfl)
theorem dX1_applied_15 : decode cX1_applied 15 = .ok (.dup, 1) := dk_89 (dk_at dksX1_applied_0 15 rfl rfl)
theorem dX1_applied_16 : decode cX1_applied 16 = .ok (.iconst 1, 1) := dk_4 (dk_at dksX1_applied_0 16 rfl rfl)
theorem dX1_applied_17 : decode cX1_applied 17 = .ok (.iload_n 3, 1) := dk_29 (dk_at dksX1_applied_0 17 rfl rfl)
theorem dX1_applied_18 : decode cX1_applied 18 = .ok (.iastore, 1) := dk_79 (dk_at dksX1_applied_0 18 rfl rfl)
theorem dX1_applied_19 : decode cX1_applied 19 = .ok (.invokevirtual 162, 3) := dk_182 0 162 (dk_at dksX1_applied_0 19 rfl rfl)
theorem dX1_applied_22 : decode cX1_applied 22 = .ok (.aload_n 0, 1) := dk_42 (dk_at dksX1_applied_0 22 rfl rfl)
theorem dX1_applied_23 : decode cX1_applied 23 = .ok (.getfield 38, 3) := dk_180 0 38 (dk_at dksX1_applied_1 0 rfl rfl)
theorem dX1_applied_26 : decode cX1_applied 26 = .ok (.aload_n 0, 1) := dk_42 (dk_at dksX1_applied_1 3 rfl rfl)
theorem dX1_applied_27 : decode cX1_applied 27 = .ok (.getfield 38, 3) := dk_180 0 38 (dk_at dksX1_applied_1 4 rfl rfl)
theorem dX1_applied_30 : decode cX1_applied 30 = .ok (.aload 4, 2) := dk_25 4 (dk_at dksX1_applied_1 7 rfl rfl)
theorem dX1_applied_32 : decode cX1_applied 32 = .ok (.invokevirtual 231, 3) := dk_182 0 231 (dk_at dksX1_applied_1 9 rfl rfl)
theorem dX1_applied_35 : decode cX1_applied 35 = .ok (.aload_n 0, 1) := dk_42 (dk_at dksX1_applied_1 12 rfl rfl)
theorem dX1_applied_36 : decode cX1_applied 36 = .ok (.getfield 38, 3) := dk_180 0 38 (dk_at dksX1_applied_1 13 rfl rfl)
theorem dX1_applied_39 : decode cX1_applied 39 = .ok (.getfield 100, 3) := dk_180 0 100 (dk_at dksX1_applied_1 16 rfl rfl)
theorem dX1_applied_42 : decode cX1_applied 42 = .ok (.iload_n 2, 1) := dk_28 (dk_at dksX1_applied_1 19 rfl rfl)
theorem dX1_applied_43 : decode cX1_applied 43 = .ok (.invokestatic 235, 3) := dk_184 0 235 (dk_at dksX1_applied_1 20 rfl rfl)
theorem dX1_applied_46 : decode cX1_applied 46 = .ok (.invokevirtual 238, 3) := dk_182 0 238 (dk_at dksX1_applied_2 0 rfl rfl)
theorem dX1_applied_49 : decode cX1_applied 49 = .ok (.getfield 174, 3) := dk_180 0 174 (dk_at dksX1_applied_2 3 rfl rfl)
theorem dX1_applied_52 : decode cX1_applied 52 = .ok (.iload_n 3, 1) := dk_29 (dk_at dksX1_applied_2 6 rfl rfl)
theorem dX1_applied_53 : decode cX1_applied 53 = .ok (.iaload, 1) := dk_46 (dk_at dksX1_applied_2 7 rfl rfl)
theorem dX1_applied_54 : decode cX1_applied 54 = .ok (.ireturn, 1) := dk_172 (dk_at dksX1_applied_2 8 rfl rfl)
abbrev cX1_ended : ByteArray := prog_1_method_32_code
def yX1_ended : MethodName := ⟨RX1, "ended", "(I)I"⟩
def dkwX1_ended_3 : List UInt8 := [172]
abbrev dktX1_ended_3 : List UInt8 := dkwX1_ended_3 ++ []
def dkwX1_ended_2 : List UInt8 := [192, 0, 208, 182, 0, 224, 27, 160, 0, 7, 4, 167, 0, 4, 3, 96, 61, 132, 3, 1, 167, 255, 206, 28]
abbrev dktX1_ended_2 : List UInt8 := dkwX1_ended_2 ++ dktX1_ended_3
def dkwX1_ended_1 : List UInt8 := [185, 0, 142, 1, 0, 162, 0, 40, 28, 42, 180, 0, 38, 180, 0, 145, 29, 185, 0, 204, 2, 0]
abbrev dktX1_ended_1 : List UInt8 := dkwX1_ended_1 ++ dktX1_ended_2
def dkwX1_ended_0 : List UInt8 := [27, 133, 9, 20, 0, 242, 184, 0, 1, 184, 0, 89, 3, 61, 3, 62, 29, 42, 180, 0, 38, 180, 0, 145]
abbrev dktX1_ended_0 : List UInt8 := dkwX1_ended_0 ++ dktX1_ended_1
theorem dksX1_ended_0 : cX1_ended.data.toList.drop 0 = dktX1_ended_0 := by decide +kernel
theorem dksX1_ended_1 : cX1_ended.data.toList.drop 24 = dktX1_ended_1 := dk_seg dksX1_ended_0 24 rfl rfl
theorem dksX1_ended_2 : cX1_ended.data.toList.drop 46 = dktX1_ended_2 := dk_seg dksX1_ended_1 22 rfl rfl
theorem dksX1_ended_3 : cX1_ended.data.toList.drop 70 = dktX1_ended_3 := dk_seg dksX1_ended_2 24 rfl rfl
theorem dX1_ended_0 : decode cX1_ended 0 = .ok (.iload_n 1, 1) := dk_27 (dk_at dksX1_ended_0 0 rfl rfl)
theorem dX1_ended_1 : decode cX1_ended 1 = .ok (.i2l, 1) := dk_133 (dk_at dksX1_ended_0 1 rfl rfl)
theorem dX1_ended_2 : decode cX1_ended 2 = .ok (.lconst 0, 1) := dk_9 (dk_at dksX1_ended_0 2 rfl rfl)
theorem dX1_ended_3 : decode cX1_ended 3 = .ok (.ldc2_w 242, 3) := dk_20 0 242 (dk_at dksX1_ended_0 3 rfl rfl)
theorem dX1_ended_6 : decode cX1_ended 6 = .ok (.invokestatic 1, 3) := dk_184 0 1 (dk_at dksX1_ended_0 6 rfl rfl)
theorem dX1_ended_9 : decode cX1_ended 9 = .ok (.invokestatic 89, 3) := dk_184 0 89 (dk_at dksX1_ended_0 9 rfl rfl)
theorem dX1_ended_12 : decode cX1_ended 12 = .ok (.iconst 0, 1) := dk_3 (dk_at dksX1_ended_0 12 rfl rfl)
theorem dX1_ended_13 : decode cX1_ended 13 = .ok (.istore_n 2, 1) := dk_61 (dk_at dksX1_ended_0 13 rfl rfl)
theorem dX1_ended_14 : decode cX1_ended 14 = .ok (.iconst 0, 1) := dk_3 (dk_at dksX1_ended_0 14 rfl rfl)
theorem dX1_ended_15 : decode cX1_ended 15 = .ok (.istore_n 3, 1) := dk_62 (dk_at dksX1_ended_0 15 rfl rfl)
theorem dX1_ended_16 : decode cX1_ended 16 = .ok (.iload_n 3, 1) := dk_29 (dk_at dksX1_ended_0 16 rfl rfl)
theorem dX1_ended_17 : decode cX1_ended 17 = .ok (.aload_n 0, 1) := dk_42 (dk_at dksX1_ended_0 17 rfl rfl)
theorem dX1_ended_18 : decode cX1_ended 18 = .ok (.getfield 38, 3) := dk_180 0 38 (dk_at dksX1_ended_0 18 rfl rfl)
theorem dX1_ended_21 : decode cX1_ended 21 = .ok (.getfield 145, 3) := dk_180 0 145 (dk_at dksX1_ended_0 21 rfl rfl)
theorem dX1_ended_24 : decode cX1_ended 24 = .ok (.invokeinterface 142 1, 5) := by decide +kernel
theorem dX1_ended_29 : decode cX1_ended 29 = .ok (.if_icmp .ge 40, 3) := dk_162 0 40 (dk_at dksX1_ended_1 5 rfl rfl)
theorem dX1_ended_32 : decode cX1_ended 32 = .ok (.iload_n 2, 1) := dk_28 (dk_at dksX1_ended_1 8 rfl rfl)
theorem dX1_ended_33 : decode cX1_ended 33 = .ok (.aload_n 0, 1) := dk_42 (dk_at dksX1_ended_1 9 rfl rfl)
theorem dX1_ended_34 : decode cX1_ended 34 = .ok (.getfield 38, 3) := dk_180 0 38 (dk_at dksX1_ended_1 10 rfl rfl)
theorem dX1_ended_37 : decode cX1_ended 37 = .ok (.getfield 145, 3) := dk_180 0 145 (dk_at dksX1_ended_1 13 rfl rfl)
theorem dX1_ended_40 : decode cX1_ended 40 = .ok (.iload_n 3, 1) := dk_29 (dk_at dksX1_ended_1 16 rfl rfl)
theorem dX1_ended_41 : decode cX1_ended 41 = .ok (.invokeinterface 204 2, 5) := by decide +kernel
theorem dX1_ended_46 : decode cX1_ended 46 = .ok (.checkcast 208, 3) := dk_192 0 208 (dk_at dksX1_ended_2 0 rfl rfl)
theorem dX1_ended_49 : decode cX1_ended 49 = .ok (.invokevirtual 224, 3) := dk_182 0 224 (dk_at dksX1_ended_2 3 rfl rfl)
theorem dX1_ended_52 : decode cX1_ended 52 = .ok (.iload_n 1, 1) := dk_27 (dk_at dksX1_ended_2 6 rfl rfl)
theorem dX1_ended_53 : decode cX1_ended 53 = .ok (.if_icmp .ne 7, 3) := dk_160 0 7 (dk_at dksX1_ended_2 7 rfl rfl)
theorem dX1_ended_56 : decode cX1_ended 56 = .ok (.iconst 1, 1) := dk_4 (dk_at dksX1_ended_2 10 rfl rfl)
theorem dX1_ended_57 : decode cX1_ended 57 = .ok (.goto 4, 3) := dk_167 0 4 (dk_at dksX1_ended_2 11 rfl rfl)
theorem dX1_ended_60 : decode cX1_ended 60 = .ok (.iconst 0, 1) := dk_3 (dk_at dksX1_ended_2 14 rfl rfl)
theorem dX1_ended_61 : decode cX1_ended 61 = .ok (.iadd, 1) := dk_96 (dk_at dksX1_ended_2 15 rfl rfl)
theorem dX1_ended_62 : decode cX1_ended 62 = .ok (.istore_n 2, 1) := dk_61 (dk_at dksX1_ended_2 16 rfl rfl)
theorem dX1_ended_63 : decode cX1_ended 63 = .ok (.iinc 3 1, 3) := dk_132 3 1 (dk_at dksX1_ended_2 17 rfl rfl)
theorem dX1_ended_66 : decode cX1_ended 66 = .ok (.goto (-50), 3) := dk_167 255 206 (dk_at dksX1_ended_2 20 rfl rfl)
theorem dX1_ended_69 : decode cX1_ended 69 = .ok (.iload_n 2, 1) := dk_28 (dk_at dksX1_ended_2 23 rfl rfl)
theorem dX1_ended_70 : decode cX1_ended 70 = .ok (.ireturn, 1) := dk_172 (dk_at dksX1_ended_3 0 rfl rfl)
abbrev cX1_direction : ByteArray := prog_1_method_34_code
def yX1_direction : MethodName := ⟨RX1, "direction", "(II)I"⟩
def dkwX1_direction_1 : List UInt8 := [180, 0, 38, 27, 182, 0, 247, 180, 0, 174, 28, 46, 172]
abbrev dktX1_direction_1 : List UInt8 := dkwX1_direction_1 ++ []
def dkwX1_direction_0 : List UInt8 := [42, 4, 188, 10, 89, 3, 27, 79, 182, 0, 244, 42, 4, 188, 10, 89, 3, 28, 79, 182, 0, 162, 42]
abbrev dktX1_direction_0 : List UInt8 := dkwX1_direction_0 ++ dktX1_direction_1
theorem dksX1_direction_0 : cX1_direction.data.toList.drop 0 = dktX1_direction_0 := by decide +kernel
theorem dksX1_direction_1 : cX1_direction.data.toList.drop 23 = dktX1_direction_1 := dk_seg dksX1_direction_0 23 rfl rfl
theorem dX1_direction_0 : decode cX1_direction 0 = .ok (.aload_n 0, 1) := dk_42 (dk_at dksX1_direction_0 0 rfl rfl)
theorem dX1_direction_1 : decode cX1_direction 1 = .ok (.iconst 1, 1) := dk_4 (dk_at dksX1_direction_0 1 rfl rfl)
theorem dX1_direction_2 : decode cX1_direction 2 = .ok (.newarray .int, 2) := dk_188_10 (dk_at dksX1_direction_0 2 rfl rfl)
theorem dX1_direction_4 : decode cX1_direction 4 = .ok (.dup, 1) := dk_89 (dk_at dksX1_direction_0 4 rfl rfl)
theorem dX1_direction_5 : decode cX1_direction 5 = .ok (.iconst 0, 1) := dk_3 (dk_at dksX1_direction_0 5 rfl rfl)
theorem dX1_direction_6 : decode cX1_direction 6 = .ok (.iload_n 1, 1) := dk_27 (dk_at dksX1_direction_0 6 rfl rfl)
theorem dX1_direction_7 : decode cX1_direction 7 = .ok (.iastore, 1) := dk_79 (dk_at dksX1_direction_0 7 rfl rfl)
theorem dX1_direction_8 : decode cX1_direction 8 = .ok (.invokevirtual 244, 3) := dk_182 0 244 (dk_at dksX1_direction_0 8 rfl rfl)
theorem dX1_direction_11 : decode cX1_direction 11 = .ok (.aload_n 0, 1) := dk_42 (dk_at dksX1_direction_0 11 rfl rfl)
theorem dX1_direction_12 : decode cX1_direction 12 = .ok (.iconst 1, 1) := dk_4 (dk_at dksX1_direction_0 12 rfl rfl)
theorem dX1_direction_13 : decode cX1_direction 13 = .ok (.newarray .int, 2) := dk_188_10 (dk_at dksX1_direction_0 13 rfl rfl)
theorem dX1_direction_15 : decode cX1_direction 15 = .ok (.dup, 1) := dk_89 (dk_at dksX1_direction_0 15 rfl rfl)
theorem dX1_direction_16 : decode cX1_direction 16 = .ok (.iconst 0, 1) := dk_3 (dk_at dksX1_direction_0 16 rfl rfl)
theorem dX1_direction_17 : decode cX1_direction 17 = .ok (.iload_n 2, 1) := dk_28 (dk_at dksX1_direction_0 17 rfl rfl)
theorem dX1_direction_18 : decode cX1_direction 18 = .ok (.iastore, 1) := dk_79 (dk_at dksX1_direction_0 18 rfl rfl)
theorem dX1_direction_19 : decode cX1_direction 19 = .ok (.invokevirtual 162, 3) := dk_182 0 162 (dk_at dksX1_direction_0 19 rfl rfl)
theorem dX1_direction_22 : decode cX1_direction 22 = .ok (.aload_n 0, 1) := dk_42 (dk_at dksX1_direction_0 22 rfl rfl)
theorem dX1_direction_23 : decode cX1_direction 23 = .ok (.getfield 38, 3) := dk_180 0 38 (dk_at dksX1_direction_1 0 rfl rfl)
theorem dX1_direction_26 : decode cX1_direction 26 = .ok (.iload_n 1, 1) := dk_27 (dk_at dksX1_direction_1 3 rfl rfl)
theorem dX1_direction_27 : decode cX1_direction 27 = .ok (.invokevirtual 247, 3) := dk_182 0 247 (dk_at dksX1_direction_1 4 rfl rfl)
theorem dX1_direction_30 : decode cX1_direction 30 = .ok (.getfield 174, 3) := dk_180 0 174 (dk_at dksX1_direction_1 7 rfl rfl)
theorem dX1_direction_33 : decode cX1_direction 33 = .ok (.iload_n 2, 1) := dk_28 (dk_at dksX1_direction_1 10 rfl rfl)
theorem dX1_direction_34 : decode cX1_direction 34 = .ok (.iaload, 1) := dk_46 (dk_at dksX1_direction_1 11 rfl rfl)
theorem dX1_direction_35 : decode cX1_direction 35 = .ok (.ireturn, 1) := dk_172 (dk_at dksX1_direction_1 12 rfl rfl)
abbrev cX1_requireDirections : ByteArray := prog_1_method_33_code
def yX1_requireDirections : MethodName := ⟨RX1, "requireDirections", "([I)V"⟩
def dkwX1_requireDirections_1 : List UInt8 := [180, 0, 38, 180, 0, 138, 185, 0, 142, 1, 0, 184, 0, 154, 132, 4, 1, 167, 255, 224, 177]
abbrev dktX1_requireDirections_1 : List UInt8 := dkwX1_requireDirections_1 ++ []
def dkwX1_requireDirections_0 : List UInt8 := [43, 77, 44, 190, 62, 3, 54, 4, 21, 4, 29, 162, 0, 32, 44, 21, 4, 46, 54, 5, 21, 5, 42]
abbrev dktX1_requireDirections_0 : List UInt8 := dkwX1_requireDirections_0 ++ dktX1_requireDirections_1
theorem dksX1_requireDirections_0 : cX1_requireDirections.data.toList.drop 0 = dktX1_requireDirections_0 := by decide +kernel
theorem dksX1_requireDirections_1 : cX1_requireDirections.data.toList.drop 23 = dktX1_requireDirections_1 := dk_seg dksX1_requireDirections_0 23 rfl rfl
theorem dX1_requireDirections_0 : decode cX1_requireDirections 0 = .ok (.aload_n 1, 1) := dk_43 (dk_at dksX1_requireDirections_0 0 rfl rfl)
theorem dX1_requireDirections_1 : decode cX1_requireDirections 1 = .ok (.astore_n 2, 1) := dk_77 (dk_at dksX1_requireDirections_0 1 rfl rfl)
theorem dX1_requireDirections_2 : decode cX1_requireDirections 2 = .ok (.aload_n 2, 1) := dk_44 (dk_at dksX1_requireDirections_0 2 rfl rfl)
theorem dX1_requireDirections_3 : decode cX1_requireDirections 3 = .ok (.arraylength, 1) := dk_190 (dk_at dksX1_requireDirections_0 3 rfl rfl)
theorem dX1_requireDirections_4 : decode cX1_requireDirections 4 = .ok (.istore_n 3, 1) := dk_62 (dk_at dksX1_requireDirections_0 4 rfl rfl)
theorem dX1_requireDirections_5 : decode cX1_requireDirections 5 = .ok (.iconst 0, 1) := dk_3 (dk_at dksX1_requireDirections_0 5 rfl rfl)
theorem dX1_requireDirections_6 : decode cX1_requireDirections 6 = .ok (.istore 4, 2) := dk_54 4 (dk_at dksX1_requireDirections_0 6 rfl rfl)
theorem dX1_requireDirections_8 : decode cX1_requireDirections 8 = .ok (.iload 4, 2) := dk_21 4 (dk_at dksX1_requireDirections_0 8 rfl rfl)
theorem dX1_requireDirections_10 : decode cX1_requireDirections 10 = .ok (.iload_n 3, 1) := dk_29 (dk_at dksX1_requireDirections_0 10 rfl rfl)
theorem dX1_requireDirections_11 : decode cX1_requireDirections 11 = .ok (.if_icmp .ge 32, 3) := dk_162 0 32 (dk_at dksX1_requireDirections_0 11 rfl rfl)
theorem dX1_requireDirections_14 : decode cX1_requireDirections 14 = .ok (.aload_n 2, 1) := dk_44 (dk_at dksX1_requireDirections_0 14 rfl rfl)
theorem dX1_requireDirections_15 : decode cX1_requireDirections 15 = .ok (.iload 4, 2) := dk_21 4 (dk_at dksX1_requireDirections_0 15 rfl rfl)
theorem dX1_requireDirections_17 : decode cX1_requireDirections 17 = .ok (.iaload, 1) := dk_46 (dk_at dksX1_requireDirections_0 17 rfl rfl)
theorem dX1_requireDirections_18 : decode cX1_requireDirections 18 = .ok (.istore 5, 2) := dk_54 5 (dk_at dksX1_requireDirections_0 18 rfl rfl)
theorem dX1_requireDirections_20 : decode cX1_requireDirections 20 = .ok (.iload 5, 2) := dk_21 5 (dk_at dksX1_requireDirections_0 20 rfl rfl)
theorem dX1_requireDirections_22 : decode cX1_requireDirections 22 = .ok (.aload_n 0, 1) := dk_42 (dk_at dksX1_requireDirections_0 22 rfl rfl)
theorem dX1_requireDirections_23 : decode cX1_requireDirections 23 = .ok (.getfield 38, 3) := dk_180 0 38 (dk_at dksX1_requireDirections_1 0 rfl rfl)
theorem dX1_requireDirections_26 : decode cX1_requireDirections 26 = .ok (.getfield 138, 3) := dk_180 0 138 (dk_at dksX1_requireDirections_1 3 rfl rfl)
theorem dX1_requireDirections_29 : decode cX1_requireDirections 29 = .ok (.invokeinterface 142 1, 5) := by decide +kernel
theorem dX1_requireDirections_34 : decode cX1_requireDirections 34 = .ok (.invokestatic 154, 3) := dk_184 0 154 (dk_at dksX1_requireDirections_1 11 rfl rfl)
theorem dX1_requireDirections_37 : decode cX1_requireDirections 37 = .ok (.iinc 4 1, 3) := dk_132 4 1 (dk_at dksX1_requireDirections_1 14 rfl rfl)
theorem dX1_requireDirections_40 : decode cX1_requireDirections 40 = .ok (.goto (-32), 3) := dk_167 255 224 (dk_at dksX1_requireDirections_1 17 rfl rfl)
theorem dX1_requireDirections_43 : decode cX1_requireDirections 43 = .ok (.return_, 1) := dk_177 (dk_at dksX1_requireDirections_1 20 rfl rfl)
abbrev cX1_chainOf : ByteArray := prog_1_method_35_code
def yX1_chainOf : MethodName := ⟨RX1, "chainOf", "(I)I"⟩
def dkwX1_chainOf_1 : List UInt8 := [192, 0, 251, 182, 0, 253, 172]
abbrev dktX1_chainOf_1 : List UInt8 := dkwX1_chainOf_1 ++ []
def dkwX1_chainOf_0 : List UInt8 := [42, 4, 188, 10, 89, 3, 27, 79, 182, 0, 244, 42, 180, 0, 38, 180, 0, 138, 27, 185, 0, 204, 2, 0]
abbrev dktX1_chainOf_0 : List UInt8 := dkwX1_chainOf_0 ++ dktX1_chainOf_1
theorem dksX1_chainOf_0 : cX1_chainOf.data.toList.drop 0 = dktX1_chainOf_0 := by decide +kernel
theorem dksX1_chainOf_1 : cX1_chainOf.data.toList.drop 24 = dktX1_chainOf_1 := dk_seg dksX1_chainOf_0 24 rfl rfl
theorem dX1_chainOf_0 : decode cX1_chainOf 0 = .ok (.aload_n 0, 1) := dk_42 (dk_at dksX1_chainOf_0 0 rfl rfl)
theorem dX1_chainOf_1 : decode cX1_chainOf 1 = .ok (.iconst 1, 1) := dk_4 (dk_at dksX1_chainOf_0 1 rfl rfl)
theorem dX1_chainOf_2 : decode cX1_chainOf 2 = .ok (.newarray .int, 2) := dk_188_10 (dk_at dksX1_chainOf_0 2 rfl rfl)
theorem dX1_chainOf_4 : decode cX1_chainOf 4 = .ok (.dup, 1) := dk_89 (dk_at dksX1_chainOf_0 4 rfl rfl)
theorem dX1_chainOf_5 : decode cX1_chainOf 5 = .ok (.iconst 0, 1) := dk_3 (dk_at dksX1_chainOf_0 5 rfl rfl)
theorem dX1_chainOf_6 : decode cX1_chainOf 6 = .ok (.iload_n 1, 1) := dk_27 (dk_at dksX1_chainOf_0 6 rfl rfl)
theorem dX1_chainOf_7 : decode cX1_chainOf 7 = .ok (.iastore, 1) := dk_79 (dk_at dksX1_chainOf_0 7 rfl rfl)
theorem dX1_chainOf_8 : decode cX1_chainOf 8 = .ok (.invokevirtual 244, 3) := dk_182 0 244 (dk_at dksX1_chainOf_0 8 rfl rfl)
theorem dX1_chainOf_11 : decode cX1_chainOf 11 = .ok (.aload_n 0, 1) := dk_42 (dk_at dksX1_chainOf_0 11 rfl rfl)
theorem dX1_chainOf_12 : decode cX1_chainOf 12 = .ok (.getfield 38, 3) := dk_180 0 38 (dk_at dksX1_chainOf_0 12 rfl rfl)
theorem dX1_chainOf_15 : decode cX1_chainOf 15 = .ok (.getfield 138, 3) := dk_180 0 138 (dk_at dksX1_chainOf_0 15 rfl rfl)
theorem dX1_chainOf_18 : decode cX1_chainOf 18 = .ok (.iload_n 1, 1) := dk_27 (dk_at dksX1_chainOf_0 18 rfl rfl)
theorem dX1_chainOf_19 : decode cX1_chainOf 19 = .ok (.invokeinterface 204 2, 5) := by decide +kernel
theorem dX1_chainOf_24 : decode cX1_chainOf 24 = .ok (.checkcast 251, 3) := dk_192 0 251 (dk_at dksX1_chainOf_1 0 rfl rfl)
theorem dX1_chainOf_27 : decode cX1_chainOf 27 = .ok (.invokevirtual 253, 3) := dk_182 0 253 (dk_at dksX1_chainOf_1 3 rfl rfl)
theorem dX1_chainOf_30 : decode cX1_chainOf 30 = .ok (.ireturn, 1) := dk_172 (dk_at dksX1_chainOf_1 6 rfl rfl)
abbrev cX1_product : ByteArray := prog_1_method_37_code
def yX1_product : MethodName := ⟨RX1, "product", "(II)I"⟩
def dkwX1_product_0 : List UInt8 := [42, 5, 188, 10, 89, 3, 27, 79, 89, 4, 28, 79, 182, 0, 244, 42, 27, 28, 182, 1, 4, 172]
abbrev dktX1_product_0 : List UInt8 := dkwX1_product_0 ++ []
theorem dksX1_product_0 : cX1_product.data.toList.drop 0 = dktX1_product_0 := by decide +kernel
theorem dX1_product_0 : decode cX1_product 0 = .ok (.aload_n 0, 1) := dk_42 (dk_at dksX1_product_0 0 rfl rfl)
theorem dX1_product_1 : decode cX1_product 1 = .ok (.iconst 2, 1) := dk_5 (dk_at dksX1_product_0 1 rfl rfl)
theorem dX1_product_2 : decode cX1_product 2 = .ok (.newarray .int, 2) := dk_188_10 (dk_at dksX1_product_0 2 rfl rfl)
theorem dX1_product_4 : decode cX1_product 4 = .ok (.dup, 1) := dk_89 (dk_at dksX1_product_0 4 rfl rfl)
theorem dX1_product_5 : decode cX1_product 5 = .ok (.iconst 0, 1) := dk_3 (dk_at dksX1_product_0 5 rfl rfl)
theorem dX1_product_6 : decode cX1_product 6 = .ok (.iload_n 1, 1) := dk_27 (dk_at dksX1_product_0 6 rfl rfl)
theorem dX1_product_7 : decode cX1_product 7 = .ok (.iastore, 1) := dk_79 (dk_at dksX1_product_0 7 rfl rfl)
theorem dX1_product_8 : decode cX1_product 8 = .ok (.dup, 1) := dk_89 (dk_at dksX1_product_0 8 rfl rfl)
theorem dX1_product_9 : decode cX1_product 9 = .ok (.iconst 1, 1) := dk_4 (dk_at dksX1_product_0 9 rfl rfl)
theorem dX1_product_10 : decode cX1_product 10 = .ok (.iload_n 2, 1) := dk_28 (dk_at dksX1_product_0 10 rfl rfl)
theorem dX1_product_11 : decode cX1_product 11 = .ok (.iastore, 1) := dk_79 (dk_at dksX1_product_0 11 rfl rfl)
theorem dX1_product_12 : decode cX1_product 12 = .ok (.invokevirtual 244, 3) := dk_182 0 244 (dk_at dksX1_product_0 12 rfl rfl)
theorem dX1_product_15 : decode cX1_product 15 = .ok (.aload_n 0, 1) := dk_42 (dk_at dksX1_product_0 15 rfl rfl)
theorem dX1_product_16 : decode cX1_product 16 = .ok (.iload_n 1, 1) := dk_27 (dk_at dksX1_product_0 16 rfl rfl)
theorem dX1_product_17 : decode cX1_product 17 = .ok (.iload_n 2, 1) := dk_28 (dk_at dksX1_product_0 17 rfl rfl)
theorem dX1_product_18 : decode cX1_product 18 = .ok (.invokevirtual 260, 3) := dk_182 1 4 (dk_at dksX1_product_0 18 rfl rfl)
theorem dX1_product_21 : decode cX1_product 21 = .ok (.ireturn, 1) := dk_172 (dk_at dksX1_product_0 21 rfl rfl)
abbrev cX1_projected : ByteArray := prog_1_method_40_code
def yX1_projected : MethodName := ⟨RX1, "projected", "(II)I"⟩
def dkwX1_projected_1 : List UInt8 := [172]
abbrev dktX1_projected_1 : List UInt8 := dkwX1_projected_1 ++ []
def dkwX1_projected_0 : List UInt8 := [42, 5, 188, 10, 89, 3, 27, 79, 89, 4, 28, 79, 182, 0, 244, 42, 180, 0, 38, 27, 28, 182, 1, 11]
abbrev dktX1_projected_0 : List UInt8 := dkwX1_projected_0 ++ dktX1_projected_1
theorem dksX1_projected_0 : cX1_projected.data.toList.drop 0 = dktX1_projected_0 := by decide +kernel
theorem dksX1_projected_1 : cX1_projected.data.toList.drop 24 = dktX1_projected_1 := dk_seg dksX1_projected_0 24 rfl rfl
theorem dX1_projected_0 : decode cX1_projected 0 = .ok (.aload_n 0, 1) := dk_42 (dk_at dksX1_projected_0 0 rfl rfl)
theorem dX1_projected_1 : decode cX1_projected 1 = .ok (.iconst 2, 1) := dk_5 (dk_at dksX1_projected_0 1 rfl rfl)
theorem dX1_projected_2 : decode cX1_projected 2 = .ok (.newarray .int, 2) := dk_188_10 (dk_at dksX1_projected_0 2 rfl rfl)
theorem dX1_projected_4 : decode cX1_projected 4 = .ok (.dup, 1) := dk_89 (dk_at dksX1_projected_0 4 rfl rfl)
theorem dX1_projected_5 : decode cX1_projected 5 = .ok (.iconst 0, 1) := dk_3 (dk_at dksX1_projected_0 5 rfl rfl)
theorem dX1_projected_6 : decode cX1_projected 6 = .ok (.iload_n 1, 1) := dk_27 (dk_at dksX1_projected_0 6 rfl rfl)
theorem dX1_projected_7 : decode cX1_projected 7 = .ok (.iastore, 1) := dk_79 (dk_at dksX1_projected_0 7 rfl rfl)
theorem dX1_projected_8 : decode cX1_projected 8 = .ok (.dup, 1) := dk_89 (dk_at dksX1_projected_0 8 rfl rfl)
theorem dX1_projected_9 : decode cX1_projected 9 = .ok (.iconst 1, 1) := dk_4 (dk_at dksX1_projected_0 9 rfl rfl)
theorem dX1_projected_10 : decode cX1_projected 10 = .ok (.iload_n 2, 1) := dk_28 (dk_at dksX1_projected_0 10 rfl rfl)
theorem dX1_projected_11 : decode cX1_projected 11 = .ok (.iastore, 1) := dk_79 (dk_at dksX1_projected_0 11 rfl rfl)
theorem dX1_projected_12 : decode cX1_projected 12 = .ok (.invokevirtual 244, 3) := dk_182 0 244 (dk_at dksX1_projected_0 12 rfl rfl)
theorem dX1_projected_15 : decode cX1_projected 15 = .ok (.aload_n 0, 1) := dk_42 (dk_at dksX1_projected_0 15 rfl rfl)
theorem dX1_projected_16 : decode cX1_projected 16 = .ok (.getfield 38, 3) := dk_180 0 38 (dk_at dksX1_projected_0 16 rfl rfl)
theorem dX1_projected_19 : decode cX1_projected 19 = .ok (.iload_n 1, 1) := dk_27 (dk_at dksX1_projected_0 19 rfl rfl)
theorem dX1_projected_20 : decode cX1_projected 20 = .ok (.iload_n 2, 1) := dk_28 (dk_at dksX1_projected_0 20 rfl rfl)
theorem dX1_projected_21 : decode cX1_projected 21 = .ok (.invokevirtual 267, 3) := dk_182 1 11 (dk_at dksX1_projected_0 21 rfl rfl)
theorem dX1_projected_24 : decode cX1_projected 24 = .ok (.ireturn, 1) := dk_172 (dk_at dksX1_projected_1 0 rfl rfl)
abbrev cX1_determinantAt : ByteArray := prog_1_method_45_code
def yX1_determinantAt : MethodName := ⟨RX1, "determinantAt", "(I)I"⟩
def dkwX1_determinantAt_0 : List UInt8 := [42, 27, 182, 0, 180, 42, 180, 0, 38, 27, 182, 1, 38, 172]
abbrev dktX1_determinantAt_0 : List UInt8 := dkwX1_determinantAt_0 ++ []
theorem dksX1_determinantAt_0 : cX1_determinantAt.data.toList.drop 0 = dktX1_determinantAt_0 := by decide +kernel
theorem dX1_determinantAt_0 : decode cX1_determinantAt 0 = .ok (.aload_n 0, 1) := dk_42 (dk_at dksX1_determinantAt_0 0 rfl rfl)
theorem dX1_determinantAt_1 : decode cX1_determinantAt 1 = .ok (.iload_n 1, 1) := dk_27 (dk_at dksX1_determinantAt_0 1 rfl rfl)
theorem dX1_determinantAt_2 : decode cX1_determinantAt 2 = .ok (.invokevirtual 180, 3) := dk_182 0 180 (dk_at dksX1_determinantAt_0 2 rfl rfl)
theorem dX1_determinantAt_5 : decode cX1_determinantAt 5 = .ok (.aload_n 0, 1) := dk_42 (dk_at dksX1_determinantAt_0 5 rfl rfl)
theorem dX1_determinantAt_6 : decode cX1_determinantAt 6 = .ok (.getfield 38, 3) := dk_180 0 38 (dk_at dksX1_determinantAt_0 6 rfl rfl)
theorem dX1_determinantAt_9 : decode cX1_determinantAt 9 = .ok (.iload_n 1, 1) := dk_27 (dk_at dksX1_determinantAt_0 9 rfl rfl)
theorem dX1_determinantAt_10 : decode cX1_determinantAt 10 = .ok (.invokevirtual 294, 3) := dk_182 1 38 (dk_at dksX1_determinantAt_0 10 rfl rfl)
theorem dX1_determinantAt_13 : decode cX1_determinantAt 13 = .ok (.ireturn, 1) := dk_172 (dk_at dksX1_determinantAt_0 13 rfl rfl)
abbrev cX1_dimension : ByteArray := prog_1_method_46_code
def yX1_dimension : MethodName := ⟨RX1, "dimension", "(I)I"⟩
def dkwX1_dimension_0 : List UInt8 := [42, 27, 182, 0, 180, 42, 180, 0, 38, 27, 182, 1, 41, 172]
abbrev dktX1_dimension_0 : List UInt8 := dkwX1_dimension_0 ++ []
theorem dksX1_dimension_0 : cX1_dimension.data.toList.drop 0 = dktX1_dimension_0 := by decide +kernel
theorem dX1_dimension_0 : decode cX1_dimension 0 = .ok (.aload_n 0, 1) := dk_42 (dk_at dksX1_dimension_0 0 rfl rfl)
theorem dX1_dimension_1 : decode cX1_dimension 1 = .ok (.iload_n 1, 1) := dk_27 (dk_at dksX1_dimension_0 1 rfl rfl)
theorem dX1_dimension_2 : decode cX1_dimension 2 = .ok (.invokevirtual 180, 3) := dk_182 0 180 (dk_at dksX1_dimension_0 2 rfl rfl)
theorem dX1_dimension_5 : decode cX1_dimension 5 = .ok (.aload_n 0, 1) := dk_42 (dk_at dksX1_dimension_0 5 rfl rfl)
theorem dX1_dimension_6 : decode cX1_dimension 6 = .ok (.getfield 38, 3) := dk_180 0 38 (dk_at dksX1_dimension_0 6 rfl rfl)
theorem dX1_dimension_9 : decode cX1_dimension 9 = .ok (.iload_n 1, 1) := dk_27 (dk_at dksX1_dimension_0 9 rfl rfl)
theorem dX1_dimension_10 : decode cX1_dimension 10 = .ok (.invokevirtual 297, 3) := dk_182 1 41 (dk_at dksX1_dimension_0 10 rfl rfl)
theorem dX1_dimension_13 : decode cX1_dimension 13 = .ok (.ireturn, 1) := dk_172 (dk_at dksX1_dimension_0 13 rfl rfl)
abbrev cX1_reachOf : ByteArray := prog_1_method_50_code
def yX1_reachOf : MethodName := ⟨RX1, "reachOf", "(I)I"⟩
def dkwX1_reachOf_1 : List UInt8 := [184, 0, 235, 182, 1, 44, 172]
abbrev dktX1_reachOf_1 : List UInt8 := dkwX1_reachOf_1 ++ []
def dkwX1_reachOf_0 : List UInt8 := [42, 4, 188, 10, 89, 3, 27, 79, 182, 0, 162, 42, 180, 0, 38, 42, 180, 0, 38, 180, 0, 100, 27]
abbrev dktX1_reachOf_0 : List UInt8 := dkwX1_reachOf_0 ++ dktX1_reachOf_1
theorem dksX1_reachOf_0 : cX1_reachOf.data.toList.drop 0 = dktX1_reachOf_0 := by decide +kernel
theorem dksX1_reachOf_1 : cX1_reachOf.data.toList.drop 23 = dktX1_reachOf_1 := dk_seg dksX1_reachOf_0 23 rfl rfl
theorem dX1_reachOf_0 : decode cX1_reachOf 0 = .ok (.aload_n 0, 1) := dk_42 (dk_at dksX1_reachOf_0 0 rfl rfl)
theorem dX1_reachOf_1 : decode cX1_reachOf 1 = .ok (.iconst 1, 1) := dk_4 (dk_at dksX1_reachOf_0 1 rfl rfl)
theorem dX1_reachOf_2 : decode cX1_reachOf 2 = .ok (.newarray .int, 2) := dk_188_10 (dk_at dksX1_reachOf_0 2 rfl rfl)
theorem dX1_reachOf_4 : decode cX1_reachOf 4 = .ok (.dup, 1) := dk_89 (dk_at dksX1_reachOf_0 4 rfl rfl)
theorem dX1_reachOf_5 : decode cX1_reachOf 5 = .ok (.iconst 0, 1) := dk_3 (dk_at dksX1_reachOf_0 5 rfl rfl)
theorem dX1_reachOf_6 : decode cX1_reachOf 6 = .ok (.iload_n 1, 1) := dk_27 (dk_at dksX1_reachOf_0 6 rfl rfl)
theorem dX1_reachOf_7 : decode cX1_reachOf 7 = .ok (.iastore, 1) := dk_79 (dk_at dksX1_reachOf_0 7 rfl rfl)
theorem dX1_reachOf_8 : decode cX1_reachOf 8 = .ok (.invokevirtual 162, 3) := dk_182 0 162 (dk_at dksX1_reachOf_0 8 rfl rfl)
theorem dX1_reachOf_11 : decode cX1_reachOf 11 = .ok (.aload_n 0, 1) := dk_42 (dk_at dksX1_reachOf_0 11 rfl rfl)
theorem dX1_reachOf_12 : decode cX1_reachOf 12 = .ok (.getfield 38, 3) := dk_180 0 38 (dk_at dksX1_reachOf_0 12 rfl rfl)
theorem dX1_reachOf_15 : decode cX1_reachOf 15 = .ok (.aload_n 0, 1) := dk_42 (dk_at dksX1_reachOf_0 15 rfl rfl)
theorem dX1_reachOf_16 : decode cX1_reachOf 16 = .ok (.getfield 38, 3) := dk_180 0 38 (dk_at dksX1_reachOf_0 16 rfl rfl)
theorem dX1_reachOf_19 : decode cX1_reachOf 19 = .ok (.getfield 100, 3) := dk_180 0 100 (dk_at dksX1_reachOf_0 19 rfl rfl)
theorem dX1_reachOf_22 : decode cX1_reachOf 22 = .ok (.iload_n 1, 1) := dk_27 (dk_at dksX1_reachOf_0 22 rfl rfl)
theorem dX1_reachOf_23 : decode cX1_reachOf 23 = .ok (.invokestatic 235, 3) := dk_184 0 235 (dk_at dksX1_reachOf_1 0 rfl rfl)
theorem dX1_reachOf_26 : decode cX1_reachOf 26 = .ok (.invokevirtual 300, 3) := dk_182 1 44 (dk_at dksX1_reachOf_1 3 rfl rfl)
theorem dX1_reachOf_29 : decode cX1_reachOf 29 = .ok (.ireturn, 1) := dk_172 (dk_at dksX1_reachOf_1 6 rfl rfl)
abbrev cX1_solution : ByteArray := prog_1_method_51_code
def yX1_solution : MethodName := ⟨RX1, "solution", "(I)I"⟩
def dkwX1_solution_3 : List UInt8 := [167, 0, 4, 3, 184, 1, 56, 44, 180, 0, 174, 27, 46, 172]
abbrev dktX1_solution_3 : List UInt8 := dkwX1_solution_3 ++ []
def dkwX1_solution_2 : List UInt8 := [160, 0, 7, 4, 167, 0, 4, 3, 184, 0, 81, 42, 180, 0, 38, 182, 1, 52, 77, 44, 198, 0, 7, 4]
abbrev dktX1_solution_2 : List UInt8 := dkwX1_solution_2 ++ dktX1_solution_3
def dkwX1_solution_1 : List UInt8 := [154, 0, 30, 42, 180, 0, 38, 180, 0, 145, 3, 185, 0, 204, 2, 0, 192, 0, 208, 182, 0, 224, 4]
abbrev dktX1_solution_1 : List UInt8 := dkwX1_solution_1 ++ dktX1_solution_2
def dkwX1_solution_0 : List UInt8 := [42, 4, 188, 10, 89, 3, 27, 79, 182, 0, 162, 42, 180, 0, 38, 180, 0, 145, 185, 1, 48, 1, 0]
abbrev dktX1_solution_0 : List UInt8 := dkwX1_solution_0 ++ dktX1_solution_1
theorem dksX1_solution_0 : cX1_solution.data.toList.drop 0 = dktX1_solution_0 := by decide +kernel
theorem dksX1_solution_1 : cX1_solution.data.toList.drop 23 = dktX1_solution_1 := dk_seg dksX1_solution_0 23 rfl rfl
theorem dksX1_solution_2 : cX1_solution.data.toList.drop 46 = dktX1_solution_2 := dk_seg dksX1_solution_1 23 rfl rfl
theorem dksX1_solution_3 : cX1_solution.data.toList.drop 70 = dktX1_solution_3 := dk_seg dksX1_solution_2 24 rfl rfl
theorem dX1_solution_0 : decode cX1_solution 0 = .ok (.aload_n 0, 1) := dk_42 (dk_at dksX1_solution_0 0 rfl rfl)
theorem dX1_solution_1 : decode cX1_solution 1 = .ok (.iconst 1, 1) := dk_4 (dk_at dksX1_solution_0 1 rfl rfl)
theorem dX1_solution_2 : decode cX1_solution 2 = .ok (.newarray .int, 2) := dk_188_10 (dk_at dksX1_solution_0 2 rfl rfl)
theorem dX1_solution_4 : decode cX1_solution 4 = .ok (.dup, 1) := dk_89 (dk_at dksX1_solution_0 4 rfl rfl)
theorem dX1_solution_5 : decode cX1_solution 5 = .ok (.iconst 0, 1) := dk_3 (dk_at dksX1_solution_0 5 rfl rfl)
theorem dX1_solution_6 : decode cX1_solution 6 = .ok (.iload_n 1, 1) := dk_27 (dk_at dksX1_solution_0 6 rfl rfl)
theorem dX1_solution_7 : decode cX1_solution 7 = .ok (.iastore, 1) := dk_79 (dk_at dksX1_solution_0 7 rfl rfl)
theorem dX1_solution_8 : decode cX1_solution 8 = .ok (.invokevirtual 162, 3) := dk_182 0 162 (dk_at dksX1_solution_0 8 rfl rfl)
theorem dX1_solution_11 : decode cX1_solution 11 = .ok (.aload_n 0, 1) := dk_42 (dk_at dksX1_solution_0 11 rfl rfl)
theorem dX1_solution_12 : decode cX1_solution 12 = .ok (.getfield 38, 3) := dk_180 0 38 (dk_at dksX1_solution_0 12 rfl rfl)
theorem dX1_solution_15 : decode cX1_solution 15 = .ok (.getfield 145, 3) := dk_180 0 145 (dk_at dksX1_solution_0 15 rfl rfl)
theorem dX1_solution_18 : decode cX1_solution 18 = .ok (.invokeinterface 304 1, 5) := by decide +kernel
theorem dX1_solution_23 : decode cX1_solution 23 = .ok (.ifCond .ne 30, 3) := dk_154 0 30 (dk_at dksX1_solution_1 0 rfl rfl)
theorem dX1_solution_26 : decode cX1_solution 26 = .ok (.aload_n 0, 1) := dk_42 (dk_at dksX1_solution_1 3 rfl rfl)
theorem dX1_solution_27 : decode cX1_solution 27 = .ok (.getfield 38, 3) := dk_180 0 38 (dk_at dksX1_solution_1 4 rfl rfl)
theorem dX1_solution_30 : decode cX1_solution 30 = .ok (.getfield 145, 3) := dk_180 0 145 (dk_at dksX1_solution_1 7 rfl rfl)
theorem dX1_solution_33 : decode cX1_solution 33 = .ok (.iconst 0, 1) := dk_3 (dk_at dksX1_solution_1 10 rfl rfl)
theorem dX1_solution_34 : decode cX1_solution 34 = .ok (.invokeinterface 204 2, 5) := by decide +kernel
theorem dX1_solution_39 : decode cX1_solution 39 = .ok (.checkcast 208, 3) := dk_192 0 208 (dk_at dksX1_solution_1 16 rfl rfl)
theorem dX1_solution_42 : decode cX1_solution 42 = .ok (.invokevirtual 224, 3) := dk_182 0 224 (dk_at dksX1_solution_1 19 rfl rfl)
theorem dX1_solution_45 : decode cX1_solution 45 = .ok (.iconst 1, 1) := dk_4 (dk_at dksX1_solution_1 22 rfl rfl)
theorem dX1_solution_46 : decode cX1_solution 46 = .ok (.if_icmp .ne 7, 3) := dk_160 0 7 (dk_at dksX1_solution_2 0 rfl rfl)
theorem dX1_solution_49 : decode cX1_solution 49 = .ok (.iconst 1, 1) := dk_4 (dk_at dksX1_solution_2 3 rfl rfl)
theorem dX1_solution_50 : decode cX1_solution 50 = .ok (.goto 4, 3) := dk_167 0 4 (dk_at dksX1_solution_2 4 rfl rfl)
theorem dX1_solution_53 : decode cX1_solution 53 = .ok (.iconst 0, 1) := dk_3 (dk_at dksX1_solution_2 7 rfl rfl)
theorem dX1_solution_54 : decode cX1_solution 54 = .ok (.invokestatic 81, 3) := dk_184 0 81 (dk_at dksX1_solution_2 8 rfl rfl)
theorem dX1_solution_57 : decode cX1_solution 57 = .ok (.aload_n 0, 1) := dk_42 (dk_at dksX1_solution_2 11 rfl rfl)
theorem dX1_solution_58 : decode cX1_solution 58 = .ok (.getfield 38, 3) := dk_180 0 38 (dk_at dksX1_solution_2 12 rfl rfl)
theorem dX1_solution_61 : decode cX1_solution 61 = .ok (.invokevirtual 308, 3) := dk_182 1 52 (dk_at dksX1_solution_2 15 rfl rfl)
theorem dX1_solution_64 : decode cX1_solution 64 = .ok (.astore_n 2, 1) := dk_77 (dk_at dksX1_solution_2 18 rfl rfl)
theorem dX1_solution_65 : decode cX1_solution 65 = .ok (.aload_n 2, 1) := dk_44 (dk_at dksX1_solution_2 19 rfl rfl)
theorem dX1_solution_66 : decode cX1_solution 66 = .ok (.ifnull 7, 3) := dk_198 0 7 (dk_at dksX1_solution_2 20 rfl rfl)
theorem dX1_solution_69 : decode cX1_solution 69 = .ok (.iconst 1, 1) := dk_4 (dk_at dksX1_solution_2 23 rfl rfl)
theorem dX1_solution_70 : decode cX1_solution 70 = .ok (.goto 4, 3) := dk_167 0 4 (dk_at dksX1_solution_3 0 rfl rfl)
theorem dX1_solution_73 : decode cX1_solution 73 = .ok (.iconst 0, 1) := dk_3 (dk_at dksX1_solution_3 3 rfl rfl)
theorem dX1_solution_74 : decode cX1_solution 74 = .ok (.invokestatic 312, 3) := dk_184 1 56 (dk_at dksX1_solution_3 4 rfl rfl)
theorem dX1_solution_77 : decode cX1_solution 77 = .ok (.aload_n 2, 1) := dk_44 (dk_at dksX1_solution_3 7 rfl rfl)
theorem dX1_solution_78 : decode cX1_solution 78 = .ok (.getfield 174, 3) := dk_180 0 174 (dk_at dksX1_solution_3 8 rfl rfl)
theorem dX1_solution_81 : decode cX1_solution 81 = .ok (.iload_n 1, 1) := dk_27 (dk_at dksX1_solution_3 11 rfl rfl)
theorem dX1_solution_82 : decode cX1_solution 82 = .ok (.iaload, 1) := dk_46 (dk_at dksX1_solution_3 12 rfl rfl)
theorem dX1_solution_83 : decode cX1_solution 83 = .ok (.ireturn, 1) := dk_172 (dk_at dksX1_solution_3 13 rfl rfl)
abbrev cX1_requireElement : ByteArray := prog_1_method_5_code
def yX1_requireElement : MethodName := ⟨RX1, "requireElement", "(Z)V"⟩
def dkwX1_requireElement_0 : List UInt8 := [26, 154, 0, 11, 187, 0, 19, 89, 183, 0, 21, 191, 177]
abbrev dktX1_requireElement_0 : List UInt8 := dkwX1_requireElement_0 ++ []
theorem dksX1_requireElement_0 : cX1_requireElement.data.toList.drop 0 = dktX1_requireElement_0 := by decide +kernel
theorem dX1_requireElement_0 : decode cX1_requireElement 0 = .ok (.iload_n 0, 1) := dk_26 (dk_at dksX1_requireElement_0 0 rfl rfl)
theorem dX1_requireElement_1 : decode cX1_requireElement 1 = .ok (.ifCond .ne 11, 3) := dk_154 0 11 (dk_at dksX1_requireElement_0 1 rfl rfl)
theorem dX1_requireElement_4 : decode cX1_requireElement 4 = .ok (.new 19, 3) := dk_187 0 19 (dk_at dksX1_requireElement_0 4 rfl rfl)
theorem dX1_requireElement_7 : decode cX1_requireElement 7 = .ok (.dup, 1) := dk_89 (dk_at dksX1_requireElement_0 7 rfl rfl)
theorem dX1_requireElement_8 : decode cX1_requireElement 8 = .ok (.invokespecial 21, 3) := dk_183 0 21 (dk_at dksX1_requireElement_0 8 rfl rfl)
theorem dX1_requireElement_11 : decode cX1_requireElement 11 = .ok (.athrow, 1) := dk_191 (dk_at dksX1_requireElement_0 11 rfl rfl)
theorem dX1_requireElement_12 : decode cX1_requireElement 12 = .ok (.return_, 1) := dk_177 (dk_at dksX1_requireElement_0 12 rfl rfl)
abbrev cX1_remainder : ByteArray := prog_1_method_52_code
def yX1_remainder : MethodName := ⟨RX1, "remainder", "(II)I"⟩
def dkwX1_remainder_1 : List UInt8 := [180, 0, 100, 27, 184, 0, 235, 182, 1, 59, 180, 0, 174, 28, 46, 172]
abbrev dktX1_remainder_1 : List UInt8 := dkwX1_remainder_1 ++ []
def dkwX1_remainder_0 : List UInt8 := [42, 5, 188, 10, 89, 3, 27, 79, 89, 4, 28, 79, 182, 0, 162, 42, 180, 0, 38, 42, 180, 0, 38]
abbrev dktX1_remainder_0 : List UInt8 := dkwX1_remainder_0 ++ dktX1_remainder_1
theorem dksX1_remainder_0 : cX1_remainder.data.toList.drop 0 = dktX1_remainder_0 := by decide +kernel
theorem dksX1_remainder_1 : cX1_remainder.data.toList.drop 23 = dktX1_remainder_1 := dk_seg dksX1_remainder_0 23 rfl rfl
theorem dX1_remainder_0 : decode cX1_remainder 0 = .ok (.aload_n 0, 1) := dk_42 (dk_at dksX1_remainder_0 0 rfl rfl)
theorem dX1_remainder_1 : decode cX1_remainder 1 = .ok (.iconst 2, 1) := dk_5 (dk_at dksX1_remainder_0 1 rfl rfl)
theorem dX1_remainder_2 : decode cX1_remainder 2 = .ok (.newarray .int, 2) := dk_188_10 (dk_at dksX1_remainder_0 2 rfl rfl)
theorem dX1_remainder_4 : decode cX1_remainder 4 = .ok (.dup, 1) := dk_89 (dk_at dksX1_remainder_0 4 rfl rfl)
theorem dX1_remainder_5 : decode cX1_remainder 5 = .ok (.iconst 0, 1) := dk_3 (dk_at dksX1_remainder_0 5 rfl rfl)
theorem dX1_remainder_6 : decode cX1_remainder 6 = .ok (.iload_n 1, 1) := dk_27 (dk_at dksX1_remainder_0 6 rfl rfl)
theorem dX1_remainder_7 : decode cX1_remainder 7 = .ok (.iastore, 1) := dk_79 (dk_at dksX1_remainder_0 7 rfl rfl)
theorem dX1_remainder_8 : decode cX1_remainder 8 = .ok (.dup, 1) := dk_89 (dk_at dksX1_remainder_0 8 rfl rfl)
theorem dX1_remainder_9 : decode cX1_remainder 9 = .ok (.iconst 1, 1) := dk_4 (dk_at dksX1_remainder_0 9 rfl rfl)
theorem dX1_remainder_10 : decode cX1_remainder 10 = .ok (.iload_n 2, 1) := dk_28 (dk_at dksX1_remainder_0 10 rfl rfl)
theorem dX1_remainder_11 : decode cX1_remainder 11 = .ok (.iastore, 1) := dk_79 (dk_at dksX1_remainder_0 11 rfl rfl)
theorem dX1_remainder_12 : decode cX1_remainder 12 = .ok (.invokevirtual 162, 3) := dk_182 0 162 (dk_at dksX1_remainder_0 12 rfl rfl)
theorem dX1_remainder_15 : decode cX1_remainder 15 = .ok (.aload_n 0, 1) := dk_42 (dk_at dksX1_remainder_0 15 rfl rfl)
theorem dX1_remainder_16 : decode cX1_remainder 16 = .ok (.getfield 38, 3) := dk_180 0 38 (dk_at dksX1_remainder_0 16 rfl rfl)
theorem dX1_remainder_19 : decode cX1_remainder 19 = .ok (.aload_n 0, 1) := dk_42 (dk_at dksX1_remainder_0 19 rfl rfl)
theorem dX1_remainder_20 : decode cX1_remainder 20 = .ok (.getfield 38, 3) := dk_180 0 38 (dk_at dksX1_remainder_0 20 rfl rfl)
theorem dX1_remainder_23 : decode cX1_remainder 23 = .ok (.getfield 100, 3) := dk_180 0 100 (dk_at dksX1_remainder_1 0 rfl rfl)
theorem dX1_remainder_26 : decode cX1_remainder 26 = .ok (.iload_n 1, 1) := dk_27 (dk_at dksX1_remainder_1 3 rfl rfl)
theorem dX1_remainder_27 : decode cX1_remainder 27 = .ok (.invokestatic 235, 3) := dk_184 0 235 (dk_at dksX1_remainder_1 4 rfl rfl)
theorem dX1_remainder_30 : decode cX1_remainder 30 = .ok (.invokevirtual 315, 3) := dk_182 1 59 (dk_at dksX1_remainder_1 7 rfl rfl)
theorem dX1_remainder_33 : decode cX1_remainder 33 = .ok (.getfield 174, 3) := dk_180 0 174 (dk_at dksX1_remainder_1 10 rfl rfl)
theorem dX1_remainder_36 : decode cX1_remainder 36 = .ok (.iload_n 2, 1) := dk_28 (dk_at dksX1_remainder_1 13 rfl rfl)
theorem dX1_remainder_37 : decode cX1_remainder 37 = .ok (.iaload, 1) := dk_46 (dk_at dksX1_remainder_1 14 rfl rfl)
theorem dX1_remainder_38 : decode cX1_remainder 38 = .ok (.ireturn, 1) := dk_172 (dk_at dksX1_remainder_1 15 rfl rfl)
abbrev cX1_writtenByte : ByteArray := prog_1_method_54_code
def yX1_writtenByte : MethodName := ⟨RX1, "writtenByte", "(I)I"⟩
def dkwX1_writtenByte_0 : List UInt8 := [27, 42, 180, 0, 74, 182, 1, 81, 184, 0, 154, 42, 180, 0, 74, 27, 182, 1, 83, 172]
abbrev dktX1_writtenByte_0 : List UInt8 := dkwX1_writtenByte_0 ++ []
theorem dksX1_writtenByte_0 : cX1_writtenByte.data.toList.drop 0 = dktX1_writtenByte_0 := by decide +kernel
theorem dX1_writtenByte_0 : decode cX1_writtenByte 0 = .ok (.iload_n 1, 1) := dk_27 (dk_at dksX1_writtenByte_0 0 rfl rfl)
theorem dX1_writtenByte_1 : decode cX1_writtenByte 1 = .ok (.aload_n 0, 1) := dk_42 (dk_at dksX1_writtenByte_0 1 rfl rfl)
theorem dX1_writtenByte_2 : decode cX1_writtenByte 2 = .ok (.getfield 74, 3) := dk_180 0 74 (dk_at dksX1_writtenByte_0 2 rfl rfl)
theorem dX1_writtenByte_5 : decode cX1_writtenByte 5 = .ok (.invokevirtual 337, 3) := dk_182 1 81 (dk_at dksX1_writtenByte_0 5 rfl rfl)
theorem dX1_writtenByte_8 : decode cX1_writtenByte 8 = .ok (.invokestatic 154, 3) := dk_184 0 154 (dk_at dksX1_writtenByte_0 8 rfl rfl)
theorem dX1_writtenByte_11 : decode cX1_writtenByte 11 = .ok (.aload_n 0, 1) := dk_42 (dk_at dksX1_writtenByte_0 11 rfl rfl)
theorem dX1_writtenByte_12 : decode cX1_writtenByte 12 = .ok (.getfield 74, 3) := dk_180 0 74 (dk_at dksX1_writtenByte_0 12 rfl rfl)
theorem dX1_writtenByte_15 : decode cX1_writtenByte 15 = .ok (.iload_n 1, 1) := dk_27 (dk_at dksX1_writtenByte_0 15 rfl rfl)
theorem dX1_writtenByte_16 : decode cX1_writtenByte 16 = .ok (.invokevirtual 339, 3) := dk_182 1 83 (dk_at dksX1_writtenByte_0 16 rfl rfl)
theorem dX1_writtenByte_19 : decode cX1_writtenByte 19 = .ok (.ireturn, 1) := dk_172 (dk_at dksX1_writtenByte_0 19 rfl rfl)
abbrev cX1_undo : ByteArray := prog_1_method_55_code
def yX1_undo : MethodName := ⟨RX1, "undo", "()I"⟩
def dkwX1_undo_1 : List UInt8 := [182, 1, 85, 192, 0, 36, 181, 0, 38, 42, 180, 0, 22, 182, 0, 26, 172]
abbrev dktX1_undo_1 : List UInt8 := dkwX1_undo_1 ++ []
def dkwX1_undo_0 : List UInt8 := [42, 180, 0, 22, 182, 1, 84, 154, 0, 7, 4, 167, 0, 4, 3, 184, 0, 81, 42, 42, 180, 0, 22]
abbrev dktX1_undo_0 : List UInt8 := dkwX1_undo_0 ++ dktX1_undo_1
theorem dksX1_undo_0 : cX1_undo.data.toList.drop 0 = dktX1_undo_0 := by decide +kernel
theorem dksX1_undo_1 : cX1_undo.data.toList.drop 23 = dktX1_undo_1 := dk_seg dksX1_undo_0 23 rfl rfl
theorem dX1_undo_0 : decode cX1_undo 0 = .ok (.aload_n 0, 1) := dk_42 (dk_at dksX1_undo_0 0 rfl rfl)
theorem dX1_undo_1 : decode cX1_undo 1 = .ok (.getfield 22, 3) := dk_180 0 22 (dk_at dksX1_undo_0 1 rfl rfl)
theorem dX1_undo_4 : decode cX1_undo 4 = .ok (.invokevirtual 340, 3) := dk_182 1 84 (dk_at dksX1_undo_0 4 rfl rfl)
theorem dX1_undo_7 : decode cX1_undo 7 = .ok (.ifCond .ne 7, 3) := dk_154 0 7 (dk_at dksX1_undo_0 7 rfl rfl)
theorem dX1_undo_10 : decode cX1_undo 10 = .ok (.iconst 1, 1) := dk_4 (dk_at dksX1_undo_0 10 rfl rfl)
theorem dX1_undo_11 : decode cX1_undo 11 = .ok (.goto 4, 3) := dk_167 0 4 (dk_at dksX1_undo_0 11 rfl rfl)
theorem dX1_undo_14 : decode cX1_undo 14 = .ok (.iconst 0, 1) := dk_3 (dk_at dksX1_undo_0 14 rfl rfl)
theorem dX1_undo_15 : decode cX1_undo 15 = .ok (.invokestatic 81, 3) := dk_184 0 81 (dk_at dksX1_undo_0 15 rfl rfl)
theorem dX1_undo_18 : decode cX1_undo 18 = .ok (.aload_n 0, 1) := dk_42 (dk_at dksX1_undo_0 18 rfl rfl)
theorem dX1_undo_19 : decode cX1_undo 19 = .ok (.aload_n 0, 1) := dk_42 (dk_at dksX1_undo_0 19 rfl rfl)
theorem dX1_undo_20 : decode cX1_undo 20 = .ok (.getfield 22, 3) := dk_180 0 22 (dk_at dksX1_undo_0 20 rfl rfl)
theorem dX1_undo_23 : decode cX1_undo 23 = .ok (.invokevirtual 341, 3) := dk_182 1 85 (dk_at dksX1_undo_1 0 rfl rfl)
theorem dX1_undo_26 : decode cX1_undo 26 = .ok (.checkcast 36, 3) := dk_192 0 36 (dk_at dksX1_undo_1 3 rfl rfl)
theorem dX1_undo_29 : decode cX1_undo 29 = .ok (.putfield 38, 3) := dk_181 0 38 (dk_at dksX1_undo_1 6 rfl rfl)
theorem dX1_undo_32 : decode cX1_undo 32 = .ok (.aload_n 0, 1) := dk_42 (dk_at dksX1_undo_1 9 rfl rfl)
theorem dX1_undo_33 : decode cX1_undo 33 = .ok (.getfield 22, 3) := dk_180 0 22 (dk_at dksX1_undo_1 10 rfl rfl)
theorem dX1_undo_36 : decode cX1_undo 36 = .ok (.invokevirtual 26, 3) := dk_182 0 26 (dk_at dksX1_undo_1 13 rfl rfl)
theorem dX1_undo_39 : decode cX1_undo 39 = .ok (.ireturn, 1) := dk_172 (dk_at dksX1_undo_1 16 rfl rfl)
abbrev cX1_save : ByteArray := prog_1_method_56_code
def yX1_save : MethodName := ⟨RX1, "save", "(I)I"⟩
def dkwX1_save_1 : List UInt8 := [180, 0, 138, 185, 0, 142, 1, 0, 172]
abbrev dktX1_save_1 : List UInt8 := dkwX1_save_1 ++ []
def dkwX1_save_0 : List UInt8 := [27, 5, 184, 0, 154, 42, 180, 0, 59, 27, 42, 180, 0, 38, 182, 0, 196, 83, 42, 180, 0, 38]
abbrev dktX1_save_0 : List UInt8 := dkwX1_save_0 ++ dktX1_save_1
theorem dksX1_save_0 : cX1_save.data.toList.drop 0 = dktX1_save_0 := by decide +kernel
theorem dksX1_save_1 : cX1_save.data.toList.drop 22 = dktX1_save_1 := dk_seg dksX1_save_0 22 rfl rfl
theorem dX1_save_0 : decode cX1_save 0 = .ok (.iload_n 1, 1) := dk_27 (dk_at dksX1_save_0 0 rfl rfl)
theorem dX1_save_1 : decode cX1_save 1 = .ok (.iconst 2, 1) := dk_5 (dk_at dksX1_save_0 1 rfl rfl)
theorem dX1_save_2 : decode cX1_save 2 = .ok (.invokestatic 154, 3) := dk_184 0 154 (dk_at dksX1_save_0 2 rfl rfl)
theorem dX1_save_5 : decode cX1_save 5 = .ok (.aload_n 0, 1) := dk_42 (dk_at dksX1_save_0 5 rfl rfl)
theorem dX1_save_6 : decode cX1_save 6 = .ok (.getfield 59, 3) := dk_180 0 59 (dk_at dksX1_save_0 6 rfl rfl)
theorem dX1_save_9 : decode cX1_save 9 = .ok (.iload_n 1, 1) := dk_27 (dk_at dksX1_save_0 9 rfl rfl)
theorem dX1_save_10 : decode cX1_save 10 = .ok (.aload_n 0, 1) := dk_42 (dk_at dksX1_save_0 10 rfl rfl)
theorem dX1_save_11 : decode cX1_save 11 = .ok (.getfield 38, 3) := dk_180 0 38 (dk_at dksX1_save_0 11 rfl rfl)
theorem dX1_save_14 : decode cX1_save 14 = .ok (.invokevirtual 196, 3) := dk_182 0 196 (dk_at dksX1_save_0 14 rfl rfl)
theorem dX1_save_17 : decode cX1_save 17 = .ok (.aastore, 1) := dk_83 (dk_at dksX1_save_0 17 rfl rfl)
theorem dX1_save_18 : decode cX1_save 18 = .ok (.aload_n 0, 1) := dk_42 (dk_at dksX1_save_0 18 rfl rfl)
theorem dX1_save_19 : decode cX1_save 19 = .ok (.getfield 38, 3) := dk_180 0 38 (dk_at dksX1_save_0 19 rfl rfl)
theorem dX1_save_22 : decode cX1_save 22 = .ok (.getfield 138, 3) := dk_180 0 138 (dk_at dksX1_save_1 0 rfl rfl)
theorem dX1_save_25 : decode cX1_save 25 = .ok (.invokeinterface 142 1, 5) := by decide +kernel
theorem dX1_save_30 : decode cX1_save 30 = .ok (.ireturn, 1) := dk_172 (dk_at dksX1_save_1 8 rfl rfl)
abbrev cX1_restore : ByteArray := prog_1_method_57_code
def yX1_restore : MethodName := ⟨RX1, "restore", "(I)I"⟩
def dkwX1_restore_1 : List UInt8 := [180, 0, 59, 27, 50, 182, 0, 196, 182, 0, 50, 42, 180, 0, 38, 180, 0, 138, 185, 0, 142, 1, 0, 172]
abbrev dktX1_restore_1 : List UInt8 := dkwX1_restore_1 ++ []
def dkwX1_restore_0 : List UInt8 := [27, 5, 184, 0, 154, 42, 180, 0, 59, 27, 50, 198, 0, 7, 4, 167, 0, 4, 3, 184, 0, 81, 42, 42]
abbrev dktX1_restore_0 : List UInt8 := dkwX1_restore_0 ++ dktX1_restore_1
theorem dksX1_restore_0 : cX1_restore.data.toList.drop 0 = dktX1_restore_0 := by decide +kernel
theorem dksX1_restore_1 : cX1_restore.data.toList.drop 24 = dktX1_restore_1 := dk_seg dksX1_restore_0 24 rfl rfl
theorem dX1_restore_0 : decode cX1_restore 0 = .ok (.iload_n 1, 1) := dk_27 (dk_at dksX1_restore_0 0 rfl rfl)
theorem dX1_restore_1 : decode cX1_restore 1 = .ok (.iconst 2, 1) := dk_5 (dk_at dksX1_restore_0 1 rfl rfl)
theorem dX1_restore_2 : decode cX1_restore 2 = .ok (.invokestatic 154, 3) := dk_184 0 154 (dk_at dksX1_restore_0 2 rfl rfl)
theorem dX1_restore_5 : decode cX1_restore 5 = .ok (.aload_n 0, 1) := dk_42 (dk_at dksX1_restore_0 5 rfl rfl)
theorem dX1_restore_6 : decode cX1_restore 6 = .ok (.getfield 59, 3) := dk_180 0 59 (dk_at dksX1_restore_0 6 rfl rfl)
theorem dX1_restore_9 : decode cX1_restore 9 = .ok (.iload_n 1, 1) := dk_27 (dk_at dksX1_restore_0 9 rfl rfl)
theorem dX1_restore_10 : decode cX1_restore 10 = .ok (.aaload, 1) := dk_50 (dk_at dksX1_restore_0 10 rfl rfl)
theorem dX1_restore_11 : decode cX1_restore 11 = .ok (.ifnull 7, 3) := dk_198 0 7 (dk_at dksX1_restore_0 11 rfl rfl)
theorem dX1_restore_14 : decode cX1_restore 14 = .ok (.iconst 1, 1) := dk_4 (dk_at dksX1_restore_0 14 rfl rfl)
theorem dX1_restore_15 : decode cX1_restore 15 = .ok (.goto 4, 3) := dk_167 0 4 (dk_at dksX1_restore_0 15 rfl rfl)
theorem dX1_restore_18 : decode cX1_restore 18 = .ok (.iconst 0, 1) := dk_3 (dk_at dksX1_restore_0 18 rfl rfl)
theorem dX1_restore_19 : decode cX1_restore 19 = .ok (.invokestatic 81, 3) := dk_184 0 81 (dk_at dksX1_restore_0 19 rfl rfl)
theorem dX1_restore_22 : decode cX1_restore 22 = .ok (.aload_n 0, 1) := dk_42 (dk_at dksX1_restore_0 22 rfl rfl)
theorem dX1_restore_23 : decode cX1_restore 23 = .ok (.aload_n 0, 1) := dk_42 (dk_at dksX1_restore_0 23 rfl rfl)
theorem dX1_restore_24 : decode cX1_restore 24 = .ok (.getfield 59, 3) := dk_180 0 59 (dk_at dksX1_restore_1 0 rfl rfl)
theorem dX1_restore_27 : decode cX1_restore 27 = .ok (.iload_n 1, 1) := dk_27 (dk_at dksX1_restore_1 3 rfl rfl)
theorem dX1_restore_28 : decode cX1_restore 28 = .ok (.aaload, 1) := dk_50 (dk_at dksX1_restore_1 4 rfl rfl)
theorem dX1_restore_29 : decode cX1_restore 29 = .ok (.invokevirtual 196, 3) := dk_182 0 196 (dk_at dksX1_restore_1 5 rfl rfl)
theorem dX1_restore_32 : decode cX1_restore 32 = .ok (.invokevirtual 50, 3) := dk_182 0 50 (dk_at dksX1_restore_1 8 rfl rfl)
theorem dX1_restore_35 : decode cX1_restore 35 = .ok (.aload_n 0, 1) := dk_42 (dk_at dksX1_restore_1 11 rfl rfl)
theorem dX1_restore_36 : decode cX1_restore 36 = .ok (.getfield 38, 3) := dk_180 0 38 (dk_at dksX1_restore_1 12 rfl rfl)
theorem dX1_restore_39 : decode cX1_restore 39 = .ok (.getfield 138, 3) := dk_180 0 138 (dk_at dksX1_restore_1 15 rfl rfl)
theorem dX1_restore_42 : decode cX1_restore 42 = .ok (.invokeinterface 142 1, 5) := by decide +kernel
theorem dX1_restore_47 : decode cX1_restore 47 = .ok (.ireturn, 1) := dk_172 (dk_at dksX1_restore_1 23 rfl rfl)
theorem q101 : (Jvm.Cond.initialized "ExactChains") ∈ lw_all := lw_g (lw_at lw_m1 1 rfl) rfl
theorem q144 : (Jvm.Cond.instantiable "ExactChains" (7 : Nat)) ∈ lw_all := lw_g (lw_at lw_m1 44 rfl) rfl
theorem q146 : (Jvm.Cond.instanceMethod ({ cls := "ExactChains", name := "<init>", desc := "()V" } : Jvm.MethodName)) ∈ lw_all := lw_g (lw_at lw_m1 46 rfl) rfl
theorem q147 : (Jvm.Cond.code ({ cls := "ExactChains", name := "<init>", desc := "()V" } : Jvm.MethodName) prog_1_method_8_code (1 : Nat) (Option.none : Option Jvm.ClassFile.FieldType)) ∈ lw_all := lw_g (lw_at lw_m1 47 rfl) rfl
theorem q148 : (Jvm.Cond.methodLink "ExactChains" (54 : Nat) ({ cls := "java/lang/Object", name := "<init>", desc := "()V" } : Jvm.MethodName)) ∈ lw_all := lw_g (lw_at lw_m1 48 rfl) rfl
theorem q151 : (Jvm.Cond.classLink "ExactChains" (36 : Nat) "ExactChains$Process") ∈ lw_all := lw_g (lw_at lw_m1 51 rfl) rfl
theorem q153 : (Jvm.Cond.methodLink "ExactChains" (57 : Nat) ({ cls := "ExactChains$Process", name := "<init>", desc := "()V" } : Jvm.MethodName)) ∈ lw_all := lw_g (lw_at lw_m1 53 rfl) rfl
theorem q168 : (Jvm.Cond.fieldLinkNest "ExactChains" (123 : Nat) "ExactChains$Field" "prime" "I" "ExactChains") ∈ lw_tbl := lw_at lw_m1 68 rfl
theorem q557 : (Jvm.Cond.fieldLinkNest "ExactChains" (174 : Nat) "ExactChains$Vector" "numbers" "[I" "ExactChains") ∈ lw_tbl := lw_at lw_m2 217 rfl
theorem q564 : (Jvm.Cond.fieldLinkNest "ExactChains" (119 : Nat) "ExactChains$Process" "field" "LExactChains$Field;" "ExactChains") ∈ lw_tbl := lw_at lw_m2 224 rfl
theorem q567 : (Jvm.Cond.fieldLinkNest "ExactChains" (100 : Nat) "ExactChains$Process" "size" "I" "ExactChains") ∈ lw_tbl := lw_at lw_m2 227 rfl
theorem q569 : (Jvm.Cond.fieldLinkNest "ExactChains" (166 : Nat) "ExactChains$Process" "table" "[[I" "ExactChains") ∈ lw_tbl := lw_at lw_m2 229 rfl
theorem q572 : (Jvm.Cond.fieldLinkNest "ExactChains" (170 : Nat) "ExactChains$Process" "start" "LExactChains$Vector;" "ExactChains") ∈ lw_tbl := lw_at lw_m2 232 rfl
theorem q575 : (Jvm.Cond.fieldLinkNest "ExactChains" (128 : Nat) "ExactChains$Process" "limit" "I" "ExactChains") ∈ lw_tbl := lw_at lw_m2 235 rfl
theorem q578 : (Jvm.Cond.fieldLinkNest "ExactChains" (131 : Nat) "ExactChains$Process" "restarts" "I" "ExactChains") ∈ lw_tbl := lw_at lw_m2 238 rfl
theorem q581 : (Jvm.Cond.fieldLinkNest "ExactChains" (134 : Nat) "ExactChains$Process" "isFull" "Z" "ExactChains") ∈ lw_tbl := lw_at lw_m3 1 rfl
theorem q583 : (Jvm.Cond.fieldLinkNest "ExactChains" (138 : Nat) "ExactChains$Process" "directions" "Ljava/util/List;" "ExactChains") ∈ lw_tbl := lw_at lw_m3 3 rfl
theorem q585 : (Jvm.Cond.fieldLinkNest "ExactChains" (145 : Nat) "ExactChains$Process" "chains" "Ljava/util/List;" "ExactChains") ∈ lw_tbl := lw_at lw_m3 5 rfl
theorem q587 : (Jvm.Cond.fieldLinkNest "ExactChains" (148 : Nat) "ExactChains$Process" "finished" "I" "ExactChains") ∈ lw_tbl := lw_at lw_m3 7 rfl
theorem q589 : (Jvm.Cond.fieldLinkNest "ExactChains" (151 : Nat) "ExactChains$Process" "looked" "I" "ExactChains") ∈ lw_tbl := lw_at lw_m3 9 rfl
theorem q613 : (Jvm.Cond.classLink "ExactChains" (27 : Nat) "java/util/ArrayDeque") ∈ lw_all := lw_g (lw_at lw_m3 33 rfl) rfl
theorem q615 : (Jvm.Cond.methodLink "ExactChains" (58 : Nat) ({ cls := "java/util/ArrayDeque", name := "<init>", desc := "()V" } : Jvm.MethodName)) ∈ lw_all := lw_g (lw_at lw_m3 35 rfl) rfl
theorem q631 : (Jvm.Cond.classLink "ExactChains" (71 : Nat) "java/lang/StringBuilder") ∈ lw_all := lw_g (lw_at lw_m3 51 rfl) rfl
theorem q632 : (Jvm.Cond.methodLink "ExactChains" (73 : Nat) ({ cls := "java/lang/StringBuilder", name := "<init>", desc := "()V" } : Jvm.MethodName)) ∈ lw_all := lw_g (lw_at lw_m3 52 rfl) rfl
theorem q633 : (Jvm.Cond.fieldLink "ExactChains" (38 : Nat) "ExactChains" "process" "LExactChains$Process;") ∈ lw_all := lw_g (lw_at lw_m3 53 rfl) rfl
theorem q634 : (Jvm.Cond.fieldLink "ExactChains" (22 : Nat) "ExactChains" "history" "Ljava/util/ArrayDeque;") ∈ lw_all := lw_g (lw_at lw_m3 54 rfl) rfl
theorem q635 : (Jvm.Cond.fieldLink "ExactChains" (59 : Nat) "ExactChains" "slots" "[LExactChains$Process;") ∈ lw_all := lw_g (lw_at lw_m3 55 rfl) rfl
theorem q637 : (Jvm.Cond.fieldLink "ExactChains" (63 : Nat) "ExactChains" "buffer" "[B") ∈ lw_all := lw_g (lw_at lw_m3 57 rfl) rfl
theorem q639 : (Jvm.Cond.fieldLink "ExactChains" (78 : Nat) "ExactChains" "length" "I") ∈ lw_all := lw_g (lw_at lw_m3 59 rfl) rfl
theorem q641 : (Jvm.Cond.fieldLink "ExactChains" (67 : Nat) "ExactChains" "errorAt" "I") ∈ lw_all := lw_g (lw_at lw_m3 61 rfl) rfl
theorem q642 : (Jvm.Cond.fieldLink "ExactChains" (74 : Nat) "ExactChains" "written" "Ljava/lang/StringBuilder;") ∈ lw_all := lw_g (lw_at lw_m3 62 rfl) rfl
theorem q643 : (Jvm.Cond.lays "ExactChains" "ExactChains" "process" "LExactChains$Process;") ∈ lw_all := lw_g (lw_at lw_m3 63 rfl) rfl
theorem q644 : (Jvm.Cond.soleField "ExactChains" "process") ∈ lw_all := lw_g (lw_at lw_m3 64 rfl) rfl
theorem q645 : (Jvm.Cond.laysFinal "ExactChains" "ExactChains" "history" "Ljava/util/ArrayDeque;") ∈ lw_all := lw_g (lw_at lw_m3 65 rfl) rfl
theorem q646 : (Jvm.Cond.soleField "ExactChains" "history") ∈ lw_all := lw_g (lw_at lw_m3 66 rfl) rfl
theorem q647 : (Jvm.Cond.laysFinal "ExactChains" "ExactChains" "slots" "[LExactChains$Process;") ∈ lw_all := lw_g (lw_at lw_m3 67 rfl) rfl
theorem q648 : (Jvm.Cond.soleField "ExactChains" "slots") ∈ lw_all := lw_g (lw_at lw_m3 68 rfl) rfl
theorem q649 : (Jvm.Cond.laysFinal "ExactChains" "ExactChains" "buffer" "[B") ∈ lw_all := lw_g (lw_at lw_m3 69 rfl) rfl
theorem q650 : (Jvm.Cond.soleField "ExactChains" "buffer") ∈ lw_all := lw_g (lw_at lw_m3 70 rfl) rfl
theorem q651 : (Jvm.Cond.lays "ExactChains" "ExactChains" "length" "I") ∈ lw_all := lw_g (lw_at lw_m3 71 rfl) rfl
theorem q652 : (Jvm.Cond.soleField "ExactChains" "length") ∈ lw_all := lw_g (lw_at lw_m3 72 rfl) rfl
theorem q653 : (Jvm.Cond.lays "ExactChains" "ExactChains" "errorAt" "I") ∈ lw_all := lw_g (lw_at lw_m3 73 rfl) rfl
theorem q654 : (Jvm.Cond.soleField "ExactChains" "errorAt") ∈ lw_all := lw_g (lw_at lw_m3 74 rfl) rfl
theorem q655 : (Jvm.Cond.laysFinal "ExactChains" "ExactChains" "written" "Ljava/lang/StringBuilder;") ∈ lw_all := lw_g (lw_at lw_m3 75 rfl) rfl
theorem q656 : (Jvm.Cond.soleField "ExactChains" "written") ∈ lw_all := lw_g (lw_at lw_m3 76 rfl) rfl
theorem q657 : (Jvm.Cond.superclass "ExactChains" "java/lang/Object") ∈ lw_all := lw_g (lw_at lw_m3 77 rfl) rfl
theorem q659 : (Jvm.Cond.instanceMethod ({ cls := "ExactChains", name := "errorPosition", desc := "()I" } : Jvm.MethodName)) ∈ lw_all := lw_g (lw_at lw_m3 79 rfl) rfl
theorem q660 : (Jvm.Cond.selects "ExactChains" ({ cls := "ExactChains", name := "errorPosition", desc := "()I" } : Jvm.MethodName) ({ cls := "ExactChains", name := "errorPosition", desc := "()I" } : Jvm.MethodName)) ∈ lw_all := lw_g (lw_at lw_m3 80 rfl) rfl
theorem q661 : (Jvm.Cond.code ({ cls := "ExactChains", name := "errorPosition", desc := "()I" } : Jvm.MethodName) prog_1_method_12_code (1 : Nat) (Option.some Jvm.ClassFile.FieldType.int)) ∈ lw_all := lw_g (lw_at lw_m3 81 rfl) rfl
theorem q663 : (Jvm.Cond.instanceMethod ({ cls := "ExactChains", name := "setFull", desc := "(Z)Z" } : Jvm.MethodName)) ∈ lw_all := lw_g (lw_at lw_m3 83 rfl) rfl
theorem q664 : (Jvm.Cond.selects "ExactChains" ({ cls := "ExactChains", name := "setFull", desc := "(Z)Z" } : Jvm.MethodName) ({ cls := "ExactChains", name := "setFull", desc := "(Z)Z" } : Jvm.MethodName)) ∈ lw_all := lw_g (lw_at lw_m3 84 rfl) rfl
theorem q665 : (Jvm.Cond.code ({ cls := "ExactChains", name := "setFull", desc := "(Z)Z" } : Jvm.MethodName) prog_1_method_22_code (3 : Nat) (Option.some Jvm.ClassFile.FieldType.boolean)) ∈ lw_all := lw_g (lw_at lw_m3 85 rfl) rfl
theorem q666 : (Jvm.Cond.methodLink "ExactChains" (183 : Nat) ({ cls := "ExactChains", name := "changed", desc := "()LExactChains$Process;" } : Jvm.MethodName)) ∈ lw_all := lw_g (lw_at lw_m3 86 rfl) rfl
theorem q667 : (Jvm.Cond.privateMethod ({ cls := "ExactChains", name := "changed", desc := "()LExactChains$Process;" } : Jvm.MethodName)) ∈ lw_tbl := lw_at lw_m3 87 rfl
theorem q668 : (Jvm.Cond.instanceMethod ({ cls := "ExactChains", name := "changed", desc := "()LExactChains$Process;" } : Jvm.MethodName)) ∈ lw_all := lw_g (lw_at lw_m3 88 rfl) rfl
theorem q669 : (Jvm.Cond.code ({ cls := "ExactChains", name := "changed", desc := "()LExactChains$Process;" } : Jvm.MethodName) prog_1_method_7_code (1 : Nat) (Option.some (Jvm.ClassFile.FieldType.object "ExactChains$Process"))) ∈ lw_all := lw_g (lw_at lw_m3 89 rfl) rfl
theorem q670 : (Jvm.Cond.methodLink "ExactChains" (46 : Nat) ({ cls := "ExactChains$Process", name := "anew", desc := "()LExactChains$Process;" } : Jvm.MethodName)) ∈ lw_all := lw_g (lw_at lw_m3 90 rfl) rfl
theorem q722 : (Jvm.Cond.selects "ExactChains" ({ cls := "java/lang/Object", name := "getClass", desc := "()Ljava/lang/Class;" } : Jvm.MethodName) ({ cls := "java/lang/Object", name := "getClass", desc := "()Ljava/lang/Class;" } : Jvm.MethodName)) ∈ lw_all := lw_g (lw_at lw_m3 142 rfl) rfl
theorem q770 : (Jvm.Cond.methodLink "ExactChains" (50 : Nat) ({ cls := "ExactChains", name := "become", desc := "(LExactChains$Process;)V" } : Jvm.MethodName)) ∈ lw_all := lw_g (lw_at lw_m3 190 rfl) rfl
theorem q771 : (Jvm.Cond.privateMethod ({ cls := "ExactChains", name := "become", desc := "(LExactChains$Process;)V" } : Jvm.MethodName)) ∈ lw_tbl := lw_at lw_m3 191 rfl
theorem q772 : (Jvm.Cond.instanceMethod ({ cls := "ExactChains", name := "become", desc := "(LExactChains$Process;)V" } : Jvm.MethodName)) ∈ lw_all := lw_g (lw_at lw_m3 192 rfl) rfl
theorem q773 : (Jvm.Cond.code ({ cls := "ExactChains", name := "become", desc := "(LExactChains$Process;)V" } : Jvm.MethodName) prog_1_method_6_code (3 : Nat) (Option.none : Option Jvm.ClassFile.FieldType)) ∈ lw_all := lw_g (lw_at lw_m3 193 rfl) rfl
theorem q774 : (Jvm.Cond.methodLink "ExactChains" (26 : Nat) ({ cls := "java/util/ArrayDeque", name := "size", desc := "()I" } : Jvm.MethodName)) ∈ lw_all := lw_g (lw_at lw_m3 194 rfl) rfl
theorem q781 : (Jvm.Cond.methodLink "ExactChains" (32 : Nat) ({ cls := "java/util/ArrayDeque", name := "removeFirst", desc := "()Ljava/lang/Object;" } : Jvm.MethodName)) ∈ lw_all := lw_g (lw_at lw_m3 201 rfl) rfl
theorem q816 : (Jvm.Cond.methodLink "ExactChains" (42 : Nat) ({ cls := "java/util/ArrayDeque", name := "addLast", desc := "(Ljava/lang/Object;)V" } : Jvm.MethodName)) ∈ lw_all := lw_g (lw_at lw_m3 236 rfl) rfl
theorem q848 : (Jvm.Cond.instanceMethod ({ cls := "ExactChains", name := "step", desc := "()I" } : Jvm.MethodName)) ∈ lw_all := lw_g (lw_at lw_m4 28 rfl) rfl
theorem q849 : (Jvm.Cond.selects "ExactChains" ({ cls := "ExactChains", name := "step", desc := "()I" } : Jvm.MethodName) ({ cls := "ExactChains", name := "step", desc := "()I" } : Jvm.MethodName)) ∈ lw_all := lw_g (lw_at lw_m4 29 rfl) rfl
theorem q850 : (Jvm.Cond.code ({ cls := "ExactChains", name := "step", desc := "()I" } : Jvm.MethodName) prog_1_method_23_code (1 : Nat) (Option.some Jvm.ClassFile.FieldType.int)) ∈ lw_all := lw_g (lw_at lw_m4 30 rfl) rfl
theorem q851 : (Jvm.Cond.methodLink "ExactChains" (196 : Nat) ({ cls := "ExactChains$Process", name := "copy", desc := "()LExactChains$Process;" } : Jvm.MethodName)) ∈ lw_all := lw_g (lw_at lw_m4 31 rfl) rfl
theorem q852 : (Jvm.Cond.methodLink "ExactChains" (199 : Nat) ({ cls := "ExactChains$Process", name := "step", desc := "()I" } : Jvm.MethodName)) ∈ lw_all := lw_g (lw_at lw_m4 32 rfl) rfl
theorem q1064 : (Jvm.Cond.instanceMethod ({ cls := "ExactChains", name := "reset", desc := "()I" } : Jvm.MethodName)) ∈ lw_all := lw_g (lw_at lw_m5 4 rfl) rfl
theorem q1065 : (Jvm.Cond.selects "ExactChains" ({ cls := "ExactChains", name := "reset", desc := "()I" } : Jvm.MethodName) ({ cls := "ExactChains", name := "reset", desc := "()I" } : Jvm.MethodName)) ∈ lw_all := lw_g (lw_at lw_m5 5 rfl) rfl
theorem q1066 : (Jvm.Cond.code ({ cls := "ExactChains", name := "reset", desc := "()I" } : Jvm.MethodName) prog_1_method_25_code (3 : Nat) (Option.some Jvm.ClassFile.FieldType.int)) ∈ lw_all := lw_g (lw_at lw_m5 6 rfl) rfl
theorem q1067 : (Jvm.Cond.interfaceEntry "ExactChains" (142 : Nat)) ∈ lw_tbl := lw_at lw_m5 7 rfl
theorem q1068 : (Jvm.Cond.methodLink "ExactChains" (142 : Nat) ({ cls := "java/util/List", name := "size", desc := "()I" } : Jvm.MethodName)) ∈ lw_all := lw_g (lw_at lw_m5 8 rfl) rfl
theorem q1070 : (Jvm.Cond.instanceMethod ({ cls := "ExactChains", name := "skew", desc := "()I" } : Jvm.MethodName)) ∈ lw_all := lw_g (lw_at lw_m5 10 rfl) rfl
theorem q1071 : (Jvm.Cond.selects "ExactChains" ({ cls := "ExactChains", name := "skew", desc := "()I" } : Jvm.MethodName) ({ cls := "ExactChains", name := "skew", desc := "()I" } : Jvm.MethodName)) ∈ lw_all := lw_g (lw_at lw_m5 11 rfl) rfl
theorem q1072 : (Jvm.Cond.code ({ cls := "ExactChains", name := "skew", desc := "()I" } : Jvm.MethodName) prog_1_method_38_code (4 : Nat) (Option.some Jvm.ClassFile.FieldType.int)) ∈ lw_all := lw_g (lw_at lw_m5 12 rfl) rfl
theorem q1073 : (Jvm.Cond.methodLink "ExactChains" (260 : Nat) ({ cls := "ExactChains", name := "productOf", desc := "(II)I" } : Jvm.MethodName)) ∈ lw_all := lw_g (lw_at lw_m5 13 rfl) rfl
theorem q1074 : (Jvm.Cond.privateMethod ({ cls := "ExactChains", name := "productOf", desc := "(II)I" } : Jvm.MethodName)) ∈ lw_tbl := lw_at lw_m5 14 rfl
theorem q1075 : (Jvm.Cond.instanceMethod ({ cls := "ExactChains", name := "productOf", desc := "(II)I" } : Jvm.MethodName)) ∈ lw_all := lw_g (lw_at lw_m5 15 rfl) rfl
theorem q1076 : (Jvm.Cond.code ({ cls := "ExactChains", name := "productOf", desc := "(II)I" } : Jvm.MethodName) prog_1_method_36_code (3 : Nat) (Option.some Jvm.ClassFile.FieldType.int)) ∈ lw_all := lw_g (lw_at lw_m5 16 rfl) rfl
theorem q1077 : (Jvm.Cond.methodLink "ExactChains" (247 : Nat) ({ cls := "ExactChains$Process", name := "vector", desc := "(I)LExactChains$Vector;" } : Jvm.MethodName)) ∈ lw_all := lw_g (lw_at lw_m5 17 rfl) rfl
theorem q1078 : (Jvm.Cond.methodLink "ExactChains" (256 : Nat) ({ cls := "ExactChains$Field", name := "product", desc := "(LExactChains$Vector;LExactChains$Vector;)I" } : Jvm.MethodName)) ∈ lw_all := lw_g (lw_at lw_m5 18 rfl) rfl
theorem q1080 : (Jvm.Cond.instanceMethod ({ cls := "ExactChains", name := "rank", desc := "()I" } : Jvm.MethodName)) ∈ lw_all := lw_g (lw_at lw_m5 20 rfl) rfl
theorem q1081 : (Jvm.Cond.selects "ExactChains" ({ cls := "ExactChains", name := "rank", desc := "()I" } : Jvm.MethodName) ({ cls := "ExactChains", name := "rank", desc := "()I" } : Jvm.MethodName)) ∈ lw_all := lw_g (lw_at lw_m5 21 rfl) rfl
theorem q1082 : (Jvm.Cond.code ({ cls := "ExactChains", name := "rank", desc := "()I" } : Jvm.MethodName) prog_1_method_39_code (1 : Nat) (Option.some Jvm.ClassFile.FieldType.int)) ∈ lw_all := lw_g (lw_at lw_m5 22 rfl) rfl
theorem q1083 : (Jvm.Cond.methodLink "ExactChains" (264 : Nat) ({ cls := "ExactChains$Process", name := "rank", desc := "()I" } : Jvm.MethodName)) ∈ lw_all := lw_g (lw_at lw_m5 23 rfl) rfl
theorem q1116 : (Jvm.Cond.fieldLinkNest "ExactChains" (291 : Nat) "ExactChains$Steps" "determinant" "I" "ExactChains") ∈ lw_tbl := lw_at lw_m5 56 rfl
theorem q1127 : (Jvm.Cond.instanceMethod ({ cls := "ExactChains", name := "width", desc := "()I" } : Jvm.MethodName)) ∈ lw_all := lw_g (lw_at lw_m5 67 rfl) rfl
theorem q1128 : (Jvm.Cond.selects "ExactChains" ({ cls := "ExactChains", name := "width", desc := "()I" } : Jvm.MethodName) ({ cls := "ExactChains", name := "width", desc := "()I" } : Jvm.MethodName)) ∈ lw_all := lw_g (lw_at lw_m5 68 rfl) rfl
theorem q1129 : (Jvm.Cond.code ({ cls := "ExactChains", name := "width", desc := "()I" } : Jvm.MethodName) prog_1_method_42_code (5 : Nat) (Option.some Jvm.ClassFile.FieldType.int)) ∈ lw_all := lw_g (lw_at lw_m5 69 rfl) rfl
theorem q1130 : (Jvm.Cond.methodLink "ExactChains" (273 : Nat) ({ cls := "ExactChains", name := "wholeTable", desc := "()[[I" } : Jvm.MethodName)) ∈ lw_all := lw_g (lw_at lw_m5 70 rfl) rfl
theorem q1131 : (Jvm.Cond.privateMethod ({ cls := "ExactChains", name := "wholeTable", desc := "()[[I" } : Jvm.MethodName)) ∈ lw_tbl := lw_at lw_m5 71 rfl
theorem q1132 : (Jvm.Cond.instanceMethod ({ cls := "ExactChains", name := "wholeTable", desc := "()[[I" } : Jvm.MethodName)) ∈ lw_all := lw_g (lw_at lw_m5 72 rfl) rfl
theorem q1133 : (Jvm.Cond.code ({ cls := "ExactChains", name := "wholeTable", desc := "()[[I" } : Jvm.MethodName) prog_1_method_41_code (1 : Nat) (Option.some (Jvm.ClassFile.FieldType.array (Jvm.ClassFile.FieldType.array Jvm.ClassFile.FieldType.int)))) ∈ lw_all := lw_g (lw_at lw_m5 73 rfl) rfl
theorem q1134 : (Jvm.Cond.methodLink "ExactChains" (270 : Nat) ({ cls := "ExactChains$Process", name := "projected", desc := "(I)[[I" } : Jvm.MethodName)) ∈ lw_all := lw_g (lw_at lw_m5 74 rfl) rfl
theorem q1154 : (Jvm.Cond.methodLink "ExactChains" (277 : Nat) ({ cls := "java/lang/Math", name := "abs", desc := "(I)I" } : Jvm.MethodName)) ∈ lw_all := lw_g (lw_at lw_m5 94 rfl) rfl
theorem q1157 : (Jvm.Cond.methodLink "ExactChains" (283 : Nat) ({ cls := "java/lang/Math", name := "max", desc := "(II)I" } : Jvm.MethodName)) ∈ lw_all := lw_g (lw_at lw_m5 97 rfl) rfl
theorem q1159 : (Jvm.Cond.instanceMethod ({ cls := "ExactChains", name := "determinant", desc := "()I" } : Jvm.MethodName)) ∈ lw_all := lw_g (lw_at lw_m5 99 rfl) rfl
theorem q1160 : (Jvm.Cond.selects "ExactChains" ({ cls := "ExactChains", name := "determinant", desc := "()I" } : Jvm.MethodName) ({ cls := "ExactChains", name := "determinant", desc := "()I" } : Jvm.MethodName)) ∈ lw_all := lw_g (lw_at lw_m5 100 rfl) rfl
theorem q1161 : (Jvm.Cond.code ({ cls := "ExactChains", name := "determinant", desc := "()I" } : Jvm.MethodName) prog_1_method_43_code (1 : Nat) (Option.some Jvm.ClassFile.FieldType.int)) ∈ lw_all := lw_g (lw_at lw_m5 101 rfl) rfl
theorem q1162 : (Jvm.Cond.classLink "ExactChains" (286 : Nat) "ExactChains$Steps") ∈ lw_all := lw_g (lw_at lw_m5 102 rfl) rfl
theorem q1163 : (Jvm.Cond.methodLink "ExactChains" (288 : Nat) ({ cls := "ExactChains$Steps", name := "<init>", desc := "(LExactChains$Field;[[I)V" } : Jvm.MethodName)) ∈ lw_all := lw_g (lw_at lw_m5 103 rfl) rfl
theorem q1165 : (Jvm.Cond.instanceMethod ({ cls := "ExactChains", name := "filled", desc := "()F" } : Jvm.MethodName)) ∈ lw_all := lw_g (lw_at lw_m5 105 rfl) rfl
theorem q1166 : (Jvm.Cond.selects "ExactChains" ({ cls := "ExactChains", name := "filled", desc := "()F" } : Jvm.MethodName) ({ cls := "ExactChains", name := "filled", desc := "()F" } : Jvm.MethodName)) ∈ lw_all := lw_g (lw_at lw_m5 106 rfl) rfl
theorem q1167 : (Jvm.Cond.code ({ cls := "ExactChains", name := "filled", desc := "()F" } : Jvm.MethodName) prog_1_method_44_code (11 : Nat) (Option.some Jvm.ClassFile.FieldType.float)) ∈ lw_all := lw_g (lw_at lw_m5 107 rfl) rfl
theorem q1169 : (Jvm.Cond.instanceMethod ({ cls := "ExactChains", name := "eigenvalues", desc := "()I" } : Jvm.MethodName)) ∈ lw_all := lw_g (lw_at lw_m5 109 rfl) rfl
theorem q1170 : (Jvm.Cond.selects "ExactChains" ({ cls := "ExactChains", name := "eigenvalues", desc := "()I" } : Jvm.MethodName) ({ cls := "ExactChains", name := "eigenvalues", desc := "()I" } : Jvm.MethodName)) ∈ lw_all := lw_g (lw_at lw_m5 110 rfl) rfl
theorem q1171 : (Jvm.Cond.code ({ cls := "ExactChains", name := "eigenvalues", desc := "()I" } : Jvm.MethodName) prog_1_method_47_code (3 : Nat) (Option.some Jvm.ClassFile.FieldType.int)) ∈ lw_all := lw_g (lw_at lw_m5 111 rfl) rfl
theorem q1172 : (Jvm.Cond.methodLink "ExactChains" (294 : Nat) ({ cls := "ExactChains$Process", name := "determinantAt", desc := "(I)I" } : Jvm.MethodName)) ∈ lw_all := lw_g (lw_at lw_m5 112 rfl) rfl
theorem q1188 : (Jvm.Cond.instanceMethod ({ cls := "ExactChains", name := "isSplit", desc := "()Z" } : Jvm.MethodName)) ∈ lw_all := lw_g (lw_at lw_m5 128 rfl) rfl
theorem q1189 : (Jvm.Cond.selects "ExactChains" ({ cls := "ExactChains", name := "isSplit", desc := "()Z" } : Jvm.MethodName) ({ cls := "ExactChains", name := "isSplit", desc := "()Z" } : Jvm.MethodName)) ∈ lw_all := lw_g (lw_at lw_m5 129 rfl) rfl
theorem q1190 : (Jvm.Cond.code ({ cls := "ExactChains", name := "isSplit", desc := "()Z" } : Jvm.MethodName) prog_1_method_48_code (3 : Nat) (Option.some Jvm.ClassFile.FieldType.boolean)) ∈ lw_all := lw_g (lw_at lw_m5 130 rfl) rfl
theorem q1191 : (Jvm.Cond.methodLink "ExactChains" (297 : Nat) ({ cls := "ExactChains$Process", name := "dimension", desc := "(I)I" } : Jvm.MethodName)) ∈ lw_all := lw_g (lw_at lw_m5 131 rfl) rfl
theorem q1196 : (Jvm.Cond.instanceMethod ({ cls := "ExactChains", name := "reach", desc := "()I" } : Jvm.MethodName)) ∈ lw_all := lw_g (lw_at lw_m5 136 rfl) rfl
theorem q1197 : (Jvm.Cond.selects "ExactChains" ({ cls := "ExactChains", name := "reach", desc := "()I" } : Jvm.MethodName) ({ cls := "ExactChains", name := "reach", desc := "()I" } : Jvm.MethodName)) ∈ lw_all := lw_g (lw_at lw_m5 137 rfl) rfl
theorem q1198 : (Jvm.Cond.code ({ cls := "ExactChains", name := "reach", desc := "()I" } : Jvm.MethodName) prog_1_method_49_code (1 : Nat) (Option.some Jvm.ClassFile.FieldType.int)) ∈ lw_all := lw_g (lw_at lw_m5 138 rfl) rfl
theorem q1199 : (Jvm.Cond.methodLink "ExactChains" (300 : Nat) ({ cls := "ExactChains$Process", name := "reach", desc := "(LExactChains$Vector;)I" } : Jvm.MethodName)) ∈ lw_all := lw_g (lw_at lw_m5 139 rfl) rfl
theorem q1204 : (Jvm.Cond.instanceMethod ({ cls := "ExactChains", name := "writeChains", desc := "()I" } : Jvm.MethodName)) ∈ lw_all := lw_g (lw_at lw_m5 144 rfl) rfl
theorem q1205 : (Jvm.Cond.selects "ExactChains" ({ cls := "ExactChains", name := "writeChains", desc := "()I" } : Jvm.MethodName) ({ cls := "ExactChains", name := "writeChains", desc := "()I" } : Jvm.MethodName)) ∈ lw_all := lw_g (lw_at lw_m5 145 rfl) rfl
theorem q1206 : (Jvm.Cond.code ({ cls := "ExactChains", name := "writeChains", desc := "()I" } : Jvm.MethodName) prog_1_method_53_code (3 : Nat) (Option.some Jvm.ClassFile.FieldType.int)) ∈ lw_all := lw_g (lw_at lw_m5 146 rfl) rfl
theorem q1207 : (Jvm.Cond.methodLink "ExactChains" (319 : Nat) ({ cls := "java/lang/StringBuilder", name := "setLength", desc := "(I)V" } : Jvm.MethodName)) ∈ lw_all := lw_g (lw_at lw_m5 147 rfl) rfl
theorem q1275 : (Jvm.Cond.interfaceEntry "ExactChains" (204 : Nat)) ∈ lw_tbl := lw_at lw_m5 215 rfl
theorem q1276 : (Jvm.Cond.methodLink "ExactChains" (204 : Nat) ({ cls := "java/util/List", name := "get", desc := "(I)Ljava/lang/Object;" } : Jvm.MethodName)) ∈ lw_all := lw_g (lw_at lw_m5 216 rfl) rfl
theorem q1277 : (Jvm.Cond.classLink "ExactChains" (208 : Nat) "ExactChains$Chain") ∈ lw_all := lw_g (lw_at lw_m5 217 rfl) rfl
theorem q1278 : (Jvm.Cond.methodLink "ExactChains" (322 : Nat) ({ cls := "java/lang/StringBuilder", name := "append", desc := "(C)Ljava/lang/StringBuilder;" } : Jvm.MethodName)) ∈ lw_all := lw_g (lw_at lw_m5 218 rfl) rfl
theorem q1298 : (Jvm.Cond.methodLink "ExactChains" (218 : Nat) ({ cls := "ExactChains$Chain", name := "many", desc := "()I" } : Jvm.MethodName)) ∈ lw_all := lw_g (lw_at lw_m5 238 rfl) rfl
theorem q1299 : (Jvm.Cond.methodLink "ExactChains" (326 : Nat) ({ cls := "java/lang/StringBuilder", name := "append", desc := "(I)Ljava/lang/StringBuilder;" } : Jvm.MethodName)) ∈ lw_all := lw_g (lw_at lw_m5 239 rfl) rfl
theorem q1300 : (Jvm.Cond.stringRef "ExactChains" (329 : Nat) "ocbl") ∈ lw_tbl := lw_at lw_m6 0 rfl
theorem q1301 : (Jvm.Cond.methodLink "ExactChains" (224 : Nat) ({ cls := "ExactChains$Chain", name := "cause", desc := "()I" } : Jvm.MethodName)) ∈ lw_all := lw_g (lw_at lw_m6 1 rfl) rfl
theorem q1302 : (Jvm.Cond.methodLink "ExactChains" (331 : Nat) ({ cls := "java/lang/String", name := "charAt", desc := "(I)C" } : Jvm.MethodName)) ∈ lw_all := lw_g (lw_at lw_m6 2 rfl) rfl
theorem q1317 : (Jvm.Cond.methodLink "ExactChains" (337 : Nat) ({ cls := "java/lang/StringBuilder", name := "length", desc := "()I" } : Jvm.MethodName)) ∈ lw_all := lw_g (lw_at lw_m6 17 rfl) rfl
theorem q1323 : (Jvm.Cond.instanceMethod ({ cls := "ExactChains", name := "append", desc := "(IIIII)I" } : Jvm.MethodName)) ∈ lw_all := lw_g (lw_at lw_m6 23 rfl) rfl
theorem q1324 : (Jvm.Cond.selects "ExactChains" ({ cls := "ExactChains", name := "append", desc := "(IIIII)I" } : Jvm.MethodName) ({ cls := "ExactChains", name := "append", desc := "(IIIII)I" } : Jvm.MethodName)) ∈ lw_all := lw_g (lw_at lw_m6 24 rfl) rfl
theorem q1325 : (Jvm.Cond.code ({ cls := "ExactChains", name := "append", desc := "(IIIII)I" } : Jvm.MethodName) prog_1_method_10_code (6 : Nat) (Option.some Jvm.ClassFile.FieldType.int)) ∈ lw_all := lw_g (lw_at lw_m6 25 rfl) rfl
theorem q1326 : (Jvm.Cond.methodLink "ExactChains" (81 : Nat) ({ cls := "ExactChains", name := "requireState", desc := "(Z)V" } : Jvm.MethodName)) ∈ lw_all := lw_g (lw_at lw_m6 26 rfl) rfl
theorem q1327 : (Jvm.Cond.static ({ cls := "ExactChains", name := "requireState", desc := "(Z)V" } : Jvm.MethodName)) ∈ lw_all := lw_g (lw_at lw_m6 27 rfl) rfl
theorem q1328 : (Jvm.Cond.code ({ cls := "ExactChains", name := "requireState", desc := "(Z)V" } : Jvm.MethodName) prog_1_method_4_code (1 : Nat) (Option.none : Option Jvm.ClassFile.FieldType)) ∈ lw_all := lw_g (lw_at lw_m6 28 rfl) rfl
theorem q1329 : (Jvm.Cond.classLink "ExactChains" (16 : Nat) "java/lang/IllegalStateException") ∈ lw_all := lw_g (lw_at lw_m6 29 rfl) rfl
theorem q1330 : (Jvm.Cond.methodLink "ExactChains" (18 : Nat) ({ cls := "java/lang/IllegalStateException", name := "<init>", desc := "()V" } : Jvm.MethodName)) ∈ lw_all := lw_g (lw_at lw_m6 30 rfl) rfl
theorem q1334 : (Jvm.Cond.methodLink "ExactChains" (85 : Nat) ({ cls := "ExactChains", name := "write", desc := "(I)V" } : Jvm.MethodName)) ∈ lw_all := lw_g (lw_at lw_m6 34 rfl) rfl
theorem q1335 : (Jvm.Cond.privateMethod ({ cls := "ExactChains", name := "write", desc := "(I)V" } : Jvm.MethodName)) ∈ lw_tbl := lw_at lw_m6 35 rfl
theorem q1336 : (Jvm.Cond.instanceMethod ({ cls := "ExactChains", name := "write", desc := "(I)V" } : Jvm.MethodName)) ∈ lw_all := lw_g (lw_at lw_m6 36 rfl) rfl
theorem q1337 : (Jvm.Cond.code ({ cls := "ExactChains", name := "write", desc := "(I)V" } : Jvm.MethodName) prog_1_method_9_code (3 : Nat) (Option.none : Option Jvm.ClassFile.FieldType)) ∈ lw_all := lw_g (lw_at lw_m6 37 rfl) rfl
theorem q1343 : (Jvm.Cond.instanceMethod ({ cls := "ExactChains", name := "load", desc := "(I)I" } : Jvm.MethodName)) ∈ lw_all := lw_g (lw_at lw_m6 43 rfl) rfl
theorem q1344 : (Jvm.Cond.selects "ExactChains" ({ cls := "ExactChains", name := "load", desc := "(I)I" } : Jvm.MethodName) ({ cls := "ExactChains", name := "load", desc := "(I)I" } : Jvm.MethodName)) ∈ lw_all := lw_g (lw_at lw_m6 44 rfl) rfl
theorem q1345 : (Jvm.Cond.codeWith ({ cls := "ExactChains", name := "load", desc := "(I)I" } : Jvm.MethodName) prog_1_method_11_code (5 : Nat) (Option.some Jvm.ClassFile.FieldType.int) [((24 : Nat), (40 : Nat), (46 : Nat), (105 : Nat)), ((47 : Nat), (51 : Nat), (54 : Nat), (105 : Nat)), ((14 : Nat), (44 : Nat), (64 : Nat), (111 : Nat)), ((46 : Nat), (64 : Nat), (64 : Nat), (111 : Nat))]) ∈ lw_all := lw_g (lw_at lw_m6 45 rfl) rfl
theorem q1346 : (Jvm.Cond.classLink "ExactChains" (105 : Nat) "java/lang/Throwable") ∈ lw_all := lw_g (lw_at lw_m6 46 rfl) rfl
theorem q1419 : (Jvm.Cond.classLink "ExactChains" (111 : Nat) "ExactChains$TextError") ∈ lw_all := lw_g (lw_at lw_m6 119 rfl) rfl
theorem q1420 : (Jvm.Cond.methodLink "ExactChains" (1 : Nat) ({ cls := "ExactChains", name := "inRange", desc := "(JJJ)Z" } : Jvm.MethodName)) ∈ lw_all := lw_g (lw_at lw_m6 120 rfl) rfl
theorem q1421 : (Jvm.Cond.static ({ cls := "ExactChains", name := "inRange", desc := "(JJJ)Z" } : Jvm.MethodName)) ∈ lw_all := lw_g (lw_at lw_m6 121 rfl) rfl
theorem q1422 : (Jvm.Cond.code ({ cls := "ExactChains", name := "inRange", desc := "(JJJ)Z" } : Jvm.MethodName) prog_1_method_1_code (6 : Nat) (Option.some Jvm.ClassFile.FieldType.boolean)) ∈ lw_all := lw_g (lw_at lw_m6 122 rfl) rfl
theorem q1423 : (Jvm.Cond.methodLink "ExactChains" (89 : Nat) ({ cls := "ExactChains", name := "requireArgument", desc := "(Z)V" } : Jvm.MethodName)) ∈ lw_all := lw_g (lw_at lw_m6 123 rfl) rfl
theorem q1424 : (Jvm.Cond.static ({ cls := "ExactChains", name := "requireArgument", desc := "(Z)V" } : Jvm.MethodName)) ∈ lw_all := lw_g (lw_at lw_m6 124 rfl) rfl
theorem q1425 : (Jvm.Cond.code ({ cls := "ExactChains", name := "requireArgument", desc := "(Z)V" } : Jvm.MethodName) prog_1_method_3_code (1 : Nat) (Option.none : Option Jvm.ClassFile.FieldType)) ∈ lw_all := lw_g (lw_at lw_m6 125 rfl) rfl
theorem q1426 : (Jvm.Cond.classLink "ExactChains" (13 : Nat) "java/lang/IllegalArgumentException") ∈ lw_all := lw_g (lw_at lw_m6 126 rfl) rfl
theorem q1427 : (Jvm.Cond.methodLink "ExactChains" (15 : Nat) ({ cls := "java/lang/IllegalArgumentException", name := "<init>", desc := "()V" } : Jvm.MethodName)) ∈ lw_all := lw_g (lw_at lw_m6 127 rfl) rfl
theorem q1431 : (Jvm.Cond.classLink "ExactChains" (92 : Nat) "ExactChains$Reader") ∈ lw_all := lw_g (lw_at lw_m6 131 rfl) rfl
theorem q1433 : (Jvm.Cond.methodLink "ExactChains" (94 : Nat) ({ cls := "ExactChains$Reader", name := "<init>", desc := "(LExactChains;I)V" } : Jvm.MethodName)) ∈ lw_all := lw_g (lw_at lw_m6 133 rfl) rfl
theorem q1453 : (Jvm.Cond.methodLink "ExactChains" (97 : Nat) ({ cls := "ExactChains$Reader", name := "read", desc := "()LExactChains$Process;" } : Jvm.MethodName)) ∈ lw_all := lw_g (lw_at lw_m6 153 rfl) rfl
theorem q1508 : (Jvm.Cond.fieldLinkNest "ExactChains" (116 : Nat) "ExactChains$TextError" "code" "I" "ExactChains") ∈ lw_tbl := lw_at lw_m6 208 rfl
theorem q1510 : (Jvm.Cond.fieldLinkNest "ExactChains" (113 : Nat) "ExactChains$TextError" "position" "I" "ExactChains") ∈ lw_tbl := lw_at lw_m6 210 rfl
theorem q1632 : (Jvm.Cond.methodLink "ExactChains" (102 : Nat) ({ cls := "ExactChains$Reader", name := "close", desc := "()V" } : Jvm.MethodName)) ∈ lw_all := lw_g (lw_at lw_m7 92 rfl) rfl
theorem q1636 : (Jvm.Cond.methodLink "ExactChains" (107 : Nat) ({ cls := "java/lang/Throwable", name := "addSuppressed", desc := "(Ljava/lang/Throwable;)V" } : Jvm.MethodName)) ∈ lw_all := lw_g (lw_at lw_m7 96 rfl) rfl
theorem q1678 : (Jvm.Cond.instanceMethod ({ cls := "ExactChains", name := "count", desc := "(I)I" } : Jvm.MethodName)) ∈ lw_all := lw_g (lw_at lw_m7 138 rfl) rfl
theorem q1679 : (Jvm.Cond.selects "ExactChains" ({ cls := "ExactChains", name := "count", desc := "(I)I" } : Jvm.MethodName) ({ cls := "ExactChains", name := "count", desc := "(I)I" } : Jvm.MethodName)) ∈ lw_all := lw_g (lw_at lw_m7 139 rfl) rfl
theorem q1680 : (Jvm.Cond.code ({ cls := "ExactChains", name := "count", desc := "(I)I" } : Jvm.MethodName) prog_1_method_13_code (2 : Nat) (Option.some Jvm.ClassFile.FieldType.int)) ∈ lw_all := lw_g (lw_at lw_m7 140 rfl) rfl
theorem q1686 : (Jvm.Cond.instanceMethod ({ cls := "ExactChains", name := "cell", desc := "(II)I" } : Jvm.MethodName)) ∈ lw_all := lw_g (lw_at lw_m7 146 rfl) rfl
theorem q1687 : (Jvm.Cond.selects "ExactChains" ({ cls := "ExactChains", name := "cell", desc := "(II)I" } : Jvm.MethodName) ({ cls := "ExactChains", name := "cell", desc := "(II)I" } : Jvm.MethodName)) ∈ lw_all := lw_g (lw_at lw_m7 147 rfl) rfl
theorem q1688 : (Jvm.Cond.code ({ cls := "ExactChains", name := "cell", desc := "(II)I" } : Jvm.MethodName) prog_1_method_16_code (3 : Nat) (Option.some Jvm.ClassFile.FieldType.int)) ∈ lw_all := lw_g (lw_at lw_m7 148 rfl) rfl
theorem q1689 : (Jvm.Cond.methodLink "ExactChains" (162 : Nat) ({ cls := "ExactChains", name := "requirePlaces", desc := "([I)V" } : Jvm.MethodName)) ∈ lw_all := lw_g (lw_at lw_m7 149 rfl) rfl
theorem q1690 : (Jvm.Cond.privateMethod ({ cls := "ExactChains", name := "requirePlaces", desc := "([I)V" } : Jvm.MethodName)) ∈ lw_tbl := lw_at lw_m7 150 rfl
theorem q1691 : (Jvm.Cond.instanceMethod ({ cls := "ExactChains", name := "requirePlaces", desc := "([I)V" } : Jvm.MethodName)) ∈ lw_all := lw_g (lw_at lw_m7 151 rfl) rfl
theorem q1692 : (Jvm.Cond.code ({ cls := "ExactChains", name := "requirePlaces", desc := "([I)V" } : Jvm.MethodName) prog_1_method_14_code (6 : Nat) (Option.none : Option Jvm.ClassFile.FieldType)) ∈ lw_all := lw_g (lw_at lw_m7 152 rfl) rfl
theorem q1693 : (Jvm.Cond.methodLink "ExactChains" (154 : Nat) ({ cls := "ExactChains", name := "requireIndex", desc := "(II)V" } : Jvm.MethodName)) ∈ lw_all := lw_g (lw_at lw_m7 153 rfl) rfl
theorem q1694 : (Jvm.Cond.static ({ cls := "ExactChains", name := "requireIndex", desc := "(II)V" } : Jvm.MethodName)) ∈ lw_all := lw_g (lw_at lw_m7 154 rfl) rfl
theorem q1695 : (Jvm.Cond.code ({ cls := "ExactChains", name := "requireIndex", desc := "(II)V" } : Jvm.MethodName) prog_1_method_2_code (2 : Nat) (Option.none : Option Jvm.ClassFile.FieldType)) ∈ lw_all := lw_g (lw_at lw_m7 155 rfl) rfl
theorem q1696 : (Jvm.Cond.classLink "ExactChains" (7 : Nat) "java/lang/IndexOutOfBoundsException") ∈ lw_all := lw_g (lw_at lw_m7 156 rfl) rfl
theorem q1705 : (Jvm.Cond.methodLink "ExactChains" (9 : Nat) ({ cls := "java/lang/IndexOutOfBoundsException", name := "<init>", desc := "()V" } : Jvm.MethodName)) ∈ lw_all := lw_g (lw_at lw_m7 165 rfl) rfl
theorem q1715 : (Jvm.Cond.instanceMethod ({ cls := "ExactChains", name := "start", desc := "(I)I" } : Jvm.MethodName)) ∈ lw_all := lw_g (lw_at lw_m7 175 rfl) rfl
theorem q1716 : (Jvm.Cond.selects "ExactChains" ({ cls := "ExactChains", name := "start", desc := "(I)I" } : Jvm.MethodName) ({ cls := "ExactChains", name := "start", desc := "(I)I" } : Jvm.MethodName)) ∈ lw_all := lw_g (lw_at lw_m7 176 rfl) rfl
theorem q1717 : (Jvm.Cond.code ({ cls := "ExactChains", name := "start", desc := "(I)I" } : Jvm.MethodName) prog_1_method_17_code (2 : Nat) (Option.some Jvm.ClassFile.FieldType.int)) ∈ lw_all := lw_g (lw_at lw_m7 177 rfl) rfl
theorem q1722 : (Jvm.Cond.instanceMethod ({ cls := "ExactChains", name := "setCell", desc := "(III)I" } : Jvm.MethodName)) ∈ lw_all := lw_g (lw_at lw_m7 182 rfl) rfl
theorem q1723 : (Jvm.Cond.selects "ExactChains" ({ cls := "ExactChains", name := "setCell", desc := "(III)I" } : Jvm.MethodName) ({ cls := "ExactChains", name := "setCell", desc := "(III)I" } : Jvm.MethodName)) ∈ lw_all := lw_g (lw_at lw_m7 183 rfl) rfl
theorem q1724 : (Jvm.Cond.code ({ cls := "ExactChains", name := "setCell", desc := "(III)I" } : Jvm.MethodName) prog_1_method_18_code (5 : Nat) (Option.some Jvm.ClassFile.FieldType.int)) ∈ lw_all := lw_g (lw_at lw_m7 184 rfl) rfl
theorem q1725 : (Jvm.Cond.methodLink "ExactChains" (180 : Nat) ({ cls := "ExactChains", name := "requireNumber", desc := "(I)V" } : Jvm.MethodName)) ∈ lw_all := lw_g (lw_at lw_m7 185 rfl) rfl
theorem q1726 : (Jvm.Cond.privateMethod ({ cls := "ExactChains", name := "requireNumber", desc := "(I)V" } : Jvm.MethodName)) ∈ lw_tbl := lw_at lw_m7 186 rfl
theorem q1727 : (Jvm.Cond.instanceMethod ({ cls := "ExactChains", name := "requireNumber", desc := "(I)V" } : Jvm.MethodName)) ∈ lw_all := lw_g (lw_at lw_m7 187 rfl) rfl
theorem q1728 : (Jvm.Cond.code ({ cls := "ExactChains", name := "requireNumber", desc := "(I)V" } : Jvm.MethodName) prog_1_method_15_code (2 : Nat) (Option.none : Option Jvm.ClassFile.FieldType)) ∈ lw_all := lw_g (lw_at lw_m7 188 rfl) rfl
theorem q1729 : (Jvm.Cond.methodLink "ExactChains" (158 : Nat) ({ cls := "ExactChains$Field", name := "has", desc := "(I)Z" } : Jvm.MethodName)) ∈ lw_all := lw_g (lw_at lw_m7 189 rfl) rfl
theorem q1734 : (Jvm.Cond.methodLink "ExactChains" (186 : Nat) ({ cls := "ExactChains$Process", name := "sets", desc := "(III)V" } : Jvm.MethodName)) ∈ lw_all := lw_g (lw_at lw_m7 194 rfl) rfl
theorem q1739 : (Jvm.Cond.instanceMethod ({ cls := "ExactChains", name := "setStart", desc := "(II)I" } : Jvm.MethodName)) ∈ lw_all := lw_g (lw_at lw_m7 199 rfl) rfl
theorem q1740 : (Jvm.Cond.selects "ExactChains" ({ cls := "ExactChains", name := "setStart", desc := "(II)I" } : Jvm.MethodName) ({ cls := "ExactChains", name := "setStart", desc := "(II)I" } : Jvm.MethodName)) ∈ lw_all := lw_g (lw_at lw_m7 200 rfl) rfl
theorem q1741 : (Jvm.Cond.code ({ cls := "ExactChains", name := "setStart", desc := "(II)I" } : Jvm.MethodName) prog_1_method_19_code (5 : Nat) (Option.some Jvm.ClassFile.FieldType.int)) ∈ lw_all := lw_g (lw_at lw_m7 201 rfl) rfl
theorem q1742 : (Jvm.Cond.methodLink "ExactChains" (190 : Nat) ({ cls := "ExactChains$Vector", name := "with", desc := "(II)LExactChains$Vector;" } : Jvm.MethodName)) ∈ lw_all := lw_g (lw_at lw_m7 202 rfl) rfl
theorem q1747 : (Jvm.Cond.instanceMethod ({ cls := "ExactChains", name := "setLimit", desc := "(I)I" } : Jvm.MethodName)) ∈ lw_all := lw_g (lw_at lw_m7 207 rfl) rfl
theorem q1748 : (Jvm.Cond.selects "ExactChains" ({ cls := "ExactChains", name := "setLimit", desc := "(I)I" } : Jvm.MethodName) ({ cls := "ExactChains", name := "setLimit", desc := "(I)I" } : Jvm.MethodName)) ∈ lw_all := lw_g (lw_at lw_m7 208 rfl) rfl
theorem q1749 : (Jvm.Cond.code ({ cls := "ExactChains", name := "setLimit", desc := "(I)I" } : Jvm.MethodName) prog_1_method_20_code (3 : Nat) (Option.some Jvm.ClassFile.FieldType.int)) ∈ lw_all := lw_g (lw_at lw_m7 209 rfl) rfl
theorem q1750 : (Jvm.Cond.constantLong "ExactChains" (194 : Nat) (8 : Int64)) ∈ lw_all := lw_g (lw_at lw_m7 210 rfl) rfl
theorem q1755 : (Jvm.Cond.instanceMethod ({ cls := "ExactChains", name := "setRestarts", desc := "(I)I" } : Jvm.MethodName)) ∈ lw_all := lw_g (lw_at lw_m7 215 rfl) rfl
theorem q1756 : (Jvm.Cond.selects "ExactChains" ({ cls := "ExactChains", name := "setRestarts", desc := "(I)I" } : Jvm.MethodName) ({ cls := "ExactChains", name := "setRestarts", desc := "(I)I" } : Jvm.MethodName)) ∈ lw_all := lw_g (lw_at lw_m7 216 rfl) rfl
theorem q1757 : (Jvm.Cond.code ({ cls := "ExactChains", name := "setRestarts", desc := "(I)I" } : Jvm.MethodName) prog_1_method_21_code (3 : Nat) (Option.some Jvm.ClassFile.FieldType.int)) ∈ lw_all := lw_g (lw_at lw_m7 217 rfl) rfl
theorem q1762 : (Jvm.Cond.instanceMethod ({ cls := "ExactChains", name := "run", desc := "(I)I" } : Jvm.MethodName)) ∈ lw_all := lw_g (lw_at lw_m7 222 rfl) rfl
theorem q1763 : (Jvm.Cond.selects "ExactChains" ({ cls := "ExactChains", name := "run", desc := "(I)I" } : Jvm.MethodName) ({ cls := "ExactChains", name := "run", desc := "(I)I" } : Jvm.MethodName)) ∈ lw_all := lw_g (lw_at lw_m7 223 rfl) rfl
theorem q1764 : (Jvm.Cond.code ({ cls := "ExactChains", name := "run", desc := "(I)I" } : Jvm.MethodName) prog_1_method_24_code (5 : Nat) (Option.some Jvm.ClassFile.FieldType.int)) ∈ lw_all := lw_g (lw_at lw_m7 224 rfl) rfl
theorem q1765 : (Jvm.Cond.constantLong "ExactChains" (202 : Nat) (40 : Int64)) ∈ lw_all := lw_g (lw_at lw_m7 225 rfl) rfl
theorem q1770 : (Jvm.Cond.instanceMethod ({ cls := "ExactChains", name := "chain", desc := "(II)I" } : Jvm.MethodName)) ∈ lw_all := lw_g (lw_at lw_m7 230 rfl) rfl
theorem q1771 : (Jvm.Cond.selects "ExactChains" ({ cls := "ExactChains", name := "chain", desc := "(II)I" } : Jvm.MethodName) ({ cls := "ExactChains", name := "chain", desc := "(II)I" } : Jvm.MethodName)) ∈ lw_all := lw_g (lw_at lw_m7 231 rfl) rfl
theorem q1772 : (Jvm.Cond.code ({ cls := "ExactChains", name := "chain", desc := "(II)I" } : Jvm.MethodName) prog_1_method_28_code (4 : Nat) (Option.some Jvm.ClassFile.FieldType.int)) ∈ lw_all := lw_g (lw_at lw_m7 232 rfl) rfl
theorem q1773 : (Jvm.Cond.methodLink "ExactChains" (214 : Nat) ({ cls := "ExactChains", name := "chainAt", desc := "(I)LExactChains$Chain;" } : Jvm.MethodName)) ∈ lw_all := lw_g (lw_at lw_m7 233 rfl) rfl
theorem q1774 : (Jvm.Cond.privateMethod ({ cls := "ExactChains", name := "chainAt", desc := "(I)LExactChains$Chain;" } : Jvm.MethodName)) ∈ lw_tbl := lw_at lw_m7 234 rfl
theorem q1775 : (Jvm.Cond.instanceMethod ({ cls := "ExactChains", name := "chainAt", desc := "(I)LExactChains$Chain;" } : Jvm.MethodName)) ∈ lw_all := lw_g (lw_at lw_m7 235 rfl) rfl
theorem q1776 : (Jvm.Cond.code ({ cls := "ExactChains", name := "chainAt", desc := "(I)LExactChains$Chain;" } : Jvm.MethodName) prog_1_method_26_code (2 : Nat) (Option.some (Jvm.ClassFile.FieldType.object "ExactChains$Chain"))) ∈ lw_all := lw_g (lw_at lw_m7 236 rfl) rfl
theorem q1777 : (Jvm.Cond.methodLink "ExactChains" (221 : Nat) ({ cls := "ExactChains$Chain", name := "first", desc := "()I" } : Jvm.MethodName)) ∈ lw_all := lw_g (lw_at lw_m7 237 rfl) rfl
theorem q1781 : (Jvm.Cond.methodLink "ExactChains" (227 : Nat) ({ cls := "ExactChains", name := "roots", desc := "(LExactChains$Chain;)I" } : Jvm.MethodName)) ∈ lw_all := lw_g (lw_at lw_m8 1 rfl) rfl
theorem q1782 : (Jvm.Cond.privateMethod ({ cls := "ExactChains", name := "roots", desc := "(LExactChains$Chain;)I" } : Jvm.MethodName)) ∈ lw_tbl := lw_at lw_m8 2 rfl
theorem q1783 : (Jvm.Cond.instanceMethod ({ cls := "ExactChains", name := "roots", desc := "(LExactChains$Chain;)I" } : Jvm.MethodName)) ∈ lw_all := lw_g (lw_at lw_m8 3 rfl) rfl
theorem q1784 : (Jvm.Cond.code ({ cls := "ExactChains", name := "roots", desc := "(LExactChains$Chain;)I" } : Jvm.MethodName) prog_1_method_27_code (4 : Nat) (Option.some Jvm.ClassFile.FieldType.int)) ∈ lw_all := lw_g (lw_at lw_m8 4 rfl) rfl
theorem q1785 : (Jvm.Cond.methodLink "ExactChains" (210 : Nat) ({ cls := "ExactChains$Process", name := "polynomial", desc := "(LExactChains$Chain;I)I" } : Jvm.MethodName)) ∈ lw_all := lw_g (lw_at lw_m8 5 rfl) rfl
theorem q1795 : (Jvm.Cond.instanceMethod ({ cls := "ExactChains", name := "polynomial", desc := "(II)I" } : Jvm.MethodName)) ∈ lw_all := lw_g (lw_at lw_m8 15 rfl) rfl
theorem q1796 : (Jvm.Cond.selects "ExactChains" ({ cls := "ExactChains", name := "polynomial", desc := "(II)I" } : Jvm.MethodName) ({ cls := "ExactChains", name := "polynomial", desc := "(II)I" } : Jvm.MethodName)) ∈ lw_all := lw_g (lw_at lw_m8 16 rfl) rfl
theorem q1797 : (Jvm.Cond.code ({ cls := "ExactChains", name := "polynomial", desc := "(II)I" } : Jvm.MethodName) prog_1_method_29_code (4 : Nat) (Option.some Jvm.ClassFile.FieldType.int)) ∈ lw_all := lw_g (lw_at lw_m8 17 rfl) rfl
theorem q1802 : (Jvm.Cond.instanceMethod ({ cls := "ExactChains", name := "coefficient", desc := "(II)I" } : Jvm.MethodName)) ∈ lw_all := lw_g (lw_at lw_m8 22 rfl) rfl
theorem q1803 : (Jvm.Cond.selects "ExactChains" ({ cls := "ExactChains", name := "coefficient", desc := "(II)I" } : Jvm.MethodName) ({ cls := "ExactChains", name := "coefficient", desc := "(II)I" } : Jvm.MethodName)) ∈ lw_all := lw_g (lw_at lw_m8 23 rfl) rfl
theorem q1804 : (Jvm.Cond.code ({ cls := "ExactChains", name := "coefficient", desc := "(II)I" } : Jvm.MethodName) prog_1_method_30_code (4 : Nat) (Option.some Jvm.ClassFile.FieldType.int)) ∈ lw_all := lw_g (lw_at lw_m8 24 rfl) rfl
theorem q1805 : (Jvm.Cond.methodLink "ExactChains" (231 : Nat) ({ cls := "ExactChains$Process", name := "coefficients", desc := "(LExactChains$Chain;)[I" } : Jvm.MethodName)) ∈ lw_all := lw_g (lw_at lw_m8 25 rfl) rfl
theorem q1813 : (Jvm.Cond.instanceMethod ({ cls := "ExactChains", name := "applied", desc := "(III)I" } : Jvm.MethodName)) ∈ lw_all := lw_g (lw_at lw_m8 33 rfl) rfl
theorem q1814 : (Jvm.Cond.selects "ExactChains" ({ cls := "ExactChains", name := "applied", desc := "(III)I" } : Jvm.MethodName) ({ cls := "ExactChains", name := "applied", desc := "(III)I" } : Jvm.MethodName)) ∈ lw_all := lw_g (lw_at lw_m8 34 rfl) rfl
theorem q1815 : (Jvm.Cond.code ({ cls := "ExactChains", name := "applied", desc := "(III)I" } : Jvm.MethodName) prog_1_method_31_code (5 : Nat) (Option.some Jvm.ClassFile.FieldType.int)) ∈ lw_all := lw_g (lw_at lw_m8 35 rfl) rfl
theorem q1816 : (Jvm.Cond.methodLink "ExactChains" (235 : Nat) ({ cls := "ExactChains$Vector", name := "unit", desc := "(II)LExactChains$Vector;" } : Jvm.MethodName)) ∈ lw_all := lw_g (lw_at lw_m8 36 rfl) rfl
theorem q1817 : (Jvm.Cond.methodLink "ExactChains" (238 : Nat) ({ cls := "ExactChains$Process", name := "applied", desc := "([ILExactChains$Vector;)LExactChains$Vector;" } : Jvm.MethodName)) ∈ lw_all := lw_g (lw_at lw_m8 37 rfl) rfl
theorem q1825 : (Jvm.Cond.instanceMethod ({ cls := "ExactChains", name := "ended", desc := "(I)I" } : Jvm.MethodName)) ∈ lw_all := lw_g (lw_at lw_m8 45 rfl) rfl
theorem q1826 : (Jvm.Cond.selects "ExactChains" ({ cls := "ExactChains", name := "ended", desc := "(I)I" } : Jvm.MethodName) ({ cls := "ExactChains", name := "ended", desc := "(I)I" } : Jvm.MethodName)) ∈ lw_all := lw_g (lw_at lw_m8 46 rfl) rfl
theorem q1827 : (Jvm.Cond.code ({ cls := "ExactChains", name := "ended", desc := "(I)I" } : Jvm.MethodName) prog_1_method_32_code (4 : Nat) (Option.some Jvm.ClassFile.FieldType.int)) ∈ lw_all := lw_g (lw_at lw_m8 47 rfl) rfl
theorem q1828 : (Jvm.Cond.constantLong "ExactChains" (242 : Nat) (3 : Int64)) ∈ lw_all := lw_g (lw_at lw_m8 48 rfl) rfl
theorem q1833 : (Jvm.Cond.instanceMethod ({ cls := "ExactChains", name := "direction", desc := "(II)I" } : Jvm.MethodName)) ∈ lw_all := lw_g (lw_at lw_m8 53 rfl) rfl
theorem q1834 : (Jvm.Cond.selects "ExactChains" ({ cls := "ExactChains", name := "direction", desc := "(II)I" } : Jvm.MethodName) ({ cls := "ExactChains", name := "direction", desc := "(II)I" } : Jvm.MethodName)) ∈ lw_all := lw_g (lw_at lw_m8 54 rfl) rfl
theorem q1835 : (Jvm.Cond.code ({ cls := "ExactChains", name := "direction", desc := "(II)I" } : Jvm.MethodName) prog_1_method_34_code (3 : Nat) (Option.some Jvm.ClassFile.FieldType.int)) ∈ lw_all := lw_g (lw_at lw_m8 55 rfl) rfl
theorem q1836 : (Jvm.Cond.methodLink "ExactChains" (244 : Nat) ({ cls := "ExactChains", name := "requireDirections", desc := "([I)V" } : Jvm.MethodName)) ∈ lw_all := lw_g (lw_at lw_m8 56 rfl) rfl
theorem q1837 : (Jvm.Cond.privateMethod ({ cls := "ExactChains", name := "requireDirections", desc := "([I)V" } : Jvm.MethodName)) ∈ lw_tbl := lw_at lw_m8 57 rfl
theorem q1838 : (Jvm.Cond.instanceMethod ({ cls := "ExactChains", name := "requireDirections", desc := "([I)V" } : Jvm.MethodName)) ∈ lw_all := lw_g (lw_at lw_m8 58 rfl) rfl
theorem q1839 : (Jvm.Cond.code ({ cls := "ExactChains", name := "requireDirections", desc := "([I)V" } : Jvm.MethodName) prog_1_method_33_code (6 : Nat) (Option.none : Option Jvm.ClassFile.FieldType)) ∈ lw_all := lw_g (lw_at lw_m8 59 rfl) rfl
theorem q1844 : (Jvm.Cond.instanceMethod ({ cls := "ExactChains", name := "chainOf", desc := "(I)I" } : Jvm.MethodName)) ∈ lw_all := lw_g (lw_at lw_m8 64 rfl) rfl
theorem q1845 : (Jvm.Cond.selects "ExactChains" ({ cls := "ExactChains", name := "chainOf", desc := "(I)I" } : Jvm.MethodName) ({ cls := "ExactChains", name := "chainOf", desc := "(I)I" } : Jvm.MethodName)) ∈ lw_all := lw_g (lw_at lw_m8 65 rfl) rfl
theorem q1846 : (Jvm.Cond.code ({ cls := "ExactChains", name := "chainOf", desc := "(I)I" } : Jvm.MethodName) prog_1_method_35_code (2 : Nat) (Option.some Jvm.ClassFile.FieldType.int)) ∈ lw_all := lw_g (lw_at lw_m8 66 rfl) rfl
theorem q1847 : (Jvm.Cond.classLink "ExactChains" (251 : Nat) "ExactChains$Direction") ∈ lw_all := lw_g (lw_at lw_m8 67 rfl) rfl
theorem q1848 : (Jvm.Cond.methodLink "ExactChains" (253 : Nat) ({ cls := "ExactChains$Direction", name := "chain", desc := "()I" } : Jvm.MethodName)) ∈ lw_all := lw_g (lw_at lw_m8 68 rfl) rfl
theorem q1856 : (Jvm.Cond.instanceMethod ({ cls := "ExactChains", name := "product", desc := "(II)I" } : Jvm.MethodName)) ∈ lw_all := lw_g (lw_at lw_m8 76 rfl) rfl
theorem q1857 : (Jvm.Cond.selects "ExactChains" ({ cls := "ExactChains", name := "product", desc := "(II)I" } : Jvm.MethodName) ({ cls := "ExactChains", name := "product", desc := "(II)I" } : Jvm.MethodName)) ∈ lw_all := lw_g (lw_at lw_m8 77 rfl) rfl
theorem q1858 : (Jvm.Cond.code ({ cls := "ExactChains", name := "product", desc := "(II)I" } : Jvm.MethodName) prog_1_method_37_code (3 : Nat) (Option.some Jvm.ClassFile.FieldType.int)) ∈ lw_all := lw_g (lw_at lw_m8 78 rfl) rfl
theorem q1863 : (Jvm.Cond.instanceMethod ({ cls := "ExactChains", name := "projected", desc := "(II)I" } : Jvm.MethodName)) ∈ lw_all := lw_g (lw_at lw_m8 83 rfl) rfl
theorem q1864 : (Jvm.Cond.selects "ExactChains" ({ cls := "ExactChains", name := "projected", desc := "(II)I" } : Jvm.MethodName) ({ cls := "ExactChains", name := "projected", desc := "(II)I" } : Jvm.MethodName)) ∈ lw_all := lw_g (lw_at lw_m8 84 rfl) rfl
theorem q1865 : (Jvm.Cond.code ({ cls := "ExactChains", name := "projected", desc := "(II)I" } : Jvm.MethodName) prog_1_method_40_code (3 : Nat) (Option.some Jvm.ClassFile.FieldType.int)) ∈ lw_all := lw_g (lw_at lw_m8 85 rfl) rfl
theorem q1866 : (Jvm.Cond.methodLink "ExactChains" (267 : Nat) ({ cls := "ExactChains$Process", name := "projected", desc := "(II)I" } : Jvm.MethodName)) ∈ lw_all := lw_g (lw_at lw_m8 86 rfl) rfl
theorem q1871 : (Jvm.Cond.instanceMethod ({ cls := "ExactChains", name := "determinantAt", desc := "(I)I" } : Jvm.MethodName)) ∈ lw_all := lw_g (lw_at lw_m8 91 rfl) rfl
theorem q1872 : (Jvm.Cond.selects "ExactChains" ({ cls := "ExactChains", name := "determinantAt", desc := "(I)I" } : Jvm.MethodName) ({ cls := "ExactChains", name := "determinantAt", desc := "(I)I" } : Jvm.MethodName)) ∈ lw_all := lw_g (lw_at lw_m8 92 rfl) rfl
theorem q1873 : (Jvm.Cond.code ({ cls := "ExactChains", name := "determinantAt", desc := "(I)I" } : Jvm.MethodName) prog_1_method_45_code (2 : Nat) (Option.some Jvm.ClassFile.FieldType.int)) ∈ lw_all := lw_g (lw_at lw_m8 93 rfl) rfl
theorem q1878 : (Jvm.Cond.instanceMethod ({ cls := "ExactChains", name := "dimension", desc := "(I)I" } : Jvm.MethodName)) ∈ lw_all := lw_g (lw_at lw_m8 98 rfl) rfl
theorem q1879 : (Jvm.Cond.selects "ExactChains" ({ cls := "ExactChains", name := "dimension", desc := "(I)I" } : Jvm.MethodName) ({ cls := "ExactChains", name := "dimension", desc := "(I)I" } : Jvm.MethodName)) ∈ lw_all := lw_g (lw_at lw_m8 99 rfl) rfl
theorem q1880 : (Jvm.Cond.code ({ cls := "ExactChains", name := "dimension", desc := "(I)I" } : Jvm.MethodName) prog_1_method_46_code (2 : Nat) (Option.some Jvm.ClassFile.FieldType.int)) ∈ lw_all := lw_g (lw_at lw_m8 100 rfl) rfl
theorem q1885 : (Jvm.Cond.instanceMethod ({ cls := "ExactChains", name := "reachOf", desc := "(I)I" } : Jvm.MethodName)) ∈ lw_all := lw_g (lw_at lw_m8 105 rfl) rfl
theorem q1886 : (Jvm.Cond.selects "ExactChains" ({ cls := "ExactChains", name := "reachOf", desc := "(I)I" } : Jvm.MethodName) ({ cls := "ExactChains", name := "reachOf", desc := "(I)I" } : Jvm.MethodName)) ∈ lw_all := lw_g (lw_at lw_m8 106 rfl) rfl
theorem q1887 : (Jvm.Cond.code ({ cls := "ExactChains", name := "reachOf", desc := "(I)I" } : Jvm.MethodName) prog_1_method_50_code (2 : Nat) (Option.some Jvm.ClassFile.FieldType.int)) ∈ lw_all := lw_g (lw_at lw_m8 107 rfl) rfl
theorem q1893 : (Jvm.Cond.instanceMethod ({ cls := "ExactChains", name := "solution", desc := "(I)I" } : Jvm.MethodName)) ∈ lw_all := lw_g (lw_at lw_m8 113 rfl) rfl
theorem q1894 : (Jvm.Cond.selects "ExactChains" ({ cls := "ExactChains", name := "solution", desc := "(I)I" } : Jvm.MethodName) ({ cls := "ExactChains", name := "solution", desc := "(I)I" } : Jvm.MethodName)) ∈ lw_all := lw_g (lw_at lw_m8 114 rfl) rfl
theorem q1895 : (Jvm.Cond.code ({ cls := "ExactChains", name := "solution", desc := "(I)I" } : Jvm.MethodName) prog_1_method_51_code (3 : Nat) (Option.some Jvm.ClassFile.FieldType.int)) ∈ lw_all := lw_g (lw_at lw_m8 115 rfl) rfl
theorem q1896 : (Jvm.Cond.interfaceEntry "ExactChains" (304 : Nat)) ∈ lw_tbl := lw_at lw_m8 116 rfl
theorem q1897 : (Jvm.Cond.methodLink "ExactChains" (304 : Nat) ({ cls := "java/util/List", name := "isEmpty", desc := "()Z" } : Jvm.MethodName)) ∈ lw_all := lw_g (lw_at lw_m8 117 rfl) rfl
theorem q1898 : (Jvm.Cond.methodLink "ExactChains" (308 : Nat) ({ cls := "ExactChains$Process", name := "solution", desc := "()LExactChains$Vector;" } : Jvm.MethodName)) ∈ lw_all := lw_g (lw_at lw_m8 118 rfl) rfl
theorem q1906 : (Jvm.Cond.methodLink "ExactChains" (312 : Nat) ({ cls := "ExactChains", name := "requireElement", desc := "(Z)V" } : Jvm.MethodName)) ∈ lw_all := lw_g (lw_at lw_m8 126 rfl) rfl
theorem q1907 : (Jvm.Cond.static ({ cls := "ExactChains", name := "requireElement", desc := "(Z)V" } : Jvm.MethodName)) ∈ lw_all := lw_g (lw_at lw_m8 127 rfl) rfl
theorem q1908 : (Jvm.Cond.code ({ cls := "ExactChains", name := "requireElement", desc := "(Z)V" } : Jvm.MethodName) prog_1_method_5_code (1 : Nat) (Option.none : Option Jvm.ClassFile.FieldType)) ∈ lw_all := lw_g (lw_at lw_m8 128 rfl) rfl
theorem q1909 : (Jvm.Cond.classLink "ExactChains" (19 : Nat) "java/util/NoSuchElementException") ∈ lw_all := lw_g (lw_at lw_m8 129 rfl) rfl
theorem q1910 : (Jvm.Cond.methodLink "ExactChains" (21 : Nat) ({ cls := "java/util/NoSuchElementException", name := "<init>", desc := "()V" } : Jvm.MethodName)) ∈ lw_all := lw_g (lw_at lw_m8 130 rfl) rfl
theorem q1915 : (Jvm.Cond.instanceMethod ({ cls := "ExactChains", name := "remainder", desc := "(II)I" } : Jvm.MethodName)) ∈ lw_all := lw_g (lw_at lw_m8 135 rfl) rfl
theorem q1916 : (Jvm.Cond.selects "ExactChains" ({ cls := "ExactChains", name := "remainder", desc := "(II)I" } : Jvm.MethodName) ({ cls := "ExactChains", name := "remainder", desc := "(II)I" } : Jvm.MethodName)) ∈ lw_all := lw_g (lw_at lw_m8 136 rfl) rfl
theorem q1917 : (Jvm.Cond.code ({ cls := "ExactChains", name := "remainder", desc := "(II)I" } : Jvm.MethodName) prog_1_method_52_code (3 : Nat) (Option.some Jvm.ClassFile.FieldType.int)) ∈ lw_all := lw_g (lw_at lw_m8 137 rfl) rfl
theorem q1918 : (Jvm.Cond.methodLink "ExactChains" (315 : Nat) ({ cls := "ExactChains$Process", name := "remainder", desc := "(LExactChains$Vector;)LExactChains$Vector;" } : Jvm.MethodName)) ∈ lw_all := lw_g (lw_at lw_m8 138 rfl) rfl
theorem q1923 : (Jvm.Cond.instanceMethod ({ cls := "ExactChains", name := "writtenByte", desc := "(I)I" } : Jvm.MethodName)) ∈ lw_all := lw_g (lw_at lw_m8 143 rfl) rfl
theorem q1924 : (Jvm.Cond.selects "ExactChains" ({ cls := "ExactChains", name := "writtenByte", desc := "(I)I" } : Jvm.MethodName) ({ cls := "ExactChains", name := "writtenByte", desc := "(I)I" } : Jvm.MethodName)) ∈ lw_all := lw_g (lw_at lw_m8 144 rfl) rfl
theorem q1925 : (Jvm.Cond.code ({ cls := "ExactChains", name := "writtenByte", desc := "(I)I" } : Jvm.MethodName) prog_1_method_54_code (2 : Nat) (Option.some Jvm.ClassFile.FieldType.int)) ∈ lw_all := lw_g (lw_at lw_m8 145 rfl) rfl
theorem q1926 : (Jvm.Cond.methodLink "ExactChains" (339 : Nat) ({ cls := "java/lang/StringBuilder", name := "charAt", desc := "(I)C" } : Jvm.MethodName)) ∈ lw_all := lw_g (lw_at lw_m8 146 rfl) rfl
theorem q1940 : (Jvm.Cond.instanceMethod ({ cls := "ExactChains", name := "undo", desc := "()I" } : Jvm.MethodName)) ∈ lw_all := lw_g (lw_at lw_m8 160 rfl) rfl
theorem q1941 : (Jvm.Cond.selects "ExactChains" ({ cls := "ExactChains", name := "undo", desc := "()I" } : Jvm.MethodName) ({ cls := "ExactChains", name := "undo", desc := "()I" } : Jvm.MethodName)) ∈ lw_all := lw_g (lw_at lw_m8 161 rfl) rfl
theorem q1942 : (Jvm.Cond.code ({ cls := "ExactChains", name := "undo", desc := "()I" } : Jvm.MethodName) prog_1_method_55_code (1 : Nat) (Option.some Jvm.ClassFile.FieldType.int)) ∈ lw_all := lw_g (lw_at lw_m8 162 rfl) rfl
theorem q1943 : (Jvm.Cond.methodLink "ExactChains" (340 : Nat) ({ cls := "java/util/ArrayDeque", name := "isEmpty", desc := "()Z" } : Jvm.MethodName)) ∈ lw_all := lw_g (lw_at lw_m8 163 rfl) rfl
theorem q1947 : (Jvm.Cond.methodLink "ExactChains" (341 : Nat) ({ cls := "java/util/ArrayDeque", name := "removeLast", desc := "()Ljava/lang/Object;" } : Jvm.MethodName)) ∈ lw_all := lw_g (lw_at lw_m8 167 rfl) rfl
theorem q1962 : (Jvm.Cond.instanceMethod ({ cls := "ExactChains", name := "save", desc := "(I)I" } : Jvm.MethodName)) ∈ lw_all := lw_g (lw_at lw_m8 182 rfl) rfl
theorem q1963 : (Jvm.Cond.selects "ExactChains" ({ cls := "ExactChains", name := "save", desc := "(I)I" } : Jvm.MethodName) ({ cls := "ExactChains", name := "save", desc := "(I)I" } : Jvm.MethodName)) ∈ lw_all := lw_g (lw_at lw_m8 183 rfl) rfl
theorem q1964 : (Jvm.Cond.code ({ cls := "ExactChains", name := "save", desc := "(I)I" } : Jvm.MethodName) prog_1_method_56_code (2 : Nat) (Option.some Jvm.ClassFile.FieldType.int)) ∈ lw_all := lw_g (lw_at lw_m8 184 rfl) rfl
theorem q1969 : (Jvm.Cond.instanceMethod ({ cls := "ExactChains", name := "restore", desc := "(I)I" } : Jvm.MethodName)) ∈ lw_all := lw_g (lw_at lw_m8 189 rfl) rfl
theorem q1970 : (Jvm.Cond.selects "ExactChains" ({ cls := "ExactChains", name := "restore", desc := "(I)I" } : Jvm.MethodName) ({ cls := "ExactChains", name := "restore", desc := "(I)I" } : Jvm.MethodName)) ∈ lw_all := lw_g (lw_at lw_m8 190 rfl) rfl
theorem q1971 : (Jvm.Cond.code ({ cls := "ExactChains", name := "restore", desc := "(I)I" } : Jvm.MethodName) prog_1_method_57_code (2 : Nat) (Option.some Jvm.ClassFile.FieldType.int)) ∈ lw_all := lw_g (lw_at lw_m8 191 rfl) rfl
theorem q2513 : (Jvm.Cond.castable "ExactChains" "java/lang/Object") ∈ lw_tbl := lw_at lw_m11 13 rfl
theorem in_X1 : ∀ w ∈ wsX10, w ∈ lw_all := lw_in wsX10 [643, 645, 647, 649, 651, 653, 655] (by decide +kernel) (by decide +kernel)
/-! ExactChains$Steps -/
set_option maxRecDepth 100000
def RX10 : String := "ExactChains$Steps"
def TX10 : u_T := fun k => match k with
  | 0 => ("ExactChains$Steps", "field", "LExactChains$Field;", true)
  | 1 => ("ExactChains$Steps", "rows", "[[I", true)
  | 2 => ("ExactChains$Steps", "rank", "I", false)
  | _ => ("ExactChains$Steps", "determinant", "I", false)
def tyX10 : Nat → FieldType := fun k => match k with
  | 0 => .object "ExactChains$Field"
  | 1 => .array (.array .int)
  | 2 => .int
  | _ => .int
abbrev wsX100 : List Cond := u_ws RX10 TX10 4
theorem nmX10 : ∀ a, a < 4 → ∀ b, b < 4 → a ≠ b → (TX10 a).2.1 ≠ (TX10 b).2.1 := by decide +kernel
theorem tyX10_ok : ∀ k, k < 4 → parseFieldDescriptor (TX10 k).2.2.1 = some (tyX10 k) := by decide +kernel
abbrev cX10_init : ByteArray := prog_8_method_2_code
def yX10_init : MethodName := ⟨RX10, "<init>", "(LExactChains$Field;[[I)V"⟩
def dkwX10_init_0 : List UInt8 := [42, 43, 44, 190, 154, 0, 7, 3, 167, 0, 7, 44, 3, 50, 190, 44, 183, 0, 27, 177]
abbrev dktX10_init_0 : List UInt8 := dkwX10_init_0 ++ []
theorem dksX10_init_0 : cX10_init.data.toList.drop 0 = dktX10_init_0 := by decide +kernel
theorem dX10_init_0 : decode cX10_init 0 = .ok (.aload_n 0, 1) := dk_42 (dk_at dksX10_init_0 0 rfl rfl)
theorem dX10_init_1 : decode cX10_init 1 = .ok (.aload_n 1, 1) := dk_43 (dk_at dksX10_init_0 1 rfl rfl)
theorem dX10_init_2 : decode cX10_init 2 = .ok (.aload_n 2, 1) := dk_44 (dk_at dksX10_init_0 2 rfl rfl)
theorem dX10_init_3 : decode cX10_init 3 = .ok (.arraylength, 1) := dk_190 (dk_at dksX10_init_0 3 rfl rfl)
theorem dX10_init_4 : decode cX10_init 4 = .ok (.ifCond .ne 7, 3) := dk_154 0 7 (dk_at dksX10_init_0 4 rfl rfl)
theorem dX10_init_7 : decode cX10_init 7 = .ok (.iconst 0, 1) := dk_3 (dk_at dksX10_init_0 7 rfl rfl)
theorem dX10_init_8 : decode cX10_init 8 = .ok (.goto 7, 3) := dk_167 0 7 (dk_at dksX10_init_0 8 rfl rfl)
theorem dX10_init_11 : decode cX10_init 11 = .ok (.aload_n 2, 1) := dk_44 (dk_at dksX10_init_0 11 rfl rfl)
theorem dX10_init_12 : decode cX10_init 12 = .ok (.iconst 0, 1) := dk_3 (dk_at dksX10_init_0 12 rfl rfl)
theorem dX10_init_13 : decode cX10_init 13 = .ok (.aaload, 1) := dk_50 (dk_at dksX10_init_0 13 rfl rfl)
theorem dX10_init_14 : decode cX10_init 14 = .ok (.arraylength, 1) := dk_190 (dk_at dksX10_init_0 14 rfl rfl)
theorem dX10_init_15 : decode cX10_init 15 = .ok (.aload_n 2, 1) := dk_44 (dk_at dksX10_init_0 15 rfl rfl)
theorem dX10_init_16 : decode cX10_init 16 = .ok (.invokespecial 27, 3) := dk_183 0 27 (dk_at dksX10_init_0 16 rfl rfl)
theorem dX10_init_19 : decode cX10_init 19 = .ok (.return_, 1) := dk_177 (dk_at dksX10_init_0 19 rfl rfl)
abbrev cX10_init_2 : ByteArray := prog_8_method_1_code
def yX10_init_2 : MethodName := ⟨RX10, "<init>", "(LExactChains$Field;I[[I)V"⟩
def dkwX10_init_2_1 : List UInt8 := [28, 162, 0, 15, 42, 21, 4, 182, 0, 23, 132, 4, 1, 167, 255, 241, 177]
abbrev dktX10_init_2_1 : List UInt8 := dkwX10_init_2_1 ++ []
def dkwX10_init_2_0 : List UInt8 := [42, 183, 0, 3, 42, 4, 181, 0, 9, 42, 43, 181, 0, 15, 42, 45, 181, 0, 19, 3, 54, 4, 21, 4]
abbrev dktX10_init_2_0 : List UInt8 := dkwX10_init_2_0 ++ dktX10_init_2_1
theorem dksX10_init_2_0 : cX10_init_2.data.toList.drop 0 = dktX10_init_2_0 := by decide +kernel
theorem dksX10_init_2_1 : cX10_init_2.data.toList.drop 24 = dktX10_init_2_1 := dk_seg dksX10_init_2_0 24 rfl rfl
theorem dX10_init_2_0 : decode cX10_init_2 0 = .ok (.aload_n 0, 1) := dk_42 (dk_at dksX10_init_2_0 0 rfl rfl)
theorem dX10_init_2_1 : decode cX10_init_2 1 = .ok (.invokespecial 3, 3) := dk_183 0 3 (dk_at dksX10_init_2_0 1 rfl rfl)
theorem dX10_init_2_4 : decode cX10_init_2 4 = .ok (.aload_n 0, 1) := dk_42 (dk_at dksX10_init_2_0 4 rfl rfl)
theorem dX10_init_2_5 : decode cX10_init_2 5 = .ok (.iconst 1, 1) := dk_4 (dk_at dksX10_init_2_0 5 rfl rfl)
theorem dX10_init_2_6 : decode cX10_init_2 6 = .ok (.putfield 9, 3) := dk_181 0 9 (dk_at dksX10_init_2_0 6 rfl rfl)
theorem dX10_init_2_9 : decode cX10_init_2 9 = .ok (.aload_n 0, 1) := dk_42 (dk_at dksX10_init_2_0 9 rfl rfl)
theorem dX10_init_2_10 : decode cX10_init_2 10 = .ok (.aload_n 1, 1) := dk_43 (dk_at dksX10_init_2_0 10 rfl rfl)
theorem dX10_init_2_11 : decode cX10_init_2 11 = .ok (.putfield 15, 3) := dk_181 0 15 (dk_at dksX10_init_2_0 11 rfl rfl)
theorem dX10_init_2_14 : decode cX10_init_2 14 = .ok (.aload_n 0, 1) := dk_42 (dk_at dksX10_init_2_0 14 rfl rfl)
theorem dX10_init_2_15 : decode cX10_init_2 15 = .ok (.aload_n 3, 1) := dk_45 (dk_at dksX10_init_2_0 15 rfl rfl)
theorem dX10_init_2_16 : decode cX10_init_2 16 = .ok (.putfield 19, 3) := dk_181 0 19 (dk_at dksX10_init_2_0 16 rfl rfl)
theorem dX10_init_2_19 : decode cX10_init_2 19 = .ok (.iconst 0, 1) := dk_3 (dk_at dksX10_init_2_0 19 rfl rfl)
theorem dX10_init_2_20 : decode cX10_init_2 20 = .ok (.istore 4, 2) := dk_54 4 (dk_at dksX10_init_2_0 20 rfl rfl)
theorem dX10_init_2_22 : decode cX10_init_2 22 = .ok (.iload 4, 2) := dk_21 4 (dk_at dksX10_init_2_0 22 rfl rfl)
theorem dX10_init_2_24 : decode cX10_init_2 24 = .ok (.iload_n 2, 1) := dk_28 (dk_at dksX10_init_2_1 0 rfl rfl)
theorem dX10_init_2_25 : decode cX10_init_2 25 = .ok (.if_icmp .ge 15, 3) := dk_162 0 15 (dk_at dksX10_init_2_1 1 rfl rfl)
theorem dX10_init_2_28 : decode cX10_init_2 28 = .ok (.aload_n 0, 1) := dk_42 (dk_at dksX10_init_2_1 4 rfl rfl)
theorem dX10_init_2_29 : decode cX10_init_2 29 = .ok (.iload 4, 2) := dk_21 4 (dk_at dksX10_init_2_1 5 rfl rfl)
theorem dX10_init_2_31 : decode cX10_init_2 31 = .ok (.invokevirtual 23, 3) := dk_182 0 23 (dk_at dksX10_init_2_1 7 rfl rfl)
theorem dX10_init_2_34 : decode cX10_init_2 34 = .ok (.iinc 4 1, 3) := dk_132 4 1 (dk_at dksX10_init_2_1 10 rfl rfl)
theorem dX10_init_2_37 : decode cX10_init_2 37 = .ok (.goto (-15), 3) := dk_167 255 241 (dk_at dksX10_init_2_1 13 rfl rfl)
theorem dX10_init_2_40 : decode cX10_init_2 40 = .ok (.return_, 1) := dk_177 (dk_at dksX10_init_2_1 16 rfl rfl)
abbrev cX10_clears : ByteArray := prog_8_method_4_code
def yX10_clears : MethodName := ⟨RX10, "clears", "(I)V"⟩
def dkwX10_clears_8 : List UInt8 := [180, 0, 30, 4, 96, 181, 0, 30, 177]
abbrev dktX10_clears_8 : List UInt8 := dkwX10_clears_8 ++ []
def dkwX10_clears_7 : List UInt8 := [21, 5, 50, 42, 180, 0, 19, 21, 5, 50, 27, 46, 45, 182, 0, 46, 132, 5, 1, 167, 255, 213, 42, 89]
abbrev dktX10_clears_7 : List UInt8 := dkwX10_clears_7 ++ dktX10_clears_8
def dkwX10_clears_6 : List UInt8 := [21, 5, 42, 180, 0, 19, 190, 162, 0, 39, 21, 5, 42, 180, 0, 30, 159, 0, 24, 42, 42, 180, 0, 19]
abbrev dktX10_clears_6 : List UInt8 := dkwX10_clears_6 ++ dktX10_clears_7
def dkwX10_clears_5 : List UInt8 := [21, 5, 46, 21, 4, 104, 42, 180, 0, 15, 180, 0, 37, 112, 79, 132, 5, 1, 167, 255, 227, 3, 54, 5]
abbrev dktX10_clears_5 : List UInt8 := dkwX10_clears_5 ++ dktX10_clears_6
def dkwX10_clears_4 : List UInt8 := [180, 0, 42, 45, 27, 46, 46, 54, 4, 27, 54, 5, 21, 5, 45, 190, 162, 0, 28, 45, 21, 5, 45]
abbrev dktX10_clears_4 : List UInt8 := dkwX10_clears_4 ++ dktX10_clears_5
def dkwX10_clears_3 : List UInt8 := [42, 180, 0, 9, 100, 45, 27, 46, 104, 42, 180, 0, 15, 180, 0, 37, 112, 181, 0, 9, 42, 180, 0, 15]
abbrev dktX10_clears_3 : List UInt8 := dkwX10_clears_3 ++ dktX10_clears_4
def dkwX10_clears_2 : List UInt8 := [83, 42, 28, 42, 180, 0, 30, 160, 0, 10, 42, 180, 0, 9, 167, 0, 15, 42, 180, 0, 15, 180, 0, 37]
abbrev dktX10_clears_2 : List UInt8 := dkwX10_clears_2 ++ dktX10_clears_3
def dkwX10_clears_1 : List UInt8 := [42, 180, 0, 19, 28, 42, 180, 0, 19, 42, 180, 0, 30, 50, 83, 42, 180, 0, 19, 42, 180, 0, 30, 45]
abbrev dktX10_clears_1 : List UInt8 := dkwX10_clears_1 ++ dktX10_clears_2
def dkwX10_clears_0 : List UInt8 := [42, 27, 182, 0, 33, 61, 28, 2, 160, 0, 9, 42, 3, 181, 0, 9, 177, 42, 180, 0, 19, 28, 50, 78]
abbrev dktX10_clears_0 : List UInt8 := dkwX10_clears_0 ++ dktX10_clears_1
theorem dksX10_clears_0 : cX10_clears.data.toList.drop 0 = dktX10_clears_0 := by decide +kernel
theorem dksX10_clears_1 : cX10_clears.data.toList.drop 24 = dktX10_clears_1 := dk_seg dksX10_clears_0 24 rfl rfl
theorem dksX10_clears_2 : cX10_clears.data.toList.drop 48 = dktX10_clears_2 := dk_seg dksX10_clears_1 24 rfl rfl
theorem dksX10_clears_3 : cX10_clears.data.toList.drop 72 = dktX10_clears_3 := dk_seg dksX10_clears_2 24 rfl rfl
theorem dksX10_clears_4 : cX10_clears.data.toList.drop 96 = dktX10_clears_4 := dk_seg dksX10_clears_3 24 rfl rfl
theorem dksX10_clears_5 : cX10_clears.data.toList.drop 119 = dktX10_clears_5 := dk_seg dksX10_clears_4 23 rfl rfl
theorem dksX10_clears_6 : cX10_clears.data.toList.drop 143 = dktX10_clears_6 := dk_seg dksX10_clears_5 24 rfl rfl
theorem dksX10_clears_7 : cX10_clears.data.toList.drop 167 = dktX10_clears_7 := dk_seg dksX10_clears_6 24 rfl rfl
theorem dksX10_clears_8 : cX10_clears.data.toList.drop 191 = dktX10_clears_8 := dk_seg dksX10_clears_7 24 rfl rfl
theorem dX10_clears_0 : decode cX10_clears 0 = .ok (.aload_n 0, 1) := dk_42 (dk_at dksX10_clears_0 0 rfl rfl)
theorem dX10_clears_1 : decode cX10_clears 1 = .ok (.iload_n 1, 1) := dk_27 (dk_at dksX10_clears_0 1 rfl rfl)
theorem dX10_clears_2 : decode cX10_clears 2 = .ok (.invokevirtual 33, 3) := dk_182 0 33 (dk_at dksX10_clears_0 2 rfl rfl)
theorem dX10_clears_5 : decode cX10_clears 5 = .ok (.istore_n 2, 1) := dk_61 (dk_at dksX10_clears_0 5 rfl rfl)
theorem dX10_clears_6 : decode cX10_clears 6 = .ok (.iload_n 2, 1) := dk_28 (dk_at dksX10_clears_0 6 rfl rfl)
theorem dX10_clears_7 : decode cX10_clears 7 = .ok (.iconst (-1), 1) := dk_2 (dk_at dksX10_clears_0 7 rfl rfl)
theorem dX10_clears_8 : decode cX10_clears 8 = .ok (.if_icmp .ne 9, 3) := dk_160 0 9 (dk_at dksX10_clears_0 8 rfl rfl)
theorem dX10_clears_11 : decode cX10_clears 11 = .ok (.aload_n 0, 1) := dk_42 (dk_at dksX10_clears_0 11 rfl rfl)
theorem dX10_clears_12 : decode cX10_clears 12 = .ok (.iconst 0, 1) := dk_3 (dk_at dksX10_clears_0 12 rfl rfl)
theorem dX10_clears_13 : decode cX10_clears 13 = .ok (.putfield 9, 3) := dk_181 0 9 (dk_at dksX10_clears_0 13 rfl rfl)
theorem dX10_clears_16 : decode cX10_clears 16 = .ok (.return_, 1) := dk_177 (dk_at dksX10_clears_0 16 rfl rfl)
theorem dX10_clears_17 : decode cX10_clears 17 = .ok (.aload_n 0, 1) := dk_42 (dk_at dksX10_clears_0 17 rfl rfl)
theorem dX10_clears_18 : decode cX10_clears 18 = .ok (.getfield 19, 3) := dk_180 0 19 (dk_at dksX10_clears_0 18 rfl rfl)
theorem dX10_clears_21 : decode cX10_clears 21 = .ok (.iload_n 2, 1) := dk_28 (dk_at dksX10_clears_0 21 rfl rfl)
theorem dX10_clears_22 : decode cX10_clears 22 = .ok (.aaload, 1) := dk_50 (dk_at dksX10_clears_0 22 rfl rfl)
theorem dX10_clears_23 : decode cX10_clears 23 = .ok (.astore_n 3, 1) := dk_78 (dk_at dksX10_clears_0 23 rfl rfl)
theorem dX10_clears_24 : decode cX10_clears 24 = .ok (.aload_n 0, 1) := dk_42 (dk_at dksX10_clears_1 0 rfl rfl)
theorem dX10_clears_25 : decode cX10_clears 25 = .ok (.getfield 19, 3) := dk_180 0 19 (dk_at dksX10_clears_1 1 rfl rfl)
theorem dX10_clears_28 : decode cX10_clears 28 = .ok (.iload_n 2, 1) := dk_28 (dk_at dksX10_clears_1 4 rfl rfl)
theorem dX10_clears_29 : decode cX10_clears 29 = .ok (.aload_n 0, 1) := dk_42 (dk_at dksX10_clears_1 5 rfl rfl)
theorem dX10_clears_30 : decode cX10_clears 30 = .ok (.getfield 19, 3) := dk_180 0 19 (dk_at dksX10_clears_1 6 rfl rfl)
theorem dX10_clears_33 : decode cX10_clears 33 = .ok (.aload_n 0, 1) := dk_42 (dk_at dksX10_clears_1 9 rfl rfl)
theorem dX10_clears_34 : decode cX10_clears 34 = .ok (.getfield 30, 3) := dk_180 0 30 (dk_at dksX10_clears_1 10 rfl rfl)
theorem dX10_clears_37 : decode cX10_clears 37 = .ok (.aaload, 1) := dk_50 (dk_at dksX10_clears_1 13 rfl rfl)
theorem dX10_clears_38 : decode cX10_clears 38 = .ok (.aastore, 1) := dk_83 (dk_at dksX10_clears_1 14 rfl rfl)
theorem dX10_clears_39 : decode cX10_clears 39 = .ok (.aload_n 0, 1) := dk_42 (dk_at dksX10_clears_1 15 rfl rfl)
theorem dX10_clears_40 : decode cX10_clears 40 = .ok (.getfield 19, 3) := dk_180 0 19 (dk_at dksX10_clears_1 16 rfl rfl)
theorem dX10_clears_43 : decode cX10_clears 43 = .ok (.aload_n 0, 1) := dk_42 (dk_at dksX10_clears_1 19 rfl rfl)
theorem dX10_clears_44 : decode cX10_clears 44 = .ok (.getfield 30, 3) := dk_180 0 30 (dk_at dksX10_clears_1 20 rfl rfl)
theorem dX10_clears_47 : decode cX10_clears 47 = .ok (.aload_n 3, 1) := dk_45 (dk_at dksX10_clears_1 23 rfl rfl)
theorem dX10_clears_48 : decode cX10_clears 48 = .ok (.aastore, 1) := dk_83 (dk_at dksX10_clears_2 0 rfl rfl)
theorem dX10_clears_49 : decode cX10_clears 49 = .ok (.aload_n 0, 1) := dk_42 (dk_at dksX10_clears_2 1 rfl rfl)
theorem dX10_clears_50 : decode cX10_clears 50 = .ok (.iload_n 2, 1) := dk_28 (dk_at dksX10_clears_2 2 rfl rfl)
theorem dX10_clears_51 : decode cX10_clears 51 = .ok (.aload_n 0, 1) := dk_42 (dk_at dksX10_clears_2 3 rfl rfl)
theorem dX10_clears_52 : decode cX10_clears 52 = .ok (.getfield 30, 3) := dk_180 0 30 (dk_at dksX10_clears_2 4 rfl rfl)
theorem dX10_clears_55 : decode cX10_clears 55 = .ok (.if_icmp .ne 10, 3) := dk_160 0 10 (dk_at dksX10_clears_2 7 rfl rfl)
theorem dX10_clears_58 : decode cX10_clears 58 = .ok (.aload_n 0, 1) := dk_42 (dk_at dksX10_clears_2 10 rfl rfl)
theorem dX10_clears_59 : decode cX10_clears 59 = .ok (.getfield 9, 3) := dk_180 0 9 (dk_at dksX10_clears_2 11 rfl rfl)
theorem dX10_clears_62 : decode cX10_clears 62 = .ok (.goto 15, 3) := dk_167 0 15 (dk_at dksX10_clears_2 14 rfl rfl)
theorem dX10_clears_65 : decode cX10_clears 65 = .ok (.aload_n 0, 1) := dk_42 (dk_at dksX10_clears_2 17 rfl rfl)
theorem dX10_clears_66 : decode cX10_clears 66 = .ok (.getfield 15, 3) := dk_180 0 15 (dk_at dksX10_clears_2 18 rfl rfl)
theorem dX10_clears_69 : decode cX10_clears 69 = .ok (.getfield 37, 3) := dk_180 0 37 (dk_at dksX10_clears_2 21 rfl rfl)
theorem dX10_clears_72 : decode cX10_clears 72 = .ok (.aload_n 0, 1) := dk_42 (dk_at dksX10_clears_3 0 rfl rfl)
theorem dX10_clears_73 : decode cX10_clears 73 = .ok (.getfield 9, 3) := dk_180 0 9 (dk_at dksX10_clears_3 1 rfl rfl)
theorem dX10_clears_76 : decode cX10_clears 76 = .ok (.isub, 1) := dk_100 (dk_at dksX10_clears_3 4 rfl rfl)
theorem dX10_clears_77 : decode cX10_clears 77 = .ok (.aload_n 3, 1) := dk_45 (dk_at dksX10_clears_3 5 rfl rfl)
theorem dX10_clears_78 : decode cX10_clears 78 = .ok (.iload_n 1, 1) := dk_27 (dk_at dksX10_clears_3 6 rfl rfl)
theorem dX10_clears_79 : decode cX10_clears 79 = .ok (.iaload, 1) := dk_46 (dk_at dksX10_clears_3 7 rfl rfl)
theorem dX10_clears_80 : decode cX10_clears 80 = .ok (.imul, 1) := dk_104 (dk_at dksX10_clears_3 8 rfl rfl)
theorem dX10_clears_81 : decode cX10_clears 81 = .ok (.aload_n 0, 1) := dk_42 (dk_at dksX10_clears_3 9 rfl rfl)
theorem dX10_clears_82 : decode cX10_clears 82 = .ok (.getfield 15, 3) := dk_180 0 15 (dk_at dksX10_clears_3 10 rfl rfl)
theorem dX10_clears_85 : decode cX10_clears 85 = .ok (.getfield 37, 3) := dk_180 0 37 (dk_at dksX10_clears_3 13 rfl rfl)
theorem dX10_clears_88 : decode cX10_clears 88 = .ok (.irem, 1) := dk_112 (dk_at dksX10_clears_3 16 rfl rfl)
theorem dX10_clears_89 : decode cX10_clears 89 = .ok (.putfield 9, 3) := dk_181 0 9 (dk_at dksX10_clears_3 17 rfl rfl)
theorem dX10_clears_92 : decode cX10_clears 92 = .ok (.aload_n 0, 1) := dk_42 (dk_at dksX10_clears_3 20 rfl rfl)
theorem dX10_clears_93 : decode cX10_clears 93 = .ok (.getfield 15, 3) := dk_180 0 15 (dk_at dksX10_clears_3 21 rfl rfl)
theorem dX10_clears_96 : decode cX10_clears 96 = .ok (.getfield 42, 3) := dk_180 0 42 (dk_at dksX10_clears_4 0 rfl rfl)
theorem dX10_clears_99 : decode cX10_clears 99 = .ok (.aload_n 3, 1) := dk_45 (dk_at dksX10_clears_4 3 rfl rfl)
theorem dX10_clears_100 : decode cX10_clears 100 = .ok (.iload_n 1, 1) := dk_27 (dk_at dksX10_clears_4 4 rfl rfl)
theorem dX10_clears_101 : decode cX10_clears 101 = .ok (.iaload, 1) := dk_46 (dk_at dksX10_clears_4 5 rfl rfl)
theorem dX10_clears_102 : decode cX10_clears 102 = .ok (.iaload, 1) := dk_46 (dk_at dksX10_clears_4 6 rfl rfl)
theorem dX10_clears_103 : decode cX10_clears 103 = .ok (.istore 4, 2) := dk_54 4 (dk_at dksX10_clears_4 7 rfl rfl)
theorem dX10_clears_105 : decode cX10_clears 105 = .ok (.iload_n 1, 1) := dk_27 (dk_at dksX10_clears_4 9 rfl rfl)
theorem dX10_clears_106 : decode cX10_clears 106 = .ok (.istore 5, 2) := dk_54 5 (dk_at dksX10_clears_4 10 rfl rfl)
theorem dX10_clears_108 : decode cX10_clears 108 = .ok (.iload 5, 2) := dk_21 5 (dk_at dksX10_clears_4 12 rfl rfl)
theorem dX10_clears_110 : decode cX10_clears 110 = .ok (.aload_n 3, 1) := dk_45 (dk_at dksX10_clears_4 14 rfl rfl)
theorem dX10_clears_111 : decode cX10_clears 111 = .ok (.arraylength, 1) := dk_190 (dk_at dksX10_clears_4 15 rfl rfl)
theorem dX10_clears_112 : decode cX10_clears 112 = .ok (.if_icmp .ge 28, 3) := dk_162 0 28 (dk_at dksX10_clears_4 16 rfl rfl)
theorem dX10_clears_115 : decode cX10_clears 115 = .ok (.aload_n 3, 1) := dk_45 (dk_at dksX10_clears_4 19 rfl rfl)
theorem dX10_clears_116 : decode cX10_clears 116 = .ok (.iload 5, 2) := dk_21 5 (dk_at dksX10_clears_4 20 rfl rfl)
theorem dX10_clears_118 : decode cX10_clears 118 = .ok (.aload_n 3, 1) := dk_45 (dk_at dksX10_clears_4 22 rfl rfl)
theorem dX10_clears_119 : decode cX10_clears 119 = .ok (.iload 5, 2) := dk_21 5 (dk_at dksX10_clears_5 0 rfl rfl)
theorem dX10_clears_121 : decode cX10_clears 121 = .ok (.iaload, 1) := dk_46 (dk_at dksX10_clears_5 2 rfl rfl)
theorem dX10_clears_122 : decode cX10_clears 122 = .ok (.iload 4, 2) := dk_21 4 (dk_at dksX10_clears_5 3 rfl rfl)
theorem dX10_clears_124 : decode cX10_clears 124 = .ok (.imul, 1) := dk_104 (dk_at dksX10_clears_5 5 rfl rfl)
theorem dX10_clears_125 : decode cX10_clears 125 = .ok (.aload_n 0, 1) := dk_42 (dk_at dksX10_clears_5 6 rfl rfl)
theorem dX10_clears_126 : decode cX10_clears 126 = .ok (.getfield 15, 3) := dk_180 0 15 (dk_at dksX10_clears_5 7 rfl rfl)
theorem dX10_clears_129 : decode cX10_clears 129 = .ok (.getfield 37, 3) := dk_180 0 37 (dk_at dksX10_clears_5 10 rfl rfl)
theorem dX10_clears_132 : decode cX10_clears 132 = .ok (.irem, 1) := dk_112 (dk_at dksX10_clears_5 13 rfl rfl)
theorem dX10_clears_133 : decode cX10_clears 133 = .ok (.iastore, 1) := dk_79 (dk_at dksX10_clears_5 14 rfl rfl)
theorem dX10_clears_134 : decode cX10_clears 134 = .ok (.iinc 5 1, 3) := dk_132 5 1 (dk_at dksX10_clears_5 15 rfl rfl)
theorem dX10_clears_137 : decode cX10_clears 137 = .ok (.goto (-29), 3) := dk_167 255 227 (dk_at dksX10_clears_5 18 rfl rfl)
theorem dX10_clears_140 : decode cX10_clears 140 = .ok (.iconst 0, 1) := dk_3 (dk_at dksX10_clears_5 21 rfl rfl)
theorem dX10_clears_141 : decode cX10_clears 141 = .ok (.istore 5, 2) := dk_54 5 (dk_at dksX10_clears_5 22 rfl rfl)
theorem dX10_clears_143 : decode cX10_clears 143 = .ok (.iload 5, 2) := dk_21 5 (dk_at dksX10_clears_6 0 rfl rfl)
theorem dX10_clears_145 : decode cX10_clears 145 = .ok (.aload_n 0, 1) := dk_42 (dk_at dksX10_clears_6 2 rfl rfl)
theorem dX10_clears_146 : decode cX10_clears 146 = .ok (.getfield 19, 3) := dk_180 0 19 (dk_at dksX10_clears_6 3 rfl rfl)
theorem dX10_clears_149 : decode cX10_clears 149 = .ok (.arraylength, 1) := dk_190 (dk_at dksX10_clears_6 6 rfl rfl)
theorem dX10_clears_150 : decode cX10_clears 150 = .ok (.if_icmp .ge 39, 3) := dk_162 0 39 (dk_at dksX10_clears_6 7 rfl rfl)
theorem dX10_clears_153 : decode cX10_clears 153 = .ok (.iload 5, 2) := dk_21 5 (dk_at dksX10_clears_6 10 rfl rfl)
theorem dX10_clears_155 : decode cX10_clears 155 = .ok (.aload_n 0, 1) := dk_42 (dk_at dksX10_clears_6 12 rfl rfl)
theorem dX10_clears_156 : decode cX10_clears 156 = .ok (.getfield 30, 3) := dk_180 0 30 (dk_at dksX10_clears_6 13 rfl rfl)
theorem dX10_clears_159 : decode cX10_clears 159 = .ok (.if_icmp .eq 24, 3) := dk_159 0 24 (dk_at dksX10_clears_6 16 rfl rfl)
theorem dX10_clears_162 : decode cX10_clears 162 = .ok (.aload_n 0, 1) := dk_42 (dk_at dksX10_clears_6 19 rfl rfl)
theorem dX10_clears_163 : decode cX10_clears 163 = .ok (.aload_n 0, 1) := dk_42 (dk_at dksX10_clears_6 20 rfl rfl)
theorem dX10_clears_164 : decode cX10_clears 164 = .ok (.getfield 19, 3) := dk_180 0 19 (dk_at dksX10_clears_6 21 rfl rfl)
theorem dX10_clears_167 : decode cX10_clears 167 = .ok (.iload 5, 2) := dk_21 5 (dk_at dksX10_clears_7 0 rfl rfl)
theorem dX10_clears_169 : decode cX10_clears 169 = .ok (.aaload, 1) := dk_50 (dk_at dksX10_clears_7 2 rfl rfl)
theorem dX10_clears_170 : decode cX10_clears 170 = .ok (.aload_n 0, 1) := dk_42 (dk_at dksX10_clears_7 3 rfl rfl)
theorem dX10_clears_171 : decode cX10_clears 171 = .ok (.getfield 19, 3) := dk_180 0 19 (dk_at dksX10_clears_7 4 rfl rfl)
theorem dX10_clears_174 : decode cX10_clears 174 = .ok (.iload 5, 2) := dk_21 5 (dk_at dksX10_clears_7 7 rfl rfl)
theorem dX10_clears_176 : decode cX10_clears 176 = .ok (.aaload, 1) := dk_50 (dk_at dksX10_clears_7 9 rfl rfl)
theorem dX10_clears_177 : decode cX10_clears 177 = .ok (.iload_n 1, 1) := dk_27 (dk_at dksX10_clears_7 10 rfl rfl)
theorem dX10_clears_178 : decode cX10_clears 178 = .ok (.iaload, 1) := dk_46 (dk_at dksX10_clears_7 11 rfl rfl)
theorem dX10_clears_179 : decode cX10_clears 179 = .ok (.aload_n 3, 1) := dk_45 (dk_at dksX10_clears_7 12 rfl rfl)
theorem dX10_clears_180 : decode cX10_clears 180 = .ok (.invokevirtual 46, 3) := dk_182 0 46 (dk_at dksX10_clears_7 13 rfl rfl)
theorem dX10_clears_183 : decode cX10_clears 183 = .ok (.iinc 5 1, 3) := dk_132 5 1 (dk_at dksX10_clears_7 16 rfl rfl)
theorem dX10_clears_186 : decode cX10_clears 186 = .ok (.goto (-43), 3) := dk_167 255 213 (dk_at dksX10_clears_7 19 rfl rfl)
theorem dX10_clears_189 : decode cX10_clears 189 = .ok (.aload_n 0, 1) := dk_42 (dk_at dksX10_clears_7 22 rfl rfl)
theorem dX10_clears_190 : decode cX10_clears 190 = .ok (.dup, 1) := dk_89 (dk_at dksX10_clears_7 23 rfl rfl)
theorem dX10_clears_191 : decode cX10_clears 191 = .ok (.getfield 30, 3) := dk_180 0 30 (dk_at dksX10_clears_8 0 rfl rfl)
theorem dX10_clears_194 : decode cX10_clears 194 = .ok (.iconst 1, 1) := dk_4 (dk_at dksX10_clears_8 3 rfl rfl)
theorem dX10_clears_195 : decode cX10_clears 195 = .ok (.iadd, 1) := dk_96 (dk_at dksX10_clears_8 4 rfl rfl)
theorem dX10_clears_196 : decode cX10_clears 196 = .ok (.putfield 30, 3) := dk_181 0 30 (dk_at dksX10_clears_8 5 rfl rfl)
theorem dX10_clears_199 : decode cX10_clears 199 = .ok (.return_, 1) := dk_177 (dk_at dksX10_clears_8 8 rfl rfl)
abbrev cX10_pivot : ByteArray := prog_8_method_3_code
def yX10_pivot : MethodName := ⟨RX10, "pivot", "(I)I"⟩
def dkwX10_pivot_1 : List UInt8 := [153, 0, 5, 28, 172, 132, 2, 1, 167, 255, 231, 2, 172]
abbrev dktX10_pivot_1 : List UInt8 := dkwX10_pivot_1 ++ []
def dkwX10_pivot_0 : List UInt8 := [42, 180, 0, 30, 61, 28, 42, 180, 0, 19, 190, 162, 0, 22, 42, 180, 0, 19, 28, 50, 27, 46]
abbrev dktX10_pivot_0 : List UInt8 := dkwX10_pivot_0 ++ dktX10_pivot_1
theorem dksX10_pivot_0 : cX10_pivot.data.toList.drop 0 = dktX10_pivot_0 := by decide +kernel
theorem dksX10_pivot_1 : cX10_pivot.data.toList.drop 22 = dktX10_pivot_1 := dk_seg dksX10_pivot_0 22 rfl rfl
theorem dX10_pivot_0 : decode cX10_pivot 0 = .ok (.aload_n 0, 1) := dk_42 (dk_at dksX10_pivot_0 0 rfl rfl)
theorem dX10_pivot_1 : decode cX10_pivot 1 = .ok (.getfield 30, 3) := dk_180 0 30 (dk_at dksX10_pivot_0 1 rfl rfl)
theorem dX10_pivot_4 : decode cX10_pivot 4 = .ok (.istore_n 2, 1) := dk_61 (dk_at dksX10_pivot_0 4 rfl rfl)
theorem dX10_pivot_5 : decode cX10_pivot 5 = .ok (.iload_n 2, 1) := dk_28 (dk_at dksX10_pivot_0 5 rfl rfl)
theorem dX10_pivot_6 : decode cX10_pivot 6 = .ok (.aload_n 0, 1) := dk_42 (dk_at dksX10_pivot_0 6 rfl rfl)
theorem dX10_pivot_7 : decode cX10_pivot 7 = .ok (.getfield 19, 3) := dk_180 0 19 (dk_at dksX10_pivot_0 7 rfl rfl)
theorem dX10_pivot_10 : decode cX10_pivot 10 = .ok (.arraylength, 1) := dk_190 (dk_at dksX10_pivot_0 10 rfl rfl)
theorem dX10_pivot_11 : decode cX10_pivot 11 = .ok (.if_icmp .ge 22, 3) := dk_162 0 22 (dk_at dksX10_pivot_0 11 rfl rfl)
theorem dX10_pivot_14 : decode cX10_pivot 14 = .ok (.aload_n 0, 1) := dk_42 (dk_at dksX10_pivot_0 14 rfl rfl)
theorem dX10_pivot_15 : decode cX10_pivot 15 = .ok (.getfield 19, 3) := dk_180 0 19 (dk_at dksX10_pivot_0 15 rfl rfl)
theorem dX10_pivot_18 : decode cX10_pivot 18 = .ok (.iload_n 2, 1) := dk_28 (dk_at dksX10_pivot_0 18 rfl rfl)
theorem dX10_pivot_19 : decode cX10_pivot 19 = .ok (.aaload, 1) := dk_50 (dk_at dksX10_pivot_0 19 rfl rfl)
theorem dX10_pivot_20 : decode cX10_pivot 20 = .ok (.iload_n 1, 1) := dk_27 (dk_at dksX10_pivot_0 20 rfl rfl)
theorem dX10_pivot_21 : decode cX10_pivot 21 = .ok (.iaload, 1) := dk_46 (dk_at dksX10_pivot_0 21 rfl rfl)
theorem dX10_pivot_22 : decode cX10_pivot 22 = .ok (.ifCond .eq 5, 3) := dk_153 0 5 (dk_at dksX10_pivot_1 0 rfl rfl)
theorem dX10_pivot_25 : decode cX10_pivot 25 = .ok (.iload_n 2, 1) := dk_28 (dk_at dksX10_pivot_1 3 rfl rfl)
theorem dX10_pivot_26 : decode cX10_pivot 26 = .ok (.ireturn, 1) := dk_172 (dk_at dksX10_pivot_1 4 rfl rfl)
theorem dX10_pivot_27 : decode cX10_pivot 27 = .ok (.iinc 2 1, 3) := dk_132 2 1 (dk_at dksX10_pivot_1 5 rfl rfl)
theorem dX10_pivot_30 : decode cX10_pivot 30 = .ok (.goto (-25), 3) := dk_167 255 231 (dk_at dksX10_pivot_1 8 rfl rfl)
theorem dX10_pivot_33 : decode cX10_pivot 33 = .ok (.iconst (-1), 1) := dk_2 (dk_at dksX10_pivot_1 11 rfl rfl)
theorem dX10_pivot_34 : decode cX10_pivot 34 = .ok (.ireturn, 1) := dk_172 (dk_at dksX10_pivot_1 12 rfl rfl)
abbrev cX10_takes : ByteArray := prog_8_method_5_code
def yX10_takes : MethodName := ⟨RX10, "takes", "([II[I)V"⟩
def dkwX10_takes_1 : List UInt8 := [46, 28, 45, 21, 4, 46, 182, 0, 50, 79, 132, 4, 1, 167, 255, 222, 177]
abbrev dktX10_takes_1 : List UInt8 := dkwX10_takes_1 ++ []
def dkwX10_takes_0 : List UInt8 := [3, 54, 4, 21, 4, 43, 190, 162, 0, 33, 28, 153, 0, 29, 43, 21, 4, 42, 180, 0, 15, 43, 21, 4]
abbrev dktX10_takes_0 : List UInt8 := dkwX10_takes_0 ++ dktX10_takes_1
theorem dksX10_takes_0 : cX10_takes.data.toList.drop 0 = dktX10_takes_0 := by decide +kernel
theorem dksX10_takes_1 : cX10_takes.data.toList.drop 24 = dktX10_takes_1 := dk_seg dksX10_takes_0 24 rfl rfl
theorem dX10_takes_0 : decode cX10_takes 0 = .ok (.iconst 0, 1) := dk_3 (dk_at dksX10_takes_0 0 rfl rfl)
theorem dX10_takes_1 : decode cX10_takes 1 = .ok (.istore 4, 2) := dk_54 4 (dk_at dksX10_takes_0 1 rfl rfl)
theorem dX10_takes_3 : decode cX10_takes 3 = .ok (.iload 4, 2) := dk_21 4 (dk_at dksX10_takes_0 3 rfl rfl)
theorem dX10_takes_5 : decode cX10_takes 5 = .ok (.aload_n 1, 1) := dk_43 (dk_at dksX10_takes_0 5 rfl rfl)
theorem dX10_takes_6 : decode cX10_takes 6 = .ok (.arraylength, 1) := dk_190 (dk_at dksX10_takes_0 6 rfl rfl)
theorem dX10_takes_7 : decode cX10_takes 7 = .ok (.if_icmp .ge 33, 3) := dk_162 0 33 (dk_at dksX10_takes_0 7 rfl rfl)
theorem dX10_takes_10 : decode cX10_takes 10 = .ok (.iload_n 2, 1) := dk_28 (dk_at dksX10_takes_0 10 rfl rfl)
theorem dX10_takes_11 : decode cX10_takes 11 = .ok (.ifCond .eq 29, 3) := dk_153 0 29 (dk_at dksX10_takes_0 11 rfl rfl)
theorem dX10_takes_14 : decode cX10_takes 14 = .ok (.aload_n 1, 1) := dk_43 (dk_at dksX10_takes_0 14 rfl rfl)
theorem dX10_takes_15 : decode cX10_takes 15 = .ok (.iload 4, 2) := dk_21 4 (dk_at dksX10_takes_0 15 rfl rfl)
theorem dX10_takes_17 : decode cX10_takes 17 = .ok (.aload_n 0, 1) := dk_42 (dk_at dksX10_takes_0 17 rfl rfl)
theorem dX10_takes_18 : decode cX10_takes 18 = .ok (.getfield 15, 3) := dk_180 0 15 (dk_at dksX10_takes_0 18 rfl rfl)
theorem dX10_takes_21 : decode cX10_takes 21 = .ok (.aload_n 1, 1) := dk_43 (dk_at dksX10_takes_0 21 rfl rfl)
theorem dX10_takes_22 : decode cX10_takes 22 = .ok (.iload 4, 2) := dk_21 4 (dk_at dksX10_takes_0 22 rfl rfl)
theorem dX10_takes_24 : decode cX10_takes 24 = .ok (.iaload, 1) := dk_46 (dk_at dksX10_takes_1 0 rfl rfl)
theorem dX10_takes_25 : decode cX10_takes 25 = .ok (.iload_n 2, 1) := dk_28 (dk_at dksX10_takes_1 1 rfl rfl)
theorem dX10_takes_26 : decode cX10_takes 26 = .ok (.aload_n 3, 1) := dk_45 (dk_at dksX10_takes_1 2 rfl rfl)
theorem dX10_takes_27 : decode cX10_takes 27 = .ok (.iload 4, 2) := dk_21 4 (dk_at dksX10_takes_1 3 rfl rfl)
theorem dX10_takes_29 : decode cX10_takes 29 = .ok (.iaload, 1) := dk_46 (dk_at dksX10_takes_1 5 rfl rfl)
theorem dX10_takes_30 : decode cX10_takes 30 = .ok (.invokevirtual 50, 3) := dk_182 0 50 (dk_at dksX10_takes_1 6 rfl rfl)
theorem dX10_takes_33 : decode cX10_takes 33 = .ok (.iastore, 1) := dk_79 (dk_at dksX10_takes_1 9 rfl rfl)
theorem dX10_takes_34 : decode cX10_takes 34 = .ok (.iinc 4 1, 3) := dk_132 4 1 (dk_at dksX10_takes_1 10 rfl rfl)
theorem dX10_takes_37 : decode cX10_takes 37 = .ok (.goto (-34), 3) := dk_167 255 222 (dk_at dksX10_takes_1 13 rfl rfl)
theorem dX10_takes_40 : decode cX10_takes 40 = .ok (.return_, 1) := dk_177 (dk_at dksX10_takes_1 16 rfl rfl)
theorem q141 : (Jvm.Cond.initialized "ExactChains$Steps") ∈ lw_all := lw_g (lw_at lw_m1 41 rfl) rfl
theorem q166 : (Jvm.Cond.fieldLinkNest "ExactChains$Steps" (37 : Nat) "ExactChains$Field" "prime" "I" "ExactChains") ∈ lw_tbl := lw_at lw_m1 66 rfl
theorem q171 : (Jvm.Cond.fieldLinkNest "ExactChains$Steps" (42 : Nat) "ExactChains$Field" "inverses" "[I" "ExactChains") ∈ lw_tbl := lw_at lw_m1 71 rfl
theorem q728 : (Jvm.Cond.selects "ExactChains$Steps" ({ cls := "java/lang/Object", name := "getClass", desc := "()Ljava/lang/Class;" } : Jvm.MethodName) ({ cls := "java/lang/Object", name := "getClass", desc := "()Ljava/lang/Class;" } : Jvm.MethodName)) ∈ lw_all := lw_g (lw_at lw_m3 148 rfl) rfl
theorem q1089 : (Jvm.Cond.instantiable "ExactChains$Steps" (4 : Nat)) ∈ lw_all := lw_g (lw_at lw_m5 29 rfl) rfl
theorem q1091 : (Jvm.Cond.instanceMethod ({ cls := "ExactChains$Steps", name := "<init>", desc := "(LExactChains$Field;[[I)V" } : Jvm.MethodName)) ∈ lw_all := lw_g (lw_at lw_m5 31 rfl) rfl
theorem q1092 : (Jvm.Cond.code ({ cls := "ExactChains$Steps", name := "<init>", desc := "(LExactChains$Field;[[I)V" } : Jvm.MethodName) prog_8_method_2_code (3 : Nat) (Option.none : Option Jvm.ClassFile.FieldType)) ∈ lw_all := lw_g (lw_at lw_m5 32 rfl) rfl
theorem q1093 : (Jvm.Cond.methodLink "ExactChains$Steps" (27 : Nat) ({ cls := "ExactChains$Steps", name := "<init>", desc := "(LExactChains$Field;I[[I)V" } : Jvm.MethodName)) ∈ lw_all := lw_g (lw_at lw_m5 33 rfl) rfl
theorem q1094 : (Jvm.Cond.instanceMethod ({ cls := "ExactChains$Steps", name := "<init>", desc := "(LExactChains$Field;I[[I)V" } : Jvm.MethodName)) ∈ lw_all := lw_g (lw_at lw_m5 34 rfl) rfl
theorem q1095 : (Jvm.Cond.code ({ cls := "ExactChains$Steps", name := "<init>", desc := "(LExactChains$Field;I[[I)V" } : Jvm.MethodName) prog_8_method_1_code (5 : Nat) (Option.none : Option Jvm.ClassFile.FieldType)) ∈ lw_all := lw_g (lw_at lw_m5 35 rfl) rfl
theorem q1096 : (Jvm.Cond.methodLink "ExactChains$Steps" (3 : Nat) ({ cls := "java/lang/Object", name := "<init>", desc := "()V" } : Jvm.MethodName)) ∈ lw_all := lw_g (lw_at lw_m5 36 rfl) rfl
theorem q1097 : (Jvm.Cond.methodLink "ExactChains$Steps" (23 : Nat) ({ cls := "ExactChains$Steps", name := "clears", desc := "(I)V" } : Jvm.MethodName)) ∈ lw_all := lw_g (lw_at lw_m5 37 rfl) rfl
theorem q1098 : (Jvm.Cond.privateMethod ({ cls := "ExactChains$Steps", name := "clears", desc := "(I)V" } : Jvm.MethodName)) ∈ lw_tbl := lw_at lw_m5 38 rfl
theorem q1099 : (Jvm.Cond.instanceMethod ({ cls := "ExactChains$Steps", name := "clears", desc := "(I)V" } : Jvm.MethodName)) ∈ lw_all := lw_g (lw_at lw_m5 39 rfl) rfl
theorem q1100 : (Jvm.Cond.code ({ cls := "ExactChains$Steps", name := "clears", desc := "(I)V" } : Jvm.MethodName) prog_8_method_4_code (6 : Nat) (Option.none : Option Jvm.ClassFile.FieldType)) ∈ lw_all := lw_g (lw_at lw_m5 40 rfl) rfl
theorem q1101 : (Jvm.Cond.methodLink "ExactChains$Steps" (33 : Nat) ({ cls := "ExactChains$Steps", name := "pivot", desc := "(I)I" } : Jvm.MethodName)) ∈ lw_all := lw_g (lw_at lw_m5 41 rfl) rfl
theorem q1102 : (Jvm.Cond.privateMethod ({ cls := "ExactChains$Steps", name := "pivot", desc := "(I)I" } : Jvm.MethodName)) ∈ lw_tbl := lw_at lw_m5 42 rfl
theorem q1103 : (Jvm.Cond.instanceMethod ({ cls := "ExactChains$Steps", name := "pivot", desc := "(I)I" } : Jvm.MethodName)) ∈ lw_all := lw_g (lw_at lw_m5 43 rfl) rfl
theorem q1104 : (Jvm.Cond.code ({ cls := "ExactChains$Steps", name := "pivot", desc := "(I)I" } : Jvm.MethodName) prog_8_method_3_code (3 : Nat) (Option.some Jvm.ClassFile.FieldType.int)) ∈ lw_all := lw_g (lw_at lw_m5 44 rfl) rfl
theorem q1105 : (Jvm.Cond.methodLink "ExactChains$Steps" (46 : Nat) ({ cls := "ExactChains$Steps", name := "takes", desc := "([II[I)V" } : Jvm.MethodName)) ∈ lw_all := lw_g (lw_at lw_m5 45 rfl) rfl
theorem q1106 : (Jvm.Cond.privateMethod ({ cls := "ExactChains$Steps", name := "takes", desc := "([II[I)V" } : Jvm.MethodName)) ∈ lw_tbl := lw_at lw_m5 46 rfl
theorem q1107 : (Jvm.Cond.instanceMethod ({ cls := "ExactChains$Steps", name := "takes", desc := "([II[I)V" } : Jvm.MethodName)) ∈ lw_all := lw_g (lw_at lw_m5 47 rfl) rfl
theorem q1108 : (Jvm.Cond.code ({ cls := "ExactChains$Steps", name := "takes", desc := "([II[I)V" } : Jvm.MethodName) prog_8_method_5_code (5 : Nat) (Option.none : Option Jvm.ClassFile.FieldType)) ∈ lw_all := lw_g (lw_at lw_m5 48 rfl) rfl
theorem q1109 : (Jvm.Cond.methodLink "ExactChains$Steps" (50 : Nat) ({ cls := "ExactChains$Field", name := "lessTimes", desc := "(III)I" } : Jvm.MethodName)) ∈ lw_all := lw_g (lw_at lw_m5 49 rfl) rfl
theorem q1110 : (Jvm.Cond.fieldLink "ExactChains$Steps" (15 : Nat) "ExactChains$Steps" "field" "LExactChains$Field;") ∈ lw_all := lw_g (lw_at lw_m5 50 rfl) rfl
theorem q1111 : (Jvm.Cond.fieldLink "ExactChains$Steps" (19 : Nat) "ExactChains$Steps" "rows" "[[I") ∈ lw_all := lw_g (lw_at lw_m5 51 rfl) rfl
theorem q1112 : (Jvm.Cond.fieldLink "ExactChains$Steps" (30 : Nat) "ExactChains$Steps" "rank" "I") ∈ lw_all := lw_g (lw_at lw_m5 52 rfl) rfl
theorem q1114 : (Jvm.Cond.fieldLink "ExactChains$Steps" (9 : Nat) "ExactChains$Steps" "determinant" "I") ∈ lw_all := lw_g (lw_at lw_m5 54 rfl) rfl
theorem q1117 : (Jvm.Cond.laysFinal "ExactChains$Steps" "ExactChains$Steps" "field" "LExactChains$Field;") ∈ lw_all := lw_g (lw_at lw_m5 57 rfl) rfl
theorem q1118 : (Jvm.Cond.soleField "ExactChains$Steps" "field") ∈ lw_all := lw_g (lw_at lw_m5 58 rfl) rfl
theorem q1119 : (Jvm.Cond.laysFinal "ExactChains$Steps" "ExactChains$Steps" "rows" "[[I") ∈ lw_all := lw_g (lw_at lw_m5 59 rfl) rfl
theorem q1120 : (Jvm.Cond.soleField "ExactChains$Steps" "rows") ∈ lw_all := lw_g (lw_at lw_m5 60 rfl) rfl
theorem q1121 : (Jvm.Cond.lays "ExactChains$Steps" "ExactChains$Steps" "rank" "I") ∈ lw_all := lw_g (lw_at lw_m5 61 rfl) rfl
theorem q1122 : (Jvm.Cond.soleField "ExactChains$Steps" "rank") ∈ lw_all := lw_g (lw_at lw_m5 62 rfl) rfl
theorem q1123 : (Jvm.Cond.lays "ExactChains$Steps" "ExactChains$Steps" "determinant" "I") ∈ lw_all := lw_g (lw_at lw_m5 63 rfl) rfl
theorem q1124 : (Jvm.Cond.soleField "ExactChains$Steps" "determinant") ∈ lw_all := lw_g (lw_at lw_m5 64 rfl) rfl
theorem q1125 : (Jvm.Cond.superclass "ExactChains$Steps" "java/lang/Object") ∈ lw_all := lw_g (lw_at lw_m5 65 rfl) rfl
theorem q2536 : (Jvm.Cond.castable "ExactChains$Steps" "java/lang/Object") ∈ lw_tbl := lw_at lw_m11 36 rfl
theorem in_X10 : ∀ w ∈ wsX100, w ∈ lw_all := lw_in wsX100 [1117, 1119, 1121, 1123] (by decide +kernel) (by decide +kernel)
/-! ExactChains$Process -/
set_option maxRecDepth 100000
def RX2 : String := "ExactChains$Process"
def TX2 : u_T := fun k => match k with
  | 0 => ("ExactChains$Process", "field", "LExactChains$Field;", true)
  | 1 => ("ExactChains$Process", "size", "I", true)
  | 2 => ("ExactChains$Process", "table", "[[I", false)
  | 3 => ("ExactChains$Process", "start", "LExactChains$Vector;", false)
  | 4 => ("ExactChains$Process", "limit", "I", false)
  | 5 => ("ExactChains$Process", "restarts", "I", false)
  | 6 => ("ExactChains$Process", "isFull", "Z", false)
  | 7 => ("ExactChains$Process", "directions", "Ljava/util/List;", true)
  | 8 => ("ExactChains$Process", "chains", "Ljava/util/List;", true)
  | 9 => ("ExactChains$Process", "finished", "I", false)
  | _ => ("ExactChains$Process", "looked", "I", false)
def tyX2 : Nat → FieldType := fun k => match k with
  | 0 => .object "ExactChains$Field"
  | 1 => .int
  | 2 => .array (.array .int)
  | 3 => .object "ExactChains$Vector"
  | 4 => .int
  | 5 => .int
  | 6 => .boolean
  | 7 => .object "java/util/List"
  | 8 => .object "java/util/List"
  | 9 => .int
  | _ => .int
abbrev wsX20 : List Cond := u_ws RX2 TX2 11
theorem nmX2 : ∀ a, a < 11 → ∀ b, b < 11 → a ≠ b → (TX2 a).2.1 ≠ (TX2 b).2.1 := by decide +kernel
theorem tyX2_ok : ∀ k, k < 11 → parseFieldDescriptor (TX2 k).2.2.1 = some (tyX2 k) := by decide +kernel
abbrev cX2_init : ByteArray := prog_6_method_3_code
def yX2_init : MethodName := ⟨RX2, "<init>", "()V"⟩
def dkwX2_init_0 : List UInt8 := [42, 6, 4, 183, 0, 57, 177]
abbrev dktX2_init_0 : List UInt8 := dkwX2_init_0 ++ []
theorem dksX2_init_0 : cX2_init.data.toList.drop 0 = dktX2_init_0 := by decide +kernel
theorem dX2_init_0 : decode cX2_init 0 = .ok (.aload_n 0, 1) := dk_42 (dk_at dksX2_init_0 0 rfl rfl)
theorem dX2_init_1 : decode cX2_init 1 = .ok (.iconst 3, 1) := dk_6 (dk_at dksX2_init_0 1 rfl rfl)
theorem dX2_init_2 : decode cX2_init 2 = .ok (.iconst 1, 1) := dk_4 (dk_at dksX2_init_0 2 rfl rfl)
theorem dX2_init_3 : decode cX2_init 3 = .ok (.invokespecial 57, 3) := dk_183 0 57 (dk_at dksX2_init_0 3 rfl rfl)
theorem dX2_init_6 : decode cX2_init 6 = .ok (.return_, 1) := dk_177 (dk_at dksX2_init_0 6 rfl rfl)
abbrev cX2_init_2 : ByteArray := prog_6_method_2_code
def yX2_init_2 : MethodName := ⟨RX2, "<init>", "(II)V"⟩
def dkwX2_init_2_0 : List UInt8 := [42, 187, 0, 51, 89, 27, 183, 0, 53, 28, 183, 0, 54, 177]
abbrev dktX2_init_2_0 : List UInt8 := dkwX2_init_2_0 ++ []
theorem dksX2_init_2_0 : cX2_init_2.data.toList.drop 0 = dktX2_init_2_0 := by decide +kernel
theorem dX2_init_2_0 : decode cX2_init_2 0 = .ok (.aload_n 0, 1) := dk_42 (dk_at dksX2_init_2_0 0 rfl rfl)
theorem dX2_init_2_1 : decode cX2_init_2 1 = .ok (.new 51, 3) := dk_187 0 51 (dk_at dksX2_init_2_0 1 rfl rfl)
theorem dX2_init_2_4 : decode cX2_init_2 4 = .ok (.dup, 1) := dk_89 (dk_at dksX2_init_2_0 4 rfl rfl)
theorem dX2_init_2_5 : decode cX2_init_2 5 = .ok (.iload_n 1, 1) := dk_27 (dk_at dksX2_init_2_0 5 rfl rfl)
theorem dX2_init_2_6 : decode cX2_init_2 6 = .ok (.invokespecial 53, 3) := dk_183 0 53 (dk_at dksX2_init_2_0 6 rfl rfl)
theorem dX2_init_2_9 : decode cX2_init_2 9 = .ok (.iload_n 2, 1) := dk_28 (dk_at dksX2_init_2_0 9 rfl rfl)
theorem dX2_init_2_10 : decode cX2_init_2 10 = .ok (.invokespecial 54, 3) := dk_183 0 54 (dk_at dksX2_init_2_0 10 rfl rfl)
theorem dX2_init_2_13 : decode cX2_init_2 13 = .ok (.return_, 1) := dk_177 (dk_at dksX2_init_2_0 13 rfl rfl)
abbrev cX2_init_3 : ByteArray := prog_6_method_1_code
def yX2_init_3 : MethodName := ⟨RX2, "<init>", "(LExactChains$Field;I)V"⟩
def dkwX2_init_3_3 : List UInt8 := [183, 0, 44, 181, 0, 47, 177]
abbrev dktX2_init_3_3 : List UInt8 := dkwX2_init_3_3 ++ []
def dkwX2_init_3_2 : List UInt8 := [28, 181, 0, 34, 42, 28, 28, 197, 0, 37, 2, 181, 0, 39, 42, 187, 0, 42, 89, 28, 188, 10]
abbrev dktX2_init_3_2 : List UInt8 := dkwX2_init_3_2 ++ dktX2_init_3_3
def dkwX2_init_3_1 : List UInt8 := [183, 0, 20, 181, 0, 23, 42, 187, 0, 18, 89, 7, 183, 0, 20, 181, 0, 27, 42, 43, 181, 0, 30, 42]
abbrev dktX2_init_3_1 : List UInt8 := dkwX2_init_3_1 ++ dktX2_init_3_2
def dkwX2_init_3_0 : List UInt8 := [42, 183, 0, 3, 42, 16, 8, 181, 0, 9, 42, 16, 8, 181, 0, 15, 42, 187, 0, 18, 89, 16, 8]
abbrev dktX2_init_3_0 : List UInt8 := dkwX2_init_3_0 ++ dktX2_init_3_1
theorem dksX2_init_3_0 : cX2_init_3.data.toList.drop 0 = dktX2_init_3_0 := by decide +kernel
theorem dksX2_init_3_1 : cX2_init_3.data.toList.drop 23 = dktX2_init_3_1 := dk_seg dksX2_init_3_0 23 rfl rfl
theorem dksX2_init_3_2 : cX2_init_3.data.toList.drop 47 = dktX2_init_3_2 := dk_seg dksX2_init_3_1 24 rfl rfl
theorem dksX2_init_3_3 : cX2_init_3.data.toList.drop 69 = dktX2_init_3_3 := dk_seg dksX2_init_3_2 22 rfl rfl
theorem dX2_init_3_0 : decode cX2_init_3 0 = .ok (.aload_n 0, 1) := dk_42 (dk_at dksX2_init_3_0 0 rfl rfl)
theorem dX2_init_3_1 : decode cX2_init_3 1 = .ok (.invokespecial 3, 3) := dk_183 0 3 (dk_at dksX2_init_3_0 1 rfl rfl)
theorem dX2_init_3_4 : decode cX2_init_3 4 = .ok (.aload_n 0, 1) := dk_42 (dk_at dksX2_init_3_0 4 rfl rfl)
theorem dX2_init_3_5 : decode cX2_init_3 5 = .ok (.bipush 8, 2) := dk_16 8 (dk_at dksX2_init_3_0 5 rfl rfl)
theorem dX2_init_3_7 : decode cX2_init_3 7 = .ok (.putfield 9, 3) := dk_181 0 9 (dk_at dksX2_init_3_0 7 rfl rfl)
theorem dX2_init_3_10 : decode cX2_init_3 10 = .ok (.aload_n 0, 1) := dk_42 (dk_at dksX2_init_3_0 10 rfl rfl)
theorem dX2_init_3_11 : decode cX2_init_3 11 = .ok (.bipush 8, 2) := dk_16 8 (dk_at dksX2_init_3_0 11 rfl rfl)
theorem dX2_init_3_13 : decode cX2_init_3 13 = .ok (.putfield 15, 3) := dk_181 0 15 (dk_at dksX2_init_3_0 13 rfl rfl)
theorem dX2_init_3_16 : decode cX2_init_3 16 = .ok (.aload_n 0, 1) := dk_42 (dk_at dksX2_init_3_0 16 rfl rfl)
theorem dX2_init_3_17 : decode cX2_init_3 17 = .ok (.new 18, 3) := dk_187 0 18 (dk_at dksX2_init_3_0 17 rfl rfl)
theorem dX2_init_3_20 : decode cX2_init_3 20 = .ok (.dup, 1) := dk_89 (dk_at dksX2_init_3_0 20 rfl rfl)
theorem dX2_init_3_21 : decode cX2_init_3 21 = .ok (.bipush 8, 2) := dk_16 8 (dk_at dksX2_init_3_0 21 rfl rfl)
theorem dX2_init_3_23 : decode cX2_init_3 23 = .ok (.invokespecial 20, 3) := dk_183 0 20 (dk_at dksX2_init_3_1 0 rfl rfl)
theorem dX2_init_3_26 : decode cX2_init_3 26 = .ok (.putfield 23, 3) := dk_181 0 23 (dk_at dksX2_init_3_1 3 rfl rfl)
theorem dX2_init_3_29 : decode cX2_init_3 29 = .ok (.aload_n 0, 1) := dk_42 (dk_at dksX2_init_3_1 6 rfl rfl)
theorem dX2_init_3_30 : decode cX2_init_3 30 = .ok (.new 18, 3) := dk_187 0 18 (dk_at dksX2_init_3_1 7 rfl rfl)
theorem dX2_init_3_33 : decode cX2_init_3 33 = .ok (.dup, 1) := dk_89 (dk_at dksX2_init_3_1 10 rfl rfl)
theorem dX2_init_3_34 : decode cX2_init_3 34 = .ok (.iconst 4, 1) := dk_7 (dk_at dksX2_init_3_1 11 rfl rfl)
theorem dX2_init_3_35 : decode cX2_init_3 35 = .ok (.invokespecial 20, 3) := dk_183 0 20 (dk_at dksX2_init_3_1 12 rfl rfl)
theorem dX2_init_3_38 : decode cX2_init_3 38 = .ok (.putfield 27, 3) := dk_181 0 27 (dk_at dksX2_init_3_1 15 rfl rfl)
theorem dX2_init_3_41 : decode cX2_init_3 41 = .ok (.aload_n 0, 1) := dk_42 (dk_at dksX2_init_3_1 18 rfl rfl)
theorem dX2_init_3_42 : decode cX2_init_3 42 = .ok (.aload_n 1, 1) := dk_43 (dk_at dksX2_init_3_1 19 rfl rfl)
theorem dX2_init_3_43 : decode cX2_init_3 43 = .ok (.putfield 30, 3) := dk_181 0 30 (dk_at dksX2_init_3_1 20 rfl rfl)
theorem dX2_init_3_46 : decode cX2_init_3 46 = .ok (.aload_n 0, 1) := dk_42 (dk_at dksX2_init_3_1 23 rfl rfl)
theorem dX2_init_3_47 : decode cX2_init_3 47 = .ok (.iload_n 2, 1) := dk_28 (dk_at dksX2_init_3_2 0 rfl rfl)
theorem dX2_init_3_48 : decode cX2_init_3 48 = .ok (.putfield 34, 3) := dk_181 0 34 (dk_at dksX2_init_3_2 1 rfl rfl)
theorem dX2_init_3_51 : decode cX2_init_3 51 = .ok (.aload_n 0, 1) := dk_42 (dk_at dksX2_init_3_2 4 rfl rfl)
theorem dX2_init_3_52 : decode cX2_init_3 52 = .ok (.iload_n 2, 1) := dk_28 (dk_at dksX2_init_3_2 5 rfl rfl)
theorem dX2_init_3_53 : decode cX2_init_3 53 = .ok (.iload_n 2, 1) := dk_28 (dk_at dksX2_init_3_2 6 rfl rfl)
theorem dX2_init_3_54 : decode cX2_init_3 54 = .ok (.multianewarray 37 2, 4) := by decide +kernel
theorem dX2_init_3_58 : decode cX2_init_3 58 = .ok (.putfield 39, 3) := dk_181 0 39 (dk_at dksX2_init_3_2 11 rfl rfl)
theorem dX2_init_3_61 : decode cX2_init_3 61 = .ok (.aload_n 0, 1) := dk_42 (dk_at dksX2_init_3_2 14 rfl rfl)
theorem dX2_init_3_62 : decode cX2_init_3 62 = .ok (.new 42, 3) := dk_187 0 42 (dk_at dksX2_init_3_2 15 rfl rfl)
theorem dX2_init_3_65 : decode cX2_init_3 65 = .ok (.dup, 1) := dk_89 (dk_at dksX2_init_3_2 18 rfl rfl)
theorem dX2_init_3_66 : decode cX2_init_3 66 = .ok (.iload_n 2, 1) := dk_28 (dk_at dksX2_init_3_2 19 rfl rfl)
theorem dX2_init_3_67 : decode cX2_init_3 67 = .ok (.newarray .int, 2) := dk_188_10 (dk_at dksX2_init_3_2 20 rfl rfl)
theorem dX2_init_3_69 : decode cX2_init_3 69 = .ok (.invokespecial 44, 3) := dk_183 0 44 (dk_at dksX2_init_3_3 0 rfl rfl)
theorem dX2_init_3_72 : decode cX2_init_3 72 = .ok (.putfield 47, 3) := dk_181 0 47 (dk_at dksX2_init_3_3 3 rfl rfl)
theorem dX2_init_3_75 : decode cX2_init_3 75 = .ok (.return_, 1) := dk_177 (dk_at dksX2_init_3_3 6 rfl rfl)
abbrev cX2_anew : ByteArray := prog_6_method_5_code
def yX2_anew : MethodName := ⟨RX2, "anew", "()LExactChains$Process;"⟩
def dkwX2_anew_1 : List UInt8 := [3, 181, 0, 70, 43, 3, 181, 0, 73, 43, 176]
abbrev dktX2_anew_1 : List UInt8 := dkwX2_anew_1 ++ []
def dkwX2_anew_0 : List UInt8 := [42, 182, 0, 76, 76, 43, 180, 0, 23, 185, 0, 80, 1, 0, 43, 180, 0, 27, 185, 0, 80, 1, 0, 43]
abbrev dktX2_anew_0 : List UInt8 := dkwX2_anew_0 ++ dktX2_anew_1
theorem dksX2_anew_0 : cX2_anew.data.toList.drop 0 = dktX2_anew_0 := by decide +kernel
theorem dksX2_anew_1 : cX2_anew.data.toList.drop 24 = dktX2_anew_1 := dk_seg dksX2_anew_0 24 rfl rfl
theorem dX2_anew_0 : decode cX2_anew 0 = .ok (.aload_n 0, 1) := dk_42 (dk_at dksX2_anew_0 0 rfl rfl)
theorem dX2_anew_1 : decode cX2_anew 1 = .ok (.invokevirtual 76, 3) := dk_182 0 76 (dk_at dksX2_anew_0 1 rfl rfl)
theorem dX2_anew_4 : decode cX2_anew 4 = .ok (.astore_n 1, 1) := dk_76 (dk_at dksX2_anew_0 4 rfl rfl)
theorem dX2_anew_5 : decode cX2_anew 5 = .ok (.aload_n 1, 1) := dk_43 (dk_at dksX2_anew_0 5 rfl rfl)
theorem dX2_anew_6 : decode cX2_anew 6 = .ok (.getfield 23, 3) := dk_180 0 23 (dk_at dksX2_anew_0 6 rfl rfl)
theorem dX2_anew_9 : decode cX2_anew 9 = .ok (.invokeinterface 80 1, 5) := by decide +kernel
theorem dX2_anew_14 : decode cX2_anew 14 = .ok (.aload_n 1, 1) := dk_43 (dk_at dksX2_anew_0 14 rfl rfl)
theorem dX2_anew_15 : decode cX2_anew 15 = .ok (.getfield 27, 3) := dk_180 0 27 (dk_at dksX2_anew_0 15 rfl rfl)
theorem dX2_anew_18 : decode cX2_anew 18 = .ok (.invokeinterface 80 1, 5) := by decide +kernel
theorem dX2_anew_23 : decode cX2_anew 23 = .ok (.aload_n 1, 1) := dk_43 (dk_at dksX2_anew_0 23 rfl rfl)
theorem dX2_anew_24 : decode cX2_anew 24 = .ok (.iconst 0, 1) := dk_3 (dk_at dksX2_anew_1 0 rfl rfl)
theorem dX2_anew_25 : decode cX2_anew 25 = .ok (.putfield 70, 3) := dk_181 0 70 (dk_at dksX2_anew_1 1 rfl rfl)
theorem dX2_anew_28 : decode cX2_anew 28 = .ok (.aload_n 1, 1) := dk_43 (dk_at dksX2_anew_1 4 rfl rfl)
theorem dX2_anew_29 : decode cX2_anew 29 = .ok (.iconst 0, 1) := dk_3 (dk_at dksX2_anew_1 5 rfl rfl)
theorem dX2_anew_30 : decode cX2_anew 30 = .ok (.putfield 73, 3) := dk_181 0 73 (dk_at dksX2_anew_1 6 rfl rfl)
theorem dX2_anew_33 : decode cX2_anew 33 = .ok (.aload_n 1, 1) := dk_43 (dk_at dksX2_anew_1 9 rfl rfl)
theorem dX2_anew_34 : decode cX2_anew 34 = .ok (.areturn, 1) := dk_176 (dk_at dksX2_anew_1 10 rfl rfl)
abbrev cX2_copy : ByteArray := prog_6_method_4_code
def yX2_copy : MethodName := ⟨RX2, "copy", "()LExactChains$Process;"⟩
def dkwX2_copy_4 : List UInt8 := [180, 0, 73, 181, 0, 73, 43, 176]
abbrev dktX2_copy_4 : List UInt8 := dkwX2_copy_4 ++ []
def dkwX2_copy_3 : List UInt8 := [180, 0, 27, 42, 180, 0, 27, 185, 0, 64, 2, 0, 87, 43, 42, 180, 0, 70, 181, 0, 70, 43, 42]
abbrev dktX2_copy_3 : List UInt8 := dkwX2_copy_3 ++ dktX2_copy_4
def dkwX2_copy_2 : List UInt8 := [43, 42, 180, 0, 60, 181, 0, 60, 43, 180, 0, 23, 42, 180, 0, 23, 185, 0, 64, 2, 0, 87, 43]
abbrev dktX2_copy_2 : List UInt8 := dkwX2_copy_2 ++ dktX2_copy_3
def dkwX2_copy_1 : List UInt8 := [43, 42, 180, 0, 47, 181, 0, 47, 43, 42, 180, 0, 9, 181, 0, 9, 43, 42, 180, 0, 15, 181, 0, 15]
abbrev dktX2_copy_1 : List UInt8 := dkwX2_copy_1 ++ dktX2_copy_2
def dkwX2_copy_0 : List UInt8 := [187, 0, 10, 89, 42, 180, 0, 30, 42, 180, 0, 34, 183, 0, 54, 76, 43, 42, 180, 0, 39, 181, 0, 39]
abbrev dktX2_copy_0 : List UInt8 := dkwX2_copy_0 ++ dktX2_copy_1
theorem dksX2_copy_0 : cX2_copy.data.toList.drop 0 = dktX2_copy_0 := by decide +kernel
theorem dksX2_copy_1 : cX2_copy.data.toList.drop 24 = dktX2_copy_1 := dk_seg dksX2_copy_0 24 rfl rfl
theorem dksX2_copy_2 : cX2_copy.data.toList.drop 48 = dktX2_copy_2 := dk_seg dksX2_copy_1 24 rfl rfl
theorem dksX2_copy_3 : cX2_copy.data.toList.drop 71 = dktX2_copy_3 := dk_seg dksX2_copy_2 23 rfl rfl
theorem dksX2_copy_4 : cX2_copy.data.toList.drop 94 = dktX2_copy_4 := dk_seg dksX2_copy_3 23 rfl rfl
theorem dX2_copy_0 : decode cX2_copy 0 = .ok (.new 10, 3) := dk_187 0 10 (dk_at dksX2_copy_0 0 rfl rfl)
theorem dX2_copy_3 : decode cX2_copy 3 = .ok (.dup, 1) := dk_89 (dk_at dksX2_copy_0 3 rfl rfl)
theorem dX2_copy_4 : decode cX2_copy 4 = .ok (.aload_n 0, 1) := dk_42 (dk_at dksX2_copy_0 4 rfl rfl)
theorem dX2_copy_5 : decode cX2_copy 5 = .ok (.getfield 30, 3) := dk_180 0 30 (dk_at dksX2_copy_0 5 rfl rfl)
theorem dX2_copy_8 : decode cX2_copy 8 = .ok (.aload_n 0, 1) := dk_42 (dk_at dksX2_copy_0 8 rfl rfl)
theorem dX2_copy_9 : decode cX2_copy 9 = .ok (.getfield 34, 3) := dk_180 0 34 (dk_at dksX2_copy_0 9 rfl rfl)
theorem dX2_copy_12 : decode cX2_copy 12 = .ok (.invokespecial 54, 3) := dk_183 0 54 (dk_at dksX2_copy_0 12 rfl rfl)
theorem dX2_copy_15 : decode cX2_copy 15 = .ok (.astore_n 1, 1) := dk_76 (dk_at dksX2_copy_0 15 rfl rfl)
theorem dX2_copy_16 : decode cX2_copy 16 = .ok (.aload_n 1, 1) := dk_43 (dk_at dksX2_copy_0 16 rfl rfl)
theorem dX2_copy_17 : decode cX2_copy 17 = .ok (.aload_n 0, 1) := dk_42 (dk_at dksX2_copy_0 17 rfl rfl)
theorem dX2_copy_18 : decode cX2_copy 18 = .ok (.getfield 39, 3) := dk_180 0 39 (dk_at dksX2_copy_0 18 rfl rfl)
theorem dX2_copy_21 : decode cX2_copy 21 = .ok (.putfield 39, 3) := dk_181 0 39 (dk_at dksX2_copy_0 21 rfl rfl)
theorem dX2_copy_24 : decode cX2_copy 24 = .ok (.aload_n 1, 1) := dk_43 (dk_at dksX2_copy_1 0 rfl rfl)
theorem dX2_copy_25 : decode cX2_copy 25 = .ok (.aload_n 0, 1) := dk_42 (dk_at dksX2_copy_1 1 rfl rfl)
theorem dX2_copy_26 : decode cX2_copy 26 = .ok (.getfield 47, 3) := dk_180 0 47 (dk_at dksX2_copy_1 2 rfl rfl)
theorem dX2_copy_29 : decode cX2_copy 29 = .ok (.putfield 47, 3) := dk_181 0 47 (dk_at dksX2_copy_1 5 rfl rfl)
theorem dX2_copy_32 : decode cX2_copy 32 = .ok (.aload_n 1, 1) := dk_43 (dk_at dksX2_copy_1 8 rfl rfl)
theorem dX2_copy_33 : decode cX2_copy 33 = .ok (.aload_n 0, 1) := dk_42 (dk_at dksX2_copy_1 9 rfl rfl)
theorem dX2_copy_34 : decode cX2_copy 34 = .ok (.getfield 9, 3) := dk_180 0 9 (dk_at dksX2_copy_1 10 rfl rfl)
theorem dX2_copy_37 : decode cX2_copy 37 = .ok (.putfield 9, 3) := dk_181 0 9 (dk_at dksX2_copy_1 13 rfl rfl)
theorem dX2_copy_40 : decode cX2_copy 40 = .ok (.aload_n 1, 1) := dk_43 (dk_at dksX2_copy_1 16 rfl rfl)
theorem dX2_copy_41 : decode cX2_copy 41 = .ok (.aload_n 0, 1) := dk_42 (dk_at dksX2_copy_1 17 rfl rfl)
theorem dX2_copy_42 : decode cX2_copy 42 = .ok (.getfield 15, 3) := dk_180 0 15 (dk_at dksX2_copy_1 18 rfl rfl)
theorem dX2_copy_45 : decode cX2_copy 45 = .ok (.putfield 15, 3) := dk_181 0 15 (dk_at dksX2_copy_1 21 rfl rfl)
theorem dX2_copy_48 : decode cX2_copy 48 = .ok (.aload_n 1, 1) := dk_43 (dk_at dksX2_copy_2 0 rfl rfl)
theorem dX2_copy_49 : decode cX2_copy 49 = .ok (.aload_n 0, 1) := dk_42 (dk_at dksX2_copy_2 1 rfl rfl)
theorem dX2_copy_50 : decode cX2_copy 50 = .ok (.getfield 60, 3) := dk_180 0 60 (dk_at dksX2_copy_2 2 rfl rfl)
theorem dX2_copy_53 : decode cX2_copy 53 = .ok (.putfield 60, 3) := dk_181 0 60 (dk_at dksX2_copy_2 5 rfl rfl)
theorem dX2_copy_56 : decode cX2_copy 56 = .ok (.aload_n 1, 1) := dk_43 (dk_at dksX2_copy_2 8 rfl rfl)
theorem dX2_copy_57 : decode cX2_copy 57 = .ok (.getfield 23, 3) := dk_180 0 23 (dk_at dksX2_copy_2 9 rfl rfl)
theorem dX2_copy_60 : decode cX2_copy 60 = .ok (.aload_n 0, 1) := dk_42 (dk_at dksX2_copy_2 12 rfl rfl)
theorem dX2_copy_61 : decode cX2_copy 61 = .ok (.getfield 23, 3) := dk_180 0 23 (dk_at dksX2_copy_2 13 rfl rfl)
theorem dX2_copy_64 : decode cX2_copy 64 = .ok (.invokeinterface 64 2, 5) := by decide +kernel
theorem dX2_copy_69 : decode cX2_copy 69 = .ok (.pop, 1) := dk_87 (dk_at dksX2_copy_2 21 rfl rfl)
theorem dX2_copy_70 : decode cX2_copy 70 = .ok (.aload_n 1, 1) := dk_43 (dk_at dksX2_copy_2 22 rfl rfl)
theorem dX2_copy_71 : decode cX2_copy 71 = .ok (.getfield 27, 3) := dk_180 0 27 (dk_at dksX2_copy_3 0 rfl rfl)
theorem dX2_copy_74 : decode cX2_copy 74 = .ok (.aload_n 0, 1) := dk_42 (dk_at dksX2_copy_3 3 rfl rfl)
theorem dX2_copy_75 : decode cX2_copy 75 = .ok (.getfield 27, 3) := dk_180 0 27 (dk_at dksX2_copy_3 4 rfl rfl)
theorem dX2_copy_78 : decode cX2_copy 78 = .ok (.invokeinterface 64 2, 5) := by decide +kernel
theorem dX2_copy_83 : decode cX2_copy 83 = .ok (.pop, 1) := dk_87 (dk_at dksX2_copy_3 12 rfl rfl)
theorem dX2_copy_84 : decode cX2_copy 84 = .ok (.aload_n 1, 1) := dk_43 (dk_at dksX2_copy_3 13 rfl rfl)
theorem dX2_copy_85 : decode cX2_copy 85 = .ok (.aload_n 0, 1) := dk_42 (dk_at dksX2_copy_3 14 rfl rfl)
theorem dX2_copy_86 : decode cX2_copy 86 = .ok (.getfield 70, 3) := dk_180 0 70 (dk_at dksX2_copy_3 15 rfl rfl)
theorem dX2_copy_89 : decode cX2_copy 89 = .ok (.putfield 70, 3) := dk_181 0 70 (dk_at dksX2_copy_3 18 rfl rfl)
theorem dX2_copy_92 : decode cX2_copy 92 = .ok (.aload_n 1, 1) := dk_43 (dk_at dksX2_copy_3 21 rfl rfl)
theorem dX2_copy_93 : decode cX2_copy 93 = .ok (.aload_n 0, 1) := dk_42 (dk_at dksX2_copy_3 22 rfl rfl)
theorem dX2_copy_94 : decode cX2_copy 94 = .ok (.getfield 73, 3) := dk_180 0 73 (dk_at dksX2_copy_4 0 rfl rfl)
theorem dX2_copy_97 : decode cX2_copy 97 = .ok (.putfield 73, 3) := dk_181 0 73 (dk_at dksX2_copy_4 3 rfl rfl)
theorem dX2_copy_100 : decode cX2_copy 100 = .ok (.aload_n 1, 1) := dk_43 (dk_at dksX2_copy_4 6 rfl rfl)
theorem dX2_copy_101 : decode cX2_copy 101 = .ok (.areturn, 1) := dk_176 (dk_at dksX2_copy_4 7 rfl rfl)
abbrev cX2_step : ByteArray := prog_6_method_18_code
def yX2_step : MethodName := ⟨RX2, "step", "()I"⟩
def dkwX2_step_3 : List UInt8 := [167, 0, 11, 42, 42, 182, 0, 194, 182, 0, 182, 172]
abbrev dktX2_step_3 : List UInt8 := dkwX2_step_3 ++ []
def dkwX2_step_2 : List UInt8 := [182, 0, 192, 172, 42, 182, 0, 147, 182, 0, 151, 42, 180, 0, 9, 161, 0, 11, 42, 6, 182, 0, 166]
abbrev dktX2_step_2 : List UInt8 := dkwX2_step_2 ++ dktX2_step_3
def dkwX2_step_1 : List UInt8 := [42, 182, 0, 179, 42, 42, 180, 0, 47, 182, 0, 182, 172, 42, 182, 0, 147, 182, 0, 189, 158, 0, 8, 42]
abbrev dktX2_step_1 : List UInt8 := dkwX2_step_1 ++ dktX2_step_2
def dkwX2_step_0 : List UInt8 := [42, 180, 0, 70, 158, 0, 8, 42, 180, 0, 70, 172, 42, 180, 0, 27, 185, 0, 186, 1, 0, 153, 0, 16]
abbrev dktX2_step_0 : List UInt8 := dkwX2_step_0 ++ dktX2_step_1
theorem dksX2_step_0 : cX2_step.data.toList.drop 0 = dktX2_step_0 := by decide +kernel
theorem dksX2_step_1 : cX2_step.data.toList.drop 24 = dktX2_step_1 := dk_seg dksX2_step_0 24 rfl rfl
theorem dksX2_step_2 : cX2_step.data.toList.drop 48 = dktX2_step_2 := dk_seg dksX2_step_1 24 rfl rfl
theorem dksX2_step_3 : cX2_step.data.toList.drop 71 = dktX2_step_3 := dk_seg dksX2_step_2 23 rfl rfl
theorem dX2_step_0 : decode cX2_step 0 = .ok (.aload_n 0, 1) := dk_42 (dk_at dksX2_step_0 0 rfl rfl)
theorem dX2_step_1 : decode cX2_step 1 = .ok (.getfield 70, 3) := dk_180 0 70 (dk_at dksX2_step_0 1 rfl rfl)
theorem dX2_step_4 : decode cX2_step 4 = .ok (.ifCond .le 8, 3) := dk_158 0 8 (dk_at dksX2_step_0 4 rfl rfl)
theorem dX2_step_7 : decode cX2_step 7 = .ok (.aload_n 0, 1) := dk_42 (dk_at dksX2_step_0 7 rfl rfl)
theorem dX2_step_8 : decode cX2_step 8 = .ok (.getfield 70, 3) := dk_180 0 70 (dk_at dksX2_step_0 8 rfl rfl)
theorem dX2_step_11 : decode cX2_step 11 = .ok (.ireturn, 1) := dk_172 (dk_at dksX2_step_0 11 rfl rfl)
theorem dX2_step_12 : decode cX2_step 12 = .ok (.aload_n 0, 1) := dk_42 (dk_at dksX2_step_0 12 rfl rfl)
theorem dX2_step_13 : decode cX2_step 13 = .ok (.getfield 27, 3) := dk_180 0 27 (dk_at dksX2_step_0 13 rfl rfl)
theorem dX2_step_16 : decode cX2_step 16 = .ok (.invokeinterface 186 1, 5) := by decide +kernel
theorem dX2_step_21 : decode cX2_step 21 = .ok (.ifCond .eq 16, 3) := dk_153 0 16 (dk_at dksX2_step_0 21 rfl rfl)
theorem dX2_step_24 : decode cX2_step 24 = .ok (.aload_n 0, 1) := dk_42 (dk_at dksX2_step_1 0 rfl rfl)
theorem dX2_step_25 : decode cX2_step 25 = .ok (.invokevirtual 179, 3) := dk_182 0 179 (dk_at dksX2_step_1 1 rfl rfl)
theorem dX2_step_28 : decode cX2_step 28 = .ok (.aload_n 0, 1) := dk_42 (dk_at dksX2_step_1 4 rfl rfl)
theorem dX2_step_29 : decode cX2_step 29 = .ok (.aload_n 0, 1) := dk_42 (dk_at dksX2_step_1 5 rfl rfl)
theorem dX2_step_30 : decode cX2_step 30 = .ok (.getfield 47, 3) := dk_180 0 47 (dk_at dksX2_step_1 6 rfl rfl)
theorem dX2_step_33 : decode cX2_step 33 = .ok (.invokevirtual 182, 3) := dk_182 0 182 (dk_at dksX2_step_1 9 rfl rfl)
theorem dX2_step_36 : decode cX2_step 36 = .ok (.ireturn, 1) := dk_172 (dk_at dksX2_step_1 12 rfl rfl)
theorem dX2_step_37 : decode cX2_step 37 = .ok (.aload_n 0, 1) := dk_42 (dk_at dksX2_step_1 13 rfl rfl)
theorem dX2_step_38 : decode cX2_step 38 = .ok (.invokevirtual 147, 3) := dk_182 0 147 (dk_at dksX2_step_1 14 rfl rfl)
theorem dX2_step_41 : decode cX2_step 41 = .ok (.invokevirtual 189, 3) := dk_182 0 189 (dk_at dksX2_step_1 17 rfl rfl)
theorem dX2_step_44 : decode cX2_step 44 = .ok (.ifCond .le 8, 3) := dk_158 0 8 (dk_at dksX2_step_1 20 rfl rfl)
theorem dX2_step_47 : decode cX2_step 47 = .ok (.aload_n 0, 1) := dk_42 (dk_at dksX2_step_1 23 rfl rfl)
theorem dX2_step_48 : decode cX2_step 48 = .ok (.invokevirtual 192, 3) := dk_182 0 192 (dk_at dksX2_step_2 0 rfl rfl)
theorem dX2_step_51 : decode cX2_step 51 = .ok (.ireturn, 1) := dk_172 (dk_at dksX2_step_2 3 rfl rfl)
theorem dX2_step_52 : decode cX2_step 52 = .ok (.aload_n 0, 1) := dk_42 (dk_at dksX2_step_2 4 rfl rfl)
theorem dX2_step_53 : decode cX2_step 53 = .ok (.invokevirtual 147, 3) := dk_182 0 147 (dk_at dksX2_step_2 5 rfl rfl)
theorem dX2_step_56 : decode cX2_step 56 = .ok (.invokevirtual 151, 3) := dk_182 0 151 (dk_at dksX2_step_2 8 rfl rfl)
theorem dX2_step_59 : decode cX2_step 59 = .ok (.aload_n 0, 1) := dk_42 (dk_at dksX2_step_2 11 rfl rfl)
theorem dX2_step_60 : decode cX2_step 60 = .ok (.getfield 9, 3) := dk_180 0 9 (dk_at dksX2_step_2 12 rfl rfl)
theorem dX2_step_63 : decode cX2_step 63 = .ok (.if_icmp .lt 11, 3) := dk_161 0 11 (dk_at dksX2_step_2 15 rfl rfl)
theorem dX2_step_66 : decode cX2_step 66 = .ok (.aload_n 0, 1) := dk_42 (dk_at dksX2_step_2 18 rfl rfl)
theorem dX2_step_67 : decode cX2_step 67 = .ok (.iconst 3, 1) := dk_6 (dk_at dksX2_step_2 19 rfl rfl)
theorem dX2_step_68 : decode cX2_step 68 = .ok (.invokevirtual 166, 3) := dk_182 0 166 (dk_at dksX2_step_2 20 rfl rfl)
theorem dX2_step_71 : decode cX2_step 71 = .ok (.goto 11, 3) := dk_167 0 11 (dk_at dksX2_step_3 0 rfl rfl)
theorem dX2_step_74 : decode cX2_step 74 = .ok (.aload_n 0, 1) := dk_42 (dk_at dksX2_step_3 3 rfl rfl)
theorem dX2_step_75 : decode cX2_step 75 = .ok (.aload_n 0, 1) := dk_42 (dk_at dksX2_step_3 4 rfl rfl)
theorem dX2_step_76 : decode cX2_step 76 = .ok (.invokevirtual 194, 3) := dk_182 0 194 (dk_at dksX2_step_3 5 rfl rfl)
theorem dX2_step_79 : decode cX2_step 79 = .ok (.invokevirtual 182, 3) := dk_182 0 182 (dk_at dksX2_step_3 8 rfl rfl)
theorem dX2_step_82 : decode cX2_step 82 = .ok (.ireturn, 1) := dk_172 (dk_at dksX2_step_3 11 rfl rfl)
abbrev cX2_begins : ByteArray := prog_6_method_13_code
def yX2_begins : MethodName := ⟨RX2, "begins", "()V"⟩
def dkwX2_begins_1 : List UInt8 := [185, 0, 137, 2, 0, 87, 177]
abbrev dktX2_begins_1 : List UInt8 := dkwX2_begins_1 ++ []
def dkwX2_begins_0 : List UInt8 := [42, 180, 0, 27, 187, 0, 128, 89, 42, 180, 0, 23, 185, 0, 108, 1, 0, 3, 3, 183, 0, 134]
abbrev dktX2_begins_0 : List UInt8 := dkwX2_begins_0 ++ dktX2_begins_1
theorem dksX2_begins_0 : cX2_begins.data.toList.drop 0 = dktX2_begins_0 := by decide +kernel
theorem dksX2_begins_1 : cX2_begins.data.toList.drop 22 = dktX2_begins_1 := dk_seg dksX2_begins_0 22 rfl rfl
theorem dX2_begins_0 : decode cX2_begins 0 = .ok (.aload_n 0, 1) := dk_42 (dk_at dksX2_begins_0 0 rfl rfl)
theorem dX2_begins_1 : decode cX2_begins 1 = .ok (.getfield 27, 3) := dk_180 0 27 (dk_at dksX2_begins_0 1 rfl rfl)
theorem dX2_begins_4 : decode cX2_begins 4 = .ok (.new 128, 3) := dk_187 0 128 (dk_at dksX2_begins_0 4 rfl rfl)
theorem dX2_begins_7 : decode cX2_begins 7 = .ok (.dup, 1) := dk_89 (dk_at dksX2_begins_0 7 rfl rfl)
theorem dX2_begins_8 : decode cX2_begins 8 = .ok (.aload_n 0, 1) := dk_42 (dk_at dksX2_begins_0 8 rfl rfl)
theorem dX2_begins_9 : decode cX2_begins 9 = .ok (.getfield 23, 3) := dk_180 0 23 (dk_at dksX2_begins_0 9 rfl rfl)
theorem dX2_begins_12 : decode cX2_begins 12 = .ok (.invokeinterface 108 1, 5) := by decide +kernel
theorem dX2_begins_17 : decode cX2_begins 17 = .ok (.iconst 0, 1) := dk_3 (dk_at dksX2_begins_0 17 rfl rfl)
theorem dX2_begins_18 : decode cX2_begins 18 = .ok (.iconst 0, 1) := dk_3 (dk_at dksX2_begins_0 18 rfl rfl)
theorem dX2_begins_19 : decode cX2_begins 19 = .ok (.invokespecial 134, 3) := dk_183 0 134 (dk_at dksX2_begins_0 19 rfl rfl)
theorem dX2_begins_22 : decode cX2_begins 22 = .ok (.invokeinterface 137 2, 5) := by decide +kernel
theorem dX2_begins_27 : decode cX2_begins 27 = .ok (.pop, 1) := dk_87 (dk_at dksX2_begins_1 5 rfl rfl)
theorem dX2_begins_28 : decode cX2_begins 28 = .ok (.return_, 1) := dk_177 (dk_at dksX2_begins_1 6 rfl rfl)
abbrev cX2_judges : ByteArray := prog_6_method_16_code
def yX2_judges : MethodName := ⟨RX2, "judges", "(LExactChains$Vector;)I"⟩
def dkwX2_judges_4 : List UInt8 := [181, 0, 70, 7, 172]
abbrev dktX2_judges_4 : List UInt8 := dkwX2_judges_4 ++ []
def dkwX2_judges_3 : List UInt8 := [182, 0, 158, 42, 180, 0, 23, 185, 0, 108, 1, 0, 42, 180, 0, 34, 162, 0, 5, 3, 172, 42, 7]
abbrev dktX2_judges_3 : List UInt8 := dkwX2_judges_3 ++ dktX2_judges_4
def dkwX2_judges_2 : List UInt8 := [185, 0, 108, 1, 0, 4, 100, 183, 0, 169, 185, 0, 137, 2, 0, 87, 42, 42, 182, 0, 147, 182, 0, 172]
abbrev dktX2_judges_2 : List UInt8 := dkwX2_judges_2 ++ dktX2_judges_3
def dkwX2_judges_1 : List UInt8 := [154, 0, 9, 42, 5, 182, 0, 166, 172, 42, 180, 0, 23, 187, 0, 94, 89, 43, 28, 42, 180, 0, 27]
abbrev dktX2_judges_1 : List UInt8 := dkwX2_judges_1 ++ dktX2_judges_2
def dkwX2_judges_0 : List UInt8 := [43, 182, 0, 162, 153, 0, 9, 42, 4, 182, 0, 166, 172, 42, 180, 0, 30, 43, 43, 182, 0, 113, 61, 28]
abbrev dktX2_judges_0 : List UInt8 := dkwX2_judges_0 ++ dktX2_judges_1
theorem dksX2_judges_0 : cX2_judges.data.toList.drop 0 = dktX2_judges_0 := by decide +kernel
theorem dksX2_judges_1 : cX2_judges.data.toList.drop 24 = dktX2_judges_1 := dk_seg dksX2_judges_0 24 rfl rfl
theorem dksX2_judges_2 : cX2_judges.data.toList.drop 47 = dktX2_judges_2 := dk_seg dksX2_judges_1 23 rfl rfl
theorem dksX2_judges_3 : cX2_judges.data.toList.drop 71 = dktX2_judges_3 := dk_seg dksX2_judges_2 24 rfl rfl
theorem dksX2_judges_4 : cX2_judges.data.toList.drop 94 = dktX2_judges_4 := dk_seg dksX2_judges_3 23 rfl rfl
theorem dX2_judges_0 : decode cX2_judges 0 = .ok (.aload_n 1, 1) := dk_43 (dk_at dksX2_judges_0 0 rfl rfl)
theorem dX2_judges_1 : decode cX2_judges 1 = .ok (.invokevirtual 162, 3) := dk_182 0 162 (dk_at dksX2_judges_0 1 rfl rfl)
theorem dX2_judges_4 : decode cX2_judges 4 = .ok (.ifCond .eq 9, 3) := dk_153 0 9 (dk_at dksX2_judges_0 4 rfl rfl)
theorem dX2_judges_7 : decode cX2_judges 7 = .ok (.aload_n 0, 1) := dk_42 (dk_at dksX2_judges_0 7 rfl rfl)
theorem dX2_judges_8 : decode cX2_judges 8 = .ok (.iconst 1, 1) := dk_4 (dk_at dksX2_judges_0 8 rfl rfl)
theorem dX2_judges_9 : decode cX2_judges 9 = .ok (.invokevirtual 166, 3) := dk_182 0 166 (dk_at dksX2_judges_0 9 rfl rfl)
theorem dX2_judges_12 : decode cX2_judges 12 = .ok (.ireturn, 1) := dk_172 (dk_at dksX2_judges_0 12 rfl rfl)
theorem dX2_judges_13 : decode cX2_judges 13 = .ok (.aload_n 0, 1) := dk_42 (dk_at dksX2_judges_0 13 rfl rfl)
theorem dX2_judges_14 : decode cX2_judges 14 = .ok (.getfield 30, 3) := dk_180 0 30 (dk_at dksX2_judges_0 14 rfl rfl)
theorem dX2_judges_17 : decode cX2_judges 17 = .ok (.aload_n 1, 1) := dk_43 (dk_at dksX2_judges_0 17 rfl rfl)
theorem dX2_judges_18 : decode cX2_judges 18 = .ok (.aload_n 1, 1) := dk_43 (dk_at dksX2_judges_0 18 rfl rfl)
theorem dX2_judges_19 : decode cX2_judges 19 = .ok (.invokevirtual 113, 3) := dk_182 0 113 (dk_at dksX2_judges_0 19 rfl rfl)
theorem dX2_judges_22 : decode cX2_judges 22 = .ok (.istore_n 2, 1) := dk_61 (dk_at dksX2_judges_0 22 rfl rfl)
theorem dX2_judges_23 : decode cX2_judges 23 = .ok (.iload_n 2, 1) := dk_28 (dk_at dksX2_judges_0 23 rfl rfl)
theorem dX2_judges_24 : decode cX2_judges 24 = .ok (.ifCond .ne 9, 3) := dk_154 0 9 (dk_at dksX2_judges_1 0 rfl rfl)
theorem dX2_judges_27 : decode cX2_judges 27 = .ok (.aload_n 0, 1) := dk_42 (dk_at dksX2_judges_1 3 rfl rfl)
theorem dX2_judges_28 : decode cX2_judges 28 = .ok (.iconst 2, 1) := dk_5 (dk_at dksX2_judges_1 4 rfl rfl)
theorem dX2_judges_29 : decode cX2_judges 29 = .ok (.invokevirtual 166, 3) := dk_182 0 166 (dk_at dksX2_judges_1 5 rfl rfl)
theorem dX2_judges_32 : decode cX2_judges 32 = .ok (.ireturn, 1) := dk_172 (dk_at dksX2_judges_1 8 rfl rfl)
theorem dX2_judges_33 : decode cX2_judges 33 = .ok (.aload_n 0, 1) := dk_42 (dk_at dksX2_judges_1 9 rfl rfl)
theorem dX2_judges_34 : decode cX2_judges 34 = .ok (.getfield 23, 3) := dk_180 0 23 (dk_at dksX2_judges_1 10 rfl rfl)
theorem dX2_judges_37 : decode cX2_judges 37 = .ok (.new 94, 3) := dk_187 0 94 (dk_at dksX2_judges_1 13 rfl rfl)
theorem dX2_judges_40 : decode cX2_judges 40 = .ok (.dup, 1) := dk_89 (dk_at dksX2_judges_1 16 rfl rfl)
theorem dX2_judges_41 : decode cX2_judges 41 = .ok (.aload_n 1, 1) := dk_43 (dk_at dksX2_judges_1 17 rfl rfl)
theorem dX2_judges_42 : decode cX2_judges 42 = .ok (.iload_n 2, 1) := dk_28 (dk_at dksX2_judges_1 18 rfl rfl)
theorem dX2_judges_43 : decode cX2_judges 43 = .ok (.aload_n 0, 1) := dk_42 (dk_at dksX2_judges_1 19 rfl rfl)
theorem dX2_judges_44 : decode cX2_judges 44 = .ok (.getfield 27, 3) := dk_180 0 27 (dk_at dksX2_judges_1 20 rfl rfl)
theorem dX2_judges_47 : decode cX2_judges 47 = .ok (.invokeinterface 108 1, 5) := by decide +kernel
theorem dX2_judges_52 : decode cX2_judges 52 = .ok (.iconst 1, 1) := dk_4 (dk_at dksX2_judges_2 5 rfl rfl)
theorem dX2_judges_53 : decode cX2_judges 53 = .ok (.isub, 1) := dk_100 (dk_at dksX2_judges_2 6 rfl rfl)
theorem dX2_judges_54 : decode cX2_judges 54 = .ok (.invokespecial 169, 3) := dk_183 0 169 (dk_at dksX2_judges_2 7 rfl rfl)
theorem dX2_judges_57 : decode cX2_judges 57 = .ok (.invokeinterface 137 2, 5) := by decide +kernel
theorem dX2_judges_62 : decode cX2_judges 62 = .ok (.pop, 1) := dk_87 (dk_at dksX2_judges_2 15 rfl rfl)
theorem dX2_judges_63 : decode cX2_judges 63 = .ok (.aload_n 0, 1) := dk_42 (dk_at dksX2_judges_2 16 rfl rfl)
theorem dX2_judges_64 : decode cX2_judges 64 = .ok (.aload_n 0, 1) := dk_42 (dk_at dksX2_judges_2 17 rfl rfl)
theorem dX2_judges_65 : decode cX2_judges 65 = .ok (.invokevirtual 147, 3) := dk_182 0 147 (dk_at dksX2_judges_2 18 rfl rfl)
theorem dX2_judges_68 : decode cX2_judges 68 = .ok (.invokevirtual 172, 3) := dk_182 0 172 (dk_at dksX2_judges_2 21 rfl rfl)
theorem dX2_judges_71 : decode cX2_judges 71 = .ok (.invokevirtual 158, 3) := dk_182 0 158 (dk_at dksX2_judges_3 0 rfl rfl)
theorem dX2_judges_74 : decode cX2_judges 74 = .ok (.aload_n 0, 1) := dk_42 (dk_at dksX2_judges_3 3 rfl rfl)
theorem dX2_judges_75 : decode cX2_judges 75 = .ok (.getfield 23, 3) := dk_180 0 23 (dk_at dksX2_judges_3 4 rfl rfl)
theorem dX2_judges_78 : decode cX2_judges 78 = .ok (.invokeinterface 108 1, 5) := by decide +kernel
theorem dX2_judges_83 : decode cX2_judges 83 = .ok (.aload_n 0, 1) := dk_42 (dk_at dksX2_judges_3 12 rfl rfl)
theorem dX2_judges_84 : decode cX2_judges 84 = .ok (.getfield 34, 3) := dk_180 0 34 (dk_at dksX2_judges_3 13 rfl rfl)
theorem dX2_judges_87 : decode cX2_judges 87 = .ok (.if_icmp .ge 5, 3) := dk_162 0 5 (dk_at dksX2_judges_3 16 rfl rfl)
theorem dX2_judges_90 : decode cX2_judges 90 = .ok (.iconst 0, 1) := dk_3 (dk_at dksX2_judges_3 19 rfl rfl)
theorem dX2_judges_91 : decode cX2_judges 91 = .ok (.ireturn, 1) := dk_172 (dk_at dksX2_judges_3 20 rfl rfl)
theorem dX2_judges_92 : decode cX2_judges 92 = .ok (.aload_n 0, 1) := dk_42 (dk_at dksX2_judges_3 21 rfl rfl)
theorem dX2_judges_93 : decode cX2_judges 93 = .ok (.iconst 4, 1) := dk_7 (dk_at dksX2_judges_3 22 rfl rfl)
theorem dX2_judges_94 : decode cX2_judges 94 = .ok (.putfield 70, 3) := dk_181 0 70 (dk_at dksX2_judges_4 0 rfl rfl)
theorem dX2_judges_97 : decode cX2_judges 97 = .ok (.iconst 4, 1) := dk_7 (dk_at dksX2_judges_4 3 rfl rfl)
theorem dX2_judges_98 : decode cX2_judges 98 = .ok (.ireturn, 1) := dk_172 (dk_at dksX2_judges_4 4 rfl rfl)
abbrev cX2_ends : ByteArray := prog_6_method_15_code
def yX2_ends : MethodName := ⟨RX2, "ends", "(I)I"⟩
def dkwX2_ends_0 : List UInt8 := [42, 42, 182, 0, 147, 27, 182, 0, 154, 182, 0, 158, 27, 172]
abbrev dktX2_ends_0 : List UInt8 := dkwX2_ends_0 ++ []
theorem dksX2_ends_0 : cX2_ends.data.toList.drop 0 = dktX2_ends_0 := by decide +kernel
theorem dX2_ends_0 : decode cX2_ends 0 = .ok (.aload_n 0, 1) := dk_42 (dk_at dksX2_ends_0 0 rfl rfl)
theorem dX2_ends_1 : decode cX2_ends 1 = .ok (.aload_n 0, 1) := dk_42 (dk_at dksX2_ends_0 1 rfl rfl)
theorem dX2_ends_2 : decode cX2_ends 2 = .ok (.invokevirtual 147, 3) := dk_182 0 147 (dk_at dksX2_ends_0 2 rfl rfl)
theorem dX2_ends_5 : decode cX2_ends 5 = .ok (.iload_n 1, 1) := dk_27 (dk_at dksX2_ends_0 5 rfl rfl)
theorem dX2_ends_6 : decode cX2_ends 6 = .ok (.invokevirtual 154, 3) := dk_182 0 154 (dk_at dksX2_ends_0 6 rfl rfl)
theorem dX2_ends_9 : decode cX2_ends 9 = .ok (.invokevirtual 158, 3) := dk_182 0 158 (dk_at dksX2_ends_0 9 rfl rfl)
theorem dX2_ends_12 : decode cX2_ends 12 = .ok (.iload_n 1, 1) := dk_27 (dk_at dksX2_ends_0 12 rfl rfl)
theorem dX2_ends_13 : decode cX2_ends 13 = .ok (.ireturn, 1) := dk_172 (dk_at dksX2_ends_0 13 rfl rfl)
abbrev cX2_latest : ByteArray := prog_6_method_11_code
def yX2_latest : MethodName := ⟨RX2, "latest", "()LExactChains$Chain;"⟩
def dkwX2_latest_0 : List UInt8 := [42, 180, 0, 27, 42, 180, 0, 27, 185, 0, 108, 1, 0, 4, 100, 185, 0, 90, 2, 0, 192, 0, 128, 176]
abbrev dktX2_latest_0 : List UInt8 := dkwX2_latest_0 ++ []
theorem dksX2_latest_0 : cX2_latest.data.toList.drop 0 = dktX2_latest_0 := by decide +kernel
theorem dX2_latest_0 : decode cX2_latest 0 = .ok (.aload_n 0, 1) := dk_42 (dk_at dksX2_latest_0 0 rfl rfl)
theorem dX2_latest_1 : decode cX2_latest 1 = .ok (.getfield 27, 3) := dk_180 0 27 (dk_at dksX2_latest_0 1 rfl rfl)
theorem dX2_latest_4 : decode cX2_latest 4 = .ok (.aload_n 0, 1) := dk_42 (dk_at dksX2_latest_0 4 rfl rfl)
theorem dX2_latest_5 : decode cX2_latest 5 = .ok (.getfield 27, 3) := dk_180 0 27 (dk_at dksX2_latest_0 5 rfl rfl)
theorem dX2_latest_8 : decode cX2_latest 8 = .ok (.invokeinterface 108 1, 5) := by decide +kernel
theorem dX2_latest_13 : decode cX2_latest 13 = .ok (.iconst 1, 1) := dk_4 (dk_at dksX2_latest_0 13 rfl rfl)
theorem dX2_latest_14 : decode cX2_latest 14 = .ok (.isub, 1) := dk_100 (dk_at dksX2_latest_0 14 rfl rfl)
theorem dX2_latest_15 : decode cX2_latest 15 = .ok (.invokeinterface 90 2, 5) := by decide +kernel
theorem dX2_latest_20 : decode cX2_latest 20 = .ok (.checkcast 128, 3) := dk_192 0 128 (dk_at dksX2_latest_0 20 rfl rfl)
theorem dX2_latest_23 : decode cX2_latest 23 = .ok (.areturn, 1) := dk_176 (dk_at dksX2_latest_0 23 rfl rfl)
abbrev cX2_replaces : ByteArray := prog_6_method_12_code
def yX2_replaces : MethodName := ⟨RX2, "replaces", "(LExactChains$Chain;)V"⟩
def dkwX2_replaces_1 : List UInt8 := [77, 177]
abbrev dktX2_replaces_1 : List UInt8 := dkwX2_replaces_1 ++ []
def dkwX2_replaces_0 : List UInt8 := [42, 180, 0, 27, 42, 180, 0, 27, 185, 0, 108, 1, 0, 4, 100, 43, 185, 0, 130, 3, 0, 192, 0, 128]
abbrev dktX2_replaces_0 : List UInt8 := dkwX2_replaces_0 ++ dktX2_replaces_1
theorem dksX2_replaces_0 : cX2_replaces.data.toList.drop 0 = dktX2_replaces_0 := by decide +kernel
theorem dksX2_replaces_1 : cX2_replaces.data.toList.drop 24 = dktX2_replaces_1 := dk_seg dksX2_replaces_0 24 rfl rfl
theorem dX2_replaces_0 : decode cX2_replaces 0 = .ok (.aload_n 0, 1) := dk_42 (dk_at dksX2_replaces_0 0 rfl rfl)
theorem dX2_replaces_1 : decode cX2_replaces 1 = .ok (.getfield 27, 3) := dk_180 0 27 (dk_at dksX2_replaces_0 1 rfl rfl)
theorem dX2_replaces_4 : decode cX2_replaces 4 = .ok (.aload_n 0, 1) := dk_42 (dk_at dksX2_replaces_0 4 rfl rfl)
theorem dX2_replaces_5 : decode cX2_replaces 5 = .ok (.getfield 27, 3) := dk_180 0 27 (dk_at dksX2_replaces_0 5 rfl rfl)
theorem dX2_replaces_8 : decode cX2_replaces 8 = .ok (.invokeinterface 108 1, 5) := by decide +kernel
theorem dX2_replaces_13 : decode cX2_replaces 13 = .ok (.iconst 1, 1) := dk_4 (dk_at dksX2_replaces_0 13 rfl rfl)
theorem dX2_replaces_14 : decode cX2_replaces 14 = .ok (.isub, 1) := dk_100 (dk_at dksX2_replaces_0 14 rfl rfl)
theorem dX2_replaces_15 : decode cX2_replaces 15 = .ok (.aload_n 1, 1) := dk_43 (dk_at dksX2_replaces_0 15 rfl rfl)
theorem dX2_replaces_16 : decode cX2_replaces 16 = .ok (.invokeinterface 130 3, 5) := by decide +kernel
theorem dX2_replaces_21 : decode cX2_replaces 21 = .ok (.checkcast 128, 3) := dk_192 0 128 (dk_at dksX2_replaces_0 21 rfl rfl)
theorem dX2_replaces_24 : decode cX2_replaces 24 = .ok (.astore_n 2, 1) := dk_77 (dk_at dksX2_replaces_1 0 rfl rfl)
theorem dX2_replaces_25 : decode cX2_replaces 25 = .ok (.return_, 1) := dk_177 (dk_at dksX2_replaces_1 1 rfl rfl)
abbrev cX2_restarts : ByteArray := prog_6_method_17_code
def yX2_restarts : MethodName := ⟨RX2, "restarts", "()I"⟩
def dkwX2_restarts_3 : List UInt8 := [167, 255, 184, 42, 182, 0, 179, 42, 43, 182, 0, 182, 172, 42, 8, 181, 0, 70, 8, 172]
abbrev dktX2_restarts_3 : List UInt8 := dkwX2_restarts_3 ++ []
def dkwX2_restarts_2 : List UInt8 := [4, 96, 181, 0, 73, 43, 182, 0, 162, 154, 255, 199, 42, 180, 0, 30, 43, 43, 182, 0, 113, 154, 0, 6]
abbrev dktX2_restarts_2 : List UInt8 := dkwX2_restarts_2 ++ dktX2_restarts_3
def dkwX2_restarts_1 : List UInt8 := [162, 0, 61, 42, 42, 180, 0, 34, 42, 180, 0, 73, 184, 0, 175, 182, 0, 144, 76, 42, 89, 180, 0, 73]
abbrev dktX2_restarts_1 : List UInt8 := dkwX2_restarts_1 ++ dktX2_restarts_2
def dkwX2_restarts_0 : List UInt8 := [42, 180, 0, 27, 185, 0, 108, 1, 0, 42, 180, 0, 15, 163, 0, 72, 42, 180, 0, 73, 42, 180, 0, 34]
abbrev dktX2_restarts_0 : List UInt8 := dkwX2_restarts_0 ++ dktX2_restarts_1
theorem dksX2_restarts_0 : cX2_restarts.data.toList.drop 0 = dktX2_restarts_0 := by decide +kernel
theorem dksX2_restarts_1 : cX2_restarts.data.toList.drop 24 = dktX2_restarts_1 := dk_seg dksX2_restarts_0 24 rfl rfl
theorem dksX2_restarts_2 : cX2_restarts.data.toList.drop 48 = dktX2_restarts_2 := dk_seg dksX2_restarts_1 24 rfl rfl
theorem dksX2_restarts_3 : cX2_restarts.data.toList.drop 72 = dktX2_restarts_3 := dk_seg dksX2_restarts_2 24 rfl rfl
theorem dX2_restarts_0 : decode cX2_restarts 0 = .ok (.aload_n 0, 1) := dk_42 (dk_at dksX2_restarts_0 0 rfl rfl)
theorem dX2_restarts_1 : decode cX2_restarts 1 = .ok (.getfield 27, 3) := dk_180 0 27 (dk_at dksX2_restarts_0 1 rfl rfl)
theorem dX2_restarts_4 : decode cX2_restarts 4 = .ok (.invokeinterface 108 1, 5) := by decide +kernel
theorem dX2_restarts_9 : decode cX2_restarts 9 = .ok (.aload_n 0, 1) := dk_42 (dk_at dksX2_restarts_0 9 rfl rfl)
theorem dX2_restarts_10 : decode cX2_restarts 10 = .ok (.getfield 15, 3) := dk_180 0 15 (dk_at dksX2_restarts_0 10 rfl rfl)
theorem dX2_restarts_13 : decode cX2_restarts 13 = .ok (.if_icmp .gt 72, 3) := dk_163 0 72 (dk_at dksX2_restarts_0 13 rfl rfl)
theorem dX2_restarts_16 : decode cX2_restarts 16 = .ok (.aload_n 0, 1) := dk_42 (dk_at dksX2_restarts_0 16 rfl rfl)
theorem dX2_restarts_17 : decode cX2_restarts 17 = .ok (.getfield 73, 3) := dk_180 0 73 (dk_at dksX2_restarts_0 17 rfl rfl)
theorem dX2_restarts_20 : decode cX2_restarts 20 = .ok (.aload_n 0, 1) := dk_42 (dk_at dksX2_restarts_0 20 rfl rfl)
theorem dX2_restarts_21 : decode cX2_restarts 21 = .ok (.getfield 34, 3) := dk_180 0 34 (dk_at dksX2_restarts_0 21 rfl rfl)
theorem dX2_restarts_24 : decode cX2_restarts 24 = .ok (.if_icmp .ge 61, 3) := dk_162 0 61 (dk_at dksX2_restarts_1 0 rfl rfl)
theorem dX2_restarts_27 : decode cX2_restarts 27 = .ok (.aload_n 0, 1) := dk_42 (dk_at dksX2_restarts_1 3 rfl rfl)
theorem dX2_restarts_28 : decode cX2_restarts 28 = .ok (.aload_n 0, 1) := dk_42 (dk_at dksX2_restarts_1 4 rfl rfl)
theorem dX2_restarts_29 : decode cX2_restarts 29 = .ok (.getfield 34, 3) := dk_180 0 34 (dk_at dksX2_restarts_1 5 rfl rfl)
theorem dX2_restarts_32 : decode cX2_restarts 32 = .ok (.aload_n 0, 1) := dk_42 (dk_at dksX2_restarts_1 8 rfl rfl)
theorem dX2_restarts_33 : decode cX2_restarts 33 = .ok (.getfield 73, 3) := dk_180 0 73 (dk_at dksX2_restarts_1 9 rfl rfl)
theorem dX2_restarts_36 : decode cX2_restarts 36 = .ok (.invokestatic 175, 3) := dk_184 0 175 (dk_at dksX2_restarts_1 12 rfl rfl)
theorem dX2_restarts_39 : decode cX2_restarts 39 = .ok (.invokevirtual 144, 3) := dk_182 0 144 (dk_at dksX2_restarts_1 15 rfl rfl)
theorem dX2_restarts_42 : decode cX2_restarts 42 = .ok (.astore_n 1, 1) := dk_76 (dk_at dksX2_restarts_1 18 rfl rfl)
theorem dX2_restarts_43 : decode cX2_restarts 43 = .ok (.aload_n 0, 1) := dk_42 (dk_at dksX2_restarts_1 19 rfl rfl)
theorem dX2_restarts_44 : decode cX2_restarts 44 = .ok (.dup, 1) := dk_89 (dk_at dksX2_restarts_1 20 rfl rfl)
theorem dX2_restarts_45 : decode cX2_restarts 45 = .ok (.getfield 73, 3) := dk_180 0 73 (dk_at dksX2_restarts_1 21 rfl rfl)
theorem dX2_restarts_48 : decode cX2_restarts 48 = .ok (.iconst 1, 1) := dk_4 (dk_at dksX2_restarts_2 0 rfl rfl)
theorem dX2_restarts_49 : decode cX2_restarts 49 = .ok (.iadd, 1) := dk_96 (dk_at dksX2_restarts_2 1 rfl rfl)
theorem dX2_restarts_50 : decode cX2_restarts 50 = .ok (.putfield 73, 3) := dk_181 0 73 (dk_at dksX2_restarts_2 2 rfl rfl)
theorem dX2_restarts_53 : decode cX2_restarts 53 = .ok (.aload_n 1, 1) := dk_43 (dk_at dksX2_restarts_2 5 rfl rfl)
theorem dX2_restarts_54 : decode cX2_restarts 54 = .ok (.invokevirtual 162, 3) := dk_182 0 162 (dk_at dksX2_restarts_2 6 rfl rfl)
theorem dX2_restarts_57 : decode cX2_restarts 57 = .ok (.ifCond .ne (-57), 3) := dk_154 255 199 (dk_at dksX2_restarts_2 9 rfl rfl)
theorem dX2_restarts_60 : decode cX2_restarts 60 = .ok (.aload_n 0, 1) := dk_42 (dk_at dksX2_restarts_2 12 rfl rfl)
theorem dX2_restarts_61 : decode cX2_restarts 61 = .ok (.getfield 30, 3) := dk_180 0 30 (dk_at dksX2_restarts_2 13 rfl rfl)
theorem dX2_restarts_64 : decode cX2_restarts 64 = .ok (.aload_n 1, 1) := dk_43 (dk_at dksX2_restarts_2 16 rfl rfl)
theorem dX2_restarts_65 : decode cX2_restarts 65 = .ok (.aload_n 1, 1) := dk_43 (dk_at dksX2_restarts_2 17 rfl rfl)
theorem dX2_restarts_66 : decode cX2_restarts 66 = .ok (.invokevirtual 113, 3) := dk_182 0 113 (dk_at dksX2_restarts_2 18 rfl rfl)
theorem dX2_restarts_69 : decode cX2_restarts 69 = .ok (.ifCond .ne 6, 3) := dk_154 0 6 (dk_at dksX2_restarts_2 21 rfl rfl)
theorem dX2_restarts_72 : decode cX2_restarts 72 = .ok (.goto (-72), 3) := dk_167 255 184 (dk_at dksX2_restarts_3 0 rfl rfl)
theorem dX2_restarts_75 : decode cX2_restarts 75 = .ok (.aload_n 0, 1) := dk_42 (dk_at dksX2_restarts_3 3 rfl rfl)
theorem dX2_restarts_76 : decode cX2_restarts 76 = .ok (.invokevirtual 179, 3) := dk_182 0 179 (dk_at dksX2_restarts_3 4 rfl rfl)
theorem dX2_restarts_79 : decode cX2_restarts 79 = .ok (.aload_n 0, 1) := dk_42 (dk_at dksX2_restarts_3 7 rfl rfl)
theorem dX2_restarts_80 : decode cX2_restarts 80 = .ok (.aload_n 1, 1) := dk_43 (dk_at dksX2_restarts_3 8 rfl rfl)
theorem dX2_restarts_81 : decode cX2_restarts 81 = .ok (.invokevirtual 182, 3) := dk_182 0 182 (dk_at dksX2_restarts_3 9 rfl rfl)
theorem dX2_restarts_84 : decode cX2_restarts 84 = .ok (.ireturn, 1) := dk_172 (dk_at dksX2_restarts_3 12 rfl rfl)
theorem dX2_restarts_85 : decode cX2_restarts 85 = .ok (.aload_n 0, 1) := dk_42 (dk_at dksX2_restarts_3 13 rfl rfl)
theorem dX2_restarts_86 : decode cX2_restarts 86 = .ok (.iconst 5, 1) := dk_8 (dk_at dksX2_restarts_3 14 rfl rfl)
theorem dX2_restarts_87 : decode cX2_restarts 87 = .ok (.putfield 70, 3) := dk_181 0 70 (dk_at dksX2_restarts_3 15 rfl rfl)
theorem dX2_restarts_90 : decode cX2_restarts 90 = .ok (.iconst 5, 1) := dk_8 (dk_at dksX2_restarts_3 18 rfl rfl)
theorem dX2_restarts_91 : decode cX2_restarts 91 = .ok (.ireturn, 1) := dk_172 (dk_at dksX2_restarts_3 19 rfl rfl)
abbrev cX2_remainder : ByteArray := prog_6_method_10_code
def yX2_remainder : MethodName := ⟨RX2, "remainder", "(LExactChains$Vector;)LExactChains$Vector;"⟩
def dkwX2_remainder_2 : List UInt8 := [42, 29, 182, 0, 110, 182, 0, 124, 77, 132, 3, 1, 167, 255, 201, 44, 176]
abbrev dktX2_remainder_2 : List UInt8 := dkwX2_remainder_2 ++ []
def dkwX2_remainder_1 : List UInt8 := [180, 0, 30, 42, 180, 0, 30, 43, 42, 29, 182, 0, 110, 182, 0, 113, 42, 29, 182, 0, 117, 182, 0, 120]
abbrev dktX2_remainder_1 : List UInt8 := dkwX2_remainder_1 ++ dktX2_remainder_2
def dkwX2_remainder_0 : List UInt8 := [43, 77, 3, 62, 29, 42, 180, 0, 23, 185, 0, 108, 1, 0, 162, 0, 48, 42, 180, 0, 30, 44, 42]
abbrev dktX2_remainder_0 : List UInt8 := dkwX2_remainder_0 ++ dktX2_remainder_1
theorem dksX2_remainder_0 : cX2_remainder.data.toList.drop 0 = dktX2_remainder_0 := by decide +kernel
theorem dksX2_remainder_1 : cX2_remainder.data.toList.drop 23 = dktX2_remainder_1 := dk_seg dksX2_remainder_0 23 rfl rfl
theorem dksX2_remainder_2 : cX2_remainder.data.toList.drop 47 = dktX2_remainder_2 := dk_seg dksX2_remainder_1 24 rfl rfl
theorem dX2_remainder_0 : decode cX2_remainder 0 = .ok (.aload_n 1, 1) := dk_43 (dk_at dksX2_remainder_0 0 rfl rfl)
theorem dX2_remainder_1 : decode cX2_remainder 1 = .ok (.astore_n 2, 1) := dk_77 (dk_at dksX2_remainder_0 1 rfl rfl)
theorem dX2_remainder_2 : decode cX2_remainder 2 = .ok (.iconst 0, 1) := dk_3 (dk_at dksX2_remainder_0 2 rfl rfl)
theorem dX2_remainder_3 : decode cX2_remainder 3 = .ok (.istore_n 3, 1) := dk_62 (dk_at dksX2_remainder_0 3 rfl rfl)
theorem dX2_remainder_4 : decode cX2_remainder 4 = .ok (.iload_n 3, 1) := dk_29 (dk_at dksX2_remainder_0 4 rfl rfl)
theorem dX2_remainder_5 : decode cX2_remainder 5 = .ok (.aload_n 0, 1) := dk_42 (dk_at dksX2_remainder_0 5 rfl rfl)
theorem dX2_remainder_6 : decode cX2_remainder 6 = .ok (.getfield 23, 3) := dk_180 0 23 (dk_at dksX2_remainder_0 6 rfl rfl)
theorem dX2_remainder_9 : decode cX2_remainder 9 = .ok (.invokeinterface 108 1, 5) := by decide +kernel
theorem dX2_remainder_14 : decode cX2_remainder 14 = .ok (.if_icmp .ge 48, 3) := dk_162 0 48 (dk_at dksX2_remainder_0 14 rfl rfl)
theorem dX2_remainder_17 : decode cX2_remainder 17 = .ok (.aload_n 0, 1) := dk_42 (dk_at dksX2_remainder_0 17 rfl rfl)
theorem dX2_remainder_18 : decode cX2_remainder 18 = .ok (.getfield 30, 3) := dk_180 0 30 (dk_at dksX2_remainder_0 18 rfl rfl)
theorem dX2_remainder_21 : decode cX2_remainder 21 = .ok (.aload_n 2, 1) := dk_44 (dk_at dksX2_remainder_0 21 rfl rfl)
theorem dX2_remainder_22 : decode cX2_remainder 22 = .ok (.aload_n 0, 1) := dk_42 (dk_at dksX2_remainder_0 22 rfl rfl)
theorem dX2_remainder_23 : decode cX2_remainder 23 = .ok (.getfield 30, 3) := dk_180 0 30 (dk_at dksX2_remainder_1 0 rfl rfl)
theorem dX2_remainder_26 : decode cX2_remainder 26 = .ok (.aload_n 0, 1) := dk_42 (dk_at dksX2_remainder_1 3 rfl rfl)
theorem dX2_remainder_27 : decode cX2_remainder 27 = .ok (.getfield 30, 3) := dk_180 0 30 (dk_at dksX2_remainder_1 4 rfl rfl)
theorem dX2_remainder_30 : decode cX2_remainder 30 = .ok (.aload_n 1, 1) := dk_43 (dk_at dksX2_remainder_1 7 rfl rfl)
theorem dX2_remainder_31 : decode cX2_remainder 31 = .ok (.aload_n 0, 1) := dk_42 (dk_at dksX2_remainder_1 8 rfl rfl)
theorem dX2_remainder_32 : decode cX2_remainder 32 = .ok (.iload_n 3, 1) := dk_29 (dk_at dksX2_remainder_1 9 rfl rfl)
theorem dX2_remainder_33 : decode cX2_remainder 33 = .ok (.invokevirtual 110, 3) := dk_182 0 110 (dk_at dksX2_remainder_1 10 rfl rfl)
theorem dX2_remainder_36 : decode cX2_remainder 36 = .ok (.invokevirtual 113, 3) := dk_182 0 113 (dk_at dksX2_remainder_1 13 rfl rfl)
theorem dX2_remainder_39 : decode cX2_remainder 39 = .ok (.aload_n 0, 1) := dk_42 (dk_at dksX2_remainder_1 16 rfl rfl)
theorem dX2_remainder_40 : decode cX2_remainder 40 = .ok (.iload_n 3, 1) := dk_29 (dk_at dksX2_remainder_1 17 rfl rfl)
theorem dX2_remainder_41 : decode cX2_remainder 41 = .ok (.invokevirtual 117, 3) := dk_182 0 117 (dk_at dksX2_remainder_1 18 rfl rfl)
theorem dX2_remainder_44 : decode cX2_remainder 44 = .ok (.invokevirtual 120, 3) := dk_182 0 120 (dk_at dksX2_remainder_1 21 rfl rfl)
theorem dX2_remainder_47 : decode cX2_remainder 47 = .ok (.aload_n 0, 1) := dk_42 (dk_at dksX2_remainder_2 0 rfl rfl)
theorem dX2_remainder_48 : decode cX2_remainder 48 = .ok (.iload_n 3, 1) := dk_29 (dk_at dksX2_remainder_2 1 rfl rfl)
theorem dX2_remainder_49 : decode cX2_remainder 49 = .ok (.invokevirtual 110, 3) := dk_182 0 110 (dk_at dksX2_remainder_2 2 rfl rfl)
theorem dX2_remainder_52 : decode cX2_remainder 52 = .ok (.invokevirtual 124, 3) := dk_182 0 124 (dk_at dksX2_remainder_2 5 rfl rfl)
theorem dX2_remainder_55 : decode cX2_remainder 55 = .ok (.astore_n 2, 1) := dk_77 (dk_at dksX2_remainder_2 8 rfl rfl)
theorem dX2_remainder_56 : decode cX2_remainder 56 = .ok (.iinc 3 1, 3) := dk_132 3 1 (dk_at dksX2_remainder_2 9 rfl rfl)
theorem dX2_remainder_59 : decode cX2_remainder 59 = .ok (.goto (-55), 3) := dk_167 255 201 (dk_at dksX2_remainder_2 12 rfl rfl)
theorem dX2_remainder_62 : decode cX2_remainder 62 = .ok (.aload_n 2, 1) := dk_44 (dk_at dksX2_remainder_2 15 rfl rfl)
theorem dX2_remainder_63 : decode cX2_remainder 63 = .ok (.areturn, 1) := dk_176 (dk_at dksX2_remainder_2 16 rfl rfl)
abbrev cX2_vector : ByteArray := prog_6_method_7_code
def yX2_vector : MethodName := ⟨RX2, "vector", "(I)LExactChains$Vector;"⟩
def dkwX2_vector_0 : List UInt8 := [42, 180, 0, 23, 27, 185, 0, 90, 2, 0, 192, 0, 94, 182, 0, 96, 176]
abbrev dktX2_vector_0 : List UInt8 := dkwX2_vector_0 ++ []
theorem dksX2_vector_0 : cX2_vector.data.toList.drop 0 = dktX2_vector_0 := by decide +kernel
theorem dX2_vector_0 : decode cX2_vector 0 = .ok (.aload_n 0, 1) := dk_42 (dk_at dksX2_vector_0 0 rfl rfl)
theorem dX2_vector_1 : decode cX2_vector 1 = .ok (.getfield 23, 3) := dk_180 0 23 (dk_at dksX2_vector_0 1 rfl rfl)
theorem dX2_vector_4 : decode cX2_vector 4 = .ok (.iload_n 1, 1) := dk_27 (dk_at dksX2_vector_0 4 rfl rfl)
theorem dX2_vector_5 : decode cX2_vector 5 = .ok (.invokeinterface 90 2, 5) := by decide +kernel
theorem dX2_vector_10 : decode cX2_vector 10 = .ok (.checkcast 94, 3) := dk_192 0 94 (dk_at dksX2_vector_0 10 rfl rfl)
theorem dX2_vector_13 : decode cX2_vector 13 = .ok (.invokevirtual 96, 3) := dk_182 0 96 (dk_at dksX2_vector_0 13 rfl rfl)
theorem dX2_vector_16 : decode cX2_vector 16 = .ok (.areturn, 1) := dk_176 (dk_at dksX2_vector_0 16 rfl rfl)
abbrev cX2_norm : ByteArray := prog_6_method_8_code
def yX2_norm : MethodName := ⟨RX2, "norm", "(I)I"⟩
def dkwX2_norm_0 : List UInt8 := [42, 180, 0, 23, 27, 185, 0, 90, 2, 0, 192, 0, 94, 182, 0, 100, 172]
abbrev dktX2_norm_0 : List UInt8 := dkwX2_norm_0 ++ []
theorem dksX2_norm_0 : cX2_norm.data.toList.drop 0 = dktX2_norm_0 := by decide +kernel
theorem dX2_norm_0 : decode cX2_norm 0 = .ok (.aload_n 0, 1) := dk_42 (dk_at dksX2_norm_0 0 rfl rfl)
theorem dX2_norm_1 : decode cX2_norm 1 = .ok (.getfield 23, 3) := dk_180 0 23 (dk_at dksX2_norm_0 1 rfl rfl)
theorem dX2_norm_4 : decode cX2_norm 4 = .ok (.iload_n 1, 1) := dk_27 (dk_at dksX2_norm_0 4 rfl rfl)
theorem dX2_norm_5 : decode cX2_norm 5 = .ok (.invokeinterface 90 2, 5) := by decide +kernel
theorem dX2_norm_10 : decode cX2_norm 10 = .ok (.checkcast 94, 3) := dk_192 0 94 (dk_at dksX2_norm_0 10 rfl rfl)
theorem dX2_norm_13 : decode cX2_norm 13 = .ok (.invokevirtual 100, 3) := dk_182 0 100 (dk_at dksX2_norm_0 13 rfl rfl)
theorem dX2_norm_16 : decode cX2_norm 16 = .ok (.ireturn, 1) := dk_172 (dk_at dksX2_norm_0 16 rfl rfl)
abbrev cX2_candidate : ByteArray := prog_6_method_14_code
def yX2_candidate : MethodName := ⟨RX2, "candidate", "()LExactChains$Vector;"⟩
def dkwX2_candidate_5 : List UInt8 := [182, 0, 110, 182, 0, 124, 176]
abbrev dktX2_candidate_5 : List UInt8 := dkwX2_candidate_5 ++ []
def dkwX2_candidate_4 : List UInt8 := [180, 0, 30, 42, 27, 182, 0, 117, 42, 27, 4, 100, 182, 0, 117, 182, 0, 120, 42, 27, 4, 100]
abbrev dktX2_candidate_4 : List UInt8 := dkwX2_candidate_4 ++ dktX2_candidate_5
def dkwX2_candidate_3 : List UInt8 := [182, 0, 147, 182, 0, 151, 4, 160, 0, 8, 25, 4, 167, 0, 38, 42, 180, 0, 30, 25, 4, 42]
abbrev dktX2_candidate_3 : List UInt8 := dkwX2_candidate_3 ++ dktX2_candidate_4
def dkwX2_candidate_2 : List UInt8 := [180, 0, 30, 45, 44, 182, 0, 113, 42, 27, 182, 0, 117, 182, 0, 120, 44, 182, 0, 124, 58, 4, 42]
abbrev dktX2_candidate_2 : List UInt8 := dkwX2_candidate_2 ++ dktX2_candidate_3
def dkwX2_candidate_1 : List UInt8 := [42, 180, 0, 60, 153, 0, 9, 42, 45, 182, 0, 144, 176, 42, 180, 0, 30, 45, 42, 180, 0, 30, 42]
abbrev dktX2_candidate_1 : List UInt8 := dkwX2_candidate_1 ++ dktX2_candidate_2
def dkwX2_candidate_0 : List UInt8 := [42, 180, 0, 23, 185, 0, 108, 1, 0, 4, 100, 60, 42, 27, 182, 0, 110, 77, 42, 44, 182, 0, 141, 78]
abbrev dktX2_candidate_0 : List UInt8 := dkwX2_candidate_0 ++ dktX2_candidate_1
theorem dksX2_candidate_0 : cX2_candidate.data.toList.drop 0 = dktX2_candidate_0 := by decide +kernel
theorem dksX2_candidate_1 : cX2_candidate.data.toList.drop 24 = dktX2_candidate_1 := dk_seg dksX2_candidate_0 24 rfl rfl
theorem dksX2_candidate_2 : cX2_candidate.data.toList.drop 47 = dktX2_candidate_2 := dk_seg dksX2_candidate_1 23 rfl rfl
theorem dksX2_candidate_3 : cX2_candidate.data.toList.drop 70 = dktX2_candidate_3 := dk_seg dksX2_candidate_2 23 rfl rfl
theorem dksX2_candidate_4 : cX2_candidate.data.toList.drop 92 = dktX2_candidate_4 := dk_seg dksX2_candidate_3 22 rfl rfl
theorem dksX2_candidate_5 : cX2_candidate.data.toList.drop 114 = dktX2_candidate_5 := dk_seg dksX2_candidate_4 22 rfl rfl
theorem dX2_candidate_0 : decode cX2_candidate 0 = .ok (.aload_n 0, 1) := dk_42 (dk_at dksX2_candidate_0 0 rfl rfl)
theorem dX2_candidate_1 : decode cX2_candidate 1 = .ok (.getfield 23, 3) := dk_180 0 23 (dk_at dksX2_candidate_0 1 rfl rfl)
theorem dX2_candidate_4 : decode cX2_candidate 4 = .ok (.invokeinterface 108 1, 5) := by decide +kernel
theorem dX2_candidate_9 : decode cX2_candidate 9 = .ok (.iconst 1, 1) := dk_4 (dk_at dksX2_candidate_0 9 rfl rfl)
theorem dX2_candidate_10 : decode cX2_candidate 10 = .ok (.isub, 1) := dk_100 (dk_at dksX2_candidate_0 10 rfl rfl)
theorem dX2_candidate_11 : decode cX2_candidate 11 = .ok (.istore_n 1, 1) := dk_60 (dk_at dksX2_candidate_0 11 rfl rfl)
theorem dX2_candidate_12 : decode cX2_candidate 12 = .ok (.aload_n 0, 1) := dk_42 (dk_at dksX2_candidate_0 12 rfl rfl)
theorem dX2_candidate_13 : decode cX2_candidate 13 = .ok (.iload_n 1, 1) := dk_27 (dk_at dksX2_candidate_0 13 rfl rfl)
theorem dX2_candidate_14 : decode cX2_candidate 14 = .ok (.invokevirtual 110, 3) := dk_182 0 110 (dk_at dksX2_candidate_0 14 rfl rfl)
theorem dX2_candidate_17 : decode cX2_candidate 17 = .ok (.astore_n 2, 1) := dk_77 (dk_at dksX2_candidate_0 17 rfl rfl)
theorem dX2_candidate_18 : decode cX2_candidate 18 = .ok (.aload_n 0, 1) := dk_42 (dk_at dksX2_candidate_0 18 rfl rfl)
theorem dX2_candidate_19 : decode cX2_candidate 19 = .ok (.aload_n 2, 1) := dk_44 (dk_at dksX2_candidate_0 19 rfl rfl)
theorem dX2_candidate_20 : decode cX2_candidate 20 = .ok (.invokevirtual 141, 3) := dk_182 0 141 (dk_at dksX2_candidate_0 20 rfl rfl)
theorem dX2_candidate_23 : decode cX2_candidate 23 = .ok (.astore_n 3, 1) := dk_78 (dk_at dksX2_candidate_0 23 rfl rfl)
theorem dX2_candidate_24 : decode cX2_candidate 24 = .ok (.aload_n 0, 1) := dk_42 (dk_at dksX2_candidate_1 0 rfl rfl)
theorem dX2_candidate_25 : decode cX2_candidate 25 = .ok (.getfield 60, 3) := dk_180 0 60 (dk_at dksX2_candidate_1 1 rfl rfl)
theorem dX2_candidate_28 : decode cX2_candidate 28 = .ok (.ifCond .eq 9, 3) := dk_153 0 9 (dk_at dksX2_candidate_1 4 rfl rfl)
theorem dX2_candidate_31 : decode cX2_candidate 31 = .ok (.aload_n 0, 1) := dk_42 (dk_at dksX2_candidate_1 7 rfl rfl)
theorem dX2_candidate_32 : decode cX2_candidate 32 = .ok (.aload_n 3, 1) := dk_45 (dk_at dksX2_candidate_1 8 rfl rfl)
theorem dX2_candidate_33 : decode cX2_candidate 33 = .ok (.invokevirtual 144, 3) := dk_182 0 144 (dk_at dksX2_candidate_1 9 rfl rfl)
theorem dX2_candidate_36 : decode cX2_candidate 36 = .ok (.areturn, 1) := dk_176 (dk_at dksX2_candidate_1 12 rfl rfl)
theorem dX2_candidate_37 : decode cX2_candidate 37 = .ok (.aload_n 0, 1) := dk_42 (dk_at dksX2_candidate_1 13 rfl rfl)
theorem dX2_candidate_38 : decode cX2_candidate 38 = .ok (.getfield 30, 3) := dk_180 0 30 (dk_at dksX2_candidate_1 14 rfl rfl)
theorem dX2_candidate_41 : decode cX2_candidate 41 = .ok (.aload_n 3, 1) := dk_45 (dk_at dksX2_candidate_1 17 rfl rfl)
theorem dX2_candidate_42 : decode cX2_candidate 42 = .ok (.aload_n 0, 1) := dk_42 (dk_at dksX2_candidate_1 18 rfl rfl)
theorem dX2_candidate_43 : decode cX2_candidate 43 = .ok (.getfield 30, 3) := dk_180 0 30 (dk_at dksX2_candidate_1 19 rfl rfl)
theorem dX2_candidate_46 : decode cX2_candidate 46 = .ok (.aload_n 0, 1) := dk_42 (dk_at dksX2_candidate_1 22 rfl rfl)
theorem dX2_candidate_47 : decode cX2_candidate 47 = .ok (.getfield 30, 3) := dk_180 0 30 (dk_at dksX2_candidate_2 0 rfl rfl)
theorem dX2_candidate_50 : decode cX2_candidate 50 = .ok (.aload_n 3, 1) := dk_45 (dk_at dksX2_candidate_2 3 rfl rfl)
theorem dX2_candidate_51 : decode cX2_candidate 51 = .ok (.aload_n 2, 1) := dk_44 (dk_at dksX2_candidate_2 4 rfl rfl)
theorem dX2_candidate_52 : decode cX2_candidate 52 = .ok (.invokevirtual 113, 3) := dk_182 0 113 (dk_at dksX2_candidate_2 5 rfl rfl)
theorem dX2_candidate_55 : decode cX2_candidate 55 = .ok (.aload_n 0, 1) := dk_42 (dk_at dksX2_candidate_2 8 rfl rfl)
theorem dX2_candidate_56 : decode cX2_candidate 56 = .ok (.iload_n 1, 1) := dk_27 (dk_at dksX2_candidate_2 9 rfl rfl)
theorem dX2_candidate_57 : decode cX2_candidate 57 = .ok (.invokevirtual 117, 3) := dk_182 0 117 (dk_at dksX2_candidate_2 10 rfl rfl)
theorem dX2_candidate_60 : decode cX2_candidate 60 = .ok (.invokevirtual 120, 3) := dk_182 0 120 (dk_at dksX2_candidate_2 13 rfl rfl)
theorem dX2_candidate_63 : decode cX2_candidate 63 = .ok (.aload_n 2, 1) := dk_44 (dk_at dksX2_candidate_2 16 rfl rfl)
theorem dX2_candidate_64 : decode cX2_candidate 64 = .ok (.invokevirtual 124, 3) := dk_182 0 124 (dk_at dksX2_candidate_2 17 rfl rfl)
theorem dX2_candidate_67 : decode cX2_candidate 67 = .ok (.astore 4, 2) := dk_58 4 (dk_at dksX2_candidate_2 20 rfl rfl)
theorem dX2_candidate_69 : decode cX2_candidate 69 = .ok (.aload_n 0, 1) := dk_42 (dk_at dksX2_candidate_2 22 rfl rfl)
theorem dX2_candidate_70 : decode cX2_candidate 70 = .ok (.invokevirtual 147, 3) := dk_182 0 147 (dk_at dksX2_candidate_3 0 rfl rfl)
theorem dX2_candidate_73 : decode cX2_candidate 73 = .ok (.invokevirtual 151, 3) := dk_182 0 151 (dk_at dksX2_candidate_3 3 rfl rfl)
theorem dX2_candidate_76 : decode cX2_candidate 76 = .ok (.iconst 1, 1) := dk_4 (dk_at dksX2_candidate_3 6 rfl rfl)
theorem dX2_candidate_77 : decode cX2_candidate 77 = .ok (.if_icmp .ne 8, 3) := dk_160 0 8 (dk_at dksX2_candidate_3 7 rfl rfl)
theorem dX2_candidate_80 : decode cX2_candidate 80 = .ok (.aload 4, 2) := dk_25 4 (dk_at dksX2_candidate_3 10 rfl rfl)
theorem dX2_candidate_82 : decode cX2_candidate 82 = .ok (.goto 38, 3) := dk_167 0 38 (dk_at dksX2_candidate_3 12 rfl rfl)
theorem dX2_candidate_85 : decode cX2_candidate 85 = .ok (.aload_n 0, 1) := dk_42 (dk_at dksX2_candidate_3 15 rfl rfl)
theorem dX2_candidate_86 : decode cX2_candidate 86 = .ok (.getfield 30, 3) := dk_180 0 30 (dk_at dksX2_candidate_3 16 rfl rfl)
theorem dX2_candidate_89 : decode cX2_candidate 89 = .ok (.aload 4, 2) := dk_25 4 (dk_at dksX2_candidate_3 19 rfl rfl)
theorem dX2_candidate_91 : decode cX2_candidate 91 = .ok (.aload_n 0, 1) := dk_42 (dk_at dksX2_candidate_3 21 rfl rfl)
theorem dX2_candidate_92 : decode cX2_candidate 92 = .ok (.getfield 30, 3) := dk_180 0 30 (dk_at dksX2_candidate_4 0 rfl rfl)
theorem dX2_candidate_95 : decode cX2_candidate 95 = .ok (.aload_n 0, 1) := dk_42 (dk_at dksX2_candidate_4 3 rfl rfl)
theorem dX2_candidate_96 : decode cX2_candidate 96 = .ok (.iload_n 1, 1) := dk_27 (dk_at dksX2_candidate_4 4 rfl rfl)
theorem dX2_candidate_97 : decode cX2_candidate 97 = .ok (.invokevirtual 117, 3) := dk_182 0 117 (dk_at dksX2_candidate_4 5 rfl rfl)
theorem dX2_candidate_100 : decode cX2_candidate 100 = .ok (.aload_n 0, 1) := dk_42 (dk_at dksX2_candidate_4 8 rfl rfl)
theorem dX2_candidate_101 : decode cX2_candidate 101 = .ok (.iload_n 1, 1) := dk_27 (dk_at dksX2_candidate_4 9 rfl rfl)
theorem dX2_candidate_102 : decode cX2_candidate 102 = .ok (.iconst 1, 1) := dk_4 (dk_at dksX2_candidate_4 10 rfl rfl)
theorem dX2_candidate_103 : decode cX2_candidate 103 = .ok (.isub, 1) := dk_100 (dk_at dksX2_candidate_4 11 rfl rfl)
theorem dX2_candidate_104 : decode cX2_candidate 104 = .ok (.invokevirtual 117, 3) := dk_182 0 117 (dk_at dksX2_candidate_4 12 rfl rfl)
theorem dX2_candidate_107 : decode cX2_candidate 107 = .ok (.invokevirtual 120, 3) := dk_182 0 120 (dk_at dksX2_candidate_4 15 rfl rfl)
theorem dX2_candidate_110 : decode cX2_candidate 110 = .ok (.aload_n 0, 1) := dk_42 (dk_at dksX2_candidate_4 18 rfl rfl)
theorem dX2_candidate_111 : decode cX2_candidate 111 = .ok (.iload_n 1, 1) := dk_27 (dk_at dksX2_candidate_4 19 rfl rfl)
theorem dX2_candidate_112 : decode cX2_candidate 112 = .ok (.iconst 1, 1) := dk_4 (dk_at dksX2_candidate_4 20 rfl rfl)
theorem dX2_candidate_113 : decode cX2_candidate 113 = .ok (.isub, 1) := dk_100 (dk_at dksX2_candidate_4 21 rfl rfl)
theorem dX2_candidate_114 : decode cX2_candidate 114 = .ok (.invokevirtual 110, 3) := dk_182 0 110 (dk_at dksX2_candidate_5 0 rfl rfl)
theorem dX2_candidate_117 : decode cX2_candidate 117 = .ok (.invokevirtual 124, 3) := dk_182 0 124 (dk_at dksX2_candidate_5 3 rfl rfl)
theorem dX2_candidate_120 : decode cX2_candidate 120 = .ok (.areturn, 1) := dk_176 (dk_at dksX2_candidate_5 6 rfl rfl)
abbrev cX2_times : ByteArray := prog_6_method_9_code
def yX2_times : MethodName := ⟨RX2, "times", "(LExactChains$Vector;)LExactChains$Vector;"⟩
def dkwX2_times_0 : List UInt8 := [42, 180, 0, 30, 42, 180, 0, 39, 43, 182, 0, 104, 176]
abbrev dktX2_times_0 : List UInt8 := dkwX2_times_0 ++ []
theorem dksX2_times_0 : cX2_times.data.toList.drop 0 = dktX2_times_0 := by decide +kernel
theorem dX2_times_0 : decode cX2_times 0 = .ok (.aload_n 0, 1) := dk_42 (dk_at dksX2_times_0 0 rfl rfl)
theorem dX2_times_1 : decode cX2_times 1 = .ok (.getfield 30, 3) := dk_180 0 30 (dk_at dksX2_times_0 1 rfl rfl)
theorem dX2_times_4 : decode cX2_times 4 = .ok (.aload_n 0, 1) := dk_42 (dk_at dksX2_times_0 4 rfl rfl)
theorem dX2_times_5 : decode cX2_times 5 = .ok (.getfield 39, 3) := dk_180 0 39 (dk_at dksX2_times_0 5 rfl rfl)
theorem dX2_times_8 : decode cX2_times 8 = .ok (.aload_n 1, 1) := dk_43 (dk_at dksX2_times_0 8 rfl rfl)
theorem dX2_times_9 : decode cX2_times 9 = .ok (.invokevirtual 104, 3) := dk_182 0 104 (dk_at dksX2_times_0 9 rfl rfl)
theorem dX2_times_12 : decode cX2_times 12 = .ok (.areturn, 1) := dk_176 (dk_at dksX2_times_0 12 rfl rfl)
abbrev cX2_rank : ByteArray := prog_6_method_24_code
def yX2_rank : MethodName := ⟨RX2, "rank", "()I"⟩
def dkwX2_rank_2 : List UInt8 := [132, 2, 1, 167, 255, 227, 187, 0, 226, 89, 42, 180, 0, 30, 43, 183, 0, 228, 180, 0, 231, 172]
abbrev dktX2_rank_2 : List UInt8 := dkwX2_rank_2 ++ []
def dkwX2_rank_1 : List UInt8 := [162, 0, 29, 42, 28, 182, 0, 110, 180, 0, 216, 3, 43, 28, 50, 3, 42, 180, 0, 34, 184, 0, 220]
abbrev dktX2_rank_1 : List UInt8 := dkwX2_rank_1 ++ dktX2_rank_2
def dkwX2_rank_0 : List UInt8 := [42, 180, 0, 23, 185, 0, 108, 1, 0, 42, 180, 0, 34, 197, 0, 37, 2, 76, 3, 61, 28, 43, 190]
abbrev dktX2_rank_0 : List UInt8 := dkwX2_rank_0 ++ dktX2_rank_1
theorem dksX2_rank_0 : cX2_rank.data.toList.drop 0 = dktX2_rank_0 := by decide +kernel
theorem dksX2_rank_1 : cX2_rank.data.toList.drop 23 = dktX2_rank_1 := dk_seg dksX2_rank_0 23 rfl rfl
theorem dksX2_rank_2 : cX2_rank.data.toList.drop 46 = dktX2_rank_2 := dk_seg dksX2_rank_1 23 rfl rfl
theorem dX2_rank_0 : decode cX2_rank 0 = .ok (.aload_n 0, 1) := dk_42 (dk_at dksX2_rank_0 0 rfl rfl)
theorem dX2_rank_1 : decode cX2_rank 1 = .ok (.getfield 23, 3) := dk_180 0 23 (dk_at dksX2_rank_0 1 rfl rfl)
theorem dX2_rank_4 : decode cX2_rank 4 = .ok (.invokeinterface 108 1, 5) := by decide +kernel
theorem dX2_rank_9 : decode cX2_rank 9 = .ok (.aload_n 0, 1) := dk_42 (dk_at dksX2_rank_0 9 rfl rfl)
theorem dX2_rank_10 : decode cX2_rank 10 = .ok (.getfield 34, 3) := dk_180 0 34 (dk_at dksX2_rank_0 10 rfl rfl)
theorem dX2_rank_13 : decode cX2_rank 13 = .ok (.multianewarray 37 2, 4) := by decide +kernel
theorem dX2_rank_17 : decode cX2_rank 17 = .ok (.astore_n 1, 1) := dk_76 (dk_at dksX2_rank_0 17 rfl rfl)
theorem dX2_rank_18 : decode cX2_rank 18 = .ok (.iconst 0, 1) := dk_3 (dk_at dksX2_rank_0 18 rfl rfl)
theorem dX2_rank_19 : decode cX2_rank 19 = .ok (.istore_n 2, 1) := dk_61 (dk_at dksX2_rank_0 19 rfl rfl)
theorem dX2_rank_20 : decode cX2_rank 20 = .ok (.iload_n 2, 1) := dk_28 (dk_at dksX2_rank_0 20 rfl rfl)
theorem dX2_rank_21 : decode cX2_rank 21 = .ok (.aload_n 1, 1) := dk_43 (dk_at dksX2_rank_0 21 rfl rfl)
theorem dX2_rank_22 : decode cX2_rank 22 = .ok (.arraylength, 1) := dk_190 (dk_at dksX2_rank_0 22 rfl rfl)
theorem dX2_rank_23 : decode cX2_rank 23 = .ok (.if_icmp .ge 29, 3) := dk_162 0 29 (dk_at dksX2_rank_1 0 rfl rfl)
theorem dX2_rank_26 : decode cX2_rank 26 = .ok (.aload_n 0, 1) := dk_42 (dk_at dksX2_rank_1 3 rfl rfl)
theorem dX2_rank_27 : decode cX2_rank 27 = .ok (.iload_n 2, 1) := dk_28 (dk_at dksX2_rank_1 4 rfl rfl)
theorem dX2_rank_28 : decode cX2_rank 28 = .ok (.invokevirtual 110, 3) := dk_182 0 110 (dk_at dksX2_rank_1 5 rfl rfl)
theorem dX2_rank_31 : decode cX2_rank 31 = .ok (.getfield 216, 3) := dk_180 0 216 (dk_at dksX2_rank_1 8 rfl rfl)
theorem dX2_rank_34 : decode cX2_rank 34 = .ok (.iconst 0, 1) := dk_3 (dk_at dksX2_rank_1 11 rfl rfl)
theorem dX2_rank_35 : decode cX2_rank 35 = .ok (.aload_n 1, 1) := dk_43 (dk_at dksX2_rank_1 12 rfl rfl)
theorem dX2_rank_36 : decode cX2_rank 36 = .ok (.iload_n 2, 1) := dk_28 (dk_at dksX2_rank_1 13 rfl rfl)
theorem dX2_rank_37 : decode cX2_rank 37 = .ok (.aaload, 1) := dk_50 (dk_at dksX2_rank_1 14 rfl rfl)
theorem dX2_rank_38 : decode cX2_rank 38 = .ok (.iconst 0, 1) := dk_3 (dk_at dksX2_rank_1 15 rfl rfl)
theorem dX2_rank_39 : decode cX2_rank 39 = .ok (.aload_n 0, 1) := dk_42 (dk_at dksX2_rank_1 16 rfl rfl)
theorem dX2_rank_40 : decode cX2_rank 40 = .ok (.getfield 34, 3) := dk_180 0 34 (dk_at dksX2_rank_1 17 rfl rfl)
theorem dX2_rank_43 : decode cX2_rank 43 = .ok (.invokestatic 220, 3) := dk_184 0 220 (dk_at dksX2_rank_1 20 rfl rfl)
theorem dX2_rank_46 : decode cX2_rank 46 = .ok (.iinc 2 1, 3) := dk_132 2 1 (dk_at dksX2_rank_2 0 rfl rfl)
theorem dX2_rank_49 : decode cX2_rank 49 = .ok (.goto (-29), 3) := dk_167 255 227 (dk_at dksX2_rank_2 3 rfl rfl)
theorem dX2_rank_52 : decode cX2_rank 52 = .ok (.new 226, 3) := dk_187 0 226 (dk_at dksX2_rank_2 6 rfl rfl)
theorem dX2_rank_55 : decode cX2_rank 55 = .ok (.dup, 1) := dk_89 (dk_at dksX2_rank_2 9 rfl rfl)
theorem dX2_rank_56 : decode cX2_rank 56 = .ok (.aload_n 0, 1) := dk_42 (dk_at dksX2_rank_2 10 rfl rfl)
theorem dX2_rank_57 : decode cX2_rank 57 = .ok (.getfield 30, 3) := dk_180 0 30 (dk_at dksX2_rank_2 11 rfl rfl)
theorem dX2_rank_60 : decode cX2_rank 60 = .ok (.aload_n 1, 1) := dk_43 (dk_at dksX2_rank_2 14 rfl rfl)
theorem dX2_rank_61 : decode cX2_rank 61 = .ok (.invokespecial 228, 3) := dk_183 0 228 (dk_at dksX2_rank_2 15 rfl rfl)
theorem dX2_rank_64 : decode cX2_rank 64 = .ok (.getfield 231, 3) := dk_180 0 231 (dk_at dksX2_rank_2 18 rfl rfl)
theorem dX2_rank_67 : decode cX2_rank 67 = .ok (.ireturn, 1) := dk_172 (dk_at dksX2_rank_2 21 rfl rfl)
abbrev cX2_projected : ByteArray := prog_6_method_20_code
def yX2_projected : MethodName := ⟨RX2, "projected", "(I)[[I"⟩
def dkwX2_projected_0 : List UInt8 := [42, 180, 0, 30, 27, 27, 42, 186, 0, 197, 0, 0, 182, 0, 87, 176]
abbrev dktX2_projected_0 : List UInt8 := dkwX2_projected_0 ++ []
theorem dksX2_projected_0 : cX2_projected.data.toList.drop 0 = dktX2_projected_0 := by decide +kernel
theorem dX2_projected_0 : decode cX2_projected 0 = .ok (.aload_n 0, 1) := dk_42 (dk_at dksX2_projected_0 0 rfl rfl)
theorem dX2_projected_1 : decode cX2_projected 1 = .ok (.getfield 30, 3) := dk_180 0 30 (dk_at dksX2_projected_0 1 rfl rfl)
theorem dX2_projected_4 : decode cX2_projected 4 = .ok (.iload_n 1, 1) := dk_27 (dk_at dksX2_projected_0 4 rfl rfl)
theorem dX2_projected_5 : decode cX2_projected 5 = .ok (.iload_n 1, 1) := dk_27 (dk_at dksX2_projected_0 5 rfl rfl)
theorem dX2_projected_6 : decode cX2_projected 6 = .ok (.aload_n 0, 1) := dk_42 (dk_at dksX2_projected_0 6 rfl rfl)
theorem dX2_projected_7 : decode cX2_projected 7 = .ok (.invokedynamic 197, 5) := by decide +kernel
theorem dX2_projected_12 : decode cX2_projected 12 = .ok (.invokevirtual 87, 3) := dk_182 0 87 (dk_at dksX2_projected_0 12 rfl rfl)
theorem dX2_projected_15 : decode cX2_projected 15 = .ok (.areturn, 1) := dk_176 (dk_at dksX2_projected_0 15 rfl rfl)
abbrev cX2_lambda_projected_1 : ByteArray := prog_6_method_32_code
def yX2_lambda_projected_1 : MethodName := ⟨RX2, "lambda$projected$1", "(II)I"⟩
def dkwX2_lambda_projected_1_0 : List UInt8 := [42, 27, 28, 182, 0, 203, 172]
abbrev dktX2_lambda_projected_1_0 : List UInt8 := dkwX2_lambda_projected_1_0 ++ []
theorem dksX2_lambda_projected_1_0 : cX2_lambda_projected_1.data.toList.drop 0 = dktX2_lambda_projected_1_0 := by decide +kernel
theorem dX2_lambda_projected_1_0 : decode cX2_lambda_projected_1 0 = .ok (.aload_n 0, 1) := dk_42 (dk_at dksX2_lambda_projected_1_0 0 rfl rfl)
theorem dX2_lambda_projected_1_1 : decode cX2_lambda_projected_1 1 = .ok (.iload_n 1, 1) := dk_27 (dk_at dksX2_lambda_projected_1_0 1 rfl rfl)
theorem dX2_lambda_projected_1_2 : decode cX2_lambda_projected_1 2 = .ok (.iload_n 2, 1) := dk_28 (dk_at dksX2_lambda_projected_1_0 2 rfl rfl)
theorem dX2_lambda_projected_1_3 : decode cX2_lambda_projected_1 3 = .ok (.invokevirtual 203, 3) := dk_182 0 203 (dk_at dksX2_lambda_projected_1_0 3 rfl rfl)
theorem dX2_lambda_projected_1_6 : decode cX2_lambda_projected_1 6 = .ok (.ireturn, 1) := dk_172 (dk_at dksX2_lambda_projected_1_0 6 rfl rfl)
abbrev cX2_projected_2 : ByteArray := prog_6_method_19_code
def yX2_projected_2 : MethodName := ⟨RX2, "projected", "(II)I"⟩
def dkwX2_projected_2_1 : List UInt8 := [182, 0, 113, 42, 28, 182, 0, 117, 182, 0, 120, 172]
abbrev dktX2_projected_2_1 : List UInt8 := dkwX2_projected_2_1 ++ []
def dkwX2_projected_2_0 : List UInt8 := [42, 180, 0, 30, 42, 180, 0, 30, 42, 42, 27, 182, 0, 110, 182, 0, 141, 42, 28, 182, 0, 110]
abbrev dktX2_projected_2_0 : List UInt8 := dkwX2_projected_2_0 ++ dktX2_projected_2_1
theorem dksX2_projected_2_0 : cX2_projected_2.data.toList.drop 0 = dktX2_projected_2_0 := by decide +kernel
theorem dksX2_projected_2_1 : cX2_projected_2.data.toList.drop 22 = dktX2_projected_2_1 := dk_seg dksX2_projected_2_0 22 rfl rfl
theorem dX2_projected_2_0 : decode cX2_projected_2 0 = .ok (.aload_n 0, 1) := dk_42 (dk_at dksX2_projected_2_0 0 rfl rfl)
theorem dX2_projected_2_1 : decode cX2_projected_2 1 = .ok (.getfield 30, 3) := dk_180 0 30 (dk_at dksX2_projected_2_0 1 rfl rfl)
theorem dX2_projected_2_4 : decode cX2_projected_2 4 = .ok (.aload_n 0, 1) := dk_42 (dk_at dksX2_projected_2_0 4 rfl rfl)
theorem dX2_projected_2_5 : decode cX2_projected_2 5 = .ok (.getfield 30, 3) := dk_180 0 30 (dk_at dksX2_projected_2_0 5 rfl rfl)
theorem dX2_projected_2_8 : decode cX2_projected_2 8 = .ok (.aload_n 0, 1) := dk_42 (dk_at dksX2_projected_2_0 8 rfl rfl)
theorem dX2_projected_2_9 : decode cX2_projected_2 9 = .ok (.aload_n 0, 1) := dk_42 (dk_at dksX2_projected_2_0 9 rfl rfl)
theorem dX2_projected_2_10 : decode cX2_projected_2 10 = .ok (.iload_n 1, 1) := dk_27 (dk_at dksX2_projected_2_0 10 rfl rfl)
theorem dX2_projected_2_11 : decode cX2_projected_2 11 = .ok (.invokevirtual 110, 3) := dk_182 0 110 (dk_at dksX2_projected_2_0 11 rfl rfl)
theorem dX2_projected_2_14 : decode cX2_projected_2 14 = .ok (.invokevirtual 141, 3) := dk_182 0 141 (dk_at dksX2_projected_2_0 14 rfl rfl)
theorem dX2_projected_2_17 : decode cX2_projected_2 17 = .ok (.aload_n 0, 1) := dk_42 (dk_at dksX2_projected_2_0 17 rfl rfl)
theorem dX2_projected_2_18 : decode cX2_projected_2 18 = .ok (.iload_n 2, 1) := dk_28 (dk_at dksX2_projected_2_0 18 rfl rfl)
theorem dX2_projected_2_19 : decode cX2_projected_2 19 = .ok (.invokevirtual 110, 3) := dk_182 0 110 (dk_at dksX2_projected_2_0 19 rfl rfl)
theorem dX2_projected_2_22 : decode cX2_projected_2 22 = .ok (.invokevirtual 113, 3) := dk_182 0 113 (dk_at dksX2_projected_2_1 0 rfl rfl)
theorem dX2_projected_2_25 : decode cX2_projected_2 25 = .ok (.aload_n 0, 1) := dk_42 (dk_at dksX2_projected_2_1 3 rfl rfl)
theorem dX2_projected_2_26 : decode cX2_projected_2 26 = .ok (.iload_n 2, 1) := dk_28 (dk_at dksX2_projected_2_1 4 rfl rfl)
theorem dX2_projected_2_27 : decode cX2_projected_2 27 = .ok (.invokevirtual 117, 3) := dk_182 0 117 (dk_at dksX2_projected_2_1 5 rfl rfl)
theorem dX2_projected_2_30 : decode cX2_projected_2 30 = .ok (.invokevirtual 120, 3) := dk_182 0 120 (dk_at dksX2_projected_2_1 8 rfl rfl)
theorem dX2_projected_2_33 : decode cX2_projected_2 33 = .ok (.ireturn, 1) := dk_172 (dk_at dksX2_projected_2_1 11 rfl rfl)
abbrev cX2_determinantAt : ByteArray := prog_6_method_26_code
def yX2_determinantAt : MethodName := ⟨RX2, "determinantAt", "(I)I"⟩
def dkwX2_determinantAt_0 : List UInt8 := [42, 27, 182, 0, 237, 180, 0, 241, 172]
abbrev dktX2_determinantAt_0 : List UInt8 := dkwX2_determinantAt_0 ++ []
theorem dksX2_determinantAt_0 : cX2_determinantAt.data.toList.drop 0 = dktX2_determinantAt_0 := by decide +kernel
theorem dX2_determinantAt_0 : decode cX2_determinantAt 0 = .ok (.aload_n 0, 1) := dk_42 (dk_at dksX2_determinantAt_0 0 rfl rfl)
theorem dX2_determinantAt_1 : decode cX2_determinantAt 1 = .ok (.iload_n 1, 1) := dk_27 (dk_at dksX2_determinantAt_0 1 rfl rfl)
theorem dX2_determinantAt_2 : decode cX2_determinantAt 2 = .ok (.invokevirtual 237, 3) := dk_182 0 237 (dk_at dksX2_determinantAt_0 2 rfl rfl)
theorem dX2_determinantAt_5 : decode cX2_determinantAt 5 = .ok (.getfield 241, 3) := dk_180 0 241 (dk_at dksX2_determinantAt_0 5 rfl rfl)
theorem dX2_determinantAt_8 : decode cX2_determinantAt 8 = .ok (.ireturn, 1) := dk_172 (dk_at dksX2_determinantAt_0 8 rfl rfl)
abbrev cX2_lessUnit : ByteArray := prog_6_method_25_code
def yX2_lessUnit : MethodName := ⟨RX2, "lessUnit", "(I)LExactChains$Steps;"⟩
def dkwX2_lessUnit_1 : List UInt8 := [186, 0, 234, 0, 0, 182, 0, 87, 183, 0, 228, 176]
abbrev dktX2_lessUnit_1 : List UInt8 := dkwX2_lessUnit_1 ++ []
def dkwX2_lessUnit_0 : List UInt8 := [187, 0, 226, 89, 42, 180, 0, 30, 42, 180, 0, 30, 42, 180, 0, 34, 42, 180, 0, 34, 42, 27]
abbrev dktX2_lessUnit_0 : List UInt8 := dkwX2_lessUnit_0 ++ dktX2_lessUnit_1
theorem dksX2_lessUnit_0 : cX2_lessUnit.data.toList.drop 0 = dktX2_lessUnit_0 := by decide +kernel
theorem dksX2_lessUnit_1 : cX2_lessUnit.data.toList.drop 22 = dktX2_lessUnit_1 := dk_seg dksX2_lessUnit_0 22 rfl rfl
theorem dX2_lessUnit_0 : decode cX2_lessUnit 0 = .ok (.new 226, 3) := dk_187 0 226 (dk_at dksX2_lessUnit_0 0 rfl rfl)
theorem dX2_lessUnit_3 : decode cX2_lessUnit 3 = .ok (.dup, 1) := dk_89 (dk_at dksX2_lessUnit_0 3 rfl rfl)
theorem dX2_lessUnit_4 : decode cX2_lessUnit 4 = .ok (.aload_n 0, 1) := dk_42 (dk_at dksX2_lessUnit_0 4 rfl rfl)
theorem dX2_lessUnit_5 : decode cX2_lessUnit 5 = .ok (.getfield 30, 3) := dk_180 0 30 (dk_at dksX2_lessUnit_0 5 rfl rfl)
theorem dX2_lessUnit_8 : decode cX2_lessUnit 8 = .ok (.aload_n 0, 1) := dk_42 (dk_at dksX2_lessUnit_0 8 rfl rfl)
theorem dX2_lessUnit_9 : decode cX2_lessUnit 9 = .ok (.getfield 30, 3) := dk_180 0 30 (dk_at dksX2_lessUnit_0 9 rfl rfl)
theorem dX2_lessUnit_12 : decode cX2_lessUnit 12 = .ok (.aload_n 0, 1) := dk_42 (dk_at dksX2_lessUnit_0 12 rfl rfl)
theorem dX2_lessUnit_13 : decode cX2_lessUnit 13 = .ok (.getfield 34, 3) := dk_180 0 34 (dk_at dksX2_lessUnit_0 13 rfl rfl)
theorem dX2_lessUnit_16 : decode cX2_lessUnit 16 = .ok (.aload_n 0, 1) := dk_42 (dk_at dksX2_lessUnit_0 16 rfl rfl)
theorem dX2_lessUnit_17 : decode cX2_lessUnit 17 = .ok (.getfield 34, 3) := dk_180 0 34 (dk_at dksX2_lessUnit_0 17 rfl rfl)
theorem dX2_lessUnit_20 : decode cX2_lessUnit 20 = .ok (.aload_n 0, 1) := dk_42 (dk_at dksX2_lessUnit_0 20 rfl rfl)
theorem dX2_lessUnit_21 : decode cX2_lessUnit 21 = .ok (.iload_n 1, 1) := dk_27 (dk_at dksX2_lessUnit_0 21 rfl rfl)
theorem dX2_lessUnit_22 : decode cX2_lessUnit 22 = .ok (.invokedynamic 234, 5) := by decide +kernel
theorem dX2_lessUnit_27 : decode cX2_lessUnit 27 = .ok (.invokevirtual 87, 3) := dk_182 0 87 (dk_at dksX2_lessUnit_1 5 rfl rfl)
theorem dX2_lessUnit_30 : decode cX2_lessUnit 30 = .ok (.invokespecial 228, 3) := dk_183 0 228 (dk_at dksX2_lessUnit_1 8 rfl rfl)
theorem dX2_lessUnit_33 : decode cX2_lessUnit 33 = .ok (.areturn, 1) := dk_176 (dk_at dksX2_lessUnit_1 11 rfl rfl)
abbrev cX2_lambda_lessUnit_2 : ByteArray := prog_6_method_31_code
def yX2_lambda_lessUnit_2 : MethodName := ⟨RX2, "lambda$lessUnit$2", "(III)I"⟩
def dkwX2_lambda_lessUnit_2_1 : List UInt8 := [42, 180, 0, 39, 28, 50, 29, 46, 172]
abbrev dktX2_lambda_lessUnit_2_1 : List UInt8 := dkwX2_lambda_lessUnit_2_1 ++ []
def dkwX2_lambda_lessUnit_2_0 : List UInt8 := [28, 29, 160, 0, 22, 42, 180, 0, 30, 42, 180, 0, 39, 28, 50, 29, 46, 27, 182, 0, 206, 167, 0, 11]
abbrev dktX2_lambda_lessUnit_2_0 : List UInt8 := dkwX2_lambda_lessUnit_2_0 ++ dktX2_lambda_lessUnit_2_1
theorem dksX2_lambda_lessUnit_2_0 : cX2_lambda_lessUnit_2.data.toList.drop 0 = dktX2_lambda_lessUnit_2_0 := by decide +kernel
theorem dksX2_lambda_lessUnit_2_1 : cX2_lambda_lessUnit_2.data.toList.drop 24 = dktX2_lambda_lessUnit_2_1 := dk_seg dksX2_lambda_lessUnit_2_0 24 rfl rfl
theorem dX2_lambda_lessUnit_2_0 : decode cX2_lambda_lessUnit_2 0 = .ok (.iload_n 2, 1) := dk_28 (dk_at dksX2_lambda_lessUnit_2_0 0 rfl rfl)
theorem dX2_lambda_lessUnit_2_1 : decode cX2_lambda_lessUnit_2 1 = .ok (.iload_n 3, 1) := dk_29 (dk_at dksX2_lambda_lessUnit_2_0 1 rfl rfl)
theorem dX2_lambda_lessUnit_2_2 : decode cX2_lambda_lessUnit_2 2 = .ok (.if_icmp .ne 22, 3) := dk_160 0 22 (dk_at dksX2_lambda_lessUnit_2_0 2 rfl rfl)
theorem dX2_lambda_lessUnit_2_5 : decode cX2_lambda_lessUnit_2 5 = .ok (.aload_n 0, 1) := dk_42 (dk_at dksX2_lambda_lessUnit_2_0 5 rfl rfl)
theorem dX2_lambda_lessUnit_2_6 : decode cX2_lambda_lessUnit_2 6 = .ok (.getfield 30, 3) := dk_180 0 30 (dk_at dksX2_lambda_lessUnit_2_0 6 rfl rfl)
theorem dX2_lambda_lessUnit_2_9 : decode cX2_lambda_lessUnit_2 9 = .ok (.aload_n 0, 1) := dk_42 (dk_at dksX2_lambda_lessUnit_2_0 9 rfl rfl)
theorem dX2_lambda_lessUnit_2_10 : decode cX2_lambda_lessUnit_2 10 = .ok (.getfield 39, 3) := dk_180 0 39 (dk_at dksX2_lambda_lessUnit_2_0 10 rfl rfl)
theorem dX2_lambda_lessUnit_2_13 : decode cX2_lambda_lessUnit_2 13 = .ok (.iload_n 2, 1) := dk_28 (dk_at dksX2_lambda_lessUnit_2_0 13 rfl rfl)
theorem dX2_lambda_lessUnit_2_14 : decode cX2_lambda_lessUnit_2 14 = .ok (.aaload, 1) := dk_50 (dk_at dksX2_lambda_lessUnit_2_0 14 rfl rfl)
theorem dX2_lambda_lessUnit_2_15 : decode cX2_lambda_lessUnit_2 15 = .ok (.iload_n 3, 1) := dk_29 (dk_at dksX2_lambda_lessUnit_2_0 15 rfl rfl)
theorem dX2_lambda_lessUnit_2_16 : decode cX2_lambda_lessUnit_2 16 = .ok (.iaload, 1) := dk_46 (dk_at dksX2_lambda_lessUnit_2_0 16 rfl rfl)
theorem dX2_lambda_lessUnit_2_17 : decode cX2_lambda_lessUnit_2 17 = .ok (.iload_n 1, 1) := dk_27 (dk_at dksX2_lambda_lessUnit_2_0 17 rfl rfl)
theorem dX2_lambda_lessUnit_2_18 : decode cX2_lambda_lessUnit_2 18 = .ok (.invokevirtual 206, 3) := dk_182 0 206 (dk_at dksX2_lambda_lessUnit_2_0 18 rfl rfl)
theorem dX2_lambda_lessUnit_2_21 : decode cX2_lambda_lessUnit_2 21 = .ok (.goto 11, 3) := dk_167 0 11 (dk_at dksX2_lambda_lessUnit_2_0 21 rfl rfl)
theorem dX2_lambda_lessUnit_2_24 : decode cX2_lambda_lessUnit_2 24 = .ok (.aload_n 0, 1) := dk_42 (dk_at dksX2_lambda_lessUnit_2_1 0 rfl rfl)
theorem dX2_lambda_lessUnit_2_25 : decode cX2_lambda_lessUnit_2 25 = .ok (.getfield 39, 3) := dk_180 0 39 (dk_at dksX2_lambda_lessUnit_2_1 1 rfl rfl)
theorem dX2_lambda_lessUnit_2_28 : decode cX2_lambda_lessUnit_2 28 = .ok (.iload_n 2, 1) := dk_28 (dk_at dksX2_lambda_lessUnit_2_1 4 rfl rfl)
theorem dX2_lambda_lessUnit_2_29 : decode cX2_lambda_lessUnit_2 29 = .ok (.aaload, 1) := dk_50 (dk_at dksX2_lambda_lessUnit_2_1 5 rfl rfl)
theorem dX2_lambda_lessUnit_2_30 : decode cX2_lambda_lessUnit_2 30 = .ok (.iload_n 3, 1) := dk_29 (dk_at dksX2_lambda_lessUnit_2_1 6 rfl rfl)
theorem dX2_lambda_lessUnit_2_31 : decode cX2_lambda_lessUnit_2 31 = .ok (.iaload, 1) := dk_46 (dk_at dksX2_lambda_lessUnit_2_1 7 rfl rfl)
theorem dX2_lambda_lessUnit_2_32 : decode cX2_lambda_lessUnit_2 32 = .ok (.ireturn, 1) := dk_172 (dk_at dksX2_lambda_lessUnit_2_1 8 rfl rfl)
abbrev cX2_dimension : ByteArray := prog_6_method_27_code
def yX2_dimension : MethodName := ⟨RX2, "dimension", "(I)I"⟩
def dkwX2_dimension_0 : List UInt8 := [42, 180, 0, 34, 42, 27, 182, 0, 237, 180, 0, 231, 100, 172]
abbrev dktX2_dimension_0 : List UInt8 := dkwX2_dimension_0 ++ []
theorem dksX2_dimension_0 : cX2_dimension.data.toList.drop 0 = dktX2_dimension_0 := by decide +kernel
theorem dX2_dimension_0 : decode cX2_dimension 0 = .ok (.aload_n 0, 1) := dk_42 (dk_at dksX2_dimension_0 0 rfl rfl)
theorem dX2_dimension_1 : decode cX2_dimension 1 = .ok (.getfield 34, 3) := dk_180 0 34 (dk_at dksX2_dimension_0 1 rfl rfl)
theorem dX2_dimension_4 : decode cX2_dimension 4 = .ok (.aload_n 0, 1) := dk_42 (dk_at dksX2_dimension_0 4 rfl rfl)
theorem dX2_dimension_5 : decode cX2_dimension 5 = .ok (.iload_n 1, 1) := dk_27 (dk_at dksX2_dimension_0 5 rfl rfl)
theorem dX2_dimension_6 : decode cX2_dimension 6 = .ok (.invokevirtual 237, 3) := dk_182 0 237 (dk_at dksX2_dimension_0 6 rfl rfl)
theorem dX2_dimension_9 : decode cX2_dimension 9 = .ok (.getfield 231, 3) := dk_180 0 231 (dk_at dksX2_dimension_0 9 rfl rfl)
theorem dX2_dimension_12 : decode cX2_dimension 12 = .ok (.isub, 1) := dk_100 (dk_at dksX2_dimension_0 12 rfl rfl)
theorem dX2_dimension_13 : decode cX2_dimension 13 = .ok (.ireturn, 1) := dk_172 (dk_at dksX2_dimension_0 13 rfl rfl)
abbrev cX2_reach : ByteArray := prog_6_method_28_code
def yX2_reach : MethodName := ⟨RX2, "reach", "(LExactChains$Vector;)I"⟩
def dkwX2_reach_3 : List UInt8 := [180, 0, 231, 172]
abbrev dktX2_reach_3 : List UInt8 := dkwX2_reach_3 ++ []
def dkwX2_reach_2 : List UInt8 := [182, 0, 141, 78, 132, 4, 1, 167, 255, 221, 187, 0, 226, 89, 42, 180, 0, 30, 44, 183, 0, 228]
abbrev dktX2_reach_2 : List UInt8 := dkwX2_reach_2 ++ dktX2_reach_3
def dkwX2_reach_1 : List UInt8 := [162, 0, 32, 45, 180, 0, 216, 3, 44, 21, 4, 50, 3, 42, 180, 0, 34, 184, 0, 220, 42, 45]
abbrev dktX2_reach_1 : List UInt8 := dkwX2_reach_1 ++ dktX2_reach_2
def dkwX2_reach_0 : List UInt8 := [42, 180, 0, 34, 42, 180, 0, 34, 197, 0, 37, 2, 77, 43, 78, 3, 54, 4, 21, 4, 42, 180, 0, 34]
abbrev dktX2_reach_0 : List UInt8 := dkwX2_reach_0 ++ dktX2_reach_1
theorem dksX2_reach_0 : cX2_reach.data.toList.drop 0 = dktX2_reach_0 := by decide +kernel
theorem dksX2_reach_1 : cX2_reach.data.toList.drop 24 = dktX2_reach_1 := dk_seg dksX2_reach_0 24 rfl rfl
theorem dksX2_reach_2 : cX2_reach.data.toList.drop 46 = dktX2_reach_2 := dk_seg dksX2_reach_1 22 rfl rfl
theorem dksX2_reach_3 : cX2_reach.data.toList.drop 68 = dktX2_reach_3 := dk_seg dksX2_reach_2 22 rfl rfl
theorem dX2_reach_0 : decode cX2_reach 0 = .ok (.aload_n 0, 1) := dk_42 (dk_at dksX2_reach_0 0 rfl rfl)
theorem dX2_reach_1 : decode cX2_reach 1 = .ok (.getfield 34, 3) := dk_180 0 34 (dk_at dksX2_reach_0 1 rfl rfl)
theorem dX2_reach_4 : decode cX2_reach 4 = .ok (.aload_n 0, 1) := dk_42 (dk_at dksX2_reach_0 4 rfl rfl)
theorem dX2_reach_5 : decode cX2_reach 5 = .ok (.getfield 34, 3) := dk_180 0 34 (dk_at dksX2_reach_0 5 rfl rfl)
theorem dX2_reach_8 : decode cX2_reach 8 = .ok (.multianewarray 37 2, 4) := by decide +kernel
theorem dX2_reach_12 : decode cX2_reach 12 = .ok (.astore_n 2, 1) := dk_77 (dk_at dksX2_reach_0 12 rfl rfl)
theorem dX2_reach_13 : decode cX2_reach 13 = .ok (.aload_n 1, 1) := dk_43 (dk_at dksX2_reach_0 13 rfl rfl)
theorem dX2_reach_14 : decode cX2_reach 14 = .ok (.astore_n 3, 1) := dk_78 (dk_at dksX2_reach_0 14 rfl rfl)
theorem dX2_reach_15 : decode cX2_reach 15 = .ok (.iconst 0, 1) := dk_3 (dk_at dksX2_reach_0 15 rfl rfl)
theorem dX2_reach_16 : decode cX2_reach 16 = .ok (.istore 4, 2) := dk_54 4 (dk_at dksX2_reach_0 16 rfl rfl)
theorem dX2_reach_18 : decode cX2_reach 18 = .ok (.iload 4, 2) := dk_21 4 (dk_at dksX2_reach_0 18 rfl rfl)
theorem dX2_reach_20 : decode cX2_reach 20 = .ok (.aload_n 0, 1) := dk_42 (dk_at dksX2_reach_0 20 rfl rfl)
theorem dX2_reach_21 : decode cX2_reach 21 = .ok (.getfield 34, 3) := dk_180 0 34 (dk_at dksX2_reach_0 21 rfl rfl)
theorem dX2_reach_24 : decode cX2_reach 24 = .ok (.if_icmp .ge 32, 3) := dk_162 0 32 (dk_at dksX2_reach_1 0 rfl rfl)
theorem dX2_reach_27 : decode cX2_reach 27 = .ok (.aload_n 3, 1) := dk_45 (dk_at dksX2_reach_1 3 rfl rfl)
theorem dX2_reach_28 : decode cX2_reach 28 = .ok (.getfield 216, 3) := dk_180 0 216 (dk_at dksX2_reach_1 4 rfl rfl)
theorem dX2_reach_31 : decode cX2_reach 31 = .ok (.iconst 0, 1) := dk_3 (dk_at dksX2_reach_1 7 rfl rfl)
theorem dX2_reach_32 : decode cX2_reach 32 = .ok (.aload_n 2, 1) := dk_44 (dk_at dksX2_reach_1 8 rfl rfl)
theorem dX2_reach_33 : decode cX2_reach 33 = .ok (.iload 4, 2) := dk_21 4 (dk_at dksX2_reach_1 9 rfl rfl)
theorem dX2_reach_35 : decode cX2_reach 35 = .ok (.aaload, 1) := dk_50 (dk_at dksX2_reach_1 11 rfl rfl)
theorem dX2_reach_36 : decode cX2_reach 36 = .ok (.iconst 0, 1) := dk_3 (dk_at dksX2_reach_1 12 rfl rfl)
theorem dX2_reach_37 : decode cX2_reach 37 = .ok (.aload_n 0, 1) := dk_42 (dk_at dksX2_reach_1 13 rfl rfl)
theorem dX2_reach_38 : decode cX2_reach 38 = .ok (.getfield 34, 3) := dk_180 0 34 (dk_at dksX2_reach_1 14 rfl rfl)
theorem dX2_reach_41 : decode cX2_reach 41 = .ok (.invokestatic 220, 3) := dk_184 0 220 (dk_at dksX2_reach_1 17 rfl rfl)
theorem dX2_reach_44 : decode cX2_reach 44 = .ok (.aload_n 0, 1) := dk_42 (dk_at dksX2_reach_1 20 rfl rfl)
theorem dX2_reach_45 : decode cX2_reach 45 = .ok (.aload_n 3, 1) := dk_45 (dk_at dksX2_reach_1 21 rfl rfl)
theorem dX2_reach_46 : decode cX2_reach 46 = .ok (.invokevirtual 141, 3) := dk_182 0 141 (dk_at dksX2_reach_2 0 rfl rfl)
theorem dX2_reach_49 : decode cX2_reach 49 = .ok (.astore_n 3, 1) := dk_78 (dk_at dksX2_reach_2 3 rfl rfl)
theorem dX2_reach_50 : decode cX2_reach 50 = .ok (.iinc 4 1, 3) := dk_132 4 1 (dk_at dksX2_reach_2 4 rfl rfl)
theorem dX2_reach_53 : decode cX2_reach 53 = .ok (.goto (-35), 3) := dk_167 255 221 (dk_at dksX2_reach_2 7 rfl rfl)
theorem dX2_reach_56 : decode cX2_reach 56 = .ok (.new 226, 3) := dk_187 0 226 (dk_at dksX2_reach_2 10 rfl rfl)
theorem dX2_reach_59 : decode cX2_reach 59 = .ok (.dup, 1) := dk_89 (dk_at dksX2_reach_2 13 rfl rfl)
theorem dX2_reach_60 : decode cX2_reach 60 = .ok (.aload_n 0, 1) := dk_42 (dk_at dksX2_reach_2 14 rfl rfl)
theorem dX2_reach_61 : decode cX2_reach 61 = .ok (.getfield 30, 3) := dk_180 0 30 (dk_at dksX2_reach_2 15 rfl rfl)
theorem dX2_reach_64 : decode cX2_reach 64 = .ok (.aload_n 2, 1) := dk_44 (dk_at dksX2_reach_2 18 rfl rfl)
theorem dX2_reach_65 : decode cX2_reach 65 = .ok (.invokespecial 228, 3) := dk_183 0 228 (dk_at dksX2_reach_2 19 rfl rfl)
theorem dX2_reach_68 : decode cX2_reach 68 = .ok (.getfield 231, 3) := dk_180 0 231 (dk_at dksX2_reach_3 0 rfl rfl)
theorem dX2_reach_71 : decode cX2_reach 71 = .ok (.ireturn, 1) := dk_172 (dk_at dksX2_reach_3 3 rfl rfl)
abbrev cX2_sets : ByteArray := prog_6_method_6_code
def yX2_sets : MethodName := ⟨RX2, "sets", "(III)V"⟩
def dkwX2_sets_1 : List UInt8 := [182, 0, 87, 181, 0, 39, 177]
abbrev dktX2_sets_1 : List UInt8 := dkwX2_sets_1 ++ []
def dkwX2_sets_0 : List UInt8 := [42, 42, 180, 0, 30, 42, 180, 0, 34, 42, 180, 0, 34, 42, 27, 28, 29, 186, 0, 83, 0, 0]
abbrev dktX2_sets_0 : List UInt8 := dkwX2_sets_0 ++ dktX2_sets_1
theorem dksX2_sets_0 : cX2_sets.data.toList.drop 0 = dktX2_sets_0 := by decide +kernel
theorem dksX2_sets_1 : cX2_sets.data.toList.drop 22 = dktX2_sets_1 := dk_seg dksX2_sets_0 22 rfl rfl
theorem dX2_sets_0 : decode cX2_sets 0 = .ok (.aload_n 0, 1) := dk_42 (dk_at dksX2_sets_0 0 rfl rfl)
theorem dX2_sets_1 : decode cX2_sets 1 = .ok (.aload_n 0, 1) := dk_42 (dk_at dksX2_sets_0 1 rfl rfl)
theorem dX2_sets_2 : decode cX2_sets 2 = .ok (.getfield 30, 3) := dk_180 0 30 (dk_at dksX2_sets_0 2 rfl rfl)
theorem dX2_sets_5 : decode cX2_sets 5 = .ok (.aload_n 0, 1) := dk_42 (dk_at dksX2_sets_0 5 rfl rfl)
theorem dX2_sets_6 : decode cX2_sets 6 = .ok (.getfield 34, 3) := dk_180 0 34 (dk_at dksX2_sets_0 6 rfl rfl)
theorem dX2_sets_9 : decode cX2_sets 9 = .ok (.aload_n 0, 1) := dk_42 (dk_at dksX2_sets_0 9 rfl rfl)
theorem dX2_sets_10 : decode cX2_sets 10 = .ok (.getfield 34, 3) := dk_180 0 34 (dk_at dksX2_sets_0 10 rfl rfl)
theorem dX2_sets_13 : decode cX2_sets 13 = .ok (.aload_n 0, 1) := dk_42 (dk_at dksX2_sets_0 13 rfl rfl)
theorem dX2_sets_14 : decode cX2_sets 14 = .ok (.iload_n 1, 1) := dk_27 (dk_at dksX2_sets_0 14 rfl rfl)
theorem dX2_sets_15 : decode cX2_sets 15 = .ok (.iload_n 2, 1) := dk_28 (dk_at dksX2_sets_0 15 rfl rfl)
theorem dX2_sets_16 : decode cX2_sets 16 = .ok (.iload_n 3, 1) := dk_29 (dk_at dksX2_sets_0 16 rfl rfl)
theorem dX2_sets_17 : decode cX2_sets 17 = .ok (.invokedynamic 83, 5) := by decide +kernel
theorem dX2_sets_22 : decode cX2_sets 22 = .ok (.invokevirtual 87, 3) := dk_182 0 87 (dk_at dksX2_sets_1 0 rfl rfl)
theorem dX2_sets_25 : decode cX2_sets 25 = .ok (.putfield 39, 3) := dk_181 0 39 (dk_at dksX2_sets_1 3 rfl rfl)
theorem dX2_sets_28 : decode cX2_sets 28 = .ok (.return_, 1) := dk_177 (dk_at dksX2_sets_1 6 rfl rfl)
abbrev cX2_lambda_sets_0 : ByteArray := prog_6_method_33_code
def yX2_lambda_sets_0 : MethodName := ⟨RX2, "lambda$sets$0", "(IIIII)I"⟩
def dkwX2_lambda_sets_0_1 : List UInt8 := [29, 167, 0, 13, 42, 180, 0, 39, 21, 4, 50, 21, 5, 46, 172]
abbrev dktX2_lambda_sets_0_1 : List UInt8 := dkwX2_lambda_sets_0_1 ++ []
def dkwX2_lambda_sets_0_0 : List UInt8 := [21, 4, 27, 160, 0, 9, 21, 5, 28, 159, 0, 15, 21, 4, 28, 160, 0, 13, 21, 5, 27, 160, 0, 7]
abbrev dktX2_lambda_sets_0_0 : List UInt8 := dkwX2_lambda_sets_0_0 ++ dktX2_lambda_sets_0_1
theorem dksX2_lambda_sets_0_0 : cX2_lambda_sets_0.data.toList.drop 0 = dktX2_lambda_sets_0_0 := by decide +kernel
theorem dksX2_lambda_sets_0_1 : cX2_lambda_sets_0.data.toList.drop 24 = dktX2_lambda_sets_0_1 := dk_seg dksX2_lambda_sets_0_0 24 rfl rfl
theorem dX2_lambda_sets_0_0 : decode cX2_lambda_sets_0 0 = .ok (.iload 4, 2) := dk_21 4 (dk_at dksX2_lambda_sets_0_0 0 rfl rfl)
theorem dX2_lambda_sets_0_2 : decode cX2_lambda_sets_0 2 = .ok (.iload_n 1, 1) := dk_27 (dk_at dksX2_lambda_sets_0_0 2 rfl rfl)
theorem dX2_lambda_sets_0_3 : decode cX2_lambda_sets_0 3 = .ok (.if_icmp .ne 9, 3) := dk_160 0 9 (dk_at dksX2_lambda_sets_0_0 3 rfl rfl)
theorem dX2_lambda_sets_0_6 : decode cX2_lambda_sets_0 6 = .ok (.iload 5, 2) := dk_21 5 (dk_at dksX2_lambda_sets_0_0 6 rfl rfl)
theorem dX2_lambda_sets_0_8 : decode cX2_lambda_sets_0 8 = .ok (.iload_n 2, 1) := dk_28 (dk_at dksX2_lambda_sets_0_0 8 rfl rfl)
theorem dX2_lambda_sets_0_9 : decode cX2_lambda_sets_0 9 = .ok (.if_icmp .eq 15, 3) := dk_159 0 15 (dk_at dksX2_lambda_sets_0_0 9 rfl rfl)
theorem dX2_lambda_sets_0_12 : decode cX2_lambda_sets_0 12 = .ok (.iload 4, 2) := dk_21 4 (dk_at dksX2_lambda_sets_0_0 12 rfl rfl)
theorem dX2_lambda_sets_0_14 : decode cX2_lambda_sets_0 14 = .ok (.iload_n 2, 1) := dk_28 (dk_at dksX2_lambda_sets_0_0 14 rfl rfl)
theorem dX2_lambda_sets_0_15 : decode cX2_lambda_sets_0 15 = .ok (.if_icmp .ne 13, 3) := dk_160 0 13 (dk_at dksX2_lambda_sets_0_0 15 rfl rfl)
theorem dX2_lambda_sets_0_18 : decode cX2_lambda_sets_0 18 = .ok (.iload 5, 2) := dk_21 5 (dk_at dksX2_lambda_sets_0_0 18 rfl rfl)
theorem dX2_lambda_sets_0_20 : decode cX2_lambda_sets_0 20 = .ok (.iload_n 1, 1) := dk_27 (dk_at dksX2_lambda_sets_0_0 20 rfl rfl)
theorem dX2_lambda_sets_0_21 : decode cX2_lambda_sets_0 21 = .ok (.if_icmp .ne 7, 3) := dk_160 0 7 (dk_at dksX2_lambda_sets_0_0 21 rfl rfl)
theorem dX2_lambda_sets_0_24 : decode cX2_lambda_sets_0 24 = .ok (.iload_n 3, 1) := dk_29 (dk_at dksX2_lambda_sets_0_1 0 rfl rfl)
theorem dX2_lambda_sets_0_25 : decode cX2_lambda_sets_0 25 = .ok (.goto 13, 3) := dk_167 0 13 (dk_at dksX2_lambda_sets_0_1 1 rfl rfl)
theorem dX2_lambda_sets_0_28 : decode cX2_lambda_sets_0 28 = .ok (.aload_n 0, 1) := dk_42 (dk_at dksX2_lambda_sets_0_1 4 rfl rfl)
theorem dX2_lambda_sets_0_29 : decode cX2_lambda_sets_0 29 = .ok (.getfield 39, 3) := dk_180 0 39 (dk_at dksX2_lambda_sets_0_1 5 rfl rfl)
theorem dX2_lambda_sets_0_32 : decode cX2_lambda_sets_0 32 = .ok (.iload 4, 2) := dk_21 4 (dk_at dksX2_lambda_sets_0_1 8 rfl rfl)
theorem dX2_lambda_sets_0_34 : decode cX2_lambda_sets_0 34 = .ok (.aaload, 1) := dk_50 (dk_at dksX2_lambda_sets_0_1 10 rfl rfl)
theorem dX2_lambda_sets_0_35 : decode cX2_lambda_sets_0 35 = .ok (.iload 5, 2) := dk_21 5 (dk_at dksX2_lambda_sets_0_1 11 rfl rfl)
theorem dX2_lambda_sets_0_37 : decode cX2_lambda_sets_0 37 = .ok (.iaload, 1) := dk_46 (dk_at dksX2_lambda_sets_0_1 13 rfl rfl)
theorem dX2_lambda_sets_0_38 : decode cX2_lambda_sets_0 38 = .ok (.ireturn, 1) := dk_172 (dk_at dksX2_lambda_sets_0_1 14 rfl rfl)
abbrev cX2_polynomial : ByteArray := prog_6_method_21_code
def yX2_polynomial : MethodName := ⟨RX2, "polynomial", "(LExactChains$Chain;I)I"⟩
def dkwX2_polynomial_5 : List UInt8 := [172]
abbrev dktX2_polynomial_5 : List UInt8 := dkwX2_polynomial_5 ++ []
def dkwX2_polynomial_4 : List UInt8 := [182, 0, 120, 29, 182, 0, 212, 54, 7, 21, 4, 62, 21, 7, 54, 4, 132, 5, 1, 167, 255, 157, 21, 4]
abbrev dktX2_polynomial_4 : List UInt8 := dkwX2_polynomial_4 ++ dktX2_polynomial_5
def dkwX2_polynomial_3 : List UInt8 := [180, 0, 30, 21, 7, 42, 180, 0, 30, 42, 21, 5, 182, 0, 117, 42, 21, 5, 4, 100, 182, 0, 117]
abbrev dktX2_polynomial_3 : List UInt8 := dkwX2_polynomial_3 ++ dktX2_polynomial_4
def dkwX2_polynomial_2 : List UInt8 := [21, 4, 104, 42, 180, 0, 30, 180, 0, 209, 112, 54, 7, 21, 5, 43, 182, 0, 200, 164, 0, 36, 42]
abbrev dktX2_polynomial_2 : List UInt8 := dkwX2_polynomial_2 ++ dktX2_polynomial_3
def dkwX2_polynomial_1 : List UInt8 := [162, 0, 91, 42, 180, 0, 30, 28, 42, 21, 5, 21, 5, 182, 0, 203, 182, 0, 206, 54, 6, 21, 6]
abbrev dktX2_polynomial_1 : List UInt8 := dkwX2_polynomial_1 ++ dktX2_polynomial_2
def dkwX2_polynomial_0 : List UInt8 := [3, 62, 4, 54, 4, 43, 182, 0, 200, 54, 5, 21, 5, 43, 182, 0, 200, 43, 182, 0, 151, 96]
abbrev dktX2_polynomial_0 : List UInt8 := dkwX2_polynomial_0 ++ dktX2_polynomial_1
theorem dksX2_polynomial_0 : cX2_polynomial.data.toList.drop 0 = dktX2_polynomial_0 := by decide +kernel
theorem dksX2_polynomial_1 : cX2_polynomial.data.toList.drop 22 = dktX2_polynomial_1 := dk_seg dksX2_polynomial_0 22 rfl rfl
theorem dksX2_polynomial_2 : cX2_polynomial.data.toList.drop 45 = dktX2_polynomial_2 := dk_seg dksX2_polynomial_1 23 rfl rfl
theorem dksX2_polynomial_3 : cX2_polynomial.data.toList.drop 68 = dktX2_polynomial_3 := dk_seg dksX2_polynomial_2 23 rfl rfl
theorem dksX2_polynomial_4 : cX2_polynomial.data.toList.drop 91 = dktX2_polynomial_4 := dk_seg dksX2_polynomial_3 23 rfl rfl
theorem dksX2_polynomial_5 : cX2_polynomial.data.toList.drop 115 = dktX2_polynomial_5 := dk_seg dksX2_polynomial_4 24 rfl rfl
theorem dX2_polynomial_0 : decode cX2_polynomial 0 = .ok (.iconst 0, 1) := dk_3 (dk_at dksX2_polynomial_0 0 rfl rfl)
theorem dX2_polynomial_1 : decode cX2_polynomial 1 = .ok (.istore_n 3, 1) := dk_62 (dk_at dksX2_polynomial_0 1 rfl rfl)
theorem dX2_polynomial_2 : decode cX2_polynomial 2 = .ok (.iconst 1, 1) := dk_4 (dk_at dksX2_polynomial_0 2 rfl rfl)
theorem dX2_polynomial_3 : decode cX2_polynomial 3 = .ok (.istore 4, 2) := dk_54 4 (dk_at dksX2_polynomial_0 3 rfl rfl)
theorem dX2_polynomial_5 : decode cX2_polynomial 5 = .ok (.aload_n 1, 1) := dk_43 (dk_at dksX2_polynomial_0 5 rfl rfl)
theorem dX2_polynomial_6 : decode cX2_polynomial 6 = .ok (.invokevirtual 200, 3) := dk_182 0 200 (dk_at dksX2_polynomial_0 6 rfl rfl)
theorem dX2_polynomial_9 : decode cX2_polynomial 9 = .ok (.istore 5, 2) := dk_54 5 (dk_at dksX2_polynomial_0 9 rfl rfl)
theorem dX2_polynomial_11 : decode cX2_polynomial 11 = .ok (.iload 5, 2) := dk_21 5 (dk_at dksX2_polynomial_0 11 rfl rfl)
theorem dX2_polynomial_13 : decode cX2_polynomial 13 = .ok (.aload_n 1, 1) := dk_43 (dk_at dksX2_polynomial_0 13 rfl rfl)
theorem dX2_polynomial_14 : decode cX2_polynomial 14 = .ok (.invokevirtual 200, 3) := dk_182 0 200 (dk_at dksX2_polynomial_0 14 rfl rfl)
theorem dX2_polynomial_17 : decode cX2_polynomial 17 = .ok (.aload_n 1, 1) := dk_43 (dk_at dksX2_polynomial_0 17 rfl rfl)
theorem dX2_polynomial_18 : decode cX2_polynomial 18 = .ok (.invokevirtual 151, 3) := dk_182 0 151 (dk_at dksX2_polynomial_0 18 rfl rfl)
theorem dX2_polynomial_21 : decode cX2_polynomial 21 = .ok (.iadd, 1) := dk_96 (dk_at dksX2_polynomial_0 21 rfl rfl)
theorem dX2_polynomial_22 : decode cX2_polynomial 22 = .ok (.if_icmp .ge 91, 3) := dk_162 0 91 (dk_at dksX2_polynomial_1 0 rfl rfl)
theorem dX2_polynomial_25 : decode cX2_polynomial 25 = .ok (.aload_n 0, 1) := dk_42 (dk_at dksX2_polynomial_1 3 rfl rfl)
theorem dX2_polynomial_26 : decode cX2_polynomial 26 = .ok (.getfield 30, 3) := dk_180 0 30 (dk_at dksX2_polynomial_1 4 rfl rfl)
theorem dX2_polynomial_29 : decode cX2_polynomial 29 = .ok (.iload_n 2, 1) := dk_28 (dk_at dksX2_polynomial_1 7 rfl rfl)
theorem dX2_polynomial_30 : decode cX2_polynomial 30 = .ok (.aload_n 0, 1) := dk_42 (dk_at dksX2_polynomial_1 8 rfl rfl)
theorem dX2_polynomial_31 : decode cX2_polynomial 31 = .ok (.iload 5, 2) := dk_21 5 (dk_at dksX2_polynomial_1 9 rfl rfl)
theorem dX2_polynomial_33 : decode cX2_polynomial 33 = .ok (.iload 5, 2) := dk_21 5 (dk_at dksX2_polynomial_1 11 rfl rfl)
theorem dX2_polynomial_35 : decode cX2_polynomial 35 = .ok (.invokevirtual 203, 3) := dk_182 0 203 (dk_at dksX2_polynomial_1 13 rfl rfl)
theorem dX2_polynomial_38 : decode cX2_polynomial 38 = .ok (.invokevirtual 206, 3) := dk_182 0 206 (dk_at dksX2_polynomial_1 16 rfl rfl)
theorem dX2_polynomial_41 : decode cX2_polynomial 41 = .ok (.istore 6, 2) := dk_54 6 (dk_at dksX2_polynomial_1 19 rfl rfl)
theorem dX2_polynomial_43 : decode cX2_polynomial 43 = .ok (.iload 6, 2) := dk_21 6 (dk_at dksX2_polynomial_1 21 rfl rfl)
theorem dX2_polynomial_45 : decode cX2_polynomial 45 = .ok (.iload 4, 2) := dk_21 4 (dk_at dksX2_polynomial_2 0 rfl rfl)
theorem dX2_polynomial_47 : decode cX2_polynomial 47 = .ok (.imul, 1) := dk_104 (dk_at dksX2_polynomial_2 2 rfl rfl)
theorem dX2_polynomial_48 : decode cX2_polynomial 48 = .ok (.aload_n 0, 1) := dk_42 (dk_at dksX2_polynomial_2 3 rfl rfl)
theorem dX2_polynomial_49 : decode cX2_polynomial 49 = .ok (.getfield 30, 3) := dk_180 0 30 (dk_at dksX2_polynomial_2 4 rfl rfl)
theorem dX2_polynomial_52 : decode cX2_polynomial 52 = .ok (.getfield 209, 3) := dk_180 0 209 (dk_at dksX2_polynomial_2 7 rfl rfl)
theorem dX2_polynomial_55 : decode cX2_polynomial 55 = .ok (.irem, 1) := dk_112 (dk_at dksX2_polynomial_2 10 rfl rfl)
theorem dX2_polynomial_56 : decode cX2_polynomial 56 = .ok (.istore 7, 2) := dk_54 7 (dk_at dksX2_polynomial_2 11 rfl rfl)
theorem dX2_polynomial_58 : decode cX2_polynomial 58 = .ok (.iload 5, 2) := dk_21 5 (dk_at dksX2_polynomial_2 13 rfl rfl)
theorem dX2_polynomial_60 : decode cX2_polynomial 60 = .ok (.aload_n 1, 1) := dk_43 (dk_at dksX2_polynomial_2 15 rfl rfl)
theorem dX2_polynomial_61 : decode cX2_polynomial 61 = .ok (.invokevirtual 200, 3) := dk_182 0 200 (dk_at dksX2_polynomial_2 16 rfl rfl)
theorem dX2_polynomial_64 : decode cX2_polynomial 64 = .ok (.if_icmp .le 36, 3) := dk_164 0 36 (dk_at dksX2_polynomial_2 19 rfl rfl)
theorem dX2_polynomial_67 : decode cX2_polynomial 67 = .ok (.aload_n 0, 1) := dk_42 (dk_at dksX2_polynomial_2 22 rfl rfl)
theorem dX2_polynomial_68 : decode cX2_polynomial 68 = .ok (.getfield 30, 3) := dk_180 0 30 (dk_at dksX2_polynomial_3 0 rfl rfl)
theorem dX2_polynomial_71 : decode cX2_polynomial 71 = .ok (.iload 7, 2) := dk_21 7 (dk_at dksX2_polynomial_3 3 rfl rfl)
theorem dX2_polynomial_73 : decode cX2_polynomial 73 = .ok (.aload_n 0, 1) := dk_42 (dk_at dksX2_polynomial_3 5 rfl rfl)
theorem dX2_polynomial_74 : decode cX2_polynomial 74 = .ok (.getfield 30, 3) := dk_180 0 30 (dk_at dksX2_polynomial_3 6 rfl rfl)
theorem dX2_polynomial_77 : decode cX2_polynomial 77 = .ok (.aload_n 0, 1) := dk_42 (dk_at dksX2_polynomial_3 9 rfl rfl)
theorem dX2_polynomial_78 : decode cX2_polynomial 78 = .ok (.iload 5, 2) := dk_21 5 (dk_at dksX2_polynomial_3 10 rfl rfl)
theorem dX2_polynomial_80 : decode cX2_polynomial 80 = .ok (.invokevirtual 117, 3) := dk_182 0 117 (dk_at dksX2_polynomial_3 12 rfl rfl)
theorem dX2_polynomial_83 : decode cX2_polynomial 83 = .ok (.aload_n 0, 1) := dk_42 (dk_at dksX2_polynomial_3 15 rfl rfl)
theorem dX2_polynomial_84 : decode cX2_polynomial 84 = .ok (.iload 5, 2) := dk_21 5 (dk_at dksX2_polynomial_3 16 rfl rfl)
theorem dX2_polynomial_86 : decode cX2_polynomial 86 = .ok (.iconst 1, 1) := dk_4 (dk_at dksX2_polynomial_3 18 rfl rfl)
theorem dX2_polynomial_87 : decode cX2_polynomial 87 = .ok (.isub, 1) := dk_100 (dk_at dksX2_polynomial_3 19 rfl rfl)
theorem dX2_polynomial_88 : decode cX2_polynomial 88 = .ok (.invokevirtual 117, 3) := dk_182 0 117 (dk_at dksX2_polynomial_3 20 rfl rfl)
theorem dX2_polynomial_91 : decode cX2_polynomial 91 = .ok (.invokevirtual 120, 3) := dk_182 0 120 (dk_at dksX2_polynomial_4 0 rfl rfl)
theorem dX2_polynomial_94 : decode cX2_polynomial 94 = .ok (.iload_n 3, 1) := dk_29 (dk_at dksX2_polynomial_4 3 rfl rfl)
theorem dX2_polynomial_95 : decode cX2_polynomial 95 = .ok (.invokevirtual 212, 3) := dk_182 0 212 (dk_at dksX2_polynomial_4 4 rfl rfl)
theorem dX2_polynomial_98 : decode cX2_polynomial 98 = .ok (.istore 7, 2) := dk_54 7 (dk_at dksX2_polynomial_4 7 rfl rfl)
theorem dX2_polynomial_100 : decode cX2_polynomial 100 = .ok (.iload 4, 2) := dk_21 4 (dk_at dksX2_polynomial_4 9 rfl rfl)
theorem dX2_polynomial_102 : decode cX2_polynomial 102 = .ok (.istore_n 3, 1) := dk_62 (dk_at dksX2_polynomial_4 11 rfl rfl)
theorem dX2_polynomial_103 : decode cX2_polynomial 103 = .ok (.iload 7, 2) := dk_21 7 (dk_at dksX2_polynomial_4 12 rfl rfl)
theorem dX2_polynomial_105 : decode cX2_polynomial 105 = .ok (.istore 4, 2) := dk_54 4 (dk_at dksX2_polynomial_4 14 rfl rfl)
theorem dX2_polynomial_107 : decode cX2_polynomial 107 = .ok (.iinc 5 1, 3) := dk_132 5 1 (dk_at dksX2_polynomial_4 16 rfl rfl)
theorem dX2_polynomial_110 : decode cX2_polynomial 110 = .ok (.goto (-99), 3) := dk_167 255 157 (dk_at dksX2_polynomial_4 19 rfl rfl)
theorem dX2_polynomial_113 : decode cX2_polynomial 113 = .ok (.iload 4, 2) := dk_21 4 (dk_at dksX2_polynomial_4 22 rfl rfl)
theorem dX2_polynomial_115 : decode cX2_polynomial 115 = .ok (.ireturn, 1) := dk_172 (dk_at dksX2_polynomial_5 0 rfl rfl)
abbrev cX2_coefficients : ByteArray := prog_6_method_22_code
def yX2_coefficients : MethodName := ⟨RX2, "coefficients", "(LExactChains$Chain;)[I"⟩
def dkwX2_coefficients_7 : List UInt8 := [167, 255, 120, 45, 176]
abbrev dktX2_coefficients_7 : List UInt8 := dkwX2_coefficients_7 ++ []
def dkwX2_coefficients_6 : List UInt8 := [44, 21, 8, 46, 182, 0, 212, 79, 132, 8, 1, 167, 255, 200, 45, 77, 25, 7, 78, 132, 4, 1]
abbrev dktX2_coefficients_6 : List UInt8 := dkwX2_coefficients_6 ++ dktX2_coefficients_7
def dkwX2_coefficients_5 : List UInt8 := [158, 0, 12, 45, 21, 8, 4, 100, 46, 167, 0, 4, 3, 21, 5, 45, 21, 8, 46, 182, 0, 212, 21, 6]
abbrev dktX2_coefficients_5 : List UInt8 := dkwX2_coefficients_5 ++ dktX2_coefficients_6
def dkwX2_coefficients_4 : List UInt8 := [54, 8, 21, 8, 45, 190, 162, 0, 55, 25, 7, 21, 8, 42, 180, 0, 30, 42, 180, 0, 30, 21, 8]
abbrev dktX2_coefficients_4 : List UInt8 := dkwX2_coefficients_4 ++ dktX2_coefficients_5
def dkwX2_coefficients_3 : List UInt8 := [42, 21, 4, 4, 100, 182, 0, 117, 182, 0, 120, 167, 0, 4, 3, 54, 6, 45, 190, 188, 10, 58, 7, 3]
abbrev dktX2_coefficients_3 : List UInt8 := dkwX2_coefficients_3 ++ dktX2_coefficients_4
def dkwX2_coefficients_2 : List UInt8 := [182, 0, 203, 54, 5, 21, 4, 43, 182, 0, 200, 164, 0, 27, 42, 180, 0, 30, 42, 21, 4, 182, 0, 117]
abbrev dktX2_coefficients_2 : List UInt8 := dkwX2_coefficients_2 ++ dktX2_coefficients_3
def dkwX2_coefficients_1 : List UInt8 := [182, 0, 200, 54, 4, 21, 4, 43, 182, 0, 200, 43, 182, 0, 151, 96, 162, 0, 128, 42, 21, 4, 21, 4]
abbrev dktX2_coefficients_1 : List UInt8 := dkwX2_coefficients_1 ++ dktX2_coefficients_2
def dkwX2_coefficients_0 : List UInt8 := [43, 182, 0, 151, 4, 96, 188, 10, 77, 43, 182, 0, 151, 4, 96, 188, 10, 78, 45, 3, 4, 79, 43]
abbrev dktX2_coefficients_0 : List UInt8 := dkwX2_coefficients_0 ++ dktX2_coefficients_1
theorem dksX2_coefficients_0 : cX2_coefficients.data.toList.drop 0 = dktX2_coefficients_0 := by decide +kernel
theorem dksX2_coefficients_1 : cX2_coefficients.data.toList.drop 23 = dktX2_coefficients_1 := dk_seg dksX2_coefficients_0 23 rfl rfl
theorem dksX2_coefficients_2 : cX2_coefficients.data.toList.drop 47 = dktX2_coefficients_2 := dk_seg dksX2_coefficients_1 24 rfl rfl
theorem dksX2_coefficients_3 : cX2_coefficients.data.toList.drop 71 = dktX2_coefficients_3 := dk_seg dksX2_coefficients_2 24 rfl rfl
theorem dksX2_coefficients_4 : cX2_coefficients.data.toList.drop 95 = dktX2_coefficients_4 := dk_seg dksX2_coefficients_3 24 rfl rfl
theorem dksX2_coefficients_5 : cX2_coefficients.data.toList.drop 118 = dktX2_coefficients_5 := dk_seg dksX2_coefficients_4 23 rfl rfl
theorem dksX2_coefficients_6 : cX2_coefficients.data.toList.drop 142 = dktX2_coefficients_6 := dk_seg dksX2_coefficients_5 24 rfl rfl
theorem dksX2_coefficients_7 : cX2_coefficients.data.toList.drop 164 = dktX2_coefficients_7 := dk_seg dksX2_coefficients_6 22 rfl rfl
theorem dX2_coefficients_0 : decode cX2_coefficients 0 = .ok (.aload_n 1, 1) := dk_43 (dk_at dksX2_coefficients_0 0 rfl rfl)
theorem dX2_coefficients_1 : decode cX2_coefficients 1 = .ok (.invokevirtual 151, 3) := dk_182 0 151 (dk_at dksX2_coefficients_0 1 rfl rfl)
theorem dX2_coefficients_4 : decode cX2_coefficients 4 = .ok (.iconst 1, 1) := dk_4 (dk_at dksX2_coefficients_0 4 rfl rfl)
theorem dX2_coefficients_5 : decode cX2_coefficients 5 = .ok (.iadd, 1) := dk_96 (dk_at dksX2_coefficients_0 5 rfl rfl)
theorem dX2_coefficients_6 : decode cX2_coefficients 6 = .ok (.newarray .int, 2) := dk_188_10 (dk_at dksX2_coefficients_0 6 rfl rfl)
theorem dX2_coefficients_8 : decode cX2_coefficients 8 = .ok (.astore_n 2, 1) := dk_77 (dk_at dksX2_coefficients_0 8 rfl rfl)
theorem dX2_coefficients_9 : decode cX2_coefficients 9 = .ok (.aload_n 1, 1) := dk_43 (dk_at dksX2_coefficients_0 9 rfl rfl)
theorem dX2_coefficients_10 : decode cX2_coefficients 10 = .ok (.invokevirtual 151, 3) := dk_182 0 151 (dk_at dksX2_coefficients_0 10 rfl rfl)
theorem dX2_coefficients_13 : decode cX2_coefficients 13 = .ok (.iconst 1, 1) := dk_4 (dk_at dksX2_coefficients_0 13 rfl rfl)
theorem dX2_coefficients_14 : decode cX2_coefficients 14 = .ok (.iadd, 1) := dk_96 (dk_at dksX2_coefficients_0 14 rfl rfl)
theorem dX2_coefficients_15 : decode cX2_coefficients 15 = .ok (.newarray .int, 2) := dk_188_10 (dk_at dksX2_coefficients_0 15 rfl rfl)
theorem dX2_coefficients_17 : decode cX2_coefficients 17 = .ok (.astore_n 3, 1) := dk_78 (dk_at dksX2_coefficients_0 17 rfl rfl)
theorem dX2_coefficients_18 : decode cX2_coefficients 18 = .ok (.aload_n 3, 1) := dk_45 (dk_at dksX2_coefficients_0 18 rfl rfl)
theorem dX2_coefficients_19 : decode cX2_coefficients 19 = .ok (.iconst 0, 1) := dk_3 (dk_at dksX2_coefficients_0 19 rfl rfl)
theorem dX2_coefficients_20 : decode cX2_coefficients 20 = .ok (.iconst 1, 1) := dk_4 (dk_at dksX2_coefficients_0 20 rfl rfl)
theorem dX2_coefficients_21 : decode cX2_coefficients 21 = .ok (.iastore, 1) := dk_79 (dk_at dksX2_coefficients_0 21 rfl rfl)
theorem dX2_coefficients_22 : decode cX2_coefficients 22 = .ok (.aload_n 1, 1) := dk_43 (dk_at dksX2_coefficients_0 22 rfl rfl)
theorem dX2_coefficients_23 : decode cX2_coefficients 23 = .ok (.invokevirtual 200, 3) := dk_182 0 200 (dk_at dksX2_coefficients_1 0 rfl rfl)
theorem dX2_coefficients_26 : decode cX2_coefficients 26 = .ok (.istore 4, 2) := dk_54 4 (dk_at dksX2_coefficients_1 3 rfl rfl)
theorem dX2_coefficients_28 : decode cX2_coefficients 28 = .ok (.iload 4, 2) := dk_21 4 (dk_at dksX2_coefficients_1 5 rfl rfl)
theorem dX2_coefficients_30 : decode cX2_coefficients 30 = .ok (.aload_n 1, 1) := dk_43 (dk_at dksX2_coefficients_1 7 rfl rfl)
theorem dX2_coefficients_31 : decode cX2_coefficients 31 = .ok (.invokevirtual 200, 3) := dk_182 0 200 (dk_at dksX2_coefficients_1 8 rfl rfl)
theorem dX2_coefficients_34 : decode cX2_coefficients 34 = .ok (.aload_n 1, 1) := dk_43 (dk_at dksX2_coefficients_1 11 rfl rfl)
theorem dX2_coefficients_35 : decode cX2_coefficients 35 = .ok (.invokevirtual 151, 3) := dk_182 0 151 (dk_at dksX2_coefficients_1 12 rfl rfl)
theorem dX2_coefficients_38 : decode cX2_coefficients 38 = .ok (.iadd, 1) := dk_96 (dk_at dksX2_coefficients_1 15 rfl rfl)
theorem dX2_coefficients_39 : decode cX2_coefficients 39 = .ok (.if_icmp .ge 128, 3) := dk_162 0 128 (dk_at dksX2_coefficients_1 16 rfl rfl)
theorem dX2_coefficients_42 : decode cX2_coefficients 42 = .ok (.aload_n 0, 1) := dk_42 (dk_at dksX2_coefficients_1 19 rfl rfl)
theorem dX2_coefficients_43 : decode cX2_coefficients 43 = .ok (.iload 4, 2) := dk_21 4 (dk_at dksX2_coefficients_1 20 rfl rfl)
theorem dX2_coefficients_45 : decode cX2_coefficients 45 = .ok (.iload 4, 2) := dk_21 4 (dk_at dksX2_coefficients_1 22 rfl rfl)
theorem dX2_coefficients_47 : decode cX2_coefficients 47 = .ok (.invokevirtual 203, 3) := dk_182 0 203 (dk_at dksX2_coefficients_2 0 rfl rfl)
theorem dX2_coefficients_50 : decode cX2_coefficients 50 = .ok (.istore 5, 2) := dk_54 5 (dk_at dksX2_coefficients_2 3 rfl rfl)
theorem dX2_coefficients_52 : decode cX2_coefficients 52 = .ok (.iload 4, 2) := dk_21 4 (dk_at dksX2_coefficients_2 5 rfl rfl)
theorem dX2_coefficients_54 : decode cX2_coefficients 54 = .ok (.aload_n 1, 1) := dk_43 (dk_at dksX2_coefficients_2 7 rfl rfl)
theorem dX2_coefficients_55 : decode cX2_coefficients 55 = .ok (.invokevirtual 200, 3) := dk_182 0 200 (dk_at dksX2_coefficients_2 8 rfl rfl)
theorem dX2_coefficients_58 : decode cX2_coefficients 58 = .ok (.if_icmp .le 27, 3) := dk_164 0 27 (dk_at dksX2_coefficients_2 11 rfl rfl)
theorem dX2_coefficients_61 : decode cX2_coefficients 61 = .ok (.aload_n 0, 1) := dk_42 (dk_at dksX2_coefficients_2 14 rfl rfl)
theorem dX2_coefficients_62 : decode cX2_coefficients 62 = .ok (.getfield 30, 3) := dk_180 0 30 (dk_at dksX2_coefficients_2 15 rfl rfl)
theorem dX2_coefficients_65 : decode cX2_coefficients 65 = .ok (.aload_n 0, 1) := dk_42 (dk_at dksX2_coefficients_2 18 rfl rfl)
theorem dX2_coefficients_66 : decode cX2_coefficients 66 = .ok (.iload 4, 2) := dk_21 4 (dk_at dksX2_coefficients_2 19 rfl rfl)
theorem dX2_coefficients_68 : decode cX2_coefficients 68 = .ok (.invokevirtual 117, 3) := dk_182 0 117 (dk_at dksX2_coefficients_2 21 rfl rfl)
theorem dX2_coefficients_71 : decode cX2_coefficients 71 = .ok (.aload_n 0, 1) := dk_42 (dk_at dksX2_coefficients_3 0 rfl rfl)
theorem dX2_coefficients_72 : decode cX2_coefficients 72 = .ok (.iload 4, 2) := dk_21 4 (dk_at dksX2_coefficients_3 1 rfl rfl)
theorem dX2_coefficients_74 : decode cX2_coefficients 74 = .ok (.iconst 1, 1) := dk_4 (dk_at dksX2_coefficients_3 3 rfl rfl)
theorem dX2_coefficients_75 : decode cX2_coefficients 75 = .ok (.isub, 1) := dk_100 (dk_at dksX2_coefficients_3 4 rfl rfl)
theorem dX2_coefficients_76 : decode cX2_coefficients 76 = .ok (.invokevirtual 117, 3) := dk_182 0 117 (dk_at dksX2_coefficients_3 5 rfl rfl)
theorem dX2_coefficients_79 : decode cX2_coefficients 79 = .ok (.invokevirtual 120, 3) := dk_182 0 120 (dk_at dksX2_coefficients_3 8 rfl rfl)
theorem dX2_coefficients_82 : decode cX2_coefficients 82 = .ok (.goto 4, 3) := dk_167 0 4 (dk_at dksX2_coefficients_3 11 rfl rfl)
theorem dX2_coefficients_85 : decode cX2_coefficients 85 = .ok (.iconst 0, 1) := dk_3 (dk_at dksX2_coefficients_3 14 rfl rfl)
theorem dX2_coefficients_86 : decode cX2_coefficients 86 = .ok (.istore 6, 2) := dk_54 6 (dk_at dksX2_coefficients_3 15 rfl rfl)
theorem dX2_coefficients_88 : decode cX2_coefficients 88 = .ok (.aload_n 3, 1) := dk_45 (dk_at dksX2_coefficients_3 17 rfl rfl)
theorem dX2_coefficients_89 : decode cX2_coefficients 89 = .ok (.arraylength, 1) := dk_190 (dk_at dksX2_coefficients_3 18 rfl rfl)
theorem dX2_coefficients_90 : decode cX2_coefficients 90 = .ok (.newarray .int, 2) := dk_188_10 (dk_at dksX2_coefficients_3 19 rfl rfl)
theorem dX2_coefficients_92 : decode cX2_coefficients 92 = .ok (.astore 7, 2) := dk_58 7 (dk_at dksX2_coefficients_3 21 rfl rfl)
theorem dX2_coefficients_94 : decode cX2_coefficients 94 = .ok (.iconst 0, 1) := dk_3 (dk_at dksX2_coefficients_3 23 rfl rfl)
theorem dX2_coefficients_95 : decode cX2_coefficients 95 = .ok (.istore 8, 2) := dk_54 8 (dk_at dksX2_coefficients_4 0 rfl rfl)
theorem dX2_coefficients_97 : decode cX2_coefficients 97 = .ok (.iload 8, 2) := dk_21 8 (dk_at dksX2_coefficients_4 2 rfl rfl)
theorem dX2_coefficients_99 : decode cX2_coefficients 99 = .ok (.aload_n 3, 1) := dk_45 (dk_at dksX2_coefficients_4 4 rfl rfl)
theorem dX2_coefficients_100 : decode cX2_coefficients 100 = .ok (.arraylength, 1) := dk_190 (dk_at dksX2_coefficients_4 5 rfl rfl)
theorem dX2_coefficients_101 : decode cX2_coefficients 101 = .ok (.if_icmp .ge 55, 3) := dk_162 0 55 (dk_at dksX2_coefficients_4 6 rfl rfl)
theorem dX2_coefficients_104 : decode cX2_coefficients 104 = .ok (.aload 7, 2) := dk_25 7 (dk_at dksX2_coefficients_4 9 rfl rfl)
theorem dX2_coefficients_106 : decode cX2_coefficients 106 = .ok (.iload 8, 2) := dk_21 8 (dk_at dksX2_coefficients_4 11 rfl rfl)
theorem dX2_coefficients_108 : decode cX2_coefficients 108 = .ok (.aload_n 0, 1) := dk_42 (dk_at dksX2_coefficients_4 13 rfl rfl)
theorem dX2_coefficients_109 : decode cX2_coefficients 109 = .ok (.getfield 30, 3) := dk_180 0 30 (dk_at dksX2_coefficients_4 14 rfl rfl)
theorem dX2_coefficients_112 : decode cX2_coefficients 112 = .ok (.aload_n 0, 1) := dk_42 (dk_at dksX2_coefficients_4 17 rfl rfl)
theorem dX2_coefficients_113 : decode cX2_coefficients 113 = .ok (.getfield 30, 3) := dk_180 0 30 (dk_at dksX2_coefficients_4 18 rfl rfl)
theorem dX2_coefficients_116 : decode cX2_coefficients 116 = .ok (.iload 8, 2) := dk_21 8 (dk_at dksX2_coefficients_4 21 rfl rfl)
theorem dX2_coefficients_118 : decode cX2_coefficients 118 = .ok (.ifCond .le 12, 3) := dk_158 0 12 (dk_at dksX2_coefficients_5 0 rfl rfl)
theorem dX2_coefficients_121 : decode cX2_coefficients 121 = .ok (.aload_n 3, 1) := dk_45 (dk_at dksX2_coefficients_5 3 rfl rfl)
theorem dX2_coefficients_122 : decode cX2_coefficients 122 = .ok (.iload 8, 2) := dk_21 8 (dk_at dksX2_coefficients_5 4 rfl rfl)
theorem dX2_coefficients_124 : decode cX2_coefficients 124 = .ok (.iconst 1, 1) := dk_4 (dk_at dksX2_coefficients_5 6 rfl rfl)
theorem dX2_coefficients_125 : decode cX2_coefficients 125 = .ok (.isub, 1) := dk_100 (dk_at dksX2_coefficients_5 7 rfl rfl)
theorem dX2_coefficients_126 : decode cX2_coefficients 126 = .ok (.iaload, 1) := dk_46 (dk_at dksX2_coefficients_5 8 rfl rfl)
theorem dX2_coefficients_127 : decode cX2_coefficients 127 = .ok (.goto 4, 3) := dk_167 0 4 (dk_at dksX2_coefficients_5 9 rfl rfl)
theorem dX2_coefficients_130 : decode cX2_coefficients 130 = .ok (.iconst 0, 1) := dk_3 (dk_at dksX2_coefficients_5 12 rfl rfl)
theorem dX2_coefficients_131 : decode cX2_coefficients 131 = .ok (.iload 5, 2) := dk_21 5 (dk_at dksX2_coefficients_5 13 rfl rfl)
theorem dX2_coefficients_133 : decode cX2_coefficients 133 = .ok (.aload_n 3, 1) := dk_45 (dk_at dksX2_coefficients_5 15 rfl rfl)
theorem dX2_coefficients_134 : decode cX2_coefficients 134 = .ok (.iload 8, 2) := dk_21 8 (dk_at dksX2_coefficients_5 16 rfl rfl)
theorem dX2_coefficients_136 : decode cX2_coefficients 136 = .ok (.iaload, 1) := dk_46 (dk_at dksX2_coefficients_5 18 rfl rfl)
theorem dX2_coefficients_137 : decode cX2_coefficients 137 = .ok (.invokevirtual 212, 3) := dk_182 0 212 (dk_at dksX2_coefficients_5 19 rfl rfl)
theorem dX2_coefficients_140 : decode cX2_coefficients 140 = .ok (.iload 6, 2) := dk_21 6 (dk_at dksX2_coefficients_5 22 rfl rfl)
theorem dX2_coefficients_142 : decode cX2_coefficients 142 = .ok (.aload_n 2, 1) := dk_44 (dk_at dksX2_coefficients_6 0 rfl rfl)
theorem dX2_coefficients_143 : decode cX2_coefficients 143 = .ok (.iload 8, 2) := dk_21 8 (dk_at dksX2_coefficients_6 1 rfl rfl)
theorem dX2_coefficients_145 : decode cX2_coefficients 145 = .ok (.iaload, 1) := dk_46 (dk_at dksX2_coefficients_6 3 rfl rfl)
theorem dX2_coefficients_146 : decode cX2_coefficients 146 = .ok (.invokevirtual 212, 3) := dk_182 0 212 (dk_at dksX2_coefficients_6 4 rfl rfl)
theorem dX2_coefficients_149 : decode cX2_coefficients 149 = .ok (.iastore, 1) := dk_79 (dk_at dksX2_coefficients_6 7 rfl rfl)
theorem dX2_coefficients_150 : decode cX2_coefficients 150 = .ok (.iinc 8 1, 3) := dk_132 8 1 (dk_at dksX2_coefficients_6 8 rfl rfl)
theorem dX2_coefficients_153 : decode cX2_coefficients 153 = .ok (.goto (-56), 3) := dk_167 255 200 (dk_at dksX2_coefficients_6 11 rfl rfl)
theorem dX2_coefficients_156 : decode cX2_coefficients 156 = .ok (.aload_n 3, 1) := dk_45 (dk_at dksX2_coefficients_6 14 rfl rfl)
theorem dX2_coefficients_157 : decode cX2_coefficients 157 = .ok (.astore_n 2, 1) := dk_77 (dk_at dksX2_coefficients_6 15 rfl rfl)
theorem dX2_coefficients_158 : decode cX2_coefficients 158 = .ok (.aload 7, 2) := dk_25 7 (dk_at dksX2_coefficients_6 16 rfl rfl)
theorem dX2_coefficients_160 : decode cX2_coefficients 160 = .ok (.astore_n 3, 1) := dk_78 (dk_at dksX2_coefficients_6 18 rfl rfl)
theorem dX2_coefficients_161 : decode cX2_coefficients 161 = .ok (.iinc 4 1, 3) := dk_132 4 1 (dk_at dksX2_coefficients_6 19 rfl rfl)
theorem dX2_coefficients_164 : decode cX2_coefficients 164 = .ok (.goto (-136), 3) := dk_167 255 120 (dk_at dksX2_coefficients_7 0 rfl rfl)
theorem dX2_coefficients_167 : decode cX2_coefficients 167 = .ok (.aload_n 3, 1) := dk_45 (dk_at dksX2_coefficients_7 3 rfl rfl)
theorem dX2_coefficients_168 : decode cX2_coefficients 168 = .ok (.areturn, 1) := dk_176 (dk_at dksX2_coefficients_7 4 rfl rfl)
abbrev cX2_applied : ByteArray := prog_6_method_23_code
def yX2_applied : MethodName := ⟨RX2, "applied", "([ILExactChains$Vector;)LExactChains$Vector;"⟩
def dkwX2_applied_2 : List UInt8 := [44, 182, 0, 124, 78, 132, 4, 255, 167, 255, 222, 45, 176]
abbrev dktX2_applied_2 : List UInt8 := dkwX2_applied_2 ++ []
def dkwX2_applied_1 : List UInt8 := [155, 0, 35, 42, 180, 0, 30, 42, 45, 182, 0, 141, 42, 180, 0, 30, 3, 43, 21, 4, 46, 182, 0, 206]
abbrev dktX2_applied_1 : List UInt8 := dkwX2_applied_1 ++ dktX2_applied_2
def dkwX2_applied_0 : List UInt8 := [187, 0, 42, 89, 42, 180, 0, 34, 188, 10, 183, 0, 44, 78, 43, 190, 4, 100, 54, 4, 21, 4]
abbrev dktX2_applied_0 : List UInt8 := dkwX2_applied_0 ++ dktX2_applied_1
theorem dksX2_applied_0 : cX2_applied.data.toList.drop 0 = dktX2_applied_0 := by decide +kernel
theorem dksX2_applied_1 : cX2_applied.data.toList.drop 22 = dktX2_applied_1 := dk_seg dksX2_applied_0 22 rfl rfl
theorem dksX2_applied_2 : cX2_applied.data.toList.drop 46 = dktX2_applied_2 := dk_seg dksX2_applied_1 24 rfl rfl
theorem dX2_applied_0 : decode cX2_applied 0 = .ok (.new 42, 3) := dk_187 0 42 (dk_at dksX2_applied_0 0 rfl rfl)
theorem dX2_applied_3 : decode cX2_applied 3 = .ok (.dup, 1) := dk_89 (dk_at dksX2_applied_0 3 rfl rfl)
theorem dX2_applied_4 : decode cX2_applied 4 = .ok (.aload_n 0, 1) := dk_42 (dk_at dksX2_applied_0 4 rfl rfl)
theorem dX2_applied_5 : decode cX2_applied 5 = .ok (.getfield 34, 3) := dk_180 0 34 (dk_at dksX2_applied_0 5 rfl rfl)
theorem dX2_applied_8 : decode cX2_applied 8 = .ok (.newarray .int, 2) := dk_188_10 (dk_at dksX2_applied_0 8 rfl rfl)
theorem dX2_applied_10 : decode cX2_applied 10 = .ok (.invokespecial 44, 3) := dk_183 0 44 (dk_at dksX2_applied_0 10 rfl rfl)
theorem dX2_applied_13 : decode cX2_applied 13 = .ok (.astore_n 3, 1) := dk_78 (dk_at dksX2_applied_0 13 rfl rfl)
theorem dX2_applied_14 : decode cX2_applied 14 = .ok (.aload_n 1, 1) := dk_43 (dk_at dksX2_applied_0 14 rfl rfl)
theorem dX2_applied_15 : decode cX2_applied 15 = .ok (.arraylength, 1) := dk_190 (dk_at dksX2_applied_0 15 rfl rfl)
theorem dX2_applied_16 : decode cX2_applied 16 = .ok (.iconst 1, 1) := dk_4 (dk_at dksX2_applied_0 16 rfl rfl)
theorem dX2_applied_17 : decode cX2_applied 17 = .ok (.isub, 1) := dk_100 (dk_at dksX2_applied_0 17 rfl rfl)
theorem dX2_applied_18 : decode cX2_applied 18 = .ok (.istore 4, 2) := dk_54 4 (dk_at dksX2_applied_0 18 rfl rfl)
theorem dX2_applied_20 : decode cX2_applied 20 = .ok (.iload 4, 2) := dk_21 4 (dk_at dksX2_applied_0 20 rfl rfl)
theorem dX2_applied_22 : decode cX2_applied 22 = .ok (.ifCond .lt 35, 3) := dk_155 0 35 (dk_at dksX2_applied_1 0 rfl rfl)
theorem dX2_applied_25 : decode cX2_applied 25 = .ok (.aload_n 0, 1) := dk_42 (dk_at dksX2_applied_1 3 rfl rfl)
theorem dX2_applied_26 : decode cX2_applied 26 = .ok (.getfield 30, 3) := dk_180 0 30 (dk_at dksX2_applied_1 4 rfl rfl)
theorem dX2_applied_29 : decode cX2_applied 29 = .ok (.aload_n 0, 1) := dk_42 (dk_at dksX2_applied_1 7 rfl rfl)
theorem dX2_applied_30 : decode cX2_applied 30 = .ok (.aload_n 3, 1) := dk_45 (dk_at dksX2_applied_1 8 rfl rfl)
theorem dX2_applied_31 : decode cX2_applied 31 = .ok (.invokevirtual 141, 3) := dk_182 0 141 (dk_at dksX2_applied_1 9 rfl rfl)
theorem dX2_applied_34 : decode cX2_applied 34 = .ok (.aload_n 0, 1) := dk_42 (dk_at dksX2_applied_1 12 rfl rfl)
theorem dX2_applied_35 : decode cX2_applied 35 = .ok (.getfield 30, 3) := dk_180 0 30 (dk_at dksX2_applied_1 13 rfl rfl)
theorem dX2_applied_38 : decode cX2_applied 38 = .ok (.iconst 0, 1) := dk_3 (dk_at dksX2_applied_1 16 rfl rfl)
theorem dX2_applied_39 : decode cX2_applied 39 = .ok (.aload_n 1, 1) := dk_43 (dk_at dksX2_applied_1 17 rfl rfl)
theorem dX2_applied_40 : decode cX2_applied 40 = .ok (.iload 4, 2) := dk_21 4 (dk_at dksX2_applied_1 18 rfl rfl)
theorem dX2_applied_42 : decode cX2_applied 42 = .ok (.iaload, 1) := dk_46 (dk_at dksX2_applied_1 20 rfl rfl)
theorem dX2_applied_43 : decode cX2_applied 43 = .ok (.invokevirtual 206, 3) := dk_182 0 206 (dk_at dksX2_applied_1 21 rfl rfl)
theorem dX2_applied_46 : decode cX2_applied 46 = .ok (.aload_n 2, 1) := dk_44 (dk_at dksX2_applied_2 0 rfl rfl)
theorem dX2_applied_47 : decode cX2_applied 47 = .ok (.invokevirtual 124, 3) := dk_182 0 124 (dk_at dksX2_applied_2 1 rfl rfl)
theorem dX2_applied_50 : decode cX2_applied 50 = .ok (.astore_n 3, 1) := dk_78 (dk_at dksX2_applied_2 4 rfl rfl)
theorem dX2_applied_51 : decode cX2_applied 51 = .ok (.iinc 4 (-1), 3) := dk_132 4 255 (dk_at dksX2_applied_2 5 rfl rfl)
theorem dX2_applied_54 : decode cX2_applied 54 = .ok (.goto (-34), 3) := dk_167 255 222 (dk_at dksX2_applied_2 8 rfl rfl)
theorem dX2_applied_57 : decode cX2_applied 57 = .ok (.aload_n 3, 1) := dk_45 (dk_at dksX2_applied_2 11 rfl rfl)
theorem dX2_applied_58 : decode cX2_applied 58 = .ok (.areturn, 1) := dk_176 (dk_at dksX2_applied_2 12 rfl rfl)
abbrev cX2_solution : ByteArray := prog_6_method_29_code
def yX2_solution : MethodName := ⟨RX2, "solution", "()LExactChains$Vector;"⟩
def dkwX2_solution_5 : List UInt8 := [167, 255, 216, 25, 4, 176]
abbrev dktX2_solution_5 : List UInt8 := dkwX2_solution_5 ++ []
def dkwX2_solution_4 : List UInt8 := [3, 44, 21, 5, 50, 27, 46, 182, 0, 206, 42, 21, 5, 182, 0, 110, 182, 0, 124, 58, 4, 132, 5, 1]
abbrev dktX2_solution_4 : List UInt8 := dkwX2_solution_4 ++ dktX2_solution_5
def dkwX2_solution_3 : List UInt8 := [183, 0, 44, 58, 4, 3, 54, 5, 21, 5, 27, 162, 0, 40, 42, 180, 0, 30, 25, 4, 42, 180, 0, 30]
abbrev dktX2_solution_3 : List UInt8 := dkwX2_solution_3 ++ dktX2_solution_4
def dkwX2_solution_2 : List UInt8 := [183, 0, 245, 78, 45, 180, 0, 241, 154, 0, 5, 1, 176, 187, 0, 42, 89, 42, 180, 0, 34, 188, 10]
abbrev dktX2_solution_2 : List UInt8 := dkwX2_solution_2 ++ dktX2_solution_3
def dkwX2_solution_1 : List UInt8 := [96, 42, 27, 186, 0, 244, 0, 0, 182, 0, 87, 77, 187, 0, 226, 89, 42, 180, 0, 30, 27, 44]
abbrev dktX2_solution_1 : List UInt8 := dkwX2_solution_1 ++ dktX2_solution_2
def dkwX2_solution_0 : List UInt8 := [42, 180, 0, 27, 3, 185, 0, 90, 2, 0, 192, 0, 128, 182, 0, 151, 60, 42, 180, 0, 30, 27, 27, 4]
abbrev dktX2_solution_0 : List UInt8 := dkwX2_solution_0 ++ dktX2_solution_1
theorem dksX2_solution_0 : cX2_solution.data.toList.drop 0 = dktX2_solution_0 := by decide +kernel
theorem dksX2_solution_1 : cX2_solution.data.toList.drop 24 = dktX2_solution_1 := dk_seg dksX2_solution_0 24 rfl rfl
theorem dksX2_solution_2 : cX2_solution.data.toList.drop 46 = dktX2_solution_2 := dk_seg dksX2_solution_1 22 rfl rfl
theorem dksX2_solution_3 : cX2_solution.data.toList.drop 69 = dktX2_solution_3 := dk_seg dksX2_solution_2 23 rfl rfl
theorem dksX2_solution_4 : cX2_solution.data.toList.drop 93 = dktX2_solution_4 := dk_seg dksX2_solution_3 24 rfl rfl
theorem dksX2_solution_5 : cX2_solution.data.toList.drop 117 = dktX2_solution_5 := dk_seg dksX2_solution_4 24 rfl rfl
theorem dX2_solution_0 : decode cX2_solution 0 = .ok (.aload_n 0, 1) := dk_42 (dk_at dksX2_solution_0 0 rfl rfl)
theorem dX2_solution_1 : decode cX2_solution 1 = .ok (.getfield 27, 3) := dk_180 0 27 (dk_at dksX2_solution_0 1 rfl rfl)
theorem dX2_solution_4 : decode cX2_solution 4 = .ok (.iconst 0, 1) := dk_3 (dk_at dksX2_solution_0 4 rfl rfl)
theorem dX2_solution_5 : decode cX2_solution 5 = .ok (.invokeinterface 90 2, 5) := by decide +kernel
theorem dX2_solution_10 : decode cX2_solution 10 = .ok (.checkcast 128, 3) := dk_192 0 128 (dk_at dksX2_solution_0 10 rfl rfl)
theorem dX2_solution_13 : decode cX2_solution 13 = .ok (.invokevirtual 151, 3) := dk_182 0 151 (dk_at dksX2_solution_0 13 rfl rfl)
theorem dX2_solution_16 : decode cX2_solution 16 = .ok (.istore_n 1, 1) := dk_60 (dk_at dksX2_solution_0 16 rfl rfl)
theorem dX2_solution_17 : decode cX2_solution 17 = .ok (.aload_n 0, 1) := dk_42 (dk_at dksX2_solution_0 17 rfl rfl)
theorem dX2_solution_18 : decode cX2_solution 18 = .ok (.getfield 30, 3) := dk_180 0 30 (dk_at dksX2_solution_0 18 rfl rfl)
theorem dX2_solution_21 : decode cX2_solution 21 = .ok (.iload_n 1, 1) := dk_27 (dk_at dksX2_solution_0 21 rfl rfl)
theorem dX2_solution_22 : decode cX2_solution 22 = .ok (.iload_n 1, 1) := dk_27 (dk_at dksX2_solution_0 22 rfl rfl)
theorem dX2_solution_23 : decode cX2_solution 23 = .ok (.iconst 1, 1) := dk_4 (dk_at dksX2_solution_0 23 rfl rfl)
theorem dX2_solution_24 : decode cX2_solution 24 = .ok (.iadd, 1) := dk_96 (dk_at dksX2_solution_1 0 rfl rfl)
theorem dX2_solution_25 : decode cX2_solution 25 = .ok (.aload_n 0, 1) := dk_42 (dk_at dksX2_solution_1 1 rfl rfl)
theorem dX2_solution_26 : decode cX2_solution 26 = .ok (.iload_n 1, 1) := dk_27 (dk_at dksX2_solution_1 2 rfl rfl)
theorem dX2_solution_27 : decode cX2_solution 27 = .ok (.invokedynamic 244, 5) := by decide +kernel
theorem dX2_solution_32 : decode cX2_solution 32 = .ok (.invokevirtual 87, 3) := dk_182 0 87 (dk_at dksX2_solution_1 8 rfl rfl)
theorem dX2_solution_35 : decode cX2_solution 35 = .ok (.astore_n 2, 1) := dk_77 (dk_at dksX2_solution_1 11 rfl rfl)
theorem dX2_solution_36 : decode cX2_solution 36 = .ok (.new 226, 3) := dk_187 0 226 (dk_at dksX2_solution_1 12 rfl rfl)
theorem dX2_solution_39 : decode cX2_solution 39 = .ok (.dup, 1) := dk_89 (dk_at dksX2_solution_1 15 rfl rfl)
theorem dX2_solution_40 : decode cX2_solution 40 = .ok (.aload_n 0, 1) := dk_42 (dk_at dksX2_solution_1 16 rfl rfl)
theorem dX2_solution_41 : decode cX2_solution 41 = .ok (.getfield 30, 3) := dk_180 0 30 (dk_at dksX2_solution_1 17 rfl rfl)
theorem dX2_solution_44 : decode cX2_solution 44 = .ok (.iload_n 1, 1) := dk_27 (dk_at dksX2_solution_1 20 rfl rfl)
theorem dX2_solution_45 : decode cX2_solution 45 = .ok (.aload_n 2, 1) := dk_44 (dk_at dksX2_solution_1 21 rfl rfl)
theorem dX2_solution_46 : decode cX2_solution 46 = .ok (.invokespecial 245, 3) := dk_183 0 245 (dk_at dksX2_solution_2 0 rfl rfl)
theorem dX2_solution_49 : decode cX2_solution 49 = .ok (.astore_n 3, 1) := dk_78 (dk_at dksX2_solution_2 3 rfl rfl)
theorem dX2_solution_50 : decode cX2_solution 50 = .ok (.aload_n 3, 1) := dk_45 (dk_at dksX2_solution_2 4 rfl rfl)
theorem dX2_solution_51 : decode cX2_solution 51 = .ok (.getfield 241, 3) := dk_180 0 241 (dk_at dksX2_solution_2 5 rfl rfl)
theorem dX2_solution_54 : decode cX2_solution 54 = .ok (.ifCond .ne 5, 3) := dk_154 0 5 (dk_at dksX2_solution_2 8 rfl rfl)
theorem dX2_solution_57 : decode cX2_solution 57 = .ok (.aconst_null, 1) := dk_1 (dk_at dksX2_solution_2 11 rfl rfl)
theorem dX2_solution_58 : decode cX2_solution 58 = .ok (.areturn, 1) := dk_176 (dk_at dksX2_solution_2 12 rfl rfl)
theorem dX2_solution_59 : decode cX2_solution 59 = .ok (.new 42, 3) := dk_187 0 42 (dk_at dksX2_solution_2 13 rfl rfl)
theorem dX2_solution_62 : decode cX2_solution 62 = .ok (.dup, 1) := dk_89 (dk_at dksX2_solution_2 16 rfl rfl)
theorem dX2_solution_63 : decode cX2_solution 63 = .ok (.aload_n 0, 1) := dk_42 (dk_at dksX2_solution_2 17 rfl rfl)
theorem dX2_solution_64 : decode cX2_solution 64 = .ok (.getfield 34, 3) := dk_180 0 34 (dk_at dksX2_solution_2 18 rfl rfl)
theorem dX2_solution_67 : decode cX2_solution 67 = .ok (.newarray .int, 2) := dk_188_10 (dk_at dksX2_solution_2 21 rfl rfl)
theorem dX2_solution_69 : decode cX2_solution 69 = .ok (.invokespecial 44, 3) := dk_183 0 44 (dk_at dksX2_solution_3 0 rfl rfl)
theorem dX2_solution_72 : decode cX2_solution 72 = .ok (.astore 4, 2) := dk_58 4 (dk_at dksX2_solution_3 3 rfl rfl)
theorem dX2_solution_74 : decode cX2_solution 74 = .ok (.iconst 0, 1) := dk_3 (dk_at dksX2_solution_3 5 rfl rfl)
theorem dX2_solution_75 : decode cX2_solution 75 = .ok (.istore 5, 2) := dk_54 5 (dk_at dksX2_solution_3 6 rfl rfl)
theorem dX2_solution_77 : decode cX2_solution 77 = .ok (.iload 5, 2) := dk_21 5 (dk_at dksX2_solution_3 8 rfl rfl)
theorem dX2_solution_79 : decode cX2_solution 79 = .ok (.iload_n 1, 1) := dk_27 (dk_at dksX2_solution_3 10 rfl rfl)
theorem dX2_solution_80 : decode cX2_solution 80 = .ok (.if_icmp .ge 40, 3) := dk_162 0 40 (dk_at dksX2_solution_3 11 rfl rfl)
theorem dX2_solution_83 : decode cX2_solution 83 = .ok (.aload_n 0, 1) := dk_42 (dk_at dksX2_solution_3 14 rfl rfl)
theorem dX2_solution_84 : decode cX2_solution 84 = .ok (.getfield 30, 3) := dk_180 0 30 (dk_at dksX2_solution_3 15 rfl rfl)
theorem dX2_solution_87 : decode cX2_solution 87 = .ok (.aload 4, 2) := dk_25 4 (dk_at dksX2_solution_3 18 rfl rfl)
theorem dX2_solution_89 : decode cX2_solution 89 = .ok (.aload_n 0, 1) := dk_42 (dk_at dksX2_solution_3 20 rfl rfl)
theorem dX2_solution_90 : decode cX2_solution 90 = .ok (.getfield 30, 3) := dk_180 0 30 (dk_at dksX2_solution_3 21 rfl rfl)
theorem dX2_solution_93 : decode cX2_solution 93 = .ok (.iconst 0, 1) := dk_3 (dk_at dksX2_solution_4 0 rfl rfl)
theorem dX2_solution_94 : decode cX2_solution 94 = .ok (.aload_n 2, 1) := dk_44 (dk_at dksX2_solution_4 1 rfl rfl)
theorem dX2_solution_95 : decode cX2_solution 95 = .ok (.iload 5, 2) := dk_21 5 (dk_at dksX2_solution_4 2 rfl rfl)
theorem dX2_solution_97 : decode cX2_solution 97 = .ok (.aaload, 1) := dk_50 (dk_at dksX2_solution_4 4 rfl rfl)
theorem dX2_solution_98 : decode cX2_solution 98 = .ok (.iload_n 1, 1) := dk_27 (dk_at dksX2_solution_4 5 rfl rfl)
theorem dX2_solution_99 : decode cX2_solution 99 = .ok (.iaload, 1) := dk_46 (dk_at dksX2_solution_4 6 rfl rfl)
theorem dX2_solution_100 : decode cX2_solution 100 = .ok (.invokevirtual 206, 3) := dk_182 0 206 (dk_at dksX2_solution_4 7 rfl rfl)
theorem dX2_solution_103 : decode cX2_solution 103 = .ok (.aload_n 0, 1) := dk_42 (dk_at dksX2_solution_4 10 rfl rfl)
theorem dX2_solution_104 : decode cX2_solution 104 = .ok (.iload 5, 2) := dk_21 5 (dk_at dksX2_solution_4 11 rfl rfl)
theorem dX2_solution_106 : decode cX2_solution 106 = .ok (.invokevirtual 110, 3) := dk_182 0 110 (dk_at dksX2_solution_4 13 rfl rfl)
theorem dX2_solution_109 : decode cX2_solution 109 = .ok (.invokevirtual 124, 3) := dk_182 0 124 (dk_at dksX2_solution_4 16 rfl rfl)
theorem dX2_solution_112 : decode cX2_solution 112 = .ok (.astore 4, 2) := dk_58 4 (dk_at dksX2_solution_4 19 rfl rfl)
theorem dX2_solution_114 : decode cX2_solution 114 = .ok (.iinc 5 1, 3) := dk_132 5 1 (dk_at dksX2_solution_4 21 rfl rfl)
theorem dX2_solution_117 : decode cX2_solution 117 = .ok (.goto (-40), 3) := dk_167 255 216 (dk_at dksX2_solution_5 0 rfl rfl)
theorem dX2_solution_120 : decode cX2_solution 120 = .ok (.aload 4, 2) := dk_25 4 (dk_at dksX2_solution_5 3 rfl rfl)
theorem dX2_solution_122 : decode cX2_solution 122 = .ok (.areturn, 1) := dk_176 (dk_at dksX2_solution_5 5 rfl rfl)
abbrev cX2_lambda_solution_3 : ByteArray := prog_6_method_30_code
def yX2_lambda_solution_3 : MethodName := ⟨RX2, "lambda$solution$3", "(III)I"⟩
def dkwX2_lambda_solution_3_1 : List UInt8 := [182, 0, 113, 42, 28, 182, 0, 117, 182, 0, 120, 167, 0, 9, 42, 29, 28, 182, 0, 203, 172]
abbrev dktX2_lambda_solution_3_1 : List UInt8 := dkwX2_lambda_solution_3_1 ++ []
def dkwX2_lambda_solution_3_0 : List UInt8 := [29, 27, 160, 0, 34, 42, 180, 0, 30, 42, 180, 0, 30, 42, 180, 0, 47, 42, 28, 182, 0, 110]
abbrev dktX2_lambda_solution_3_0 : List UInt8 := dkwX2_lambda_solution_3_0 ++ dktX2_lambda_solution_3_1
theorem dksX2_lambda_solution_3_0 : cX2_lambda_solution_3.data.toList.drop 0 = dktX2_lambda_solution_3_0 := by decide +kernel
theorem dksX2_lambda_solution_3_1 : cX2_lambda_solution_3.data.toList.drop 22 = dktX2_lambda_solution_3_1 := dk_seg dksX2_lambda_solution_3_0 22 rfl rfl
theorem dX2_lambda_solution_3_0 : decode cX2_lambda_solution_3 0 = .ok (.iload_n 3, 1) := dk_29 (dk_at dksX2_lambda_solution_3_0 0 rfl rfl)
theorem dX2_lambda_solution_3_1 : decode cX2_lambda_solution_3 1 = .ok (.iload_n 1, 1) := dk_27 (dk_at dksX2_lambda_solution_3_0 1 rfl rfl)
theorem dX2_lambda_solution_3_2 : decode cX2_lambda_solution_3 2 = .ok (.if_icmp .ne 34, 3) := dk_160 0 34 (dk_at dksX2_lambda_solution_3_0 2 rfl rfl)
theorem dX2_lambda_solution_3_5 : decode cX2_lambda_solution_3 5 = .ok (.aload_n 0, 1) := dk_42 (dk_at dksX2_lambda_solution_3_0 5 rfl rfl)
theorem dX2_lambda_solution_3_6 : decode cX2_lambda_solution_3 6 = .ok (.getfield 30, 3) := dk_180 0 30 (dk_at dksX2_lambda_solution_3_0 6 rfl rfl)
theorem dX2_lambda_solution_3_9 : decode cX2_lambda_solution_3 9 = .ok (.aload_n 0, 1) := dk_42 (dk_at dksX2_lambda_solution_3_0 9 rfl rfl)
theorem dX2_lambda_solution_3_10 : decode cX2_lambda_solution_3 10 = .ok (.getfield 30, 3) := dk_180 0 30 (dk_at dksX2_lambda_solution_3_0 10 rfl rfl)
theorem dX2_lambda_solution_3_13 : decode cX2_lambda_solution_3 13 = .ok (.aload_n 0, 1) := dk_42 (dk_at dksX2_lambda_solution_3_0 13 rfl rfl)
theorem dX2_lambda_solution_3_14 : decode cX2_lambda_solution_3 14 = .ok (.getfield 47, 3) := dk_180 0 47 (dk_at dksX2_lambda_solution_3_0 14 rfl rfl)
theorem dX2_lambda_solution_3_17 : decode cX2_lambda_solution_3 17 = .ok (.aload_n 0, 1) := dk_42 (dk_at dksX2_lambda_solution_3_0 17 rfl rfl)
theorem dX2_lambda_solution_3_18 : decode cX2_lambda_solution_3 18 = .ok (.iload_n 2, 1) := dk_28 (dk_at dksX2_lambda_solution_3_0 18 rfl rfl)
theorem dX2_lambda_solution_3_19 : decode cX2_lambda_solution_3 19 = .ok (.invokevirtual 110, 3) := dk_182 0 110 (dk_at dksX2_lambda_solution_3_0 19 rfl rfl)
theorem dX2_lambda_solution_3_22 : decode cX2_lambda_solution_3 22 = .ok (.invokevirtual 113, 3) := dk_182 0 113 (dk_at dksX2_lambda_solution_3_1 0 rfl rfl)
theorem dX2_lambda_solution_3_25 : decode cX2_lambda_solution_3 25 = .ok (.aload_n 0, 1) := dk_42 (dk_at dksX2_lambda_solution_3_1 3 rfl rfl)
theorem dX2_lambda_solution_3_26 : decode cX2_lambda_solution_3 26 = .ok (.iload_n 2, 1) := dk_28 (dk_at dksX2_lambda_solution_3_1 4 rfl rfl)
theorem dX2_lambda_solution_3_27 : decode cX2_lambda_solution_3 27 = .ok (.invokevirtual 117, 3) := dk_182 0 117 (dk_at dksX2_lambda_solution_3_1 5 rfl rfl)
theorem dX2_lambda_solution_3_30 : decode cX2_lambda_solution_3 30 = .ok (.invokevirtual 120, 3) := dk_182 0 120 (dk_at dksX2_lambda_solution_3_1 8 rfl rfl)
theorem dX2_lambda_solution_3_33 : decode cX2_lambda_solution_3 33 = .ok (.goto 9, 3) := dk_167 0 9 (dk_at dksX2_lambda_solution_3_1 11 rfl rfl)
theorem dX2_lambda_solution_3_36 : decode cX2_lambda_solution_3 36 = .ok (.aload_n 0, 1) := dk_42 (dk_at dksX2_lambda_solution_3_1 14 rfl rfl)
theorem dX2_lambda_solution_3_37 : decode cX2_lambda_solution_3 37 = .ok (.iload_n 3, 1) := dk_29 (dk_at dksX2_lambda_solution_3_1 15 rfl rfl)
theorem dX2_lambda_solution_3_38 : decode cX2_lambda_solution_3 38 = .ok (.iload_n 2, 1) := dk_28 (dk_at dksX2_lambda_solution_3_1 16 rfl rfl)
theorem dX2_lambda_solution_3_39 : decode cX2_lambda_solution_3 39 = .ok (.invokevirtual 203, 3) := dk_182 0 203 (dk_at dksX2_lambda_solution_3_1 17 rfl rfl)
theorem dX2_lambda_solution_3_42 : decode cX2_lambda_solution_3 42 = .ok (.ireturn, 1) := dk_172 (dk_at dksX2_lambda_solution_3_1 20 rfl rfl)
theorem q102 : (Jvm.Cond.initialized "ExactChains$Process") ∈ lw_all := lw_g (lw_at lw_m1 2 rfl) rfl
theorem q152 : (Jvm.Cond.instantiable "ExactChains$Process" (11 : Nat)) ∈ lw_all := lw_g (lw_at lw_m1 52 rfl) rfl
theorem q154 : (Jvm.Cond.instanceMethod ({ cls := "ExactChains$Process", name := "<init>", desc := "()V" } : Jvm.MethodName)) ∈ lw_all := lw_g (lw_at lw_m1 54 rfl) rfl
theorem q155 : (Jvm.Cond.code ({ cls := "ExactChains$Process", name := "<init>", desc := "()V" } : Jvm.MethodName) prog_6_method_3_code (1 : Nat) (Option.none : Option Jvm.ClassFile.FieldType)) ∈ lw_all := lw_g (lw_at lw_m1 55 rfl) rfl
theorem q156 : (Jvm.Cond.methodLink "ExactChains$Process" (57 : Nat) ({ cls := "ExactChains$Process", name := "<init>", desc := "(II)V" } : Jvm.MethodName)) ∈ lw_all := lw_g (lw_at lw_m1 56 rfl) rfl
theorem q157 : (Jvm.Cond.instanceMethod ({ cls := "ExactChains$Process", name := "<init>", desc := "(II)V" } : Jvm.MethodName)) ∈ lw_all := lw_g (lw_at lw_m1 57 rfl) rfl
theorem q158 : (Jvm.Cond.code ({ cls := "ExactChains$Process", name := "<init>", desc := "(II)V" } : Jvm.MethodName) prog_6_method_2_code (3 : Nat) (Option.none : Option Jvm.ClassFile.FieldType)) ∈ lw_all := lw_g (lw_at lw_m1 58 rfl) rfl
theorem q159 : (Jvm.Cond.classLink "ExactChains$Process" (51 : Nat) "ExactChains$Field") ∈ lw_all := lw_g (lw_at lw_m1 59 rfl) rfl
theorem q161 : (Jvm.Cond.methodLink "ExactChains$Process" (53 : Nat) ({ cls := "ExactChains$Field", name := "<init>", desc := "(I)V" } : Jvm.MethodName)) ∈ lw_all := lw_g (lw_at lw_m1 61 rfl) rfl
theorem q169 : (Jvm.Cond.fieldLinkNest "ExactChains$Process" (209 : Nat) "ExactChains$Field" "prime" "I" "ExactChains") ∈ lw_tbl := lw_at lw_m1 69 rfl
theorem q178 : (Jvm.Cond.methodLink "ExactChains$Process" (54 : Nat) ({ cls := "ExactChains$Process", name := "<init>", desc := "(LExactChains$Field;I)V" } : Jvm.MethodName)) ∈ lw_all := lw_g (lw_at lw_m1 78 rfl) rfl
theorem q179 : (Jvm.Cond.instanceMethod ({ cls := "ExactChains$Process", name := "<init>", desc := "(LExactChains$Field;I)V" } : Jvm.MethodName)) ∈ lw_all := lw_g (lw_at lw_m1 79 rfl) rfl
theorem q180 : (Jvm.Cond.code ({ cls := "ExactChains$Process", name := "<init>", desc := "(LExactChains$Field;I)V" } : Jvm.MethodName) prog_6_method_1_code (3 : Nat) (Option.none : Option Jvm.ClassFile.FieldType)) ∈ lw_all := lw_g (lw_at lw_m1 80 rfl) rfl
theorem q181 : (Jvm.Cond.methodLink "ExactChains$Process" (3 : Nat) ({ cls := "java/lang/Object", name := "<init>", desc := "()V" } : Jvm.MethodName)) ∈ lw_all := lw_g (lw_at lw_m1 81 rfl) rfl
theorem q182 : (Jvm.Cond.classLink "ExactChains$Process" (18 : Nat) "java/util/ArrayList") ∈ lw_all := lw_g (lw_at lw_m1 82 rfl) rfl
theorem q184 : (Jvm.Cond.methodLink "ExactChains$Process" (20 : Nat) ({ cls := "java/util/ArrayList", name := "<init>", desc := "(I)V" } : Jvm.MethodName)) ∈ lw_all := lw_g (lw_at lw_m1 84 rfl) rfl
theorem q547 : (Jvm.Cond.classLink "ExactChains$Process" (37 : Nat) "[[I") ∈ lw_all := lw_g (lw_at lw_m2 207 rfl) rfl
theorem q549 : (Jvm.Cond.classLink "ExactChains$Process" (42 : Nat) "ExactChains$Vector") ∈ lw_all := lw_g (lw_at lw_m2 209 rfl) rfl
theorem q551 : (Jvm.Cond.methodLink "ExactChains$Process" (44 : Nat) ({ cls := "ExactChains$Vector", name := "<init>", desc := "([I)V" } : Jvm.MethodName)) ∈ lw_all := lw_g (lw_at lw_m2 211 rfl) rfl
theorem q558 : (Jvm.Cond.fieldLinkNest "ExactChains$Process" (216 : Nat) "ExactChains$Vector" "numbers" "[I" "ExactChains") ∈ lw_tbl := lw_at lw_m2 218 rfl
theorem q562 : (Jvm.Cond.fieldLink "ExactChains$Process" (30 : Nat) "ExactChains$Process" "field" "LExactChains$Field;") ∈ lw_all := lw_g (lw_at lw_m2 222 rfl) rfl
theorem q565 : (Jvm.Cond.fieldLink "ExactChains$Process" (34 : Nat) "ExactChains$Process" "size" "I") ∈ lw_all := lw_g (lw_at lw_m2 225 rfl) rfl
theorem q568 : (Jvm.Cond.fieldLink "ExactChains$Process" (39 : Nat) "ExactChains$Process" "table" "[[I") ∈ lw_all := lw_g (lw_at lw_m2 228 rfl) rfl
theorem q570 : (Jvm.Cond.fieldLink "ExactChains$Process" (47 : Nat) "ExactChains$Process" "start" "LExactChains$Vector;") ∈ lw_all := lw_g (lw_at lw_m2 230 rfl) rfl
theorem q573 : (Jvm.Cond.fieldLink "ExactChains$Process" (9 : Nat) "ExactChains$Process" "limit" "I") ∈ lw_all := lw_g (lw_at lw_m2 233 rfl) rfl
theorem q576 : (Jvm.Cond.fieldLink "ExactChains$Process" (15 : Nat) "ExactChains$Process" "restarts" "I") ∈ lw_all := lw_g (lw_at lw_m2 236 rfl) rfl
theorem q579 : (Jvm.Cond.fieldLink "ExactChains$Process" (60 : Nat) "ExactChains$Process" "isFull" "Z") ∈ lw_all := lw_g (lw_at lw_m2 239 rfl) rfl
theorem q582 : (Jvm.Cond.fieldLink "ExactChains$Process" (23 : Nat) "ExactChains$Process" "directions" "Ljava/util/List;") ∈ lw_all := lw_g (lw_at lw_m3 2 rfl) rfl
theorem q584 : (Jvm.Cond.fieldLink "ExactChains$Process" (27 : Nat) "ExactChains$Process" "chains" "Ljava/util/List;") ∈ lw_all := lw_g (lw_at lw_m3 4 rfl) rfl
theorem q586 : (Jvm.Cond.fieldLink "ExactChains$Process" (70 : Nat) "ExactChains$Process" "finished" "I") ∈ lw_all := lw_g (lw_at lw_m3 6 rfl) rfl
theorem q588 : (Jvm.Cond.fieldLink "ExactChains$Process" (73 : Nat) "ExactChains$Process" "looked" "I") ∈ lw_all := lw_g (lw_at lw_m3 8 rfl) rfl
theorem q590 : (Jvm.Cond.laysFinal "ExactChains$Process" "ExactChains$Process" "field" "LExactChains$Field;") ∈ lw_all := lw_g (lw_at lw_m3 10 rfl) rfl
theorem q591 : (Jvm.Cond.soleField "ExactChains$Process" "field") ∈ lw_all := lw_g (lw_at lw_m3 11 rfl) rfl
theorem q592 : (Jvm.Cond.laysFinal "ExactChains$Process" "ExactChains$Process" "size" "I") ∈ lw_all := lw_g (lw_at lw_m3 12 rfl) rfl
theorem q593 : (Jvm.Cond.soleField "ExactChains$Process" "size") ∈ lw_all := lw_g (lw_at lw_m3 13 rfl) rfl
theorem q594 : (Jvm.Cond.lays "ExactChains$Process" "ExactChains$Process" "table" "[[I") ∈ lw_all := lw_g (lw_at lw_m3 14 rfl) rfl
theorem q595 : (Jvm.Cond.soleField "ExactChains$Process" "table") ∈ lw_all := lw_g (lw_at lw_m3 15 rfl) rfl
theorem q596 : (Jvm.Cond.lays "ExactChains$Process" "ExactChains$Process" "start" "LExactChains$Vector;") ∈ lw_all := lw_g (lw_at lw_m3 16 rfl) rfl
theorem q597 : (Jvm.Cond.soleField "ExactChains$Process" "start") ∈ lw_all := lw_g (lw_at lw_m3 17 rfl) rfl
theorem q598 : (Jvm.Cond.lays "ExactChains$Process" "ExactChains$Process" "limit" "I") ∈ lw_all := lw_g (lw_at lw_m3 18 rfl) rfl
theorem q599 : (Jvm.Cond.soleField "ExactChains$Process" "limit") ∈ lw_all := lw_g (lw_at lw_m3 19 rfl) rfl
theorem q600 : (Jvm.Cond.lays "ExactChains$Process" "ExactChains$Process" "restarts" "I") ∈ lw_all := lw_g (lw_at lw_m3 20 rfl) rfl
theorem q601 : (Jvm.Cond.soleField "ExactChains$Process" "restarts") ∈ lw_all := lw_g (lw_at lw_m3 21 rfl) rfl
theorem q602 : (Jvm.Cond.lays "ExactChains$Process" "ExactChains$Process" "isFull" "Z") ∈ lw_all := lw_g (lw_at lw_m3 22 rfl) rfl
theorem q603 : (Jvm.Cond.soleField "ExactChains$Process" "isFull") ∈ lw_all := lw_g (lw_at lw_m3 23 rfl) rfl
theorem q604 : (Jvm.Cond.laysFinal "ExactChains$Process" "ExactChains$Process" "directions" "Ljava/util/List;") ∈ lw_all := lw_g (lw_at lw_m3 24 rfl) rfl
theorem q605 : (Jvm.Cond.soleField "ExactChains$Process" "directions") ∈ lw_all := lw_g (lw_at lw_m3 25 rfl) rfl
theorem q606 : (Jvm.Cond.laysFinal "ExactChains$Process" "ExactChains$Process" "chains" "Ljava/util/List;") ∈ lw_all := lw_g (lw_at lw_m3 26 rfl) rfl
theorem q607 : (Jvm.Cond.soleField "ExactChains$Process" "chains") ∈ lw_all := lw_g (lw_at lw_m3 27 rfl) rfl
theorem q608 : (Jvm.Cond.lays "ExactChains$Process" "ExactChains$Process" "finished" "I") ∈ lw_all := lw_g (lw_at lw_m3 28 rfl) rfl
theorem q609 : (Jvm.Cond.soleField "ExactChains$Process" "finished") ∈ lw_all := lw_g (lw_at lw_m3 29 rfl) rfl
theorem q610 : (Jvm.Cond.lays "ExactChains$Process" "ExactChains$Process" "looked" "I") ∈ lw_all := lw_g (lw_at lw_m3 30 rfl) rfl
theorem q611 : (Jvm.Cond.soleField "ExactChains$Process" "looked") ∈ lw_all := lw_g (lw_at lw_m3 31 rfl) rfl
theorem q612 : (Jvm.Cond.superclass "ExactChains$Process" "java/lang/Object") ∈ lw_all := lw_g (lw_at lw_m3 32 rfl) rfl
theorem q671 : (Jvm.Cond.instanceMethod ({ cls := "ExactChains$Process", name := "anew", desc := "()LExactChains$Process;" } : Jvm.MethodName)) ∈ lw_all := lw_g (lw_at lw_m3 91 rfl) rfl
theorem q672 : (Jvm.Cond.selects "ExactChains$Process" ({ cls := "ExactChains$Process", name := "anew", desc := "()LExactChains$Process;" } : Jvm.MethodName) ({ cls := "ExactChains$Process", name := "anew", desc := "()LExactChains$Process;" } : Jvm.MethodName)) ∈ lw_all := lw_g (lw_at lw_m3 92 rfl) rfl
theorem q673 : (Jvm.Cond.code ({ cls := "ExactChains$Process", name := "anew", desc := "()LExactChains$Process;" } : Jvm.MethodName) prog_6_method_5_code (2 : Nat) (Option.some (Jvm.ClassFile.FieldType.object "ExactChains$Process"))) ∈ lw_all := lw_g (lw_at lw_m3 93 rfl) rfl
theorem q674 : (Jvm.Cond.methodLink "ExactChains$Process" (76 : Nat) ({ cls := "ExactChains$Process", name := "copy", desc := "()LExactChains$Process;" } : Jvm.MethodName)) ∈ lw_all := lw_g (lw_at lw_m3 94 rfl) rfl
theorem q675 : (Jvm.Cond.instanceMethod ({ cls := "ExactChains$Process", name := "copy", desc := "()LExactChains$Process;" } : Jvm.MethodName)) ∈ lw_all := lw_g (lw_at lw_m3 95 rfl) rfl
theorem q676 : (Jvm.Cond.selects "ExactChains$Process" ({ cls := "ExactChains$Process", name := "copy", desc := "()LExactChains$Process;" } : Jvm.MethodName) ({ cls := "ExactChains$Process", name := "copy", desc := "()LExactChains$Process;" } : Jvm.MethodName)) ∈ lw_all := lw_g (lw_at lw_m3 96 rfl) rfl
theorem q677 : (Jvm.Cond.code ({ cls := "ExactChains$Process", name := "copy", desc := "()LExactChains$Process;" } : Jvm.MethodName) prog_6_method_4_code (2 : Nat) (Option.some (Jvm.ClassFile.FieldType.object "ExactChains$Process"))) ∈ lw_all := lw_g (lw_at lw_m3 97 rfl) rfl
theorem q678 : (Jvm.Cond.classLink "ExactChains$Process" (10 : Nat) "ExactChains$Process") ∈ lw_all := lw_g (lw_at lw_m3 98 rfl) rfl
theorem q679 : (Jvm.Cond.interfaceEntry "ExactChains$Process" (64 : Nat)) ∈ lw_tbl := lw_at lw_m3 99 rfl
theorem q680 : (Jvm.Cond.methodLink "ExactChains$Process" (64 : Nat) ({ cls := "java/util/List", name := "addAll", desc := "(Ljava/util/Collection;)Z" } : Jvm.MethodName)) ∈ lw_all := lw_g (lw_at lw_m3 100 rfl) rfl
theorem q726 : (Jvm.Cond.selects "ExactChains$Process" ({ cls := "java/lang/Object", name := "getClass", desc := "()Ljava/lang/Class;" } : Jvm.MethodName) ({ cls := "java/lang/Object", name := "getClass", desc := "()Ljava/lang/Class;" } : Jvm.MethodName)) ∈ lw_all := lw_g (lw_at lw_m3 146 rfl) rfl
theorem q761 : (Jvm.Cond.interfaceEntry "ExactChains$Process" (80 : Nat)) ∈ lw_tbl := lw_at lw_m3 181 rfl
theorem q762 : (Jvm.Cond.methodLink "ExactChains$Process" (80 : Nat) ({ cls := "java/util/List", name := "clear", desc := "()V" } : Jvm.MethodName)) ∈ lw_all := lw_g (lw_at lw_m3 182 rfl) rfl
theorem q853 : (Jvm.Cond.instanceMethod ({ cls := "ExactChains$Process", name := "step", desc := "()I" } : Jvm.MethodName)) ∈ lw_all := lw_g (lw_at lw_m4 33 rfl) rfl
theorem q854 : (Jvm.Cond.selects "ExactChains$Process" ({ cls := "ExactChains$Process", name := "step", desc := "()I" } : Jvm.MethodName) ({ cls := "ExactChains$Process", name := "step", desc := "()I" } : Jvm.MethodName)) ∈ lw_all := lw_g (lw_at lw_m4 34 rfl) rfl
theorem q855 : (Jvm.Cond.code ({ cls := "ExactChains$Process", name := "step", desc := "()I" } : Jvm.MethodName) prog_6_method_18_code (1 : Nat) (Option.some Jvm.ClassFile.FieldType.int)) ∈ lw_all := lw_g (lw_at lw_m4 35 rfl) rfl
theorem q856 : (Jvm.Cond.interfaceEntry "ExactChains$Process" (186 : Nat)) ∈ lw_tbl := lw_at lw_m4 36 rfl
theorem q857 : (Jvm.Cond.methodLink "ExactChains$Process" (186 : Nat) ({ cls := "java/util/List", name := "isEmpty", desc := "()Z" } : Jvm.MethodName)) ∈ lw_all := lw_g (lw_at lw_m4 37 rfl) rfl
theorem q865 : (Jvm.Cond.methodLink "ExactChains$Process" (179 : Nat) ({ cls := "ExactChains$Process", name := "begins", desc := "()V" } : Jvm.MethodName)) ∈ lw_all := lw_g (lw_at lw_m4 45 rfl) rfl
theorem q866 : (Jvm.Cond.privateMethod ({ cls := "ExactChains$Process", name := "begins", desc := "()V" } : Jvm.MethodName)) ∈ lw_tbl := lw_at lw_m4 46 rfl
theorem q867 : (Jvm.Cond.instanceMethod ({ cls := "ExactChains$Process", name := "begins", desc := "()V" } : Jvm.MethodName)) ∈ lw_all := lw_g (lw_at lw_m4 47 rfl) rfl
theorem q868 : (Jvm.Cond.code ({ cls := "ExactChains$Process", name := "begins", desc := "()V" } : Jvm.MethodName) prog_6_method_13_code (1 : Nat) (Option.none : Option Jvm.ClassFile.FieldType)) ∈ lw_all := lw_g (lw_at lw_m4 48 rfl) rfl
theorem q869 : (Jvm.Cond.classLink "ExactChains$Process" (128 : Nat) "ExactChains$Chain") ∈ lw_all := lw_g (lw_at lw_m4 49 rfl) rfl
theorem q871 : (Jvm.Cond.interfaceEntry "ExactChains$Process" (108 : Nat)) ∈ lw_tbl := lw_at lw_m4 51 rfl
theorem q872 : (Jvm.Cond.methodLink "ExactChains$Process" (108 : Nat) ({ cls := "java/util/List", name := "size", desc := "()I" } : Jvm.MethodName)) ∈ lw_all := lw_g (lw_at lw_m4 52 rfl) rfl
theorem q880 : (Jvm.Cond.methodLinkNest "ExactChains$Process" (134 : Nat) ({ cls := "ExactChains$Chain", name := "<init>", desc := "(III)V" } : Jvm.MethodName) "ExactChains") ∈ lw_tbl := lw_at lw_m4 60 rfl
theorem q897 : (Jvm.Cond.interfaceEntry "ExactChains$Process" (137 : Nat)) ∈ lw_tbl := lw_at lw_m4 77 rfl
theorem q898 : (Jvm.Cond.methodLink "ExactChains$Process" (137 : Nat) ({ cls := "java/util/List", name := "add", desc := "(Ljava/lang/Object;)Z" } : Jvm.MethodName)) ∈ lw_all := lw_g (lw_at lw_m4 78 rfl) rfl
theorem q914 : (Jvm.Cond.methodLink "ExactChains$Process" (182 : Nat) ({ cls := "ExactChains$Process", name := "judges", desc := "(LExactChains$Vector;)I" } : Jvm.MethodName)) ∈ lw_all := lw_g (lw_at lw_m4 94 rfl) rfl
theorem q915 : (Jvm.Cond.privateMethod ({ cls := "ExactChains$Process", name := "judges", desc := "(LExactChains$Vector;)I" } : Jvm.MethodName)) ∈ lw_tbl := lw_at lw_m4 95 rfl
theorem q916 : (Jvm.Cond.instanceMethod ({ cls := "ExactChains$Process", name := "judges", desc := "(LExactChains$Vector;)I" } : Jvm.MethodName)) ∈ lw_all := lw_g (lw_at lw_m4 96 rfl) rfl
theorem q917 : (Jvm.Cond.code ({ cls := "ExactChains$Process", name := "judges", desc := "(LExactChains$Vector;)I" } : Jvm.MethodName) prog_6_method_16_code (3 : Nat) (Option.some Jvm.ClassFile.FieldType.int)) ∈ lw_all := lw_g (lw_at lw_m4 97 rfl) rfl
theorem q918 : (Jvm.Cond.methodLink "ExactChains$Process" (162 : Nat) ({ cls := "ExactChains$Vector", name := "isNull", desc := "()Z" } : Jvm.MethodName)) ∈ lw_all := lw_g (lw_at lw_m4 98 rfl) rfl
theorem q922 : (Jvm.Cond.methodLink "ExactChains$Process" (166 : Nat) ({ cls := "ExactChains$Process", name := "ends", desc := "(I)I" } : Jvm.MethodName)) ∈ lw_all := lw_g (lw_at lw_m4 102 rfl) rfl
theorem q923 : (Jvm.Cond.privateMethod ({ cls := "ExactChains$Process", name := "ends", desc := "(I)I" } : Jvm.MethodName)) ∈ lw_tbl := lw_at lw_m4 103 rfl
theorem q924 : (Jvm.Cond.instanceMethod ({ cls := "ExactChains$Process", name := "ends", desc := "(I)I" } : Jvm.MethodName)) ∈ lw_all := lw_g (lw_at lw_m4 104 rfl) rfl
theorem q925 : (Jvm.Cond.code ({ cls := "ExactChains$Process", name := "ends", desc := "(I)I" } : Jvm.MethodName) prog_6_method_15_code (2 : Nat) (Option.some Jvm.ClassFile.FieldType.int)) ∈ lw_all := lw_g (lw_at lw_m4 105 rfl) rfl
theorem q926 : (Jvm.Cond.methodLink "ExactChains$Process" (147 : Nat) ({ cls := "ExactChains$Process", name := "latest", desc := "()LExactChains$Chain;" } : Jvm.MethodName)) ∈ lw_all := lw_g (lw_at lw_m4 106 rfl) rfl
theorem q927 : (Jvm.Cond.privateMethod ({ cls := "ExactChains$Process", name := "latest", desc := "()LExactChains$Chain;" } : Jvm.MethodName)) ∈ lw_tbl := lw_at lw_m4 107 rfl
theorem q928 : (Jvm.Cond.instanceMethod ({ cls := "ExactChains$Process", name := "latest", desc := "()LExactChains$Chain;" } : Jvm.MethodName)) ∈ lw_all := lw_g (lw_at lw_m4 108 rfl) rfl
theorem q929 : (Jvm.Cond.code ({ cls := "ExactChains$Process", name := "latest", desc := "()LExactChains$Chain;" } : Jvm.MethodName) prog_6_method_11_code (1 : Nat) (Option.some (Jvm.ClassFile.FieldType.object "ExactChains$Chain"))) ∈ lw_all := lw_g (lw_at lw_m4 109 rfl) rfl
theorem q930 : (Jvm.Cond.interfaceEntry "ExactChains$Process" (90 : Nat)) ∈ lw_tbl := lw_at lw_m4 110 rfl
theorem q931 : (Jvm.Cond.methodLink "ExactChains$Process" (90 : Nat) ({ cls := "java/util/List", name := "get", desc := "(I)Ljava/lang/Object;" } : Jvm.MethodName)) ∈ lw_all := lw_g (lw_at lw_m4 111 rfl) rfl
theorem q949 : (Jvm.Cond.methodLink "ExactChains$Process" (154 : Nat) ({ cls := "ExactChains$Chain", name := "ended", desc := "(I)LExactChains$Chain;" } : Jvm.MethodName)) ∈ lw_all := lw_g (lw_at lw_m4 129 rfl) rfl
theorem q955 : (Jvm.Cond.methodLink "ExactChains$Process" (158 : Nat) ({ cls := "ExactChains$Process", name := "replaces", desc := "(LExactChains$Chain;)V" } : Jvm.MethodName)) ∈ lw_all := lw_g (lw_at lw_m4 135 rfl) rfl
theorem q956 : (Jvm.Cond.privateMethod ({ cls := "ExactChains$Process", name := "replaces", desc := "(LExactChains$Chain;)V" } : Jvm.MethodName)) ∈ lw_tbl := lw_at lw_m4 136 rfl
theorem q957 : (Jvm.Cond.instanceMethod ({ cls := "ExactChains$Process", name := "replaces", desc := "(LExactChains$Chain;)V" } : Jvm.MethodName)) ∈ lw_all := lw_g (lw_at lw_m4 137 rfl) rfl
theorem q958 : (Jvm.Cond.code ({ cls := "ExactChains$Process", name := "replaces", desc := "(LExactChains$Chain;)V" } : Jvm.MethodName) prog_6_method_12_code (3 : Nat) (Option.none : Option Jvm.ClassFile.FieldType)) ∈ lw_all := lw_g (lw_at lw_m4 138 rfl) rfl
theorem q959 : (Jvm.Cond.interfaceEntry "ExactChains$Process" (130 : Nat)) ∈ lw_tbl := lw_at lw_m4 139 rfl
theorem q960 : (Jvm.Cond.methodLink "ExactChains$Process" (130 : Nat) ({ cls := "java/util/List", name := "set", desc := "(ILjava/lang/Object;)Ljava/lang/Object;" } : Jvm.MethodName)) ∈ lw_all := lw_g (lw_at lw_m4 140 rfl) rfl
theorem q968 : (Jvm.Cond.methodLink "ExactChains$Process" (113 : Nat) ({ cls := "ExactChains$Field", name := "product", desc := "(LExactChains$Vector;LExactChains$Vector;)I" } : Jvm.MethodName)) ∈ lw_all := lw_g (lw_at lw_m4 148 rfl) rfl
theorem q976 : (Jvm.Cond.classLink "ExactChains$Process" (94 : Nat) "ExactChains$Direction") ∈ lw_all := lw_g (lw_at lw_m4 156 rfl) rfl
theorem q978 : (Jvm.Cond.methodLinkNest "ExactChains$Process" (169 : Nat) ({ cls := "ExactChains$Direction", name := "<init>", desc := "(LExactChains$Vector;II)V" } : Jvm.MethodName) "ExactChains") ∈ lw_tbl := lw_at lw_m4 158 rfl
theorem q992 : (Jvm.Cond.methodLink "ExactChains$Process" (172 : Nat) ({ cls := "ExactChains$Chain", name := "longer", desc := "()LExactChains$Chain;" } : Jvm.MethodName)) ∈ lw_all := lw_g (lw_at lw_m4 172 rfl) rfl
theorem q996 : (Jvm.Cond.methodLink "ExactChains$Process" (189 : Nat) ({ cls := "ExactChains$Chain", name := "cause", desc := "()I" } : Jvm.MethodName)) ∈ lw_all := lw_g (lw_at lw_m4 176 rfl) rfl
theorem q1000 : (Jvm.Cond.methodLink "ExactChains$Process" (192 : Nat) ({ cls := "ExactChains$Process", name := "restarts", desc := "()I" } : Jvm.MethodName)) ∈ lw_all := lw_g (lw_at lw_m4 180 rfl) rfl
theorem q1001 : (Jvm.Cond.privateMethod ({ cls := "ExactChains$Process", name := "restarts", desc := "()I" } : Jvm.MethodName)) ∈ lw_tbl := lw_at lw_m4 181 rfl
theorem q1002 : (Jvm.Cond.instanceMethod ({ cls := "ExactChains$Process", name := "restarts", desc := "()I" } : Jvm.MethodName)) ∈ lw_all := lw_g (lw_at lw_m4 182 rfl) rfl
theorem q1003 : (Jvm.Cond.code ({ cls := "ExactChains$Process", name := "restarts", desc := "()I" } : Jvm.MethodName) prog_6_method_17_code (2 : Nat) (Option.some Jvm.ClassFile.FieldType.int)) ∈ lw_all := lw_g (lw_at lw_m4 183 rfl) rfl
theorem q1004 : (Jvm.Cond.methodLink "ExactChains$Process" (175 : Nat) ({ cls := "ExactChains$Vector", name := "unit", desc := "(II)LExactChains$Vector;" } : Jvm.MethodName)) ∈ lw_all := lw_g (lw_at lw_m4 184 rfl) rfl
theorem q1009 : (Jvm.Cond.methodLink "ExactChains$Process" (144 : Nat) ({ cls := "ExactChains$Process", name := "remainder", desc := "(LExactChains$Vector;)LExactChains$Vector;" } : Jvm.MethodName)) ∈ lw_all := lw_g (lw_at lw_m4 189 rfl) rfl
theorem q1010 : (Jvm.Cond.instanceMethod ({ cls := "ExactChains$Process", name := "remainder", desc := "(LExactChains$Vector;)LExactChains$Vector;" } : Jvm.MethodName)) ∈ lw_all := lw_g (lw_at lw_m4 190 rfl) rfl
theorem q1011 : (Jvm.Cond.selects "ExactChains$Process" ({ cls := "ExactChains$Process", name := "remainder", desc := "(LExactChains$Vector;)LExactChains$Vector;" } : Jvm.MethodName) ({ cls := "ExactChains$Process", name := "remainder", desc := "(LExactChains$Vector;)LExactChains$Vector;" } : Jvm.MethodName)) ∈ lw_all := lw_g (lw_at lw_m4 191 rfl) rfl
theorem q1012 : (Jvm.Cond.code ({ cls := "ExactChains$Process", name := "remainder", desc := "(LExactChains$Vector;)LExactChains$Vector;" } : Jvm.MethodName) prog_6_method_10_code (4 : Nat) (Option.some (Jvm.ClassFile.FieldType.object "ExactChains$Vector"))) ∈ lw_all := lw_g (lw_at lw_m4 192 rfl) rfl
theorem q1013 : (Jvm.Cond.methodLink "ExactChains$Process" (110 : Nat) ({ cls := "ExactChains$Process", name := "vector", desc := "(I)LExactChains$Vector;" } : Jvm.MethodName)) ∈ lw_all := lw_g (lw_at lw_m4 193 rfl) rfl
theorem q1014 : (Jvm.Cond.instanceMethod ({ cls := "ExactChains$Process", name := "vector", desc := "(I)LExactChains$Vector;" } : Jvm.MethodName)) ∈ lw_all := lw_g (lw_at lw_m4 194 rfl) rfl
theorem q1015 : (Jvm.Cond.selects "ExactChains$Process" ({ cls := "ExactChains$Process", name := "vector", desc := "(I)LExactChains$Vector;" } : Jvm.MethodName) ({ cls := "ExactChains$Process", name := "vector", desc := "(I)LExactChains$Vector;" } : Jvm.MethodName)) ∈ lw_all := lw_g (lw_at lw_m4 195 rfl) rfl
theorem q1016 : (Jvm.Cond.code ({ cls := "ExactChains$Process", name := "vector", desc := "(I)LExactChains$Vector;" } : Jvm.MethodName) prog_6_method_7_code (2 : Nat) (Option.some (Jvm.ClassFile.FieldType.object "ExactChains$Vector"))) ∈ lw_all := lw_g (lw_at lw_m4 196 rfl) rfl
theorem q1017 : (Jvm.Cond.methodLink "ExactChains$Process" (96 : Nat) ({ cls := "ExactChains$Direction", name := "vector", desc := "()LExactChains$Vector;" } : Jvm.MethodName)) ∈ lw_all := lw_g (lw_at lw_m4 197 rfl) rfl
theorem q1021 : (Jvm.Cond.methodLink "ExactChains$Process" (117 : Nat) ({ cls := "ExactChains$Process", name := "norm", desc := "(I)I" } : Jvm.MethodName)) ∈ lw_all := lw_g (lw_at lw_m4 201 rfl) rfl
theorem q1022 : (Jvm.Cond.instanceMethod ({ cls := "ExactChains$Process", name := "norm", desc := "(I)I" } : Jvm.MethodName)) ∈ lw_all := lw_g (lw_at lw_m4 202 rfl) rfl
theorem q1023 : (Jvm.Cond.selects "ExactChains$Process" ({ cls := "ExactChains$Process", name := "norm", desc := "(I)I" } : Jvm.MethodName) ({ cls := "ExactChains$Process", name := "norm", desc := "(I)I" } : Jvm.MethodName)) ∈ lw_all := lw_g (lw_at lw_m4 203 rfl) rfl
theorem q1024 : (Jvm.Cond.code ({ cls := "ExactChains$Process", name := "norm", desc := "(I)I" } : Jvm.MethodName) prog_6_method_8_code (2 : Nat) (Option.some Jvm.ClassFile.FieldType.int)) ∈ lw_all := lw_g (lw_at lw_m4 204 rfl) rfl
theorem q1025 : (Jvm.Cond.methodLink "ExactChains$Process" (100 : Nat) ({ cls := "ExactChains$Direction", name := "norm", desc := "()I" } : Jvm.MethodName)) ∈ lw_all := lw_g (lw_at lw_m4 205 rfl) rfl
theorem q1029 : (Jvm.Cond.methodLink "ExactChains$Process" (120 : Nat) ({ cls := "ExactChains$Field", name := "quotient", desc := "(II)I" } : Jvm.MethodName)) ∈ lw_all := lw_g (lw_at lw_m4 209 rfl) rfl
theorem q1033 : (Jvm.Cond.methodLink "ExactChains$Process" (124 : Nat) ({ cls := "ExactChains$Field", name := "without", desc := "(LExactChains$Vector;ILExactChains$Vector;)LExactChains$Vector;" } : Jvm.MethodName)) ∈ lw_all := lw_g (lw_at lw_m4 213 rfl) rfl
theorem q1047 : (Jvm.Cond.methodLink "ExactChains$Process" (151 : Nat) ({ cls := "ExactChains$Chain", name := "many", desc := "()I" } : Jvm.MethodName)) ∈ lw_all := lw_g (lw_at lw_m4 227 rfl) rfl
theorem q1051 : (Jvm.Cond.methodLink "ExactChains$Process" (194 : Nat) ({ cls := "ExactChains$Process", name := "candidate", desc := "()LExactChains$Vector;" } : Jvm.MethodName)) ∈ lw_all := lw_g (lw_at lw_m4 231 rfl) rfl
theorem q1052 : (Jvm.Cond.privateMethod ({ cls := "ExactChains$Process", name := "candidate", desc := "()LExactChains$Vector;" } : Jvm.MethodName)) ∈ lw_tbl := lw_at lw_m4 232 rfl
theorem q1053 : (Jvm.Cond.instanceMethod ({ cls := "ExactChains$Process", name := "candidate", desc := "()LExactChains$Vector;" } : Jvm.MethodName)) ∈ lw_all := lw_g (lw_at lw_m4 233 rfl) rfl
theorem q1054 : (Jvm.Cond.code ({ cls := "ExactChains$Process", name := "candidate", desc := "()LExactChains$Vector;" } : Jvm.MethodName) prog_6_method_14_code (5 : Nat) (Option.some (Jvm.ClassFile.FieldType.object "ExactChains$Vector"))) ∈ lw_all := lw_g (lw_at lw_m4 234 rfl) rfl
theorem q1055 : (Jvm.Cond.methodLink "ExactChains$Process" (141 : Nat) ({ cls := "ExactChains$Process", name := "times", desc := "(LExactChains$Vector;)LExactChains$Vector;" } : Jvm.MethodName)) ∈ lw_all := lw_g (lw_at lw_m4 235 rfl) rfl
theorem q1056 : (Jvm.Cond.instanceMethod ({ cls := "ExactChains$Process", name := "times", desc := "(LExactChains$Vector;)LExactChains$Vector;" } : Jvm.MethodName)) ∈ lw_all := lw_g (lw_at lw_m4 236 rfl) rfl
theorem q1057 : (Jvm.Cond.selects "ExactChains$Process" ({ cls := "ExactChains$Process", name := "times", desc := "(LExactChains$Vector;)LExactChains$Vector;" } : Jvm.MethodName) ({ cls := "ExactChains$Process", name := "times", desc := "(LExactChains$Vector;)LExactChains$Vector;" } : Jvm.MethodName)) ∈ lw_all := lw_g (lw_at lw_m4 237 rfl) rfl
theorem q1058 : (Jvm.Cond.code ({ cls := "ExactChains$Process", name := "times", desc := "(LExactChains$Vector;)LExactChains$Vector;" } : Jvm.MethodName) prog_6_method_9_code (2 : Nat) (Option.some (Jvm.ClassFile.FieldType.object "ExactChains$Vector"))) ∈ lw_all := lw_g (lw_at lw_m4 238 rfl) rfl
theorem q1059 : (Jvm.Cond.methodLink "ExactChains$Process" (104 : Nat) ({ cls := "ExactChains$Field", name := "times", desc := "([[ILExactChains$Vector;)LExactChains$Vector;" } : Jvm.MethodName)) ∈ lw_all := lw_g (lw_at lw_m4 239 rfl) rfl
theorem q1084 : (Jvm.Cond.instanceMethod ({ cls := "ExactChains$Process", name := "rank", desc := "()I" } : Jvm.MethodName)) ∈ lw_all := lw_g (lw_at lw_m5 24 rfl) rfl
theorem q1085 : (Jvm.Cond.selects "ExactChains$Process" ({ cls := "ExactChains$Process", name := "rank", desc := "()I" } : Jvm.MethodName) ({ cls := "ExactChains$Process", name := "rank", desc := "()I" } : Jvm.MethodName)) ∈ lw_all := lw_g (lw_at lw_m5 25 rfl) rfl
theorem q1086 : (Jvm.Cond.code ({ cls := "ExactChains$Process", name := "rank", desc := "()I" } : Jvm.MethodName) prog_6_method_24_code (3 : Nat) (Option.some Jvm.ClassFile.FieldType.int)) ∈ lw_all := lw_g (lw_at lw_m5 26 rfl) rfl
theorem q1087 : (Jvm.Cond.methodLink "ExactChains$Process" (220 : Nat) ({ cls := "java/lang/System", name := "arraycopy", desc := "(Ljava/lang/Object;ILjava/lang/Object;II)V" } : Jvm.MethodName)) ∈ lw_all := lw_g (lw_at lw_m5 27 rfl) rfl
theorem q1088 : (Jvm.Cond.classLink "ExactChains$Process" (226 : Nat) "ExactChains$Steps") ∈ lw_all := lw_g (lw_at lw_m5 28 rfl) rfl
theorem q1090 : (Jvm.Cond.methodLink "ExactChains$Process" (228 : Nat) ({ cls := "ExactChains$Steps", name := "<init>", desc := "(LExactChains$Field;[[I)V" } : Jvm.MethodName)) ∈ lw_all := lw_g (lw_at lw_m5 30 rfl) rfl
theorem q1113 : (Jvm.Cond.fieldLinkNest "ExactChains$Process" (231 : Nat) "ExactChains$Steps" "rank" "I" "ExactChains") ∈ lw_tbl := lw_at lw_m5 53 rfl
theorem q1115 : (Jvm.Cond.fieldLinkNest "ExactChains$Process" (241 : Nat) "ExactChains$Steps" "determinant" "I" "ExactChains") ∈ lw_tbl := lw_at lw_m5 55 rfl
theorem q1135 : (Jvm.Cond.instanceMethod ({ cls := "ExactChains$Process", name := "projected", desc := "(I)[[I" } : Jvm.MethodName)) ∈ lw_all := lw_g (lw_at lw_m5 75 rfl) rfl
theorem q1136 : (Jvm.Cond.selects "ExactChains$Process" ({ cls := "ExactChains$Process", name := "projected", desc := "(I)[[I" } : Jvm.MethodName) ({ cls := "ExactChains$Process", name := "projected", desc := "(I)[[I" } : Jvm.MethodName)) ∈ lw_all := lw_g (lw_at lw_m5 76 rfl) rfl
theorem q1137 : (Jvm.Cond.code ({ cls := "ExactChains$Process", name := "projected", desc := "(I)[[I" } : Jvm.MethodName) prog_6_method_20_code (2 : Nat) (Option.some (Jvm.ClassFile.FieldType.array (Jvm.ClassFile.FieldType.array Jvm.ClassFile.FieldType.int)))) ∈ lw_all := lw_g (lw_at lw_m5 77 rfl) rfl
theorem q1138 : (Jvm.Cond.privateMethod ({ cls := "ExactChains$Process", name := "lambda$projected$1", desc := "(II)I" } : Jvm.MethodName)) ∈ lw_tbl := lw_at lw_m5 78 rfl
theorem q1139 : (Jvm.Cond.instanceMethod ({ cls := "ExactChains$Process", name := "lambda$projected$1", desc := "(II)I" } : Jvm.MethodName)) ∈ lw_all := lw_g (lw_at lw_m5 79 rfl) rfl
theorem q1140 : (Jvm.Cond.code ({ cls := "ExactChains$Process", name := "lambda$projected$1", desc := "(II)I" } : Jvm.MethodName) prog_6_method_32_code (3 : Nat) (Option.some Jvm.ClassFile.FieldType.int)) ∈ lw_all := lw_g (lw_at lw_m5 80 rfl) rfl
theorem q1141 : (Jvm.Cond.methodLink "ExactChains$Process" (203 : Nat) ({ cls := "ExactChains$Process", name := "projected", desc := "(II)I" } : Jvm.MethodName)) ∈ lw_all := lw_g (lw_at lw_m5 81 rfl) rfl
theorem q1142 : (Jvm.Cond.instanceMethod ({ cls := "ExactChains$Process", name := "projected", desc := "(II)I" } : Jvm.MethodName)) ∈ lw_all := lw_g (lw_at lw_m5 82 rfl) rfl
theorem q1143 : (Jvm.Cond.selects "ExactChains$Process" ({ cls := "ExactChains$Process", name := "projected", desc := "(II)I" } : Jvm.MethodName) ({ cls := "ExactChains$Process", name := "projected", desc := "(II)I" } : Jvm.MethodName)) ∈ lw_all := lw_g (lw_at lw_m5 83 rfl) rfl
theorem q1144 : (Jvm.Cond.code ({ cls := "ExactChains$Process", name := "projected", desc := "(II)I" } : Jvm.MethodName) prog_6_method_19_code (3 : Nat) (Option.some Jvm.ClassFile.FieldType.int)) ∈ lw_all := lw_g (lw_at lw_m5 84 rfl) rfl
theorem q1145 : (Jvm.Cond.methodLink "ExactChains$Process" (87 : Nat) ({ cls := "ExactChains$Field", name := "table", desc := "(IILExactChains$Cell;)[[I" } : Jvm.MethodName)) ∈ lw_all := lw_g (lw_at lw_m5 85 rfl) rfl
theorem q1173 : (Jvm.Cond.instanceMethod ({ cls := "ExactChains$Process", name := "determinantAt", desc := "(I)I" } : Jvm.MethodName)) ∈ lw_all := lw_g (lw_at lw_m5 113 rfl) rfl
theorem q1174 : (Jvm.Cond.selects "ExactChains$Process" ({ cls := "ExactChains$Process", name := "determinantAt", desc := "(I)I" } : Jvm.MethodName) ({ cls := "ExactChains$Process", name := "determinantAt", desc := "(I)I" } : Jvm.MethodName)) ∈ lw_all := lw_g (lw_at lw_m5 114 rfl) rfl
theorem q1175 : (Jvm.Cond.code ({ cls := "ExactChains$Process", name := "determinantAt", desc := "(I)I" } : Jvm.MethodName) prog_6_method_26_code (2 : Nat) (Option.some Jvm.ClassFile.FieldType.int)) ∈ lw_all := lw_g (lw_at lw_m5 115 rfl) rfl
theorem q1176 : (Jvm.Cond.methodLink "ExactChains$Process" (237 : Nat) ({ cls := "ExactChains$Process", name := "lessUnit", desc := "(I)LExactChains$Steps;" } : Jvm.MethodName)) ∈ lw_all := lw_g (lw_at lw_m5 116 rfl) rfl
theorem q1177 : (Jvm.Cond.privateMethod ({ cls := "ExactChains$Process", name := "lessUnit", desc := "(I)LExactChains$Steps;" } : Jvm.MethodName)) ∈ lw_tbl := lw_at lw_m5 117 rfl
theorem q1178 : (Jvm.Cond.instanceMethod ({ cls := "ExactChains$Process", name := "lessUnit", desc := "(I)LExactChains$Steps;" } : Jvm.MethodName)) ∈ lw_all := lw_g (lw_at lw_m5 118 rfl) rfl
theorem q1179 : (Jvm.Cond.code ({ cls := "ExactChains$Process", name := "lessUnit", desc := "(I)LExactChains$Steps;" } : Jvm.MethodName) prog_6_method_25_code (2 : Nat) (Option.some (Jvm.ClassFile.FieldType.object "ExactChains$Steps"))) ∈ lw_all := lw_g (lw_at lw_m5 119 rfl) rfl
theorem q1180 : (Jvm.Cond.privateMethod ({ cls := "ExactChains$Process", name := "lambda$lessUnit$2", desc := "(III)I" } : Jvm.MethodName)) ∈ lw_tbl := lw_at lw_m5 120 rfl
theorem q1181 : (Jvm.Cond.instanceMethod ({ cls := "ExactChains$Process", name := "lambda$lessUnit$2", desc := "(III)I" } : Jvm.MethodName)) ∈ lw_all := lw_g (lw_at lw_m5 121 rfl) rfl
theorem q1182 : (Jvm.Cond.code ({ cls := "ExactChains$Process", name := "lambda$lessUnit$2", desc := "(III)I" } : Jvm.MethodName) prog_6_method_31_code (4 : Nat) (Option.some Jvm.ClassFile.FieldType.int)) ∈ lw_all := lw_g (lw_at lw_m5 122 rfl) rfl
theorem q1183 : (Jvm.Cond.methodLink "ExactChains$Process" (206 : Nat) ({ cls := "ExactChains$Field", name := "less", desc := "(II)I" } : Jvm.MethodName)) ∈ lw_all := lw_g (lw_at lw_m5 123 rfl) rfl
theorem q1192 : (Jvm.Cond.instanceMethod ({ cls := "ExactChains$Process", name := "dimension", desc := "(I)I" } : Jvm.MethodName)) ∈ lw_all := lw_g (lw_at lw_m5 132 rfl) rfl
theorem q1193 : (Jvm.Cond.selects "ExactChains$Process" ({ cls := "ExactChains$Process", name := "dimension", desc := "(I)I" } : Jvm.MethodName) ({ cls := "ExactChains$Process", name := "dimension", desc := "(I)I" } : Jvm.MethodName)) ∈ lw_all := lw_g (lw_at lw_m5 133 rfl) rfl
theorem q1194 : (Jvm.Cond.code ({ cls := "ExactChains$Process", name := "dimension", desc := "(I)I" } : Jvm.MethodName) prog_6_method_27_code (2 : Nat) (Option.some Jvm.ClassFile.FieldType.int)) ∈ lw_all := lw_g (lw_at lw_m5 134 rfl) rfl
theorem q1200 : (Jvm.Cond.instanceMethod ({ cls := "ExactChains$Process", name := "reach", desc := "(LExactChains$Vector;)I" } : Jvm.MethodName)) ∈ lw_all := lw_g (lw_at lw_m5 140 rfl) rfl
theorem q1201 : (Jvm.Cond.selects "ExactChains$Process" ({ cls := "ExactChains$Process", name := "reach", desc := "(LExactChains$Vector;)I" } : Jvm.MethodName) ({ cls := "ExactChains$Process", name := "reach", desc := "(LExactChains$Vector;)I" } : Jvm.MethodName)) ∈ lw_all := lw_g (lw_at lw_m5 141 rfl) rfl
theorem q1202 : (Jvm.Cond.code ({ cls := "ExactChains$Process", name := "reach", desc := "(LExactChains$Vector;)I" } : Jvm.MethodName) prog_6_method_28_code (5 : Nat) (Option.some Jvm.ClassFile.FieldType.int)) ∈ lw_all := lw_g (lw_at lw_m5 142 rfl) rfl
theorem q1611 : (Jvm.Cond.instanceMethod ({ cls := "ExactChains$Process", name := "sets", desc := "(III)V" } : Jvm.MethodName)) ∈ lw_all := lw_g (lw_at lw_m7 71 rfl) rfl
theorem q1612 : (Jvm.Cond.selects "ExactChains$Process" ({ cls := "ExactChains$Process", name := "sets", desc := "(III)V" } : Jvm.MethodName) ({ cls := "ExactChains$Process", name := "sets", desc := "(III)V" } : Jvm.MethodName)) ∈ lw_all := lw_g (lw_at lw_m7 72 rfl) rfl
theorem q1613 : (Jvm.Cond.code ({ cls := "ExactChains$Process", name := "sets", desc := "(III)V" } : Jvm.MethodName) prog_6_method_6_code (4 : Nat) (Option.none : Option Jvm.ClassFile.FieldType)) ∈ lw_all := lw_g (lw_at lw_m7 73 rfl) rfl
theorem q1614 : (Jvm.Cond.privateMethod ({ cls := "ExactChains$Process", name := "lambda$sets$0", desc := "(IIIII)I" } : Jvm.MethodName)) ∈ lw_tbl := lw_at lw_m7 74 rfl
theorem q1615 : (Jvm.Cond.instanceMethod ({ cls := "ExactChains$Process", name := "lambda$sets$0", desc := "(IIIII)I" } : Jvm.MethodName)) ∈ lw_all := lw_g (lw_at lw_m7 75 rfl) rfl
theorem q1616 : (Jvm.Cond.code ({ cls := "ExactChains$Process", name := "lambda$sets$0", desc := "(IIIII)I" } : Jvm.MethodName) prog_6_method_33_code (6 : Nat) (Option.some Jvm.ClassFile.FieldType.int)) ∈ lw_all := lw_g (lw_at lw_m7 76 rfl) rfl
theorem q1786 : (Jvm.Cond.instanceMethod ({ cls := "ExactChains$Process", name := "polynomial", desc := "(LExactChains$Chain;I)I" } : Jvm.MethodName)) ∈ lw_all := lw_g (lw_at lw_m8 6 rfl) rfl
theorem q1787 : (Jvm.Cond.selects "ExactChains$Process" ({ cls := "ExactChains$Process", name := "polynomial", desc := "(LExactChains$Chain;I)I" } : Jvm.MethodName) ({ cls := "ExactChains$Process", name := "polynomial", desc := "(LExactChains$Chain;I)I" } : Jvm.MethodName)) ∈ lw_all := lw_g (lw_at lw_m8 7 rfl) rfl
theorem q1788 : (Jvm.Cond.code ({ cls := "ExactChains$Process", name := "polynomial", desc := "(LExactChains$Chain;I)I" } : Jvm.MethodName) prog_6_method_21_code (8 : Nat) (Option.some Jvm.ClassFile.FieldType.int)) ∈ lw_all := lw_g (lw_at lw_m8 8 rfl) rfl
theorem q1789 : (Jvm.Cond.methodLink "ExactChains$Process" (200 : Nat) ({ cls := "ExactChains$Chain", name := "first", desc := "()I" } : Jvm.MethodName)) ∈ lw_all := lw_g (lw_at lw_m8 9 rfl) rfl
theorem q1790 : (Jvm.Cond.methodLink "ExactChains$Process" (212 : Nat) ({ cls := "ExactChains$Field", name := "lessTimes", desc := "(III)I" } : Jvm.MethodName)) ∈ lw_all := lw_g (lw_at lw_m8 10 rfl) rfl
theorem q1806 : (Jvm.Cond.instanceMethod ({ cls := "ExactChains$Process", name := "coefficients", desc := "(LExactChains$Chain;)[I" } : Jvm.MethodName)) ∈ lw_all := lw_g (lw_at lw_m8 26 rfl) rfl
theorem q1807 : (Jvm.Cond.selects "ExactChains$Process" ({ cls := "ExactChains$Process", name := "coefficients", desc := "(LExactChains$Chain;)[I" } : Jvm.MethodName) ({ cls := "ExactChains$Process", name := "coefficients", desc := "(LExactChains$Chain;)[I" } : Jvm.MethodName)) ∈ lw_all := lw_g (lw_at lw_m8 27 rfl) rfl
theorem q1808 : (Jvm.Cond.code ({ cls := "ExactChains$Process", name := "coefficients", desc := "(LExactChains$Chain;)[I" } : Jvm.MethodName) prog_6_method_22_code (9 : Nat) (Option.some (Jvm.ClassFile.FieldType.array Jvm.ClassFile.FieldType.int))) ∈ lw_all := lw_g (lw_at lw_m8 28 rfl) rfl
theorem q1818 : (Jvm.Cond.instanceMethod ({ cls := "ExactChains$Process", name := "applied", desc := "([ILExactChains$Vector;)LExactChains$Vector;" } : Jvm.MethodName)) ∈ lw_all := lw_g (lw_at lw_m8 38 rfl) rfl
theorem q1819 : (Jvm.Cond.selects "ExactChains$Process" ({ cls := "ExactChains$Process", name := "applied", desc := "([ILExactChains$Vector;)LExactChains$Vector;" } : Jvm.MethodName) ({ cls := "ExactChains$Process", name := "applied", desc := "([ILExactChains$Vector;)LExactChains$Vector;" } : Jvm.MethodName)) ∈ lw_all := lw_g (lw_at lw_m8 39 rfl) rfl
theorem q1820 : (Jvm.Cond.code ({ cls := "ExactChains$Process", name := "applied", desc := "([ILExactChains$Vector;)LExactChains$Vector;" } : Jvm.MethodName) prog_6_method_23_code (5 : Nat) (Option.some (Jvm.ClassFile.FieldType.object "ExactChains$Vector"))) ∈ lw_all := lw_g (lw_at lw_m8 40 rfl) rfl
theorem q1899 : (Jvm.Cond.instanceMethod ({ cls := "ExactChains$Process", name := "solution", desc := "()LExactChains$Vector;" } : Jvm.MethodName)) ∈ lw_all := lw_g (lw_at lw_m8 119 rfl) rfl
theorem q1900 : (Jvm.Cond.selects "ExactChains$Process" ({ cls := "ExactChains$Process", name := "solution", desc := "()LExactChains$Vector;" } : Jvm.MethodName) ({ cls := "ExactChains$Process", name := "solution", desc := "()LExactChains$Vector;" } : Jvm.MethodName)) ∈ lw_all := lw_g (lw_at lw_m8 120 rfl) rfl
theorem q1901 : (Jvm.Cond.code ({ cls := "ExactChains$Process", name := "solution", desc := "()LExactChains$Vector;" } : Jvm.MethodName) prog_6_method_29_code (6 : Nat) (Option.some (Jvm.ClassFile.FieldType.object "ExactChains$Vector"))) ∈ lw_all := lw_g (lw_at lw_m8 121 rfl) rfl
theorem q1902 : (Jvm.Cond.privateMethod ({ cls := "ExactChains$Process", name := "lambda$solution$3", desc := "(III)I" } : Jvm.MethodName)) ∈ lw_tbl := lw_at lw_m8 122 rfl
theorem q1903 : (Jvm.Cond.instanceMethod ({ cls := "ExactChains$Process", name := "lambda$solution$3", desc := "(III)I" } : Jvm.MethodName)) ∈ lw_all := lw_g (lw_at lw_m8 123 rfl) rfl
theorem q1904 : (Jvm.Cond.code ({ cls := "ExactChains$Process", name := "lambda$solution$3", desc := "(III)I" } : Jvm.MethodName) prog_6_method_30_code (4 : Nat) (Option.some Jvm.ClassFile.FieldType.int)) ∈ lw_all := lw_g (lw_at lw_m8 124 rfl) rfl
theorem q1905 : (Jvm.Cond.methodLink "ExactChains$Process" (245 : Nat) ({ cls := "ExactChains$Steps", name := "<init>", desc := "(LExactChains$Field;I[[I)V" } : Jvm.MethodName)) ∈ lw_all := lw_g (lw_at lw_m8 125 rfl) rfl
theorem q2512 : (Jvm.Cond.castable "ExactChains$Process" "java/lang/Object") ∈ lw_tbl := lw_at lw_m11 12 rfl
theorem in_X2 : ∀ w ∈ wsX20, w ∈ lw_all := lw_in wsX20 [590, 592, 594, 596, 598, 600, 602, 604, 606, 608, 610] (by decide +kernel) (by decide +kernel)
/-! ExactChains$Field -/
set_option maxRecDepth 100000
def RX3 : String := "ExactChains$Field"
def TX3 : u_T := fun k => match k with
  | 0 => ("ExactChains$Field", "prime", "I", true)
  | _ => ("ExactChains$Field", "inverses", "[I", true)
def tyX3 : Nat → FieldType := fun k => match k with
  | 0 => .int
  | _ => .array .int
abbrev wsX30 : List Cond := u_ws RX3 TX3 2
theorem nmX3 : ∀ a, a < 2 → ∀ b, b < 2 → a ≠ b → (TX3 a).2.1 ≠ (TX3 b).2.1 := by decide +kernel
theorem tyX3_ok : ∀ k, k < 2 → parseFieldDescriptor (TX3 k).2.2.1 = some (tyX3 k) := by decide +kernel
abbrev cX3_init : ByteArray := prog_5_method_1_code
def yX3_init : MethodName := ⟨RX3, "<init>", "(I)V"⟩
def dkwX3_init_2 : List UInt8 := [132, 3, 1, 167, 255, 232, 132, 2, 1, 167, 255, 219, 177]
abbrev dktX3_init_2 : List UInt8 := dkwX3_init_2 ++ []
def dkwX3_init_1 : List UInt8 := [4, 62, 29, 27, 162, 0, 25, 28, 29, 104, 27, 112, 4, 160, 0, 10, 42, 180, 0, 9, 28, 29, 79]
abbrev dktX3_init_1 : List UInt8 := dkwX3_init_1 ++ dktX3_init_2
def dkwX3_init_0 : List UInt8 := [42, 183, 0, 3, 42, 16, 97, 188, 10, 181, 0, 9, 42, 27, 181, 0, 15, 4, 61, 28, 27, 162, 0, 38]
abbrev dktX3_init_0 : List UInt8 := dkwX3_init_0 ++ dktX3_init_1
theorem dksX3_init_0 : cX3_init.data.toList.drop 0 = dktX3_init_0 := by decide +kernel
theorem dksX3_init_1 : cX3_init.data.toList.drop 24 = dktX3_init_1 := dk_seg dksX3_init_0 24 rfl rfl
theorem dksX3_init_2 : cX3_init.data.toList.drop 47 = dktX3_init_2 := dk_seg dksX3_init_1 23 rfl rfl
theorem dX3_init_0 : decode cX3_init 0 = .ok (.aload_n 0, 1) := dk_42 (dk_at dksX3_init_0 0 rfl rfl)
theorem dX3_init_1 : decode cX3_init 1 = .ok (.invokespecial 3, 3) := dk_183 0 3 (dk_at dksX3_init_0 1 rfl rfl)
theorem dX3_init_4 : decode cX3_init 4 = .ok (.aload_n 0, 1) := dk_42 (dk_at dksX3_init_0 4 rfl rfl)
theorem dX3_init_5 : decode cX3_init 5 = .ok (.bipush 97, 2) := dk_16 97 (dk_at dksX3_init_0 5 rfl rfl)
theorem dX3_init_7 : decode cX3_init 7 = .ok (.newarray .int, 2) := dk_188_10 (dk_at dksX3_init_0 7 rfl rfl)
theorem dX3_init_9 : decode cX3_init 9 = .ok (.putfield 9, 3) := dk_181 0 9 (dk_at dksX3_init_0 9 rfl rfl)
theorem dX3_init_12 : decode cX3_init 12 = .ok (.aload_n 0, 1) := dk_42 (dk_at dksX3_init_0 12 rfl rfl)
theorem dX3_init_13 : decode cX3_init 13 = .ok (.iload_n 1, 1) := dk_27 (dk_at dksX3_init_0 13 rfl rfl)
theorem dX3_init_14 : decode cX3_init 14 = .ok (.putfield 15, 3) := dk_181 0 15 (dk_at dksX3_init_0 14 rfl rfl)
theorem dX3_init_17 : decode cX3_init 17 = .ok (.iconst 1, 1) := dk_4 (dk_at dksX3_init_0 17 rfl rfl)
theorem dX3_init_18 : decode cX3_init 18 = .ok (.istore_n 2, 1) := dk_61 (dk_at dksX3_init_0 18 rfl rfl)
theorem dX3_init_19 : decode cX3_init 19 = .ok (.iload_n 2, 1) := dk_28 (dk_at dksX3_init_0 19 rfl rfl)
theorem dX3_init_20 : decode cX3_init 20 = .ok (.iload_n 1, 1) := dk_27 (dk_at dksX3_init_0 20 rfl rfl)
theorem dX3_init_21 : decode cX3_init 21 = .ok (.if_icmp .ge 38, 3) := dk_162 0 38 (dk_at dksX3_init_0 21 rfl rfl)
theorem dX3_init_24 : decode cX3_init 24 = .ok (.iconst 1, 1) := dk_4 (dk_at dksX3_init_1 0 rfl rfl)
theorem dX3_init_25 : decode cX3_init 25 = .ok (.istore_n 3, 1) := dk_62 (dk_at dksX3_init_1 1 rfl rfl)
theorem dX3_init_26 : decode cX3_init 26 = .ok (.iload_n 3, 1) := dk_29 (dk_at dksX3_init_1 2 rfl rfl)
theorem dX3_init_27 : decode cX3_init 27 = .ok (.iload_n 1, 1) := dk_27 (dk_at dksX3_init_1 3 rfl rfl)
theorem dX3_init_28 : decode cX3_init 28 = .ok (.if_icmp .ge 25, 3) := dk_162 0 25 (dk_at dksX3_init_1 4 rfl rfl)
theorem dX3_init_31 : decode cX3_init 31 = .ok (.iload_n 2, 1) := dk_28 (dk_at dksX3_init_1 7 rfl rfl)
theorem dX3_init_32 : decode cX3_init 32 = .ok (.iload_n 3, 1) := dk_29 (dk_at dksX3_init_1 8 rfl rfl)
theorem dX3_init_33 : decode cX3_init 33 = .ok (.imul, 1) := dk_104 (dk_at dksX3_init_1 9 rfl rfl)
theorem dX3_init_34 : decode cX3_init 34 = .ok (.iload_n 1, 1) := dk_27 (dk_at dksX3_init_1 10 rfl rfl)
theorem dX3_init_35 : decode cX3_init 35 = .ok (.irem, 1) := dk_112 (dk_at dksX3_init_1 11 rfl rfl)
theorem dX3_init_36 : decode cX3_init 36 = .ok (.iconst 1, 1) := dk_4 (dk_at dksX3_init_1 12 rfl rfl)
theorem dX3_init_37 : decode cX3_init 37 = .ok (.if_icmp .ne 10, 3) := dk_160 0 10 (dk_at dksX3_init_1 13 rfl rfl)
theorem dX3_init_40 : decode cX3_init 40 = .ok (.aload_n 0, 1) := dk_42 (dk_at dksX3_init_1 16 rfl rfl)
theorem dX3_init_41 : decode cX3_init 41 = .ok (.getfield 9, 3) := dk_180 0 9 (dk_at dksX3_init_1 17 rfl rfl)
theorem dX3_init_44 : decode cX3_init 44 = .ok (.iload_n 2, 1) := dk_28 (dk_at dksX3_init_1 20 rfl rfl)
theorem dX3_init_45 : decode cX3_init 45 = .ok (.iload_n 3, 1) := dk_29 (dk_at dksX3_init_1 21 rfl rfl)
theorem dX3_init_46 : decode cX3_init 46 = .ok (.iastore, 1) := dk_79 (dk_at dksX3_init_1 22 rfl rfl)
theorem dX3_init_47 : decode cX3_init 47 = .ok (.iinc 3 1, 3) := dk_132 3 1 (dk_at dksX3_init_2 0 rfl rfl)
theorem dX3_init_50 : decode cX3_init 50 = .ok (.goto (-24), 3) := dk_167 255 232 (dk_at dksX3_init_2 3 rfl rfl)
theorem dX3_init_53 : decode cX3_init 53 = .ok (.iinc 2 1, 3) := dk_132 2 1 (dk_at dksX3_init_2 6 rfl rfl)
theorem dX3_init_56 : decode cX3_init 56 = .ok (.goto (-37), 3) := dk_167 255 219 (dk_at dksX3_init_2 9 rfl rfl)
theorem dX3_init_59 : decode cX3_init 59 = .ok (.return_, 1) := dk_177 (dk_at dksX3_init_2 12 rfl rfl)
abbrev cX3_product : ByteArray := prog_5_method_8_code
def yX3_product : MethodName := ⟨RX3, "product", "(LExactChains$Vector;LExactChains$Vector;)I"⟩
def dkwX3_product_0 : List UInt8 := [42, 43, 180, 0, 23, 44, 180, 0, 23, 182, 0, 28, 172]
abbrev dktX3_product_0 : List UInt8 := dkwX3_product_0 ++ []
theorem dksX3_product_0 : cX3_product.data.toList.drop 0 = dktX3_product_0 := by decide +kernel
theorem dX3_product_0 : decode cX3_product 0 = .ok (.aload_n 0, 1) := dk_42 (dk_at dksX3_product_0 0 rfl rfl)
theorem dX3_product_1 : decode cX3_product 1 = .ok (.aload_n 1, 1) := dk_43 (dk_at dksX3_product_0 1 rfl rfl)
theorem dX3_product_2 : decode cX3_product 2 = .ok (.getfield 23, 3) := dk_180 0 23 (dk_at dksX3_product_0 2 rfl rfl)
theorem dX3_product_5 : decode cX3_product 5 = .ok (.aload_n 2, 1) := dk_44 (dk_at dksX3_product_0 5 rfl rfl)
theorem dX3_product_6 : decode cX3_product 6 = .ok (.getfield 23, 3) := dk_180 0 23 (dk_at dksX3_product_0 6 rfl rfl)
theorem dX3_product_9 : decode cX3_product 9 = .ok (.invokevirtual 28, 3) := dk_182 0 28 (dk_at dksX3_product_0 9 rfl rfl)
theorem dX3_product_12 : decode cX3_product 12 = .ok (.ireturn, 1) := dk_172 (dk_at dksX3_product_0 12 rfl rfl)
abbrev cX3_sum : ByteArray := prog_5_method_7_code
def yX3_sum : MethodName := ⟨RX3, "sum", "([I[I)I"⟩
def dkwX3_sum_1 : List UInt8 := [132, 4, 1, 167, 255, 234, 29, 42, 180, 0, 15, 112, 172]
abbrev dktX3_sum_1 : List UInt8 := dkwX3_sum_1 ++ []
def dkwX3_sum_0 : List UInt8 := [3, 62, 3, 54, 4, 21, 4, 43, 190, 162, 0, 21, 29, 43, 21, 4, 46, 44, 21, 4, 46, 104, 96, 62]
abbrev dktX3_sum_0 : List UInt8 := dkwX3_sum_0 ++ dktX3_sum_1
theorem dksX3_sum_0 : cX3_sum.data.toList.drop 0 = dktX3_sum_0 := by decide +kernel
theorem dksX3_sum_1 : cX3_sum.data.toList.drop 24 = dktX3_sum_1 := dk_seg dksX3_sum_0 24 rfl rfl
theorem dX3_sum_0 : decode cX3_sum 0 = .ok (.iconst 0, 1) := dk_3 (dk_at dksX3_sum_0 0 rfl rfl)
theorem dX3_sum_1 : decode cX3_sum 1 = .ok (.istore_n 3, 1) := dk_62 (dk_at dksX3_sum_0 1 rfl rfl)
theorem dX3_sum_2 : decode cX3_sum 2 = .ok (.iconst 0, 1) := dk_3 (dk_at dksX3_sum_0 2 rfl rfl)
theorem dX3_sum_3 : decode cX3_sum 3 = .ok (.istore 4, 2) := dk_54 4 (dk_at dksX3_sum_0 3 rfl rfl)
theorem dX3_sum_5 : decode cX3_sum 5 = .ok (.iload 4, 2) := dk_21 4 (dk_at dksX3_sum_0 5 rfl rfl)
theorem dX3_sum_7 : decode cX3_sum 7 = .ok (.aload_n 1, 1) := dk_43 (dk_at dksX3_sum_0 7 rfl rfl)
theorem dX3_sum_8 : decode cX3_sum 8 = .ok (.arraylength, 1) := dk_190 (dk_at dksX3_sum_0 8 rfl rfl)
theorem dX3_sum_9 : decode cX3_sum 9 = .ok (.if_icmp .ge 21, 3) := dk_162 0 21 (dk_at dksX3_sum_0 9 rfl rfl)
theorem dX3_sum_12 : decode cX3_sum 12 = .ok (.iload_n 3, 1) := dk_29 (dk_at dksX3_sum_0 12 rfl rfl)
theorem dX3_sum_13 : decode cX3_sum 13 = .ok (.aload_n 1, 1) := dk_43 (dk_at dksX3_sum_0 13 rfl rfl)
theorem dX3_sum_14 : decode cX3_sum 14 = .ok (.iload 4, 2) := dk_21 4 (dk_at dksX3_sum_0 14 rfl rfl)
theorem dX3_sum_16 : decode cX3_sum 16 = .ok (.iaload, 1) := dk_46 (dk_at dksX3_sum_0 16 rfl rfl)
theorem dX3_sum_17 : decode cX3_sum 17 = .ok (.aload_n 2, 1) := dk_44 (dk_at dksX3_sum_0 17 rfl rfl)
theorem dX3_sum_18 : decode cX3_sum 18 = .ok (.iload 4, 2) := dk_21 4 (dk_at dksX3_sum_0 18 rfl rfl)
theorem dX3_sum_20 : decode cX3_sum 20 = .ok (.iaload, 1) := dk_46 (dk_at dksX3_sum_0 20 rfl rfl)
theorem dX3_sum_21 : decode cX3_sum 21 = .ok (.imul, 1) := dk_104 (dk_at dksX3_sum_0 21 rfl rfl)
theorem dX3_sum_22 : decode cX3_sum 22 = .ok (.iadd, 1) := dk_96 (dk_at dksX3_sum_0 22 rfl rfl)
theorem dX3_sum_23 : decode cX3_sum 23 = .ok (.istore_n 3, 1) := dk_62 (dk_at dksX3_sum_0 23 rfl rfl)
theorem dX3_sum_24 : decode cX3_sum 24 = .ok (.iinc 4 1, 3) := dk_132 4 1 (dk_at dksX3_sum_1 0 rfl rfl)
theorem dX3_sum_27 : decode cX3_sum 27 = .ok (.goto (-22), 3) := dk_167 255 234 (dk_at dksX3_sum_1 3 rfl rfl)
theorem dX3_sum_30 : decode cX3_sum 30 = .ok (.iload_n 3, 1) := dk_29 (dk_at dksX3_sum_1 6 rfl rfl)
theorem dX3_sum_31 : decode cX3_sum 31 = .ok (.aload_n 0, 1) := dk_42 (dk_at dksX3_sum_1 7 rfl rfl)
theorem dX3_sum_32 : decode cX3_sum 32 = .ok (.getfield 15, 3) := dk_180 0 15 (dk_at dksX3_sum_1 8 rfl rfl)
theorem dX3_sum_35 : decode cX3_sum 35 = .ok (.irem, 1) := dk_112 (dk_at dksX3_sum_1 11 rfl rfl)
theorem dX3_sum_36 : decode cX3_sum 36 = .ok (.ireturn, 1) := dk_172 (dk_at dksX3_sum_1 12 rfl rfl)
abbrev cX3_quotient : ByteArray := prog_5_method_5_code
def yX3_quotient : MethodName := ⟨RX3, "quotient", "(II)I"⟩
def dkwX3_quotient_0 : List UInt8 := [27, 42, 180, 0, 9, 28, 46, 104, 42, 180, 0, 15, 112, 172]
abbrev dktX3_quotient_0 : List UInt8 := dkwX3_quotient_0 ++ []
theorem dksX3_quotient_0 : cX3_quotient.data.toList.drop 0 = dktX3_quotient_0 := by decide +kernel
theorem dX3_quotient_0 : decode cX3_quotient 0 = .ok (.iload_n 1, 1) := dk_27 (dk_at dksX3_quotient_0 0 rfl rfl)
theorem dX3_quotient_1 : decode cX3_quotient 1 = .ok (.aload_n 0, 1) := dk_42 (dk_at dksX3_quotient_0 1 rfl rfl)
theorem dX3_quotient_2 : decode cX3_quotient 2 = .ok (.getfield 9, 3) := dk_180 0 9 (dk_at dksX3_quotient_0 2 rfl rfl)
theorem dX3_quotient_5 : decode cX3_quotient 5 = .ok (.iload_n 2, 1) := dk_28 (dk_at dksX3_quotient_0 5 rfl rfl)
theorem dX3_quotient_6 : decode cX3_quotient 6 = .ok (.iaload, 1) := dk_46 (dk_at dksX3_quotient_0 6 rfl rfl)
theorem dX3_quotient_7 : decode cX3_quotient 7 = .ok (.imul, 1) := dk_104 (dk_at dksX3_quotient_0 7 rfl rfl)
theorem dX3_quotient_8 : decode cX3_quotient 8 = .ok (.aload_n 0, 1) := dk_42 (dk_at dksX3_quotient_0 8 rfl rfl)
theorem dX3_quotient_9 : decode cX3_quotient 9 = .ok (.getfield 15, 3) := dk_180 0 15 (dk_at dksX3_quotient_0 9 rfl rfl)
theorem dX3_quotient_12 : decode cX3_quotient 12 = .ok (.irem, 1) := dk_112 (dk_at dksX3_quotient_0 12 rfl rfl)
theorem dX3_quotient_13 : decode cX3_quotient 13 = .ok (.ireturn, 1) := dk_172 (dk_at dksX3_quotient_0 13 rfl rfl)
abbrev cX3_without : ByteArray := prog_5_method_9_code
def yX3_without : MethodName := ⟨RX3, "without", "(LExactChains$Vector;ILExactChains$Vector;)LExactChains$Vector;"⟩
def dkwX3_without_2 : List UInt8 := [167, 255, 221, 187, 0, 24, 89, 25, 4, 183, 0, 40, 176]
abbrev dktX3_without_2 : List UInt8 := dkwX3_without_2 ++ []
def dkwX3_without_1 : List UInt8 := [43, 180, 0, 23, 21, 5, 46, 28, 45, 180, 0, 23, 21, 5, 46, 182, 0, 36, 79, 132, 5, 1]
abbrev dktX3_without_1 : List UInt8 := dkwX3_without_1 ++ dktX3_without_2
def dkwX3_without_0 : List UInt8 := [43, 182, 0, 32, 188, 10, 58, 4, 3, 54, 5, 21, 5, 25, 4, 190, 162, 0, 33, 25, 4, 21, 5, 42]
abbrev dktX3_without_0 : List UInt8 := dkwX3_without_0 ++ dktX3_without_1
theorem dksX3_without_0 : cX3_without.data.toList.drop 0 = dktX3_without_0 := by decide +kernel
theorem dksX3_without_1 : cX3_without.data.toList.drop 24 = dktX3_without_1 := dk_seg dksX3_without_0 24 rfl rfl
theorem dksX3_without_2 : cX3_without.data.toList.drop 46 = dktX3_without_2 := dk_seg dksX3_without_1 22 rfl rfl
theorem dX3_without_0 : decode cX3_without 0 = .ok (.aload_n 1, 1) := dk_43 (dk_at dksX3_without_0 0 rfl rfl)
theorem dX3_without_1 : decode cX3_without 1 = .ok (.invokevirtual 32, 3) := dk_182 0 32 (dk_at dksX3_without_0 1 rfl rfl)
theorem dX3_without_4 : decode cX3_without 4 = .ok (.newarray .int, 2) := dk_188_10 (dk_at dksX3_without_0 4 rfl rfl)
theorem dX3_without_6 : decode cX3_without 6 = .ok (.astore 4, 2) := dk_58 4 (dk_at dksX3_without_0 6 rfl rfl)
theorem dX3_without_8 : decode cX3_without 8 = .ok (.iconst 0, 1) := dk_3 (dk_at dksX3_without_0 8 rfl rfl)
theorem dX3_without_9 : decode cX3_without 9 = .ok (.istore 5, 2) := dk_54 5 (dk_at dksX3_without_0 9 rfl rfl)
theorem dX3_without_11 : decode cX3_without 11 = .ok (.iload 5, 2) := dk_21 5 (dk_at dksX3_without_0 11 rfl rfl)
theorem dX3_without_13 : decode cX3_without 13 = .ok (.aload 4, 2) := dk_25 4 (dk_at dksX3_without_0 13 rfl rfl)
theorem dX3_without_15 : decode cX3_without 15 = .ok (.arraylength, 1) := dk_190 (dk_at dksX3_without_0 15 rfl rfl)
theorem dX3_without_16 : decode cX3_without 16 = .ok (.if_icmp .ge 33, 3) := dk_162 0 33 (dk_at dksX3_without_0 16 rfl rfl)
theorem dX3_without_19 : decode cX3_without 19 = .ok (.aload 4, 2) := dk_25 4 (dk_at dksX3_without_0 19 rfl rfl)
theorem dX3_without_21 : decode cX3_without 21 = .ok (.iload 5, 2) := dk_21 5 (dk_at dksX3_without_0 21 rfl rfl)
theorem dX3_without_23 : decode cX3_without 23 = .ok (.aload_n 0, 1) := dk_42 (dk_at dksX3_without_0 23 rfl rfl)
theorem dX3_without_24 : decode cX3_without 24 = .ok (.aload_n 1, 1) := dk_43 (dk_at dksX3_without_1 0 rfl rfl)
theorem dX3_without_25 : decode cX3_without 25 = .ok (.getfield 23, 3) := dk_180 0 23 (dk_at dksX3_without_1 1 rfl rfl)
theorem dX3_without_28 : decode cX3_without 28 = .ok (.iload 5, 2) := dk_21 5 (dk_at dksX3_without_1 4 rfl rfl)
theorem dX3_without_30 : decode cX3_without 30 = .ok (.iaload, 1) := dk_46 (dk_at dksX3_without_1 6 rfl rfl)
theorem dX3_without_31 : decode cX3_without 31 = .ok (.iload_n 2, 1) := dk_28 (dk_at dksX3_without_1 7 rfl rfl)
theorem dX3_without_32 : decode cX3_without 32 = .ok (.aload_n 3, 1) := dk_45 (dk_at dksX3_without_1 8 rfl rfl)
theorem dX3_without_33 : decode cX3_without 33 = .ok (.getfield 23, 3) := dk_180 0 23 (dk_at dksX3_without_1 9 rfl rfl)
theorem dX3_without_36 : decode cX3_without 36 = .ok (.iload 5, 2) := dk_21 5 (dk_at dksX3_without_1 12 rfl rfl)
theorem dX3_without_38 : decode cX3_without 38 = .ok (.iaload, 1) := dk_46 (dk_at dksX3_without_1 14 rfl rfl)
theorem dX3_without_39 : decode cX3_without 39 = .ok (.invokevirtual 36, 3) := dk_182 0 36 (dk_at dksX3_without_1 15 rfl rfl)
theorem dX3_without_42 : decode cX3_without 42 = .ok (.iastore, 1) := dk_79 (dk_at dksX3_without_1 18 rfl rfl)
theorem dX3_without_43 : decode cX3_without 43 = .ok (.iinc 5 1, 3) := dk_132 5 1 (dk_at dksX3_without_1 19 rfl rfl)
theorem dX3_without_46 : decode cX3_without 46 = .ok (.goto (-35), 3) := dk_167 255 221 (dk_at dksX3_without_2 0 rfl rfl)
theorem dX3_without_49 : decode cX3_without 49 = .ok (.new 24, 3) := dk_187 0 24 (dk_at dksX3_without_2 3 rfl rfl)
theorem dX3_without_52 : decode cX3_without 52 = .ok (.dup, 1) := dk_89 (dk_at dksX3_without_2 6 rfl rfl)
theorem dX3_without_53 : decode cX3_without 53 = .ok (.aload 4, 2) := dk_25 4 (dk_at dksX3_without_2 7 rfl rfl)
theorem dX3_without_55 : decode cX3_without 55 = .ok (.invokespecial 40, 3) := dk_183 0 40 (dk_at dksX3_without_2 9 rfl rfl)
theorem dX3_without_58 : decode cX3_without 58 = .ok (.areturn, 1) := dk_176 (dk_at dksX3_without_2 12 rfl rfl)
abbrev cX3_lessTimes : ByteArray := prog_5_method_6_code
def yX3_lessTimes : MethodName := ⟨RX3, "lessTimes", "(III)I"⟩
def dkwX3_lessTimes_0 : List UInt8 := [27, 42, 180, 0, 15, 28, 100, 29, 104, 96, 42, 180, 0, 15, 112, 172]
abbrev dktX3_lessTimes_0 : List UInt8 := dkwX3_lessTimes_0 ++ []
theorem dksX3_lessTimes_0 : cX3_lessTimes.data.toList.drop 0 = dktX3_lessTimes_0 := by decide +kernel
theorem dX3_lessTimes_0 : decode cX3_lessTimes 0 = .ok (.iload_n 1, 1) := dk_27 (dk_at dksX3_lessTimes_0 0 rfl rfl)
theorem dX3_lessTimes_1 : decode cX3_lessTimes 1 = .ok (.aload_n 0, 1) := dk_42 (dk_at dksX3_lessTimes_0 1 rfl rfl)
theorem dX3_lessTimes_2 : decode cX3_lessTimes 2 = .ok (.getfield 15, 3) := dk_180 0 15 (dk_at dksX3_lessTimes_0 2 rfl rfl)
theorem dX3_lessTimes_5 : decode cX3_lessTimes 5 = .ok (.iload_n 2, 1) := dk_28 (dk_at dksX3_lessTimes_0 5 rfl rfl)
theorem dX3_lessTimes_6 : decode cX3_lessTimes 6 = .ok (.isub, 1) := dk_100 (dk_at dksX3_lessTimes_0 6 rfl rfl)
theorem dX3_lessTimes_7 : decode cX3_lessTimes 7 = .ok (.iload_n 3, 1) := dk_29 (dk_at dksX3_lessTimes_0 7 rfl rfl)
theorem dX3_lessTimes_8 : decode cX3_lessTimes 8 = .ok (.imul, 1) := dk_104 (dk_at dksX3_lessTimes_0 8 rfl rfl)
theorem dX3_lessTimes_9 : decode cX3_lessTimes 9 = .ok (.iadd, 1) := dk_96 (dk_at dksX3_lessTimes_0 9 rfl rfl)
theorem dX3_lessTimes_10 : decode cX3_lessTimes 10 = .ok (.aload_n 0, 1) := dk_42 (dk_at dksX3_lessTimes_0 10 rfl rfl)
theorem dX3_lessTimes_11 : decode cX3_lessTimes 11 = .ok (.getfield 15, 3) := dk_180 0 15 (dk_at dksX3_lessTimes_0 11 rfl rfl)
theorem dX3_lessTimes_14 : decode cX3_lessTimes 14 = .ok (.irem, 1) := dk_112 (dk_at dksX3_lessTimes_0 14 rfl rfl)
theorem dX3_lessTimes_15 : decode cX3_lessTimes 15 = .ok (.ireturn, 1) := dk_172 (dk_at dksX3_lessTimes_0 15 rfl rfl)
abbrev cX3_times : ByteArray := prog_5_method_10_code
def yX3_times : MethodName := ⟨RX3, "times", "([[ILExactChains$Vector;)LExactChains$Vector;"⟩
def dkwX3_times_1 : List UInt8 := [50, 44, 180, 0, 23, 182, 0, 28, 79, 132, 4, 1, 167, 255, 230, 187, 0, 24, 89, 45, 183, 0, 40, 176]
abbrev dktX3_times_1 : List UInt8 := dkwX3_times_1 ++ []
def dkwX3_times_0 : List UInt8 := [44, 182, 0, 32, 188, 10, 78, 3, 54, 4, 21, 4, 45, 190, 162, 0, 25, 45, 21, 4, 42, 43, 21, 4]
abbrev dktX3_times_0 : List UInt8 := dkwX3_times_0 ++ dktX3_times_1
theorem dksX3_times_0 : cX3_times.data.toList.drop 0 = dktX3_times_0 := by decide +kernel
theorem dksX3_times_1 : cX3_times.data.toList.drop 24 = dktX3_times_1 := dk_seg dksX3_times_0 24 rfl rfl
theorem dX3_times_0 : decode cX3_times 0 = .ok (.aload_n 2, 1) := dk_44 (dk_at dksX3_times_0 0 rfl rfl)
theorem dX3_times_1 : decode cX3_times 1 = .ok (.invokevirtual 32, 3) := dk_182 0 32 (dk_at dksX3_times_0 1 rfl rfl)
theorem dX3_times_4 : decode cX3_times 4 = .ok (.newarray .int, 2) := dk_188_10 (dk_at dksX3_times_0 4 rfl rfl)
theorem dX3_times_6 : decode cX3_times 6 = .ok (.astore_n 3, 1) := dk_78 (dk_at dksX3_times_0 6 rfl rfl)
theorem dX3_times_7 : decode cX3_times 7 = .ok (.iconst 0, 1) := dk_3 (dk_at dksX3_times_0 7 rfl rfl)
theorem dX3_times_8 : decode cX3_times 8 = .ok (.istore 4, 2) := dk_54 4 (dk_at dksX3_times_0 8 rfl rfl)
theorem dX3_times_10 : decode cX3_times 10 = .ok (.iload 4, 2) := dk_21 4 (dk_at dksX3_times_0 10 rfl rfl)
theorem dX3_times_12 : decode cX3_times 12 = .ok (.aload_n 3, 1) := dk_45 (dk_at dksX3_times_0 12 rfl rfl)
theorem dX3_times_13 : decode cX3_times 13 = .ok (.arraylength, 1) := dk_190 (dk_at dksX3_times_0 13 rfl rfl)
theorem dX3_times_14 : decode cX3_times 14 = .ok (.if_icmp .ge 25, 3) := dk_162 0 25 (dk_at dksX3_times_0 14 rfl rfl)
theorem dX3_times_17 : decode cX3_times 17 = .ok (.aload_n 3, 1) := dk_45 (dk_at dksX3_times_0 17 rfl rfl)
theorem dX3_times_18 : decode cX3_times 18 = .ok (.iload 4, 2) := dk_21 4 (dk_at dksX3_times_0 18 rfl rfl)
theorem dX3_times_20 : decode cX3_times 20 = .ok (.aload_n 0, 1) := dk_42 (dk_at dksX3_times_0 20 rfl rfl)
theorem dX3_times_21 : decode cX3_times 21 = .ok (.aload_n 1, 1) := dk_43 (dk_at dksX3_times_0 21 rfl rfl)
theorem dX3_times_22 : decode cX3_times 22 = .ok (.iload 4, 2) := dk_21 4 (dk_at dksX3_times_0 22 rfl rfl)
theorem dX3_times_24 : decode cX3_times 24 = .ok (.aaload, 1) := dk_50 (dk_at dksX3_times_1 0 rfl rfl)
theorem dX3_times_25 : decode cX3_times 25 = .ok (.aload_n 2, 1) := dk_44 (dk_at dksX3_times_1 1 rfl rfl)
theorem dX3_times_26 : decode cX3_times 26 = .ok (.getfield 23, 3) := dk_180 0 23 (dk_at dksX3_times_1 2 rfl rfl)
theorem dX3_times_29 : decode cX3_times 29 = .ok (.invokevirtual 28, 3) := dk_182 0 28 (dk_at dksX3_times_1 5 rfl rfl)
theorem dX3_times_32 : decode cX3_times 32 = .ok (.iastore, 1) := dk_79 (dk_at dksX3_times_1 8 rfl rfl)
theorem dX3_times_33 : decode cX3_times 33 = .ok (.iinc 4 1, 3) := dk_132 4 1 (dk_at dksX3_times_1 9 rfl rfl)
theorem dX3_times_36 : decode cX3_times 36 = .ok (.goto (-26), 3) := dk_167 255 230 (dk_at dksX3_times_1 12 rfl rfl)
theorem dX3_times_39 : decode cX3_times 39 = .ok (.new 24, 3) := dk_187 0 24 (dk_at dksX3_times_1 15 rfl rfl)
theorem dX3_times_42 : decode cX3_times 42 = .ok (.dup, 1) := dk_89 (dk_at dksX3_times_1 18 rfl rfl)
theorem dX3_times_43 : decode cX3_times 43 = .ok (.aload_n 3, 1) := dk_45 (dk_at dksX3_times_1 19 rfl rfl)
theorem dX3_times_44 : decode cX3_times 44 = .ok (.invokespecial 40, 3) := dk_183 0 40 (dk_at dksX3_times_1 20 rfl rfl)
theorem dX3_times_47 : decode cX3_times 47 = .ok (.areturn, 1) := dk_176 (dk_at dksX3_times_1 23 rfl rfl)
abbrev cX3_table : ByteArray := prog_5_method_11_code
def yX3_table : MethodName := ⟨RX3, "table", "(IILExactChains$Cell;)[[I"⟩
def dkwX3_table_2 : List UInt8 := [167, 255, 229, 132, 5, 1, 167, 255, 214, 25, 4, 176]
abbrev dktX3_table_2 : List UInt8 := dkwX3_table_2 ++ []
def dkwX3_table_1 : List UInt8 := [162, 0, 27, 25, 4, 21, 5, 50, 21, 6, 45, 21, 5, 21, 6, 185, 0, 45, 3, 0, 79, 132, 6, 1]
abbrev dktX3_table_1 : List UInt8 := dkwX3_table_1 ++ dktX3_table_2
def dkwX3_table_0 : List UInt8 := [27, 28, 197, 0, 43, 2, 58, 4, 3, 54, 5, 21, 5, 27, 162, 0, 42, 3, 54, 6, 21, 6, 28]
abbrev dktX3_table_0 : List UInt8 := dkwX3_table_0 ++ dktX3_table_1
theorem dksX3_table_0 : cX3_table.data.toList.drop 0 = dktX3_table_0 := by decide +kernel
theorem dksX3_table_1 : cX3_table.data.toList.drop 23 = dktX3_table_1 := dk_seg dksX3_table_0 23 rfl rfl
theorem dksX3_table_2 : cX3_table.data.toList.drop 47 = dktX3_table_2 := dk_seg dksX3_table_1 24 rfl rfl
theorem dX3_table_0 : decode cX3_table 0 = .ok (.iload_n 1, 1) := dk_27 (dk_at dksX3_table_0 0 rfl rfl)
theorem dX3_table_1 : decode cX3_table 1 = .ok (.iload_n 2, 1) := dk_28 (dk_at dksX3_table_0 1 rfl rfl)
theorem dX3_table_2 : decode cX3_table 2 = .ok (.multianewarray 43 2, 4) := by decide +kernel
theorem dX3_table_6 : decode cX3_table 6 = .ok (.astore 4, 2) := dk_58 4 (dk_at dksX3_table_0 6 rfl rfl)
theorem dX3_table_8 : decode cX3_table 8 = .ok (.iconst 0, 1) := dk_3 (dk_at dksX3_table_0 8 rfl rfl)
theorem dX3_table_9 : decode cX3_table 9 = .ok (.istore 5, 2) := dk_54 5 (dk_at dksX3_table_0 9 rfl rfl)
theorem dX3_table_11 : decode cX3_table 11 = .ok (.iload 5, 2) := dk_21 5 (dk_at dksX3_table_0 11 rfl rfl)
theorem dX3_table_13 : decode cX3_table 13 = .ok (.iload_n 1, 1) := dk_27 (dk_at dksX3_table_0 13 rfl rfl)
theorem dX3_table_14 : decode cX3_table 14 = .ok (.if_icmp .ge 42, 3) := dk_162 0 42 (dk_at dksX3_table_0 14 rfl rfl)
theorem dX3_table_17 : decode cX3_table 17 = .ok (.iconst 0, 1) := dk_3 (dk_at dksX3_table_0 17 rfl rfl)
theorem dX3_table_18 : decode cX3_table 18 = .ok (.istore 6, 2) := dk_54 6 (dk_at dksX3_table_0 18 rfl rfl)
theorem dX3_table_20 : decode cX3_table 20 = .ok (.iload 6, 2) := dk_21 6 (dk_at dksX3_table_0 20 rfl rfl)
theorem dX3_table_22 : decode cX3_table 22 = .ok (.iload_n 2, 1) := dk_28 (dk_at dksX3_table_0 22 rfl rfl)
theorem dX3_table_23 : decode cX3_table 23 = .ok (.if_icmp .ge 27, 3) := dk_162 0 27 (dk_at dksX3_table_1 0 rfl rfl)
theorem dX3_table_26 : decode cX3_table 26 = .ok (.aload 4, 2) := dk_25 4 (dk_at dksX3_table_1 3 rfl rfl)
theorem dX3_table_28 : decode cX3_table 28 = .ok (.iload 5, 2) := dk_21 5 (dk_at dksX3_table_1 5 rfl rfl)
theorem dX3_table_30 : decode cX3_table 30 = .ok (.aaload, 1) := dk_50 (dk_at dksX3_table_1 7 rfl rfl)
theorem dX3_table_31 : decode cX3_table 31 = .ok (.iload 6, 2) := dk_21 6 (dk_at dksX3_table_1 8 rfl rfl)
theorem dX3_table_33 : decode cX3_table 33 = .ok (.aload_n 3, 1) := dk_45 (dk_at dksX3_table_1 10 rfl rfl)
theorem dX3_table_34 : decode cX3_table 34 = .ok (.iload 5, 2) := dk_21 5 (dk_at dksX3_table_1 11 rfl rfl)
theorem dX3_table_36 : decode cX3_table 36 = .ok (.iload 6, 2) := dk_21 6 (dk_at dksX3_table_1 13 rfl rfl)
theorem dX3_table_38 : decode cX3_table 38 = .ok (.invokeinterface 45 3, 5) := by decide +kernel
theorem dX3_table_43 : decode cX3_table 43 = .ok (.iastore, 1) := dk_79 (dk_at dksX3_table_1 20 rfl rfl)
theorem dX3_table_44 : decode cX3_table 44 = .ok (.iinc 6 1, 3) := dk_132 6 1 (dk_at dksX3_table_1 21 rfl rfl)
theorem dX3_table_47 : decode cX3_table 47 = .ok (.goto (-27), 3) := dk_167 255 229 (dk_at dksX3_table_2 0 rfl rfl)
theorem dX3_table_50 : decode cX3_table 50 = .ok (.iinc 5 1, 3) := dk_132 5 1 (dk_at dksX3_table_2 3 rfl rfl)
theorem dX3_table_53 : decode cX3_table 53 = .ok (.goto (-42), 3) := dk_167 255 214 (dk_at dksX3_table_2 6 rfl rfl)
theorem dX3_table_56 : decode cX3_table 56 = .ok (.aload 4, 2) := dk_25 4 (dk_at dksX3_table_2 9 rfl rfl)
theorem dX3_table_58 : decode cX3_table 58 = .ok (.areturn, 1) := dk_176 (dk_at dksX3_table_2 11 rfl rfl)
abbrev cX3_less : ByteArray := prog_5_method_4_code
def yX3_less : MethodName := ⟨RX3, "less", "(II)I"⟩
def dkwX3_less_0 : List UInt8 := [27, 28, 100, 42, 180, 0, 15, 96, 42, 180, 0, 15, 112, 172]
abbrev dktX3_less_0 : List UInt8 := dkwX3_less_0 ++ []
theorem dksX3_less_0 : cX3_less.data.toList.drop 0 = dktX3_less_0 := by decide +kernel
theorem dX3_less_0 : decode cX3_less 0 = .ok (.iload_n 1, 1) := dk_27 (dk_at dksX3_less_0 0 rfl rfl)
theorem dX3_less_1 : decode cX3_less 1 = .ok (.iload_n 2, 1) := dk_28 (dk_at dksX3_less_0 1 rfl rfl)
theorem dX3_less_2 : decode cX3_less 2 = .ok (.isub, 1) := dk_100 (dk_at dksX3_less_0 2 rfl rfl)
theorem dX3_less_3 : decode cX3_less 3 = .ok (.aload_n 0, 1) := dk_42 (dk_at dksX3_less_0 3 rfl rfl)
theorem dX3_less_4 : decode cX3_less 4 = .ok (.getfield 15, 3) := dk_180 0 15 (dk_at dksX3_less_0 4 rfl rfl)
theorem dX3_less_7 : decode cX3_less 7 = .ok (.iadd, 1) := dk_96 (dk_at dksX3_less_0 7 rfl rfl)
theorem dX3_less_8 : decode cX3_less 8 = .ok (.aload_n 0, 1) := dk_42 (dk_at dksX3_less_0 8 rfl rfl)
theorem dX3_less_9 : decode cX3_less 9 = .ok (.getfield 15, 3) := dk_180 0 15 (dk_at dksX3_less_0 9 rfl rfl)
theorem dX3_less_12 : decode cX3_less 12 = .ok (.irem, 1) := dk_112 (dk_at dksX3_less_0 12 rfl rfl)
theorem dX3_less_13 : decode cX3_less 13 = .ok (.ireturn, 1) := dk_172 (dk_at dksX3_less_0 13 rfl rfl)
abbrev cX3_isPrime : ByteArray := prog_5_method_2_code
def yX3_isPrime : MethodName := ⟨RX3, "isPrime", "(I)Z"⟩
def dkwX3_isPrime_1 : List UInt8 := [5, 161, 0, 7, 4, 167, 0, 4, 3, 172]
abbrev dktX3_isPrime_1 : List UInt8 := dkwX3_isPrime_1 ++ []
def dkwX3_isPrime_0 : List UInt8 := [5, 60, 27, 27, 104, 26, 163, 0, 17, 26, 27, 112, 154, 0, 5, 3, 172, 132, 1, 1, 167, 255, 238, 26]
abbrev dktX3_isPrime_0 : List UInt8 := dkwX3_isPrime_0 ++ dktX3_isPrime_1
theorem dksX3_isPrime_0 : cX3_isPrime.data.toList.drop 0 = dktX3_isPrime_0 := by decide +kernel
theorem dksX3_isPrime_1 : cX3_isPrime.data.toList.drop 24 = dktX3_isPrime_1 := dk_seg dksX3_isPrime_0 24 rfl rfl
theorem dX3_isPrime_0 : decode cX3_isPrime 0 = .ok (.iconst 2, 1) := dk_5 (dk_at dksX3_isPrime_0 0 rfl rfl)
theorem dX3_isPrime_1 : decode cX3_isPrime 1 = .ok (.istore_n 1, 1) := dk_60 (dk_at dksX3_isPrime_0 1 rfl rfl)
theorem dX3_isPrime_2 : decode cX3_isPrime 2 = .ok (.iload_n 1, 1) := dk_27 (dk_at dksX3_isPrime_0 2 rfl rfl)
theorem dX3_isPrime_3 : decode cX3_isPrime 3 = .ok (.iload_n 1, 1) := dk_27 (dk_at dksX3_isPrime_0 3 rfl rfl)
theorem dX3_isPrime_4 : decode cX3_isPrime 4 = .ok (.imul, 1) := dk_104 (dk_at dksX3_isPrime_0 4 rfl rfl)
theorem dX3_isPrime_5 : decode cX3_isPrime 5 = .ok (.iload_n 0, 1) := dk_26 (dk_at dksX3_isPrime_0 5 rfl rfl)
theorem dX3_isPrime_6 : decode cX3_isPrime 6 = .ok (.if_icmp .gt 17, 3) := dk_163 0 17 (dk_at dksX3_isPrime_0 6 rfl rfl)
theorem dX3_isPrime_9 : decode cX3_isPrime 9 = .ok (.iload_n 0, 1) := dk_26 (dk_at dksX3_isPrime_0 9 rfl rfl)
theorem dX3_isPrime_10 : decode cX3_isPrime 10 = .ok (.iload_n 1, 1) := dk_27 (dk_at dksX3_isPrime_0 10 rfl rfl)
theorem dX3_isPrime_11 : decode cX3_isPrime 11 = .ok (.irem, 1) := dk_112 (dk_at dksX3_isPrime_0 11 rfl rfl)
theorem dX3_isPrime_12 : decode cX3_isPrime 12 = .ok (.ifCond .ne 5, 3) := dk_154 0 5 (dk_at dksX3_isPrime_0 12 rfl rfl)
theorem dX3_isPrime_15 : decode cX3_isPrime 15 = .ok (.iconst 0, 1) := dk_3 (dk_at dksX3_isPrime_0 15 rfl rfl)
theorem dX3_isPrime_16 : decode cX3_isPrime 16 = .ok (.ireturn, 1) := dk_172 (dk_at dksX3_isPrime_0 16 rfl rfl)
theorem dX3_isPrime_17 : decode cX3_isPrime 17 = .ok (.iinc 1 1, 3) := dk_132 1 1 (dk_at dksX3_isPrime_0 17 rfl rfl)
theorem dX3_isPrime_20 : decode cX3_isPrime 20 = .ok (.goto (-18), 3) := dk_167 255 238 (dk_at dksX3_isPrime_0 20 rfl rfl)
theorem dX3_isPrime_23 : decode cX3_isPrime 23 = .ok (.iload_n 0, 1) := dk_26 (dk_at dksX3_isPrime_0 23 rfl rfl)
theorem dX3_isPrime_24 : decode cX3_isPrime 24 = .ok (.iconst 2, 1) := dk_5 (dk_at dksX3_isPrime_1 0 rfl rfl)
theorem dX3_isPrime_25 : decode cX3_isPrime 25 = .ok (.if_icmp .lt 7, 3) := dk_161 0 7 (dk_at dksX3_isPrime_1 1 rfl rfl)
theorem dX3_isPrime_28 : decode cX3_isPrime 28 = .ok (.iconst 1, 1) := dk_4 (dk_at dksX3_isPrime_1 4 rfl rfl)
theorem dX3_isPrime_29 : decode cX3_isPrime 29 = .ok (.goto 4, 3) := dk_167 0 4 (dk_at dksX3_isPrime_1 5 rfl rfl)
theorem dX3_isPrime_32 : decode cX3_isPrime 32 = .ok (.iconst 0, 1) := dk_3 (dk_at dksX3_isPrime_1 8 rfl rfl)
theorem dX3_isPrime_33 : decode cX3_isPrime 33 = .ok (.ireturn, 1) := dk_172 (dk_at dksX3_isPrime_1 9 rfl rfl)
abbrev cX3_has : ByteArray := prog_5_method_3_code
def yX3_has : MethodName := ⟨RX3, "has", "(I)Z"⟩
def dkwX3_has_0 : List UInt8 := [27, 133, 9, 42, 180, 0, 15, 4, 100, 133, 184, 0, 19, 172]
abbrev dktX3_has_0 : List UInt8 := dkwX3_has_0 ++ []
theorem dksX3_has_0 : cX3_has.data.toList.drop 0 = dktX3_has_0 := by decide +kernel
theorem dX3_has_0 : decode cX3_has 0 = .ok (.iload_n 1, 1) := dk_27 (dk_at dksX3_has_0 0 rfl rfl)
theorem dX3_has_1 : decode cX3_has 1 = .ok (.i2l, 1) := dk_133 (dk_at dksX3_has_0 1 rfl rfl)
theorem dX3_has_2 : decode cX3_has 2 = .ok (.lconst 0, 1) := dk_9 (dk_at dksX3_has_0 2 rfl rfl)
theorem dX3_has_3 : decode cX3_has 3 = .ok (.aload_n 0, 1) := dk_42 (dk_at dksX3_has_0 3 rfl rfl)
theorem dX3_has_4 : decode cX3_has 4 = .ok (.getfield 15, 3) := dk_180 0 15 (dk_at dksX3_has_0 4 rfl rfl)
theorem dX3_has_7 : decode cX3_has 7 = .ok (.iconst 1, 1) := dk_4 (dk_at dksX3_has_0 7 rfl rfl)
theorem dX3_has_8 : decode cX3_has 8 = .ok (.isub, 1) := dk_100 (dk_at dksX3_has_0 8 rfl rfl)
theorem dX3_has_9 : decode cX3_has 9 = .ok (.i2l, 1) := dk_133 (dk_at dksX3_has_0 9 rfl rfl)
theorem dX3_has_10 : decode cX3_has 10 = .ok (.invokestatic 19, 3) := dk_184 0 19 (dk_at dksX3_has_0 10 rfl rfl)
theorem dX3_has_13 : decode cX3_has 13 = .ok (.ireturn, 1) := dk_172 (dk_at dksX3_has_0 13 rfl rfl)
theorem q103 : (Jvm.Cond.initialized "ExactChains$Field") ∈ lw_all := lw_g (lw_at lw_m1 3 rfl) rfl
theorem q160 : (Jvm.Cond.instantiable "ExactChains$Field" (2 : Nat)) ∈ lw_all := lw_g (lw_at lw_m1 60 rfl) rfl
theorem q162 : (Jvm.Cond.instanceMethod ({ cls := "ExactChains$Field", name := "<init>", desc := "(I)V" } : Jvm.MethodName)) ∈ lw_all := lw_g (lw_at lw_m1 62 rfl) rfl
theorem q163 : (Jvm.Cond.code ({ cls := "ExactChains$Field", name := "<init>", desc := "(I)V" } : Jvm.MethodName) prog_5_method_1_code (4 : Nat) (Option.none : Option Jvm.ClassFile.FieldType)) ∈ lw_all := lw_g (lw_at lw_m1 63 rfl) rfl
theorem q164 : (Jvm.Cond.methodLink "ExactChains$Field" (3 : Nat) ({ cls := "java/lang/Object", name := "<init>", desc := "()V" } : Jvm.MethodName)) ∈ lw_all := lw_g (lw_at lw_m1 64 rfl) rfl
theorem q165 : (Jvm.Cond.fieldLink "ExactChains$Field" (15 : Nat) "ExactChains$Field" "prime" "I") ∈ lw_all := lw_g (lw_at lw_m1 65 rfl) rfl
theorem q170 : (Jvm.Cond.fieldLink "ExactChains$Field" (9 : Nat) "ExactChains$Field" "inverses" "[I") ∈ lw_all := lw_g (lw_at lw_m1 70 rfl) rfl
theorem q172 : (Jvm.Cond.laysFinal "ExactChains$Field" "ExactChains$Field" "prime" "I") ∈ lw_all := lw_g (lw_at lw_m1 72 rfl) rfl
theorem q173 : (Jvm.Cond.soleField "ExactChains$Field" "prime") ∈ lw_all := lw_g (lw_at lw_m1 73 rfl) rfl
theorem q174 : (Jvm.Cond.laysFinal "ExactChains$Field" "ExactChains$Field" "inverses" "[I") ∈ lw_all := lw_g (lw_at lw_m1 74 rfl) rfl
theorem q175 : (Jvm.Cond.soleField "ExactChains$Field" "inverses") ∈ lw_all := lw_g (lw_at lw_m1 75 rfl) rfl
theorem q176 : (Jvm.Cond.superclass "ExactChains$Field" "java/lang/Object") ∈ lw_all := lw_g (lw_at lw_m1 76 rfl) rfl
theorem q556 : (Jvm.Cond.fieldLinkNest "ExactChains$Field" (23 : Nat) "ExactChains$Vector" "numbers" "[I" "ExactChains") ∈ lw_tbl := lw_at lw_m2 216 rfl
theorem q725 : (Jvm.Cond.selects "ExactChains$Field" ({ cls := "java/lang/Object", name := "getClass", desc := "()Ljava/lang/Class;" } : Jvm.MethodName) ({ cls := "java/lang/Object", name := "getClass", desc := "()Ljava/lang/Class;" } : Jvm.MethodName)) ∈ lw_all := lw_g (lw_at lw_m3 145 rfl) rfl
theorem q969 : (Jvm.Cond.instanceMethod ({ cls := "ExactChains$Field", name := "product", desc := "(LExactChains$Vector;LExactChains$Vector;)I" } : Jvm.MethodName)) ∈ lw_all := lw_g (lw_at lw_m4 149 rfl) rfl
theorem q970 : (Jvm.Cond.selects "ExactChains$Field" ({ cls := "ExactChains$Field", name := "product", desc := "(LExactChains$Vector;LExactChains$Vector;)I" } : Jvm.MethodName) ({ cls := "ExactChains$Field", name := "product", desc := "(LExactChains$Vector;LExactChains$Vector;)I" } : Jvm.MethodName)) ∈ lw_all := lw_g (lw_at lw_m4 150 rfl) rfl
theorem q971 : (Jvm.Cond.code ({ cls := "ExactChains$Field", name := "product", desc := "(LExactChains$Vector;LExactChains$Vector;)I" } : Jvm.MethodName) prog_5_method_8_code (3 : Nat) (Option.some Jvm.ClassFile.FieldType.int)) ∈ lw_all := lw_g (lw_at lw_m4 151 rfl) rfl
theorem q972 : (Jvm.Cond.methodLink "ExactChains$Field" (28 : Nat) ({ cls := "ExactChains$Field", name := "sum", desc := "([I[I)I" } : Jvm.MethodName)) ∈ lw_all := lw_g (lw_at lw_m4 152 rfl) rfl
theorem q973 : (Jvm.Cond.privateMethod ({ cls := "ExactChains$Field", name := "sum", desc := "([I[I)I" } : Jvm.MethodName)) ∈ lw_tbl := lw_at lw_m4 153 rfl
theorem q974 : (Jvm.Cond.instanceMethod ({ cls := "ExactChains$Field", name := "sum", desc := "([I[I)I" } : Jvm.MethodName)) ∈ lw_all := lw_g (lw_at lw_m4 154 rfl) rfl
theorem q975 : (Jvm.Cond.code ({ cls := "ExactChains$Field", name := "sum", desc := "([I[I)I" } : Jvm.MethodName) prog_5_method_7_code (5 : Nat) (Option.some Jvm.ClassFile.FieldType.int)) ∈ lw_all := lw_g (lw_at lw_m4 155 rfl) rfl
theorem q1030 : (Jvm.Cond.instanceMethod ({ cls := "ExactChains$Field", name := "quotient", desc := "(II)I" } : Jvm.MethodName)) ∈ lw_all := lw_g (lw_at lw_m4 210 rfl) rfl
theorem q1031 : (Jvm.Cond.selects "ExactChains$Field" ({ cls := "ExactChains$Field", name := "quotient", desc := "(II)I" } : Jvm.MethodName) ({ cls := "ExactChains$Field", name := "quotient", desc := "(II)I" } : Jvm.MethodName)) ∈ lw_all := lw_g (lw_at lw_m4 211 rfl) rfl
theorem q1032 : (Jvm.Cond.code ({ cls := "ExactChains$Field", name := "quotient", desc := "(II)I" } : Jvm.MethodName) prog_5_method_5_code (3 : Nat) (Option.some Jvm.ClassFile.FieldType.int)) ∈ lw_all := lw_g (lw_at lw_m4 212 rfl) rfl
theorem q1034 : (Jvm.Cond.instanceMethod ({ cls := "ExactChains$Field", name := "without", desc := "(LExactChains$Vector;ILExactChains$Vector;)LExactChains$Vector;" } : Jvm.MethodName)) ∈ lw_all := lw_g (lw_at lw_m4 214 rfl) rfl
theorem q1035 : (Jvm.Cond.selects "ExactChains$Field" ({ cls := "ExactChains$Field", name := "without", desc := "(LExactChains$Vector;ILExactChains$Vector;)LExactChains$Vector;" } : Jvm.MethodName) ({ cls := "ExactChains$Field", name := "without", desc := "(LExactChains$Vector;ILExactChains$Vector;)LExactChains$Vector;" } : Jvm.MethodName)) ∈ lw_all := lw_g (lw_at lw_m4 215 rfl) rfl
theorem q1036 : (Jvm.Cond.code ({ cls := "ExactChains$Field", name := "without", desc := "(LExactChains$Vector;ILExactChains$Vector;)LExactChains$Vector;" } : Jvm.MethodName) prog_5_method_9_code (6 : Nat) (Option.some (Jvm.ClassFile.FieldType.object "ExactChains$Vector"))) ∈ lw_all := lw_g (lw_at lw_m4 216 rfl) rfl
theorem q1037 : (Jvm.Cond.methodLink "ExactChains$Field" (32 : Nat) ({ cls := "ExactChains$Vector", name := "size", desc := "()I" } : Jvm.MethodName)) ∈ lw_all := lw_g (lw_at lw_m4 217 rfl) rfl
theorem q1041 : (Jvm.Cond.methodLink "ExactChains$Field" (36 : Nat) ({ cls := "ExactChains$Field", name := "lessTimes", desc := "(III)I" } : Jvm.MethodName)) ∈ lw_all := lw_g (lw_at lw_m4 221 rfl) rfl
theorem q1042 : (Jvm.Cond.instanceMethod ({ cls := "ExactChains$Field", name := "lessTimes", desc := "(III)I" } : Jvm.MethodName)) ∈ lw_all := lw_g (lw_at lw_m4 222 rfl) rfl
theorem q1043 : (Jvm.Cond.selects "ExactChains$Field" ({ cls := "ExactChains$Field", name := "lessTimes", desc := "(III)I" } : Jvm.MethodName) ({ cls := "ExactChains$Field", name := "lessTimes", desc := "(III)I" } : Jvm.MethodName)) ∈ lw_all := lw_g (lw_at lw_m4 223 rfl) rfl
theorem q1044 : (Jvm.Cond.code ({ cls := "ExactChains$Field", name := "lessTimes", desc := "(III)I" } : Jvm.MethodName) prog_5_method_6_code (4 : Nat) (Option.some Jvm.ClassFile.FieldType.int)) ∈ lw_all := lw_g (lw_at lw_m4 224 rfl) rfl
theorem q1045 : (Jvm.Cond.classLink "ExactChains$Field" (24 : Nat) "ExactChains$Vector") ∈ lw_all := lw_g (lw_at lw_m4 225 rfl) rfl
theorem q1046 : (Jvm.Cond.methodLink "ExactChains$Field" (40 : Nat) ({ cls := "ExactChains$Vector", name := "<init>", desc := "([I)V" } : Jvm.MethodName)) ∈ lw_all := lw_g (lw_at lw_m4 226 rfl) rfl
theorem q1060 : (Jvm.Cond.instanceMethod ({ cls := "ExactChains$Field", name := "times", desc := "([[ILExactChains$Vector;)LExactChains$Vector;" } : Jvm.MethodName)) ∈ lw_all := lw_g (lw_at lw_m5 0 rfl) rfl
theorem q1061 : (Jvm.Cond.selects "ExactChains$Field" ({ cls := "ExactChains$Field", name := "times", desc := "([[ILExactChains$Vector;)LExactChains$Vector;" } : Jvm.MethodName) ({ cls := "ExactChains$Field", name := "times", desc := "([[ILExactChains$Vector;)LExactChains$Vector;" } : Jvm.MethodName)) ∈ lw_all := lw_g (lw_at lw_m5 1 rfl) rfl
theorem q1062 : (Jvm.Cond.code ({ cls := "ExactChains$Field", name := "times", desc := "([[ILExactChains$Vector;)LExactChains$Vector;" } : Jvm.MethodName) prog_5_method_10_code (5 : Nat) (Option.some (Jvm.ClassFile.FieldType.object "ExactChains$Vector"))) ∈ lw_all := lw_g (lw_at lw_m5 2 rfl) rfl
theorem q1146 : (Jvm.Cond.instanceMethod ({ cls := "ExactChains$Field", name := "table", desc := "(IILExactChains$Cell;)[[I" } : Jvm.MethodName)) ∈ lw_all := lw_g (lw_at lw_m5 86 rfl) rfl
theorem q1147 : (Jvm.Cond.selects "ExactChains$Field" ({ cls := "ExactChains$Field", name := "table", desc := "(IILExactChains$Cell;)[[I" } : Jvm.MethodName) ({ cls := "ExactChains$Field", name := "table", desc := "(IILExactChains$Cell;)[[I" } : Jvm.MethodName)) ∈ lw_all := lw_g (lw_at lw_m5 87 rfl) rfl
theorem q1148 : (Jvm.Cond.code ({ cls := "ExactChains$Field", name := "table", desc := "(IILExactChains$Cell;)[[I" } : Jvm.MethodName) prog_5_method_11_code (7 : Nat) (Option.some (Jvm.ClassFile.FieldType.array (Jvm.ClassFile.FieldType.array Jvm.ClassFile.FieldType.int)))) ∈ lw_all := lw_g (lw_at lw_m5 88 rfl) rfl
theorem q1149 : (Jvm.Cond.classLink "ExactChains$Field" (43 : Nat) "[[I") ∈ lw_all := lw_g (lw_at lw_m5 89 rfl) rfl
theorem q1150 : (Jvm.Cond.interfaceEntry "ExactChains$Field" (45 : Nat)) ∈ lw_tbl := lw_at lw_m5 90 rfl
theorem q1151 : (Jvm.Cond.methodLink "ExactChains$Field" (45 : Nat) ({ cls := "ExactChains$Cell", name := "at", desc := "(II)I" } : Jvm.MethodName)) ∈ lw_all := lw_g (lw_at lw_m5 91 rfl) rfl
theorem q1184 : (Jvm.Cond.instanceMethod ({ cls := "ExactChains$Field", name := "less", desc := "(II)I" } : Jvm.MethodName)) ∈ lw_all := lw_g (lw_at lw_m5 124 rfl) rfl
theorem q1185 : (Jvm.Cond.selects "ExactChains$Field" ({ cls := "ExactChains$Field", name := "less", desc := "(II)I" } : Jvm.MethodName) ({ cls := "ExactChains$Field", name := "less", desc := "(II)I" } : Jvm.MethodName)) ∈ lw_all := lw_g (lw_at lw_m5 125 rfl) rfl
theorem q1186 : (Jvm.Cond.code ({ cls := "ExactChains$Field", name := "less", desc := "(II)I" } : Jvm.MethodName) prog_5_method_4_code (3 : Nat) (Option.some Jvm.ClassFile.FieldType.int)) ∈ lw_all := lw_g (lw_at lw_m5 126 rfl) rfl
theorem q1531 : (Jvm.Cond.static ({ cls := "ExactChains$Field", name := "isPrime", desc := "(I)Z" } : Jvm.MethodName)) ∈ lw_all := lw_g (lw_at lw_m6 231 rfl) rfl
theorem q1532 : (Jvm.Cond.code ({ cls := "ExactChains$Field", name := "isPrime", desc := "(I)Z" } : Jvm.MethodName) prog_5_method_2_code (2 : Nat) (Option.some Jvm.ClassFile.FieldType.boolean)) ∈ lw_all := lw_g (lw_at lw_m6 232 rfl) rfl
theorem q1730 : (Jvm.Cond.instanceMethod ({ cls := "ExactChains$Field", name := "has", desc := "(I)Z" } : Jvm.MethodName)) ∈ lw_all := lw_g (lw_at lw_m7 190 rfl) rfl
theorem q1731 : (Jvm.Cond.selects "ExactChains$Field" ({ cls := "ExactChains$Field", name := "has", desc := "(I)Z" } : Jvm.MethodName) ({ cls := "ExactChains$Field", name := "has", desc := "(I)Z" } : Jvm.MethodName)) ∈ lw_all := lw_g (lw_at lw_m7 191 rfl) rfl
theorem q1732 : (Jvm.Cond.code ({ cls := "ExactChains$Field", name := "has", desc := "(I)Z" } : Jvm.MethodName) prog_5_method_3_code (2 : Nat) (Option.some Jvm.ClassFile.FieldType.boolean)) ∈ lw_all := lw_g (lw_at lw_m7 192 rfl) rfl
theorem q1733 : (Jvm.Cond.methodLinkNest "ExactChains$Field" (19 : Nat) ({ cls := "ExactChains", name := "inRange", desc := "(JJJ)Z" } : Jvm.MethodName) "ExactChains") ∈ lw_tbl := lw_at lw_m7 193 rfl
theorem q2514 : (Jvm.Cond.castable "ExactChains$Field" "java/lang/Object") ∈ lw_tbl := lw_at lw_m11 14 rfl
theorem in_X3 : ∀ w ∈ wsX30, w ∈ lw_all := lw_in wsX30 [172, 174] (by decide +kernel) (by decide +kernel)
/-! ExactChains$Vector -/
set_option maxRecDepth 100000
def RX4 : String := "ExactChains$Vector"
def TX4 : u_T := fun k => match k with
  | _ => ("ExactChains$Vector", "numbers", "[I", true)
def tyX4 : Nat → FieldType := fun k => match k with
  | _ => .array .int
abbrev wsX40 : List Cond := u_ws RX4 TX4 1
theorem nmX4 : ∀ a, a < 1 → ∀ b, b < 1 → a ≠ b → (TX4 a).2.1 ≠ (TX4 b).2.1 := by decide +kernel
theorem tyX4_ok : ∀ k, k < 1 → parseFieldDescriptor (TX4 k).2.2.1 = some (tyX4 k) := by decide +kernel
abbrev cX4_init : ByteArray := prog_10_method_1_code
def yX4_init : MethodName := ⟨RX4, "<init>", "([I)V"⟩
def dkwX4_init_0 : List UInt8 := [42, 183, 0, 1, 42, 43, 181, 0, 7, 177]
abbrev dktX4_init_0 : List UInt8 := dkwX4_init_0 ++ []
theorem dksX4_init_0 : cX4_init.data.toList.drop 0 = dktX4_init_0 := by decide +kernel
theorem dX4_init_0 : decode cX4_init 0 = .ok (.aload_n 0, 1) := dk_42 (dk_at dksX4_init_0 0 rfl rfl)
theorem dX4_init_1 : decode cX4_init 1 = .ok (.invokespecial 1, 3) := dk_183 0 1 (dk_at dksX4_init_0 1 rfl rfl)
theorem dX4_init_4 : decode cX4_init 4 = .ok (.aload_n 0, 1) := dk_42 (dk_at dksX4_init_0 4 rfl rfl)
theorem dX4_init_5 : decode cX4_init 5 = .ok (.aload_n 1, 1) := dk_43 (dk_at dksX4_init_0 5 rfl rfl)
theorem dX4_init_6 : decode cX4_init 6 = .ok (.putfield 7, 3) := dk_181 0 7 (dk_at dksX4_init_0 6 rfl rfl)
theorem dX4_init_9 : decode cX4_init 9 = .ok (.return_, 1) := dk_177 (dk_at dksX4_init_0 9 rfl rfl)
abbrev cX4_isNull : ByteArray := prog_10_method_4_code
def yX4_isNull : MethodName := ⟨RX4, "isNull", "()Z"⟩
def dkwX4_isNull_1 : List UInt8 := [153, 0, 5, 3, 172, 132, 3, 1, 167, 255, 236, 4, 172]
abbrev dktX4_isNull_1 : List UInt8 := dkwX4_isNull_1 ++ []
def dkwX4_isNull_0 : List UInt8 := [42, 180, 0, 7, 76, 43, 190, 61, 3, 62, 29, 28, 162, 0, 21, 43, 29, 46, 54, 4, 21, 4]
abbrev dktX4_isNull_0 : List UInt8 := dkwX4_isNull_0 ++ dktX4_isNull_1
theorem dksX4_isNull_0 : cX4_isNull.data.toList.drop 0 = dktX4_isNull_0 := by decide +kernel
theorem dksX4_isNull_1 : cX4_isNull.data.toList.drop 22 = dktX4_isNull_1 := dk_seg dksX4_isNull_0 22 rfl rfl
theorem dX4_isNull_0 : decode cX4_isNull 0 = .ok (.aload_n 0, 1) := dk_42 (dk_at dksX4_isNull_0 0 rfl rfl)
theorem dX4_isNull_1 : decode cX4_isNull 1 = .ok (.getfield 7, 3) := dk_180 0 7 (dk_at dksX4_isNull_0 1 rfl rfl)
theorem dX4_isNull_4 : decode cX4_isNull 4 = .ok (.astore_n 1, 1) := dk_76 (dk_at dksX4_isNull_0 4 rfl rfl)
theorem dX4_isNull_5 : decode cX4_isNull 5 = .ok (.aload_n 1, 1) := dk_43 (dk_at dksX4_isNull_0 5 rfl rfl)
theorem dX4_isNull_6 : decode cX4_isNull 6 = .ok (.arraylength, 1) := dk_190 (dk_at dksX4_isNull_0 6 rfl rfl)
theorem dX4_isNull_7 : decode cX4_isNull 7 = .ok (.istore_n 2, 1) := dk_61 (dk_at dksX4_isNull_0 7 rfl rfl)
theorem dX4_isNull_8 : decode cX4_isNull 8 = .ok (.iconst 0, 1) := dk_3 (dk_at dksX4_isNull_0 8 rfl rfl)
theorem dX4_isNull_9 : decode cX4_isNull 9 = .ok (.istore_n 3, 1) := dk_62 (dk_at dksX4_isNull_0 9 rfl rfl)
theorem dX4_isNull_10 : decode cX4_isNull 10 = .ok (.iload_n 3, 1) := dk_29 (dk_at dksX4_isNull_0 10 rfl rfl)
theorem dX4_isNull_11 : decode cX4_isNull 11 = .ok (.iload_n 2, 1) := dk_28 (dk_at dksX4_isNull_0 11 rfl rfl)
theorem dX4_isNull_12 : decode cX4_isNull 12 = .ok (.if_icmp .ge 21, 3) := dk_162 0 21 (dk_at dksX4_isNull_0 12 rfl rfl)
theorem dX4_isNull_15 : decode cX4_isNull 15 = .ok (.aload_n 1, 1) := dk_43 (dk_at dksX4_isNull_0 15 rfl rfl)
theorem dX4_isNull_16 : decode cX4_isNull 16 = .ok (.iload_n 3, 1) := dk_29 (dk_at dksX4_isNull_0 16 rfl rfl)
theorem dX4_isNull_17 : decode cX4_isNull 17 = .ok (.iaload, 1) := dk_46 (dk_at dksX4_isNull_0 17 rfl rfl)
theorem dX4_isNull_18 : decode cX4_isNull 18 = .ok (.istore 4, 2) := dk_54 4 (dk_at dksX4_isNull_0 18 rfl rfl)
theorem dX4_isNull_20 : decode cX4_isNull 20 = .ok (.iload 4, 2) := dk_21 4 (dk_at dksX4_isNull_0 20 rfl rfl)
theorem dX4_isNull_22 : decode cX4_isNull 22 = .ok (.ifCond .eq 5, 3) := dk_153 0 5 (dk_at dksX4_isNull_1 0 rfl rfl)
theorem dX4_isNull_25 : decode cX4_isNull 25 = .ok (.iconst 0, 1) := dk_3 (dk_at dksX4_isNull_1 3 rfl rfl)
theorem dX4_isNull_26 : decode cX4_isNull 26 = .ok (.ireturn, 1) := dk_172 (dk_at dksX4_isNull_1 4 rfl rfl)
theorem dX4_isNull_27 : decode cX4_isNull 27 = .ok (.iinc 3 1, 3) := dk_132 3 1 (dk_at dksX4_isNull_1 5 rfl rfl)
theorem dX4_isNull_30 : decode cX4_isNull 30 = .ok (.goto (-20), 3) := dk_167 255 236 (dk_at dksX4_isNull_1 8 rfl rfl)
theorem dX4_isNull_33 : decode cX4_isNull 33 = .ok (.iconst 1, 1) := dk_4 (dk_at dksX4_isNull_1 11 rfl rfl)
theorem dX4_isNull_34 : decode cX4_isNull 34 = .ok (.ireturn, 1) := dk_172 (dk_at dksX4_isNull_1 12 rfl rfl)
abbrev cX4_unit : ByteArray := prog_10_method_2_code
def yX4_unit : MethodName := ⟨RX4, "unit", "(II)LExactChains$Vector;"⟩
def dkwX4_unit_0 : List UInt8 := [26, 188, 10, 77, 44, 27, 4, 79, 187, 0, 8, 89, 44, 183, 0, 13, 176]
abbrev dktX4_unit_0 : List UInt8 := dkwX4_unit_0 ++ []
theorem dksX4_unit_0 : cX4_unit.data.toList.drop 0 = dktX4_unit_0 := by decide +kernel
theorem dX4_unit_0 : decode cX4_unit 0 = .ok (.iload_n 0, 1) := dk_26 (dk_at dksX4_unit_0 0 rfl rfl)
theorem dX4_unit_1 : decode cX4_unit 1 = .ok (.newarray .int, 2) := dk_188_10 (dk_at dksX4_unit_0 1 rfl rfl)
theorem dX4_unit_3 : decode cX4_unit 3 = .ok (.astore_n 2, 1) := dk_77 (dk_at dksX4_unit_0 3 rfl rfl)
theorem dX4_unit_4 : decode cX4_unit 4 = .ok (.aload_n 2, 1) := dk_44 (dk_at dksX4_unit_0 4 rfl rfl)
theorem dX4_unit_5 : decode cX4_unit 5 = .ok (.iload_n 1, 1) := dk_27 (dk_at dksX4_unit_0 5 rfl rfl)
theorem dX4_unit_6 : decode cX4_unit 6 = .ok (.iconst 1, 1) := dk_4 (dk_at dksX4_unit_0 6 rfl rfl)
theorem dX4_unit_7 : decode cX4_unit 7 = .ok (.iastore, 1) := dk_79 (dk_at dksX4_unit_0 7 rfl rfl)
theorem dX4_unit_8 : decode cX4_unit 8 = .ok (.new 8, 3) := dk_187 0 8 (dk_at dksX4_unit_0 8 rfl rfl)
theorem dX4_unit_11 : decode cX4_unit 11 = .ok (.dup, 1) := dk_89 (dk_at dksX4_unit_0 11 rfl rfl)
theorem dX4_unit_12 : decode cX4_unit 12 = .ok (.aload_n 2, 1) := dk_44 (dk_at dksX4_unit_0 12 rfl rfl)
theorem dX4_unit_13 : decode cX4_unit 13 = .ok (.invokespecial 13, 3) := dk_183 0 13 (dk_at dksX4_unit_0 13 rfl rfl)
theorem dX4_unit_16 : decode cX4_unit 16 = .ok (.areturn, 1) := dk_176 (dk_at dksX4_unit_0 16 rfl rfl)
abbrev cX4_size : ByteArray := prog_10_method_3_code
def yX4_size : MethodName := ⟨RX4, "size", "()I"⟩
def dkwX4_size_0 : List UInt8 := [42, 180, 0, 7, 190, 172]
abbrev dktX4_size_0 : List UInt8 := dkwX4_size_0 ++ []
theorem dksX4_size_0 : cX4_size.data.toList.drop 0 = dktX4_size_0 := by decide +kernel
theorem dX4_size_0 : decode cX4_size 0 = .ok (.aload_n 0, 1) := dk_42 (dk_at dksX4_size_0 0 rfl rfl)
theorem dX4_size_1 : decode cX4_size 1 = .ok (.getfield 7, 3) := dk_180 0 7 (dk_at dksX4_size_0 1 rfl rfl)
theorem dX4_size_4 : decode cX4_size 4 = .ok (.arraylength, 1) := dk_190 (dk_at dksX4_size_0 4 rfl rfl)
theorem dX4_size_5 : decode cX4_size 5 = .ok (.ireturn, 1) := dk_172 (dk_at dksX4_size_0 5 rfl rfl)
abbrev cX4_with : ByteArray := prog_10_method_5_code
def yX4_with : MethodName := ⟨RX4, "with", "(II)LExactChains$Vector;"⟩
def dkwX4_with_0 : List UInt8 := [42, 180, 0, 7, 182, 0, 16, 192, 0, 17, 78, 45, 27, 28, 79, 187, 0, 8, 89, 45, 183, 0, 13, 176]
abbrev dktX4_with_0 : List UInt8 := dkwX4_with_0 ++ []
theorem dksX4_with_0 : cX4_with.data.toList.drop 0 = dktX4_with_0 := by decide +kernel
theorem dX4_with_0 : decode cX4_with 0 = .ok (.aload_n 0, 1) := dk_42 (dk_at dksX4_with_0 0 rfl rfl)
theorem dX4_with_1 : decode cX4_with 1 = .ok (.getfield 7, 3) := dk_180 0 7 (dk_at dksX4_with_0 1 rfl rfl)
theorem dX4_with_4 : decode cX4_with 4 = .ok (.invokevirtual 16, 3) := dk_182 0 16 (dk_at dksX4_with_0 4 rfl rfl)
theorem dX4_with_7 : decode cX4_with 7 = .ok (.checkcast 17, 3) := dk_192 0 17 (dk_at dksX4_with_0 7 rfl rfl)
theorem dX4_with_10 : decode cX4_with 10 = .ok (.astore_n 3, 1) := dk_78 (dk_at dksX4_with_0 10 rfl rfl)
theorem dX4_with_11 : decode cX4_with 11 = .ok (.aload_n 3, 1) := dk_45 (dk_at dksX4_with_0 11 rfl rfl)
theorem dX4_with_12 : decode cX4_with 12 = .ok (.iload_n 1, 1) := dk_27 (dk_at dksX4_with_0 12 rfl rfl)
theorem dX4_with_13 : decode cX4_with 13 = .ok (.iload_n 2, 1) := dk_28 (dk_at dksX4_with_0 13 rfl rfl)
theorem dX4_with_14 : decode cX4_with 14 = .ok (.iastore, 1) := dk_79 (dk_at dksX4_with_0 14 rfl rfl)
theorem dX4_with_15 : decode cX4_with 15 = .ok (.new 8, 3) := dk_187 0 8 (dk_at dksX4_with_0 15 rfl rfl)
theorem dX4_with_18 : decode cX4_with 18 = .ok (.dup, 1) := dk_89 (dk_at dksX4_with_0 18 rfl rfl)
theorem dX4_with_19 : decode cX4_with 19 = .ok (.aload_n 3, 1) := dk_45 (dk_at dksX4_with_0 19 rfl rfl)
theorem dX4_with_20 : decode cX4_with 20 = .ok (.invokespecial 13, 3) := dk_183 0 13 (dk_at dksX4_with_0 20 rfl rfl)
theorem dX4_with_23 : decode cX4_with 23 = .ok (.areturn, 1) := dk_176 (dk_at dksX4_with_0 23 rfl rfl)
theorem q123 : (Jvm.Cond.initialized "ExactChains$Vector") ∈ lw_all := lw_g (lw_at lw_m1 23 rfl) rfl
theorem q550 : (Jvm.Cond.instantiable "ExactChains$Vector" (1 : Nat)) ∈ lw_all := lw_g (lw_at lw_m2 210 rfl) rfl
theorem q552 : (Jvm.Cond.instanceMethod ({ cls := "ExactChains$Vector", name := "<init>", desc := "([I)V" } : Jvm.MethodName)) ∈ lw_all := lw_g (lw_at lw_m2 212 rfl) rfl
theorem q553 : (Jvm.Cond.code ({ cls := "ExactChains$Vector", name := "<init>", desc := "([I)V" } : Jvm.MethodName) prog_10_method_1_code (2 : Nat) (Option.none : Option Jvm.ClassFile.FieldType)) ∈ lw_all := lw_g (lw_at lw_m2 213 rfl) rfl
theorem q554 : (Jvm.Cond.methodLink "ExactChains$Vector" (1 : Nat) ({ cls := "java/lang/Object", name := "<init>", desc := "()V" } : Jvm.MethodName)) ∈ lw_all := lw_g (lw_at lw_m2 214 rfl) rfl
theorem q555 : (Jvm.Cond.fieldLink "ExactChains$Vector" (7 : Nat) "ExactChains$Vector" "numbers" "[I") ∈ lw_all := lw_g (lw_at lw_m2 215 rfl) rfl
theorem q559 : (Jvm.Cond.laysFinal "ExactChains$Vector" "ExactChains$Vector" "numbers" "[I") ∈ lw_all := lw_g (lw_at lw_m2 219 rfl) rfl
theorem q560 : (Jvm.Cond.soleField "ExactChains$Vector" "numbers") ∈ lw_all := lw_g (lw_at lw_m2 220 rfl) rfl
theorem q561 : (Jvm.Cond.superclass "ExactChains$Vector" "java/lang/Object") ∈ lw_all := lw_g (lw_at lw_m2 221 rfl) rfl
theorem q730 : (Jvm.Cond.selects "ExactChains$Vector" ({ cls := "java/lang/Object", name := "getClass", desc := "()Ljava/lang/Class;" } : Jvm.MethodName) ({ cls := "java/lang/Object", name := "getClass", desc := "()Ljava/lang/Class;" } : Jvm.MethodName)) ∈ lw_all := lw_g (lw_at lw_m3 150 rfl) rfl
theorem q919 : (Jvm.Cond.instanceMethod ({ cls := "ExactChains$Vector", name := "isNull", desc := "()Z" } : Jvm.MethodName)) ∈ lw_all := lw_g (lw_at lw_m4 99 rfl) rfl
theorem q920 : (Jvm.Cond.selects "ExactChains$Vector" ({ cls := "ExactChains$Vector", name := "isNull", desc := "()Z" } : Jvm.MethodName) ({ cls := "ExactChains$Vector", name := "isNull", desc := "()Z" } : Jvm.MethodName)) ∈ lw_all := lw_g (lw_at lw_m4 100 rfl) rfl
theorem q921 : (Jvm.Cond.code ({ cls := "ExactChains$Vector", name := "isNull", desc := "()Z" } : Jvm.MethodName) prog_10_method_4_code (5 : Nat) (Option.some Jvm.ClassFile.FieldType.boolean)) ∈ lw_all := lw_g (lw_at lw_m4 101 rfl) rfl
theorem q1005 : (Jvm.Cond.static ({ cls := "ExactChains$Vector", name := "unit", desc := "(II)LExactChains$Vector;" } : Jvm.MethodName)) ∈ lw_all := lw_g (lw_at lw_m4 185 rfl) rfl
theorem q1006 : (Jvm.Cond.code ({ cls := "ExactChains$Vector", name := "unit", desc := "(II)LExactChains$Vector;" } : Jvm.MethodName) prog_10_method_2_code (3 : Nat) (Option.some (Jvm.ClassFile.FieldType.object "ExactChains$Vector"))) ∈ lw_all := lw_g (lw_at lw_m4 186 rfl) rfl
theorem q1007 : (Jvm.Cond.classLink "ExactChains$Vector" (8 : Nat) "ExactChains$Vector") ∈ lw_all := lw_g (lw_at lw_m4 187 rfl) rfl
theorem q1008 : (Jvm.Cond.methodLink "ExactChains$Vector" (13 : Nat) ({ cls := "ExactChains$Vector", name := "<init>", desc := "([I)V" } : Jvm.MethodName)) ∈ lw_all := lw_g (lw_at lw_m4 188 rfl) rfl
theorem q1038 : (Jvm.Cond.instanceMethod ({ cls := "ExactChains$Vector", name := "size", desc := "()I" } : Jvm.MethodName)) ∈ lw_all := lw_g (lw_at lw_m4 218 rfl) rfl
theorem q1039 : (Jvm.Cond.selects "ExactChains$Vector" ({ cls := "ExactChains$Vector", name := "size", desc := "()I" } : Jvm.MethodName) ({ cls := "ExactChains$Vector", name := "size", desc := "()I" } : Jvm.MethodName)) ∈ lw_all := lw_g (lw_at lw_m4 219 rfl) rfl
theorem q1040 : (Jvm.Cond.code ({ cls := "ExactChains$Vector", name := "size", desc := "()I" } : Jvm.MethodName) prog_10_method_3_code (1 : Nat) (Option.some Jvm.ClassFile.FieldType.int)) ∈ lw_all := lw_g (lw_at lw_m4 220 rfl) rfl
theorem q1624 : (Jvm.Cond.instanceMethod ({ cls := "ExactChains$Vector", name := "with", desc := "(II)LExactChains$Vector;" } : Jvm.MethodName)) ∈ lw_all := lw_g (lw_at lw_m7 84 rfl) rfl
theorem q1625 : (Jvm.Cond.selects "ExactChains$Vector" ({ cls := "ExactChains$Vector", name := "with", desc := "(II)LExactChains$Vector;" } : Jvm.MethodName) ({ cls := "ExactChains$Vector", name := "with", desc := "(II)LExactChains$Vector;" } : Jvm.MethodName)) ∈ lw_all := lw_g (lw_at lw_m7 85 rfl) rfl
theorem q1626 : (Jvm.Cond.code ({ cls := "ExactChains$Vector", name := "with", desc := "(II)LExactChains$Vector;" } : Jvm.MethodName) prog_10_method_5_code (4 : Nat) (Option.some (Jvm.ClassFile.FieldType.object "ExactChains$Vector"))) ∈ lw_all := lw_g (lw_at lw_m7 86 rfl) rfl
theorem q1627 : (Jvm.Cond.methodLink "ExactChains$Vector" (16 : Nat) ({ cls := "[I", name := "clone", desc := "()Ljava/lang/Object;" } : Jvm.MethodName)) ∈ lw_all := lw_g (lw_at lw_m7 87 rfl) rfl
theorem q1631 : (Jvm.Cond.classLink "ExactChains$Vector" (17 : Nat) "[I") ∈ lw_all := lw_g (lw_at lw_m7 91 rfl) rfl
theorem q2519 : (Jvm.Cond.castable "ExactChains$Vector" "java/lang/Object") ∈ lw_tbl := lw_at lw_m11 19 rfl
theorem in_X4 : ∀ w ∈ wsX40, w ∈ lw_all := lw_in wsX40 [559] (by decide +kernel) (by decide +kernel)
/-! ExactChains$Reader -/
set_option maxRecDepth 100000
def RX6 : String := "ExactChains$Reader"
def TX6 : u_T := fun k => match k with
  | 0 => ("ExactChains$Reader", "end", "I", true)
  | 1 => ("ExactChains$Reader", "made", "LExactChains$Process;", false)
  | 2 => ("ExactChains$Reader", "at", "I", false)
  | 3 => ("ExactChains$Reader", "from", "I", false)
  | _ => ("ExactChains$Reader", "this$0", "LExactChains;", true)
def tyX6 : Nat → FieldType := fun k => match k with
  | 0 => .int
  | 1 => .object "ExactChains$Process"
  | 2 => .int
  | 3 => .int
  | _ => .object "ExactChains"
abbrev wsX60 : List Cond := u_ws RX6 TX6 5
theorem nmX6 : ∀ a, a < 5 → ∀ b, b < 5 → a ≠ b → (TX6 a).2.1 ≠ (TX6 b).2.1 := by decide +kernel
theorem tyX6_ok : ∀ k, k < 5 → parseFieldDescriptor (TX6 k).2.2.1 = some (tyX6 k) := by decide +kernel
abbrev cX6_init : ByteArray := prog_7_method_1_code
def yX6_init : MethodName := ⟨RX6, "<init>", "(LExactChains;I)V"⟩
def dkwX6_init_0 : List UInt8 := [42, 43, 181, 0, 3, 42, 183, 0, 9, 42, 28, 181, 0, 15, 43, 2, 181, 0, 19, 177]
abbrev dktX6_init_0 : List UInt8 := dkwX6_init_0 ++ []
theorem dksX6_init_0 : cX6_init.data.toList.drop 0 = dktX6_init_0 := by decide +kernel
theorem dX6_init_0 : decode cX6_init 0 = .ok (.aload_n 0, 1) := dk_42 (dk_at dksX6_init_0 0 rfl rfl)
theorem dX6_init_1 : decode cX6_init 1 = .ok (.aload_n 1, 1) := dk_43 (dk_at dksX6_init_0 1 rfl rfl)
theorem dX6_init_2 : decode cX6_init 2 = .ok (.putfield 3, 3) := dk_181 0 3 (dk_at dksX6_init_0 2 rfl rfl)
theorem dX6_init_5 : decode cX6_init 5 = .ok (.aload_n 0, 1) := dk_42 (dk_at dksX6_init_0 5 rfl rfl)
theorem dX6_init_6 : decode cX6_init 6 = .ok (.invokespecial 9, 3) := dk_183 0 9 (dk_at dksX6_init_0 6 rfl rfl)
theorem dX6_init_9 : decode cX6_init 9 = .ok (.aload_n 0, 1) := dk_42 (dk_at dksX6_init_0 9 rfl rfl)
theorem dX6_init_10 : decode cX6_init 10 = .ok (.iload_n 2, 1) := dk_28 (dk_at dksX6_init_0 10 rfl rfl)
theorem dX6_init_11 : decode cX6_init 11 = .ok (.putfield 15, 3) := dk_181 0 15 (dk_at dksX6_init_0 11 rfl rfl)
theorem dX6_init_14 : decode cX6_init 14 = .ok (.aload_n 1, 1) := dk_43 (dk_at dksX6_init_0 14 rfl rfl)
theorem dX6_init_15 : decode cX6_init 15 = .ok (.iconst (-1), 1) := dk_2 (dk_at dksX6_init_0 15 rfl rfl)
theorem dX6_init_16 : decode cX6_init 16 = .ok (.putfield 19, 3) := dk_181 0 19 (dk_at dksX6_init_0 16 rfl rfl)
theorem dX6_init_19 : decode cX6_init 19 = .ok (.return_, 1) := dk_177 (dk_at dksX6_init_0 19 rfl rfl)
abbrev cX6_read : ByteArray := prog_7_method_13_code
def yX6_read : MethodName := ⟨RX6, "read", "()LExactChains$Process;"⟩
def dkwX6_read_3 : List UInt8 := [182, 0, 169, 167, 255, 244, 42, 180, 0, 93, 176]
abbrev dktX6_read_3 : List UInt8 := dkwX6_read_3 ++ []
def dkwX6_read_2 : List UInt8 := [182, 0, 102, 183, 0, 168, 181, 0, 93, 42, 182, 0, 155, 42, 182, 0, 40, 2, 159, 0, 10, 42]
abbrev dktX6_read_2 : List UInt8 := dkwX6_read_2 ++ dktX6_read_3
def dkwX6_read_1 : List UInt8 := [180, 0, 68, 182, 0, 71, 42, 18, 167, 182, 0, 159, 42, 187, 0, 98, 89, 27, 42, 4, 16, 8]
abbrev dktX6_read_1 : List UInt8 := dkwX6_read_1 ++ dktX6_read_2
def dkwX6_read_0 : List UInt8 := [42, 18, 158, 182, 0, 159, 42, 6, 16, 97, 182, 0, 102, 60, 42, 27, 184, 0, 163, 16, 253, 42]
abbrev dktX6_read_0 : List UInt8 := dkwX6_read_0 ++ dktX6_read_1
theorem dksX6_read_0 : cX6_read.data.toList.drop 0 = dktX6_read_0 := by decide +kernel
theorem dksX6_read_1 : cX6_read.data.toList.drop 22 = dktX6_read_1 := dk_seg dksX6_read_0 22 rfl rfl
theorem dksX6_read_2 : cX6_read.data.toList.drop 44 = dktX6_read_2 := dk_seg dksX6_read_1 22 rfl rfl
theorem dksX6_read_3 : cX6_read.data.toList.drop 66 = dktX6_read_3 := dk_seg dksX6_read_2 22 rfl rfl
theorem dX6_read_0 : decode cX6_read 0 = .ok (.aload_n 0, 1) := dk_42 (dk_at dksX6_read_0 0 rfl rfl)
theorem dX6_read_1 : decode cX6_read 1 = .ok (.ldc 158, 2) := dk_18 158 (dk_at dksX6_read_0 1 rfl rfl)
theorem dX6_read_3 : decode cX6_read 3 = .ok (.invokevirtual 159, 3) := dk_182 0 159 (dk_at dksX6_read_0 3 rfl rfl)
theorem dX6_read_6 : decode cX6_read 6 = .ok (.aload_n 0, 1) := dk_42 (dk_at dksX6_read_0 6 rfl rfl)
theorem dX6_read_7 : decode cX6_read 7 = .ok (.iconst 3, 1) := dk_6 (dk_at dksX6_read_0 7 rfl rfl)
theorem dX6_read_8 : decode cX6_read 8 = .ok (.bipush 97, 2) := dk_16 97 (dk_at dksX6_read_0 8 rfl rfl)
theorem dX6_read_10 : decode cX6_read 10 = .ok (.invokevirtual 102, 3) := dk_182 0 102 (dk_at dksX6_read_0 10 rfl rfl)
theorem dX6_read_13 : decode cX6_read 13 = .ok (.istore_n 1, 1) := dk_60 (dk_at dksX6_read_0 13 rfl rfl)
theorem dX6_read_14 : decode cX6_read 14 = .ok (.aload_n 0, 1) := dk_42 (dk_at dksX6_read_0 14 rfl rfl)
theorem dX6_read_15 : decode cX6_read 15 = .ok (.iload_n 1, 1) := dk_27 (dk_at dksX6_read_0 15 rfl rfl)
theorem dX6_read_16 : decode cX6_read 16 = .ok (.invokestatic 163, 3) := dk_184 0 163 (dk_at dksX6_read_0 16 rfl rfl)
theorem dX6_read_19 : decode cX6_read 19 = .ok (.bipush (-3), 2) := dk_16 253 (dk_at dksX6_read_0 19 rfl rfl)
theorem dX6_read_21 : decode cX6_read 21 = .ok (.aload_n 0, 1) := dk_42 (dk_at dksX6_read_0 21 rfl rfl)
theorem dX6_read_22 : decode cX6_read 22 = .ok (.getfield 68, 3) := dk_180 0 68 (dk_at dksX6_read_1 0 rfl rfl)
theorem dX6_read_25 : decode cX6_read 25 = .ok (.invokevirtual 71, 3) := dk_182 0 71 (dk_at dksX6_read_1 3 rfl rfl)
theorem dX6_read_28 : decode cX6_read 28 = .ok (.aload_n 0, 1) := dk_42 (dk_at dksX6_read_1 6 rfl rfl)
theorem dX6_read_29 : decode cX6_read 29 = .ok (.ldc 167, 2) := dk_18 167 (dk_at dksX6_read_1 7 rfl rfl)
theorem dX6_read_31 : decode cX6_read 31 = .ok (.invokevirtual 159, 3) := dk_182 0 159 (dk_at dksX6_read_1 9 rfl rfl)
theorem dX6_read_34 : decode cX6_read 34 = .ok (.aload_n 0, 1) := dk_42 (dk_at dksX6_read_1 12 rfl rfl)
theorem dX6_read_35 : decode cX6_read 35 = .ok (.new 98, 3) := dk_187 0 98 (dk_at dksX6_read_1 13 rfl rfl)
theorem dX6_read_38 : decode cX6_read 38 = .ok (.dup, 1) := dk_89 (dk_at dksX6_read_1 16 rfl rfl)
theorem dX6_read_39 : decode cX6_read 39 = .ok (.iload_n 1, 1) := dk_27 (dk_at dksX6_read_1 17 rfl rfl)
theorem dX6_read_40 : decode cX6_read 40 = .ok (.aload_n 0, 1) := dk_42 (dk_at dksX6_read_1 18 rfl rfl)
theorem dX6_read_41 : decode cX6_read 41 = .ok (.iconst 1, 1) := dk_4 (dk_at dksX6_read_1 19 rfl rfl)
theorem dX6_read_42 : decode cX6_read 42 = .ok (.bipush 8, 2) := dk_16 8 (dk_at dksX6_read_1 20 rfl rfl)
theorem dX6_read_44 : decode cX6_read 44 = .ok (.invokevirtual 102, 3) := dk_182 0 102 (dk_at dksX6_read_2 0 rfl rfl)
theorem dX6_read_47 : decode cX6_read 47 = .ok (.invokespecial 168, 3) := dk_183 0 168 (dk_at dksX6_read_2 3 rfl rfl)
theorem dX6_read_50 : decode cX6_read 50 = .ok (.putfield 93, 3) := dk_181 0 93 (dk_at dksX6_read_2 6 rfl rfl)
theorem dX6_read_53 : decode cX6_read 53 = .ok (.aload_n 0, 1) := dk_42 (dk_at dksX6_read_2 9 rfl rfl)
theorem dX6_read_54 : decode cX6_read 54 = .ok (.invokevirtual 155, 3) := dk_182 0 155 (dk_at dksX6_read_2 10 rfl rfl)
theorem dX6_read_57 : decode cX6_read 57 = .ok (.aload_n 0, 1) := dk_42 (dk_at dksX6_read_2 13 rfl rfl)
theorem dX6_read_58 : decode cX6_read 58 = .ok (.invokevirtual 40, 3) := dk_182 0 40 (dk_at dksX6_read_2 14 rfl rfl)
theorem dX6_read_61 : decode cX6_read 61 = .ok (.iconst (-1), 1) := dk_2 (dk_at dksX6_read_2 17 rfl rfl)
theorem dX6_read_62 : decode cX6_read 62 = .ok (.if_icmp .eq 10, 3) := dk_159 0 10 (dk_at dksX6_read_2 18 rfl rfl)
theorem dX6_read_65 : decode cX6_read 65 = .ok (.aload_n 0, 1) := dk_42 (dk_at dksX6_read_2 21 rfl rfl)
theorem dX6_read_66 : decode cX6_read 66 = .ok (.invokevirtual 169, 3) := dk_182 0 169 (dk_at dksX6_read_3 0 rfl rfl)
theorem dX6_read_69 : decode cX6_read 69 = .ok (.goto (-12), 3) := dk_167 255 244 (dk_at dksX6_read_3 3 rfl rfl)
theorem dX6_read_72 : decode cX6_read 72 = .ok (.aload_n 0, 1) := dk_42 (dk_at dksX6_read_3 6 rfl rfl)
theorem dX6_read_73 : decode cX6_read 73 = .ok (.getfield 93, 3) := dk_180 0 93 (dk_at dksX6_read_3 7 rfl rfl)
theorem dX6_read_76 : decode cX6_read 76 = .ok (.areturn, 1) := dk_176 (dk_at dksX6_read_3 10 rfl rfl)
abbrev cX6_keyword : ByteArray := prog_7_method_8_code
def yX6_keyword : MethodName := ⟨RX6, "keyword", "(Ljava/lang/String;)V"⟩
def dkwX6_keyword_1 : List UInt8 := [180, 0, 25, 44, 182, 0, 91, 96, 181, 0, 25, 177]
abbrev dktX6_keyword_1 : List UInt8 := dkwX6_keyword_1 ++ []
def dkwX6_keyword_0 : List UInt8 := [42, 182, 0, 82, 77, 42, 44, 43, 182, 0, 85, 16, 254, 42, 180, 0, 25, 182, 0, 71, 42, 89]
abbrev dktX6_keyword_0 : List UInt8 := dkwX6_keyword_0 ++ dktX6_keyword_1
theorem dksX6_keyword_0 : cX6_keyword.data.toList.drop 0 = dktX6_keyword_0 := by decide +kernel
theorem dksX6_keyword_1 : cX6_keyword.data.toList.drop 22 = dktX6_keyword_1 := dk_seg dksX6_keyword_0 22 rfl rfl
theorem dX6_keyword_0 : decode cX6_keyword 0 = .ok (.aload_n 0, 1) := dk_42 (dk_at dksX6_keyword_0 0 rfl rfl)
theorem dX6_keyword_1 : decode cX6_keyword 1 = .ok (.invokevirtual 82, 3) := dk_182 0 82 (dk_at dksX6_keyword_0 1 rfl rfl)
theorem dX6_keyword_4 : decode cX6_keyword 4 = .ok (.astore_n 2, 1) := dk_77 (dk_at dksX6_keyword_0 4 rfl rfl)
theorem dX6_keyword_5 : decode cX6_keyword 5 = .ok (.aload_n 0, 1) := dk_42 (dk_at dksX6_keyword_0 5 rfl rfl)
theorem dX6_keyword_6 : decode cX6_keyword 6 = .ok (.aload_n 2, 1) := dk_44 (dk_at dksX6_keyword_0 6 rfl rfl)
theorem dX6_keyword_7 : decode cX6_keyword 7 = .ok (.aload_n 1, 1) := dk_43 (dk_at dksX6_keyword_0 7 rfl rfl)
theorem dX6_keyword_8 : decode cX6_keyword 8 = .ok (.invokevirtual 85, 3) := dk_182 0 85 (dk_at dksX6_keyword_0 8 rfl rfl)
theorem dX6_keyword_11 : decode cX6_keyword 11 = .ok (.bipush (-2), 2) := dk_16 254 (dk_at dksX6_keyword_0 11 rfl rfl)
theorem dX6_keyword_13 : decode cX6_keyword 13 = .ok (.aload_n 0, 1) := dk_42 (dk_at dksX6_keyword_0 13 rfl rfl)
theorem dX6_keyword_14 : decode cX6_keyword 14 = .ok (.getfield 25, 3) := dk_180 0 25 (dk_at dksX6_keyword_0 14 rfl rfl)
theorem dX6_keyword_17 : decode cX6_keyword 17 = .ok (.invokevirtual 71, 3) := dk_182 0 71 (dk_at dksX6_keyword_0 17 rfl rfl)
theorem dX6_keyword_20 : decode cX6_keyword 20 = .ok (.aload_n 0, 1) := dk_42 (dk_at dksX6_keyword_0 20 rfl rfl)
theorem dX6_keyword_21 : decode cX6_keyword 21 = .ok (.dup, 1) := dk_89 (dk_at dksX6_keyword_0 21 rfl rfl)
theorem dX6_keyword_22 : decode cX6_keyword 22 = .ok (.getfield 25, 3) := dk_180 0 25 (dk_at dksX6_keyword_1 0 rfl rfl)
theorem dX6_keyword_25 : decode cX6_keyword 25 = .ok (.aload_n 2, 1) := dk_44 (dk_at dksX6_keyword_1 3 rfl rfl)
theorem dX6_keyword_26 : decode cX6_keyword 26 = .ok (.invokevirtual 91, 3) := dk_182 0 91 (dk_at dksX6_keyword_1 4 rfl rfl)
theorem dX6_keyword_29 : decode cX6_keyword 29 = .ok (.iadd, 1) := dk_96 (dk_at dksX6_keyword_1 7 rfl rfl)
theorem dX6_keyword_30 : decode cX6_keyword 30 = .ok (.putfield 25, 3) := dk_181 0 25 (dk_at dksX6_keyword_1 8 rfl rfl)
theorem dX6_keyword_33 : decode cX6_keyword 33 = .ok (.return_, 1) := dk_177 (dk_at dksX6_keyword_1 11 rfl rfl)
abbrev cX6_word : ByteArray := prog_7_method_5_code
def yX6_word : MethodName := ⟨RX6, "word", "()Ljava/lang/String;"⟩
def dkwX6_word_3 : List UInt8 := [43, 182, 0, 56, 176]
abbrev dktX6_word_3 : List UInt8 := dkwX6_word_3 ++ []
def dkwX6_word_2 : List UInt8 := [153, 0, 24, 43, 42, 180, 0, 3, 180, 0, 28, 28, 51, 146, 182, 0, 52, 87, 132, 2, 1, 167, 255, 208]
abbrev dktX6_word_2 : List UInt8 := dkwX6_word_2 ++ dktX6_word_3
def dkwX6_word_1 : List UInt8 := [162, 0, 46, 42, 180, 0, 3, 180, 0, 28, 28, 51, 133, 20, 0, 44, 20, 0, 46, 184, 0, 48]
abbrev dktX6_word_1 : List UInt8 := dkwX6_word_1 ++ dktX6_word_2
def dkwX6_word_0 : List UInt8 := [187, 0, 37, 89, 183, 0, 39, 76, 42, 182, 0, 40, 87, 42, 180, 0, 25, 61, 28, 42, 180, 0, 15]
abbrev dktX6_word_0 : List UInt8 := dkwX6_word_0 ++ dktX6_word_1
theorem dksX6_word_0 : cX6_word.data.toList.drop 0 = dktX6_word_0 := by decide +kernel
theorem dksX6_word_1 : cX6_word.data.toList.drop 23 = dktX6_word_1 := dk_seg dksX6_word_0 23 rfl rfl
theorem dksX6_word_2 : cX6_word.data.toList.drop 45 = dktX6_word_2 := dk_seg dksX6_word_1 22 rfl rfl
theorem dksX6_word_3 : cX6_word.data.toList.drop 69 = dktX6_word_3 := dk_seg dksX6_word_2 24 rfl rfl
theorem dX6_word_0 : decode cX6_word 0 = .ok (.new 37, 3) := dk_187 0 37 (dk_at dksX6_word_0 0 rfl rfl)
theorem dX6_word_3 : decode cX6_word 3 = .ok (.dup, 1) := dk_89 (dk_at dksX6_word_0 3 rfl rfl)
theorem dX6_word_4 : decode cX6_word 4 = .ok (.invokespecial 39, 3) := dk_183 0 39 (dk_at dksX6_word_0 4 rfl rfl)
theorem dX6_word_7 : decode cX6_word 7 = .ok (.astore_n 1, 1) := dk_76 (dk_at dksX6_word_0 7 rfl rfl)
theorem dX6_word_8 : decode cX6_word 8 = .ok (.aload_n 0, 1) := dk_42 (dk_at dksX6_word_0 8 rfl rfl)
theorem dX6_word_9 : decode cX6_word 9 = .ok (.invokevirtual 40, 3) := dk_182 0 40 (dk_at dksX6_word_0 9 rfl rfl)
theorem dX6_word_12 : decode cX6_word 12 = .ok (.pop, 1) := dk_87 (dk_at dksX6_word_0 12 rfl rfl)
theorem dX6_word_13 : decode cX6_word 13 = .ok (.aload_n 0, 1) := dk_42 (dk_at dksX6_word_0 13 rfl rfl)
theorem dX6_word_14 : decode cX6_word 14 = .ok (.getfield 25, 3) := dk_180 0 25 (dk_at dksX6_word_0 14 rfl rfl)
theorem dX6_word_17 : decode cX6_word 17 = .ok (.istore_n 2, 1) := dk_61 (dk_at dksX6_word_0 17 rfl rfl)
theorem dX6_word_18 : decode cX6_word 18 = .ok (.iload_n 2, 1) := dk_28 (dk_at dksX6_word_0 18 rfl rfl)
theorem dX6_word_19 : decode cX6_word 19 = .ok (.aload_n 0, 1) := dk_42 (dk_at dksX6_word_0 19 rfl rfl)
theorem dX6_word_20 : decode cX6_word 20 = .ok (.getfield 15, 3) := dk_180 0 15 (dk_at dksX6_word_0 20 rfl rfl)
theorem dX6_word_23 : decode cX6_word 23 = .ok (.if_icmp .ge 46, 3) := dk_162 0 46 (dk_at dksX6_word_1 0 rfl rfl)
theorem dX6_word_26 : decode cX6_word 26 = .ok (.aload_n 0, 1) := dk_42 (dk_at dksX6_word_1 3 rfl rfl)
theorem dX6_word_27 : decode cX6_word 27 = .ok (.getfield 3, 3) := dk_180 0 3 (dk_at dksX6_word_1 4 rfl rfl)
theorem dX6_word_30 : decode cX6_word 30 = .ok (.getfield 28, 3) := dk_180 0 28 (dk_at dksX6_word_1 7 rfl rfl)
theorem dX6_word_33 : decode cX6_word 33 = .ok (.iload_n 2, 1) := dk_28 (dk_at dksX6_word_1 10 rfl rfl)
theorem dX6_word_34 : decode cX6_word 34 = .ok (.baload, 1) := dk_51 (dk_at dksX6_word_1 11 rfl rfl)
theorem dX6_word_35 : decode cX6_word 35 = .ok (.i2l, 1) := dk_133 (dk_at dksX6_word_1 12 rfl rfl)
theorem dX6_word_36 : decode cX6_word 36 = .ok (.ldc2_w 44, 3) := dk_20 0 44 (dk_at dksX6_word_1 13 rfl rfl)
theorem dX6_word_39 : decode cX6_word 39 = .ok (.ldc2_w 46, 3) := dk_20 0 46 (dk_at dksX6_word_1 16 rfl rfl)
theorem dX6_word_42 : decode cX6_word 42 = .ok (.invokestatic 48, 3) := dk_184 0 48 (dk_at dksX6_word_1 19 rfl rfl)
theorem dX6_word_45 : decode cX6_word 45 = .ok (.ifCond .eq 24, 3) := dk_153 0 24 (dk_at dksX6_word_2 0 rfl rfl)
theorem dX6_word_48 : decode cX6_word 48 = .ok (.aload_n 1, 1) := dk_43 (dk_at dksX6_word_2 3 rfl rfl)
theorem dX6_word_49 : decode cX6_word 49 = .ok (.aload_n 0, 1) := dk_42 (dk_at dksX6_word_2 4 rfl rfl)
theorem dX6_word_50 : decode cX6_word 50 = .ok (.getfield 3, 3) := dk_180 0 3 (dk_at dksX6_word_2 5 rfl rfl)
theorem dX6_word_53 : decode cX6_word 53 = .ok (.getfield 28, 3) := dk_180 0 28 (dk_at dksX6_word_2 8 rfl rfl)
theorem dX6_word_56 : decode cX6_word 56 = .ok (.iload_n 2, 1) := dk_28 (dk_at dksX6_word_2 11 rfl rfl)
theorem dX6_word_57 : decode cX6_word 57 = .ok (.baload, 1) := dk_51 (dk_at dksX6_word_2 12 rfl rfl)
theorem dX6_word_58 : decode cX6_word 58 = .ok (.i2c, 1) := dk_146 (dk_at dksX6_word_2 13 rfl rfl)
theorem dX6_word_59 : decode cX6_word 59 = .ok (.invokevirtual 52, 3) := dk_182 0 52 (dk_at dksX6_word_2 14 rfl rfl)
theorem dX6_word_62 : decode cX6_word 62 = .ok (.pop, 1) := dk_87 (dk_at dksX6_word_2 17 rfl rfl)
theorem dX6_word_63 : decode cX6_word 63 = .ok (.iinc 2 1, 3) := dk_132 2 1 (dk_at dksX6_word_2 18 rfl rfl)
theorem dX6_word_66 : decode cX6_word 66 = .ok (.goto (-48), 3) := dk_167 255 208 (dk_at dksX6_word_2 21 rfl rfl)
theorem dX6_word_69 : decode cX6_word 69 = .ok (.aload_n 1, 1) := dk_43 (dk_at dksX6_word_3 0 rfl rfl)
theorem dX6_word_70 : decode cX6_word 70 = .ok (.invokevirtual 56, 3) := dk_182 0 56 (dk_at dksX6_word_3 1 rfl rfl)
theorem dX6_word_73 : decode cX6_word 73 = .ok (.areturn, 1) := dk_176 (dk_at dksX6_word_3 4 rfl rfl)
abbrev cX6_peek : ByteArray := prog_7_method_3_code
def yX6_peek : MethodName := ⟨RX6, "peek", "()I"⟩
def dkwX6_peek_3 : List UInt8 := [167, 0, 4, 2, 172]
abbrev dktX6_peek_3 : List UInt8 := dkwX6_peek_3 ++ []
def dkwX6_peek_2 : List UInt8 := [180, 0, 15, 162, 0, 22, 42, 180, 0, 3, 180, 0, 28, 42, 180, 0, 25, 51, 17, 0, 255, 126]
abbrev dktX6_peek_2 : List UInt8 := dkwX6_peek_2 ++ dktX6_peek_3
def dkwX6_peek_1 : List UInt8 := [16, 32, 160, 0, 16, 42, 89, 180, 0, 25, 4, 96, 181, 0, 25, 167, 255, 218, 42, 180, 0, 25, 42]
abbrev dktX6_peek_1 : List UInt8 := dkwX6_peek_1 ++ dktX6_peek_2
def dkwX6_peek_0 : List UInt8 := [42, 180, 0, 25, 42, 180, 0, 15, 162, 0, 33, 42, 180, 0, 3, 180, 0, 28, 42, 180, 0, 25, 51]
abbrev dktX6_peek_0 : List UInt8 := dkwX6_peek_0 ++ dktX6_peek_1
theorem dksX6_peek_0 : cX6_peek.data.toList.drop 0 = dktX6_peek_0 := by decide +kernel
theorem dksX6_peek_1 : cX6_peek.data.toList.drop 23 = dktX6_peek_1 := dk_seg dksX6_peek_0 23 rfl rfl
theorem dksX6_peek_2 : cX6_peek.data.toList.drop 46 = dktX6_peek_2 := dk_seg dksX6_peek_1 23 rfl rfl
theorem dksX6_peek_3 : cX6_peek.data.toList.drop 68 = dktX6_peek_3 := dk_seg dksX6_peek_2 22 rfl rfl
theorem dX6_peek_0 : decode cX6_peek 0 = .ok (.aload_n 0, 1) := dk_42 (dk_at dksX6_peek_0 0 rfl rfl)
theorem dX6_peek_1 : decode cX6_peek 1 = .ok (.getfield 25, 3) := dk_180 0 25 (dk_at dksX6_peek_0 1 rfl rfl)
theorem dX6_peek_4 : decode cX6_peek 4 = .ok (.aload_n 0, 1) := dk_42 (dk_at dksX6_peek_0 4 rfl rfl)
theorem dX6_peek_5 : decode cX6_peek 5 = .ok (.getfield 15, 3) := dk_180 0 15 (dk_at dksX6_peek_0 5 rfl rfl)
theorem dX6_peek_8 : decode cX6_peek 8 = .ok (.if_icmp .ge 33, 3) := dk_162 0 33 (dk_at dksX6_peek_0 8 rfl rfl)
theorem dX6_peek_11 : decode cX6_peek 11 = .ok (.aload_n 0, 1) := dk_42 (dk_at dksX6_peek_0 11 rfl rfl)
theorem dX6_peek_12 : decode cX6_peek 12 = .ok (.getfield 3, 3) := dk_180 0 3 (dk_at dksX6_peek_0 12 rfl rfl)
theorem dX6_peek_15 : decode cX6_peek 15 = .ok (.getfield 28, 3) := dk_180 0 28 (dk_at dksX6_peek_0 15 rfl rfl)
theorem dX6_peek_18 : decode cX6_peek 18 = .ok (.aload_n 0, 1) := dk_42 (dk_at dksX6_peek_0 18 rfl rfl)
theorem dX6_peek_19 : decode cX6_peek 19 = .ok (.getfield 25, 3) := dk_180 0 25 (dk_at dksX6_peek_0 19 rfl rfl)
theorem dX6_peek_22 : decode cX6_peek 22 = .ok (.baload, 1) := dk_51 (dk_at dksX6_peek_0 22 rfl rfl)
theorem dX6_peek_23 : decode cX6_peek 23 = .ok (.bipush 32, 2) := dk_16 32 (dk_at dksX6_peek_1 0 rfl rfl)
theorem dX6_peek_25 : decode cX6_peek 25 = .ok (.if_icmp .ne 16, 3) := dk_160 0 16 (dk_at dksX6_peek_1 2 rfl rfl)
theorem dX6_peek_28 : decode cX6_peek 28 = .ok (.aload_n 0, 1) := dk_42 (dk_at dksX6_peek_1 5 rfl rfl)
theorem dX6_peek_29 : decode cX6_peek 29 = .ok (.dup, 1) := dk_89 (dk_at dksX6_peek_1 6 rfl rfl)
theorem dX6_peek_30 : decode cX6_peek 30 = .ok (.getfield 25, 3) := dk_180 0 25 (dk_at dksX6_peek_1 7 rfl rfl)
theorem dX6_peek_33 : decode cX6_peek 33 = .ok (.iconst 1, 1) := dk_4 (dk_at dksX6_peek_1 10 rfl rfl)
theorem dX6_peek_34 : decode cX6_peek 34 = .ok (.iadd, 1) := dk_96 (dk_at dksX6_peek_1 11 rfl rfl)
theorem dX6_peek_35 : decode cX6_peek 35 = .ok (.putfield 25, 3) := dk_181 0 25 (dk_at dksX6_peek_1 12 rfl rfl)
theorem dX6_peek_38 : decode cX6_peek 38 = .ok (.goto (-38), 3) := dk_167 255 218 (dk_at dksX6_peek_1 15 rfl rfl)
theorem dX6_peek_41 : decode cX6_peek 41 = .ok (.aload_n 0, 1) := dk_42 (dk_at dksX6_peek_1 18 rfl rfl)
theorem dX6_peek_42 : decode cX6_peek 42 = .ok (.getfield 25, 3) := dk_180 0 25 (dk_at dksX6_peek_1 19 rfl rfl)
theorem dX6_peek_45 : decode cX6_peek 45 = .ok (.aload_n 0, 1) := dk_42 (dk_at dksX6_peek_1 22 rfl rfl)
theorem dX6_peek_46 : decode cX6_peek 46 = .ok (.getfield 15, 3) := dk_180 0 15 (dk_at dksX6_peek_2 0 rfl rfl)
theorem dX6_peek_49 : decode cX6_peek 49 = .ok (.if_icmp .ge 22, 3) := dk_162 0 22 (dk_at dksX6_peek_2 3 rfl rfl)
theorem dX6_peek_52 : decode cX6_peek 52 = .ok (.aload_n 0, 1) := dk_42 (dk_at dksX6_peek_2 6 rfl rfl)
theorem dX6_peek_53 : decode cX6_peek 53 = .ok (.getfield 3, 3) := dk_180 0 3 (dk_at dksX6_peek_2 7 rfl rfl)
theorem dX6_peek_56 : decode cX6_peek 56 = .ok (.getfield 28, 3) := dk_180 0 28 (dk_at dksX6_peek_2 10 rfl rfl)
theorem dX6_peek_59 : decode cX6_peek 59 = .ok (.aload_n 0, 1) := dk_42 (dk_at dksX6_peek_2 13 rfl rfl)
theorem dX6_peek_60 : decode cX6_peek 60 = .ok (.getfield 25, 3) := dk_180 0 25 (dk_at dksX6_peek_2 14 rfl rfl)
theorem dX6_peek_63 : decode cX6_peek 63 = .ok (.baload, 1) := dk_51 (dk_at dksX6_peek_2 17 rfl rfl)
theorem dX6_peek_64 : decode cX6_peek 64 = .ok (.sipush 255, 3) := dk_17 0 255 (dk_at dksX6_peek_2 18 rfl rfl)
theorem dX6_peek_67 : decode cX6_peek 67 = .ok (.iand, 1) := dk_126 (dk_at dksX6_peek_2 21 rfl rfl)
theorem dX6_peek_68 : decode cX6_peek 68 = .ok (.goto 4, 3) := dk_167 0 4 (dk_at dksX6_peek_3 0 rfl rfl)
theorem dX6_peek_71 : decode cX6_peek 71 = .ok (.iconst (-1), 1) := dk_2 (dk_at dksX6_peek_3 3 rfl rfl)
theorem dX6_peek_72 : decode cX6_peek 72 = .ok (.ireturn, 1) := dk_172 (dk_at dksX6_peek_3 4 rfl rfl)
abbrev cX6_require : ByteArray := prog_7_method_4_code
def yX6_require : MethodName := ⟨RX6, "require", "(ZII)V"⟩
def dkwX6_require_0 : List UInt8 := [27, 154, 0, 13, 187, 0, 32, 89, 28, 29, 183, 0, 34, 191, 177]
abbrev dktX6_require_0 : List UInt8 := dkwX6_require_0 ++ []
theorem dksX6_require_0 : cX6_require.data.toList.drop 0 = dktX6_require_0 := by decide +kernel
theorem dX6_require_0 : decode cX6_require 0 = .ok (.iload_n 1, 1) := dk_27 (dk_at dksX6_require_0 0 rfl rfl)
theorem dX6_require_1 : decode cX6_require 1 = .ok (.ifCond .ne 13, 3) := dk_154 0 13 (dk_at dksX6_require_0 1 rfl rfl)
theorem dX6_require_4 : decode cX6_require 4 = .ok (.new 32, 3) := dk_187 0 32 (dk_at dksX6_require_0 4 rfl rfl)
theorem dX6_require_7 : decode cX6_require 7 = .ok (.dup, 1) := dk_89 (dk_at dksX6_require_0 7 rfl rfl)
theorem dX6_require_8 : decode cX6_require 8 = .ok (.iload_n 2, 1) := dk_28 (dk_at dksX6_require_0 8 rfl rfl)
theorem dX6_require_9 : decode cX6_require 9 = .ok (.iload_n 3, 1) := dk_29 (dk_at dksX6_require_0 9 rfl rfl)
theorem dX6_require_10 : decode cX6_require 10 = .ok (.invokespecial 34, 3) := dk_183 0 34 (dk_at dksX6_require_0 10 rfl rfl)
theorem dX6_require_13 : decode cX6_require 13 = .ok (.athrow, 1) := dk_191 (dk_at dksX6_require_0 13 rfl rfl)
theorem dX6_require_14 : decode cX6_require 14 = .ok (.return_, 1) := dk_177 (dk_at dksX6_require_0 14 rfl rfl)
abbrev cX6_number : ByteArray := prog_7_method_7_code
def yX6_number : MethodName := ⟨RX6, "number", "(II)I"⟩
def dkwX6_number_5 : List UInt8 := [42, 180, 0, 68, 182, 0, 71, 21, 4, 172]
abbrev dktX6_number_5 : List UInt8 := dkwX6_number_5 ++ []
def dkwX6_number_4 : List UInt8 := [180, 0, 25, 4, 96, 181, 0, 25, 167, 255, 182, 42, 21, 4, 133, 27, 133, 28, 133, 184, 0, 48, 16, 253]
abbrev dktX6_number_4 : List UInt8 := dkwX6_number_4 ++ dktX6_number_5
def dkwX6_number_3 : List UInt8 := [42, 180, 0, 3, 180, 0, 28, 42, 180, 0, 25, 51, 96, 16, 48, 100, 184, 0, 76, 54, 4, 42, 89]
abbrev dktX6_number_3 : List UInt8 := dkwX6_number_3 ++ dktX6_number_4
def dkwX6_number_2 : List UInt8 := [180, 0, 25, 51, 133, 20, 0, 60, 20, 0, 62, 184, 0, 48, 153, 0, 44, 18, 75, 16, 10, 21, 4, 104]
abbrev dktX6_number_2 : List UInt8 := dkwX6_number_2 ++ dktX6_number_3
def dkwX6_number_1 : List UInt8 := [3, 54, 4, 42, 180, 0, 25, 42, 180, 0, 15, 162, 0, 69, 42, 180, 0, 3, 180, 0, 28, 42]
abbrev dktX6_number_1 : List UInt8 := dkwX6_number_1 ++ dktX6_number_2
def dkwX6_number_0 : List UInt8 := [42, 182, 0, 64, 62, 42, 42, 180, 0, 25, 181, 0, 68, 42, 29, 16, 254, 42, 180, 0, 68, 182, 0, 71]
abbrev dktX6_number_0 : List UInt8 := dkwX6_number_0 ++ dktX6_number_1
theorem dksX6_number_0 : cX6_number.data.toList.drop 0 = dktX6_number_0 := by decide +kernel
theorem dksX6_number_1 : cX6_number.data.toList.drop 24 = dktX6_number_1 := dk_seg dksX6_number_0 24 rfl rfl
theorem dksX6_number_2 : cX6_number.data.toList.drop 46 = dktX6_number_2 := dk_seg dksX6_number_1 22 rfl rfl
theorem dksX6_number_3 : cX6_number.data.toList.drop 70 = dktX6_number_3 := dk_seg dksX6_number_2 24 rfl rfl
theorem dksX6_number_4 : cX6_number.data.toList.drop 93 = dktX6_number_4 := dk_seg dksX6_number_3 23 rfl rfl
theorem dksX6_number_5 : cX6_number.data.toList.drop 117 = dktX6_number_5 := dk_seg dksX6_number_4 24 rfl rfl
theorem dX6_number_0 : decode cX6_number 0 = .ok (.aload_n 0, 1) := dk_42 (dk_at dksX6_number_0 0 rfl rfl)
theorem dX6_number_1 : decode cX6_number 1 = .ok (.invokevirtual 64, 3) := dk_182 0 64 (dk_at dksX6_number_0 1 rfl rfl)
theorem dX6_number_4 : decode cX6_number 4 = .ok (.istore_n 3, 1) := dk_62 (dk_at dksX6_number_0 4 rfl rfl)
theorem dX6_number_5 : decode cX6_number 5 = .ok (.aload_n 0, 1) := dk_42 (dk_at dksX6_number_0 5 rfl rfl)
theorem dX6_number_6 : decode cX6_number 6 = .ok (.aload_n 0, 1) := dk_42 (dk_at dksX6_number_0 6 rfl rfl)
theorem dX6_number_7 : decode cX6_number 7 = .ok (.getfield 25, 3) := dk_180 0 25 (dk_at dksX6_number_0 7 rfl rfl)
theorem dX6_number_10 : decode cX6_number 10 = .ok (.putfield 68, 3) := dk_181 0 68 (dk_at dksX6_number_0 10 rfl rfl)
theorem dX6_number_13 : decode cX6_number 13 = .ok (.aload_n 0, 1) := dk_42 (dk_at dksX6_number_0 13 rfl rfl)
theorem dX6_number_14 : decode cX6_number 14 = .ok (.iload_n 3, 1) := dk_29 (dk_at dksX6_number_0 14 rfl rfl)
theorem dX6_number_15 : decode cX6_number 15 = .ok (.bipush (-2), 2) := dk_16 254 (dk_at dksX6_number_0 15 rfl rfl)
theorem dX6_number_17 : decode cX6_number 17 = .ok (.aload_n 0, 1) := dk_42 (dk_at dksX6_number_0 17 rfl rfl)
theorem dX6_number_18 : decode cX6_number 18 = .ok (.getfield 68, 3) := dk_180 0 68 (dk_at dksX6_number_0 18 rfl rfl)
theorem dX6_number_21 : decode cX6_number 21 = .ok (.invokevirtual 71, 3) := dk_182 0 71 (dk_at dksX6_number_0 21 rfl rfl)
theorem dX6_number_24 : decode cX6_number 24 = .ok (.iconst 0, 1) := dk_3 (dk_at dksX6_number_1 0 rfl rfl)
theorem dX6_number_25 : decode cX6_number 25 = .ok (.istore 4, 2) := dk_54 4 (dk_at dksX6_number_1 1 rfl rfl)
theorem dX6_number_27 : decode cX6_number 27 = .ok (.aload_n 0, 1) := dk_42 (dk_at dksX6_number_1 3 rfl rfl)
theorem dX6_number_28 : decode cX6_number 28 = .ok (.getfield 25, 3) := dk_180 0 25 (dk_at dksX6_number_1 4 rfl rfl)
theorem dX6_number_31 : decode cX6_number 31 = .ok (.aload_n 0, 1) := dk_42 (dk_at dksX6_number_1 7 rfl rfl)
theorem dX6_number_32 : decode cX6_number 32 = .ok (.getfield 15, 3) := dk_180 0 15 (dk_at dksX6_number_1 8 rfl rfl)
theorem dX6_number_35 : decode cX6_number 35 = .ok (.if_icmp .ge 69, 3) := dk_162 0 69 (dk_at dksX6_number_1 11 rfl rfl)
theorem dX6_number_38 : decode cX6_number 38 = .ok (.aload_n 0, 1) := dk_42 (dk_at dksX6_number_1 14 rfl rfl)
theorem dX6_number_39 : decode cX6_number 39 = .ok (.getfield 3, 3) := dk_180 0 3 (dk_at dksX6_number_1 15 rfl rfl)
theorem dX6_number_42 : decode cX6_number 42 = .ok (.getfield 28, 3) := dk_180 0 28 (dk_at dksX6_number_1 18 rfl rfl)
theorem dX6_number_45 : decode cX6_number 45 = .ok (.aload_n 0, 1) := dk_42 (dk_at dksX6_number_1 21 rfl rfl)
theorem dX6_number_46 : decode cX6_number 46 = .ok (.getfield 25, 3) := dk_180 0 25 (dk_at dksX6_number_2 0 rfl rfl)
theorem dX6_number_49 : decode cX6_number 49 = .ok (.baload, 1) := dk_51 (dk_at dksX6_number_2 3 rfl rfl)
theorem dX6_number_50 : decode cX6_number 50 = .ok (.i2l, 1) := dk_133 (dk_at dksX6_number_2 4 rfl rfl)
theorem dX6_number_51 : decode cX6_number 51 = .ok (.ldc2_w 60, 3) := dk_20 0 60 (dk_at dksX6_number_2 5 rfl rfl)
theorem dX6_number_54 : decode cX6_number 54 = .ok (.ldc2_w 62, 3) := dk_20 0 62 (dk_at dksX6_number_2 8 rfl rfl)
theorem dX6_number_57 : decode cX6_number 57 = .ok (.invokestatic 48, 3) := dk_184 0 48 (dk_at dksX6_number_2 11 rfl rfl)
theorem dX6_number_60 : decode cX6_number 60 = .ok (.ifCond .eq 44, 3) := dk_153 0 44 (dk_at dksX6_number_2 14 rfl rfl)
theorem dX6_number_63 : decode cX6_number 63 = .ok (.ldc 75, 2) := dk_18 75 (dk_at dksX6_number_2 17 rfl rfl)
theorem dX6_number_65 : decode cX6_number 65 = .ok (.bipush 10, 2) := dk_16 10 (dk_at dksX6_number_2 19 rfl rfl)
theorem dX6_number_67 : decode cX6_number 67 = .ok (.iload 4, 2) := dk_21 4 (dk_at dksX6_number_2 21 rfl rfl)
theorem dX6_number_69 : decode cX6_number 69 = .ok (.imul, 1) := dk_104 (dk_at dksX6_number_2 23 rfl rfl)
theorem dX6_number_70 : decode cX6_number 70 = .ok (.aload_n 0, 1) := dk_42 (dk_at dksX6_number_3 0 rfl rfl)
theorem dX6_number_71 : decode cX6_number 71 = .ok (.getfield 3, 3) := dk_180 0 3 (dk_at dksX6_number_3 1 rfl rfl)
theorem dX6_number_74 : decode cX6_number 74 = .ok (.getfield 28, 3) := dk_180 0 28 (dk_at dksX6_number_3 4 rfl rfl)
theorem dX6_number_77 : decode cX6_number 77 = .ok (.aload_n 0, 1) := dk_42 (dk_at dksX6_number_3 7 rfl rfl)
theorem dX6_number_78 : decode cX6_number 78 = .ok (.getfield 25, 3) := dk_180 0 25 (dk_at dksX6_number_3 8 rfl rfl)
theorem dX6_number_81 : decode cX6_number 81 = .ok (.baload, 1) := dk_51 (dk_at dksX6_number_3 11 rfl rfl)
theorem dX6_number_82 : decode cX6_number 82 = .ok (.iadd, 1) := dk_96 (dk_at dksX6_number_3 12 rfl rfl)
theorem dX6_number_83 : decode cX6_number 83 = .ok (.bipush 48, 2) := dk_16 48 (dk_at dksX6_number_3 13 rfl rfl)
theorem dX6_number_85 : decode cX6_number 85 = .ok (.isub, 1) := dk_100 (dk_at dksX6_number_3 15 rfl rfl)
theorem dX6_number_86 : decode cX6_number 86 = .ok (.invokestatic 76, 3) := dk_184 0 76 (dk_at dksX6_number_3 16 rfl rfl)
theorem dX6_number_89 : decode cX6_number 89 = .ok (.istore 4, 2) := dk_54 4 (dk_at dksX6_number_3 19 rfl rfl)
theorem dX6_number_91 : decode cX6_number 91 = .ok (.aload_n 0, 1) := dk_42 (dk_at dksX6_number_3 21 rfl rfl)
theorem dX6_number_92 : decode cX6_number 92 = .ok (.dup, 1) := dk_89 (dk_at dksX6_number_3 22 rfl rfl)
theorem dX6_number_93 : decode cX6_number 93 = .ok (.getfield 25, 3) := dk_180 0 25 (dk_at dksX6_number_4 0 rfl rfl)
theorem dX6_number_96 : decode cX6_number 96 = .ok (.iconst 1, 1) := dk_4 (dk_at dksX6_number_4 3 rfl rfl)
theorem dX6_number_97 : decode cX6_number 97 = .ok (.iadd, 1) := dk_96 (dk_at dksX6_number_4 4 rfl rfl)
theorem dX6_number_98 : decode cX6_number 98 = .ok (.putfield 25, 3) := dk_181 0 25 (dk_at dksX6_number_4 5 rfl rfl)
theorem dX6_number_101 : decode cX6_number 101 = .ok (.goto (-74), 3) := dk_167 255 182 (dk_at dksX6_number_4 8 rfl rfl)
theorem dX6_number_104 : decode cX6_number 104 = .ok (.aload_n 0, 1) := dk_42 (dk_at dksX6_number_4 11 rfl rfl)
theorem dX6_number_105 : decode cX6_number 105 = .ok (.iload 4, 2) := dk_21 4 (dk_at dksX6_number_4 12 rfl rfl)
theorem dX6_number_107 : decode cX6_number 107 = .ok (.i2l, 1) := dk_133 (dk_at dksX6_number_4 14 rfl rfl)
theorem dX6_number_108 : decode cX6_number 108 = .ok (.iload_n 1, 1) := dk_27 (dk_at dksX6_number_4 15 rfl rfl)
theorem dX6_number_109 : decode cX6_number 109 = .ok (.i2l, 1) := dk_133 (dk_at dksX6_number_4 16 rfl rfl)
theorem dX6_number_110 : decode cX6_number 110 = .ok (.iload_n 2, 1) := dk_28 (dk_at dksX6_number_4 17 rfl rfl)
theorem dX6_number_111 : decode cX6_number 111 = .ok (.i2l, 1) := dk_133 (dk_at dksX6_number_4 18 rfl rfl)
theorem dX6_number_112 : decode cX6_number 112 = .ok (.invokestatic 48, 3) := dk_184 0 48 (dk_at dksX6_number_4 19 rfl rfl)
theorem dX6_number_115 : decode cX6_number 115 = .ok (.bipush (-3), 2) := dk_16 253 (dk_at dksX6_number_4 22 rfl rfl)
theorem dX6_number_117 : decode cX6_number 117 = .ok (.aload_n 0, 1) := dk_42 (dk_at dksX6_number_5 0 rfl rfl)
theorem dX6_number_118 : decode cX6_number 118 = .ok (.getfield 68, 3) := dk_180 0 68 (dk_at dksX6_number_5 1 rfl rfl)
theorem dX6_number_121 : decode cX6_number 121 = .ok (.invokevirtual 71, 3) := dk_182 0 71 (dk_at dksX6_number_5 4 rfl rfl)
theorem dX6_number_124 : decode cX6_number 124 = .ok (.iload 4, 2) := dk_21 4 (dk_at dksX6_number_5 7 rfl rfl)
theorem dX6_number_126 : decode cX6_number 126 = .ok (.ireturn, 1) := dk_172 (dk_at dksX6_number_5 9 rfl rfl)
abbrev cX6_isNumberNext : ByteArray := prog_7_method_6_code
def yX6_isNumberNext : MethodName := ⟨RX6, "isNumberNext", "()Z"⟩
def dkwX6_isNumberNext_0 : List UInt8 := [42, 182, 0, 40, 133, 20, 0, 60, 20, 0, 62, 184, 0, 48, 172]
abbrev dktX6_isNumberNext_0 : List UInt8 := dkwX6_isNumberNext_0 ++ []
theorem dksX6_isNumberNext_0 : cX6_isNumberNext.data.toList.drop 0 = dktX6_isNumberNext_0 := by decide +kernel
theorem dX6_isNumberNext_0 : decode cX6_isNumberNext 0 = .ok (.aload_n 0, 1) := dk_42 (dk_at dksX6_isNumberNext_0 0 rfl rfl)
theorem dX6_isNumberNext_1 : decode cX6_isNumberNext 1 = .ok (.invokevirtual 40, 3) := dk_182 0 40 (dk_at dksX6_isNumberNext_0 1 rfl rfl)
theorem dX6_isNumberNext_4 : decode cX6_isNumberNext 4 = .ok (.i2l, 1) := dk_133 (dk_at dksX6_isNumberNext_0 4 rfl rfl)
theorem dX6_isNumberNext_5 : decode cX6_isNumberNext 5 = .ok (.ldc2_w 60, 3) := dk_20 0 60 (dk_at dksX6_isNumberNext_0 5 rfl rfl)
theorem dX6_isNumberNext_8 : decode cX6_isNumberNext 8 = .ok (.ldc2_w 62, 3) := dk_20 0 62 (dk_at dksX6_isNumberNext_0 8 rfl rfl)
theorem dX6_isNumberNext_11 : decode cX6_isNumberNext 11 = .ok (.invokestatic 48, 3) := dk_184 0 48 (dk_at dksX6_isNumberNext_0 11 rfl rfl)
theorem dX6_isNumberNext_14 : decode cX6_isNumberNext 14 = .ok (.ireturn, 1) := dk_172 (dk_at dksX6_isNumberNext_0 14 rfl rfl)
abbrev cX6_semicolon : ByteArray := prog_7_method_9_code
def yX6_semicolon : MethodName := ⟨RX6, "semicolon", "()V"⟩
def dkwX6_semicolon_1 : List UInt8 := [182, 0, 71, 42, 89, 180, 0, 25, 4, 96, 181, 0, 25, 177]
abbrev dktX6_semicolon_1 : List UInt8 := dkwX6_semicolon_1 ++ []
def dkwX6_semicolon_0 : List UInt8 := [42, 182, 0, 40, 16, 59, 160, 0, 7, 4, 167, 0, 4, 3, 60, 42, 27, 16, 254, 42, 180, 0, 25]
abbrev dktX6_semicolon_0 : List UInt8 := dkwX6_semicolon_0 ++ dktX6_semicolon_1
theorem dksX6_semicolon_0 : cX6_semicolon.data.toList.drop 0 = dktX6_semicolon_0 := by decide +kernel
theorem dksX6_semicolon_1 : cX6_semicolon.data.toList.drop 23 = dktX6_semicolon_1 := dk_seg dksX6_semicolon_0 23 rfl rfl
theorem dX6_semicolon_0 : decode cX6_semicolon 0 = .ok (.aload_n 0, 1) := dk_42 (dk_at dksX6_semicolon_0 0 rfl rfl)
theorem dX6_semicolon_1 : decode cX6_semicolon 1 = .ok (.invokevirtual 40, 3) := dk_182 0 40 (dk_at dksX6_semicolon_0 1 rfl rfl)
theorem dX6_semicolon_4 : decode cX6_semicolon 4 = .ok (.bipush 59, 2) := dk_16 59 (dk_at dksX6_semicolon_0 4 rfl rfl)
theorem dX6_semicolon_6 : decode cX6_semicolon 6 = .ok (.if_icmp .ne 7, 3) := dk_160 0 7 (dk_at dksX6_semicolon_0 6 rfl rfl)
theorem dX6_semicolon_9 : decode cX6_semicolon 9 = .ok (.iconst 1, 1) := dk_4 (dk_at dksX6_semicolon_0 9 rfl rfl)
theorem dX6_semicolon_10 : decode cX6_semicolon 10 = .ok (.goto 4, 3) := dk_167 0 4 (dk_at dksX6_semicolon_0 10 rfl rfl)
theorem dX6_semicolon_13 : decode cX6_semicolon 13 = .ok (.iconst 0, 1) := dk_3 (dk_at dksX6_semicolon_0 13 rfl rfl)
theorem dX6_semicolon_14 : decode cX6_semicolon 14 = .ok (.istore_n 1, 1) := dk_60 (dk_at dksX6_semicolon_0 14 rfl rfl)
theorem dX6_semicolon_15 : decode cX6_semicolon 15 = .ok (.aload_n 0, 1) := dk_42 (dk_at dksX6_semicolon_0 15 rfl rfl)
theorem dX6_semicolon_16 : decode cX6_semicolon 16 = .ok (.iload_n 1, 1) := dk_27 (dk_at dksX6_semicolon_0 16 rfl rfl)
theorem dX6_semicolon_17 : decode cX6_semicolon 17 = .ok (.bipush (-2), 2) := dk_16 254 (dk_at dksX6_semicolon_0 17 rfl rfl)
theorem dX6_semicolon_19 : decode cX6_semicolon 19 = .ok (.aload_n 0, 1) := dk_42 (dk_at dksX6_semicolon_0 19 rfl rfl)
theorem dX6_semicolon_20 : decode cX6_semicolon 20 = .ok (.getfield 25, 3) := dk_180 0 25 (dk_at dksX6_semicolon_0 20 rfl rfl)
theorem dX6_semicolon_23 : decode cX6_semicolon 23 = .ok (.invokevirtual 71, 3) := dk_182 0 71 (dk_at dksX6_semicolon_1 0 rfl rfl)
theorem dX6_semicolon_26 : decode cX6_semicolon 26 = .ok (.aload_n 0, 1) := dk_42 (dk_at dksX6_semicolon_1 3 rfl rfl)
theorem dX6_semicolon_27 : decode cX6_semicolon 27 = .ok (.dup, 1) := dk_89 (dk_at dksX6_semicolon_1 4 rfl rfl)
theorem dX6_semicolon_28 : decode cX6_semicolon 28 = .ok (.getfield 25, 3) := dk_180 0 25 (dk_at dksX6_semicolon_1 5 rfl rfl)
theorem dX6_semicolon_31 : decode cX6_semicolon 31 = .ok (.iconst 1, 1) := dk_4 (dk_at dksX6_semicolon_1 8 rfl rfl)
theorem dX6_semicolon_32 : decode cX6_semicolon 32 = .ok (.iadd, 1) := dk_96 (dk_at dksX6_semicolon_1 9 rfl rfl)
theorem dX6_semicolon_33 : decode cX6_semicolon 33 = .ok (.putfield 25, 3) := dk_181 0 25 (dk_at dksX6_semicolon_1 10 rfl rfl)
theorem dX6_semicolon_36 : decode cX6_semicolon 36 = .ok (.return_, 1) := dk_177 (dk_at dksX6_semicolon_1 13 rfl rfl)
abbrev cX6_statement : ByteArray := prog_7_method_12_code
def yX6_statement : MethodName := ⟨RX6, "statement", "()V"⟩
def dkwX6_statement_11 : List UInt8 := [191, 42, 182, 0, 155, 177]
abbrev dktX6_statement_11 : List UInt8 := dkwX6_statement_11 ++ []
def dkwX6_statement_10 : List UInt8 := [167, 0, 25, 42, 180, 0, 93, 4, 181, 0, 151, 167, 0, 14, 187, 0, 32, 89, 16, 254, 28, 183, 0, 34]
abbrev dktX6_statement_10 : List UInt8 := dkwX6_statement_10 ++ dktX6_statement_11
def dkwX6_statement_9 : List UInt8 := [182, 0, 102, 181, 0, 147, 167, 0, 42, 42, 180, 0, 93, 42, 3, 16, 8, 182, 0, 102, 181, 0, 149]
abbrev dktX6_statement_9 : List UInt8 := dkwX6_statement_9 ++ dktX6_statement_10
def dkwX6_statement_8 : List UInt8 := [42, 182, 0, 143, 167, 0, 66, 42, 182, 0, 145, 167, 0, 59, 42, 180, 0, 93, 42, 4, 16, 8]
abbrev dktX6_statement_8 : List UInt8 := dkwX6_statement_8 ++ dktX6_statement_9
def dkwX6_statement_7 : List UInt8 := [170, 0, 0, 0, 0, 93, 0, 0, 0, 0, 0, 0, 0, 4, 0, 0, 0, 34, 0, 0, 0, 41, 0, 0, 0, 48, 0, 0, 0, 65, 0, 0, 0, 82]
abbrev dktX6_statement_7 : List UInt8 := dkwX6_statement_7 ++ dktX6_statement_8
def dkwX6_statement_6 : List UInt8 := [21, 4]
abbrev dktX6_statement_6 : List UInt8 := dkwX6_statement_6 ++ dktX6_statement_7
def dkwX6_statement_5 : List UInt8 := [182, 0, 85, 153, 0, 21, 6, 54, 4, 167, 0, 15, 45, 18, 141, 182, 0, 85, 153, 0, 6, 7, 54, 4]
abbrev dktX6_statement_5 : List UInt8 := dkwX6_statement_5 ++ dktX6_statement_6
def dkwX6_statement_4 : List UInt8 := [4, 54, 4, 167, 0, 45, 45, 18, 137, 182, 0, 85, 153, 0, 36, 5, 54, 4, 167, 0, 30, 45, 18, 139]
abbrev dktX6_statement_4 : List UInt8 := dkwX6_statement_4 ++ dktX6_statement_5
def dkwX6_statement_3 : List UInt8 := [45, 18, 134, 182, 0, 85, 153, 0, 66, 3, 54, 4, 167, 0, 60, 45, 18, 136, 182, 0, 85, 153, 0, 51]
abbrev dktX6_statement_3 : List UInt8 := dkwX6_statement_3 ++ dktX6_statement_4
def dkwX6_statement_2 : List UInt8 := [171, 0, 0, 0, 0, 0, 0, 124, 0, 0, 0, 5, 235, 233, 36, 68, 0, 0, 0, 97, 0, 46, 137, 98, 0, 0, 0, 52, 0, 48, 34, 143, 0, 0, 0, 112, 6, 35, 75, 187, 0, 0, 0, 82, 6, 138, 196, 98, 0, 0, 0, 67]
abbrev dktX6_statement_2 : List UInt8 := dkwX6_statement_2 ++ dktX6_statement_3
def dkwX6_statement_1 : List UInt8 := [78, 2, 54, 4, 45, 182, 0, 131]
abbrev dktX6_statement_1 : List UInt8 := dkwX6_statement_1 ++ dktX6_statement_2
def dkwX6_statement_0 : List UInt8 := [42, 182, 0, 82, 76, 42, 180, 0, 25, 61, 42, 89, 180, 0, 25, 43, 182, 0, 91, 96, 181, 0, 25, 43]
abbrev dktX6_statement_0 : List UInt8 := dkwX6_statement_0 ++ dktX6_statement_1
theorem dksX6_statement_0 : cX6_statement.data.toList.drop 0 = dktX6_statement_0 := by decide +kernel
theorem dksX6_statement_1 : cX6_statement.data.toList.drop 24 = dktX6_statement_1 := dk_seg dksX6_statement_0 24 rfl rfl
theorem dksX6_statement_2 : cX6_statement.data.toList.drop 32 = dktX6_statement_2 := dk_seg dksX6_statement_1 8 rfl rfl
theorem dksX6_statement_3 : cX6_statement.data.toList.drop 84 = dktX6_statement_3 := dk_seg dksX6_statement_2 52 rfl rfl
theorem dksX6_statement_4 : cX6_statement.data.toList.drop 108 = dktX6_statement_4 := dk_seg dksX6_statement_3 24 rfl rfl
theorem dksX6_statement_5 : cX6_statement.data.toList.drop 132 = dktX6_statement_5 := dk_seg dksX6_statement_4 24 rfl rfl
theorem dksX6_statement_6 : cX6_statement.data.toList.drop 156 = dktX6_statement_6 := dk_seg dksX6_statement_5 24 rfl rfl
theorem dksX6_statement_7 : cX6_statement.data.toList.drop 158 = dktX6_statement_7 := dk_seg dksX6_statement_6 2 rfl rfl
theorem dksX6_statement_8 : cX6_statement.data.toList.drop 192 = dktX6_statement_8 := dk_seg dksX6_statement_7 34 rfl rfl
theorem dksX6_statement_9 : cX6_statement.data.toList.drop 214 = dktX6_statement_9 := dk_seg dksX6_statement_8 22 rfl rfl
theorem dksX6_statement_10 : cX6_statement.data.toList.drop 237 = dktX6_statement_10 := dk_seg dksX6_statement_9 23 rfl rfl
theorem dksX6_statement_11 : cX6_statement.data.toList.drop 261 = dktX6_statement_11 := dk_seg dksX6_statement_10 24 rfl rfl
theorem dX6_statement_0 : decode cX6_statement 0 = .ok (.aload_n 0, 1) := dk_42 (dk_at dksX6_statement_0 0 rfl rfl)
theorem dX6_statement_1 : decode cX6_statement 1 = .ok (.invokevirtual 82, 3) := dk_182 0 82 (dk_at dksX6_statement_0 1 rfl rfl)
theorem dX6_statement_4 : decode cX6_statement 4 = .ok (.astore_n 1, 1) := dk_76 (dk_at dksX6_statement_0 4 rfl rfl)
theorem dX6_statement_5 : decode cX6_statement 5 = .ok (.aload_n 0, 1) := dk_42 (dk_at dksX6_statement_0 5 rfl rfl)
theorem dX6_statement_6 : decode cX6_statement 6 = .ok (.getfield 25, 3) := dk_180 0 25 (dk_at dksX6_statement_0 6 rfl rfl)
theorem dX6_statement_9 : decode cX6_statement 9 = .ok (.istore_n 2, 1) := dk_61 (dk_at dksX6_statement_0 9 rfl rfl)
theorem dX6_statement_10 : decode cX6_statement 10 = .ok (.aload_n 0, 1) := dk_42 (dk_at dksX6_statement_0 10 rfl rfl)
theorem dX6_statement_11 : decode cX6_statement 11 = .ok (.dup, 1) := dk_89 (dk_at dksX6_statement_0 11 rfl rfl)
theorem dX6_statement_12 : decode cX6_statement 12 = .ok (.getfield 25, 3) := dk_180 0 25 (dk_at dksX6_statement_0 12 rfl rfl)
theorem dX6_statement_15 : decode cX6_statement 15 = .ok (.aload_n 1, 1) := dk_43 (dk_at dksX6_statement_0 15 rfl rfl)
theorem dX6_statement_16 : decode cX6_statement 16 = .ok (.invokevirtual 91, 3) := dk_182 0 91 (dk_at dksX6_statement_0 16 rfl rfl)
theorem dX6_statement_19 : decode cX6_statement 19 = .ok (.iadd, 1) := dk_96 (dk_at dksX6_statement_0 19 rfl rfl)
theorem dX6_statement_20 : decode cX6_statement 20 = .ok (.putfield 25, 3) := dk_181 0 25 (dk_at dksX6_statement_0 20 rfl rfl)
theorem dX6_statement_23 : decode cX6_statement 23 = .ok (.aload_n 1, 1) := dk_43 (dk_at dksX6_statement_0 23 rfl rfl)
theorem dX6_statement_24 : decode cX6_statement 24 = .ok (.astore_n 3, 1) := dk_78 (dk_at dksX6_statement_1 0 rfl rfl)
theorem dX6_statement_25 : decode cX6_statement 25 = .ok (.iconst (-1), 1) := dk_2 (dk_at dksX6_statement_1 1 rfl rfl)
theorem dX6_statement_26 : decode cX6_statement 26 = .ok (.istore 4, 2) := dk_54 4 (dk_at dksX6_statement_1 2 rfl rfl)
theorem dX6_statement_28 : decode cX6_statement 28 = .ok (.aload_n 3, 1) := dk_45 (dk_at dksX6_statement_1 4 rfl rfl)
theorem dX6_statement_29 : decode cX6_statement 29 = .ok (.invokevirtual 131, 3) := dk_182 0 131 (dk_at dksX6_statement_1 5 rfl rfl)
theorem dX6_statement_32 : decode cX6_statement 32 = .ok (.lookupswitch 124 #[(-337042364, 97), (3049826, 52), (3154575, 112), (102976443, 82), (109757538, 67)], 52) := by decide +kernel
theorem dX6_statement_84 : decode cX6_statement 84 = .ok (.aload_n 3, 1) := dk_45 (dk_at dksX6_statement_3 0 rfl rfl)
theorem dX6_statement_85 : decode cX6_statement 85 = .ok (.ldc 134, 2) := dk_18 134 (dk_at dksX6_statement_3 1 rfl rfl)
theorem dX6_statement_87 : decode cX6_statement 87 = .ok (.invokevirtual 85, 3) := dk_182 0 85 (dk_at dksX6_statement_3 3 rfl rfl)
theorem dX6_statement_90 : decode cX6_statement 90 = .ok (.ifCond .eq 66, 3) := dk_153 0 66 (dk_at dksX6_statement_3 6 rfl rfl)
theorem dX6_statement_93 : decode cX6_statement 93 = .ok (.iconst 0, 1) := dk_3 (dk_at dksX6_statement_3 9 rfl rfl)
theorem dX6_statement_94 : decode cX6_statement 94 = .ok (.istore 4, 2) := dk_54 4 (dk_at dksX6_statement_3 10 rfl rfl)
theorem dX6_statement_96 : decode cX6_statement 96 = .ok (.goto 60, 3) := dk_167 0 60 (dk_at dksX6_statement_3 12 rfl rfl)
theorem dX6_statement_99 : decode cX6_statement 99 = .ok (.aload_n 3, 1) := dk_45 (dk_at dksX6_statement_3 15 rfl rfl)
theorem dX6_statement_100 : decode cX6_statement 100 = .ok (.ldc 136, 2) := dk_18 136 (dk_at dksX6_statement_3 16 rfl rfl)
theorem dX6_statement_102 : decode cX6_statement 102 = .ok (.invokevirtual 85, 3) := dk_182 0 85 (dk_at dksX6_statement_3 18 rfl rfl)
theorem dX6_statement_105 : decode cX6_statement 105 = .ok (.ifCond .eq 51, 3) := dk_153 0 51 (dk_at dksX6_statement_3 21 rfl rfl)
theorem dX6_statement_108 : decode cX6_statement 108 = .ok (.iconst 1, 1) := dk_4 (dk_at dksX6_statement_4 0 rfl rfl)
theorem dX6_statement_109 : decode cX6_statement 109 = .ok (.istore 4, 2) := dk_54 4 (dk_at dksX6_statement_4 1 rfl rfl)
theorem dX6_statement_111 : decode cX6_statement 111 = .ok (.goto 45, 3) := dk_167 0 45 (dk_at dksX6_statement_4 3 rfl rfl)
theorem dX6_statement_114 : decode cX6_statement 114 = .ok (.aload_n 3, 1) := dk_45 (dk_at dksX6_statement_4 6 rfl rfl)
theorem dX6_statement_115 : decode cX6_statement 115 = .ok (.ldc 137, 2) := dk_18 137 (dk_at dksX6_statement_4 7 rfl rfl)
theorem dX6_statement_117 : decode cX6_statement 117 = .ok (.invokevirtual 85, 3) := dk_182 0 85 (dk_at dksX6_statement_4 9 rfl rfl)
theorem dX6_statement_120 : decode cX6_statement 120 = .ok (.ifCond .eq 36, 3) := dk_153 0 36 (dk_at dksX6_statement_4 12 rfl rfl)
theorem dX6_statement_123 : decode cX6_statement 123 = .ok (.iconst 2, 1) := dk_5 (dk_at dksX6_statement_4 15 rfl rfl)
theorem dX6_statement_124 : decode cX6_statement 124 = .ok (.istore 4, 2) := dk_54 4 (dk_at dksX6_statement_4 16 rfl rfl)
theorem dX6_statement_126 : decode cX6_statement 126 = .ok (.goto 30, 3) := dk_167 0 30 (dk_at dksX6_statement_4 18 rfl rfl)
theorem dX6_statement_129 : decode cX6_statement 129 = .ok (.aload_n 3, 1) := dk_45 (dk_at dksX6_statement_4 21 rfl rfl)
theorem dX6_statement_130 : decode cX6_statement 130 = .ok (.ldc 139, 2) := dk_18 139 (dk_at dksX6_statement_4 22 rfl rfl)
theorem dX6_statement_132 : decode cX6_statement 132 = .ok (.invokevirtual 85, 3) := dk_182 0 85 (dk_at dksX6_statement_5 0 rfl rfl)
theorem dX6_statement_135 : decode cX6_statement 135 = .ok (.ifCond .eq 21, 3) := dk_153 0 21 (dk_at dksX6_statement_5 3 rfl rfl)
theorem dX6_statement_138 : decode cX6_statement 138 = .ok (.iconst 3, 1) := dk_6 (dk_at dksX6_statement_5 6 rfl rfl)
theorem dX6_statement_139 : decode cX6_statement 139 = .ok (.istore 4, 2) := dk_54 4 (dk_at dksX6_statement_5 7 rfl rfl)
theorem dX6_statement_141 : decode cX6_statement 141 = .ok (.goto 15, 3) := dk_167 0 15 (dk_at dksX6_statement_5 9 rfl rfl)
theorem dX6_statement_144 : decode cX6_statement 144 = .ok (.aload_n 3, 1) := dk_45 (dk_at dksX6_statement_5 12 rfl rfl)
theorem dX6_statement_145 : decode cX6_statement 145 = .ok (.ldc 141, 2) := dk_18 141 (dk_at dksX6_statement_5 13 rfl rfl)
theorem dX6_statement_147 : decode cX6_statement 147 = .ok (.invokevirtual 85, 3) := dk_182 0 85 (dk_at dksX6_statement_5 15 rfl rfl)
theorem dX6_statement_150 : decode cX6_statement 150 = .ok (.ifCond .eq 6, 3) := dk_153 0 6 (dk_at dksX6_statement_5 18 rfl rfl)
theorem dX6_statement_153 : decode cX6_statement 153 = .ok (.iconst 4, 1) := dk_7 (dk_at dksX6_statement_5 21 rfl rfl)
theorem dX6_statement_154 : decode cX6_statement 154 = .ok (.istore 4, 2) := dk_54 4 (dk_at dksX6_statement_5 22 rfl rfl)
theorem dX6_statement_156 : decode cX6_statement 156 = .ok (.iload 4, 2) := dk_21 4 (dk_at dksX6_statement_6 0 rfl rfl)
theorem dX6_statement_158 : decode cX6_statement 158 = .ok (.tableswitch 93 0 4 #[34, 41, 48, 65, 82], 34) := by decide +kernel
theorem dX6_statement_192 : decode cX6_statement 192 = .ok (.aload_n 0, 1) := dk_42 (dk_at dksX6_statement_8 0 rfl rfl)
theorem dX6_statement_193 : decode cX6_statement 193 = .ok (.invokevirtual 143, 3) := dk_182 0 143 (dk_at dksX6_statement_8 1 rfl rfl)
theorem dX6_statement_196 : decode cX6_statement 196 = .ok (.goto 66, 3) := dk_167 0 66 (dk_at dksX6_statement_8 4 rfl rfl)
theorem dX6_statement_199 : decode cX6_statement 199 = .ok (.aload_n 0, 1) := dk_42 (dk_at dksX6_statement_8 7 rfl rfl)
theorem dX6_statement_200 : decode cX6_statement 200 = .ok (.invokevirtual 145, 3) := dk_182 0 145 (dk_at dksX6_statement_8 8 rfl rfl)
theorem dX6_statement_203 : decode cX6_statement 203 = .ok (.goto 59, 3) := dk_167 0 59 (dk_at dksX6_statement_8 11 rfl rfl)
theorem dX6_statement_206 : decode cX6_statement 206 = .ok (.aload_n 0, 1) := dk_42 (dk_at dksX6_statement_8 14 rfl rfl)
theorem dX6_statement_207 : decode cX6_statement 207 = .ok (.getfield 93, 3) := dk_180 0 93 (dk_at dksX6_statement_8 15 rfl rfl)
theorem dX6_statement_210 : decode cX6_statement 210 = .ok (.aload_n 0, 1) := dk_42 (dk_at dksX6_statement_8 18 rfl rfl)
theorem dX6_statement_211 : decode cX6_statement 211 = .ok (.iconst 1, 1) := dk_4 (dk_at dksX6_statement_8 19 rfl rfl)
theorem dX6_statement_212 : decode cX6_statement 212 = .ok (.bipush 8, 2) := dk_16 8 (dk_at dksX6_statement_8 20 rfl rfl)
theorem dX6_statement_214 : decode cX6_statement 214 = .ok (.invokevirtual 102, 3) := dk_182 0 102 (dk_at dksX6_statement_9 0 rfl rfl)
theorem dX6_statement_217 : decode cX6_statement 217 = .ok (.putfield 147, 3) := dk_181 0 147 (dk_at dksX6_statement_9 3 rfl rfl)
theorem dX6_statement_220 : decode cX6_statement 220 = .ok (.goto 42, 3) := dk_167 0 42 (dk_at dksX6_statement_9 6 rfl rfl)
theorem dX6_statement_223 : decode cX6_statement 223 = .ok (.aload_n 0, 1) := dk_42 (dk_at dksX6_statement_9 9 rfl rfl)
theorem dX6_statement_224 : decode cX6_statement 224 = .ok (.getfield 93, 3) := dk_180 0 93 (dk_at dksX6_statement_9 10 rfl rfl)
theorem dX6_statement_227 : decode cX6_statement 227 = .ok (.aload_n 0, 1) := dk_42 (dk_at dksX6_statement_9 13 rfl rfl)
theorem dX6_statement_228 : decode cX6_statement 228 = .ok (.iconst 0, 1) := dk_3 (dk_at dksX6_statement_9 14 rfl rfl)
theorem dX6_statement_229 : decode cX6_statement 229 = .ok (.bipush 8, 2) := dk_16 8 (dk_at dksX6_statement_9 15 rfl rfl)
theorem dX6_statement_231 : decode cX6_statement 231 = .ok (.invokevirtual 102, 3) := dk_182 0 102 (dk_at dksX6_statement_9 17 rfl rfl)
theorem dX6_statement_234 : decode cX6_statement 234 = .ok (.putfield 149, 3) := dk_181 0 149 (dk_at dksX6_statement_9 20 rfl rfl)
theorem dX6_statement_237 : decode cX6_statement 237 = .ok (.goto 25, 3) := dk_167 0 25 (dk_at dksX6_statement_10 0 rfl rfl)
theorem dX6_statement_240 : decode cX6_statement 240 = .ok (.aload_n 0, 1) := dk_42 (dk_at dksX6_statement_10 3 rfl rfl)
theorem dX6_statement_241 : decode cX6_statement 241 = .ok (.getfield 93, 3) := dk_180 0 93 (dk_at dksX6_statement_10 4 rfl rfl)
theorem dX6_statement_244 : decode cX6_statement 244 = .ok (.iconst 1, 1) := dk_4 (dk_at dksX6_statement_10 7 rfl rfl)
theorem dX6_statement_245 : decode cX6_statement 245 = .ok (.putfield 151, 3) := dk_181 0 151 (dk_at dksX6_statement_10 8 rfl rfl)
theorem dX6_statement_248 : decode cX6_statement 248 = .ok (.goto 14, 3) := dk_167 0 14 (dk_at dksX6_statement_10 11 rfl rfl)
theorem dX6_statement_251 : decode cX6_statement 251 = .ok (.new 32, 3) := dk_187 0 32 (dk_at dksX6_statement_10 14 rfl rfl)
theorem dX6_statement_254 : decode cX6_statement 254 = .ok (.dup, 1) := dk_89 (dk_at dksX6_statement_10 17 rfl rfl)
theorem dX6_statement_255 : decode cX6_statement 255 = .ok (.bipush (-2), 2) := dk_16 254 (dk_at dksX6_statement_10 18 rfl rfl)
theorem dX6_statement_257 : decode cX6_statement 257 = .ok (.iload_n 2, 1) := dk_28 (dk_at dksX6_statement_10 20 rfl rfl)
theorem dX6_statement_258 : decode cX6_statement 258 = .ok (.invokespecial 34, 3) := dk_183 0 34 (dk_at dksX6_statement_10 21 rfl rfl)
theorem dX6_statement_261 : decode cX6_statement 261 = .ok (.athrow, 1) := dk_191 (dk_at dksX6_statement_11 0 rfl rfl)
theorem dX6_statement_262 : decode cX6_statement 262 = .ok (.aload_n 0, 1) := dk_42 (dk_at dksX6_statement_11 1 rfl rfl)
theorem dX6_statement_263 : decode cX6_statement 263 = .ok (.invokevirtual 155, 3) := dk_182 0 155 (dk_at dksX6_statement_11 2 rfl rfl)
theorem dX6_statement_266 : decode cX6_statement 266 = .ok (.return_, 1) := dk_177 (dk_at dksX6_statement_11 5 rfl rfl)
abbrev cX6_cell : ByteArray := prog_7_method_10_code
def yX6_cell : MethodName := ⟨RX6, "cell", "()V"⟩
def dkwX6_cell_2 : List UInt8 := [4, 100, 182, 0, 102, 182, 0, 114, 177]
abbrev dktX6_cell_2 : List UInt8 := dkwX6_cell_2 ++ []
def dkwX6_cell_1 : List UInt8 := [4, 100, 182, 0, 102, 61, 42, 180, 0, 93, 27, 28, 42, 3, 42, 180, 0, 93, 180, 0, 105, 180, 0, 109]
abbrev dktX6_cell_1 : List UInt8 := dkwX6_cell_1 ++ dktX6_cell_2
def dkwX6_cell_0 : List UInt8 := [42, 3, 42, 180, 0, 93, 180, 0, 97, 4, 100, 182, 0, 102, 60, 42, 3, 42, 180, 0, 93, 180, 0, 97]
abbrev dktX6_cell_0 : List UInt8 := dkwX6_cell_0 ++ dktX6_cell_1
theorem dksX6_cell_0 : cX6_cell.data.toList.drop 0 = dktX6_cell_0 := by decide +kernel
theorem dksX6_cell_1 : cX6_cell.data.toList.drop 24 = dktX6_cell_1 := dk_seg dksX6_cell_0 24 rfl rfl
theorem dksX6_cell_2 : cX6_cell.data.toList.drop 48 = dktX6_cell_2 := dk_seg dksX6_cell_1 24 rfl rfl
theorem dX6_cell_0 : decode cX6_cell 0 = .ok (.aload_n 0, 1) := dk_42 (dk_at dksX6_cell_0 0 rfl rfl)
theorem dX6_cell_1 : decode cX6_cell 1 = .ok (.iconst 0, 1) := dk_3 (dk_at dksX6_cell_0 1 rfl rfl)
theorem dX6_cell_2 : decode cX6_cell 2 = .ok (.aload_n 0, 1) := dk_42 (dk_at dksX6_cell_0 2 rfl rfl)
theorem dX6_cell_3 : decode cX6_cell 3 = .ok (.getfield 93, 3) := dk_180 0 93 (dk_at dksX6_cell_0 3 rfl rfl)
theorem dX6_cell_6 : decode cX6_cell 6 = .ok (.getfield 97, 3) := dk_180 0 97 (dk_at dksX6_cell_0 6 rfl rfl)
theorem dX6_cell_9 : decode cX6_cell 9 = .ok (.iconst 1, 1) := dk_4 (dk_at dksX6_cell_0 9 rfl rfl)
theorem dX6_cell_10 : decode cX6_cell 10 = .ok (.isub, 1) := dk_100 (dk_at dksX6_cell_0 10 rfl rfl)
theorem dX6_cell_11 : decode cX6_cell 11 = .ok (.invokevirtual 102, 3) := dk_182 0 102 (dk_at dksX6_cell_0 11 rfl rfl)
theorem dX6_cell_14 : decode cX6_cell 14 = .ok (.istore_n 1, 1) := dk_60 (dk_at dksX6_cell_0 14 rfl rfl)
theorem dX6_cell_15 : decode cX6_cell 15 = .ok (.aload_n 0, 1) := dk_42 (dk_at dksX6_cell_0 15 rfl rfl)
theorem dX6_cell_16 : decode cX6_cell 16 = .ok (.iconst 0, 1) := dk_3 (dk_at dksX6_cell_0 16 rfl rfl)
theorem dX6_cell_17 : decode cX6_cell 17 = .ok (.aload_n 0, 1) := dk_42 (dk_at dksX6_cell_0 17 rfl rfl)
theorem dX6_cell_18 : decode cX6_cell 18 = .ok (.getfield 93, 3) := dk_180 0 93 (dk_at dksX6_cell_0 18 rfl rfl)
theorem dX6_cell_21 : decode cX6_cell 21 = .ok (.getfield 97, 3) := dk_180 0 97 (dk_at dksX6_cell_0 21 rfl rfl)
theorem dX6_cell_24 : decode cX6_cell 24 = .ok (.iconst 1, 1) := dk_4 (dk_at dksX6_cell_1 0 rfl rfl)
theorem dX6_cell_25 : decode cX6_cell 25 = .ok (.isub, 1) := dk_100 (dk_at dksX6_cell_1 1 rfl rfl)
theorem dX6_cell_26 : decode cX6_cell 26 = .ok (.invokevirtual 102, 3) := dk_182 0 102 (dk_at dksX6_cell_1 2 rfl rfl)
theorem dX6_cell_29 : decode cX6_cell 29 = .ok (.istore_n 2, 1) := dk_61 (dk_at dksX6_cell_1 5 rfl rfl)
theorem dX6_cell_30 : decode cX6_cell 30 = .ok (.aload_n 0, 1) := dk_42 (dk_at dksX6_cell_1 6 rfl rfl)
theorem dX6_cell_31 : decode cX6_cell 31 = .ok (.getfield 93, 3) := dk_180 0 93 (dk_at dksX6_cell_1 7 rfl rfl)
theorem dX6_cell_34 : decode cX6_cell 34 = .ok (.iload_n 1, 1) := dk_27 (dk_at dksX6_cell_1 10 rfl rfl)
theorem dX6_cell_35 : decode cX6_cell 35 = .ok (.iload_n 2, 1) := dk_28 (dk_at dksX6_cell_1 11 rfl rfl)
theorem dX6_cell_36 : decode cX6_cell 36 = .ok (.aload_n 0, 1) := dk_42 (dk_at dksX6_cell_1 12 rfl rfl)
theorem dX6_cell_37 : decode cX6_cell 37 = .ok (.iconst 0, 1) := dk_3 (dk_at dksX6_cell_1 13 rfl rfl)
theorem dX6_cell_38 : decode cX6_cell 38 = .ok (.aload_n 0, 1) := dk_42 (dk_at dksX6_cell_1 14 rfl rfl)
theorem dX6_cell_39 : decode cX6_cell 39 = .ok (.getfield 93, 3) := dk_180 0 93 (dk_at dksX6_cell_1 15 rfl rfl)
theorem dX6_cell_42 : decode cX6_cell 42 = .ok (.getfield 105, 3) := dk_180 0 105 (dk_at dksX6_cell_1 18 rfl rfl)
theorem dX6_cell_45 : decode cX6_cell 45 = .ok (.getfield 109, 3) := dk_180 0 109 (dk_at dksX6_cell_1 21 rfl rfl)
theorem dX6_cell_48 : decode cX6_cell 48 = .ok (.iconst 1, 1) := dk_4 (dk_at dksX6_cell_2 0 rfl rfl)
theorem dX6_cell_49 : decode cX6_cell 49 = .ok (.isub, 1) := dk_100 (dk_at dksX6_cell_2 1 rfl rfl)
theorem dX6_cell_50 : decode cX6_cell 50 = .ok (.invokevirtual 102, 3) := dk_182 0 102 (dk_at dksX6_cell_2 2 rfl rfl)
theorem dX6_cell_53 : decode cX6_cell 53 = .ok (.invokevirtual 114, 3) := dk_182 0 114 (dk_at dksX6_cell_2 5 rfl rfl)
theorem dX6_cell_56 : decode cX6_cell 56 = .ok (.return_, 1) := dk_177 (dk_at dksX6_cell_2 8 rfl rfl)
abbrev cX6_start : ByteArray := prog_7_method_11_code
def yX6_start : MethodName := ⟨RX6, "start", "()V"⟩
def dkwX6_start_4 : List UInt8 := [132, 1, 1, 42, 182, 0, 64, 154, 255, 179, 177]
abbrev dktX6_start_4 : List UInt8 := dkwX6_start_4 ++ []
def dkwX6_start_3 : List UInt8 := [42, 3, 42, 180, 0, 93, 180, 0, 105, 180, 0, 109, 4, 100, 182, 0, 102, 182, 0, 127, 181, 0, 123]
abbrev dktX6_start_3 : List UInt8 := dkwX6_start_3 ++ dktX6_start_4
def dkwX6_start_2 : List UInt8 := [61, 42, 28, 16, 254, 42, 180, 0, 25, 182, 0, 71, 42, 180, 0, 93, 42, 180, 0, 93, 180, 0, 123, 27]
abbrev dktX6_start_2 : List UInt8 := dkwX6_start_2 ++ dktX6_start_3
def dkwX6_start_1 : List UInt8 := [60, 42, 182, 0, 64, 153, 0, 18, 27, 42, 180, 0, 93, 180, 0, 97, 162, 0, 7, 4, 167, 0, 4, 3]
abbrev dktX6_start_1 : List UInt8 := dkwX6_start_1 ++ dktX6_start_2
def dkwX6_start_0 : List UInt8 := [42, 180, 0, 93, 187, 0, 118, 89, 42, 180, 0, 93, 180, 0, 97, 188, 10, 183, 0, 120, 181, 0, 123, 3]
abbrev dktX6_start_0 : List UInt8 := dkwX6_start_0 ++ dktX6_start_1
theorem dksX6_start_0 : cX6_start.data.toList.drop 0 = dktX6_start_0 := by decide +kernel
theorem dksX6_start_1 : cX6_start.data.toList.drop 24 = dktX6_start_1 := dk_seg dksX6_start_0 24 rfl rfl
theorem dksX6_start_2 : cX6_start.data.toList.drop 48 = dktX6_start_2 := dk_seg dksX6_start_1 24 rfl rfl
theorem dksX6_start_3 : cX6_start.data.toList.drop 72 = dktX6_start_3 := dk_seg dksX6_start_2 24 rfl rfl
theorem dksX6_start_4 : cX6_start.data.toList.drop 95 = dktX6_start_4 := dk_seg dksX6_start_3 23 rfl rfl
theorem dX6_start_0 : decode cX6_start 0 = .ok (.aload_n 0, 1) := dk_42 (dk_at dksX6_start_0 0 rfl rfl)
theorem dX6_start_1 : decode cX6_start 1 = .ok (.getfield 93, 3) := dk_180 0 93 (dk_at dksX6_start_0 1 rfl rfl)
theorem dX6_start_4 : decode cX6_start 4 = .ok (.new 118, 3) := dk_187 0 118 (dk_at dksX6_start_0 4 rfl rfl)
theorem dX6_start_7 : decode cX6_start 7 = .ok (.dup, 1) := dk_89 (dk_at dksX6_start_0 7 rfl rfl)
theorem dX6_start_8 : decode cX6_start 8 = .ok (.aload_n 0, 1) := dk_42 (dk_at dksX6_start_0 8 rfl rfl)
theorem dX6_start_9 : decode cX6_start 9 = .ok (.getfield 93, 3) := dk_180 0 93 (dk_at dksX6_start_0 9 rfl rfl)
theorem dX6_start_12 : decode cX6_start 12 = .ok (.getfield 97, 3) := dk_180 0 97 (dk_at dksX6_start_0 12 rfl rfl)
theorem dX6_start_15 : decode cX6_start 15 = .ok (.newarray .int, 2) := dk_188_10 (dk_at dksX6_start_0 15 rfl rfl)
theorem dX6_start_17 : decode cX6_start 17 = .ok (.invokespecial 120, 3) := dk_183 0 120 (dk_at dksX6_start_0 17 rfl rfl)
theorem dX6_start_20 : decode cX6_start 20 = .ok (.putfield 123, 3) := dk_181 0 123 (dk_at dksX6_start_0 20 rfl rfl)
theorem dX6_start_23 : decode cX6_start 23 = .ok (.iconst 0, 1) := dk_3 (dk_at dksX6_start_0 23 rfl rfl)
theorem dX6_start_24 : decode cX6_start 24 = .ok (.istore_n 1, 1) := dk_60 (dk_at dksX6_start_1 0 rfl rfl)
theorem dX6_start_25 : decode cX6_start 25 = .ok (.aload_n 0, 1) := dk_42 (dk_at dksX6_start_1 1 rfl rfl)
theorem dX6_start_26 : decode cX6_start 26 = .ok (.invokevirtual 64, 3) := dk_182 0 64 (dk_at dksX6_start_1 2 rfl rfl)
theorem dX6_start_29 : decode cX6_start 29 = .ok (.ifCond .eq 18, 3) := dk_153 0 18 (dk_at dksX6_start_1 5 rfl rfl)
theorem dX6_start_32 : decode cX6_start 32 = .ok (.iload_n 1, 1) := dk_27 (dk_at dksX6_start_1 8 rfl rfl)
theorem dX6_start_33 : decode cX6_start 33 = .ok (.aload_n 0, 1) := dk_42 (dk_at dksX6_start_1 9 rfl rfl)
theorem dX6_start_34 : decode cX6_start 34 = .ok (.getfield 93, 3) := dk_180 0 93 (dk_at dksX6_start_1 10 rfl rfl)
theorem dX6_start_37 : decode cX6_start 37 = .ok (.getfield 97, 3) := dk_180 0 97 (dk_at dksX6_start_1 13 rfl rfl)
theorem dX6_start_40 : decode cX6_start 40 = .ok (.if_icmp .ge 7, 3) := dk_162 0 7 (dk_at dksX6_start_1 16 rfl rfl)
theorem dX6_start_43 : decode cX6_start 43 = .ok (.iconst 1, 1) := dk_4 (dk_at dksX6_start_1 19 rfl rfl)
theorem dX6_start_44 : decode cX6_start 44 = .ok (.goto 4, 3) := dk_167 0 4 (dk_at dksX6_start_1 20 rfl rfl)
theorem dX6_start_47 : decode cX6_start 47 = .ok (.iconst 0, 1) := dk_3 (dk_at dksX6_start_1 23 rfl rfl)
theorem dX6_start_48 : decode cX6_start 48 = .ok (.istore_n 2, 1) := dk_61 (dk_at dksX6_start_2 0 rfl rfl)
theorem dX6_start_49 : decode cX6_start 49 = .ok (.aload_n 0, 1) := dk_42 (dk_at dksX6_start_2 1 rfl rfl)
theorem dX6_start_50 : decode cX6_start 50 = .ok (.iload_n 2, 1) := dk_28 (dk_at dksX6_start_2 2 rfl rfl)
theorem dX6_start_51 : decode cX6_start 51 = .ok (.bipush (-2), 2) := dk_16 254 (dk_at dksX6_start_2 3 rfl rfl)
theorem dX6_start_53 : decode cX6_start 53 = .ok (.aload_n 0, 1) := dk_42 (dk_at dksX6_start_2 5 rfl rfl)
theorem dX6_start_54 : decode cX6_start 54 = .ok (.getfield 25, 3) := dk_180 0 25 (dk_at dksX6_start_2 6 rfl rfl)
theorem dX6_start_57 : decode cX6_start 57 = .ok (.invokevirtual 71, 3) := dk_182 0 71 (dk_at dksX6_start_2 9 rfl rfl)
theorem dX6_start_60 : decode cX6_start 60 = .ok (.aload_n 0, 1) := dk_42 (dk_at dksX6_start_2 12 rfl rfl)
theorem dX6_start_61 : decode cX6_start 61 = .ok (.getfield 93, 3) := dk_180 0 93 (dk_at dksX6_start_2 13 rfl rfl)
theorem dX6_start_64 : decode cX6_start 64 = .ok (.aload_n 0, 1) := dk_42 (dk_at dksX6_start_2 16 rfl rfl)
theorem dX6_start_65 : decode cX6_start 65 = .ok (.getfield 93, 3) := dk_180 0 93 (dk_at dksX6_start_2 17 rfl rfl)
theorem dX6_start_68 : decode cX6_start 68 = .ok (.getfield 123, 3) := dk_180 0 123 (dk_at dksX6_start_2 20 rfl rfl)
theorem dX6_start_71 : decode cX6_start 71 = .ok (.iload_n 1, 1) := dk_27 (dk_at dksX6_start_2 23 rfl rfl)
theorem dX6_start_72 : decode cX6_start 72 = .ok (.aload_n 0, 1) := dk_42 (dk_at dksX6_start_3 0 rfl rfl)
theorem dX6_start_73 : decode cX6_start 73 = .ok (.iconst 0, 1) := dk_3 (dk_at dksX6_start_3 1 rfl rfl)
theorem dX6_start_74 : decode cX6_start 74 = .ok (.aload_n 0, 1) := dk_42 (dk_at dksX6_start_3 2 rfl rfl)
theorem dX6_start_75 : decode cX6_start 75 = .ok (.getfield 93, 3) := dk_180 0 93 (dk_at dksX6_start_3 3 rfl rfl)
theorem dX6_start_78 : decode cX6_start 78 = .ok (.getfield 105, 3) := dk_180 0 105 (dk_at dksX6_start_3 6 rfl rfl)
theorem dX6_start_81 : decode cX6_start 81 = .ok (.getfield 109, 3) := dk_180 0 109 (dk_at dksX6_start_3 9 rfl rfl)
theorem dX6_start_84 : decode cX6_start 84 = .ok (.iconst 1, 1) := dk_4 (dk_at dksX6_start_3 12 rfl rfl)
theorem dX6_start_85 : decode cX6_start 85 = .ok (.isub, 1) := dk_100 (dk_at dksX6_start_3 13 rfl rfl)
theorem dX6_start_86 : decode cX6_start 86 = .ok (.invokevirtual 102, 3) := dk_182 0 102 (dk_at dksX6_start_3 14 rfl rfl)
theorem dX6_start_89 : decode cX6_start 89 = .ok (.invokevirtual 127, 3) := dk_182 0 127 (dk_at dksX6_start_3 17 rfl rfl)
theorem dX6_start_92 : decode cX6_start 92 = .ok (.putfield 123, 3) := dk_181 0 123 (dk_at dksX6_start_3 20 rfl rfl)
theorem dX6_start_95 : decode cX6_start 95 = .ok (.iinc 1 1, 3) := dk_132 1 1 (dk_at dksX6_start_4 0 rfl rfl)
theorem dX6_start_98 : decode cX6_start 98 = .ok (.aload_n 0, 1) := dk_42 (dk_at dksX6_start_4 3 rfl rfl)
theorem dX6_start_99 : decode cX6_start 99 = .ok (.invokevirtual 64, 3) := dk_182 0 64 (dk_at dksX6_start_4 4 rfl rfl)
theorem dX6_start_102 : decode cX6_start 102 = .ok (.ifCond .ne (-77), 3) := dk_154 255 179 (dk_at dksX6_start_4 7 rfl rfl)
theorem dX6_start_105 : decode cX6_start 105 = .ok (.return_, 1) := dk_177 (dk_at dksX6_start_4 10 rfl rfl)
abbrev cX6_close : ByteArray := prog_7_method_2_code
def yX6_close : MethodName := ⟨RX6, "close", "()V"⟩
def dkwX6_close_0 : List UInt8 := [42, 180, 0, 3, 3, 181, 0, 22, 177]
abbrev dktX6_close_0 : List UInt8 := dkwX6_close_0 ++ []
theorem dksX6_close_0 : cX6_close.data.toList.drop 0 = dktX6_close_0 := by decide +kernel
theorem dX6_close_0 : decode cX6_close 0 = .ok (.aload_n 0, 1) := dk_42 (dk_at dksX6_close_0 0 rfl rfl)
theorem dX6_close_1 : decode cX6_close 1 = .ok (.getfield 3, 3) := dk_180 0 3 (dk_at dksX6_close_0 1 rfl rfl)
theorem dX6_close_4 : decode cX6_close 4 = .ok (.iconst 0, 1) := dk_3 (dk_at dksX6_close_0 4 rfl rfl)
theorem dX6_close_5 : decode cX6_close 5 = .ok (.putfield 22, 3) := dk_181 0 22 (dk_at dksX6_close_0 5 rfl rfl)
theorem dX6_close_8 : decode cX6_close 8 = .ok (.return_, 1) := dk_177 (dk_at dksX6_close_0 8 rfl rfl)
theorem q134 : (Jvm.Cond.initialized "ExactChains$Reader") ∈ lw_all := lw_g (lw_at lw_m1 34 rfl) rfl
theorem q167 : (Jvm.Cond.fieldLinkNest "ExactChains$Reader" (109 : Nat) "ExactChains$Field" "prime" "I" "ExactChains") ∈ lw_tbl := lw_at lw_m1 67 rfl
theorem q563 : (Jvm.Cond.fieldLinkNest "ExactChains$Reader" (105 : Nat) "ExactChains$Process" "field" "LExactChains$Field;" "ExactChains") ∈ lw_tbl := lw_at lw_m2 223 rfl
theorem q566 : (Jvm.Cond.fieldLinkNest "ExactChains$Reader" (97 : Nat) "ExactChains$Process" "size" "I" "ExactChains") ∈ lw_tbl := lw_at lw_m2 226 rfl
theorem q571 : (Jvm.Cond.fieldLinkNest "ExactChains$Reader" (123 : Nat) "ExactChains$Process" "start" "LExactChains$Vector;" "ExactChains") ∈ lw_tbl := lw_at lw_m2 231 rfl
theorem q574 : (Jvm.Cond.fieldLinkNest "ExactChains$Reader" (147 : Nat) "ExactChains$Process" "limit" "I" "ExactChains") ∈ lw_tbl := lw_at lw_m2 234 rfl
theorem q577 : (Jvm.Cond.fieldLinkNest "ExactChains$Reader" (149 : Nat) "ExactChains$Process" "restarts" "I" "ExactChains") ∈ lw_tbl := lw_at lw_m2 237 rfl
theorem q580 : (Jvm.Cond.fieldLinkNest "ExactChains$Reader" (151 : Nat) "ExactChains$Process" "isFull" "Z" "ExactChains") ∈ lw_tbl := lw_at lw_m3 0 rfl
theorem q636 : (Jvm.Cond.fieldLinkNest "ExactChains$Reader" (28 : Nat) "ExactChains" "buffer" "[B" "ExactChains") ∈ lw_tbl := lw_at lw_m3 56 rfl
theorem q638 : (Jvm.Cond.fieldLinkNest "ExactChains$Reader" (22 : Nat) "ExactChains" "length" "I" "ExactChains") ∈ lw_tbl := lw_at lw_m3 58 rfl
theorem q640 : (Jvm.Cond.fieldLinkNest "ExactChains$Reader" (19 : Nat) "ExactChains" "errorAt" "I" "ExactChains") ∈ lw_tbl := lw_at lw_m3 60 rfl
theorem q727 : (Jvm.Cond.selects "ExactChains$Reader" ({ cls := "java/lang/Object", name := "getClass", desc := "()Ljava/lang/Class;" } : Jvm.MethodName) ({ cls := "java/lang/Object", name := "getClass", desc := "()Ljava/lang/Class;" } : Jvm.MethodName)) ∈ lw_all := lw_g (lw_at lw_m3 147 rfl) rfl
theorem q1432 : (Jvm.Cond.instantiable "ExactChains$Reader" (5 : Nat)) ∈ lw_all := lw_g (lw_at lw_m6 132 rfl) rfl
theorem q1434 : (Jvm.Cond.instanceMethod ({ cls := "ExactChains$Reader", name := "<init>", desc := "(LExactChains;I)V" } : Jvm.MethodName)) ∈ lw_all := lw_g (lw_at lw_m6 134 rfl) rfl
theorem q1435 : (Jvm.Cond.code ({ cls := "ExactChains$Reader", name := "<init>", desc := "(LExactChains;I)V" } : Jvm.MethodName) prog_7_method_1_code (3 : Nat) (Option.none : Option Jvm.ClassFile.FieldType)) ∈ lw_all := lw_g (lw_at lw_m6 135 rfl) rfl
theorem q1436 : (Jvm.Cond.methodLink "ExactChains$Reader" (9 : Nat) ({ cls := "java/lang/Object", name := "<init>", desc := "()V" } : Jvm.MethodName)) ∈ lw_all := lw_g (lw_at lw_m6 136 rfl) rfl
theorem q1437 : (Jvm.Cond.fieldLink "ExactChains$Reader" (15 : Nat) "ExactChains$Reader" "end" "I") ∈ lw_all := lw_g (lw_at lw_m6 137 rfl) rfl
theorem q1438 : (Jvm.Cond.fieldLink "ExactChains$Reader" (93 : Nat) "ExactChains$Reader" "made" "LExactChains$Process;") ∈ lw_all := lw_g (lw_at lw_m6 138 rfl) rfl
theorem q1439 : (Jvm.Cond.fieldLink "ExactChains$Reader" (25 : Nat) "ExactChains$Reader" "at" "I") ∈ lw_all := lw_g (lw_at lw_m6 139 rfl) rfl
theorem q1440 : (Jvm.Cond.fieldLink "ExactChains$Reader" (68 : Nat) "ExactChains$Reader" "from" "I") ∈ lw_all := lw_g (lw_at lw_m6 140 rfl) rfl
theorem q1441 : (Jvm.Cond.fieldLink "ExactChains$Reader" (3 : Nat) "ExactChains$Reader" "this$0" "LExactChains;") ∈ lw_all := lw_g (lw_at lw_m6 141 rfl) rfl
theorem q1442 : (Jvm.Cond.laysFinal "ExactChains$Reader" "ExactChains$Reader" "end" "I") ∈ lw_all := lw_g (lw_at lw_m6 142 rfl) rfl
theorem q1443 : (Jvm.Cond.soleField "ExactChains$Reader" "end") ∈ lw_all := lw_g (lw_at lw_m6 143 rfl) rfl
theorem q1444 : (Jvm.Cond.lays "ExactChains$Reader" "ExactChains$Reader" "made" "LExactChains$Process;") ∈ lw_all := lw_g (lw_at lw_m6 144 rfl) rfl
theorem q1445 : (Jvm.Cond.soleField "ExactChains$Reader" "made") ∈ lw_all := lw_g (lw_at lw_m6 145 rfl) rfl
theorem q1446 : (Jvm.Cond.lays "ExactChains$Reader" "ExactChains$Reader" "at" "I") ∈ lw_all := lw_g (lw_at lw_m6 146 rfl) rfl
theorem q1447 : (Jvm.Cond.soleField "ExactChains$Reader" "at") ∈ lw_all := lw_g (lw_at lw_m6 147 rfl) rfl
theorem q1448 : (Jvm.Cond.lays "ExactChains$Reader" "ExactChains$Reader" "from" "I") ∈ lw_all := lw_g (lw_at lw_m6 148 rfl) rfl
theorem q1449 : (Jvm.Cond.soleField "ExactChains$Reader" "from") ∈ lw_all := lw_g (lw_at lw_m6 149 rfl) rfl
theorem q1450 : (Jvm.Cond.laysFinal "ExactChains$Reader" "ExactChains$Reader" "this$0" "LExactChains;") ∈ lw_all := lw_g (lw_at lw_m6 150 rfl) rfl
theorem q1451 : (Jvm.Cond.soleField "ExactChains$Reader" "this$0") ∈ lw_all := lw_g (lw_at lw_m6 151 rfl) rfl
theorem q1452 : (Jvm.Cond.superclass "ExactChains$Reader" "java/lang/Object") ∈ lw_all := lw_g (lw_at lw_m6 152 rfl) rfl
theorem q1454 : (Jvm.Cond.instanceMethod ({ cls := "ExactChains$Reader", name := "read", desc := "()LExactChains$Process;" } : Jvm.MethodName)) ∈ lw_all := lw_g (lw_at lw_m6 154 rfl) rfl
theorem q1455 : (Jvm.Cond.selects "ExactChains$Reader" ({ cls := "ExactChains$Reader", name := "read", desc := "()LExactChains$Process;" } : Jvm.MethodName) ({ cls := "ExactChains$Reader", name := "read", desc := "()LExactChains$Process;" } : Jvm.MethodName)) ∈ lw_all := lw_g (lw_at lw_m6 155 rfl) rfl
theorem q1456 : (Jvm.Cond.code ({ cls := "ExactChains$Reader", name := "read", desc := "()LExactChains$Process;" } : Jvm.MethodName) prog_7_method_13_code (2 : Nat) (Option.some (Jvm.ClassFile.FieldType.object "ExactChains$Process"))) ∈ lw_all := lw_g (lw_at lw_m6 156 rfl) rfl
theorem q1457 : (Jvm.Cond.stringRef "ExactChains$Reader" (158 : Nat) "prime") ∈ lw_tbl := lw_at lw_m6 157 rfl
theorem q1458 : (Jvm.Cond.methodLink "ExactChains$Reader" (159 : Nat) ({ cls := "ExactChains$Reader", name := "keyword", desc := "(Ljava/lang/String;)V" } : Jvm.MethodName)) ∈ lw_all := lw_g (lw_at lw_m6 158 rfl) rfl
theorem q1459 : (Jvm.Cond.privateMethod ({ cls := "ExactChains$Reader", name := "keyword", desc := "(Ljava/lang/String;)V" } : Jvm.MethodName)) ∈ lw_tbl := lw_at lw_m6 159 rfl
theorem q1460 : (Jvm.Cond.instanceMethod ({ cls := "ExactChains$Reader", name := "keyword", desc := "(Ljava/lang/String;)V" } : Jvm.MethodName)) ∈ lw_all := lw_g (lw_at lw_m6 160 rfl) rfl
theorem q1461 : (Jvm.Cond.code ({ cls := "ExactChains$Reader", name := "keyword", desc := "(Ljava/lang/String;)V" } : Jvm.MethodName) prog_7_method_8_code (3 : Nat) (Option.none : Option Jvm.ClassFile.FieldType)) ∈ lw_all := lw_g (lw_at lw_m6 161 rfl) rfl
theorem q1462 : (Jvm.Cond.methodLink "ExactChains$Reader" (82 : Nat) ({ cls := "ExactChains$Reader", name := "word", desc := "()Ljava/lang/String;" } : Jvm.MethodName)) ∈ lw_all := lw_g (lw_at lw_m6 162 rfl) rfl
theorem q1463 : (Jvm.Cond.privateMethod ({ cls := "ExactChains$Reader", name := "word", desc := "()Ljava/lang/String;" } : Jvm.MethodName)) ∈ lw_tbl := lw_at lw_m6 163 rfl
theorem q1464 : (Jvm.Cond.instanceMethod ({ cls := "ExactChains$Reader", name := "word", desc := "()Ljava/lang/String;" } : Jvm.MethodName)) ∈ lw_all := lw_g (lw_at lw_m6 164 rfl) rfl
theorem q1465 : (Jvm.Cond.code ({ cls := "ExactChains$Reader", name := "word", desc := "()Ljava/lang/String;" } : Jvm.MethodName) prog_7_method_5_code (3 : Nat) (Option.some (Jvm.ClassFile.FieldType.object "java/lang/String"))) ∈ lw_all := lw_g (lw_at lw_m6 165 rfl) rfl
theorem q1466 : (Jvm.Cond.classLink "ExactChains$Reader" (37 : Nat) "java/lang/StringBuilder") ∈ lw_all := lw_g (lw_at lw_m6 166 rfl) rfl
theorem q1467 : (Jvm.Cond.methodLink "ExactChains$Reader" (39 : Nat) ({ cls := "java/lang/StringBuilder", name := "<init>", desc := "()V" } : Jvm.MethodName)) ∈ lw_all := lw_g (lw_at lw_m6 167 rfl) rfl
theorem q1468 : (Jvm.Cond.methodLink "ExactChains$Reader" (40 : Nat) ({ cls := "ExactChains$Reader", name := "peek", desc := "()I" } : Jvm.MethodName)) ∈ lw_all := lw_g (lw_at lw_m6 168 rfl) rfl
theorem q1469 : (Jvm.Cond.privateMethod ({ cls := "ExactChains$Reader", name := "peek", desc := "()I" } : Jvm.MethodName)) ∈ lw_tbl := lw_at lw_m6 169 rfl
theorem q1470 : (Jvm.Cond.instanceMethod ({ cls := "ExactChains$Reader", name := "peek", desc := "()I" } : Jvm.MethodName)) ∈ lw_all := lw_g (lw_at lw_m6 170 rfl) rfl
theorem q1471 : (Jvm.Cond.code ({ cls := "ExactChains$Reader", name := "peek", desc := "()I" } : Jvm.MethodName) prog_7_method_3_code (1 : Nat) (Option.some Jvm.ClassFile.FieldType.int)) ∈ lw_all := lw_g (lw_at lw_m6 171 rfl) rfl
theorem q1472 : (Jvm.Cond.constantLong "ExactChains$Reader" (44 : Nat) (97 : Int64)) ∈ lw_all := lw_g (lw_at lw_m6 172 rfl) rfl
theorem q1473 : (Jvm.Cond.constantLong "ExactChains$Reader" (46 : Nat) (122 : Int64)) ∈ lw_all := lw_g (lw_at lw_m6 173 rfl) rfl
theorem q1474 : (Jvm.Cond.methodLinkNest "ExactChains$Reader" (48 : Nat) ({ cls := "ExactChains", name := "inRange", desc := "(JJJ)Z" } : Jvm.MethodName) "ExactChains") ∈ lw_tbl := lw_at lw_m6 174 rfl
theorem q1475 : (Jvm.Cond.methodLink "ExactChains$Reader" (52 : Nat) ({ cls := "java/lang/StringBuilder", name := "append", desc := "(C)Ljava/lang/StringBuilder;" } : Jvm.MethodName)) ∈ lw_all := lw_g (lw_at lw_m6 175 rfl) rfl
theorem q1476 : (Jvm.Cond.methodLink "ExactChains$Reader" (56 : Nat) ({ cls := "java/lang/StringBuilder", name := "toString", desc := "()Ljava/lang/String;" } : Jvm.MethodName)) ∈ lw_all := lw_g (lw_at lw_m6 176 rfl) rfl
theorem q1477 : (Jvm.Cond.methodLink "ExactChains$Reader" (85 : Nat) ({ cls := "java/lang/String", name := "equals", desc := "(Ljava/lang/Object;)Z" } : Jvm.MethodName)) ∈ lw_all := lw_g (lw_at lw_m6 177 rfl) rfl
theorem q1485 : (Jvm.Cond.methodLink "ExactChains$Reader" (71 : Nat) ({ cls := "ExactChains$Reader", name := "require", desc := "(ZII)V" } : Jvm.MethodName)) ∈ lw_all := lw_g (lw_at lw_m6 185 rfl) rfl
theorem q1486 : (Jvm.Cond.privateMethod ({ cls := "ExactChains$Reader", name := "require", desc := "(ZII)V" } : Jvm.MethodName)) ∈ lw_tbl := lw_at lw_m6 186 rfl
theorem q1487 : (Jvm.Cond.instanceMethod ({ cls := "ExactChains$Reader", name := "require", desc := "(ZII)V" } : Jvm.MethodName)) ∈ lw_all := lw_g (lw_at lw_m6 187 rfl) rfl
theorem q1488 : (Jvm.Cond.code ({ cls := "ExactChains$Reader", name := "require", desc := "(ZII)V" } : Jvm.MethodName) prog_7_method_4_code (4 : Nat) (Option.none : Option Jvm.ClassFile.FieldType)) ∈ lw_all := lw_g (lw_at lw_m6 188 rfl) rfl
theorem q1489 : (Jvm.Cond.classLink "ExactChains$Reader" (32 : Nat) "ExactChains$TextError") ∈ lw_all := lw_g (lw_at lw_m6 189 rfl) rfl
theorem q1498 : (Jvm.Cond.methodLink "ExactChains$Reader" (34 : Nat) ({ cls := "ExactChains$TextError", name := "<init>", desc := "(II)V" } : Jvm.MethodName)) ∈ lw_all := lw_g (lw_at lw_m6 198 rfl) rfl
theorem q1517 : (Jvm.Cond.methodLink "ExactChains$Reader" (91 : Nat) ({ cls := "java/lang/String", name := "length", desc := "()I" } : Jvm.MethodName)) ∈ lw_all := lw_g (lw_at lw_m6 217 rfl) rfl
theorem q1518 : (Jvm.Cond.methodLink "ExactChains$Reader" (102 : Nat) ({ cls := "ExactChains$Reader", name := "number", desc := "(II)I" } : Jvm.MethodName)) ∈ lw_all := lw_g (lw_at lw_m6 218 rfl) rfl
theorem q1519 : (Jvm.Cond.privateMethod ({ cls := "ExactChains$Reader", name := "number", desc := "(II)I" } : Jvm.MethodName)) ∈ lw_tbl := lw_at lw_m6 219 rfl
theorem q1520 : (Jvm.Cond.instanceMethod ({ cls := "ExactChains$Reader", name := "number", desc := "(II)I" } : Jvm.MethodName)) ∈ lw_all := lw_g (lw_at lw_m6 220 rfl) rfl
theorem q1521 : (Jvm.Cond.code ({ cls := "ExactChains$Reader", name := "number", desc := "(II)I" } : Jvm.MethodName) prog_7_method_7_code (5 : Nat) (Option.some Jvm.ClassFile.FieldType.int)) ∈ lw_all := lw_g (lw_at lw_m6 221 rfl) rfl
theorem q1522 : (Jvm.Cond.methodLink "ExactChains$Reader" (64 : Nat) ({ cls := "ExactChains$Reader", name := "isNumberNext", desc := "()Z" } : Jvm.MethodName)) ∈ lw_all := lw_g (lw_at lw_m6 222 rfl) rfl
theorem q1523 : (Jvm.Cond.privateMethod ({ cls := "ExactChains$Reader", name := "isNumberNext", desc := "()Z" } : Jvm.MethodName)) ∈ lw_tbl := lw_at lw_m6 223 rfl
theorem q1524 : (Jvm.Cond.instanceMethod ({ cls := "ExactChains$Reader", name := "isNumberNext", desc := "()Z" } : Jvm.MethodName)) ∈ lw_all := lw_g (lw_at lw_m6 224 rfl) rfl
theorem q1525 : (Jvm.Cond.code ({ cls := "ExactChains$Reader", name := "isNumberNext", desc := "()Z" } : Jvm.MethodName) prog_7_method_6_code (1 : Nat) (Option.some Jvm.ClassFile.FieldType.boolean)) ∈ lw_all := lw_g (lw_at lw_m6 225 rfl) rfl
theorem q1526 : (Jvm.Cond.constantLong "ExactChains$Reader" (60 : Nat) (48 : Int64)) ∈ lw_all := lw_g (lw_at lw_m6 226 rfl) rfl
theorem q1527 : (Jvm.Cond.constantLong "ExactChains$Reader" (62 : Nat) (57 : Int64)) ∈ lw_all := lw_g (lw_at lw_m6 227 rfl) rfl
theorem q1528 : (Jvm.Cond.constant "ExactChains$Reader" (75 : Nat) (1000000 : Int32)) ∈ lw_all := lw_g (lw_at lw_m6 228 rfl) rfl
theorem q1529 : (Jvm.Cond.methodLink "ExactChains$Reader" (76 : Nat) ({ cls := "java/lang/Math", name := "min", desc := "(II)I" } : Jvm.MethodName)) ∈ lw_all := lw_g (lw_at lw_m6 229 rfl) rfl
theorem q1530 : (Jvm.Cond.methodLink "ExactChains$Reader" (163 : Nat) ({ cls := "ExactChains$Field", name := "isPrime", desc := "(I)Z" } : Jvm.MethodName)) ∈ lw_all := lw_g (lw_at lw_m6 230 rfl) rfl
theorem q1533 : (Jvm.Cond.stringRef "ExactChains$Reader" (167 : Nat) "size") ∈ lw_tbl := lw_at lw_m6 233 rfl
theorem q1534 : (Jvm.Cond.classLink "ExactChains$Reader" (98 : Nat) "ExactChains$Process") ∈ lw_all := lw_g (lw_at lw_m6 234 rfl) rfl
theorem q1535 : (Jvm.Cond.methodLink "ExactChains$Reader" (168 : Nat) ({ cls := "ExactChains$Process", name := "<init>", desc := "(II)V" } : Jvm.MethodName)) ∈ lw_all := lw_g (lw_at lw_m6 235 rfl) rfl
theorem q1536 : (Jvm.Cond.methodLink "ExactChains$Reader" (155 : Nat) ({ cls := "ExactChains$Reader", name := "semicolon", desc := "()V" } : Jvm.MethodName)) ∈ lw_all := lw_g (lw_at lw_m6 236 rfl) rfl
theorem q1537 : (Jvm.Cond.privateMethod ({ cls := "ExactChains$Reader", name := "semicolon", desc := "()V" } : Jvm.MethodName)) ∈ lw_tbl := lw_at lw_m6 237 rfl
theorem q1538 : (Jvm.Cond.instanceMethod ({ cls := "ExactChains$Reader", name := "semicolon", desc := "()V" } : Jvm.MethodName)) ∈ lw_all := lw_g (lw_at lw_m6 238 rfl) rfl
theorem q1539 : (Jvm.Cond.code ({ cls := "ExactChains$Reader", name := "semicolon", desc := "()V" } : Jvm.MethodName) prog_7_method_9_code (2 : Nat) (Option.none : Option Jvm.ClassFile.FieldType)) ∈ lw_all := lw_g (lw_at lw_m6 239 rfl) rfl
theorem q1540 : (Jvm.Cond.methodLink "ExactChains$Reader" (169 : Nat) ({ cls := "ExactChains$Reader", name := "statement", desc := "()V" } : Jvm.MethodName)) ∈ lw_all := lw_g (lw_at lw_m7 0 rfl) rfl
theorem q1541 : (Jvm.Cond.privateMethod ({ cls := "ExactChains$Reader", name := "statement", desc := "()V" } : Jvm.MethodName)) ∈ lw_tbl := lw_at lw_m7 1 rfl
theorem q1542 : (Jvm.Cond.instanceMethod ({ cls := "ExactChains$Reader", name := "statement", desc := "()V" } : Jvm.MethodName)) ∈ lw_all := lw_g (lw_at lw_m7 2 rfl) rfl
theorem q1543 : (Jvm.Cond.code ({ cls := "ExactChains$Reader", name := "statement", desc := "()V" } : Jvm.MethodName) prog_7_method_12_code (5 : Nat) (Option.none : Option Jvm.ClassFile.FieldType)) ∈ lw_all := lw_g (lw_at lw_m7 3 rfl) rfl
theorem q1544 : (Jvm.Cond.methodLink "ExactChains$Reader" (131 : Nat) ({ cls := "java/lang/String", name := "hashCode", desc := "()I" } : Jvm.MethodName)) ∈ lw_all := lw_g (lw_at lw_m7 4 rfl) rfl
theorem q1601 : (Jvm.Cond.stringRef "ExactChains$Reader" (134 : Nat) "cell") ∈ lw_tbl := lw_at lw_m7 61 rfl
theorem q1602 : (Jvm.Cond.stringRef "ExactChains$Reader" (136 : Nat) "start") ∈ lw_tbl := lw_at lw_m7 62 rfl
theorem q1603 : (Jvm.Cond.stringRef "ExactChains$Reader" (137 : Nat) "limit") ∈ lw_tbl := lw_at lw_m7 63 rfl
theorem q1604 : (Jvm.Cond.stringRef "ExactChains$Reader" (139 : Nat) "restarts") ∈ lw_tbl := lw_at lw_m7 64 rfl
theorem q1605 : (Jvm.Cond.stringRef "ExactChains$Reader" (141 : Nat) "full") ∈ lw_tbl := lw_at lw_m7 65 rfl
theorem q1606 : (Jvm.Cond.methodLink "ExactChains$Reader" (143 : Nat) ({ cls := "ExactChains$Reader", name := "cell", desc := "()V" } : Jvm.MethodName)) ∈ lw_all := lw_g (lw_at lw_m7 66 rfl) rfl
theorem q1607 : (Jvm.Cond.privateMethod ({ cls := "ExactChains$Reader", name := "cell", desc := "()V" } : Jvm.MethodName)) ∈ lw_tbl := lw_at lw_m7 67 rfl
theorem q1608 : (Jvm.Cond.instanceMethod ({ cls := "ExactChains$Reader", name := "cell", desc := "()V" } : Jvm.MethodName)) ∈ lw_all := lw_g (lw_at lw_m7 68 rfl) rfl
theorem q1609 : (Jvm.Cond.code ({ cls := "ExactChains$Reader", name := "cell", desc := "()V" } : Jvm.MethodName) prog_7_method_10_code (3 : Nat) (Option.none : Option Jvm.ClassFile.FieldType)) ∈ lw_all := lw_g (lw_at lw_m7 69 rfl) rfl
theorem q1610 : (Jvm.Cond.methodLink "ExactChains$Reader" (114 : Nat) ({ cls := "ExactChains$Process", name := "sets", desc := "(III)V" } : Jvm.MethodName)) ∈ lw_all := lw_g (lw_at lw_m7 70 rfl) rfl
theorem q1617 : (Jvm.Cond.methodLink "ExactChains$Reader" (145 : Nat) ({ cls := "ExactChains$Reader", name := "start", desc := "()V" } : Jvm.MethodName)) ∈ lw_all := lw_g (lw_at lw_m7 77 rfl) rfl
theorem q1618 : (Jvm.Cond.privateMethod ({ cls := "ExactChains$Reader", name := "start", desc := "()V" } : Jvm.MethodName)) ∈ lw_tbl := lw_at lw_m7 78 rfl
theorem q1619 : (Jvm.Cond.instanceMethod ({ cls := "ExactChains$Reader", name := "start", desc := "()V" } : Jvm.MethodName)) ∈ lw_all := lw_g (lw_at lw_m7 79 rfl) rfl
theorem q1620 : (Jvm.Cond.code ({ cls := "ExactChains$Reader", name := "start", desc := "()V" } : Jvm.MethodName) prog_7_method_11_code (3 : Nat) (Option.none : Option Jvm.ClassFile.FieldType)) ∈ lw_all := lw_g (lw_at lw_m7 80 rfl) rfl
theorem q1621 : (Jvm.Cond.classLink "ExactChains$Reader" (118 : Nat) "ExactChains$Vector") ∈ lw_all := lw_g (lw_at lw_m7 81 rfl) rfl
theorem q1622 : (Jvm.Cond.methodLink "ExactChains$Reader" (120 : Nat) ({ cls := "ExactChains$Vector", name := "<init>", desc := "([I)V" } : Jvm.MethodName)) ∈ lw_all := lw_g (lw_at lw_m7 82 rfl) rfl
theorem q1623 : (Jvm.Cond.methodLink "ExactChains$Reader" (127 : Nat) ({ cls := "ExactChains$Vector", name := "with", desc := "(II)LExactChains$Vector;" } : Jvm.MethodName)) ∈ lw_all := lw_g (lw_at lw_m7 83 rfl) rfl
theorem q1633 : (Jvm.Cond.instanceMethod ({ cls := "ExactChains$Reader", name := "close", desc := "()V" } : Jvm.MethodName)) ∈ lw_all := lw_g (lw_at lw_m7 93 rfl) rfl
theorem q1634 : (Jvm.Cond.selects "ExactChains$Reader" ({ cls := "ExactChains$Reader", name := "close", desc := "()V" } : Jvm.MethodName) ({ cls := "ExactChains$Reader", name := "close", desc := "()V" } : Jvm.MethodName)) ∈ lw_all := lw_g (lw_at lw_m7 94 rfl) rfl
theorem q1635 : (Jvm.Cond.code ({ cls := "ExactChains$Reader", name := "close", desc := "()V" } : Jvm.MethodName) prog_7_method_2_code (1 : Nat) (Option.none : Option Jvm.ClassFile.FieldType)) ∈ lw_all := lw_g (lw_at lw_m7 95 rfl) rfl
theorem q2529 : (Jvm.Cond.castable "ExactChains$Reader" "java/lang/Object") ∈ lw_tbl := lw_at lw_m11 29 rfl
theorem in_X6 : ∀ w ∈ wsX60, w ∈ lw_all := lw_in wsX60 [1442, 1444, 1446, 1448, 1450] (by decide +kernel) (by decide +kernel)
/-! ExactChains$TextError -/
set_option maxRecDepth 100000
def RX7 : String := "ExactChains$TextError"
def TX7 : u_T := fun k => match k with
  | 0 => ("java/lang/Throwable", "cause", "Ljava/lang/Throwable;", false)
  | 1 => ("java/lang/Throwable", "stackTrace", "[Ljava/lang/StackTraceElement;", false)
  | 2 => ("java/lang/Throwable", "suppressedExceptions", "Ljava/util/List;", false)
  | 3 => ("java/lang/Throwable", "detailMessage", "Ljava/lang/String;", false)
  | 4 => ("java/lang/Throwable", "backtrace", "Ljava/lang/Object;", false)
  | 5 => ("java/lang/Throwable", "depth", "I", false)
  | 6 => ("ExactChains$TextError", "code", "I", true)
  | _ => ("ExactChains$TextError", "position", "I", true)
def tyX7 : Nat → FieldType := fun k => match k with
  | 0 => .object "java/lang/Throwable"
  | 1 => .array (.object "java/lang/StackTraceElement")
  | 2 => .object "java/util/List"
  | 3 => .object "java/lang/String"
  | 4 => .object "java/lang/Object"
  | 5 => .int
  | 6 => .int
  | _ => .int
abbrev wsX70 : List Cond := u_ws RX7 TX7 8
theorem nmX7 : ∀ a, a < 8 → ∀ b, b < 8 → a ≠ b → (TX7 a).2.1 ≠ (TX7 b).2.1 := by decide +kernel
theorem tyX7_ok : ∀ k, k < 8 → parseFieldDescriptor (TX7 k).2.2.1 = some (tyX7 k) := by decide +kernel
abbrev cX7_init : ByteArray := prog_9_method_1_code
def yX7_init : MethodName := ⟨RX7, "<init>", "(II)V"⟩
def dkwX7_init_0 : List UInt8 := [42, 1, 1, 3, 3, 183, 0, 1, 42, 27, 181, 0, 7, 42, 28, 181, 0, 13, 177]
abbrev dktX7_init_0 : List UInt8 := dkwX7_init_0 ++ []
theorem dksX7_init_0 : cX7_init.data.toList.drop 0 = dktX7_init_0 := by decide +kernel
theorem dX7_init_0 : decode cX7_init 0 = .ok (.aload_n 0, 1) := dk_42 (dk_at dksX7_init_0 0 rfl rfl)
theorem dX7_init_1 : decode cX7_init 1 = .ok (.aconst_null, 1) := dk_1 (dk_at dksX7_init_0 1 rfl rfl)
theorem dX7_init_2 : decode cX7_init 2 = .ok (.aconst_null, 1) := dk_1 (dk_at dksX7_init_0 2 rfl rfl)
theorem dX7_init_3 : decode cX7_init 3 = .ok (.iconst 0, 1) := dk_3 (dk_at dksX7_init_0 3 rfl rfl)
theorem dX7_init_4 : decode cX7_init 4 = .ok (.iconst 0, 1) := dk_3 (dk_at dksX7_init_0 4 rfl rfl)
theorem dX7_init_5 : decode cX7_init 5 = .ok (.invokespecial 1, 3) := dk_183 0 1 (dk_at dksX7_init_0 5 rfl rfl)
theorem dX7_init_8 : decode cX7_init 8 = .ok (.aload_n 0, 1) := dk_42 (dk_at dksX7_init_0 8 rfl rfl)
theorem dX7_init_9 : decode cX7_init 9 = .ok (.iload_n 1, 1) := dk_27 (dk_at dksX7_init_0 9 rfl rfl)
theorem dX7_init_10 : decode cX7_init 10 = .ok (.putfield 7, 3) := dk_181 0 7 (dk_at dksX7_init_0 10 rfl rfl)
theorem dX7_init_13 : decode cX7_init 13 = .ok (.aload_n 0, 1) := dk_42 (dk_at dksX7_init_0 13 rfl rfl)
theorem dX7_init_14 : decode cX7_init 14 = .ok (.iload_n 2, 1) := dk_28 (dk_at dksX7_init_0 14 rfl rfl)
theorem dX7_init_15 : decode cX7_init 15 = .ok (.putfield 13, 3) := dk_181 0 13 (dk_at dksX7_init_0 15 rfl rfl)
theorem dX7_init_18 : decode cX7_init 18 = .ok (.return_, 1) := dk_177 (dk_at dksX7_init_0 18 rfl rfl)
theorem q135 : (Jvm.Cond.initialized "ExactChains$TextError") ∈ lw_all := lw_g (lw_at lw_m1 35 rfl) rfl
theorem q231 : (Jvm.Cond.selects "ExactChains$TextError" ({ cls := "java/lang/Throwable", name := "fillInStackTrace", desc := "()Ljava/lang/Throwable;" } : Jvm.MethodName) ({ cls := "java/lang/Throwable", name := "fillInStackTrace", desc := "()Ljava/lang/Throwable;" } : Jvm.MethodName)) ∈ lw_all := lw_g (lw_at lw_m1 131 rfl) rfl
theorem q729 : (Jvm.Cond.selects "ExactChains$TextError" ({ cls := "java/lang/Object", name := "getClass", desc := "()Ljava/lang/Class;" } : Jvm.MethodName) ({ cls := "java/lang/Object", name := "getClass", desc := "()Ljava/lang/Class;" } : Jvm.MethodName)) ∈ lw_all := lw_g (lw_at lw_m3 149 rfl) rfl
theorem q1490 : (Jvm.Cond.instantiable "ExactChains$TextError" (8 : Nat)) ∈ lw_all := lw_g (lw_at lw_m6 190 rfl) rfl
theorem q1491 : (Jvm.Cond.castable "ExactChains$TextError" "ExactChains$TextError") ∈ lw_tbl := lw_at lw_m6 191 rfl
theorem q1492 : (Jvm.Cond.selects "ExactChains$TextError" ({ cls := "java/lang/Throwable", name := "fillInStackTrace", desc := "(I)Ljava/lang/Throwable;" } : Jvm.MethodName) ({ cls := "java/lang/Throwable", name := "fillInStackTrace", desc := "(I)Ljava/lang/Throwable;" } : Jvm.MethodName)) ∈ lw_all := lw_g (lw_at lw_m6 192 rfl) rfl
theorem q1493 : (Jvm.Cond.lays "ExactChains$TextError" "java/lang/Throwable" "cause" "Ljava/lang/Throwable;") ∈ lw_all := lw_g (lw_at lw_m6 193 rfl) rfl
theorem q1494 : (Jvm.Cond.lays "ExactChains$TextError" "java/lang/Throwable" "stackTrace" "[Ljava/lang/StackTraceElement;") ∈ lw_all := lw_g (lw_at lw_m6 194 rfl) rfl
theorem q1495 : (Jvm.Cond.lays "ExactChains$TextError" "java/lang/Throwable" "suppressedExceptions" "Ljava/util/List;") ∈ lw_all := lw_g (lw_at lw_m6 195 rfl) rfl
theorem q1496 : (Jvm.Cond.lays "ExactChains$TextError" "java/lang/Throwable" "detailMessage" "Ljava/lang/String;") ∈ lw_all := lw_g (lw_at lw_m6 196 rfl) rfl
theorem q1497 : (Jvm.Cond.lays "ExactChains$TextError" "java/lang/Throwable" "backtrace" "Ljava/lang/Object;") ∈ lw_all := lw_g (lw_at lw_m6 197 rfl) rfl
theorem q1499 : (Jvm.Cond.instanceMethod ({ cls := "ExactChains$TextError", name := "<init>", desc := "(II)V" } : Jvm.MethodName)) ∈ lw_all := lw_g (lw_at lw_m6 199 rfl) rfl
theorem q1500 : (Jvm.Cond.code ({ cls := "ExactChains$TextError", name := "<init>", desc := "(II)V" } : Jvm.MethodName) prog_9_method_1_code (3 : Nat) (Option.none : Option Jvm.ClassFile.FieldType)) ∈ lw_all := lw_g (lw_at lw_m6 200 rfl) rfl
theorem q1501 : (Jvm.Cond.methodLink "ExactChains$TextError" (1 : Nat) ({ cls := "java/lang/Exception", name := "<init>", desc := "(Ljava/lang/String;Ljava/lang/Throwable;ZZ)V" } : Jvm.MethodName)) ∈ lw_all := lw_g (lw_at lw_m6 201 rfl) rfl
theorem q1507 : (Jvm.Cond.fieldLink "ExactChains$TextError" (7 : Nat) "ExactChains$TextError" "code" "I") ∈ lw_all := lw_g (lw_at lw_m6 207 rfl) rfl
theorem q1509 : (Jvm.Cond.fieldLink "ExactChains$TextError" (13 : Nat) "ExactChains$TextError" "position" "I") ∈ lw_all := lw_g (lw_at lw_m6 209 rfl) rfl
theorem q1511 : (Jvm.Cond.laysFinal "ExactChains$TextError" "ExactChains$TextError" "code" "I") ∈ lw_all := lw_g (lw_at lw_m6 211 rfl) rfl
theorem q1512 : (Jvm.Cond.soleField "ExactChains$TextError" "code") ∈ lw_all := lw_g (lw_at lw_m6 212 rfl) rfl
theorem q1513 : (Jvm.Cond.laysFinal "ExactChains$TextError" "ExactChains$TextError" "position" "I") ∈ lw_all := lw_g (lw_at lw_m6 213 rfl) rfl
theorem q1514 : (Jvm.Cond.soleField "ExactChains$TextError" "position") ∈ lw_all := lw_g (lw_at lw_m6 214 rfl) rfl
theorem q1515 : (Jvm.Cond.lays "ExactChains$TextError" "java/lang/Throwable" "depth" "I") ∈ lw_all := lw_g (lw_at lw_m6 215 rfl) rfl
theorem q1516 : (Jvm.Cond.superclass "ExactChains$TextError" "java/lang/Exception") ∈ lw_all := lw_g (lw_at lw_m6 216 rfl) rfl
theorem q1639 : (Jvm.Cond.selects "ExactChains$TextError" ({ cls := "java/lang/Throwable", name := "addSuppressed", desc := "(Ljava/lang/Throwable;)V" } : Jvm.MethodName) ({ cls := "java/lang/Throwable", name := "addSuppressed", desc := "(Ljava/lang/Throwable;)V" } : Jvm.MethodName)) ∈ lw_all := lw_g (lw_at lw_m7 99 rfl) rfl
theorem q2498 : (Jvm.Cond.castable "ExactChains$TextError" "java/lang/Throwable") ∈ lw_tbl := lw_at lw_m10 238 rfl
theorem q2530 : (Jvm.Cond.castable "ExactChains$TextError" "java/lang/Object") ∈ lw_tbl := lw_at lw_m11 30 rfl
theorem in_X7 : ∀ w ∈ wsX70, w ∈ lw_all := lw_in wsX70 [1493, 1494, 1495, 1496, 1497, 1515, 1511, 1513] (by decide +kernel) (by decide +kernel)
/-! ExactChains$Chain -/
set_option maxRecDepth 100000
def RX8 : String := "ExactChains$Chain"
def TX8 : u_T := fun k => match k with
  | 0 => ("ExactChains$Chain", "first", "I", true)
  | 1 => ("ExactChains$Chain", "many", "I", true)
  | _ => ("ExactChains$Chain", "cause", "I", true)
def tyX8 : Nat → FieldType := fun k => match k with
  | 0 => .int
  | 1 => .int
  | _ => .int
abbrev wsX80 : List Cond := u_ws RX8 TX8 3
theorem nmX8 : ∀ a, a < 3 → ∀ b, b < 3 → a ≠ b → (TX8 a).2.1 ≠ (TX8 b).2.1 := by decide +kernel
theorem tyX8_ok : ∀ k, k < 3 → parseFieldDescriptor (TX8 k).2.2.1 = some (tyX8 k) := by decide +kernel
abbrev cX8_init : ByteArray := prog_3_method_1_code
def yX8_init : MethodName := ⟨RX8, "<init>", "(III)V"⟩
def dkwX8_init_0 : List UInt8 := [42, 183, 0, 1, 42, 27, 181, 0, 7, 42, 28, 181, 0, 13, 42, 29, 181, 0, 16, 177]
abbrev dktX8_init_0 : List UInt8 := dkwX8_init_0 ++ []
theorem dksX8_init_0 : cX8_init.data.toList.drop 0 = dktX8_init_0 := by decide +kernel
theorem dX8_init_0 : decode cX8_init 0 = .ok (.aload_n 0, 1) := dk_42 (dk_at dksX8_init_0 0 rfl rfl)
theorem dX8_init_1 : decode cX8_init 1 = .ok (.invokespecial 1, 3) := dk_183 0 1 (dk_at dksX8_init_0 1 rfl rfl)
theorem dX8_init_4 : decode cX8_init 4 = .ok (.aload_n 0, 1) := dk_42 (dk_at dksX8_init_0 4 rfl rfl)
theorem dX8_init_5 : decode cX8_init 5 = .ok (.iload_n 1, 1) := dk_27 (dk_at dksX8_init_0 5 rfl rfl)
theorem dX8_init_6 : decode cX8_init 6 = .ok (.putfield 7, 3) := dk_181 0 7 (dk_at dksX8_init_0 6 rfl rfl)
theorem dX8_init_9 : decode cX8_init 9 = .ok (.aload_n 0, 1) := dk_42 (dk_at dksX8_init_0 9 rfl rfl)
theorem dX8_init_10 : decode cX8_init 10 = .ok (.iload_n 2, 1) := dk_28 (dk_at dksX8_init_0 10 rfl rfl)
theorem dX8_init_11 : decode cX8_init 11 = .ok (.putfield 13, 3) := dk_181 0 13 (dk_at dksX8_init_0 11 rfl rfl)
theorem dX8_init_14 : decode cX8_init 14 = .ok (.aload_n 0, 1) := dk_42 (dk_at dksX8_init_0 14 rfl rfl)
theorem dX8_init_15 : decode cX8_init 15 = .ok (.iload_n 3, 1) := dk_29 (dk_at dksX8_init_0 15 rfl rfl)
theorem dX8_init_16 : decode cX8_init 16 = .ok (.putfield 16, 3) := dk_181 0 16 (dk_at dksX8_init_0 16 rfl rfl)
theorem dX8_init_19 : decode cX8_init 19 = .ok (.return_, 1) := dk_177 (dk_at dksX8_init_0 19 rfl rfl)
abbrev cX8_ended : ByteArray := prog_3_method_3_code
def yX8_ended : MethodName := ⟨RX8, "ended", "(I)LExactChains$Chain;"⟩
def dkwX8_ended_0 : List UInt8 := [187, 0, 8, 89, 42, 180, 0, 7, 42, 180, 0, 13, 27, 183, 0, 19, 176]
abbrev dktX8_ended_0 : List UInt8 := dkwX8_ended_0 ++ []
theorem dksX8_ended_0 : cX8_ended.data.toList.drop 0 = dktX8_ended_0 := by decide +kernel
theorem dX8_ended_0 : decode cX8_ended 0 = .ok (.new 8, 3) := dk_187 0 8 (dk_at dksX8_ended_0 0 rfl rfl)
theorem dX8_ended_3 : decode cX8_ended 3 = .ok (.dup, 1) := dk_89 (dk_at dksX8_ended_0 3 rfl rfl)
theorem dX8_ended_4 : decode cX8_ended 4 = .ok (.aload_n 0, 1) := dk_42 (dk_at dksX8_ended_0 4 rfl rfl)
theorem dX8_ended_5 : decode cX8_ended 5 = .ok (.getfield 7, 3) := dk_180 0 7 (dk_at dksX8_ended_0 5 rfl rfl)
theorem dX8_ended_8 : decode cX8_ended 8 = .ok (.aload_n 0, 1) := dk_42 (dk_at dksX8_ended_0 8 rfl rfl)
theorem dX8_ended_9 : decode cX8_ended 9 = .ok (.getfield 13, 3) := dk_180 0 13 (dk_at dksX8_ended_0 9 rfl rfl)
theorem dX8_ended_12 : decode cX8_ended 12 = .ok (.iload_n 1, 1) := dk_27 (dk_at dksX8_ended_0 12 rfl rfl)
theorem dX8_ended_13 : decode cX8_ended 13 = .ok (.invokespecial 19, 3) := dk_183 0 19 (dk_at dksX8_ended_0 13 rfl rfl)
theorem dX8_ended_16 : decode cX8_ended 16 = .ok (.areturn, 1) := dk_176 (dk_at dksX8_ended_0 16 rfl rfl)
abbrev cX8_longer : ByteArray := prog_3_method_2_code
def yX8_longer : MethodName := ⟨RX8, "longer", "()LExactChains$Chain;"⟩
def dkwX8_longer_0 : List UInt8 := [187, 0, 8, 89, 42, 180, 0, 7, 42, 180, 0, 13, 4, 96, 42, 180, 0, 16, 183, 0, 19, 176]
abbrev dktX8_longer_0 : List UInt8 := dkwX8_longer_0 ++ []
theorem dksX8_longer_0 : cX8_longer.data.toList.drop 0 = dktX8_longer_0 := by decide +kernel
theorem dX8_longer_0 : decode cX8_longer 0 = .ok (.new 8, 3) := dk_187 0 8 (dk_at dksX8_longer_0 0 rfl rfl)
theorem dX8_longer_3 : decode cX8_longer 3 = .ok (.dup, 1) := dk_89 (dk_at dksX8_longer_0 3 rfl rfl)
theorem dX8_longer_4 : decode cX8_longer 4 = .ok (.aload_n 0, 1) := dk_42 (dk_at dksX8_longer_0 4 rfl rfl)
theorem dX8_longer_5 : decode cX8_longer 5 = .ok (.getfield 7, 3) := dk_180 0 7 (dk_at dksX8_longer_0 5 rfl rfl)
theorem dX8_longer_8 : decode cX8_longer 8 = .ok (.aload_n 0, 1) := dk_42 (dk_at dksX8_longer_0 8 rfl rfl)
theorem dX8_longer_9 : decode cX8_longer 9 = .ok (.getfield 13, 3) := dk_180 0 13 (dk_at dksX8_longer_0 9 rfl rfl)
theorem dX8_longer_12 : decode cX8_longer 12 = .ok (.iconst 1, 1) := dk_4 (dk_at dksX8_longer_0 12 rfl rfl)
theorem dX8_longer_13 : decode cX8_longer 13 = .ok (.iadd, 1) := dk_96 (dk_at dksX8_longer_0 13 rfl rfl)
theorem dX8_longer_14 : decode cX8_longer 14 = .ok (.aload_n 0, 1) := dk_42 (dk_at dksX8_longer_0 14 rfl rfl)
theorem dX8_longer_15 : decode cX8_longer 15 = .ok (.getfield 16, 3) := dk_180 0 16 (dk_at dksX8_longer_0 15 rfl rfl)
theorem dX8_longer_18 : decode cX8_longer 18 = .ok (.invokespecial 19, 3) := dk_183 0 19 (dk_at dksX8_longer_0 18 rfl rfl)
theorem dX8_longer_21 : decode cX8_longer 21 = .ok (.areturn, 1) := dk_176 (dk_at dksX8_longer_0 21 rfl rfl)
abbrev cX8_cause : ByteArray := prog_3_method_9_code
def yX8_cause : MethodName := ⟨RX8, "cause", "()I"⟩
theorem dX8_cause_0 : decode cX8_cause 0 = .ok (.aload_n 0, 1) := by decide +kernel
theorem dX8_cause_1 : decode cX8_cause 1 = .ok (.getfield 16, 3) := by decide +kernel
theorem dX8_cause_4 : decode cX8_cause 4 = .ok (.ireturn, 1) := by decide +kernel
abbrev cX8_many : ByteArray := prog_3_method_8_code
def yX8_many : MethodName := ⟨RX8, "many", "()I"⟩
theorem dX8_many_0 : decode cX8_many 0 = .ok (.aload_n 0, 1) := by decide +kernel
theorem dX8_many_1 : decode cX8_many 1 = .ok (.getfield 13, 3) := by decide +kernel
theorem dX8_many_4 : decode cX8_many 4 = .ok (.ireturn, 1) := by decide +kernel
abbrev cX8_first : ByteArray := prog_3_method_7_code
def yX8_first : MethodName := ⟨RX8, "first", "()I"⟩
theorem dX8_first_0 : decode cX8_first 0 = .ok (.aload_n 0, 1) := by decide +kernel
theorem dX8_first_1 : decode cX8_first 1 = .ok (.getfield 7, 3) := by decide +kernel
theorem dX8_first_4 : decode cX8_first 4 = .ok (.ireturn, 1) := by decide +kernel
theorem q139 : (Jvm.Cond.initialized "ExactChains$Chain") ∈ lw_all := lw_g (lw_at lw_m1 39 rfl) rfl
theorem q723 : (Jvm.Cond.selects "ExactChains$Chain" ({ cls := "java/lang/Object", name := "getClass", desc := "()Ljava/lang/Class;" } : Jvm.MethodName) ({ cls := "java/lang/Object", name := "getClass", desc := "()Ljava/lang/Class;" } : Jvm.MethodName)) ∈ lw_all := lw_g (lw_at lw_m3 143 rfl) rfl
theorem q870 : (Jvm.Cond.instantiable "ExactChains$Chain" (3 : Nat)) ∈ lw_all := lw_g (lw_at lw_m4 50 rfl) rfl
theorem q881 : (Jvm.Cond.instanceMethod ({ cls := "ExactChains$Chain", name := "<init>", desc := "(III)V" } : Jvm.MethodName)) ∈ lw_all := lw_g (lw_at lw_m4 61 rfl) rfl
theorem q882 : (Jvm.Cond.code ({ cls := "ExactChains$Chain", name := "<init>", desc := "(III)V" } : Jvm.MethodName) prog_3_method_1_code (4 : Nat) (Option.none : Option Jvm.ClassFile.FieldType)) ∈ lw_all := lw_g (lw_at lw_m4 62 rfl) rfl
theorem q883 : (Jvm.Cond.methodLink "ExactChains$Chain" (1 : Nat) ({ cls := "java/lang/Record", name := "<init>", desc := "()V" } : Jvm.MethodName)) ∈ lw_all := lw_g (lw_at lw_m4 63 rfl) rfl
theorem q887 : (Jvm.Cond.fieldLink "ExactChains$Chain" (7 : Nat) "ExactChains$Chain" "first" "I") ∈ lw_all := lw_g (lw_at lw_m4 67 rfl) rfl
theorem q888 : (Jvm.Cond.fieldLink "ExactChains$Chain" (13 : Nat) "ExactChains$Chain" "many" "I") ∈ lw_all := lw_g (lw_at lw_m4 68 rfl) rfl
theorem q889 : (Jvm.Cond.fieldLink "ExactChains$Chain" (16 : Nat) "ExactChains$Chain" "cause" "I") ∈ lw_all := lw_g (lw_at lw_m4 69 rfl) rfl
theorem q890 : (Jvm.Cond.laysFinal "ExactChains$Chain" "ExactChains$Chain" "first" "I") ∈ lw_all := lw_g (lw_at lw_m4 70 rfl) rfl
theorem q891 : (Jvm.Cond.soleField "ExactChains$Chain" "first") ∈ lw_all := lw_g (lw_at lw_m4 71 rfl) rfl
theorem q892 : (Jvm.Cond.laysFinal "ExactChains$Chain" "ExactChains$Chain" "many" "I") ∈ lw_all := lw_g (lw_at lw_m4 72 rfl) rfl
theorem q893 : (Jvm.Cond.soleField "ExactChains$Chain" "many") ∈ lw_all := lw_g (lw_at lw_m4 73 rfl) rfl
theorem q894 : (Jvm.Cond.laysFinal "ExactChains$Chain" "ExactChains$Chain" "cause" "I") ∈ lw_all := lw_g (lw_at lw_m4 74 rfl) rfl
theorem q895 : (Jvm.Cond.soleField "ExactChains$Chain" "cause") ∈ lw_all := lw_g (lw_at lw_m4 75 rfl) rfl
theorem q896 : (Jvm.Cond.superclass "ExactChains$Chain" "java/lang/Record") ∈ lw_all := lw_g (lw_at lw_m4 76 rfl) rfl
theorem q950 : (Jvm.Cond.instanceMethod ({ cls := "ExactChains$Chain", name := "ended", desc := "(I)LExactChains$Chain;" } : Jvm.MethodName)) ∈ lw_all := lw_g (lw_at lw_m4 130 rfl) rfl
theorem q951 : (Jvm.Cond.selects "ExactChains$Chain" ({ cls := "ExactChains$Chain", name := "ended", desc := "(I)LExactChains$Chain;" } : Jvm.MethodName) ({ cls := "ExactChains$Chain", name := "ended", desc := "(I)LExactChains$Chain;" } : Jvm.MethodName)) ∈ lw_all := lw_g (lw_at lw_m4 131 rfl) rfl
theorem q952 : (Jvm.Cond.code ({ cls := "ExactChains$Chain", name := "ended", desc := "(I)LExactChains$Chain;" } : Jvm.MethodName) prog_3_method_3_code (2 : Nat) (Option.some (Jvm.ClassFile.FieldType.object "ExactChains$Chain"))) ∈ lw_all := lw_g (lw_at lw_m4 132 rfl) rfl
theorem q953 : (Jvm.Cond.classLink "ExactChains$Chain" (8 : Nat) "ExactChains$Chain") ∈ lw_all := lw_g (lw_at lw_m4 133 rfl) rfl
theorem q954 : (Jvm.Cond.methodLink "ExactChains$Chain" (19 : Nat) ({ cls := "ExactChains$Chain", name := "<init>", desc := "(III)V" } : Jvm.MethodName)) ∈ lw_all := lw_g (lw_at lw_m4 134 rfl) rfl
theorem q993 : (Jvm.Cond.instanceMethod ({ cls := "ExactChains$Chain", name := "longer", desc := "()LExactChains$Chain;" } : Jvm.MethodName)) ∈ lw_all := lw_g (lw_at lw_m4 173 rfl) rfl
theorem q994 : (Jvm.Cond.selects "ExactChains$Chain" ({ cls := "ExactChains$Chain", name := "longer", desc := "()LExactChains$Chain;" } : Jvm.MethodName) ({ cls := "ExactChains$Chain", name := "longer", desc := "()LExactChains$Chain;" } : Jvm.MethodName)) ∈ lw_all := lw_g (lw_at lw_m4 174 rfl) rfl
theorem q995 : (Jvm.Cond.code ({ cls := "ExactChains$Chain", name := "longer", desc := "()LExactChains$Chain;" } : Jvm.MethodName) prog_3_method_2_code (1 : Nat) (Option.some (Jvm.ClassFile.FieldType.object "ExactChains$Chain"))) ∈ lw_all := lw_g (lw_at lw_m4 175 rfl) rfl
theorem q997 : (Jvm.Cond.instanceMethod ({ cls := "ExactChains$Chain", name := "cause", desc := "()I" } : Jvm.MethodName)) ∈ lw_all := lw_g (lw_at lw_m4 177 rfl) rfl
theorem q998 : (Jvm.Cond.selects "ExactChains$Chain" ({ cls := "ExactChains$Chain", name := "cause", desc := "()I" } : Jvm.MethodName) ({ cls := "ExactChains$Chain", name := "cause", desc := "()I" } : Jvm.MethodName)) ∈ lw_all := lw_g (lw_at lw_m4 178 rfl) rfl
theorem q999 : (Jvm.Cond.code ({ cls := "ExactChains$Chain", name := "cause", desc := "()I" } : Jvm.MethodName) prog_3_method_9_code (1 : Nat) (Option.some Jvm.ClassFile.FieldType.int)) ∈ lw_all := lw_g (lw_at lw_m4 179 rfl) rfl
theorem q1048 : (Jvm.Cond.instanceMethod ({ cls := "ExactChains$Chain", name := "many", desc := "()I" } : Jvm.MethodName)) ∈ lw_all := lw_g (lw_at lw_m4 228 rfl) rfl
theorem q1049 : (Jvm.Cond.selects "ExactChains$Chain" ({ cls := "ExactChains$Chain", name := "many", desc := "()I" } : Jvm.MethodName) ({ cls := "ExactChains$Chain", name := "many", desc := "()I" } : Jvm.MethodName)) ∈ lw_all := lw_g (lw_at lw_m4 229 rfl) rfl
theorem q1050 : (Jvm.Cond.code ({ cls := "ExactChains$Chain", name := "many", desc := "()I" } : Jvm.MethodName) prog_3_method_8_code (1 : Nat) (Option.some Jvm.ClassFile.FieldType.int)) ∈ lw_all := lw_g (lw_at lw_m4 230 rfl) rfl
theorem q1778 : (Jvm.Cond.instanceMethod ({ cls := "ExactChains$Chain", name := "first", desc := "()I" } : Jvm.MethodName)) ∈ lw_all := lw_g (lw_at lw_m7 238 rfl) rfl
theorem q1779 : (Jvm.Cond.selects "ExactChains$Chain" ({ cls := "ExactChains$Chain", name := "first", desc := "()I" } : Jvm.MethodName) ({ cls := "ExactChains$Chain", name := "first", desc := "()I" } : Jvm.MethodName)) ∈ lw_all := lw_g (lw_at lw_m7 239 rfl) rfl
theorem q1780 : (Jvm.Cond.code ({ cls := "ExactChains$Chain", name := "first", desc := "()I" } : Jvm.MethodName) prog_3_method_7_code (1 : Nat) (Option.some Jvm.ClassFile.FieldType.int)) ∈ lw_all := lw_g (lw_at lw_m8 0 rfl) rfl
theorem q2534 : (Jvm.Cond.castable "ExactChains$Chain" "java/lang/Object") ∈ lw_tbl := lw_at lw_m11 34 rfl
theorem in_X8 : ∀ w ∈ wsX80, w ∈ lw_all := lw_in wsX80 [890, 892, 894] (by decide +kernel) (by decide +kernel)
/-! ExactChains$Direction -/
set_option maxRecDepth 100000
def RX9 : String := "ExactChains$Direction"
def TX9 : u_T := fun k => match k with
  | 0 => ("ExactChains$Direction", "vector", "LExactChains$Vector;", true)
  | 1 => ("ExactChains$Direction", "norm", "I", true)
  | _ => ("ExactChains$Direction", "chain", "I", true)
def tyX9 : Nat → FieldType := fun k => match k with
  | 0 => .object "ExactChains$Vector"
  | 1 => .int
  | _ => .int
abbrev wsX90 : List Cond := u_ws RX9 TX9 3
theorem nmX9 : ∀ a, a < 3 → ∀ b, b < 3 → a ≠ b → (TX9 a).2.1 ≠ (TX9 b).2.1 := by decide +kernel
theorem tyX9_ok : ∀ k, k < 3 → parseFieldDescriptor (TX9 k).2.2.1 = some (tyX9 k) := by decide +kernel
abbrev cX9_init : ByteArray := prog_4_method_1_code
def yX9_init : MethodName := ⟨RX9, "<init>", "(LExactChains$Vector;II)V"⟩
def dkwX9_init_0 : List UInt8 := [42, 183, 0, 1, 42, 43, 181, 0, 7, 42, 28, 181, 0, 13, 42, 29, 181, 0, 17, 177]
abbrev dktX9_init_0 : List UInt8 := dkwX9_init_0 ++ []
theorem dksX9_init_0 : cX9_init.data.toList.drop 0 = dktX9_init_0 := by decide +kernel
theorem dX9_init_0 : decode cX9_init 0 = .ok (.aload_n 0, 1) := dk_42 (dk_at dksX9_init_0 0 rfl rfl)
theorem dX9_init_1 : decode cX9_init 1 = .ok (.invokespecial 1, 3) := dk_183 0 1 (dk_at dksX9_init_0 1 rfl rfl)
theorem dX9_init_4 : decode cX9_init 4 = .ok (.aload_n 0, 1) := dk_42 (dk_at dksX9_init_0 4 rfl rfl)
theorem dX9_init_5 : decode cX9_init 5 = .ok (.aload_n 1, 1) := dk_43 (dk_at dksX9_init_0 5 rfl rfl)
theorem dX9_init_6 : decode cX9_init 6 = .ok (.putfield 7, 3) := dk_181 0 7 (dk_at dksX9_init_0 6 rfl rfl)
theorem dX9_init_9 : decode cX9_init 9 = .ok (.aload_n 0, 1) := dk_42 (dk_at dksX9_init_0 9 rfl rfl)
theorem dX9_init_10 : decode cX9_init 10 = .ok (.iload_n 2, 1) := dk_28 (dk_at dksX9_init_0 10 rfl rfl)
theorem dX9_init_11 : decode cX9_init 11 = .ok (.putfield 13, 3) := dk_181 0 13 (dk_at dksX9_init_0 11 rfl rfl)
theorem dX9_init_14 : decode cX9_init 14 = .ok (.aload_n 0, 1) := dk_42 (dk_at dksX9_init_0 14 rfl rfl)
theorem dX9_init_15 : decode cX9_init 15 = .ok (.iload_n 3, 1) := dk_29 (dk_at dksX9_init_0 15 rfl rfl)
theorem dX9_init_16 : decode cX9_init 16 = .ok (.putfield 17, 3) := dk_181 0 17 (dk_at dksX9_init_0 16 rfl rfl)
theorem dX9_init_19 : decode cX9_init 19 = .ok (.return_, 1) := dk_177 (dk_at dksX9_init_0 19 rfl rfl)
abbrev cX9_vector : ByteArray := prog_4_method_5_code
def yX9_vector : MethodName := ⟨RX9, "vector", "()LExactChains$Vector;"⟩
theorem dX9_vector_0 : decode cX9_vector 0 = .ok (.aload_n 0, 1) := by decide +kernel
theorem dX9_vector_1 : decode cX9_vector 1 = .ok (.getfield 7, 3) := by decide +kernel
theorem dX9_vector_4 : decode cX9_vector 4 = .ok (.areturn, 1) := by decide +kernel
abbrev cX9_norm : ByteArray := prog_4_method_6_code
def yX9_norm : MethodName := ⟨RX9, "norm", "()I"⟩
theorem dX9_norm_0 : decode cX9_norm 0 = .ok (.aload_n 0, 1) := by decide +kernel
theorem dX9_norm_1 : decode cX9_norm 1 = .ok (.getfield 13, 3) := by decide +kernel
theorem dX9_norm_4 : decode cX9_norm 4 = .ok (.ireturn, 1) := by decide +kernel
abbrev cX9_chain : ByteArray := prog_4_method_7_code
def yX9_chain : MethodName := ⟨RX9, "chain", "()I"⟩
theorem dX9_chain_0 : decode cX9_chain 0 = .ok (.aload_n 0, 1) := by decide +kernel
theorem dX9_chain_1 : decode cX9_chain 1 = .ok (.getfield 17, 3) := by decide +kernel
theorem dX9_chain_4 : decode cX9_chain 4 = .ok (.ireturn, 1) := by decide +kernel
theorem q140 : (Jvm.Cond.initialized "ExactChains$Direction") ∈ lw_all := lw_g (lw_at lw_m1 40 rfl) rfl
theorem q724 : (Jvm.Cond.selects "ExactChains$Direction" ({ cls := "java/lang/Object", name := "getClass", desc := "()Ljava/lang/Class;" } : Jvm.MethodName) ({ cls := "java/lang/Object", name := "getClass", desc := "()Ljava/lang/Class;" } : Jvm.MethodName)) ∈ lw_all := lw_g (lw_at lw_m3 144 rfl) rfl
theorem q977 : (Jvm.Cond.instantiable "ExactChains$Direction" (3 : Nat)) ∈ lw_all := lw_g (lw_at lw_m4 157 rfl) rfl
theorem q979 : (Jvm.Cond.instanceMethod ({ cls := "ExactChains$Direction", name := "<init>", desc := "(LExactChains$Vector;II)V" } : Jvm.MethodName)) ∈ lw_all := lw_g (lw_at lw_m4 159 rfl) rfl
theorem q980 : (Jvm.Cond.code ({ cls := "ExactChains$Direction", name := "<init>", desc := "(LExactChains$Vector;II)V" } : Jvm.MethodName) prog_4_method_1_code (4 : Nat) (Option.none : Option Jvm.ClassFile.FieldType)) ∈ lw_all := lw_g (lw_at lw_m4 160 rfl) rfl
theorem q981 : (Jvm.Cond.methodLink "ExactChains$Direction" (1 : Nat) ({ cls := "java/lang/Record", name := "<init>", desc := "()V" } : Jvm.MethodName)) ∈ lw_all := lw_g (lw_at lw_m4 161 rfl) rfl
theorem q982 : (Jvm.Cond.fieldLink "ExactChains$Direction" (7 : Nat) "ExactChains$Direction" "vector" "LExactChains$Vector;") ∈ lw_all := lw_g (lw_at lw_m4 162 rfl) rfl
theorem q983 : (Jvm.Cond.fieldLink "ExactChains$Direction" (13 : Nat) "ExactChains$Direction" "norm" "I") ∈ lw_all := lw_g (lw_at lw_m4 163 rfl) rfl
theorem q984 : (Jvm.Cond.fieldLink "ExactChains$Direction" (17 : Nat) "ExactChains$Direction" "chain" "I") ∈ lw_all := lw_g (lw_at lw_m4 164 rfl) rfl
theorem q985 : (Jvm.Cond.laysFinal "ExactChains$Direction" "ExactChains$Direction" "vector" "LExactChains$Vector;") ∈ lw_all := lw_g (lw_at lw_m4 165 rfl) rfl
theorem q986 : (Jvm.Cond.soleField "ExactChains$Direction" "vector") ∈ lw_all := lw_g (lw_at lw_m4 166 rfl) rfl
theorem q987 : (Jvm.Cond.laysFinal "ExactChains$Direction" "ExactChains$Direction" "norm" "I") ∈ lw_all := lw_g (lw_at lw_m4 167 rfl) rfl
theorem q988 : (Jvm.Cond.soleField "ExactChains$Direction" "norm") ∈ lw_all := lw_g (lw_at lw_m4 168 rfl) rfl
theorem q989 : (Jvm.Cond.laysFinal "ExactChains$Direction" "ExactChains$Direction" "chain" "I") ∈ lw_all := lw_g (lw_at lw_m4 169 rfl) rfl
theorem q990 : (Jvm.Cond.soleField "ExactChains$Direction" "chain") ∈ lw_all := lw_g (lw_at lw_m4 170 rfl) rfl
theorem q991 : (Jvm.Cond.superclass "ExactChains$Direction" "java/lang/Record") ∈ lw_all := lw_g (lw_at lw_m4 171 rfl) rfl
theorem q1018 : (Jvm.Cond.instanceMethod ({ cls := "ExactChains$Direction", name := "vector", desc := "()LExactChains$Vector;" } : Jvm.MethodName)) ∈ lw_all := lw_g (lw_at lw_m4 198 rfl) rfl
theorem q1019 : (Jvm.Cond.selects "ExactChains$Direction" ({ cls := "ExactChains$Direction", name := "vector", desc := "()LExactChains$Vector;" } : Jvm.MethodName) ({ cls := "ExactChains$Direction", name := "vector", desc := "()LExactChains$Vector;" } : Jvm.MethodName)) ∈ lw_all := lw_g (lw_at lw_m4 199 rfl) rfl
theorem q1020 : (Jvm.Cond.code ({ cls := "ExactChains$Direction", name := "vector", desc := "()LExactChains$Vector;" } : Jvm.MethodName) prog_4_method_5_code (1 : Nat) (Option.some (Jvm.ClassFile.FieldType.object "ExactChains$Vector"))) ∈ lw_all := lw_g (lw_at lw_m4 200 rfl) rfl
theorem q1026 : (Jvm.Cond.instanceMethod ({ cls := "ExactChains$Direction", name := "norm", desc := "()I" } : Jvm.MethodName)) ∈ lw_all := lw_g (lw_at lw_m4 206 rfl) rfl
theorem q1027 : (Jvm.Cond.selects "ExactChains$Direction" ({ cls := "ExactChains$Direction", name := "norm", desc := "()I" } : Jvm.MethodName) ({ cls := "ExactChains$Direction", name := "norm", desc := "()I" } : Jvm.MethodName)) ∈ lw_all := lw_g (lw_at lw_m4 207 rfl) rfl
theorem q1028 : (Jvm.Cond.code ({ cls := "ExactChains$Direction", name := "norm", desc := "()I" } : Jvm.MethodName) prog_4_method_6_code (1 : Nat) (Option.some Jvm.ClassFile.FieldType.int)) ∈ lw_all := lw_g (lw_at lw_m4 208 rfl) rfl
theorem q1849 : (Jvm.Cond.instanceMethod ({ cls := "ExactChains$Direction", name := "chain", desc := "()I" } : Jvm.MethodName)) ∈ lw_all := lw_g (lw_at lw_m8 69 rfl) rfl
theorem q1850 : (Jvm.Cond.selects "ExactChains$Direction" ({ cls := "ExactChains$Direction", name := "chain", desc := "()I" } : Jvm.MethodName) ({ cls := "ExactChains$Direction", name := "chain", desc := "()I" } : Jvm.MethodName)) ∈ lw_all := lw_g (lw_at lw_m8 70 rfl) rfl
theorem q1851 : (Jvm.Cond.code ({ cls := "ExactChains$Direction", name := "chain", desc := "()I" } : Jvm.MethodName) prog_4_method_7_code (1 : Nat) (Option.some Jvm.ClassFile.FieldType.int)) ∈ lw_all := lw_g (lw_at lw_m8 71 rfl) rfl
theorem q2535 : (Jvm.Cond.castable "ExactChains$Direction" "java/lang/Object") ∈ lw_tbl := lw_at lw_m11 35 rfl
theorem in_X9 : ∀ w ∈ wsX90, w ∈ lw_all := lw_in wsX90 [985, 987, 989] (by decide +kernel) (by decide +kernel)
