/-! ExactChainsModel -/
set_option maxRecDepth 100000
def RX5 : String := "ExactChainsModel"
def TX5 : u_T := fun k => match k with
  | 0 => ("ExactChainsModel", "a", "[I", true)
  | 1 => ("ExactChainsModel", "fresh", "[I", true)
  | 2 => ("ExactChainsModel", "kept", "[I", true)
  | 3 => ("ExactChainsModel", "slots", "[I", true)
  | 4 => ("ExactChainsModel", "isSaved", "[Z", true)
  | 5 => ("ExactChainsModel", "keptMany", "I", false)
  | 6 => ("ExactChainsModel", "thrown", "I", false)
  | 7 => ("ExactChainsModel", "buffer", "[I", true)
  | 8 => ("ExactChainsModel", "buffered", "I", false)
  | 9 => ("ExactChainsModel", "size", "I", false)
  | 10 => ("ExactChainsModel", "at", "I", false)
  | 11 => ("ExactChainsModel", "behind", "I", false)
  | 12 => ("ExactChainsModel", "kind", "I", false)
  | 13 => ("ExactChainsModel", "number", "I", false)
  | 14 => ("ExactChainsModel", "wrong", "I", false)
  | 15 => ("ExactChainsModel", "wrongAt", "I", false)
  | 16 => ("ExactChainsModel", "errorAt", "I", false)
  | 17 => ("ExactChainsModel", "x", "[I", true)
  | 18 => ("ExactChainsModel", "y", "[I", true)
  | 19 => ("ExactChainsModel", "candidate", "[I", true)
  | 20 => ("ExactChainsModel", "wasted", "I", false)
  | 21 => ("ExactChainsModel", "older", "[I", true)
  | 22 => ("ExactChainsModel", "old", "[I", true)
  | 23 => ("ExactChainsModel", "young", "[I", true)
  | 24 => ("ExactChainsModel", "work", "[I", true)
  | 25 => ("ExactChainsModel", "determinantFound", "I", false)
  | 26 => ("ExactChainsModel", "written", "[I", true)
  | _ => ("ExactChainsModel", "writtenMany", "I", false)
def tyX5 : Nat → FieldType := fun k => match k with
  | 0 => .array .int
  | 1 => .array .int
  | 2 => .array .int
  | 3 => .array .int
  | 4 => .array .boolean
  | 5 => .int
  | 6 => .int
  | 7 => .array .int
  | 8 => .int
  | 9 => .int
  | 10 => .int
  | 11 => .int
  | 12 => .int
  | 13 => .int
  | 14 => .int
  | 15 => .int
  | 16 => .int
  | 17 => .array .int
  | 18 => .array .int
  | 19 => .array .int
  | 20 => .int
  | 21 => .array .int
  | 22 => .array .int
  | 23 => .array .int
  | 24 => .array .int
  | 25 => .int
  | 26 => .array .int
  | _ => .int
abbrev wsX50 : List Cond := u_ws RX5 TX5 28
set_option maxRecDepth 100000 in
theorem nmX5 : ∀ a, a < 28 → ∀ b, b < 28 → a ≠ b → (TX5 a).2.1 ≠ (TX5 b).2.1 := by decide +kernel
set_option maxRecDepth 100000 in
theorem tyX5_ok : ∀ k, k < 28 → parseFieldDescriptor (TX5 k).2.2.1 = some (tyX5 k) := by decide +kernel
abbrev cX5_init : ByteArray := prog_12_method_1_code
def yX5_init : MethodName := ⟨RX5, "<init>", "()V"⟩
def dkwX5_init_5 : List UInt8 := [16, 40, 188, 10, 181, 0, 54, 42, 6, 4, 182, 0, 57, 42, 42, 180, 0, 13, 3, 182, 0, 61, 177]
abbrev dktX5_init_5 : List UInt8 := dkwX5_init_5 ++ []
def dkwX5_init_4 : List UInt8 := [16, 9, 188, 10, 181, 0, 45, 42, 16, 9, 188, 10, 181, 0, 48, 42, 16, 72, 188, 10, 181, 0, 51, 42]
abbrev dktX5_init_4 : List UInt8 := dkwX5_init_4 ++ dktX5_init_5
def dkwX5_init_3 : List UInt8 := [16, 8, 188, 10, 181, 0, 36, 42, 16, 8, 188, 10, 181, 0, 39, 42, 16, 9, 188, 10, 181, 0, 42, 42]
abbrev dktX5_init_3 : List UInt8 := dkwX5_init_3 ++ dktX5_init_4
def dkwX5_init_2 : List UInt8 := [42, 17, 3, 32, 188, 10, 181, 0, 26, 42, 2, 181, 0, 29, 42, 16, 8, 188, 10, 181, 0, 33, 42]
abbrev dktX5_init_2 : List UInt8 := dkwX5_init_2 ++ dktX5_init_3
def dkwX5_init_1 : List UInt8 := [17, 5, 16, 188, 10, 181, 0, 16, 42, 17, 1, 68, 188, 10, 181, 0, 19, 42, 5, 188, 4, 181, 0, 22]
abbrev dktX5_init_1 : List UInt8 := dkwX5_init_1 ++ dktX5_init_2
def dkwX5_init_0 : List UInt8 := [42, 183, 0, 1, 42, 17, 0, 162, 188, 10, 181, 0, 7, 42, 17, 0, 162, 188, 10, 181, 0, 13, 42]
abbrev dktX5_init_0 : List UInt8 := dkwX5_init_0 ++ dktX5_init_1
theorem dksX5_init_0 : cX5_init.data.toList.drop 0 = dktX5_init_0 := by decide +kernel
theorem dksX5_init_1 : cX5_init.data.toList.drop 23 = dktX5_init_1 := dk_seg dksX5_init_0 23 rfl rfl
theorem dksX5_init_2 : cX5_init.data.toList.drop 47 = dktX5_init_2 := dk_seg dksX5_init_1 24 rfl rfl
theorem dksX5_init_3 : cX5_init.data.toList.drop 70 = dktX5_init_3 := dk_seg dksX5_init_2 23 rfl rfl
theorem dksX5_init_4 : cX5_init.data.toList.drop 94 = dktX5_init_4 := dk_seg dksX5_init_3 24 rfl rfl
theorem dksX5_init_5 : cX5_init.data.toList.drop 118 = dktX5_init_5 := dk_seg dksX5_init_4 24 rfl rfl
theorem dX5_init_0 : decode cX5_init 0 = .ok (.aload_n 0, 1) := dk_42 (dk_at dksX5_init_0 0 rfl rfl)
theorem dX5_init_1 : decode cX5_init 1 = .ok (.invokespecial 1, 3) := dk_183 0 1 (dk_at dksX5_init_0 1 rfl rfl)
theorem dX5_init_4 : decode cX5_init 4 = .ok (.aload_n 0, 1) := dk_42 (dk_at dksX5_init_0 4 rfl rfl)
theorem dX5_init_5 : decode cX5_init 5 = .ok (.sipush 162, 3) := dk_17 0 162 (dk_at dksX5_init_0 5 rfl rfl)
theorem dX5_init_8 : decode cX5_init 8 = .ok (.newarray .int, 2) := dk_188_10 (dk_at dksX5_init_0 8 rfl rfl)
theorem dX5_init_10 : decode cX5_init 10 = .ok (.putfield 7, 3) := dk_181 0 7 (dk_at dksX5_init_0 10 rfl rfl)
theorem dX5_init_13 : decode cX5_init 13 = .ok (.aload_n 0, 1) := dk_42 (dk_at dksX5_init_0 13 rfl rfl)
theorem dX5_init_14 : decode cX5_init 14 = .ok (.sipush 162, 3) := dk_17 0 162 (dk_at dksX5_init_0 14 rfl rfl)
theorem dX5_init_17 : decode cX5_init 17 = .ok (.newarray .int, 2) := dk_188_10 (dk_at dksX5_init_0 17 rfl rfl)
theorem dX5_init_19 : decode cX5_init 19 = .ok (.putfield 13, 3) := dk_181 0 13 (dk_at dksX5_init_0 19 rfl rfl)
theorem dX5_init_22 : decode cX5_init 22 = .ok (.aload_n 0, 1) := dk_42 (dk_at dksX5_init_0 22 rfl rfl)
theorem dX5_init_23 : decode cX5_init 23 = .ok (.sipush 1296, 3) := dk_17 5 16 (dk_at dksX5_init_1 0 rfl rfl)
theorem dX5_init_26 : decode cX5_init 26 = .ok (.newarray .int, 2) := dk_188_10 (dk_at dksX5_init_1 3 rfl rfl)
theorem dX5_init_28 : decode cX5_init 28 = .ok (.putfield 16, 3) := dk_181 0 16 (dk_at dksX5_init_1 5 rfl rfl)
theorem dX5_init_31 : decode cX5_init 31 = .ok (.aload_n 0, 1) := dk_42 (dk_at dksX5_init_1 8 rfl rfl)
theorem dX5_init_32 : decode cX5_init 32 = .ok (.sipush 324, 3) := dk_17 1 68 (dk_at dksX5_init_1 9 rfl rfl)
theorem dX5_init_35 : decode cX5_init 35 = .ok (.newarray .int, 2) := dk_188_10 (dk_at dksX5_init_1 12 rfl rfl)
theorem dX5_init_37 : decode cX5_init 37 = .ok (.putfield 19, 3) := dk_181 0 19 (dk_at dksX5_init_1 14 rfl rfl)
theorem dX5_init_40 : decode cX5_init 40 = .ok (.aload_n 0, 1) := dk_42 (dk_at dksX5_init_1 17 rfl rfl)
theorem dX5_init_41 : decode cX5_init 41 = .ok (.iconst 2, 1) := dk_5 (dk_at dksX5_init_1 18 rfl rfl)
theorem dX5_init_42 : decode cX5_init 42 = .ok (.newarray .boolean, 2) := dk_188_4 (dk_at dksX5_init_1 19 rfl rfl)
theorem dX5_init_44 : decode cX5_init 44 = .ok (.putfield 22, 3) := dk_181 0 22 (dk_at dksX5_init_1 21 rfl rfl)
theorem dX5_init_47 : decode cX5_init 47 = .ok (.aload_n 0, 1) := dk_42 (dk_at dksX5_init_2 0 rfl rfl)
theorem dX5_init_48 : decode cX5_init 48 = .ok (.sipush 800, 3) := dk_17 3 32 (dk_at dksX5_init_2 1 rfl rfl)
theorem dX5_init_51 : decode cX5_init 51 = .ok (.newarray .int, 2) := dk_188_10 (dk_at dksX5_init_2 4 rfl rfl)
theorem dX5_init_53 : decode cX5_init 53 = .ok (.putfield 26, 3) := dk_181 0 26 (dk_at dksX5_init_2 6 rfl rfl)
theorem dX5_init_56 : decode cX5_init 56 = .ok (.aload_n 0, 1) := dk_42 (dk_at dksX5_init_2 9 rfl rfl)
theorem dX5_init_57 : decode cX5_init 57 = .ok (.iconst (-1), 1) := dk_2 (dk_at dksX5_init_2 10 rfl rfl)
theorem dX5_init_58 : decode cX5_init 58 = .ok (.putfield 29, 3) := dk_181 0 29 (dk_at dksX5_init_2 11 rfl rfl)
theorem dX5_init_61 : decode cX5_init 61 = .ok (.aload_n 0, 1) := dk_42 (dk_at dksX5_init_2 14 rfl rfl)
theorem dX5_init_62 : decode cX5_init 62 = .ok (.bipush 8, 2) := dk_16 8 (dk_at dksX5_init_2 15 rfl rfl)
theorem dX5_init_64 : decode cX5_init 64 = .ok (.newarray .int, 2) := dk_188_10 (dk_at dksX5_init_2 17 rfl rfl)
theorem dX5_init_66 : decode cX5_init 66 = .ok (.putfield 33, 3) := dk_181 0 33 (dk_at dksX5_init_2 19 rfl rfl)
theorem dX5_init_69 : decode cX5_init 69 = .ok (.aload_n 0, 1) := dk_42 (dk_at dksX5_init_2 22 rfl rfl)
theorem dX5_init_70 : decode cX5_init 70 = .ok (.bipush 8, 2) := dk_16 8 (dk_at dksX5_init_3 0 rfl rfl)
theorem dX5_init_72 : decode cX5_init 72 = .ok (.newarray .int, 2) := dk_188_10 (dk_at dksX5_init_3 2 rfl rfl)
theorem dX5_init_74 : decode cX5_init 74 = .ok (.putfield 36, 3) := dk_181 0 36 (dk_at dksX5_init_3 4 rfl rfl)
theorem dX5_init_77 : decode cX5_init 77 = .ok (.aload_n 0, 1) := dk_42 (dk_at dksX5_init_3 7 rfl rfl)
theorem dX5_init_78 : decode cX5_init 78 = .ok (.bipush 8, 2) := dk_16 8 (dk_at dksX5_init_3 8 rfl rfl)
theorem dX5_init_80 : decode cX5_init 80 = .ok (.newarray .int, 2) := dk_188_10 (dk_at dksX5_init_3 10 rfl rfl)
theorem dX5_init_82 : decode cX5_init 82 = .ok (.putfield 39, 3) := dk_181 0 39 (dk_at dksX5_init_3 12 rfl rfl)
theorem dX5_init_85 : decode cX5_init 85 = .ok (.aload_n 0, 1) := dk_42 (dk_at dksX5_init_3 15 rfl rfl)
theorem dX5_init_86 : decode cX5_init 86 = .ok (.bipush 9, 2) := dk_16 9 (dk_at dksX5_init_3 16 rfl rfl)
theorem dX5_init_88 : decode cX5_init 88 = .ok (.newarray .int, 2) := dk_188_10 (dk_at dksX5_init_3 18 rfl rfl)
theorem dX5_init_90 : decode cX5_init 90 = .ok (.putfield 42, 3) := dk_181 0 42 (dk_at dksX5_init_3 20 rfl rfl)
theorem dX5_init_93 : decode cX5_init 93 = .ok (.aload_n 0, 1) := dk_42 (dk_at dksX5_init_3 23 rfl rfl)
theorem dX5_init_94 : decode cX5_init 94 = .ok (.bipush 9, 2) := dk_16 9 (dk_at dksX5_init_4 0 rfl rfl)
theorem dX5_init_96 : decode cX5_init 96 = .ok (.newarray .int, 2) := dk_188_10 (dk_at dksX5_init_4 2 rfl rfl)
theorem dX5_init_98 : decode cX5_init 98 = .ok (.putfield 45, 3) := dk_181 0 45 (dk_at dksX5_init_4 4 rfl rfl)
theorem dX5_init_101 : decode cX5_init 101 = .ok (.aload_n 0, 1) := dk_42 (dk_at dksX5_init_4 7 rfl rfl)
theorem dX5_init_102 : decode cX5_init 102 = .ok (.bipush 9, 2) := dk_16 9 (dk_at dksX5_init_4 8 rfl rfl)
theorem dX5_init_104 : decode cX5_init 104 = .ok (.newarray .int, 2) := dk_188_10 (dk_at dksX5_init_4 10 rfl rfl)
theorem dX5_init_106 : decode cX5_init 106 = .ok (.putfield 48, 3) := dk_181 0 48 (dk_at dksX5_init_4 12 rfl rfl)
theorem dX5_init_109 : decode cX5_init 109 = .ok (.aload_n 0, 1) := dk_42 (dk_at dksX5_init_4 15 rfl rfl)
theorem dX5_init_110 : decode cX5_init 110 = .ok (.bipush 72, 2) := dk_16 72 (dk_at dksX5_init_4 16 rfl rfl)
theorem dX5_init_112 : decode cX5_init 112 = .ok (.newarray .int, 2) := dk_188_10 (dk_at dksX5_init_4 18 rfl rfl)
theorem dX5_init_114 : decode cX5_init 114 = .ok (.putfield 51, 3) := dk_181 0 51 (dk_at dksX5_init_4 20 rfl rfl)
theorem dX5_init_117 : decode cX5_init 117 = .ok (.aload_n 0, 1) := dk_42 (dk_at dksX5_init_4 23 rfl rfl)
theorem dX5_init_118 : decode cX5_init 118 = .ok (.bipush 40, 2) := dk_16 40 (dk_at dksX5_init_5 0 rfl rfl)
theorem dX5_init_120 : decode cX5_init 120 = .ok (.newarray .int, 2) := dk_188_10 (dk_at dksX5_init_5 2 rfl rfl)
theorem dX5_init_122 : decode cX5_init 122 = .ok (.putfield 54, 3) := dk_181 0 54 (dk_at dksX5_init_5 4 rfl rfl)
theorem dX5_init_125 : decode cX5_init 125 = .ok (.aload_n 0, 1) := dk_42 (dk_at dksX5_init_5 7 rfl rfl)
theorem dX5_init_126 : decode cX5_init 126 = .ok (.iconst 3, 1) := dk_6 (dk_at dksX5_init_5 8 rfl rfl)
theorem dX5_init_127 : decode cX5_init 127 = .ok (.iconst 1, 1) := dk_4 (dk_at dksX5_init_5 9 rfl rfl)
theorem dX5_init_128 : decode cX5_init 128 = .ok (.invokevirtual 57, 3) := dk_182 0 57 (dk_at dksX5_init_5 10 rfl rfl)
theorem dX5_init_131 : decode cX5_init 131 = .ok (.aload_n 0, 1) := dk_42 (dk_at dksX5_init_5 13 rfl rfl)
theorem dX5_init_132 : decode cX5_init 132 = .ok (.aload_n 0, 1) := dk_42 (dk_at dksX5_init_5 14 rfl rfl)
theorem dX5_init_133 : decode cX5_init 133 = .ok (.getfield 13, 3) := dk_180 0 13 (dk_at dksX5_init_5 15 rfl rfl)
theorem dX5_init_136 : decode cX5_init 136 = .ok (.iconst 0, 1) := dk_3 (dk_at dksX5_init_5 18 rfl rfl)
theorem dX5_init_137 : decode cX5_init 137 = .ok (.invokevirtual 61, 3) := dk_182 0 61 (dk_at dksX5_init_5 19 rfl rfl)
theorem dX5_init_140 : decode cX5_init 140 = .ok (.return_, 1) := dk_177 (dk_at dksX5_init_5 22 rfl rfl)
abbrev cX5_begins : ByteArray := prog_12_method_2_code
def yX5_begins : MethodName := ⟨RX5, "begins", "(II)V"⟩
def dkwX5_begins_2 : List UInt8 := [180, 0, 13, 6, 16, 8, 79, 177]
abbrev dktX5_begins_2 : List UInt8 := dkwX5_begins_2 ++ []
def dkwX5_begins_1 : List UInt8 := [180, 0, 13, 3, 27, 79, 42, 180, 0, 13, 4, 28, 79, 42, 180, 0, 13, 5, 16, 8, 79, 42]
abbrev dktX5_begins_1 : List UInt8 := dkwX5_begins_1 ++ dktX5_begins_2
def dkwX5_begins_0 : List UInt8 := [3, 62, 29, 17, 0, 162, 162, 0, 16, 42, 180, 0, 13, 29, 3, 79, 132, 3, 1, 167, 255, 239, 42]
abbrev dktX5_begins_0 : List UInt8 := dkwX5_begins_0 ++ dktX5_begins_1
theorem dksX5_begins_0 : cX5_begins.data.toList.drop 0 = dktX5_begins_0 := by decide +kernel
theorem dksX5_begins_1 : cX5_begins.data.toList.drop 23 = dktX5_begins_1 := dk_seg dksX5_begins_0 23 rfl rfl
theorem dksX5_begins_2 : cX5_begins.data.toList.drop 45 = dktX5_begins_2 := dk_seg dksX5_begins_1 22 rfl rfl
theorem dX5_begins_0 : decode cX5_begins 0 = .ok (.iconst 0, 1) := dk_3 (dk_at dksX5_begins_0 0 rfl rfl)
theorem dX5_begins_1 : decode cX5_begins 1 = .ok (.istore_n 3, 1) := dk_62 (dk_at dksX5_begins_0 1 rfl rfl)
theorem dX5_begins_2 : decode cX5_begins 2 = .ok (.iload_n 3, 1) := dk_29 (dk_at dksX5_begins_0 2 rfl rfl)
theorem dX5_begins_3 : decode cX5_begins 3 = .ok (.sipush 162, 3) := dk_17 0 162 (dk_at dksX5_begins_0 3 rfl rfl)
theorem dX5_begins_6 : decode cX5_begins 6 = .ok (.if_icmp .ge 16, 3) := dk_162 0 16 (dk_at dksX5_begins_0 6 rfl rfl)
theorem dX5_begins_9 : decode cX5_begins 9 = .ok (.aload_n 0, 1) := dk_42 (dk_at dksX5_begins_0 9 rfl rfl)
theorem dX5_begins_10 : decode cX5_begins 10 = .ok (.getfield 13, 3) := dk_180 0 13 (dk_at dksX5_begins_0 10 rfl rfl)
theorem dX5_begins_13 : decode cX5_begins 13 = .ok (.iload_n 3, 1) := dk_29 (dk_at dksX5_begins_0 13 rfl rfl)
theorem dX5_begins_14 : decode cX5_begins 14 = .ok (.iconst 0, 1) := dk_3 (dk_at dksX5_begins_0 14 rfl rfl)
theorem dX5_begins_15 : decode cX5_begins 15 = .ok (.iastore, 1) := dk_79 (dk_at dksX5_begins_0 15 rfl rfl)
theorem dX5_begins_16 : decode cX5_begins 16 = .ok (.iinc 3 1, 3) := dk_132 3 1 (dk_at dksX5_begins_0 16 rfl rfl)
theorem dX5_begins_19 : decode cX5_begins 19 = .ok (.goto (-17), 3) := dk_167 255 239 (dk_at dksX5_begins_0 19 rfl rfl)
theorem dX5_begins_22 : decode cX5_begins 22 = .ok (.aload_n 0, 1) := dk_42 (dk_at dksX5_begins_0 22 rfl rfl)
theorem dX5_begins_23 : decode cX5_begins 23 = .ok (.getfield 13, 3) := dk_180 0 13 (dk_at dksX5_begins_1 0 rfl rfl)
theorem dX5_begins_26 : decode cX5_begins 26 = .ok (.iconst 0, 1) := dk_3 (dk_at dksX5_begins_1 3 rfl rfl)
theorem dX5_begins_27 : decode cX5_begins 27 = .ok (.iload_n 1, 1) := dk_27 (dk_at dksX5_begins_1 4 rfl rfl)
theorem dX5_begins_28 : decode cX5_begins 28 = .ok (.iastore, 1) := dk_79 (dk_at dksX5_begins_1 5 rfl rfl)
theorem dX5_begins_29 : decode cX5_begins 29 = .ok (.aload_n 0, 1) := dk_42 (dk_at dksX5_begins_1 6 rfl rfl)
theorem dX5_begins_30 : decode cX5_begins 30 = .ok (.getfield 13, 3) := dk_180 0 13 (dk_at dksX5_begins_1 7 rfl rfl)
theorem dX5_begins_33 : decode cX5_begins 33 = .ok (.iconst 1, 1) := dk_4 (dk_at dksX5_begins_1 10 rfl rfl)
theorem dX5_begins_34 : decode cX5_begins 34 = .ok (.iload_n 2, 1) := dk_28 (dk_at dksX5_begins_1 11 rfl rfl)
theorem dX5_begins_35 : decode cX5_begins 35 = .ok (.iastore, 1) := dk_79 (dk_at dksX5_begins_1 12 rfl rfl)
theorem dX5_begins_36 : decode cX5_begins 36 = .ok (.aload_n 0, 1) := dk_42 (dk_at dksX5_begins_1 13 rfl rfl)
theorem dX5_begins_37 : decode cX5_begins 37 = .ok (.getfield 13, 3) := dk_180 0 13 (dk_at dksX5_begins_1 14 rfl rfl)
theorem dX5_begins_40 : decode cX5_begins 40 = .ok (.iconst 2, 1) := dk_5 (dk_at dksX5_begins_1 17 rfl rfl)
theorem dX5_begins_41 : decode cX5_begins 41 = .ok (.bipush 8, 2) := dk_16 8 (dk_at dksX5_begins_1 18 rfl rfl)
theorem dX5_begins_43 : decode cX5_begins 43 = .ok (.iastore, 1) := dk_79 (dk_at dksX5_begins_1 20 rfl rfl)
theorem dX5_begins_44 : decode cX5_begins 44 = .ok (.aload_n 0, 1) := dk_42 (dk_at dksX5_begins_1 21 rfl rfl)
theorem dX5_begins_45 : decode cX5_begins 45 = .ok (.getfield 13, 3) := dk_180 0 13 (dk_at dksX5_begins_2 0 rfl rfl)
theorem dX5_begins_48 : decode cX5_begins 48 = .ok (.iconst 3, 1) := dk_6 (dk_at dksX5_begins_2 3 rfl rfl)
theorem dX5_begins_49 : decode cX5_begins 49 = .ok (.bipush 8, 2) := dk_16 8 (dk_at dksX5_begins_2 4 rfl rfl)
theorem dX5_begins_51 : decode cX5_begins 51 = .ok (.iastore, 1) := dk_79 (dk_at dksX5_begins_2 6 rfl rfl)
theorem dX5_begins_52 : decode cX5_begins 52 = .ok (.return_, 1) := dk_177 (dk_at dksX5_begins_2 7 rfl rfl)
abbrev cX5_becomes : ByteArray := prog_12_method_3_code
def yX5_becomes : MethodName := ⟨RX5, "becomes", "([II)V"⟩
def dkwX5_becomes_1 : List UInt8 := [167, 255, 235, 177]
abbrev dktX5_becomes_1 : List UInt8 := dkwX5_becomes_1 ++ []
def dkwX5_becomes_0 : List UInt8 := [3, 62, 29, 17, 0, 162, 162, 0, 20, 42, 180, 0, 7, 29, 43, 28, 29, 96, 46, 79, 132, 3, 1]
abbrev dktX5_becomes_0 : List UInt8 := dkwX5_becomes_0 ++ dktX5_becomes_1
theorem dksX5_becomes_0 : cX5_becomes.data.toList.drop 0 = dktX5_becomes_0 := by decide +kernel
theorem dksX5_becomes_1 : cX5_becomes.data.toList.drop 23 = dktX5_becomes_1 := dk_seg dksX5_becomes_0 23 rfl rfl
theorem dX5_becomes_0 : decode cX5_becomes 0 = .ok (.iconst 0, 1) := dk_3 (dk_at dksX5_becomes_0 0 rfl rfl)
theorem dX5_becomes_1 : decode cX5_becomes 1 = .ok (.istore_n 3, 1) := dk_62 (dk_at dksX5_becomes_0 1 rfl rfl)
theorem dX5_becomes_2 : decode cX5_becomes 2 = .ok (.iload_n 3, 1) := dk_29 (dk_at dksX5_becomes_0 2 rfl rfl)
theorem dX5_becomes_3 : decode cX5_becomes 3 = .ok (.sipush 162, 3) := dk_17 0 162 (dk_at dksX5_becomes_0 3 rfl rfl)
theorem dX5_becomes_6 : decode cX5_becomes 6 = .ok (.if_icmp .ge 20, 3) := dk_162 0 20 (dk_at dksX5_becomes_0 6 rfl rfl)
theorem dX5_becomes_9 : decode cX5_becomes 9 = .ok (.aload_n 0, 1) := dk_42 (dk_at dksX5_becomes_0 9 rfl rfl)
theorem dX5_becomes_10 : decode cX5_becomes 10 = .ok (.getfield 7, 3) := dk_180 0 7 (dk_at dksX5_becomes_0 10 rfl rfl)
theorem dX5_becomes_13 : decode cX5_becomes 13 = .ok (.iload_n 3, 1) := dk_29 (dk_at dksX5_becomes_0 13 rfl rfl)
theorem dX5_becomes_14 : decode cX5_becomes 14 = .ok (.aload_n 1, 1) := dk_43 (dk_at dksX5_becomes_0 14 rfl rfl)
theorem dX5_becomes_15 : decode cX5_becomes 15 = .ok (.iload_n 2, 1) := dk_28 (dk_at dksX5_becomes_0 15 rfl rfl)
theorem dX5_becomes_16 : decode cX5_becomes 16 = .ok (.iload_n 3, 1) := dk_29 (dk_at dksX5_becomes_0 16 rfl rfl)
theorem dX5_becomes_17 : decode cX5_becomes 17 = .ok (.iadd, 1) := dk_96 (dk_at dksX5_becomes_0 17 rfl rfl)
theorem dX5_becomes_18 : decode cX5_becomes 18 = .ok (.iaload, 1) := dk_46 (dk_at dksX5_becomes_0 18 rfl rfl)
theorem dX5_becomes_19 : decode cX5_becomes 19 = .ok (.iastore, 1) := dk_79 (dk_at dksX5_becomes_0 19 rfl rfl)
theorem dX5_becomes_20 : decode cX5_becomes 20 = .ok (.iinc 3 1, 3) := dk_132 3 1 (dk_at dksX5_becomes_0 20 rfl rfl)
theorem dX5_becomes_23 : decode cX5_becomes 23 = .ok (.goto (-21), 3) := dk_167 255 235 (dk_at dksX5_becomes_1 0 rfl rfl)
theorem dX5_becomes_26 : decode cX5_becomes 26 = .ok (.return_, 1) := dk_177 (dk_at dksX5_becomes_1 3 rfl rfl)
abbrev cX5_thrown : ByteArray := prog_12_method_4_code
def yX5_thrown : MethodName := ⟨RX5, "thrown", "()I"⟩
theorem dX5_thrown_0 : decode cX5_thrown 0 = .ok (.aload_n 0, 1) := by decide +kernel
theorem dX5_thrown_1 : decode cX5_thrown 1 = .ok (.getfield 65, 3) := by decide +kernel
theorem dX5_thrown_4 : decode cX5_thrown 4 = .ok (.ireturn, 1) := by decide +kernel
abbrev cX5_undo : ByteArray := prog_12_method_7_code
def yX5_undo : MethodName := ⟨RX5, "undo", "()I"⟩
def dkwX5_undo_2 : List UInt8 := [182, 0, 61, 42, 180, 0, 68, 172]
abbrev dktX5_undo_2 : List UInt8 := dkwX5_undo_2 ++ []
def dkwX5_undo_1 : List UInt8 := [172, 42, 89, 180, 0, 68, 4, 100, 181, 0, 68, 42, 42, 180, 0, 16, 17, 0, 162, 42, 180, 0, 68, 104]
abbrev dktX5_undo_1 : List UInt8 := dkwX5_undo_1 ++ dktX5_undo_2
def dkwX5_undo_0 : List UInt8 := [42, 42, 180, 0, 68, 154, 0, 7, 4, 167, 0, 4, 3, 181, 0, 65, 42, 180, 0, 65, 158, 0, 5, 3]
abbrev dktX5_undo_0 : List UInt8 := dkwX5_undo_0 ++ dktX5_undo_1
theorem dksX5_undo_0 : cX5_undo.data.toList.drop 0 = dktX5_undo_0 := by decide +kernel
theorem dksX5_undo_1 : cX5_undo.data.toList.drop 24 = dktX5_undo_1 := dk_seg dksX5_undo_0 24 rfl rfl
theorem dksX5_undo_2 : cX5_undo.data.toList.drop 48 = dktX5_undo_2 := dk_seg dksX5_undo_1 24 rfl rfl
theorem dX5_undo_0 : decode cX5_undo 0 = .ok (.aload_n 0, 1) := dk_42 (dk_at dksX5_undo_0 0 rfl rfl)
theorem dX5_undo_1 : decode cX5_undo 1 = .ok (.aload_n 0, 1) := dk_42 (dk_at dksX5_undo_0 1 rfl rfl)
theorem dX5_undo_2 : decode cX5_undo 2 = .ok (.getfield 68, 3) := dk_180 0 68 (dk_at dksX5_undo_0 2 rfl rfl)
theorem dX5_undo_5 : decode cX5_undo 5 = .ok (.ifCond .ne 7, 3) := dk_154 0 7 (dk_at dksX5_undo_0 5 rfl rfl)
theorem dX5_undo_8 : decode cX5_undo 8 = .ok (.iconst 1, 1) := dk_4 (dk_at dksX5_undo_0 8 rfl rfl)
theorem dX5_undo_9 : decode cX5_undo 9 = .ok (.goto 4, 3) := dk_167 0 4 (dk_at dksX5_undo_0 9 rfl rfl)
theorem dX5_undo_12 : decode cX5_undo 12 = .ok (.iconst 0, 1) := dk_3 (dk_at dksX5_undo_0 12 rfl rfl)
theorem dX5_undo_13 : decode cX5_undo 13 = .ok (.putfield 65, 3) := dk_181 0 65 (dk_at dksX5_undo_0 13 rfl rfl)
theorem dX5_undo_16 : decode cX5_undo 16 = .ok (.aload_n 0, 1) := dk_42 (dk_at dksX5_undo_0 16 rfl rfl)
theorem dX5_undo_17 : decode cX5_undo 17 = .ok (.getfield 65, 3) := dk_180 0 65 (dk_at dksX5_undo_0 17 rfl rfl)
theorem dX5_undo_20 : decode cX5_undo 20 = .ok (.ifCond .le 5, 3) := dk_158 0 5 (dk_at dksX5_undo_0 20 rfl rfl)
theorem dX5_undo_23 : decode cX5_undo 23 = .ok (.iconst 0, 1) := dk_3 (dk_at dksX5_undo_0 23 rfl rfl)
theorem dX5_undo_24 : decode cX5_undo 24 = .ok (.ireturn, 1) := dk_172 (dk_at dksX5_undo_1 0 rfl rfl)
theorem dX5_undo_25 : decode cX5_undo 25 = .ok (.aload_n 0, 1) := dk_42 (dk_at dksX5_undo_1 1 rfl rfl)
theorem dX5_undo_26 : decode cX5_undo 26 = .ok (.dup, 1) := dk_89 (dk_at dksX5_undo_1 2 rfl rfl)
theorem dX5_undo_27 : decode cX5_undo 27 = .ok (.getfield 68, 3) := dk_180 0 68 (dk_at dksX5_undo_1 3 rfl rfl)
theorem dX5_undo_30 : decode cX5_undo 30 = .ok (.iconst 1, 1) := dk_4 (dk_at dksX5_undo_1 6 rfl rfl)
theorem dX5_undo_31 : decode cX5_undo 31 = .ok (.isub, 1) := dk_100 (dk_at dksX5_undo_1 7 rfl rfl)
theorem dX5_undo_32 : decode cX5_undo 32 = .ok (.putfield 68, 3) := dk_181 0 68 (dk_at dksX5_undo_1 8 rfl rfl)
theorem dX5_undo_35 : decode cX5_undo 35 = .ok (.aload_n 0, 1) := dk_42 (dk_at dksX5_undo_1 11 rfl rfl)
theorem dX5_undo_36 : decode cX5_undo 36 = .ok (.aload_n 0, 1) := dk_42 (dk_at dksX5_undo_1 12 rfl rfl)
theorem dX5_undo_37 : decode cX5_undo 37 = .ok (.getfield 16, 3) := dk_180 0 16 (dk_at dksX5_undo_1 13 rfl rfl)
theorem dX5_undo_40 : decode cX5_undo 40 = .ok (.sipush 162, 3) := dk_17 0 162 (dk_at dksX5_undo_1 16 rfl rfl)
theorem dX5_undo_43 : decode cX5_undo 43 = .ok (.aload_n 0, 1) := dk_42 (dk_at dksX5_undo_1 19 rfl rfl)
theorem dX5_undo_44 : decode cX5_undo 44 = .ok (.getfield 68, 3) := dk_180 0 68 (dk_at dksX5_undo_1 20 rfl rfl)
theorem dX5_undo_47 : decode cX5_undo 47 = .ok (.imul, 1) := dk_104 (dk_at dksX5_undo_1 23 rfl rfl)
theorem dX5_undo_48 : decode cX5_undo 48 = .ok (.invokevirtual 61, 3) := dk_182 0 61 (dk_at dksX5_undo_2 0 rfl rfl)
theorem dX5_undo_51 : decode cX5_undo 51 = .ok (.aload_n 0, 1) := dk_42 (dk_at dksX5_undo_2 3 rfl rfl)
theorem dX5_undo_52 : decode cX5_undo 52 = .ok (.getfield 68, 3) := dk_180 0 68 (dk_at dksX5_undo_2 4 rfl rfl)
theorem dX5_undo_55 : decode cX5_undo 55 = .ok (.ireturn, 1) := dk_172 (dk_at dksX5_undo_2 7 rfl rfl)
abbrev cX5_save : ByteArray := prog_12_method_8_code
def yX5_save : MethodName := ⟨RX5, "save", "(I)I"⟩
def dkwX5_save_3 : List UInt8 := [180, 0, 7, 8, 46, 172]
abbrev dktX5_save_3 : List UInt8 := dkwX5_save_3 ++ []
def dkwX5_save_2 : List UInt8 := [180, 0, 19, 17, 0, 162, 27, 104, 28, 96, 42, 180, 0, 7, 28, 46, 79, 132, 2, 1, 167, 255, 228, 42]
abbrev dktX5_save_2 : List UInt8 := dkwX5_save_2 ++ dktX5_save_3
def dkwX5_save_1 : List UInt8 := [158, 0, 5, 3, 172, 42, 180, 0, 22, 27, 4, 84, 3, 61, 28, 17, 0, 162, 162, 0, 27, 42]
abbrev dktX5_save_1 : List UInt8 := dkwX5_save_1 ++ dktX5_save_2
def dkwX5_save_0 : List UInt8 := [42, 27, 3, 4, 184, 0, 71, 153, 0, 7, 3, 167, 0, 4, 4, 181, 0, 65, 42, 180, 0, 65]
abbrev dktX5_save_0 : List UInt8 := dkwX5_save_0 ++ dktX5_save_1
theorem dksX5_save_0 : cX5_save.data.toList.drop 0 = dktX5_save_0 := by decide +kernel
theorem dksX5_save_1 : cX5_save.data.toList.drop 22 = dktX5_save_1 := dk_seg dksX5_save_0 22 rfl rfl
theorem dksX5_save_2 : cX5_save.data.toList.drop 44 = dktX5_save_2 := dk_seg dksX5_save_1 22 rfl rfl
theorem dksX5_save_3 : cX5_save.data.toList.drop 68 = dktX5_save_3 := dk_seg dksX5_save_2 24 rfl rfl
theorem dX5_save_0 : decode cX5_save 0 = .ok (.aload_n 0, 1) := dk_42 (dk_at dksX5_save_0 0 rfl rfl)
theorem dX5_save_1 : decode cX5_save 1 = .ok (.iload_n 1, 1) := dk_27 (dk_at dksX5_save_0 1 rfl rfl)
theorem dX5_save_2 : decode cX5_save 2 = .ok (.iconst 0, 1) := dk_3 (dk_at dksX5_save_0 2 rfl rfl)
theorem dX5_save_3 : decode cX5_save 3 = .ok (.iconst 1, 1) := dk_4 (dk_at dksX5_save_0 3 rfl rfl)
theorem dX5_save_4 : decode cX5_save 4 = .ok (.invokestatic 71, 3) := dk_184 0 71 (dk_at dksX5_save_0 4 rfl rfl)
theorem dX5_save_7 : decode cX5_save 7 = .ok (.ifCond .eq 7, 3) := dk_153 0 7 (dk_at dksX5_save_0 7 rfl rfl)
theorem dX5_save_10 : decode cX5_save 10 = .ok (.iconst 0, 1) := dk_3 (dk_at dksX5_save_0 10 rfl rfl)
theorem dX5_save_11 : decode cX5_save 11 = .ok (.goto 4, 3) := dk_167 0 4 (dk_at dksX5_save_0 11 rfl rfl)
theorem dX5_save_14 : decode cX5_save 14 = .ok (.iconst 1, 1) := dk_4 (dk_at dksX5_save_0 14 rfl rfl)
theorem dX5_save_15 : decode cX5_save 15 = .ok (.putfield 65, 3) := dk_181 0 65 (dk_at dksX5_save_0 15 rfl rfl)
theorem dX5_save_18 : decode cX5_save 18 = .ok (.aload_n 0, 1) := dk_42 (dk_at dksX5_save_0 18 rfl rfl)
theorem dX5_save_19 : decode cX5_save 19 = .ok (.getfield 65, 3) := dk_180 0 65 (dk_at dksX5_save_0 19 rfl rfl)
theorem dX5_save_22 : decode cX5_save 22 = .ok (.ifCond .le 5, 3) := dk_158 0 5 (dk_at dksX5_save_1 0 rfl rfl)
theorem dX5_save_25 : decode cX5_save 25 = .ok (.iconst 0, 1) := dk_3 (dk_at dksX5_save_1 3 rfl rfl)
theorem dX5_save_26 : decode cX5_save 26 = .ok (.ireturn, 1) := dk_172 (dk_at dksX5_save_1 4 rfl rfl)
theorem dX5_save_27 : decode cX5_save 27 = .ok (.aload_n 0, 1) := dk_42 (dk_at dksX5_save_1 5 rfl rfl)
theorem dX5_save_28 : decode cX5_save 28 = .ok (.getfield 22, 3) := dk_180 0 22 (dk_at dksX5_save_1 6 rfl rfl)
theorem dX5_save_31 : decode cX5_save 31 = .ok (.iload_n 1, 1) := dk_27 (dk_at dksX5_save_1 9 rfl rfl)
theorem dX5_save_32 : decode cX5_save 32 = .ok (.iconst 1, 1) := dk_4 (dk_at dksX5_save_1 10 rfl rfl)
theorem dX5_save_33 : decode cX5_save 33 = .ok (.bastore, 1) := dk_84 (dk_at dksX5_save_1 11 rfl rfl)
theorem dX5_save_34 : decode cX5_save 34 = .ok (.iconst 0, 1) := dk_3 (dk_at dksX5_save_1 12 rfl rfl)
theorem dX5_save_35 : decode cX5_save 35 = .ok (.istore_n 2, 1) := dk_61 (dk_at dksX5_save_1 13 rfl rfl)
theorem dX5_save_36 : decode cX5_save 36 = .ok (.iload_n 2, 1) := dk_28 (dk_at dksX5_save_1 14 rfl rfl)
theorem dX5_save_37 : decode cX5_save 37 = .ok (.sipush 162, 3) := dk_17 0 162 (dk_at dksX5_save_1 15 rfl rfl)
theorem dX5_save_40 : decode cX5_save 40 = .ok (.if_icmp .ge 27, 3) := dk_162 0 27 (dk_at dksX5_save_1 18 rfl rfl)
theorem dX5_save_43 : decode cX5_save 43 = .ok (.aload_n 0, 1) := dk_42 (dk_at dksX5_save_1 21 rfl rfl)
theorem dX5_save_44 : decode cX5_save 44 = .ok (.getfield 19, 3) := dk_180 0 19 (dk_at dksX5_save_2 0 rfl rfl)
theorem dX5_save_47 : decode cX5_save 47 = .ok (.sipush 162, 3) := dk_17 0 162 (dk_at dksX5_save_2 3 rfl rfl)
theorem dX5_save_50 : decode cX5_save 50 = .ok (.iload_n 1, 1) := dk_27 (dk_at dksX5_save_2 6 rfl rfl)
theorem dX5_save_51 : decode cX5_save 51 = .ok (.imul, 1) := dk_104 (dk_at dksX5_save_2 7 rfl rfl)
theorem dX5_save_52 : decode cX5_save 52 = .ok (.iload_n 2, 1) := dk_28 (dk_at dksX5_save_2 8 rfl rfl)
theorem dX5_save_53 : decode cX5_save 53 = .ok (.iadd, 1) := dk_96 (dk_at dksX5_save_2 9 rfl rfl)
theorem dX5_save_54 : decode cX5_save 54 = .ok (.aload_n 0, 1) := dk_42 (dk_at dksX5_save_2 10 rfl rfl)
theorem dX5_save_55 : decode cX5_save 55 = .ok (.getfield 7, 3) := dk_180 0 7 (dk_at dksX5_save_2 11 rfl rfl)
theorem dX5_save_58 : decode cX5_save 58 = .ok (.iload_n 2, 1) := dk_28 (dk_at dksX5_save_2 14 rfl rfl)
theorem dX5_save_59 : decode cX5_save 59 = .ok (.iaload, 1) := dk_46 (dk_at dksX5_save_2 15 rfl rfl)
theorem dX5_save_60 : decode cX5_save 60 = .ok (.iastore, 1) := dk_79 (dk_at dksX5_save_2 16 rfl rfl)
theorem dX5_save_61 : decode cX5_save 61 = .ok (.iinc 2 1, 3) := dk_132 2 1 (dk_at dksX5_save_2 17 rfl rfl)
theorem dX5_save_64 : decode cX5_save 64 = .ok (.goto (-28), 3) := dk_167 255 228 (dk_at dksX5_save_2 20 rfl rfl)
theorem dX5_save_67 : decode cX5_save 67 = .ok (.aload_n 0, 1) := dk_42 (dk_at dksX5_save_2 23 rfl rfl)
theorem dX5_save_68 : decode cX5_save 68 = .ok (.getfield 7, 3) := dk_180 0 7 (dk_at dksX5_save_3 0 rfl rfl)
theorem dX5_save_71 : decode cX5_save 71 = .ok (.iconst 5, 1) := dk_8 (dk_at dksX5_save_3 3 rfl rfl)
theorem dX5_save_72 : decode cX5_save 72 = .ok (.iaload, 1) := dk_46 (dk_at dksX5_save_3 4 rfl rfl)
theorem dX5_save_73 : decode cX5_save 73 = .ok (.ireturn, 1) := dk_172 (dk_at dksX5_save_3 5 rfl rfl)
abbrev cX5_isIn : ByteArray := prog_12_method_5_code
def yX5_isIn : MethodName := ⟨RX5, "isIn", "(III)Z"⟩
def dkwX5_isIn_0 : List UInt8 := [26, 27, 161, 0, 12, 26, 28, 163, 0, 7, 4, 167, 0, 4, 3, 172]
abbrev dktX5_isIn_0 : List UInt8 := dkwX5_isIn_0 ++ []
theorem dksX5_isIn_0 : cX5_isIn.data.toList.drop 0 = dktX5_isIn_0 := by decide +kernel
theorem dX5_isIn_0 : decode cX5_isIn 0 = .ok (.iload_n 0, 1) := dk_26 (dk_at dksX5_isIn_0 0 rfl rfl)
theorem dX5_isIn_1 : decode cX5_isIn 1 = .ok (.iload_n 1, 1) := dk_27 (dk_at dksX5_isIn_0 1 rfl rfl)
theorem dX5_isIn_2 : decode cX5_isIn 2 = .ok (.if_icmp .lt 12, 3) := dk_161 0 12 (dk_at dksX5_isIn_0 2 rfl rfl)
theorem dX5_isIn_5 : decode cX5_isIn 5 = .ok (.iload_n 0, 1) := dk_26 (dk_at dksX5_isIn_0 5 rfl rfl)
theorem dX5_isIn_6 : decode cX5_isIn 6 = .ok (.iload_n 2, 1) := dk_28 (dk_at dksX5_isIn_0 6 rfl rfl)
theorem dX5_isIn_7 : decode cX5_isIn 7 = .ok (.if_icmp .gt 7, 3) := dk_163 0 7 (dk_at dksX5_isIn_0 7 rfl rfl)
theorem dX5_isIn_10 : decode cX5_isIn 10 = .ok (.iconst 1, 1) := dk_4 (dk_at dksX5_isIn_0 10 rfl rfl)
theorem dX5_isIn_11 : decode cX5_isIn 11 = .ok (.goto 4, 3) := dk_167 0 4 (dk_at dksX5_isIn_0 11 rfl rfl)
theorem dX5_isIn_14 : decode cX5_isIn 14 = .ok (.iconst 0, 1) := dk_3 (dk_at dksX5_isIn_0 14 rfl rfl)
theorem dX5_isIn_15 : decode cX5_isIn 15 = .ok (.ireturn, 1) := dk_172 (dk_at dksX5_isIn_0 15 rfl rfl)
abbrev cX5_restore : ByteArray := prog_12_method_9_code
def yX5_restore : MethodName := ⟨RX5, "restore", "(I)I"⟩
def dkwX5_restore_2 : List UInt8 := [180, 0, 19, 17, 0, 162, 27, 104, 182, 0, 61, 42, 180, 0, 7, 8, 46, 172]
abbrev dktX5_restore_2 : List UInt8 := dkwX5_restore_2 ++ []
def dkwX5_restore_1 : List UInt8 := [167, 0, 4, 5, 181, 0, 65, 42, 180, 0, 65, 158, 0, 5, 3, 172, 42, 182, 0, 75, 42, 42]
abbrev dktX5_restore_1 : List UInt8 := dkwX5_restore_1 ++ dktX5_restore_2
def dkwX5_restore_0 : List UInt8 := [42, 27, 3, 4, 184, 0, 71, 154, 0, 7, 4, 167, 0, 17, 42, 180, 0, 22, 27, 51, 153, 0, 7, 3]
abbrev dktX5_restore_0 : List UInt8 := dkwX5_restore_0 ++ dktX5_restore_1
theorem dksX5_restore_0 : cX5_restore.data.toList.drop 0 = dktX5_restore_0 := by decide +kernel
theorem dksX5_restore_1 : cX5_restore.data.toList.drop 24 = dktX5_restore_1 := dk_seg dksX5_restore_0 24 rfl rfl
theorem dksX5_restore_2 : cX5_restore.data.toList.drop 46 = dktX5_restore_2 := dk_seg dksX5_restore_1 22 rfl rfl
theorem dX5_restore_0 : decode cX5_restore 0 = .ok (.aload_n 0, 1) := dk_42 (dk_at dksX5_restore_0 0 rfl rfl)
theorem dX5_restore_1 : decode cX5_restore 1 = .ok (.iload_n 1, 1) := dk_27 (dk_at dksX5_restore_0 1 rfl rfl)
theorem dX5_restore_2 : decode cX5_restore 2 = .ok (.iconst 0, 1) := dk_3 (dk_at dksX5_restore_0 2 rfl rfl)
theorem dX5_restore_3 : decode cX5_restore 3 = .ok (.iconst 1, 1) := dk_4 (dk_at dksX5_restore_0 3 rfl rfl)
theorem dX5_restore_4 : decode cX5_restore 4 = .ok (.invokestatic 71, 3) := dk_184 0 71 (dk_at dksX5_restore_0 4 rfl rfl)
theorem dX5_restore_7 : decode cX5_restore 7 = .ok (.ifCond .ne 7, 3) := dk_154 0 7 (dk_at dksX5_restore_0 7 rfl rfl)
theorem dX5_restore_10 : decode cX5_restore 10 = .ok (.iconst 1, 1) := dk_4 (dk_at dksX5_restore_0 10 rfl rfl)
theorem dX5_restore_11 : decode cX5_restore 11 = .ok (.goto 17, 3) := dk_167 0 17 (dk_at dksX5_restore_0 11 rfl rfl)
theorem dX5_restore_14 : decode cX5_restore 14 = .ok (.aload_n 0, 1) := dk_42 (dk_at dksX5_restore_0 14 rfl rfl)
theorem dX5_restore_15 : decode cX5_restore 15 = .ok (.getfield 22, 3) := dk_180 0 22 (dk_at dksX5_restore_0 15 rfl rfl)
theorem dX5_restore_18 : decode cX5_restore 18 = .ok (.iload_n 1, 1) := dk_27 (dk_at dksX5_restore_0 18 rfl rfl)
theorem dX5_restore_19 : decode cX5_restore 19 = .ok (.baload, 1) := dk_51 (dk_at dksX5_restore_0 19 rfl rfl)
theorem dX5_restore_20 : decode cX5_restore 20 = .ok (.ifCond .eq 7, 3) := dk_153 0 7 (dk_at dksX5_restore_0 20 rfl rfl)
theorem dX5_restore_23 : decode cX5_restore 23 = .ok (.iconst 0, 1) := dk_3 (dk_at dksX5_restore_0 23 rfl rfl)
theorem dX5_restore_24 : decode cX5_restore 24 = .ok (.goto 4, 3) := dk_167 0 4 (dk_at dksX5_restore_1 0 rfl rfl)
theorem dX5_restore_27 : decode cX5_restore 27 = .ok (.iconst 2, 1) := dk_5 (dk_at dksX5_restore_1 3 rfl rfl)
theorem dX5_restore_28 : decode cX5_restore 28 = .ok (.putfield 65, 3) := dk_181 0 65 (dk_at dksX5_restore_1 4 rfl rfl)
theorem dX5_restore_31 : decode cX5_restore 31 = .ok (.aload_n 0, 1) := dk_42 (dk_at dksX5_restore_1 7 rfl rfl)
theorem dX5_restore_32 : decode cX5_restore 32 = .ok (.getfield 65, 3) := dk_180 0 65 (dk_at dksX5_restore_1 8 rfl rfl)
theorem dX5_restore_35 : decode cX5_restore 35 = .ok (.ifCond .le 5, 3) := dk_158 0 5 (dk_at dksX5_restore_1 11 rfl rfl)
theorem dX5_restore_38 : decode cX5_restore 38 = .ok (.iconst 0, 1) := dk_3 (dk_at dksX5_restore_1 14 rfl rfl)
theorem dX5_restore_39 : decode cX5_restore 39 = .ok (.ireturn, 1) := dk_172 (dk_at dksX5_restore_1 15 rfl rfl)
theorem dX5_restore_40 : decode cX5_restore 40 = .ok (.aload_n 0, 1) := dk_42 (dk_at dksX5_restore_1 16 rfl rfl)
theorem dX5_restore_41 : decode cX5_restore 41 = .ok (.invokevirtual 75, 3) := dk_182 0 75 (dk_at dksX5_restore_1 17 rfl rfl)
theorem dX5_restore_44 : decode cX5_restore 44 = .ok (.aload_n 0, 1) := dk_42 (dk_at dksX5_restore_1 20 rfl rfl)
theorem dX5_restore_45 : decode cX5_restore 45 = .ok (.aload_n 0, 1) := dk_42 (dk_at dksX5_restore_1 21 rfl rfl)
theorem dX5_restore_46 : decode cX5_restore 46 = .ok (.getfield 19, 3) := dk_180 0 19 (dk_at dksX5_restore_2 0 rfl rfl)
theorem dX5_restore_49 : decode cX5_restore 49 = .ok (.sipush 162, 3) := dk_17 0 162 (dk_at dksX5_restore_2 3 rfl rfl)
theorem dX5_restore_52 : decode cX5_restore 52 = .ok (.iload_n 1, 1) := dk_27 (dk_at dksX5_restore_2 6 rfl rfl)
theorem dX5_restore_53 : decode cX5_restore 53 = .ok (.imul, 1) := dk_104 (dk_at dksX5_restore_2 7 rfl rfl)
theorem dX5_restore_54 : decode cX5_restore 54 = .ok (.invokevirtual 61, 3) := dk_182 0 61 (dk_at dksX5_restore_2 8 rfl rfl)
theorem dX5_restore_57 : decode cX5_restore 57 = .ok (.aload_n 0, 1) := dk_42 (dk_at dksX5_restore_2 11 rfl rfl)
theorem dX5_restore_58 : decode cX5_restore 58 = .ok (.getfield 7, 3) := dk_180 0 7 (dk_at dksX5_restore_2 12 rfl rfl)
theorem dX5_restore_61 : decode cX5_restore 61 = .ok (.iconst 5, 1) := dk_8 (dk_at dksX5_restore_2 15 rfl rfl)
theorem dX5_restore_62 : decode cX5_restore 62 = .ok (.iaload, 1) := dk_46 (dk_at dksX5_restore_2 16 rfl rfl)
theorem dX5_restore_63 : decode cX5_restore 63 = .ok (.ireturn, 1) := dk_172 (dk_at dksX5_restore_2 17 rfl rfl)
abbrev cX5_keeps : ByteArray := prog_12_method_6_code
def yX5_keeps : MethodName := ⟨RX5, "keeps", "()V"⟩
def dkwX5_keeps_4 : List UInt8 := [181, 0, 68, 177]
abbrev dktX5_keeps_4 : List UInt8 := dkwX5_keeps_4 ++ []
def dkwX5_keeps_3 : List UInt8 := [27, 96, 42, 180, 0, 7, 27, 46, 79, 132, 1, 1, 167, 255, 225, 42, 89, 180, 0, 68, 4, 96]
abbrev dktX5_keeps_3 : List UInt8 := dkwX5_keeps_3 ++ dktX5_keeps_4
def dkwX5_keeps_2 : List UInt8 := [181, 0, 68, 3, 60, 27, 17, 0, 162, 162, 0, 30, 42, 180, 0, 16, 17, 0, 162, 42, 180, 0, 68, 104]
abbrev dktX5_keeps_2 : List UInt8 := dkwX5_keeps_2 ++ dktX5_keeps_3
def dkwX5_keeps_1 : List UInt8 := [180, 0, 16, 27, 17, 0, 162, 96, 46, 79, 132, 1, 1, 167, 255, 230, 42, 89, 180, 0, 68, 4, 100]
abbrev dktX5_keeps_1 : List UInt8 := dkwX5_keeps_1 ++ dktX5_keeps_2
def dkwX5_keeps_0 : List UInt8 := [42, 180, 0, 68, 16, 8, 160, 0, 44, 3, 60, 27, 17, 4, 110, 162, 0, 25, 42, 180, 0, 16, 27, 42]
abbrev dktX5_keeps_0 : List UInt8 := dkwX5_keeps_0 ++ dktX5_keeps_1
theorem dksX5_keeps_0 : cX5_keeps.data.toList.drop 0 = dktX5_keeps_0 := by decide +kernel
theorem dksX5_keeps_1 : cX5_keeps.data.toList.drop 24 = dktX5_keeps_1 := dk_seg dksX5_keeps_0 24 rfl rfl
theorem dksX5_keeps_2 : cX5_keeps.data.toList.drop 47 = dktX5_keeps_2 := dk_seg dksX5_keeps_1 23 rfl rfl
theorem dksX5_keeps_3 : cX5_keeps.data.toList.drop 71 = dktX5_keeps_3 := dk_seg dksX5_keeps_2 24 rfl rfl
theorem dksX5_keeps_4 : cX5_keeps.data.toList.drop 93 = dktX5_keeps_4 := dk_seg dksX5_keeps_3 22 rfl rfl
theorem dX5_keeps_0 : decode cX5_keeps 0 = .ok (.aload_n 0, 1) := dk_42 (dk_at dksX5_keeps_0 0 rfl rfl)
theorem dX5_keeps_1 : decode cX5_keeps 1 = .ok (.getfield 68, 3) := dk_180 0 68 (dk_at dksX5_keeps_0 1 rfl rfl)
theorem dX5_keeps_4 : decode cX5_keeps 4 = .ok (.bipush 8, 2) := dk_16 8 (dk_at dksX5_keeps_0 4 rfl rfl)
theorem dX5_keeps_6 : decode cX5_keeps 6 = .ok (.if_icmp .ne 44, 3) := dk_160 0 44 (dk_at dksX5_keeps_0 6 rfl rfl)
theorem dX5_keeps_9 : decode cX5_keeps 9 = .ok (.iconst 0, 1) := dk_3 (dk_at dksX5_keeps_0 9 rfl rfl)
theorem dX5_keeps_10 : decode cX5_keeps 10 = .ok (.istore_n 1, 1) := dk_60 (dk_at dksX5_keeps_0 10 rfl rfl)
theorem dX5_keeps_11 : decode cX5_keeps 11 = .ok (.iload_n 1, 1) := dk_27 (dk_at dksX5_keeps_0 11 rfl rfl)
theorem dX5_keeps_12 : decode cX5_keeps 12 = .ok (.sipush 1134, 3) := dk_17 4 110 (dk_at dksX5_keeps_0 12 rfl rfl)
theorem dX5_keeps_15 : decode cX5_keeps 15 = .ok (.if_icmp .ge 25, 3) := dk_162 0 25 (dk_at dksX5_keeps_0 15 rfl rfl)
theorem dX5_keeps_18 : decode cX5_keeps 18 = .ok (.aload_n 0, 1) := dk_42 (dk_at dksX5_keeps_0 18 rfl rfl)
theorem dX5_keeps_19 : decode cX5_keeps 19 = .ok (.getfield 16, 3) := dk_180 0 16 (dk_at dksX5_keeps_0 19 rfl rfl)
theorem dX5_keeps_22 : decode cX5_keeps 22 = .ok (.iload_n 1, 1) := dk_27 (dk_at dksX5_keeps_0 22 rfl rfl)
theorem dX5_keeps_23 : decode cX5_keeps 23 = .ok (.aload_n 0, 1) := dk_42 (dk_at dksX5_keeps_0 23 rfl rfl)
theorem dX5_keeps_24 : decode cX5_keeps 24 = .ok (.getfield 16, 3) := dk_180 0 16 (dk_at dksX5_keeps_1 0 rfl rfl)
theorem dX5_keeps_27 : decode cX5_keeps 27 = .ok (.iload_n 1, 1) := dk_27 (dk_at dksX5_keeps_1 3 rfl rfl)
theorem dX5_keeps_28 : decode cX5_keeps 28 = .ok (.sipush 162, 3) := dk_17 0 162 (dk_at dksX5_keeps_1 4 rfl rfl)
theorem dX5_keeps_31 : decode cX5_keeps 31 = .ok (.iadd, 1) := dk_96 (dk_at dksX5_keeps_1 7 rfl rfl)
theorem dX5_keeps_32 : decode cX5_keeps 32 = .ok (.iaload, 1) := dk_46 (dk_at dksX5_keeps_1 8 rfl rfl)
theorem dX5_keeps_33 : decode cX5_keeps 33 = .ok (.iastore, 1) := dk_79 (dk_at dksX5_keeps_1 9 rfl rfl)
theorem dX5_keeps_34 : decode cX5_keeps 34 = .ok (.iinc 1 1, 3) := dk_132 1 1 (dk_at dksX5_keeps_1 10 rfl rfl)
theorem dX5_keeps_37 : decode cX5_keeps 37 = .ok (.goto (-26), 3) := dk_167 255 230 (dk_at dksX5_keeps_1 13 rfl rfl)
theorem dX5_keeps_40 : decode cX5_keeps 40 = .ok (.aload_n 0, 1) := dk_42 (dk_at dksX5_keeps_1 16 rfl rfl)
theorem dX5_keeps_41 : decode cX5_keeps 41 = .ok (.dup, 1) := dk_89 (dk_at dksX5_keeps_1 17 rfl rfl)
theorem dX5_keeps_42 : decode cX5_keeps 42 = .ok (.getfield 68, 3) := dk_180 0 68 (dk_at dksX5_keeps_1 18 rfl rfl)
theorem dX5_keeps_45 : decode cX5_keeps 45 = .ok (.iconst 1, 1) := dk_4 (dk_at dksX5_keeps_1 21 rfl rfl)
theorem dX5_keeps_46 : decode cX5_keeps 46 = .ok (.isub, 1) := dk_100 (dk_at dksX5_keeps_1 22 rfl rfl)
theorem dX5_keeps_47 : decode cX5_keeps 47 = .ok (.putfield 68, 3) := dk_181 0 68 (dk_at dksX5_keeps_2 0 rfl rfl)
theorem dX5_keeps_50 : decode cX5_keeps 50 = .ok (.iconst 0, 1) := dk_3 (dk_at dksX5_keeps_2 3 rfl rfl)
theorem dX5_keeps_51 : decode cX5_keeps 51 = .ok (.istore_n 1, 1) := dk_60 (dk_at dksX5_keeps_2 4 rfl rfl)
theorem dX5_keeps_52 : decode cX5_keeps 52 = .ok (.iload_n 1, 1) := dk_27 (dk_at dksX5_keeps_2 5 rfl rfl)
theorem dX5_keeps_53 : decode cX5_keeps 53 = .ok (.sipush 162, 3) := dk_17 0 162 (dk_at dksX5_keeps_2 6 rfl rfl)
theorem dX5_keeps_56 : decode cX5_keeps 56 = .ok (.if_icmp .ge 30, 3) := dk_162 0 30 (dk_at dksX5_keeps_2 9 rfl rfl)
theorem dX5_keeps_59 : decode cX5_keeps 59 = .ok (.aload_n 0, 1) := dk_42 (dk_at dksX5_keeps_2 12 rfl rfl)
theorem dX5_keeps_60 : decode cX5_keeps 60 = .ok (.getfield 16, 3) := dk_180 0 16 (dk_at dksX5_keeps_2 13 rfl rfl)
theorem dX5_keeps_63 : decode cX5_keeps 63 = .ok (.sipush 162, 3) := dk_17 0 162 (dk_at dksX5_keeps_2 16 rfl rfl)
theorem dX5_keeps_66 : decode cX5_keeps 66 = .ok (.aload_n 0, 1) := dk_42 (dk_at dksX5_keeps_2 19 rfl rfl)
theorem dX5_keeps_67 : decode cX5_keeps 67 = .ok (.getfield 68, 3) := dk_180 0 68 (dk_at dksX5_keeps_2 20 rfl rfl)
theorem dX5_keeps_70 : decode cX5_keeps 70 = .ok (.imul, 1) := dk_104 (dk_at dksX5_keeps_2 23 rfl rfl)
theorem dX5_keeps_71 : decode cX5_keeps 71 = .ok (.iload_n 1, 1) := dk_27 (dk_at dksX5_keeps_3 0 rfl rfl)
theorem dX5_keeps_72 : decode cX5_keeps 72 = .ok (.iadd, 1) := dk_96 (dk_at dksX5_keeps_3 1 rfl rfl)
theorem dX5_keeps_73 : decode cX5_keeps 73 = .ok (.aload_n 0, 1) := dk_42 (dk_at dksX5_keeps_3 2 rfl rfl)
theorem dX5_keeps_74 : decode cX5_keeps 74 = .ok (.getfield 7, 3) := dk_180 0 7 (dk_at dksX5_keeps_3 3 rfl rfl)
theorem dX5_keeps_77 : decode cX5_keeps 77 = .ok (.iload_n 1, 1) := dk_27 (dk_at dksX5_keeps_3 6 rfl rfl)
theorem dX5_keeps_78 : decode cX5_keeps 78 = .ok (.iaload, 1) := dk_46 (dk_at dksX5_keeps_3 7 rfl rfl)
theorem dX5_keeps_79 : decode cX5_keeps 79 = .ok (.iastore, 1) := dk_79 (dk_at dksX5_keeps_3 8 rfl rfl)
theorem dX5_keeps_80 : decode cX5_keeps 80 = .ok (.iinc 1 1, 3) := dk_132 1 1 (dk_at dksX5_keeps_3 9 rfl rfl)
theorem dX5_keeps_83 : decode cX5_keeps 83 = .ok (.goto (-31), 3) := dk_167 255 225 (dk_at dksX5_keeps_3 12 rfl rfl)
theorem dX5_keeps_86 : decode cX5_keeps 86 = .ok (.aload_n 0, 1) := dk_42 (dk_at dksX5_keeps_3 15 rfl rfl)
theorem dX5_keeps_87 : decode cX5_keeps 87 = .ok (.dup, 1) := dk_89 (dk_at dksX5_keeps_3 16 rfl rfl)
theorem dX5_keeps_88 : decode cX5_keeps 88 = .ok (.getfield 68, 3) := dk_180 0 68 (dk_at dksX5_keeps_3 17 rfl rfl)
theorem dX5_keeps_91 : decode cX5_keeps 91 = .ok (.iconst 1, 1) := dk_4 (dk_at dksX5_keeps_3 20 rfl rfl)
theorem dX5_keeps_92 : decode cX5_keeps 92 = .ok (.iadd, 1) := dk_96 (dk_at dksX5_keeps_3 21 rfl rfl)
theorem dX5_keeps_93 : decode cX5_keeps 93 = .ok (.putfield 68, 3) := dk_181 0 68 (dk_at dksX5_keeps_4 0 rfl rfl)
theorem dX5_keeps_96 : decode cX5_keeps 96 = .ok (.return_, 1) := dk_177 (dk_at dksX5_keeps_4 3 rfl rfl)
abbrev cX5_append : ByteArray := prog_12_method_10_code
def yX5_append : MethodName := ⟨RX5, "append", "(IIIII)I"⟩
def dkwX5_append_5 : List UInt8 := [180, 0, 78, 4, 96, 181, 0, 78, 132, 6, 1, 167, 255, 162, 42, 180, 0, 78, 172]
abbrev dktX5_append_5 : List UInt8 := dkwX5_append_5 ++ []
def dkwX5_append_4 : List UInt8 := [180, 0, 78, 21, 7, 16, 24, 16, 8, 21, 6, 7, 112, 104, 100, 122, 17, 0, 255, 126, 79, 42, 89]
abbrev dktX5_append_4 : List UInt8 := dkwX5_append_4 ++ dktX5_append_5
def dkwX5_append_3 : List UInt8 := [167, 0, 17, 21, 6, 16, 16, 162, 0, 8, 21, 4, 167, 0, 5, 21, 5, 54, 7, 42, 180, 0, 26, 42]
abbrev dktX5_append_3 : List UInt8 := dkwX5_append_3 ++ dktX5_append_4
def dkwX5_append_2 : List UInt8 := [27, 167, 0, 39, 21, 6, 16, 8, 162, 0, 7, 28, 167, 0, 28, 21, 6, 16, 12, 162, 0, 7, 29]
abbrev dktX5_append_2 : List UInt8 := dkwX5_append_2 ++ dktX5_append_3
def dkwX5_append_1 : List UInt8 := [180, 0, 65, 158, 0, 5, 3, 172, 3, 54, 6, 21, 6, 16, 20, 162, 0, 93, 21, 6, 7, 162, 0, 7]
abbrev dktX5_append_1 : List UInt8 := dkwX5_append_1 ++ dktX5_append_2
def dkwX5_append_0 : List UInt8 := [42, 42, 180, 0, 78, 16, 20, 96, 17, 3, 32, 164, 0, 7, 4, 167, 0, 4, 3, 181, 0, 65, 42]
abbrev dktX5_append_0 : List UInt8 := dkwX5_append_0 ++ dktX5_append_1
theorem dksX5_append_0 : cX5_append.data.toList.drop 0 = dktX5_append_0 := by decide +kernel
theorem dksX5_append_1 : cX5_append.data.toList.drop 23 = dktX5_append_1 := dk_seg dksX5_append_0 23 rfl rfl
theorem dksX5_append_2 : cX5_append.data.toList.drop 47 = dktX5_append_2 := dk_seg dksX5_append_1 24 rfl rfl
theorem dksX5_append_3 : cX5_append.data.toList.drop 70 = dktX5_append_3 := dk_seg dksX5_append_2 23 rfl rfl
theorem dksX5_append_4 : cX5_append.data.toList.drop 94 = dktX5_append_4 := dk_seg dksX5_append_3 24 rfl rfl
theorem dksX5_append_5 : cX5_append.data.toList.drop 117 = dktX5_append_5 := dk_seg dksX5_append_4 23 rfl rfl
theorem dX5_append_0 : decode cX5_append 0 = .ok (.aload_n 0, 1) := dk_42 (dk_at dksX5_append_0 0 rfl rfl)
theorem dX5_append_1 : decode cX5_append 1 = .ok (.aload_n 0, 1) := dk_42 (dk_at dksX5_append_0 1 rfl rfl)
theorem dX5_append_2 : decode cX5_append 2 = .ok (.getfield 78, 3) := dk_180 0 78 (dk_at dksX5_append_0 2 rfl rfl)
theorem dX5_append_5 : decode cX5_append 5 = .ok (.bipush 20, 2) := dk_16 20 (dk_at dksX5_append_0 5 rfl rfl)
theorem dX5_append_7 : decode cX5_append 7 = .ok (.iadd, 1) := dk_96 (dk_at dksX5_append_0 7 rfl rfl)
theorem dX5_append_8 : decode cX5_append 8 = .ok (.sipush 800, 3) := dk_17 3 32 (dk_at dksX5_append_0 8 rfl rfl)
theorem dX5_append_11 : decode cX5_append 11 = .ok (.if_icmp .le 7, 3) := dk_164 0 7 (dk_at dksX5_append_0 11 rfl rfl)
theorem dX5_append_14 : decode cX5_append 14 = .ok (.iconst 1, 1) := dk_4 (dk_at dksX5_append_0 14 rfl rfl)
theorem dX5_append_15 : decode cX5_append 15 = .ok (.goto 4, 3) := dk_167 0 4 (dk_at dksX5_append_0 15 rfl rfl)
theorem dX5_append_18 : decode cX5_append 18 = .ok (.iconst 0, 1) := dk_3 (dk_at dksX5_append_0 18 rfl rfl)
theorem dX5_append_19 : decode cX5_append 19 = .ok (.putfield 65, 3) := dk_181 0 65 (dk_at dksX5_append_0 19 rfl rfl)
theorem dX5_append_22 : decode cX5_append 22 = .ok (.aload_n 0, 1) := dk_42 (dk_at dksX5_append_0 22 rfl rfl)
theorem dX5_append_23 : decode cX5_append 23 = .ok (.getfield 65, 3) := dk_180 0 65 (dk_at dksX5_append_1 0 rfl rfl)
theorem dX5_append_26 : decode cX5_append 26 = .ok (.ifCond .le 5, 3) := dk_158 0 5 (dk_at dksX5_append_1 3 rfl rfl)
theorem dX5_append_29 : decode cX5_append 29 = .ok (.iconst 0, 1) := dk_3 (dk_at dksX5_append_1 6 rfl rfl)
theorem dX5_append_30 : decode cX5_append 30 = .ok (.ireturn, 1) := dk_172 (dk_at dksX5_append_1 7 rfl rfl)
theorem dX5_append_31 : decode cX5_append 31 = .ok (.iconst 0, 1) := dk_3 (dk_at dksX5_append_1 8 rfl rfl)
theorem dX5_append_32 : decode cX5_append 32 = .ok (.istore 6, 2) := dk_54 6 (dk_at dksX5_append_1 9 rfl rfl)
theorem dX5_append_34 : decode cX5_append 34 = .ok (.iload 6, 2) := dk_21 6 (dk_at dksX5_append_1 11 rfl rfl)
theorem dX5_append_36 : decode cX5_append 36 = .ok (.bipush 20, 2) := dk_16 20 (dk_at dksX5_append_1 13 rfl rfl)
theorem dX5_append_38 : decode cX5_append 38 = .ok (.if_icmp .ge 93, 3) := dk_162 0 93 (dk_at dksX5_append_1 15 rfl rfl)
theorem dX5_append_41 : decode cX5_append 41 = .ok (.iload 6, 2) := dk_21 6 (dk_at dksX5_append_1 18 rfl rfl)
theorem dX5_append_43 : decode cX5_append 43 = .ok (.iconst 4, 1) := dk_7 (dk_at dksX5_append_1 20 rfl rfl)
theorem dX5_append_44 : decode cX5_append 44 = .ok (.if_icmp .ge 7, 3) := dk_162 0 7 (dk_at dksX5_append_1 21 rfl rfl)
theorem dX5_append_47 : decode cX5_append 47 = .ok (.iload_n 1, 1) := dk_27 (dk_at dksX5_append_2 0 rfl rfl)
theorem dX5_append_48 : decode cX5_append 48 = .ok (.goto 39, 3) := dk_167 0 39 (dk_at dksX5_append_2 1 rfl rfl)
theorem dX5_append_51 : decode cX5_append 51 = .ok (.iload 6, 2) := dk_21 6 (dk_at dksX5_append_2 4 rfl rfl)
theorem dX5_append_53 : decode cX5_append 53 = .ok (.bipush 8, 2) := dk_16 8 (dk_at dksX5_append_2 6 rfl rfl)
theorem dX5_append_55 : decode cX5_append 55 = .ok (.if_icmp .ge 7, 3) := dk_162 0 7 (dk_at dksX5_append_2 8 rfl rfl)
theorem dX5_append_58 : decode cX5_append 58 = .ok (.iload_n 2, 1) := dk_28 (dk_at dksX5_append_2 11 rfl rfl)
theorem dX5_append_59 : decode cX5_append 59 = .ok (.goto 28, 3) := dk_167 0 28 (dk_at dksX5_append_2 12 rfl rfl)
theorem dX5_append_62 : decode cX5_append 62 = .ok (.iload 6, 2) := dk_21 6 (dk_at dksX5_append_2 15 rfl rfl)
theorem dX5_append_64 : decode cX5_append 64 = .ok (.bipush 12, 2) := dk_16 12 (dk_at dksX5_append_2 17 rfl rfl)
theorem dX5_append_66 : decode cX5_append 66 = .ok (.if_icmp .ge 7, 3) := dk_162 0 7 (dk_at dksX5_append_2 19 rfl rfl)
theorem dX5_append_69 : decode cX5_append 69 = .ok (.iload_n 3, 1) := dk_29 (dk_at dksX5_append_2 22 rfl rfl)
theorem dX5_append_70 : decode cX5_append 70 = .ok (.goto 17, 3) := dk_167 0 17 (dk_at dksX5_append_3 0 rfl rfl)
theorem dX5_append_73 : decode cX5_append 73 = .ok (.iload 6, 2) := dk_21 6 (dk_at dksX5_append_3 3 rfl rfl)
theorem dX5_append_75 : decode cX5_append 75 = .ok (.bipush 16, 2) := dk_16 16 (dk_at dksX5_append_3 5 rfl rfl)
theorem dX5_append_77 : decode cX5_append 77 = .ok (.if_icmp .ge 8, 3) := dk_162 0 8 (dk_at dksX5_append_3 7 rfl rfl)
theorem dX5_append_80 : decode cX5_append 80 = .ok (.iload 4, 2) := dk_21 4 (dk_at dksX5_append_3 10 rfl rfl)
theorem dX5_append_82 : decode cX5_append 82 = .ok (.goto 5, 3) := dk_167 0 5 (dk_at dksX5_append_3 12 rfl rfl)
theorem dX5_append_85 : decode cX5_append 85 = .ok (.iload 5, 2) := dk_21 5 (dk_at dksX5_append_3 15 rfl rfl)
theorem dX5_append_87 : decode cX5_append 87 = .ok (.istore 7, 2) := dk_54 7 (dk_at dksX5_append_3 17 rfl rfl)
theorem dX5_append_89 : decode cX5_append 89 = .ok (.aload_n 0, 1) := dk_42 (dk_at dksX5_append_3 19 rfl rfl)
theorem dX5_append_90 : decode cX5_append 90 = .ok (.getfield 26, 3) := dk_180 0 26 (dk_at dksX5_append_3 20 rfl rfl)
theorem dX5_append_93 : decode cX5_append 93 = .ok (.aload_n 0, 1) := dk_42 (dk_at dksX5_append_3 23 rfl rfl)
theorem dX5_append_94 : decode cX5_append 94 = .ok (.getfield 78, 3) := dk_180 0 78 (dk_at dksX5_append_4 0 rfl rfl)
theorem dX5_append_97 : decode cX5_append 97 = .ok (.iload 7, 2) := dk_21 7 (dk_at dksX5_append_4 3 rfl rfl)
theorem dX5_append_99 : decode cX5_append 99 = .ok (.bipush 24, 2) := dk_16 24 (dk_at dksX5_append_4 5 rfl rfl)
theorem dX5_append_101 : decode cX5_append 101 = .ok (.bipush 8, 2) := dk_16 8 (dk_at dksX5_append_4 7 rfl rfl)
theorem dX5_append_103 : decode cX5_append 103 = .ok (.iload 6, 2) := dk_21 6 (dk_at dksX5_append_4 9 rfl rfl)
theorem dX5_append_105 : decode cX5_append 105 = .ok (.iconst 4, 1) := dk_7 (dk_at dksX5_append_4 11 rfl rfl)
theorem dX5_append_106 : decode cX5_append 106 = .ok (.irem, 1) := dk_112 (dk_at dksX5_append_4 12 rfl rfl)
theorem dX5_append_107 : decode cX5_append 107 = .ok (.imul, 1) := dk_104 (dk_at dksX5_append_4 13 rfl rfl)
theorem dX5_append_108 : decode cX5_append 108 = .ok (.isub, 1) := dk_100 (dk_at dksX5_append_4 14 rfl rfl)
theorem dX5_append_109 : decode cX5_append 109 = .ok (.ishr, 1) := dk_122 (dk_at dksX5_append_4 15 rfl rfl)
theorem dX5_append_110 : decode cX5_append 110 = .ok (.sipush 255, 3) := dk_17 0 255 (dk_at dksX5_append_4 16 rfl rfl)
theorem dX5_append_113 : decode cX5_append 113 = .ok (.iand, 1) := dk_126 (dk_at dksX5_append_4 19 rfl rfl)
theorem dX5_append_114 : decode cX5_append 114 = .ok (.iastore, 1) := dk_79 (dk_at dksX5_append_4 20 rfl rfl)
theorem dX5_append_115 : decode cX5_append 115 = .ok (.aload_n 0, 1) := dk_42 (dk_at dksX5_append_4 21 rfl rfl)
theorem dX5_append_116 : decode cX5_append 116 = .ok (.dup, 1) := dk_89 (dk_at dksX5_append_4 22 rfl rfl)
theorem dX5_append_117 : decode cX5_append 117 = .ok (.getfield 78, 3) := dk_180 0 78 (dk_at dksX5_append_5 0 rfl rfl)
theorem dX5_append_120 : decode cX5_append 120 = .ok (.iconst 1, 1) := dk_4 (dk_at dksX5_append_5 3 rfl rfl)
theorem dX5_append_121 : decode cX5_append 121 = .ok (.iadd, 1) := dk_96 (dk_at dksX5_append_5 4 rfl rfl)
theorem dX5_append_122 : decode cX5_append 122 = .ok (.putfield 78, 3) := dk_181 0 78 (dk_at dksX5_append_5 5 rfl rfl)
theorem dX5_append_125 : decode cX5_append 125 = .ok (.iinc 6 1, 3) := dk_132 6 1 (dk_at dksX5_append_5 8 rfl rfl)
theorem dX5_append_128 : decode cX5_append 128 = .ok (.goto (-94), 3) := dk_167 255 162 (dk_at dksX5_append_5 11 rfl rfl)
theorem dX5_append_131 : decode cX5_append 131 = .ok (.aload_n 0, 1) := dk_42 (dk_at dksX5_append_5 14 rfl rfl)
theorem dX5_append_132 : decode cX5_append 132 = .ok (.getfield 78, 3) := dk_180 0 78 (dk_at dksX5_append_5 15 rfl rfl)
theorem dX5_append_135 : decode cX5_append 135 = .ok (.ireturn, 1) := dk_172 (dk_at dksX5_append_5 18 rfl rfl)
abbrev cX5_load : ByteArray := prog_12_method_25_code
def yX5_load : MethodName := ⟨RX5, "load", "(I)I"⟩
def dkwX5_load_5 : List UInt8 := [180, 0, 13, 3, 182, 0, 61, 42, 180, 0, 7, 4, 46, 172]
abbrev dktX5_load_5 : List UInt8 := dkwX5_load_5 ++ []
def dkwX5_load_4 : List UInt8 := [180, 0, 120, 181, 0, 29, 42, 180, 0, 107, 153, 0, 8, 42, 180, 0, 107, 172, 42, 182, 0, 75, 42, 42]
abbrev dktX5_load_4 : List UInt8 := dkwX5_load_4 ++ dktX5_load_5
def dkwX5_load_3 : List UInt8 := [159, 0, 10, 42, 182, 0, 170, 167, 255, 237, 42, 42, 180, 0, 107, 154, 0, 7, 2, 167, 0, 7, 42]
abbrev dktX5_load_3 : List UInt8 := dkwX5_load_3 ++ dktX5_load_4
def dkwX5_load_2 : List UInt8 := [3, 181, 0, 107, 42, 182, 0, 127, 42, 182, 0, 167, 42, 180, 0, 107, 154, 0, 18, 42, 180, 0, 94, 6]
abbrev dktX5_load_2 : List UInt8 := dkwX5_load_2 ++ dktX5_load_3
def dkwX5_load_1 : List UInt8 := [180, 0, 65, 158, 0, 5, 3, 172, 42, 27, 181, 0, 81, 42, 3, 181, 0, 78, 42, 3, 181, 0, 84, 42]
abbrev dktX5_load_1 : List UInt8 := dkwX5_load_1 ++ dktX5_load_2
def dkwX5_load_0 : List UInt8 := [42, 27, 3, 42, 180, 0, 78, 184, 0, 71, 153, 0, 7, 3, 167, 0, 4, 4, 181, 0, 65, 42]
abbrev dktX5_load_0 : List UInt8 := dkwX5_load_0 ++ dktX5_load_1
theorem dksX5_load_0 : cX5_load.data.toList.drop 0 = dktX5_load_0 := by decide +kernel
theorem dksX5_load_1 : cX5_load.data.toList.drop 22 = dktX5_load_1 := dk_seg dksX5_load_0 22 rfl rfl
theorem dksX5_load_2 : cX5_load.data.toList.drop 46 = dktX5_load_2 := dk_seg dksX5_load_1 24 rfl rfl
theorem dksX5_load_3 : cX5_load.data.toList.drop 70 = dktX5_load_3 := dk_seg dksX5_load_2 24 rfl rfl
theorem dksX5_load_4 : cX5_load.data.toList.drop 93 = dktX5_load_4 := dk_seg dksX5_load_3 23 rfl rfl
theorem dksX5_load_5 : cX5_load.data.toList.drop 117 = dktX5_load_5 := dk_seg dksX5_load_4 24 rfl rfl
theorem dX5_load_0 : decode cX5_load 0 = .ok (.aload_n 0, 1) := dk_42 (dk_at dksX5_load_0 0 rfl rfl)
theorem dX5_load_1 : decode cX5_load 1 = .ok (.iload_n 1, 1) := dk_27 (dk_at dksX5_load_0 1 rfl rfl)
theorem dX5_load_2 : decode cX5_load 2 = .ok (.iconst 0, 1) := dk_3 (dk_at dksX5_load_0 2 rfl rfl)
theorem dX5_load_3 : decode cX5_load 3 = .ok (.aload_n 0, 1) := dk_42 (dk_at dksX5_load_0 3 rfl rfl)
theorem dX5_load_4 : decode cX5_load 4 = .ok (.getfield 78, 3) := dk_180 0 78 (dk_at dksX5_load_0 4 rfl rfl)
theorem dX5_load_7 : decode cX5_load 7 = .ok (.invokestatic 71, 3) := dk_184 0 71 (dk_at dksX5_load_0 7 rfl rfl)
theorem dX5_load_10 : decode cX5_load 10 = .ok (.ifCond .eq 7, 3) := dk_153 0 7 (dk_at dksX5_load_0 10 rfl rfl)
theorem dX5_load_13 : decode cX5_load 13 = .ok (.iconst 0, 1) := dk_3 (dk_at dksX5_load_0 13 rfl rfl)
theorem dX5_load_14 : decode cX5_load 14 = .ok (.goto 4, 3) := dk_167 0 4 (dk_at dksX5_load_0 14 rfl rfl)
theorem dX5_load_17 : decode cX5_load 17 = .ok (.iconst 1, 1) := dk_4 (dk_at dksX5_load_0 17 rfl rfl)
theorem dX5_load_18 : decode cX5_load 18 = .ok (.putfield 65, 3) := dk_181 0 65 (dk_at dksX5_load_0 18 rfl rfl)
theorem dX5_load_21 : decode cX5_load 21 = .ok (.aload_n 0, 1) := dk_42 (dk_at dksX5_load_0 21 rfl rfl)
theorem dX5_load_22 : decode cX5_load 22 = .ok (.getfield 65, 3) := dk_180 0 65 (dk_at dksX5_load_1 0 rfl rfl)
theorem dX5_load_25 : decode cX5_load 25 = .ok (.ifCond .le 5, 3) := dk_158 0 5 (dk_at dksX5_load_1 3 rfl rfl)
theorem dX5_load_28 : decode cX5_load 28 = .ok (.iconst 0, 1) := dk_3 (dk_at dksX5_load_1 6 rfl rfl)
theorem dX5_load_29 : decode cX5_load 29 = .ok (.ireturn, 1) := dk_172 (dk_at dksX5_load_1 7 rfl rfl)
theorem dX5_load_30 : decode cX5_load 30 = .ok (.aload_n 0, 1) := dk_42 (dk_at dksX5_load_1 8 rfl rfl)
theorem dX5_load_31 : decode cX5_load 31 = .ok (.iload_n 1, 1) := dk_27 (dk_at dksX5_load_1 9 rfl rfl)
theorem dX5_load_32 : decode cX5_load 32 = .ok (.putfield 81, 3) := dk_181 0 81 (dk_at dksX5_load_1 10 rfl rfl)
theorem dX5_load_35 : decode cX5_load 35 = .ok (.aload_n 0, 1) := dk_42 (dk_at dksX5_load_1 13 rfl rfl)
theorem dX5_load_36 : decode cX5_load 36 = .ok (.iconst 0, 1) := dk_3 (dk_at dksX5_load_1 14 rfl rfl)
theorem dX5_load_37 : decode cX5_load 37 = .ok (.putfield 78, 3) := dk_181 0 78 (dk_at dksX5_load_1 15 rfl rfl)
theorem dX5_load_40 : decode cX5_load 40 = .ok (.aload_n 0, 1) := dk_42 (dk_at dksX5_load_1 18 rfl rfl)
theorem dX5_load_41 : decode cX5_load 41 = .ok (.iconst 0, 1) := dk_3 (dk_at dksX5_load_1 19 rfl rfl)
theorem dX5_load_42 : decode cX5_load 42 = .ok (.putfield 84, 3) := dk_181 0 84 (dk_at dksX5_load_1 20 rfl rfl)
theorem dX5_load_45 : decode cX5_load 45 = .ok (.aload_n 0, 1) := dk_42 (dk_at dksX5_load_1 23 rfl rfl)
theorem dX5_load_46 : decode cX5_load 46 = .ok (.iconst 0, 1) := dk_3 (dk_at dksX5_load_2 0 rfl rfl)
theorem dX5_load_47 : decode cX5_load 47 = .ok (.putfield 107, 3) := dk_181 0 107 (dk_at dksX5_load_2 1 rfl rfl)
theorem dX5_load_50 : decode cX5_load 50 = .ok (.aload_n 0, 1) := dk_42 (dk_at dksX5_load_2 4 rfl rfl)
theorem dX5_load_51 : decode cX5_load 51 = .ok (.invokevirtual 127, 3) := dk_182 0 127 (dk_at dksX5_load_2 5 rfl rfl)
theorem dX5_load_54 : decode cX5_load 54 = .ok (.aload_n 0, 1) := dk_42 (dk_at dksX5_load_2 8 rfl rfl)
theorem dX5_load_55 : decode cX5_load 55 = .ok (.invokevirtual 167, 3) := dk_182 0 167 (dk_at dksX5_load_2 9 rfl rfl)
theorem dX5_load_58 : decode cX5_load 58 = .ok (.aload_n 0, 1) := dk_42 (dk_at dksX5_load_2 12 rfl rfl)
theorem dX5_load_59 : decode cX5_load 59 = .ok (.getfield 107, 3) := dk_180 0 107 (dk_at dksX5_load_2 13 rfl rfl)
theorem dX5_load_62 : decode cX5_load 62 = .ok (.ifCond .ne 18, 3) := dk_154 0 18 (dk_at dksX5_load_2 16 rfl rfl)
theorem dX5_load_65 : decode cX5_load 65 = .ok (.aload_n 0, 1) := dk_42 (dk_at dksX5_load_2 19 rfl rfl)
theorem dX5_load_66 : decode cX5_load 66 = .ok (.getfield 94, 3) := dk_180 0 94 (dk_at dksX5_load_2 20 rfl rfl)
theorem dX5_load_69 : decode cX5_load 69 = .ok (.iconst 3, 1) := dk_6 (dk_at dksX5_load_2 23 rfl rfl)
theorem dX5_load_70 : decode cX5_load 70 = .ok (.if_icmp .eq 10, 3) := dk_159 0 10 (dk_at dksX5_load_3 0 rfl rfl)
theorem dX5_load_73 : decode cX5_load 73 = .ok (.aload_n 0, 1) := dk_42 (dk_at dksX5_load_3 3 rfl rfl)
theorem dX5_load_74 : decode cX5_load 74 = .ok (.invokevirtual 170, 3) := dk_182 0 170 (dk_at dksX5_load_3 4 rfl rfl)
theorem dX5_load_77 : decode cX5_load 77 = .ok (.goto (-19), 3) := dk_167 255 237 (dk_at dksX5_load_3 7 rfl rfl)
theorem dX5_load_80 : decode cX5_load 80 = .ok (.aload_n 0, 1) := dk_42 (dk_at dksX5_load_3 10 rfl rfl)
theorem dX5_load_81 : decode cX5_load 81 = .ok (.aload_n 0, 1) := dk_42 (dk_at dksX5_load_3 11 rfl rfl)
theorem dX5_load_82 : decode cX5_load 82 = .ok (.getfield 107, 3) := dk_180 0 107 (dk_at dksX5_load_3 12 rfl rfl)
theorem dX5_load_85 : decode cX5_load 85 = .ok (.ifCond .ne 7, 3) := dk_154 0 7 (dk_at dksX5_load_3 15 rfl rfl)
theorem dX5_load_88 : decode cX5_load 88 = .ok (.iconst (-1), 1) := dk_2 (dk_at dksX5_load_3 18 rfl rfl)
theorem dX5_load_89 : decode cX5_load 89 = .ok (.goto 7, 3) := dk_167 0 7 (dk_at dksX5_load_3 19 rfl rfl)
theorem dX5_load_92 : decode cX5_load 92 = .ok (.aload_n 0, 1) := dk_42 (dk_at dksX5_load_3 22 rfl rfl)
theorem dX5_load_93 : decode cX5_load 93 = .ok (.getfield 120, 3) := dk_180 0 120 (dk_at dksX5_load_4 0 rfl rfl)
theorem dX5_load_96 : decode cX5_load 96 = .ok (.putfield 29, 3) := dk_181 0 29 (dk_at dksX5_load_4 3 rfl rfl)
theorem dX5_load_99 : decode cX5_load 99 = .ok (.aload_n 0, 1) := dk_42 (dk_at dksX5_load_4 6 rfl rfl)
theorem dX5_load_100 : decode cX5_load 100 = .ok (.getfield 107, 3) := dk_180 0 107 (dk_at dksX5_load_4 7 rfl rfl)
theorem dX5_load_103 : decode cX5_load 103 = .ok (.ifCond .eq 8, 3) := dk_153 0 8 (dk_at dksX5_load_4 10 rfl rfl)
theorem dX5_load_106 : decode cX5_load 106 = .ok (.aload_n 0, 1) := dk_42 (dk_at dksX5_load_4 13 rfl rfl)
theorem dX5_load_107 : decode cX5_load 107 = .ok (.getfield 107, 3) := dk_180 0 107 (dk_at dksX5_load_4 14 rfl rfl)
theorem dX5_load_110 : decode cX5_load 110 = .ok (.ireturn, 1) := dk_172 (dk_at dksX5_load_4 17 rfl rfl)
theorem dX5_load_111 : decode cX5_load 111 = .ok (.aload_n 0, 1) := dk_42 (dk_at dksX5_load_4 18 rfl rfl)
theorem dX5_load_112 : decode cX5_load 112 = .ok (.invokevirtual 75, 3) := dk_182 0 75 (dk_at dksX5_load_4 19 rfl rfl)
theorem dX5_load_115 : decode cX5_load 115 = .ok (.aload_n 0, 1) := dk_42 (dk_at dksX5_load_4 22 rfl rfl)
theorem dX5_load_116 : decode cX5_load 116 = .ok (.aload_n 0, 1) := dk_42 (dk_at dksX5_load_4 23 rfl rfl)
theorem dX5_load_117 : decode cX5_load 117 = .ok (.getfield 13, 3) := dk_180 0 13 (dk_at dksX5_load_5 0 rfl rfl)
theorem dX5_load_120 : decode cX5_load 120 = .ok (.iconst 0, 1) := dk_3 (dk_at dksX5_load_5 3 rfl rfl)
theorem dX5_load_121 : decode cX5_load 121 = .ok (.invokevirtual 61, 3) := dk_182 0 61 (dk_at dksX5_load_5 4 rfl rfl)
theorem dX5_load_124 : decode cX5_load 124 = .ok (.aload_n 0, 1) := dk_42 (dk_at dksX5_load_5 7 rfl rfl)
theorem dX5_load_125 : decode cX5_load 125 = .ok (.getfield 7, 3) := dk_180 0 7 (dk_at dksX5_load_5 8 rfl rfl)
theorem dX5_load_128 : decode cX5_load 128 = .ok (.iconst 1, 1) := dk_4 (dk_at dksX5_load_5 11 rfl rfl)
theorem dX5_load_129 : decode cX5_load 129 = .ok (.iaload, 1) := dk_46 (dk_at dksX5_load_5 12 rfl rfl)
theorem dX5_load_130 : decode cX5_load 130 = .ok (.ireturn, 1) := dk_172 (dk_at dksX5_load_5 13 rfl rfl)
abbrev cX5_next : ByteArray := prog_12_method_14_code
def yX5_next : MethodName := ⟨RX5, "next", "()V"⟩
def dkwX5_next_9 : List UInt8 := [42, 5, 181, 0, 94, 177]
abbrev dktX5_next_9 : List UInt8 := dkwX5_next_9 ++ []
def dkwX5_next_8 : List UInt8 := [181, 0, 84, 167, 255, 199, 42, 4, 181, 0, 94, 167, 0, 18, 42, 89, 180, 0, 84, 4, 96, 181, 0, 84]
abbrev dktX5_next_8 : List UInt8 := dkwX5_next_8 ++ dktX5_next_9
def dkwX5_next_7 : List UInt8 := [42, 42, 180, 0, 84, 182, 0, 90, 96, 16, 48, 100, 181, 0, 104, 42, 89, 180, 0, 84, 4, 96]
abbrev dktX5_next_7 : List UInt8 := dkwX5_next_7 ++ dktX5_next_8
def dkwX5_next_6 : List UInt8 := [184, 0, 101, 153, 0, 49, 42, 180, 0, 104, 17, 3, 232, 162, 0, 26, 42, 16, 10, 42, 180, 0, 104, 104]
abbrev dktX5_next_6 : List UInt8 := dkwX5_next_6 ++ dktX5_next_7
def dkwX5_next_5 : List UInt8 := [182, 0, 90, 184, 0, 101, 153, 0, 76, 42, 3, 181, 0, 104, 42, 42, 180, 0, 84, 182, 0, 90]
abbrev dktX5_next_5 : List UInt8 := dkwX5_next_5 ++ dktX5_next_6
def dkwX5_next_4 : List UInt8 := [180, 0, 84, 4, 96, 181, 0, 84, 167, 255, 232, 42, 3, 181, 0, 94, 167, 0, 105, 42, 42, 180, 0, 87]
abbrev dktX5_next_4 : List UInt8 := dkwX5_next_4 ++ dktX5_next_5
def dkwX5_next_3 : List UInt8 := [184, 0, 97, 153, 0, 38, 42, 42, 180, 0, 84, 182, 0, 90, 184, 0, 97, 153, 0, 16, 42, 89]
abbrev dktX5_next_3 : List UInt8 := dkwX5_next_3 ++ dktX5_next_4
def dkwX5_next_2 : List UInt8 := [180, 0, 81, 161, 0, 11, 42, 6, 181, 0, 94, 167, 0, 154, 42, 42, 180, 0, 87, 182, 0, 90]
abbrev dktX5_next_2 : List UInt8 := dkwX5_next_2 ++ dktX5_next_3
def dkwX5_next_1 : List UInt8 := [180, 0, 87, 4, 96, 181, 0, 87, 167, 255, 233, 42, 42, 180, 0, 87, 181, 0, 84, 42, 180, 0, 87, 42]
abbrev dktX5_next_1 : List UInt8 := dkwX5_next_1 ++ dktX5_next_2
def dkwX5_next_0 : List UInt8 := [42, 42, 180, 0, 84, 181, 0, 87, 42, 42, 180, 0, 87, 182, 0, 90, 16, 32, 160, 0, 16, 42, 89]
abbrev dktX5_next_0 : List UInt8 := dkwX5_next_0 ++ dktX5_next_1
theorem dksX5_next_0 : cX5_next.data.toList.drop 0 = dktX5_next_0 := by decide +kernel
theorem dksX5_next_1 : cX5_next.data.toList.drop 23 = dktX5_next_1 := dk_seg dksX5_next_0 23 rfl rfl
theorem dksX5_next_2 : cX5_next.data.toList.drop 47 = dktX5_next_2 := dk_seg dksX5_next_1 24 rfl rfl
theorem dksX5_next_3 : cX5_next.data.toList.drop 69 = dktX5_next_3 := dk_seg dksX5_next_2 22 rfl rfl
theorem dksX5_next_4 : cX5_next.data.toList.drop 91 = dktX5_next_4 := dk_seg dksX5_next_3 22 rfl rfl
theorem dksX5_next_5 : cX5_next.data.toList.drop 115 = dktX5_next_5 := dk_seg dksX5_next_4 24 rfl rfl
theorem dksX5_next_6 : cX5_next.data.toList.drop 137 = dktX5_next_6 := dk_seg dksX5_next_5 22 rfl rfl
theorem dksX5_next_7 : cX5_next.data.toList.drop 161 = dktX5_next_7 := dk_seg dksX5_next_6 24 rfl rfl
theorem dksX5_next_8 : cX5_next.data.toList.drop 183 = dktX5_next_8 := dk_seg dksX5_next_7 22 rfl rfl
theorem dksX5_next_9 : cX5_next.data.toList.drop 207 = dktX5_next_9 := dk_seg dksX5_next_8 24 rfl rfl
theorem dX5_next_0 : decode cX5_next 0 = .ok (.aload_n 0, 1) := dk_42 (dk_at dksX5_next_0 0 rfl rfl)
theorem dX5_next_1 : decode cX5_next 1 = .ok (.aload_n 0, 1) := dk_42 (dk_at dksX5_next_0 1 rfl rfl)
theorem dX5_next_2 : decode cX5_next 2 = .ok (.getfield 84, 3) := dk_180 0 84 (dk_at dksX5_next_0 2 rfl rfl)
theorem dX5_next_5 : decode cX5_next 5 = .ok (.putfield 87, 3) := dk_181 0 87 (dk_at dksX5_next_0 5 rfl rfl)
theorem dX5_next_8 : decode cX5_next 8 = .ok (.aload_n 0, 1) := dk_42 (dk_at dksX5_next_0 8 rfl rfl)
theorem dX5_next_9 : decode cX5_next 9 = .ok (.aload_n 0, 1) := dk_42 (dk_at dksX5_next_0 9 rfl rfl)
theorem dX5_next_10 : decode cX5_next 10 = .ok (.getfield 87, 3) := dk_180 0 87 (dk_at dksX5_next_0 10 rfl rfl)
theorem dX5_next_13 : decode cX5_next 13 = .ok (.invokevirtual 90, 3) := dk_182 0 90 (dk_at dksX5_next_0 13 rfl rfl)
theorem dX5_next_16 : decode cX5_next 16 = .ok (.bipush 32, 2) := dk_16 32 (dk_at dksX5_next_0 16 rfl rfl)
theorem dX5_next_18 : decode cX5_next 18 = .ok (.if_icmp .ne 16, 3) := dk_160 0 16 (dk_at dksX5_next_0 18 rfl rfl)
theorem dX5_next_21 : decode cX5_next 21 = .ok (.aload_n 0, 1) := dk_42 (dk_at dksX5_next_0 21 rfl rfl)
theorem dX5_next_22 : decode cX5_next 22 = .ok (.dup, 1) := dk_89 (dk_at dksX5_next_0 22 rfl rfl)
theorem dX5_next_23 : decode cX5_next 23 = .ok (.getfield 87, 3) := dk_180 0 87 (dk_at dksX5_next_1 0 rfl rfl)
theorem dX5_next_26 : decode cX5_next 26 = .ok (.iconst 1, 1) := dk_4 (dk_at dksX5_next_1 3 rfl rfl)
theorem dX5_next_27 : decode cX5_next 27 = .ok (.iadd, 1) := dk_96 (dk_at dksX5_next_1 4 rfl rfl)
theorem dX5_next_28 : decode cX5_next 28 = .ok (.putfield 87, 3) := dk_181 0 87 (dk_at dksX5_next_1 5 rfl rfl)
theorem dX5_next_31 : decode cX5_next 31 = .ok (.goto (-23), 3) := dk_167 255 233 (dk_at dksX5_next_1 8 rfl rfl)
theorem dX5_next_34 : decode cX5_next 34 = .ok (.aload_n 0, 1) := dk_42 (dk_at dksX5_next_1 11 rfl rfl)
theorem dX5_next_35 : decode cX5_next 35 = .ok (.aload_n 0, 1) := dk_42 (dk_at dksX5_next_1 12 rfl rfl)
theorem dX5_next_36 : decode cX5_next 36 = .ok (.getfield 87, 3) := dk_180 0 87 (dk_at dksX5_next_1 13 rfl rfl)
theorem dX5_next_39 : decode cX5_next 39 = .ok (.putfield 84, 3) := dk_181 0 84 (dk_at dksX5_next_1 16 rfl rfl)
theorem dX5_next_42 : decode cX5_next 42 = .ok (.aload_n 0, 1) := dk_42 (dk_at dksX5_next_1 19 rfl rfl)
theorem dX5_next_43 : decode cX5_next 43 = .ok (.getfield 87, 3) := dk_180 0 87 (dk_at dksX5_next_1 20 rfl rfl)
theorem dX5_next_46 : decode cX5_next 46 = .ok (.aload_n 0, 1) := dk_42 (dk_at dksX5_next_1 23 rfl rfl)
theorem dX5_next_47 : decode cX5_next 47 = .ok (.getfield 81, 3) := dk_180 0 81 (dk_at dksX5_next_2 0 rfl rfl)
theorem dX5_next_50 : decode cX5_next 50 = .ok (.if_icmp .lt 11, 3) := dk_161 0 11 (dk_at dksX5_next_2 3 rfl rfl)
theorem dX5_next_53 : decode cX5_next 53 = .ok (.aload_n 0, 1) := dk_42 (dk_at dksX5_next_2 6 rfl rfl)
theorem dX5_next_54 : decode cX5_next 54 = .ok (.iconst 3, 1) := dk_6 (dk_at dksX5_next_2 7 rfl rfl)
theorem dX5_next_55 : decode cX5_next 55 = .ok (.putfield 94, 3) := dk_181 0 94 (dk_at dksX5_next_2 8 rfl rfl)
theorem dX5_next_58 : decode cX5_next 58 = .ok (.goto 154, 3) := dk_167 0 154 (dk_at dksX5_next_2 11 rfl rfl)
theorem dX5_next_61 : decode cX5_next 61 = .ok (.aload_n 0, 1) := dk_42 (dk_at dksX5_next_2 14 rfl rfl)
theorem dX5_next_62 : decode cX5_next 62 = .ok (.aload_n 0, 1) := dk_42 (dk_at dksX5_next_2 15 rfl rfl)
theorem dX5_next_63 : decode cX5_next 63 = .ok (.getfield 87, 3) := dk_180 0 87 (dk_at dksX5_next_2 16 rfl rfl)
theorem dX5_next_66 : decode cX5_next 66 = .ok (.invokevirtual 90, 3) := dk_182 0 90 (dk_at dksX5_next_2 19 rfl rfl)
theorem dX5_next_69 : decode cX5_next 69 = .ok (.invokestatic 97, 3) := dk_184 0 97 (dk_at dksX5_next_3 0 rfl rfl)
theorem dX5_next_72 : decode cX5_next 72 = .ok (.ifCond .eq 38, 3) := dk_153 0 38 (dk_at dksX5_next_3 3 rfl rfl)
theorem dX5_next_75 : decode cX5_next 75 = .ok (.aload_n 0, 1) := dk_42 (dk_at dksX5_next_3 6 rfl rfl)
theorem dX5_next_76 : decode cX5_next 76 = .ok (.aload_n 0, 1) := dk_42 (dk_at dksX5_next_3 7 rfl rfl)
theorem dX5_next_77 : decode cX5_next 77 = .ok (.getfield 84, 3) := dk_180 0 84 (dk_at dksX5_next_3 8 rfl rfl)
theorem dX5_next_80 : decode cX5_next 80 = .ok (.invokevirtual 90, 3) := dk_182 0 90 (dk_at dksX5_next_3 11 rfl rfl)
theorem dX5_next_83 : decode cX5_next 83 = .ok (.invokestatic 97, 3) := dk_184 0 97 (dk_at dksX5_next_3 14 rfl rfl)
theorem dX5_next_86 : decode cX5_next 86 = .ok (.ifCond .eq 16, 3) := dk_153 0 16 (dk_at dksX5_next_3 17 rfl rfl)
theorem dX5_next_89 : decode cX5_next 89 = .ok (.aload_n 0, 1) := dk_42 (dk_at dksX5_next_3 20 rfl rfl)
theorem dX5_next_90 : decode cX5_next 90 = .ok (.dup, 1) := dk_89 (dk_at dksX5_next_3 21 rfl rfl)
theorem dX5_next_91 : decode cX5_next 91 = .ok (.getfield 84, 3) := dk_180 0 84 (dk_at dksX5_next_4 0 rfl rfl)
theorem dX5_next_94 : decode cX5_next 94 = .ok (.iconst 1, 1) := dk_4 (dk_at dksX5_next_4 3 rfl rfl)
theorem dX5_next_95 : decode cX5_next 95 = .ok (.iadd, 1) := dk_96 (dk_at dksX5_next_4 4 rfl rfl)
theorem dX5_next_96 : decode cX5_next 96 = .ok (.putfield 84, 3) := dk_181 0 84 (dk_at dksX5_next_4 5 rfl rfl)
theorem dX5_next_99 : decode cX5_next 99 = .ok (.goto (-24), 3) := dk_167 255 232 (dk_at dksX5_next_4 8 rfl rfl)
theorem dX5_next_102 : decode cX5_next 102 = .ok (.aload_n 0, 1) := dk_42 (dk_at dksX5_next_4 11 rfl rfl)
theorem dX5_next_103 : decode cX5_next 103 = .ok (.iconst 0, 1) := dk_3 (dk_at dksX5_next_4 12 rfl rfl)
theorem dX5_next_104 : decode cX5_next 104 = .ok (.putfield 94, 3) := dk_181 0 94 (dk_at dksX5_next_4 13 rfl rfl)
theorem dX5_next_107 : decode cX5_next 107 = .ok (.goto 105, 3) := dk_167 0 105 (dk_at dksX5_next_4 16 rfl rfl)
theorem dX5_next_110 : decode cX5_next 110 = .ok (.aload_n 0, 1) := dk_42 (dk_at dksX5_next_4 19 rfl rfl)
theorem dX5_next_111 : decode cX5_next 111 = .ok (.aload_n 0, 1) := dk_42 (dk_at dksX5_next_4 20 rfl rfl)
theorem dX5_next_112 : decode cX5_next 112 = .ok (.getfield 87, 3) := dk_180 0 87 (dk_at dksX5_next_4 21 rfl rfl)
theorem dX5_next_115 : decode cX5_next 115 = .ok (.invokevirtual 90, 3) := dk_182 0 90 (dk_at dksX5_next_5 0 rfl rfl)
theorem dX5_next_118 : decode cX5_next 118 = .ok (.invokestatic 101, 3) := dk_184 0 101 (dk_at dksX5_next_5 3 rfl rfl)
theorem dX5_next_121 : decode cX5_next 121 = .ok (.ifCond .eq 76, 3) := dk_153 0 76 (dk_at dksX5_next_5 6 rfl rfl)
theorem dX5_next_124 : decode cX5_next 124 = .ok (.aload_n 0, 1) := dk_42 (dk_at dksX5_next_5 9 rfl rfl)
theorem dX5_next_125 : decode cX5_next 125 = .ok (.iconst 0, 1) := dk_3 (dk_at dksX5_next_5 10 rfl rfl)
theorem dX5_next_126 : decode cX5_next 126 = .ok (.putfield 104, 3) := dk_181 0 104 (dk_at dksX5_next_5 11 rfl rfl)
theorem dX5_next_129 : decode cX5_next 129 = .ok (.aload_n 0, 1) := dk_42 (dk_at dksX5_next_5 14 rfl rfl)
theorem dX5_next_130 : decode cX5_next 130 = .ok (.aload_n 0, 1) := dk_42 (dk_at dksX5_next_5 15 rfl rfl)
theorem dX5_next_131 : decode cX5_next 131 = .ok (.getfield 84, 3) := dk_180 0 84 (dk_at dksX5_next_5 16 rfl rfl)
theorem dX5_next_134 : decode cX5_next 134 = .ok (.invokevirtual 90, 3) := dk_182 0 90 (dk_at dksX5_next_5 19 rfl rfl)
theorem dX5_next_137 : decode cX5_next 137 = .ok (.invokestatic 101, 3) := dk_184 0 101 (dk_at dksX5_next_6 0 rfl rfl)
theorem dX5_next_140 : decode cX5_next 140 = .ok (.ifCond .eq 49, 3) := dk_153 0 49 (dk_at dksX5_next_6 3 rfl rfl)
theorem dX5_next_143 : decode cX5_next 143 = .ok (.aload_n 0, 1) := dk_42 (dk_at dksX5_next_6 6 rfl rfl)
theorem dX5_next_144 : decode cX5_next 144 = .ok (.getfield 104, 3) := dk_180 0 104 (dk_at dksX5_next_6 7 rfl rfl)
theorem dX5_next_147 : decode cX5_next 147 = .ok (.sipush 1000, 3) := dk_17 3 232 (dk_at dksX5_next_6 10 rfl rfl)
theorem dX5_next_150 : decode cX5_next 150 = .ok (.if_icmp .ge 26, 3) := dk_162 0 26 (dk_at dksX5_next_6 13 rfl rfl)
theorem dX5_next_153 : decode cX5_next 153 = .ok (.aload_n 0, 1) := dk_42 (dk_at dksX5_next_6 16 rfl rfl)
theorem dX5_next_154 : decode cX5_next 154 = .ok (.bipush 10, 2) := dk_16 10 (dk_at dksX5_next_6 17 rfl rfl)
theorem dX5_next_156 : decode cX5_next 156 = .ok (.aload_n 0, 1) := dk_42 (dk_at dksX5_next_6 19 rfl rfl)
theorem dX5_next_157 : decode cX5_next 157 = .ok (.getfield 104, 3) := dk_180 0 104 (dk_at dksX5_next_6 20 rfl rfl)
theorem dX5_next_160 : decode cX5_next 160 = .ok (.imul, 1) := dk_104 (dk_at dksX5_next_6 23 rfl rfl)
theorem dX5_next_161 : decode cX5_next 161 = .ok (.aload_n 0, 1) := dk_42 (dk_at dksX5_next_7 0 rfl rfl)
theorem dX5_next_162 : decode cX5_next 162 = .ok (.aload_n 0, 1) := dk_42 (dk_at dksX5_next_7 1 rfl rfl)
theorem dX5_next_163 : decode cX5_next 163 = .ok (.getfield 84, 3) := dk_180 0 84 (dk_at dksX5_next_7 2 rfl rfl)
theorem dX5_next_166 : decode cX5_next 166 = .ok (.invokevirtual 90, 3) := dk_182 0 90 (dk_at dksX5_next_7 5 rfl rfl)
theorem dX5_next_169 : decode cX5_next 169 = .ok (.iadd, 1) := dk_96 (dk_at dksX5_next_7 8 rfl rfl)
theorem dX5_next_170 : decode cX5_next 170 = .ok (.bipush 48, 2) := dk_16 48 (dk_at dksX5_next_7 9 rfl rfl)
theorem dX5_next_172 : decode cX5_next 172 = .ok (.isub, 1) := dk_100 (dk_at dksX5_next_7 11 rfl rfl)
theorem dX5_next_173 : decode cX5_next 173 = .ok (.putfield 104, 3) := dk_181 0 104 (dk_at dksX5_next_7 12 rfl rfl)
theorem dX5_next_176 : decode cX5_next 176 = .ok (.aload_n 0, 1) := dk_42 (dk_at dksX5_next_7 15 rfl rfl)
theorem dX5_next_177 : decode cX5_next 177 = .ok (.dup, 1) := dk_89 (dk_at dksX5_next_7 16 rfl rfl)
theorem dX5_next_178 : decode cX5_next 178 = .ok (.getfield 84, 3) := dk_180 0 84 (dk_at dksX5_next_7 17 rfl rfl)
theorem dX5_next_181 : decode cX5_next 181 = .ok (.iconst 1, 1) := dk_4 (dk_at dksX5_next_7 20 rfl rfl)
theorem dX5_next_182 : decode cX5_next 182 = .ok (.iadd, 1) := dk_96 (dk_at dksX5_next_7 21 rfl rfl)
theorem dX5_next_183 : decode cX5_next 183 = .ok (.putfield 84, 3) := dk_181 0 84 (dk_at dksX5_next_8 0 rfl rfl)
theorem dX5_next_186 : decode cX5_next 186 = .ok (.goto (-57), 3) := dk_167 255 199 (dk_at dksX5_next_8 3 rfl rfl)
theorem dX5_next_189 : decode cX5_next 189 = .ok (.aload_n 0, 1) := dk_42 (dk_at dksX5_next_8 6 rfl rfl)
theorem dX5_next_190 : decode cX5_next 190 = .ok (.iconst 1, 1) := dk_4 (dk_at dksX5_next_8 7 rfl rfl)
theorem dX5_next_191 : decode cX5_next 191 = .ok (.putfield 94, 3) := dk_181 0 94 (dk_at dksX5_next_8 8 rfl rfl)
theorem dX5_next_194 : decode cX5_next 194 = .ok (.goto 18, 3) := dk_167 0 18 (dk_at dksX5_next_8 11 rfl rfl)
theorem dX5_next_197 : decode cX5_next 197 = .ok (.aload_n 0, 1) := dk_42 (dk_at dksX5_next_8 14 rfl rfl)
theorem dX5_next_198 : decode cX5_next 198 = .ok (.dup, 1) := dk_89 (dk_at dksX5_next_8 15 rfl rfl)
theorem dX5_next_199 : decode cX5_next 199 = .ok (.getfield 84, 3) := dk_180 0 84 (dk_at dksX5_next_8 16 rfl rfl)
theorem dX5_next_202 : decode cX5_next 202 = .ok (.iconst 1, 1) := dk_4 (dk_at dksX5_next_8 19 rfl rfl)
theorem dX5_next_203 : decode cX5_next 203 = .ok (.iadd, 1) := dk_96 (dk_at dksX5_next_8 20 rfl rfl)
theorem dX5_next_204 : decode cX5_next 204 = .ok (.putfield 84, 3) := dk_181 0 84 (dk_at dksX5_next_8 21 rfl rfl)
theorem dX5_next_207 : decode cX5_next 207 = .ok (.aload_n 0, 1) := dk_42 (dk_at dksX5_next_9 0 rfl rfl)
theorem dX5_next_208 : decode cX5_next 208 = .ok (.iconst 2, 1) := dk_5 (dk_at dksX5_next_9 1 rfl rfl)
theorem dX5_next_209 : decode cX5_next 209 = .ok (.putfield 94, 3) := dk_181 0 94 (dk_at dksX5_next_9 2 rfl rfl)
theorem dX5_next_212 : decode cX5_next 212 = .ok (.return_, 1) := dk_177 (dk_at dksX5_next_9 5 rfl rfl)
abbrev cX5_see : ByteArray := prog_12_method_11_code
def yX5_see : MethodName := ⟨RX5, "see", "(I)I"⟩
def dkwX5_see_0 : List UInt8 := [27, 42, 180, 0, 81, 162, 0, 12, 42, 180, 0, 26, 27, 46, 167, 0, 4, 2, 172]
abbrev dktX5_see_0 : List UInt8 := dkwX5_see_0 ++ []
theorem dksX5_see_0 : cX5_see.data.toList.drop 0 = dktX5_see_0 := by decide +kernel
theorem dX5_see_0 : decode cX5_see 0 = .ok (.iload_n 1, 1) := dk_27 (dk_at dksX5_see_0 0 rfl rfl)
theorem dX5_see_1 : decode cX5_see 1 = .ok (.aload_n 0, 1) := dk_42 (dk_at dksX5_see_0 1 rfl rfl)
theorem dX5_see_2 : decode cX5_see 2 = .ok (.getfield 81, 3) := dk_180 0 81 (dk_at dksX5_see_0 2 rfl rfl)
theorem dX5_see_5 : decode cX5_see 5 = .ok (.if_icmp .ge 12, 3) := dk_162 0 12 (dk_at dksX5_see_0 5 rfl rfl)
theorem dX5_see_8 : decode cX5_see 8 = .ok (.aload_n 0, 1) := dk_42 (dk_at dksX5_see_0 8 rfl rfl)
theorem dX5_see_9 : decode cX5_see 9 = .ok (.getfield 26, 3) := dk_180 0 26 (dk_at dksX5_see_0 9 rfl rfl)
theorem dX5_see_12 : decode cX5_see 12 = .ok (.iload_n 1, 1) := dk_27 (dk_at dksX5_see_0 12 rfl rfl)
theorem dX5_see_13 : decode cX5_see 13 = .ok (.iaload, 1) := dk_46 (dk_at dksX5_see_0 13 rfl rfl)
theorem dX5_see_14 : decode cX5_see 14 = .ok (.goto 4, 3) := dk_167 0 4 (dk_at dksX5_see_0 14 rfl rfl)
theorem dX5_see_17 : decode cX5_see 17 = .ok (.iconst (-1), 1) := dk_2 (dk_at dksX5_see_0 17 rfl rfl)
theorem dX5_see_18 : decode cX5_see 18 = .ok (.ireturn, 1) := dk_172 (dk_at dksX5_see_0 18 rfl rfl)
abbrev cX5_isLetter : ByteArray := prog_12_method_12_code
def yX5_isLetter : MethodName := ⟨RX5, "isLetter", "(I)Z"⟩
def dkwX5_isLetter_0 : List UInt8 := [26, 16, 97, 16, 122, 184, 0, 71, 172]
abbrev dktX5_isLetter_0 : List UInt8 := dkwX5_isLetter_0 ++ []
theorem dksX5_isLetter_0 : cX5_isLetter.data.toList.drop 0 = dktX5_isLetter_0 := by decide +kernel
theorem dX5_isLetter_0 : decode cX5_isLetter 0 = .ok (.iload_n 0, 1) := dk_26 (dk_at dksX5_isLetter_0 0 rfl rfl)
theorem dX5_isLetter_1 : decode cX5_isLetter 1 = .ok (.bipush 97, 2) := dk_16 97 (dk_at dksX5_isLetter_0 1 rfl rfl)
theorem dX5_isLetter_3 : decode cX5_isLetter 3 = .ok (.bipush 122, 2) := dk_16 122 (dk_at dksX5_isLetter_0 3 rfl rfl)
theorem dX5_isLetter_5 : decode cX5_isLetter 5 = .ok (.invokestatic 71, 3) := dk_184 0 71 (dk_at dksX5_isLetter_0 5 rfl rfl)
theorem dX5_isLetter_8 : decode cX5_isLetter 8 = .ok (.ireturn, 1) := dk_172 (dk_at dksX5_isLetter_0 8 rfl rfl)
abbrev cX5_isDigit : ByteArray := prog_12_method_13_code
def yX5_isDigit : MethodName := ⟨RX5, "isDigit", "(I)Z"⟩
def dkwX5_isDigit_0 : List UInt8 := [26, 16, 48, 16, 57, 184, 0, 71, 172]
abbrev dktX5_isDigit_0 : List UInt8 := dkwX5_isDigit_0 ++ []
theorem dksX5_isDigit_0 : cX5_isDigit.data.toList.drop 0 = dktX5_isDigit_0 := by decide +kernel
theorem dX5_isDigit_0 : decode cX5_isDigit 0 = .ok (.iload_n 0, 1) := dk_26 (dk_at dksX5_isDigit_0 0 rfl rfl)
theorem dX5_isDigit_1 : decode cX5_isDigit 1 = .ok (.bipush 48, 2) := dk_16 48 (dk_at dksX5_isDigit_0 1 rfl rfl)
theorem dX5_isDigit_3 : decode cX5_isDigit 3 = .ok (.bipush 57, 2) := dk_16 57 (dk_at dksX5_isDigit_0 3 rfl rfl)
theorem dX5_isDigit_5 : decode cX5_isDigit 5 = .ok (.invokestatic 71, 3) := dk_184 0 71 (dk_at dksX5_isDigit_0 5 rfl rfl)
theorem dX5_isDigit_8 : decode cX5_isDigit 8 = .ok (.ireturn, 1) := dk_172 (dk_at dksX5_isDigit_0 8 rfl rfl)
abbrev cX5_readsHead : ByteArray := prog_12_method_20_code
def yX5_readsHead : MethodName := ⟨RX5, "readsHead", "()V"⟩
def dkwX5_readsHead_4 : List UInt8 := [177]
abbrev dktX5_readsHead_4 : List UInt8 := dkwX5_readsHead_4 ++ []
def dkwX5_readsHead_3 : List UInt8 := [4, 16, 8, 182, 0, 143, 61, 42, 182, 0, 148, 42, 180, 0, 107, 154, 0, 9, 42, 27, 28, 182, 0, 57]
abbrev dktX5_readsHead_3 : List UInt8 := dkwX5_readsHead_3 ++ dktX5_readsHead_4
def dkwX5_readsHead_2 : List UInt8 := [16, 253, 182, 0, 123, 42, 6, 16, 97, 182, 0, 143, 60, 42, 42, 18, 147, 182, 0, 132, 182, 0, 136, 42]
abbrev dktX5_readsHead_2 : List UInt8 := dkwX5_readsHead_2 ++ dktX5_readsHead_3
def dkwX5_readsHead_1 : List UInt8 := [160, 0, 28, 42, 180, 0, 104, 16, 97, 163, 0, 13, 42, 180, 0, 104, 184, 0, 140, 154, 0, 9, 42]
abbrev dktX5_readsHead_1 : List UInt8 := dkwX5_readsHead_1 ++ dktX5_readsHead_2
def dkwX5_readsHead_0 : List UInt8 := [42, 42, 18, 130, 182, 0, 132, 182, 0, 136, 42, 180, 0, 107, 154, 0, 36, 42, 180, 0, 94, 4]
abbrev dktX5_readsHead_0 : List UInt8 := dkwX5_readsHead_0 ++ dktX5_readsHead_1
theorem dksX5_readsHead_0 : cX5_readsHead.data.toList.drop 0 = dktX5_readsHead_0 := by decide +kernel
theorem dksX5_readsHead_1 : cX5_readsHead.data.toList.drop 22 = dktX5_readsHead_1 := dk_seg dksX5_readsHead_0 22 rfl rfl
theorem dksX5_readsHead_2 : cX5_readsHead.data.toList.drop 45 = dktX5_readsHead_2 := dk_seg dksX5_readsHead_1 23 rfl rfl
theorem dksX5_readsHead_3 : cX5_readsHead.data.toList.drop 69 = dktX5_readsHead_3 := dk_seg dksX5_readsHead_2 24 rfl rfl
theorem dksX5_readsHead_4 : cX5_readsHead.data.toList.drop 93 = dktX5_readsHead_4 := dk_seg dksX5_readsHead_3 24 rfl rfl
theorem dX5_readsHead_0 : decode cX5_readsHead 0 = .ok (.aload_n 0, 1) := dk_42 (dk_at dksX5_readsHead_0 0 rfl rfl)
theorem dX5_readsHead_1 : decode cX5_readsHead 1 = .ok (.aload_n 0, 1) := dk_42 (dk_at dksX5_readsHead_0 1 rfl rfl)
theorem dX5_readsHead_2 : decode cX5_readsHead 2 = .ok (.ldc 130, 2) := dk_18 130 (dk_at dksX5_readsHead_0 2 rfl rfl)
theorem dX5_readsHead_4 : decode cX5_readsHead 4 = .ok (.invokevirtual 132, 3) := dk_182 0 132 (dk_at dksX5_readsHead_0 4 rfl rfl)
theorem dX5_readsHead_7 : decode cX5_readsHead 7 = .ok (.invokevirtual 136, 3) := dk_182 0 136 (dk_at dksX5_readsHead_0 7 rfl rfl)
theorem dX5_readsHead_10 : decode cX5_readsHead 10 = .ok (.aload_n 0, 1) := dk_42 (dk_at dksX5_readsHead_0 10 rfl rfl)
theorem dX5_readsHead_11 : decode cX5_readsHead 11 = .ok (.getfield 107, 3) := dk_180 0 107 (dk_at dksX5_readsHead_0 11 rfl rfl)
theorem dX5_readsHead_14 : decode cX5_readsHead 14 = .ok (.ifCond .ne 36, 3) := dk_154 0 36 (dk_at dksX5_readsHead_0 14 rfl rfl)
theorem dX5_readsHead_17 : decode cX5_readsHead 17 = .ok (.aload_n 0, 1) := dk_42 (dk_at dksX5_readsHead_0 17 rfl rfl)
theorem dX5_readsHead_18 : decode cX5_readsHead 18 = .ok (.getfield 94, 3) := dk_180 0 94 (dk_at dksX5_readsHead_0 18 rfl rfl)
theorem dX5_readsHead_21 : decode cX5_readsHead 21 = .ok (.iconst 1, 1) := dk_4 (dk_at dksX5_readsHead_0 21 rfl rfl)
theorem dX5_readsHead_22 : decode cX5_readsHead 22 = .ok (.if_icmp .ne 28, 3) := dk_160 0 28 (dk_at dksX5_readsHead_1 0 rfl rfl)
theorem dX5_readsHead_25 : decode cX5_readsHead 25 = .ok (.aload_n 0, 1) := dk_42 (dk_at dksX5_readsHead_1 3 rfl rfl)
theorem dX5_readsHead_26 : decode cX5_readsHead 26 = .ok (.getfield 104, 3) := dk_180 0 104 (dk_at dksX5_readsHead_1 4 rfl rfl)
theorem dX5_readsHead_29 : decode cX5_readsHead 29 = .ok (.bipush 97, 2) := dk_16 97 (dk_at dksX5_readsHead_1 7 rfl rfl)
theorem dX5_readsHead_31 : decode cX5_readsHead 31 = .ok (.if_icmp .gt 13, 3) := dk_163 0 13 (dk_at dksX5_readsHead_1 9 rfl rfl)
theorem dX5_readsHead_34 : decode cX5_readsHead 34 = .ok (.aload_n 0, 1) := dk_42 (dk_at dksX5_readsHead_1 12 rfl rfl)
theorem dX5_readsHead_35 : decode cX5_readsHead 35 = .ok (.getfield 104, 3) := dk_180 0 104 (dk_at dksX5_readsHead_1 13 rfl rfl)
theorem dX5_readsHead_38 : decode cX5_readsHead 38 = .ok (.invokestatic 140, 3) := dk_184 0 140 (dk_at dksX5_readsHead_1 16 rfl rfl)
theorem dX5_readsHead_41 : decode cX5_readsHead 41 = .ok (.ifCond .ne 9, 3) := dk_154 0 9 (dk_at dksX5_readsHead_1 19 rfl rfl)
theorem dX5_readsHead_44 : decode cX5_readsHead 44 = .ok (.aload_n 0, 1) := dk_42 (dk_at dksX5_readsHead_1 22 rfl rfl)
theorem dX5_readsHead_45 : decode cX5_readsHead 45 = .ok (.bipush (-3), 2) := dk_16 253 (dk_at dksX5_readsHead_2 0 rfl rfl)
theorem dX5_readsHead_47 : decode cX5_readsHead 47 = .ok (.invokevirtual 123, 3) := dk_182 0 123 (dk_at dksX5_readsHead_2 2 rfl rfl)
theorem dX5_readsHead_50 : decode cX5_readsHead 50 = .ok (.aload_n 0, 1) := dk_42 (dk_at dksX5_readsHead_2 5 rfl rfl)
theorem dX5_readsHead_51 : decode cX5_readsHead 51 = .ok (.iconst 3, 1) := dk_6 (dk_at dksX5_readsHead_2 6 rfl rfl)
theorem dX5_readsHead_52 : decode cX5_readsHead 52 = .ok (.bipush 97, 2) := dk_16 97 (dk_at dksX5_readsHead_2 7 rfl rfl)
theorem dX5_readsHead_54 : decode cX5_readsHead 54 = .ok (.invokevirtual 143, 3) := dk_182 0 143 (dk_at dksX5_readsHead_2 9 rfl rfl)
theorem dX5_readsHead_57 : decode cX5_readsHead 57 = .ok (.istore_n 1, 1) := dk_60 (dk_at dksX5_readsHead_2 12 rfl rfl)
theorem dX5_readsHead_58 : decode cX5_readsHead 58 = .ok (.aload_n 0, 1) := dk_42 (dk_at dksX5_readsHead_2 13 rfl rfl)
theorem dX5_readsHead_59 : decode cX5_readsHead 59 = .ok (.aload_n 0, 1) := dk_42 (dk_at dksX5_readsHead_2 14 rfl rfl)
theorem dX5_readsHead_60 : decode cX5_readsHead 60 = .ok (.ldc 147, 2) := dk_18 147 (dk_at dksX5_readsHead_2 15 rfl rfl)
theorem dX5_readsHead_62 : decode cX5_readsHead 62 = .ok (.invokevirtual 132, 3) := dk_182 0 132 (dk_at dksX5_readsHead_2 17 rfl rfl)
theorem dX5_readsHead_65 : decode cX5_readsHead 65 = .ok (.invokevirtual 136, 3) := dk_182 0 136 (dk_at dksX5_readsHead_2 20 rfl rfl)
theorem dX5_readsHead_68 : decode cX5_readsHead 68 = .ok (.aload_n 0, 1) := dk_42 (dk_at dksX5_readsHead_2 23 rfl rfl)
theorem dX5_readsHead_69 : decode cX5_readsHead 69 = .ok (.iconst 1, 1) := dk_4 (dk_at dksX5_readsHead_3 0 rfl rfl)
theorem dX5_readsHead_70 : decode cX5_readsHead 70 = .ok (.bipush 8, 2) := dk_16 8 (dk_at dksX5_readsHead_3 1 rfl rfl)
theorem dX5_readsHead_72 : decode cX5_readsHead 72 = .ok (.invokevirtual 143, 3) := dk_182 0 143 (dk_at dksX5_readsHead_3 3 rfl rfl)
theorem dX5_readsHead_75 : decode cX5_readsHead 75 = .ok (.istore_n 2, 1) := dk_61 (dk_at dksX5_readsHead_3 6 rfl rfl)
theorem dX5_readsHead_76 : decode cX5_readsHead 76 = .ok (.aload_n 0, 1) := dk_42 (dk_at dksX5_readsHead_3 7 rfl rfl)
theorem dX5_readsHead_77 : decode cX5_readsHead 77 = .ok (.invokevirtual 148, 3) := dk_182 0 148 (dk_at dksX5_readsHead_3 8 rfl rfl)
theorem dX5_readsHead_80 : decode cX5_readsHead 80 = .ok (.aload_n 0, 1) := dk_42 (dk_at dksX5_readsHead_3 11 rfl rfl)
theorem dX5_readsHead_81 : decode cX5_readsHead 81 = .ok (.getfield 107, 3) := dk_180 0 107 (dk_at dksX5_readsHead_3 12 rfl rfl)
theorem dX5_readsHead_84 : decode cX5_readsHead 84 = .ok (.ifCond .ne 9, 3) := dk_154 0 9 (dk_at dksX5_readsHead_3 15 rfl rfl)
theorem dX5_readsHead_87 : decode cX5_readsHead 87 = .ok (.aload_n 0, 1) := dk_42 (dk_at dksX5_readsHead_3 18 rfl rfl)
theorem dX5_readsHead_88 : decode cX5_readsHead 88 = .ok (.iload_n 1, 1) := dk_27 (dk_at dksX5_readsHead_3 19 rfl rfl)
theorem dX5_readsHead_89 : decode cX5_readsHead 89 = .ok (.iload_n 2, 1) := dk_28 (dk_at dksX5_readsHead_3 20 rfl rfl)
theorem dX5_readsHead_90 : decode cX5_readsHead 90 = .ok (.invokevirtual 57, 3) := dk_182 0 57 (dk_at dksX5_readsHead_3 21 rfl rfl)
theorem dX5_readsHead_93 : decode cX5_readsHead 93 = .ok (.return_, 1) := dk_177 (dk_at dksX5_readsHead_4 0 rfl rfl)
abbrev cX5_isWord : ByteArray := prog_12_method_15_code
def yX5_isWord : MethodName := ⟨RX5, "isWord", "(Ljava/lang/String;)Z"⟩
def dkwX5_isWord_2 : List UInt8 := [180, 0, 87, 28, 96, 46, 43, 28, 182, 0, 116, 159, 0, 5, 3, 172, 132, 2, 1, 167, 255, 224, 4, 172]
abbrev dktX5_isWord_2 : List UInt8 := dkwX5_isWord_2 ++ []
def dkwX5_isWord_1 : List UInt8 := [182, 0, 110, 159, 0, 5, 3, 172, 3, 61, 28, 43, 182, 0, 110, 162, 0, 30, 42, 180, 0, 26, 42]
abbrev dktX5_isWord_1 : List UInt8 := dkwX5_isWord_1 ++ dktX5_isWord_2
def dkwX5_isWord_0 : List UInt8 := [42, 180, 0, 107, 154, 0, 26, 42, 180, 0, 94, 154, 0, 19, 42, 180, 0, 84, 42, 180, 0, 87, 100, 43]
abbrev dktX5_isWord_0 : List UInt8 := dkwX5_isWord_0 ++ dktX5_isWord_1
theorem dksX5_isWord_0 : cX5_isWord.data.toList.drop 0 = dktX5_isWord_0 := by decide +kernel
theorem dksX5_isWord_1 : cX5_isWord.data.toList.drop 24 = dktX5_isWord_1 := dk_seg dksX5_isWord_0 24 rfl rfl
theorem dksX5_isWord_2 : cX5_isWord.data.toList.drop 47 = dktX5_isWord_2 := dk_seg dksX5_isWord_1 23 rfl rfl
theorem dX5_isWord_0 : decode cX5_isWord 0 = .ok (.aload_n 0, 1) := dk_42 (dk_at dksX5_isWord_0 0 rfl rfl)
theorem dX5_isWord_1 : decode cX5_isWord 1 = .ok (.getfield 107, 3) := dk_180 0 107 (dk_at dksX5_isWord_0 1 rfl rfl)
theorem dX5_isWord_4 : decode cX5_isWord 4 = .ok (.ifCond .ne 26, 3) := dk_154 0 26 (dk_at dksX5_isWord_0 4 rfl rfl)
theorem dX5_isWord_7 : decode cX5_isWord 7 = .ok (.aload_n 0, 1) := dk_42 (dk_at dksX5_isWord_0 7 rfl rfl)
theorem dX5_isWord_8 : decode cX5_isWord 8 = .ok (.getfield 94, 3) := dk_180 0 94 (dk_at dksX5_isWord_0 8 rfl rfl)
theorem dX5_isWord_11 : decode cX5_isWord 11 = .ok (.ifCond .ne 19, 3) := dk_154 0 19 (dk_at dksX5_isWord_0 11 rfl rfl)
theorem dX5_isWord_14 : decode cX5_isWord 14 = .ok (.aload_n 0, 1) := dk_42 (dk_at dksX5_isWord_0 14 rfl rfl)
theorem dX5_isWord_15 : decode cX5_isWord 15 = .ok (.getfield 84, 3) := dk_180 0 84 (dk_at dksX5_isWord_0 15 rfl rfl)
theorem dX5_isWord_18 : decode cX5_isWord 18 = .ok (.aload_n 0, 1) := dk_42 (dk_at dksX5_isWord_0 18 rfl rfl)
theorem dX5_isWord_19 : decode cX5_isWord 19 = .ok (.getfield 87, 3) := dk_180 0 87 (dk_at dksX5_isWord_0 19 rfl rfl)
theorem dX5_isWord_22 : decode cX5_isWord 22 = .ok (.isub, 1) := dk_100 (dk_at dksX5_isWord_0 22 rfl rfl)
theorem dX5_isWord_23 : decode cX5_isWord 23 = .ok (.aload_n 1, 1) := dk_43 (dk_at dksX5_isWord_0 23 rfl rfl)
theorem dX5_isWord_24 : decode cX5_isWord 24 = .ok (.invokevirtual 110, 3) := dk_182 0 110 (dk_at dksX5_isWord_1 0 rfl rfl)
theorem dX5_isWord_27 : decode cX5_isWord 27 = .ok (.if_icmp .eq 5, 3) := dk_159 0 5 (dk_at dksX5_isWord_1 3 rfl rfl)
theorem dX5_isWord_30 : decode cX5_isWord 30 = .ok (.iconst 0, 1) := dk_3 (dk_at dksX5_isWord_1 6 rfl rfl)
theorem dX5_isWord_31 : decode cX5_isWord 31 = .ok (.ireturn, 1) := dk_172 (dk_at dksX5_isWord_1 7 rfl rfl)
theorem dX5_isWord_32 : decode cX5_isWord 32 = .ok (.iconst 0, 1) := dk_3 (dk_at dksX5_isWord_1 8 rfl rfl)
theorem dX5_isWord_33 : decode cX5_isWord 33 = .ok (.istore_n 2, 1) := dk_61 (dk_at dksX5_isWord_1 9 rfl rfl)
theorem dX5_isWord_34 : decode cX5_isWord 34 = .ok (.iload_n 2, 1) := dk_28 (dk_at dksX5_isWord_1 10 rfl rfl)
theorem dX5_isWord_35 : decode cX5_isWord 35 = .ok (.aload_n 1, 1) := dk_43 (dk_at dksX5_isWord_1 11 rfl rfl)
theorem dX5_isWord_36 : decode cX5_isWord 36 = .ok (.invokevirtual 110, 3) := dk_182 0 110 (dk_at dksX5_isWord_1 12 rfl rfl)
theorem dX5_isWord_39 : decode cX5_isWord 39 = .ok (.if_icmp .ge 30, 3) := dk_162 0 30 (dk_at dksX5_isWord_1 15 rfl rfl)
theorem dX5_isWord_42 : decode cX5_isWord 42 = .ok (.aload_n 0, 1) := dk_42 (dk_at dksX5_isWord_1 18 rfl rfl)
theorem dX5_isWord_43 : decode cX5_isWord 43 = .ok (.getfield 26, 3) := dk_180 0 26 (dk_at dksX5_isWord_1 19 rfl rfl)
theorem dX5_isWord_46 : decode cX5_isWord 46 = .ok (.aload_n 0, 1) := dk_42 (dk_at dksX5_isWord_1 22 rfl rfl)
theorem dX5_isWord_47 : decode cX5_isWord 47 = .ok (.getfield 87, 3) := dk_180 0 87 (dk_at dksX5_isWord_2 0 rfl rfl)
theorem dX5_isWord_50 : decode cX5_isWord 50 = .ok (.iload_n 2, 1) := dk_28 (dk_at dksX5_isWord_2 3 rfl rfl)
theorem dX5_isWord_51 : decode cX5_isWord 51 = .ok (.iadd, 1) := dk_96 (dk_at dksX5_isWord_2 4 rfl rfl)
theorem dX5_isWord_52 : decode cX5_isWord 52 = .ok (.iaload, 1) := dk_46 (dk_at dksX5_isWord_2 5 rfl rfl)
theorem dX5_isWord_53 : decode cX5_isWord 53 = .ok (.aload_n 1, 1) := dk_43 (dk_at dksX5_isWord_2 6 rfl rfl)
theorem dX5_isWord_54 : decode cX5_isWord 54 = .ok (.iload_n 2, 1) := dk_28 (dk_at dksX5_isWord_2 7 rfl rfl)
theorem dX5_isWord_55 : decode cX5_isWord 55 = .ok (.invokevirtual 116, 3) := dk_182 0 116 (dk_at dksX5_isWord_2 8 rfl rfl)
theorem dX5_isWord_58 : decode cX5_isWord 58 = .ok (.if_icmp .eq 5, 3) := dk_159 0 5 (dk_at dksX5_isWord_2 11 rfl rfl)
theorem dX5_isWord_61 : decode cX5_isWord 61 = .ok (.iconst 0, 1) := dk_3 (dk_at dksX5_isWord_2 14 rfl rfl)
theorem dX5_isWord_62 : decode cX5_isWord 62 = .ok (.ireturn, 1) := dk_172 (dk_at dksX5_isWord_2 15 rfl rfl)
theorem dX5_isWord_63 : decode cX5_isWord 63 = .ok (.iinc 2 1, 3) := dk_132 2 1 (dk_at dksX5_isWord_2 16 rfl rfl)
theorem dX5_isWord_66 : decode cX5_isWord 66 = .ok (.goto (-32), 3) := dk_167 255 224 (dk_at dksX5_isWord_2 19 rfl rfl)
theorem dX5_isWord_69 : decode cX5_isWord 69 = .ok (.iconst 1, 1) := dk_4 (dk_at dksX5_isWord_2 22 rfl rfl)
theorem dX5_isWord_70 : decode cX5_isWord 70 = .ok (.ireturn, 1) := dk_172 (dk_at dksX5_isWord_2 23 rfl rfl)
abbrev cX5_must : ByteArray := prog_12_method_17_code
def yX5_must : MethodName := ⟨RX5, "must", "(Z)V"⟩
def dkwX5_must_0 : List UInt8 := [27, 154, 0, 9, 42, 16, 254, 182, 0, 123, 42, 180, 0, 107, 154, 0, 7, 42, 182, 0, 127, 177]
abbrev dktX5_must_0 : List UInt8 := dkwX5_must_0 ++ []
theorem dksX5_must_0 : cX5_must.data.toList.drop 0 = dktX5_must_0 := by decide +kernel
theorem dX5_must_0 : decode cX5_must 0 = .ok (.iload_n 1, 1) := dk_27 (dk_at dksX5_must_0 0 rfl rfl)
theorem dX5_must_1 : decode cX5_must 1 = .ok (.ifCond .ne 9, 3) := dk_154 0 9 (dk_at dksX5_must_0 1 rfl rfl)
theorem dX5_must_4 : decode cX5_must 4 = .ok (.aload_n 0, 1) := dk_42 (dk_at dksX5_must_0 4 rfl rfl)
theorem dX5_must_5 : decode cX5_must 5 = .ok (.bipush (-2), 2) := dk_16 254 (dk_at dksX5_must_0 5 rfl rfl)
theorem dX5_must_7 : decode cX5_must 7 = .ok (.invokevirtual 123, 3) := dk_182 0 123 (dk_at dksX5_must_0 7 rfl rfl)
theorem dX5_must_10 : decode cX5_must 10 = .ok (.aload_n 0, 1) := dk_42 (dk_at dksX5_must_0 10 rfl rfl)
theorem dX5_must_11 : decode cX5_must 11 = .ok (.getfield 107, 3) := dk_180 0 107 (dk_at dksX5_must_0 11 rfl rfl)
theorem dX5_must_14 : decode cX5_must 14 = .ok (.ifCond .ne 7, 3) := dk_154 0 7 (dk_at dksX5_must_0 14 rfl rfl)
theorem dX5_must_17 : decode cX5_must 17 = .ok (.aload_n 0, 1) := dk_42 (dk_at dksX5_must_0 17 rfl rfl)
theorem dX5_must_18 : decode cX5_must 18 = .ok (.invokevirtual 127, 3) := dk_182 0 127 (dk_at dksX5_must_0 18 rfl rfl)
theorem dX5_must_21 : decode cX5_must 21 = .ok (.return_, 1) := dk_177 (dk_at dksX5_must_0 21 rfl rfl)
abbrev cX5_fails : ByteArray := prog_12_method_16_code
def yX5_fails : MethodName := ⟨RX5, "fails", "(I)V"⟩
def dkwX5_fails_0 : List UInt8 := [42, 180, 0, 107, 153, 0, 4, 177, 42, 27, 181, 0, 107, 42, 42, 180, 0, 87, 181, 0, 120, 177]
abbrev dktX5_fails_0 : List UInt8 := dkwX5_fails_0 ++ []
theorem dksX5_fails_0 : cX5_fails.data.toList.drop 0 = dktX5_fails_0 := by decide +kernel
theorem dX5_fails_0 : decode cX5_fails 0 = .ok (.aload_n 0, 1) := dk_42 (dk_at dksX5_fails_0 0 rfl rfl)
theorem dX5_fails_1 : decode cX5_fails 1 = .ok (.getfield 107, 3) := dk_180 0 107 (dk_at dksX5_fails_0 1 rfl rfl)
theorem dX5_fails_4 : decode cX5_fails 4 = .ok (.ifCond .eq 4, 3) := dk_153 0 4 (dk_at dksX5_fails_0 4 rfl rfl)
theorem dX5_fails_7 : decode cX5_fails 7 = .ok (.return_, 1) := dk_177 (dk_at dksX5_fails_0 7 rfl rfl)
theorem dX5_fails_8 : decode cX5_fails 8 = .ok (.aload_n 0, 1) := dk_42 (dk_at dksX5_fails_0 8 rfl rfl)
theorem dX5_fails_9 : decode cX5_fails 9 = .ok (.iload_n 1, 1) := dk_27 (dk_at dksX5_fails_0 9 rfl rfl)
theorem dX5_fails_10 : decode cX5_fails 10 = .ok (.putfield 107, 3) := dk_181 0 107 (dk_at dksX5_fails_0 10 rfl rfl)
theorem dX5_fails_13 : decode cX5_fails 13 = .ok (.aload_n 0, 1) := dk_42 (dk_at dksX5_fails_0 13 rfl rfl)
theorem dX5_fails_14 : decode cX5_fails 14 = .ok (.aload_n 0, 1) := dk_42 (dk_at dksX5_fails_0 14 rfl rfl)
theorem dX5_fails_15 : decode cX5_fails 15 = .ok (.getfield 87, 3) := dk_180 0 87 (dk_at dksX5_fails_0 15 rfl rfl)
theorem dX5_fails_18 : decode cX5_fails 18 = .ok (.putfield 120, 3) := dk_181 0 120 (dk_at dksX5_fails_0 18 rfl rfl)
theorem dX5_fails_21 : decode cX5_fails 21 = .ok (.return_, 1) := dk_177 (dk_at dksX5_fails_0 21 rfl rfl)
abbrev cX5_isPrime : ByteArray := prog_12_method_19_code
def yX5_isPrime : MethodName := ⟨RX5, "isPrime", "(I)Z"⟩
def dkwX5_isPrime_1 : List UInt8 := [112, 153, 0, 7, 4, 167, 0, 4, 3, 60, 132, 2, 1, 167, 255, 232, 27, 172]
abbrev dktX5_isPrime_1 : List UInt8 := dkwX5_isPrime_1 ++ []
def dkwX5_isPrime_0 : List UInt8 := [26, 6, 161, 0, 7, 4, 167, 0, 4, 3, 60, 5, 61, 28, 26, 162, 0, 25, 27, 153, 0, 13, 26, 28]
abbrev dktX5_isPrime_0 : List UInt8 := dkwX5_isPrime_0 ++ dktX5_isPrime_1
theorem dksX5_isPrime_0 : cX5_isPrime.data.toList.drop 0 = dktX5_isPrime_0 := by decide +kernel
theorem dksX5_isPrime_1 : cX5_isPrime.data.toList.drop 24 = dktX5_isPrime_1 := dk_seg dksX5_isPrime_0 24 rfl rfl
theorem dX5_isPrime_0 : decode cX5_isPrime 0 = .ok (.iload_n 0, 1) := dk_26 (dk_at dksX5_isPrime_0 0 rfl rfl)
theorem dX5_isPrime_1 : decode cX5_isPrime 1 = .ok (.iconst 3, 1) := dk_6 (dk_at dksX5_isPrime_0 1 rfl rfl)
theorem dX5_isPrime_2 : decode cX5_isPrime 2 = .ok (.if_icmp .lt 7, 3) := dk_161 0 7 (dk_at dksX5_isPrime_0 2 rfl rfl)
theorem dX5_isPrime_5 : decode cX5_isPrime 5 = .ok (.iconst 1, 1) := dk_4 (dk_at dksX5_isPrime_0 5 rfl rfl)
theorem dX5_isPrime_6 : decode cX5_isPrime 6 = .ok (.goto 4, 3) := dk_167 0 4 (dk_at dksX5_isPrime_0 6 rfl rfl)
theorem dX5_isPrime_9 : decode cX5_isPrime 9 = .ok (.iconst 0, 1) := dk_3 (dk_at dksX5_isPrime_0 9 rfl rfl)
theorem dX5_isPrime_10 : decode cX5_isPrime 10 = .ok (.istore_n 1, 1) := dk_60 (dk_at dksX5_isPrime_0 10 rfl rfl)
theorem dX5_isPrime_11 : decode cX5_isPrime 11 = .ok (.iconst 2, 1) := dk_5 (dk_at dksX5_isPrime_0 11 rfl rfl)
theorem dX5_isPrime_12 : decode cX5_isPrime 12 = .ok (.istore_n 2, 1) := dk_61 (dk_at dksX5_isPrime_0 12 rfl rfl)
theorem dX5_isPrime_13 : decode cX5_isPrime 13 = .ok (.iload_n 2, 1) := dk_28 (dk_at dksX5_isPrime_0 13 rfl rfl)
theorem dX5_isPrime_14 : decode cX5_isPrime 14 = .ok (.iload_n 0, 1) := dk_26 (dk_at dksX5_isPrime_0 14 rfl rfl)
theorem dX5_isPrime_15 : decode cX5_isPrime 15 = .ok (.if_icmp .ge 25, 3) := dk_162 0 25 (dk_at dksX5_isPrime_0 15 rfl rfl)
theorem dX5_isPrime_18 : decode cX5_isPrime 18 = .ok (.iload_n 1, 1) := dk_27 (dk_at dksX5_isPrime_0 18 rfl rfl)
theorem dX5_isPrime_19 : decode cX5_isPrime 19 = .ok (.ifCond .eq 13, 3) := dk_153 0 13 (dk_at dksX5_isPrime_0 19 rfl rfl)
theorem dX5_isPrime_22 : decode cX5_isPrime 22 = .ok (.iload_n 0, 1) := dk_26 (dk_at dksX5_isPrime_0 22 rfl rfl)
theorem dX5_isPrime_23 : decode cX5_isPrime 23 = .ok (.iload_n 2, 1) := dk_28 (dk_at dksX5_isPrime_0 23 rfl rfl)
theorem dX5_isPrime_24 : decode cX5_isPrime 24 = .ok (.irem, 1) := dk_112 (dk_at dksX5_isPrime_1 0 rfl rfl)
theorem dX5_isPrime_25 : decode cX5_isPrime 25 = .ok (.ifCond .eq 7, 3) := dk_153 0 7 (dk_at dksX5_isPrime_1 1 rfl rfl)
theorem dX5_isPrime_28 : decode cX5_isPrime 28 = .ok (.iconst 1, 1) := dk_4 (dk_at dksX5_isPrime_1 4 rfl rfl)
theorem dX5_isPrime_29 : decode cX5_isPrime 29 = .ok (.goto 4, 3) := dk_167 0 4 (dk_at dksX5_isPrime_1 5 rfl rfl)
theorem dX5_isPrime_32 : decode cX5_isPrime 32 = .ok (.iconst 0, 1) := dk_3 (dk_at dksX5_isPrime_1 8 rfl rfl)
theorem dX5_isPrime_33 : decode cX5_isPrime 33 = .ok (.istore_n 1, 1) := dk_60 (dk_at dksX5_isPrime_1 9 rfl rfl)
theorem dX5_isPrime_34 : decode cX5_isPrime 34 = .ok (.iinc 2 1, 3) := dk_132 2 1 (dk_at dksX5_isPrime_1 10 rfl rfl)
theorem dX5_isPrime_37 : decode cX5_isPrime 37 = .ok (.goto (-24), 3) := dk_167 255 232 (dk_at dksX5_isPrime_1 13 rfl rfl)
theorem dX5_isPrime_40 : decode cX5_isPrime 40 = .ok (.iload_n 1, 1) := dk_27 (dk_at dksX5_isPrime_1 16 rfl rfl)
theorem dX5_isPrime_41 : decode cX5_isPrime 41 = .ok (.ireturn, 1) := dk_172 (dk_at dksX5_isPrime_1 17 rfl rfl)
abbrev cX5_takes : ByteArray := prog_12_method_18_code
def yX5_takes : MethodName := ⟨RX5, "takes", "(II)I"⟩
def dkwX5_takes_3 : List UInt8 := [154, 0, 7, 42, 182, 0, 127, 29, 172]
abbrev dktX5_takes_3 : List UInt8 := dkwX5_takes_3 ++ []
def dkwX5_takes_2 : List UInt8 := [182, 0, 123, 42, 180, 0, 107, 154, 0, 10, 42, 180, 0, 104, 167, 0, 4, 3, 62, 42, 180, 0, 107]
abbrev dktX5_takes_2 : List UInt8 := dkwX5_takes_2 ++ dktX5_takes_3
def dkwX5_takes_1 : List UInt8 := [42, 180, 0, 107, 154, 0, 21, 42, 180, 0, 104, 27, 28, 184, 0, 71, 154, 0, 9, 42, 16, 253]
abbrev dktX5_takes_1 : List UInt8 := dkwX5_takes_1 ++ dktX5_takes_2
def dkwX5_takes_0 : List UInt8 := [42, 180, 0, 107, 154, 0, 20, 42, 180, 0, 94, 4, 159, 0, 12, 42, 16, 254, 182, 0, 123, 167, 0, 28]
abbrev dktX5_takes_0 : List UInt8 := dkwX5_takes_0 ++ dktX5_takes_1
theorem dksX5_takes_0 : cX5_takes.data.toList.drop 0 = dktX5_takes_0 := by decide +kernel
theorem dksX5_takes_1 : cX5_takes.data.toList.drop 24 = dktX5_takes_1 := dk_seg dksX5_takes_0 24 rfl rfl
theorem dksX5_takes_2 : cX5_takes.data.toList.drop 46 = dktX5_takes_2 := dk_seg dksX5_takes_1 22 rfl rfl
theorem dksX5_takes_3 : cX5_takes.data.toList.drop 69 = dktX5_takes_3 := dk_seg dksX5_takes_2 23 rfl rfl
theorem dX5_takes_0 : decode cX5_takes 0 = .ok (.aload_n 0, 1) := dk_42 (dk_at dksX5_takes_0 0 rfl rfl)
theorem dX5_takes_1 : decode cX5_takes 1 = .ok (.getfield 107, 3) := dk_180 0 107 (dk_at dksX5_takes_0 1 rfl rfl)
theorem dX5_takes_4 : decode cX5_takes 4 = .ok (.ifCond .ne 20, 3) := dk_154 0 20 (dk_at dksX5_takes_0 4 rfl rfl)
theorem dX5_takes_7 : decode cX5_takes 7 = .ok (.aload_n 0, 1) := dk_42 (dk_at dksX5_takes_0 7 rfl rfl)
theorem dX5_takes_8 : decode cX5_takes 8 = .ok (.getfield 94, 3) := dk_180 0 94 (dk_at dksX5_takes_0 8 rfl rfl)
theorem dX5_takes_11 : decode cX5_takes 11 = .ok (.iconst 1, 1) := dk_4 (dk_at dksX5_takes_0 11 rfl rfl)
theorem dX5_takes_12 : decode cX5_takes 12 = .ok (.if_icmp .eq 12, 3) := dk_159 0 12 (dk_at dksX5_takes_0 12 rfl rfl)
theorem dX5_takes_15 : decode cX5_takes 15 = .ok (.aload_n 0, 1) := dk_42 (dk_at dksX5_takes_0 15 rfl rfl)
theorem dX5_takes_16 : decode cX5_takes 16 = .ok (.bipush (-2), 2) := dk_16 254 (dk_at dksX5_takes_0 16 rfl rfl)
theorem dX5_takes_18 : decode cX5_takes 18 = .ok (.invokevirtual 123, 3) := dk_182 0 123 (dk_at dksX5_takes_0 18 rfl rfl)
theorem dX5_takes_21 : decode cX5_takes 21 = .ok (.goto 28, 3) := dk_167 0 28 (dk_at dksX5_takes_0 21 rfl rfl)
theorem dX5_takes_24 : decode cX5_takes 24 = .ok (.aload_n 0, 1) := dk_42 (dk_at dksX5_takes_1 0 rfl rfl)
theorem dX5_takes_25 : decode cX5_takes 25 = .ok (.getfield 107, 3) := dk_180 0 107 (dk_at dksX5_takes_1 1 rfl rfl)
theorem dX5_takes_28 : decode cX5_takes 28 = .ok (.ifCond .ne 21, 3) := dk_154 0 21 (dk_at dksX5_takes_1 4 rfl rfl)
theorem dX5_takes_31 : decode cX5_takes 31 = .ok (.aload_n 0, 1) := dk_42 (dk_at dksX5_takes_1 7 rfl rfl)
theorem dX5_takes_32 : decode cX5_takes 32 = .ok (.getfield 104, 3) := dk_180 0 104 (dk_at dksX5_takes_1 8 rfl rfl)
theorem dX5_takes_35 : decode cX5_takes 35 = .ok (.iload_n 1, 1) := dk_27 (dk_at dksX5_takes_1 11 rfl rfl)
theorem dX5_takes_36 : decode cX5_takes 36 = .ok (.iload_n 2, 1) := dk_28 (dk_at dksX5_takes_1 12 rfl rfl)
theorem dX5_takes_37 : decode cX5_takes 37 = .ok (.invokestatic 71, 3) := dk_184 0 71 (dk_at dksX5_takes_1 13 rfl rfl)
theorem dX5_takes_40 : decode cX5_takes 40 = .ok (.ifCond .ne 9, 3) := dk_154 0 9 (dk_at dksX5_takes_1 16 rfl rfl)
theorem dX5_takes_43 : decode cX5_takes 43 = .ok (.aload_n 0, 1) := dk_42 (dk_at dksX5_takes_1 19 rfl rfl)
theorem dX5_takes_44 : decode cX5_takes 44 = .ok (.bipush (-3), 2) := dk_16 253 (dk_at dksX5_takes_1 20 rfl rfl)
theorem dX5_takes_46 : decode cX5_takes 46 = .ok (.invokevirtual 123, 3) := dk_182 0 123 (dk_at dksX5_takes_2 0 rfl rfl)
theorem dX5_takes_49 : decode cX5_takes 49 = .ok (.aload_n 0, 1) := dk_42 (dk_at dksX5_takes_2 3 rfl rfl)
theorem dX5_takes_50 : decode cX5_takes 50 = .ok (.getfield 107, 3) := dk_180 0 107 (dk_at dksX5_takes_2 4 rfl rfl)
theorem dX5_takes_53 : decode cX5_takes 53 = .ok (.ifCond .ne 10, 3) := dk_154 0 10 (dk_at dksX5_takes_2 7 rfl rfl)
theorem dX5_takes_56 : decode cX5_takes 56 = .ok (.aload_n 0, 1) := dk_42 (dk_at dksX5_takes_2 10 rfl rfl)
theorem dX5_takes_57 : decode cX5_takes 57 = .ok (.getfield 104, 3) := dk_180 0 104 (dk_at dksX5_takes_2 11 rfl rfl)
theorem dX5_takes_60 : decode cX5_takes 60 = .ok (.goto 4, 3) := dk_167 0 4 (dk_at dksX5_takes_2 14 rfl rfl)
theorem dX5_takes_63 : decode cX5_takes 63 = .ok (.iconst 0, 1) := dk_3 (dk_at dksX5_takes_2 17 rfl rfl)
theorem dX5_takes_64 : decode cX5_takes 64 = .ok (.istore_n 3, 1) := dk_62 (dk_at dksX5_takes_2 18 rfl rfl)
theorem dX5_takes_65 : decode cX5_takes 65 = .ok (.aload_n 0, 1) := dk_42 (dk_at dksX5_takes_2 19 rfl rfl)
theorem dX5_takes_66 : decode cX5_takes 66 = .ok (.getfield 107, 3) := dk_180 0 107 (dk_at dksX5_takes_2 20 rfl rfl)
theorem dX5_takes_69 : decode cX5_takes 69 = .ok (.ifCond .ne 7, 3) := dk_154 0 7 (dk_at dksX5_takes_3 0 rfl rfl)
theorem dX5_takes_72 : decode cX5_takes 72 = .ok (.aload_n 0, 1) := dk_42 (dk_at dksX5_takes_3 3 rfl rfl)
theorem dX5_takes_73 : decode cX5_takes 73 = .ok (.invokevirtual 127, 3) := dk_182 0 127 (dk_at dksX5_takes_3 4 rfl rfl)
theorem dX5_takes_76 : decode cX5_takes 76 = .ok (.iload_n 3, 1) := dk_29 (dk_at dksX5_takes_3 7 rfl rfl)
theorem dX5_takes_77 : decode cX5_takes 77 = .ok (.ireturn, 1) := dk_172 (dk_at dksX5_takes_3 8 rfl rfl)
abbrev cX5_mustEnd : ByteArray := prog_12_method_21_code
def yX5_mustEnd : MethodName := ⟨RX5, "mustEnd", "()V"⟩
def dkwX5_mustEnd_1 : List UInt8 := [167, 0, 4, 3, 182, 0, 136, 177]
abbrev dktX5_mustEnd_1 : List UInt8 := dkwX5_mustEnd_1 ++ []
def dkwX5_mustEnd_0 : List UInt8 := [42, 42, 180, 0, 94, 5, 160, 0, 20, 42, 42, 180, 0, 87, 182, 0, 90, 16, 59, 160, 0, 7, 4]
abbrev dktX5_mustEnd_0 : List UInt8 := dkwX5_mustEnd_0 ++ dktX5_mustEnd_1
theorem dksX5_mustEnd_0 : cX5_mustEnd.data.toList.drop 0 = dktX5_mustEnd_0 := by decide +kernel
theorem dksX5_mustEnd_1 : cX5_mustEnd.data.toList.drop 23 = dktX5_mustEnd_1 := dk_seg dksX5_mustEnd_0 23 rfl rfl
theorem dX5_mustEnd_0 : decode cX5_mustEnd 0 = .ok (.aload_n 0, 1) := dk_42 (dk_at dksX5_mustEnd_0 0 rfl rfl)
theorem dX5_mustEnd_1 : decode cX5_mustEnd 1 = .ok (.aload_n 0, 1) := dk_42 (dk_at dksX5_mustEnd_0 1 rfl rfl)
theorem dX5_mustEnd_2 : decode cX5_mustEnd 2 = .ok (.getfield 94, 3) := dk_180 0 94 (dk_at dksX5_mustEnd_0 2 rfl rfl)
theorem dX5_mustEnd_5 : decode cX5_mustEnd 5 = .ok (.iconst 2, 1) := dk_5 (dk_at dksX5_mustEnd_0 5 rfl rfl)
theorem dX5_mustEnd_6 : decode cX5_mustEnd 6 = .ok (.if_icmp .ne 20, 3) := dk_160 0 20 (dk_at dksX5_mustEnd_0 6 rfl rfl)
theorem dX5_mustEnd_9 : decode cX5_mustEnd 9 = .ok (.aload_n 0, 1) := dk_42 (dk_at dksX5_mustEnd_0 9 rfl rfl)
theorem dX5_mustEnd_10 : decode cX5_mustEnd 10 = .ok (.aload_n 0, 1) := dk_42 (dk_at dksX5_mustEnd_0 10 rfl rfl)
theorem dX5_mustEnd_11 : decode cX5_mustEnd 11 = .ok (.getfield 87, 3) := dk_180 0 87 (dk_at dksX5_mustEnd_0 11 rfl rfl)
theorem dX5_mustEnd_14 : decode cX5_mustEnd 14 = .ok (.invokevirtual 90, 3) := dk_182 0 90 (dk_at dksX5_mustEnd_0 14 rfl rfl)
theorem dX5_mustEnd_17 : decode cX5_mustEnd 17 = .ok (.bipush 59, 2) := dk_16 59 (dk_at dksX5_mustEnd_0 17 rfl rfl)
theorem dX5_mustEnd_19 : decode cX5_mustEnd 19 = .ok (.if_icmp .ne 7, 3) := dk_160 0 7 (dk_at dksX5_mustEnd_0 19 rfl rfl)
theorem dX5_mustEnd_22 : decode cX5_mustEnd 22 = .ok (.iconst 1, 1) := dk_4 (dk_at dksX5_mustEnd_0 22 rfl rfl)
theorem dX5_mustEnd_23 : decode cX5_mustEnd 23 = .ok (.goto 4, 3) := dk_167 0 4 (dk_at dksX5_mustEnd_1 0 rfl rfl)
theorem dX5_mustEnd_26 : decode cX5_mustEnd 26 = .ok (.iconst 0, 1) := dk_3 (dk_at dksX5_mustEnd_1 3 rfl rfl)
theorem dX5_mustEnd_27 : decode cX5_mustEnd 27 = .ok (.invokevirtual 136, 3) := dk_182 0 136 (dk_at dksX5_mustEnd_1 4 rfl rfl)
theorem dX5_mustEnd_30 : decode cX5_mustEnd 30 = .ok (.return_, 1) := dk_177 (dk_at dksX5_mustEnd_1 7 rfl rfl)
abbrev cX5_readsStatement : ByteArray := prog_12_method_24_code
def yX5_readsStatement : MethodName := ⟨RX5, "readsStatement", "()V"⟩
def dkwX5_readsStatement_5 : List UInt8 := [42, 16, 254, 182, 0, 123, 42, 182, 0, 148, 177]
abbrev dktX5_readsStatement_5 : List UInt8 := dkwX5_readsStatement_5 ++ []
def dkwX5_readsStatement_4 : List UInt8 := [42, 18, 165, 182, 0, 132, 153, 0, 18, 42, 4, 182, 0, 136, 42, 180, 0, 13, 7, 4, 79, 167, 0, 9]
abbrev dktX5_readsStatement_4 : List UInt8 := dkwX5_readsStatement_4 ++ dktX5_readsStatement_5
def dkwX5_readsStatement_3 : List UInt8 := [153, 0, 24, 42, 4, 182, 0, 136, 42, 180, 0, 13, 6, 42, 3, 16, 8, 182, 0, 143, 79, 167, 0, 33]
abbrev dktX5_readsStatement_3 : List UInt8 := dkwX5_readsStatement_3 ++ dktX5_readsStatement_4
def dkwX5_readsStatement_2 : List UInt8 := [42, 180, 0, 13, 5, 42, 4, 16, 8, 182, 0, 143, 79, 167, 0, 63, 42, 18, 163, 182, 0, 132]
abbrev dktX5_readsStatement_2 : List UInt8 := dkwX5_readsStatement_2 ++ dktX5_readsStatement_3
def dkwX5_readsStatement_1 : List UInt8 := [153, 0, 10, 42, 182, 0, 158, 167, 0, 93, 42, 18, 161, 182, 0, 132, 153, 0, 24, 42, 4, 182, 0, 136]
abbrev dktX5_readsStatement_1 : List UInt8 := dkwX5_readsStatement_1 ++ dktX5_readsStatement_2
def dkwX5_readsStatement_0 : List UInt8 := [42, 18, 151, 182, 0, 132, 153, 0, 10, 42, 182, 0, 153, 167, 0, 109, 42, 18, 156, 182, 0, 132]
abbrev dktX5_readsStatement_0 : List UInt8 := dkwX5_readsStatement_0 ++ dktX5_readsStatement_1
theorem dksX5_readsStatement_0 : cX5_readsStatement.data.toList.drop 0 = dktX5_readsStatement_0 := by decide +kernel
theorem dksX5_readsStatement_1 : cX5_readsStatement.data.toList.drop 22 = dktX5_readsStatement_1 := dk_seg dksX5_readsStatement_0 22 rfl rfl
theorem dksX5_readsStatement_2 : cX5_readsStatement.data.toList.drop 46 = dktX5_readsStatement_2 := dk_seg dksX5_readsStatement_1 24 rfl rfl
theorem dksX5_readsStatement_3 : cX5_readsStatement.data.toList.drop 68 = dktX5_readsStatement_3 := dk_seg dksX5_readsStatement_2 22 rfl rfl
theorem dksX5_readsStatement_4 : cX5_readsStatement.data.toList.drop 92 = dktX5_readsStatement_4 := dk_seg dksX5_readsStatement_3 24 rfl rfl
theorem dksX5_readsStatement_5 : cX5_readsStatement.data.toList.drop 116 = dktX5_readsStatement_5 := dk_seg dksX5_readsStatement_4 24 rfl rfl
theorem dX5_readsStatement_0 : decode cX5_readsStatement 0 = .ok (.aload_n 0, 1) := dk_42 (dk_at dksX5_readsStatement_0 0 rfl rfl)
theorem dX5_readsStatement_1 : decode cX5_readsStatement 1 = .ok (.ldc 151, 2) := dk_18 151 (dk_at dksX5_readsStatement_0 1 rfl rfl)
theorem dX5_readsStatement_3 : decode cX5_readsStatement 3 = .ok (.invokevirtual 132, 3) := dk_182 0 132 (dk_at dksX5_readsStatement_0 3 rfl rfl)
theorem dX5_readsStatement_6 : decode cX5_readsStatement 6 = .ok (.ifCond .eq 10, 3) := dk_153 0 10 (dk_at dksX5_readsStatement_0 6 rfl rfl)
theorem dX5_readsStatement_9 : decode cX5_readsStatement 9 = .ok (.aload_n 0, 1) := dk_42 (dk_at dksX5_readsStatement_0 9 rfl rfl)
theorem dX5_readsStatement_10 : decode cX5_readsStatement 10 = .ok (.invokevirtual 153, 3) := dk_182 0 153 (dk_at dksX5_readsStatement_0 10 rfl rfl)
theorem dX5_readsStatement_13 : decode cX5_readsStatement 13 = .ok (.goto 109, 3) := dk_167 0 109 (dk_at dksX5_readsStatement_0 13 rfl rfl)
theorem dX5_readsStatement_16 : decode cX5_readsStatement 16 = .ok (.aload_n 0, 1) := dk_42 (dk_at dksX5_readsStatement_0 16 rfl rfl)
theorem dX5_readsStatement_17 : decode cX5_readsStatement 17 = .ok (.ldc 156, 2) := dk_18 156 (dk_at dksX5_readsStatement_0 17 rfl rfl)
theorem dX5_readsStatement_19 : decode cX5_readsStatement 19 = .ok (.invokevirtual 132, 3) := dk_182 0 132 (dk_at dksX5_readsStatement_0 19 rfl rfl)
theorem dX5_readsStatement_22 : decode cX5_readsStatement 22 = .ok (.ifCond .eq 10, 3) := dk_153 0 10 (dk_at dksX5_readsStatement_1 0 rfl rfl)
theorem dX5_readsStatement_25 : decode cX5_readsStatement 25 = .ok (.aload_n 0, 1) := dk_42 (dk_at dksX5_readsStatement_1 3 rfl rfl)
theorem dX5_readsStatement_26 : decode cX5_readsStatement 26 = .ok (.invokevirtual 158, 3) := dk_182 0 158 (dk_at dksX5_readsStatement_1 4 rfl rfl)
theorem dX5_readsStatement_29 : decode cX5_readsStatement 29 = .ok (.goto 93, 3) := dk_167 0 93 (dk_at dksX5_readsStatement_1 7 rfl rfl)
theorem dX5_readsStatement_32 : decode cX5_readsStatement 32 = .ok (.aload_n 0, 1) := dk_42 (dk_at dksX5_readsStatement_1 10 rfl rfl)
theorem dX5_readsStatement_33 : decode cX5_readsStatement 33 = .ok (.ldc 161, 2) := dk_18 161 (dk_at dksX5_readsStatement_1 11 rfl rfl)
theorem dX5_readsStatement_35 : decode cX5_readsStatement 35 = .ok (.invokevirtual 132, 3) := dk_182 0 132 (dk_at dksX5_readsStatement_1 13 rfl rfl)
theorem dX5_readsStatement_38 : decode cX5_readsStatement 38 = .ok (.ifCond .eq 24, 3) := dk_153 0 24 (dk_at dksX5_readsStatement_1 16 rfl rfl)
theorem dX5_readsStatement_41 : decode cX5_readsStatement 41 = .ok (.aload_n 0, 1) := dk_42 (dk_at dksX5_readsStatement_1 19 rfl rfl)
theorem dX5_readsStatement_42 : decode cX5_readsStatement 42 = .ok (.iconst 1, 1) := dk_4 (dk_at dksX5_readsStatement_1 20 rfl rfl)
theorem dX5_readsStatement_43 : decode cX5_readsStatement 43 = .ok (.invokevirtual 136, 3) := dk_182 0 136 (dk_at dksX5_readsStatement_1 21 rfl rfl)
theorem dX5_readsStatement_46 : decode cX5_readsStatement 46 = .ok (.aload_n 0, 1) := dk_42 (dk_at dksX5_readsStatement_2 0 rfl rfl)
theorem dX5_readsStatement_47 : decode cX5_readsStatement 47 = .ok (.getfield 13, 3) := dk_180 0 13 (dk_at dksX5_readsStatement_2 1 rfl rfl)
theorem dX5_readsStatement_50 : decode cX5_readsStatement 50 = .ok (.iconst 2, 1) := dk_5 (dk_at dksX5_readsStatement_2 4 rfl rfl)
theorem dX5_readsStatement_51 : decode cX5_readsStatement 51 = .ok (.aload_n 0, 1) := dk_42 (dk_at dksX5_readsStatement_2 5 rfl rfl)
theorem dX5_readsStatement_52 : decode cX5_readsStatement 52 = .ok (.iconst 1, 1) := dk_4 (dk_at dksX5_readsStatement_2 6 rfl rfl)
theorem dX5_readsStatement_53 : decode cX5_readsStatement 53 = .ok (.bipush 8, 2) := dk_16 8 (dk_at dksX5_readsStatement_2 7 rfl rfl)
theorem dX5_readsStatement_55 : decode cX5_readsStatement 55 = .ok (.invokevirtual 143, 3) := dk_182 0 143 (dk_at dksX5_readsStatement_2 9 rfl rfl)
theorem dX5_readsStatement_58 : decode cX5_readsStatement 58 = .ok (.iastore, 1) := dk_79 (dk_at dksX5_readsStatement_2 12 rfl rfl)
theorem dX5_readsStatement_59 : decode cX5_readsStatement 59 = .ok (.goto 63, 3) := dk_167 0 63 (dk_at dksX5_readsStatement_2 13 rfl rfl)
theorem dX5_readsStatement_62 : decode cX5_readsStatement 62 = .ok (.aload_n 0, 1) := dk_42 (dk_at dksX5_readsStatement_2 16 rfl rfl)
theorem dX5_readsStatement_63 : decode cX5_readsStatement 63 = .ok (.ldc 163, 2) := dk_18 163 (dk_at dksX5_readsStatement_2 17 rfl rfl)
theorem dX5_readsStatement_65 : decode cX5_readsStatement 65 = .ok (.invokevirtual 132, 3) := dk_182 0 132 (dk_at dksX5_readsStatement_2 19 rfl rfl)
theorem dX5_readsStatement_68 : decode cX5_readsStatement 68 = .ok (.ifCond .eq 24, 3) := dk_153 0 24 (dk_at dksX5_readsStatement_3 0 rfl rfl)
theorem dX5_readsStatement_71 : decode cX5_readsStatement 71 = .ok (.aload_n 0, 1) := dk_42 (dk_at dksX5_readsStatement_3 3 rfl rfl)
theorem dX5_readsStatement_72 : decode cX5_readsStatement 72 = .ok (.iconst 1, 1) := dk_4 (dk_at dksX5_readsStatement_3 4 rfl rfl)
theorem dX5_readsStatement_73 : decode cX5_readsStatement 73 = .ok (.invokevirtual 136, 3) := dk_182 0 136 (dk_at dksX5_readsStatement_3 5 rfl rfl)
theorem dX5_readsStatement_76 : decode cX5_readsStatement 76 = .ok (.aload_n 0, 1) := dk_42 (dk_at dksX5_readsStatement_3 8 rfl rfl)
theorem dX5_readsStatement_77 : decode cX5_readsStatement 77 = .ok (.getfield 13, 3) := dk_180 0 13 (dk_at dksX5_readsStatement_3 9 rfl rfl)
theorem dX5_readsStatement_80 : decode cX5_readsStatement 80 = .ok (.iconst 3, 1) := dk_6 (dk_at dksX5_readsStatement_3 12 rfl rfl)
theorem dX5_readsStatement_81 : decode cX5_readsStatement 81 = .ok (.aload_n 0, 1) := dk_42 (dk_at dksX5_readsStatement_3 13 rfl rfl)
theorem dX5_readsStatement_82 : decode cX5_readsStatement 82 = .ok (.iconst 0, 1) := dk_3 (dk_at dksX5_readsStatement_3 14 rfl rfl)
theorem dX5_readsStatement_83 : decode cX5_readsStatement 83 = .ok (.bipush 8, 2) := dk_16 8 (dk_at dksX5_readsStatement_3 15 rfl rfl)
theorem dX5_readsStatement_85 : decode cX5_readsStatement 85 = .ok (.invokevirtual 143, 3) := dk_182 0 143 (dk_at dksX5_readsStatement_3 17 rfl rfl)
theorem dX5_readsStatement_88 : decode cX5_readsStatement 88 = .ok (.iastore, 1) := dk_79 (dk_at dksX5_readsStatement_3 20 rfl rfl)
theorem dX5_readsStatement_89 : decode cX5_readsStatement 89 = .ok (.goto 33, 3) := dk_167 0 33 (dk_at dksX5_readsStatement_3 21 rfl rfl)
theorem dX5_readsStatement_92 : decode cX5_readsStatement 92 = .ok (.aload_n 0, 1) := dk_42 (dk_at dksX5_readsStatement_4 0 rfl rfl)
theorem dX5_readsStatement_93 : decode cX5_readsStatement 93 = .ok (.ldc 165, 2) := dk_18 165 (dk_at dksX5_readsStatement_4 1 rfl rfl)
theorem dX5_readsStatement_95 : decode cX5_readsStatement 95 = .ok (.invokevirtual 132, 3) := dk_182 0 132 (dk_at dksX5_readsStatement_4 3 rfl rfl)
theorem dX5_readsStatement_98 : decode cX5_readsStatement 98 = .ok (.ifCond .eq 18, 3) := dk_153 0 18 (dk_at dksX5_readsStatement_4 6 rfl rfl)
theorem dX5_readsStatement_101 : decode cX5_readsStatement 101 = .ok (.aload_n 0, 1) := dk_42 (dk_at dksX5_readsStatement_4 9 rfl rfl)
theorem dX5_readsStatement_102 : decode cX5_readsStatement 102 = .ok (.iconst 1, 1) := dk_4 (dk_at dksX5_readsStatement_4 10 rfl rfl)
theorem dX5_readsStatement_103 : decode cX5_readsStatement 103 = .ok (.invokevirtual 136, 3) := dk_182 0 136 (dk_at dksX5_readsStatement_4 11 rfl rfl)
theorem dX5_readsStatement_106 : decode cX5_readsStatement 106 = .ok (.aload_n 0, 1) := dk_42 (dk_at dksX5_readsStatement_4 14 rfl rfl)
theorem dX5_readsStatement_107 : decode cX5_readsStatement 107 = .ok (.getfield 13, 3) := dk_180 0 13 (dk_at dksX5_readsStatement_4 15 rfl rfl)
theorem dX5_readsStatement_110 : decode cX5_readsStatement 110 = .ok (.iconst 4, 1) := dk_7 (dk_at dksX5_readsStatement_4 18 rfl rfl)
theorem dX5_readsStatement_111 : decode cX5_readsStatement 111 = .ok (.iconst 1, 1) := dk_4 (dk_at dksX5_readsStatement_4 19 rfl rfl)
theorem dX5_readsStatement_112 : decode cX5_readsStatement 112 = .ok (.iastore, 1) := dk_79 (dk_at dksX5_readsStatement_4 20 rfl rfl)
theorem dX5_readsStatement_113 : decode cX5_readsStatement 113 = .ok (.goto 9, 3) := dk_167 0 9 (dk_at dksX5_readsStatement_4 21 rfl rfl)
theorem dX5_readsStatement_116 : decode cX5_readsStatement 116 = .ok (.aload_n 0, 1) := dk_42 (dk_at dksX5_readsStatement_5 0 rfl rfl)
theorem dX5_readsStatement_117 : decode cX5_readsStatement 117 = .ok (.bipush (-2), 2) := dk_16 254 (dk_at dksX5_readsStatement_5 1 rfl rfl)
theorem dX5_readsStatement_119 : decode cX5_readsStatement 119 = .ok (.invokevirtual 123, 3) := dk_182 0 123 (dk_at dksX5_readsStatement_5 3 rfl rfl)
theorem dX5_readsStatement_122 : decode cX5_readsStatement 122 = .ok (.aload_n 0, 1) := dk_42 (dk_at dksX5_readsStatement_5 6 rfl rfl)
theorem dX5_readsStatement_123 : decode cX5_readsStatement 123 = .ok (.invokevirtual 148, 3) := dk_182 0 148 (dk_at dksX5_readsStatement_5 7 rfl rfl)
theorem dX5_readsStatement_126 : decode cX5_readsStatement 126 = .ok (.return_, 1) := dk_177 (dk_at dksX5_readsStatement_5 10 rfl rfl)
abbrev cX5_readsCell : ByteArray := prog_12_method_22_code
def yX5_readsCell : MethodName := ⟨RX5, "readsCell", "()V"⟩
def dkwX5_readsCell_3 : List UInt8 := [42, 180, 0, 13, 16, 9, 16, 8, 28, 104, 96, 27, 96, 29, 79, 177]
abbrev dktX5_readsCell_3 : List UInt8 := dkwX5_readsCell_3 ++ []
def dkwX5_readsCell_2 : List UInt8 := [62, 42, 180, 0, 107, 153, 0, 4, 177, 42, 180, 0, 13, 16, 9, 16, 8, 27, 104, 96, 28, 96, 29, 79]
abbrev dktX5_readsCell_2 : List UInt8 := dkwX5_readsCell_2 ++ dktX5_readsCell_3
def dkwX5_readsCell_1 : List UInt8 := [180, 0, 13, 4, 46, 4, 100, 182, 0, 143, 61, 42, 3, 42, 180, 0, 13, 3, 46, 4, 100, 182, 0, 143]
abbrev dktX5_readsCell_1 : List UInt8 := dkwX5_readsCell_1 ++ dktX5_readsCell_2
def dkwX5_readsCell_0 : List UInt8 := [42, 4, 182, 0, 136, 42, 3, 42, 180, 0, 13, 4, 46, 4, 100, 182, 0, 143, 60, 42, 3, 42]
abbrev dktX5_readsCell_0 : List UInt8 := dkwX5_readsCell_0 ++ dktX5_readsCell_1
theorem dksX5_readsCell_0 : cX5_readsCell.data.toList.drop 0 = dktX5_readsCell_0 := by decide +kernel
theorem dksX5_readsCell_1 : cX5_readsCell.data.toList.drop 22 = dktX5_readsCell_1 := dk_seg dksX5_readsCell_0 22 rfl rfl
theorem dksX5_readsCell_2 : cX5_readsCell.data.toList.drop 46 = dktX5_readsCell_2 := dk_seg dksX5_readsCell_1 24 rfl rfl
theorem dksX5_readsCell_3 : cX5_readsCell.data.toList.drop 70 = dktX5_readsCell_3 := dk_seg dksX5_readsCell_2 24 rfl rfl
theorem dX5_readsCell_0 : decode cX5_readsCell 0 = .ok (.aload_n 0, 1) := dk_42 (dk_at dksX5_readsCell_0 0 rfl rfl)
theorem dX5_readsCell_1 : decode cX5_readsCell 1 = .ok (.iconst 1, 1) := dk_4 (dk_at dksX5_readsCell_0 1 rfl rfl)
theorem dX5_readsCell_2 : decode cX5_readsCell 2 = .ok (.invokevirtual 136, 3) := dk_182 0 136 (dk_at dksX5_readsCell_0 2 rfl rfl)
theorem dX5_readsCell_5 : decode cX5_readsCell 5 = .ok (.aload_n 0, 1) := dk_42 (dk_at dksX5_readsCell_0 5 rfl rfl)
theorem dX5_readsCell_6 : decode cX5_readsCell 6 = .ok (.iconst 0, 1) := dk_3 (dk_at dksX5_readsCell_0 6 rfl rfl)
theorem dX5_readsCell_7 : decode cX5_readsCell 7 = .ok (.aload_n 0, 1) := dk_42 (dk_at dksX5_readsCell_0 7 rfl rfl)
theorem dX5_readsCell_8 : decode cX5_readsCell 8 = .ok (.getfield 13, 3) := dk_180 0 13 (dk_at dksX5_readsCell_0 8 rfl rfl)
theorem dX5_readsCell_11 : decode cX5_readsCell 11 = .ok (.iconst 1, 1) := dk_4 (dk_at dksX5_readsCell_0 11 rfl rfl)
theorem dX5_readsCell_12 : decode cX5_readsCell 12 = .ok (.iaload, 1) := dk_46 (dk_at dksX5_readsCell_0 12 rfl rfl)
theorem dX5_readsCell_13 : decode cX5_readsCell 13 = .ok (.iconst 1, 1) := dk_4 (dk_at dksX5_readsCell_0 13 rfl rfl)
theorem dX5_readsCell_14 : decode cX5_readsCell 14 = .ok (.isub, 1) := dk_100 (dk_at dksX5_readsCell_0 14 rfl rfl)
theorem dX5_readsCell_15 : decode cX5_readsCell 15 = .ok (.invokevirtual 143, 3) := dk_182 0 143 (dk_at dksX5_readsCell_0 15 rfl rfl)
theorem dX5_readsCell_18 : decode cX5_readsCell 18 = .ok (.istore_n 1, 1) := dk_60 (dk_at dksX5_readsCell_0 18 rfl rfl)
theorem dX5_readsCell_19 : decode cX5_readsCell 19 = .ok (.aload_n 0, 1) := dk_42 (dk_at dksX5_readsCell_0 19 rfl rfl)
theorem dX5_readsCell_20 : decode cX5_readsCell 20 = .ok (.iconst 0, 1) := dk_3 (dk_at dksX5_readsCell_0 20 rfl rfl)
theorem dX5_readsCell_21 : decode cX5_readsCell 21 = .ok (.aload_n 0, 1) := dk_42 (dk_at dksX5_readsCell_0 21 rfl rfl)
theorem dX5_readsCell_22 : decode cX5_readsCell 22 = .ok (.getfield 13, 3) := dk_180 0 13 (dk_at dksX5_readsCell_1 0 rfl rfl)
theorem dX5_readsCell_25 : decode cX5_readsCell 25 = .ok (.iconst 1, 1) := dk_4 (dk_at dksX5_readsCell_1 3 rfl rfl)
theorem dX5_readsCell_26 : decode cX5_readsCell 26 = .ok (.iaload, 1) := dk_46 (dk_at dksX5_readsCell_1 4 rfl rfl)
theorem dX5_readsCell_27 : decode cX5_readsCell 27 = .ok (.iconst 1, 1) := dk_4 (dk_at dksX5_readsCell_1 5 rfl rfl)
theorem dX5_readsCell_28 : decode cX5_readsCell 28 = .ok (.isub, 1) := dk_100 (dk_at dksX5_readsCell_1 6 rfl rfl)
theorem dX5_readsCell_29 : decode cX5_readsCell 29 = .ok (.invokevirtual 143, 3) := dk_182 0 143 (dk_at dksX5_readsCell_1 7 rfl rfl)
theorem dX5_readsCell_32 : decode cX5_readsCell 32 = .ok (.istore_n 2, 1) := dk_61 (dk_at dksX5_readsCell_1 10 rfl rfl)
theorem dX5_readsCell_33 : decode cX5_readsCell 33 = .ok (.aload_n 0, 1) := dk_42 (dk_at dksX5_readsCell_1 11 rfl rfl)
theorem dX5_readsCell_34 : decode cX5_readsCell 34 = .ok (.iconst 0, 1) := dk_3 (dk_at dksX5_readsCell_1 12 rfl rfl)
theorem dX5_readsCell_35 : decode cX5_readsCell 35 = .ok (.aload_n 0, 1) := dk_42 (dk_at dksX5_readsCell_1 13 rfl rfl)
theorem dX5_readsCell_36 : decode cX5_readsCell 36 = .ok (.getfield 13, 3) := dk_180 0 13 (dk_at dksX5_readsCell_1 14 rfl rfl)
theorem dX5_readsCell_39 : decode cX5_readsCell 39 = .ok (.iconst 0, 1) := dk_3 (dk_at dksX5_readsCell_1 17 rfl rfl)
theorem dX5_readsCell_40 : decode cX5_readsCell 40 = .ok (.iaload, 1) := dk_46 (dk_at dksX5_readsCell_1 18 rfl rfl)
theorem dX5_readsCell_41 : decode cX5_readsCell 41 = .ok (.iconst 1, 1) := dk_4 (dk_at dksX5_readsCell_1 19 rfl rfl)
theorem dX5_readsCell_42 : decode cX5_readsCell 42 = .ok (.isub, 1) := dk_100 (dk_at dksX5_readsCell_1 20 rfl rfl)
theorem dX5_readsCell_43 : decode cX5_readsCell 43 = .ok (.invokevirtual 143, 3) := dk_182 0 143 (dk_at dksX5_readsCell_1 21 rfl rfl)
theorem dX5_readsCell_46 : decode cX5_readsCell 46 = .ok (.istore_n 3, 1) := dk_62 (dk_at dksX5_readsCell_2 0 rfl rfl)
theorem dX5_readsCell_47 : decode cX5_readsCell 47 = .ok (.aload_n 0, 1) := dk_42 (dk_at dksX5_readsCell_2 1 rfl rfl)
theorem dX5_readsCell_48 : decode cX5_readsCell 48 = .ok (.getfield 107, 3) := dk_180 0 107 (dk_at dksX5_readsCell_2 2 rfl rfl)
theorem dX5_readsCell_51 : decode cX5_readsCell 51 = .ok (.ifCond .eq 4, 3) := dk_153 0 4 (dk_at dksX5_readsCell_2 5 rfl rfl)
theorem dX5_readsCell_54 : decode cX5_readsCell 54 = .ok (.return_, 1) := dk_177 (dk_at dksX5_readsCell_2 8 rfl rfl)
theorem dX5_readsCell_55 : decode cX5_readsCell 55 = .ok (.aload_n 0, 1) := dk_42 (dk_at dksX5_readsCell_2 9 rfl rfl)
theorem dX5_readsCell_56 : decode cX5_readsCell 56 = .ok (.getfield 13, 3) := dk_180 0 13 (dk_at dksX5_readsCell_2 10 rfl rfl)
theorem dX5_readsCell_59 : decode cX5_readsCell 59 = .ok (.bipush 9, 2) := dk_16 9 (dk_at dksX5_readsCell_2 13 rfl rfl)
theorem dX5_readsCell_61 : decode cX5_readsCell 61 = .ok (.bipush 8, 2) := dk_16 8 (dk_at dksX5_readsCell_2 15 rfl rfl)
theorem dX5_readsCell_63 : decode cX5_readsCell 63 = .ok (.iload_n 1, 1) := dk_27 (dk_at dksX5_readsCell_2 17 rfl rfl)
theorem dX5_readsCell_64 : decode cX5_readsCell 64 = .ok (.imul, 1) := dk_104 (dk_at dksX5_readsCell_2 18 rfl rfl)
theorem dX5_readsCell_65 : decode cX5_readsCell 65 = .ok (.iadd, 1) := dk_96 (dk_at dksX5_readsCell_2 19 rfl rfl)
theorem dX5_readsCell_66 : decode cX5_readsCell 66 = .ok (.iload_n 2, 1) := dk_28 (dk_at dksX5_readsCell_2 20 rfl rfl)
theorem dX5_readsCell_67 : decode cX5_readsCell 67 = .ok (.iadd, 1) := dk_96 (dk_at dksX5_readsCell_2 21 rfl rfl)
theorem dX5_readsCell_68 : decode cX5_readsCell 68 = .ok (.iload_n 3, 1) := dk_29 (dk_at dksX5_readsCell_2 22 rfl rfl)
theorem dX5_readsCell_69 : decode cX5_readsCell 69 = .ok (.iastore, 1) := dk_79 (dk_at dksX5_readsCell_2 23 rfl rfl)
theorem dX5_readsCell_70 : decode cX5_readsCell 70 = .ok (.aload_n 0, 1) := dk_42 (dk_at dksX5_readsCell_3 0 rfl rfl)
theorem dX5_readsCell_71 : decode cX5_readsCell 71 = .ok (.getfield 13, 3) := dk_180 0 13 (dk_at dksX5_readsCell_3 1 rfl rfl)
theorem dX5_readsCell_74 : decode cX5_readsCell 74 = .ok (.bipush 9, 2) := dk_16 9 (dk_at dksX5_readsCell_3 4 rfl rfl)
theorem dX5_readsCell_76 : decode cX5_readsCell 76 = .ok (.bipush 8, 2) := dk_16 8 (dk_at dksX5_readsCell_3 6 rfl rfl)
theorem dX5_readsCell_78 : decode cX5_readsCell 78 = .ok (.iload_n 2, 1) := dk_28 (dk_at dksX5_readsCell_3 8 rfl rfl)
theorem dX5_readsCell_79 : decode cX5_readsCell 79 = .ok (.imul, 1) := dk_104 (dk_at dksX5_readsCell_3 9 rfl rfl)
theorem dX5_readsCell_80 : decode cX5_readsCell 80 = .ok (.iadd, 1) := dk_96 (dk_at dksX5_readsCell_3 10 rfl rfl)
theorem dX5_readsCell_81 : decode cX5_readsCell 81 = .ok (.iload_n 1, 1) := dk_27 (dk_at dksX5_readsCell_3 11 rfl rfl)
theorem dX5_readsCell_82 : decode cX5_readsCell 82 = .ok (.iadd, 1) := dk_96 (dk_at dksX5_readsCell_3 12 rfl rfl)
theorem dX5_readsCell_83 : decode cX5_readsCell 83 = .ok (.iload_n 3, 1) := dk_29 (dk_at dksX5_readsCell_3 13 rfl rfl)
theorem dX5_readsCell_84 : decode cX5_readsCell 84 = .ok (.iastore, 1) := dk_79 (dk_at dksX5_readsCell_3 14 rfl rfl)
theorem dX5_readsCell_85 : decode cX5_readsCell 85 = .ok (.return_, 1) := dk_177 (dk_at dksX5_readsCell_3 15 rfl rfl)
abbrev cX5_readsStart : ByteArray := prog_12_method_23_code
def yX5_readsStart : MethodName := ⟨RX5, "readsStart", "()V"⟩
def dkwX5_readsStart_5 : List UInt8 := [167, 255, 187, 177]
abbrev dktX5_readsStart_5 : List UInt8 := dkwX5_readsStart_5 ++ []
def dkwX5_readsStart_4 : List UInt8 := [16, 73, 28, 96, 29, 79, 42, 180, 0, 94, 4, 160, 0, 7, 4, 167, 0, 4, 3, 60, 132, 2, 1]
abbrev dktX5_readsStart_4 : List UInt8 := dkwX5_readsStart_4 ++ dktX5_readsStart_5
def dkwX5_readsStart_3 : List UInt8 := [180, 0, 13, 3, 46, 4, 100, 182, 0, 143, 62, 42, 180, 0, 107, 153, 0, 4, 177, 42, 180, 0, 13]
abbrev dktX5_readsStart_3 : List UInt8 := dkwX5_readsStart_3 ++ dktX5_readsStart_4
def dkwX5_readsStart_2 : List UInt8 := [153, 0, 71, 28, 42, 180, 0, 13, 4, 46, 160, 0, 9, 42, 16, 254, 182, 0, 123, 42, 3, 42]
abbrev dktX5_readsStart_2 : List UInt8 := dkwX5_readsStart_2 ++ dktX5_readsStart_3
def dkwX5_readsStart_1 : List UInt8 := [132, 1, 1, 167, 255, 237, 42, 180, 0, 107, 154, 0, 7, 4, 167, 0, 4, 3, 60, 3, 61, 27]
abbrev dktX5_readsStart_1 : List UInt8 := dkwX5_readsStart_1 ++ dktX5_readsStart_2
def dkwX5_readsStart_0 : List UInt8 := [42, 4, 182, 0, 136, 3, 60, 27, 16, 8, 162, 0, 19, 42, 180, 0, 13, 16, 73, 27, 96, 3, 79]
abbrev dktX5_readsStart_0 : List UInt8 := dkwX5_readsStart_0 ++ dktX5_readsStart_1
theorem dksX5_readsStart_0 : cX5_readsStart.data.toList.drop 0 = dktX5_readsStart_0 := by decide +kernel
theorem dksX5_readsStart_1 : cX5_readsStart.data.toList.drop 23 = dktX5_readsStart_1 := dk_seg dksX5_readsStart_0 23 rfl rfl
theorem dksX5_readsStart_2 : cX5_readsStart.data.toList.drop 45 = dktX5_readsStart_2 := dk_seg dksX5_readsStart_1 22 rfl rfl
theorem dksX5_readsStart_3 : cX5_readsStart.data.toList.drop 67 = dktX5_readsStart_3 := dk_seg dksX5_readsStart_2 22 rfl rfl
theorem dksX5_readsStart_4 : cX5_readsStart.data.toList.drop 90 = dktX5_readsStart_4 := dk_seg dksX5_readsStart_3 23 rfl rfl
theorem dksX5_readsStart_5 : cX5_readsStart.data.toList.drop 113 = dktX5_readsStart_5 := dk_seg dksX5_readsStart_4 23 rfl rfl
theorem dX5_readsStart_0 : decode cX5_readsStart 0 = .ok (.aload_n 0, 1) := dk_42 (dk_at dksX5_readsStart_0 0 rfl rfl)
theorem dX5_readsStart_1 : decode cX5_readsStart 1 = .ok (.iconst 1, 1) := dk_4 (dk_at dksX5_readsStart_0 1 rfl rfl)
theorem dX5_readsStart_2 : decode cX5_readsStart 2 = .ok (.invokevirtual 136, 3) := dk_182 0 136 (dk_at dksX5_readsStart_0 2 rfl rfl)
theorem dX5_readsStart_5 : decode cX5_readsStart 5 = .ok (.iconst 0, 1) := dk_3 (dk_at dksX5_readsStart_0 5 rfl rfl)
theorem dX5_readsStart_6 : decode cX5_readsStart 6 = .ok (.istore_n 1, 1) := dk_60 (dk_at dksX5_readsStart_0 6 rfl rfl)
theorem dX5_readsStart_7 : decode cX5_readsStart 7 = .ok (.iload_n 1, 1) := dk_27 (dk_at dksX5_readsStart_0 7 rfl rfl)
theorem dX5_readsStart_8 : decode cX5_readsStart 8 = .ok (.bipush 8, 2) := dk_16 8 (dk_at dksX5_readsStart_0 8 rfl rfl)
theorem dX5_readsStart_10 : decode cX5_readsStart 10 = .ok (.if_icmp .ge 19, 3) := dk_162 0 19 (dk_at dksX5_readsStart_0 10 rfl rfl)
theorem dX5_readsStart_13 : decode cX5_readsStart 13 = .ok (.aload_n 0, 1) := dk_42 (dk_at dksX5_readsStart_0 13 rfl rfl)
theorem dX5_readsStart_14 : decode cX5_readsStart 14 = .ok (.getfield 13, 3) := dk_180 0 13 (dk_at dksX5_readsStart_0 14 rfl rfl)
theorem dX5_readsStart_17 : decode cX5_readsStart 17 = .ok (.bipush 73, 2) := dk_16 73 (dk_at dksX5_readsStart_0 17 rfl rfl)
theorem dX5_readsStart_19 : decode cX5_readsStart 19 = .ok (.iload_n 1, 1) := dk_27 (dk_at dksX5_readsStart_0 19 rfl rfl)
theorem dX5_readsStart_20 : decode cX5_readsStart 20 = .ok (.iadd, 1) := dk_96 (dk_at dksX5_readsStart_0 20 rfl rfl)
theorem dX5_readsStart_21 : decode cX5_readsStart 21 = .ok (.iconst 0, 1) := dk_3 (dk_at dksX5_readsStart_0 21 rfl rfl)
theorem dX5_readsStart_22 : decode cX5_readsStart 22 = .ok (.iastore, 1) := dk_79 (dk_at dksX5_readsStart_0 22 rfl rfl)
theorem dX5_readsStart_23 : decode cX5_readsStart 23 = .ok (.iinc 1 1, 3) := dk_132 1 1 (dk_at dksX5_readsStart_1 0 rfl rfl)
theorem dX5_readsStart_26 : decode cX5_readsStart 26 = .ok (.goto (-19), 3) := dk_167 255 237 (dk_at dksX5_readsStart_1 3 rfl rfl)
theorem dX5_readsStart_29 : decode cX5_readsStart 29 = .ok (.aload_n 0, 1) := dk_42 (dk_at dksX5_readsStart_1 6 rfl rfl)
theorem dX5_readsStart_30 : decode cX5_readsStart 30 = .ok (.getfield 107, 3) := dk_180 0 107 (dk_at dksX5_readsStart_1 7 rfl rfl)
theorem dX5_readsStart_33 : decode cX5_readsStart 33 = .ok (.ifCond .ne 7, 3) := dk_154 0 7 (dk_at dksX5_readsStart_1 10 rfl rfl)
theorem dX5_readsStart_36 : decode cX5_readsStart 36 = .ok (.iconst 1, 1) := dk_4 (dk_at dksX5_readsStart_1 13 rfl rfl)
theorem dX5_readsStart_37 : decode cX5_readsStart 37 = .ok (.goto 4, 3) := dk_167 0 4 (dk_at dksX5_readsStart_1 14 rfl rfl)
theorem dX5_readsStart_40 : decode cX5_readsStart 40 = .ok (.iconst 0, 1) := dk_3 (dk_at dksX5_readsStart_1 17 rfl rfl)
theorem dX5_readsStart_41 : decode cX5_readsStart 41 = .ok (.istore_n 1, 1) := dk_60 (dk_at dksX5_readsStart_1 18 rfl rfl)
theorem dX5_readsStart_42 : decode cX5_readsStart 42 = .ok (.iconst 0, 1) := dk_3 (dk_at dksX5_readsStart_1 19 rfl rfl)
theorem dX5_readsStart_43 : decode cX5_readsStart 43 = .ok (.istore_n 2, 1) := dk_61 (dk_at dksX5_readsStart_1 20 rfl rfl)
theorem dX5_readsStart_44 : decode cX5_readsStart 44 = .ok (.iload_n 1, 1) := dk_27 (dk_at dksX5_readsStart_1 21 rfl rfl)
theorem dX5_readsStart_45 : decode cX5_readsStart 45 = .ok (.ifCond .eq 71, 3) := dk_153 0 71 (dk_at dksX5_readsStart_2 0 rfl rfl)
theorem dX5_readsStart_48 : decode cX5_readsStart 48 = .ok (.iload_n 2, 1) := dk_28 (dk_at dksX5_readsStart_2 3 rfl rfl)
theorem dX5_readsStart_49 : decode cX5_readsStart 49 = .ok (.aload_n 0, 1) := dk_42 (dk_at dksX5_readsStart_2 4 rfl rfl)
theorem dX5_readsStart_50 : decode cX5_readsStart 50 = .ok (.getfield 13, 3) := dk_180 0 13 (dk_at dksX5_readsStart_2 5 rfl rfl)
theorem dX5_readsStart_53 : decode cX5_readsStart 53 = .ok (.iconst 1, 1) := dk_4 (dk_at dksX5_readsStart_2 8 rfl rfl)
theorem dX5_readsStart_54 : decode cX5_readsStart 54 = .ok (.iaload, 1) := dk_46 (dk_at dksX5_readsStart_2 9 rfl rfl)
theorem dX5_readsStart_55 : decode cX5_readsStart 55 = .ok (.if_icmp .ne 9, 3) := dk_160 0 9 (dk_at dksX5_readsStart_2 10 rfl rfl)
theorem dX5_readsStart_58 : decode cX5_readsStart 58 = .ok (.aload_n 0, 1) := dk_42 (dk_at dksX5_readsStart_2 13 rfl rfl)
theorem dX5_readsStart_59 : decode cX5_readsStart 59 = .ok (.bipush (-2), 2) := dk_16 254 (dk_at dksX5_readsStart_2 14 rfl rfl)
theorem dX5_readsStart_61 : decode cX5_readsStart 61 = .ok (.invokevirtual 123, 3) := dk_182 0 123 (dk_at dksX5_readsStart_2 16 rfl rfl)
theorem dX5_readsStart_64 : decode cX5_readsStart 64 = .ok (.aload_n 0, 1) := dk_42 (dk_at dksX5_readsStart_2 19 rfl rfl)
theorem dX5_readsStart_65 : decode cX5_readsStart 65 = .ok (.iconst 0, 1) := dk_3 (dk_at dksX5_readsStart_2 20 rfl rfl)
theorem dX5_readsStart_66 : decode cX5_readsStart 66 = .ok (.aload_n 0, 1) := dk_42 (dk_at dksX5_readsStart_2 21 rfl rfl)
theorem dX5_readsStart_67 : decode cX5_readsStart 67 = .ok (.getfield 13, 3) := dk_180 0 13 (dk_at dksX5_readsStart_3 0 rfl rfl)
theorem dX5_readsStart_70 : decode cX5_readsStart 70 = .ok (.iconst 0, 1) := dk_3 (dk_at dksX5_readsStart_3 3 rfl rfl)
theorem dX5_readsStart_71 : decode cX5_readsStart 71 = .ok (.iaload, 1) := dk_46 (dk_at dksX5_readsStart_3 4 rfl rfl)
theorem dX5_readsStart_72 : decode cX5_readsStart 72 = .ok (.iconst 1, 1) := dk_4 (dk_at dksX5_readsStart_3 5 rfl rfl)
theorem dX5_readsStart_73 : decode cX5_readsStart 73 = .ok (.isub, 1) := dk_100 (dk_at dksX5_readsStart_3 6 rfl rfl)
theorem dX5_readsStart_74 : decode cX5_readsStart 74 = .ok (.invokevirtual 143, 3) := dk_182 0 143 (dk_at dksX5_readsStart_3 7 rfl rfl)
theorem dX5_readsStart_77 : decode cX5_readsStart 77 = .ok (.istore_n 3, 1) := dk_62 (dk_at dksX5_readsStart_3 10 rfl rfl)
theorem dX5_readsStart_78 : decode cX5_readsStart 78 = .ok (.aload_n 0, 1) := dk_42 (dk_at dksX5_readsStart_3 11 rfl rfl)
theorem dX5_readsStart_79 : decode cX5_readsStart 79 = .ok (.getfield 107, 3) := dk_180 0 107 (dk_at dksX5_readsStart_3 12 rfl rfl)
theorem dX5_readsStart_82 : decode cX5_readsStart 82 = .ok (.ifCond .eq 4, 3) := dk_153 0 4 (dk_at dksX5_readsStart_3 15 rfl rfl)
theorem dX5_readsStart_85 : decode cX5_readsStart 85 = .ok (.return_, 1) := dk_177 (dk_at dksX5_readsStart_3 18 rfl rfl)
theorem dX5_readsStart_86 : decode cX5_readsStart 86 = .ok (.aload_n 0, 1) := dk_42 (dk_at dksX5_readsStart_3 19 rfl rfl)
theorem dX5_readsStart_87 : decode cX5_readsStart 87 = .ok (.getfield 13, 3) := dk_180 0 13 (dk_at dksX5_readsStart_3 20 rfl rfl)
theorem dX5_readsStart_90 : decode cX5_readsStart 90 = .ok (.bipush 73, 2) := dk_16 73 (dk_at dksX5_readsStart_4 0 rfl rfl)
theorem dX5_readsStart_92 : decode cX5_readsStart 92 = .ok (.iload_n 2, 1) := dk_28 (dk_at dksX5_readsStart_4 2 rfl rfl)
theorem dX5_readsStart_93 : decode cX5_readsStart 93 = .ok (.iadd, 1) := dk_96 (dk_at dksX5_readsStart_4 3 rfl rfl)
theorem dX5_readsStart_94 : decode cX5_readsStart 94 = .ok (.iload_n 3, 1) := dk_29 (dk_at dksX5_readsStart_4 4 rfl rfl)
theorem dX5_readsStart_95 : decode cX5_readsStart 95 = .ok (.iastore, 1) := dk_79 (dk_at dksX5_readsStart_4 5 rfl rfl)
theorem dX5_readsStart_96 : decode cX5_readsStart 96 = .ok (.aload_n 0, 1) := dk_42 (dk_at dksX5_readsStart_4 6 rfl rfl)
theorem dX5_readsStart_97 : decode cX5_readsStart 97 = .ok (.getfield 94, 3) := dk_180 0 94 (dk_at dksX5_readsStart_4 7 rfl rfl)
theorem dX5_readsStart_100 : decode cX5_readsStart 100 = .ok (.iconst 1, 1) := dk_4 (dk_at dksX5_readsStart_4 10 rfl rfl)
theorem dX5_readsStart_101 : decode cX5_readsStart 101 = .ok (.if_icmp .ne 7, 3) := dk_160 0 7 (dk_at dksX5_readsStart_4 11 rfl rfl)
theorem dX5_readsStart_104 : decode cX5_readsStart 104 = .ok (.iconst 1, 1) := dk_4 (dk_at dksX5_readsStart_4 14 rfl rfl)
theorem dX5_readsStart_105 : decode cX5_readsStart 105 = .ok (.goto 4, 3) := dk_167 0 4 (dk_at dksX5_readsStart_4 15 rfl rfl)
theorem dX5_readsStart_108 : decode cX5_readsStart 108 = .ok (.iconst 0, 1) := dk_3 (dk_at dksX5_readsStart_4 18 rfl rfl)
theorem dX5_readsStart_109 : decode cX5_readsStart 109 = .ok (.istore_n 1, 1) := dk_60 (dk_at dksX5_readsStart_4 19 rfl rfl)
theorem dX5_readsStart_110 : decode cX5_readsStart 110 = .ok (.iinc 2 1, 3) := dk_132 2 1 (dk_at dksX5_readsStart_4 20 rfl rfl)
theorem dX5_readsStart_113 : decode cX5_readsStart 113 = .ok (.goto (-69), 3) := dk_167 255 187 (dk_at dksX5_readsStart_5 0 rfl rfl)
theorem dX5_readsStart_116 : decode cX5_readsStart 116 = .ok (.return_, 1) := dk_177 (dk_at dksX5_readsStart_5 3 rfl rfl)
abbrev cX5_errorPosition : ByteArray := prog_12_method_26_code
def yX5_errorPosition : MethodName := ⟨RX5, "errorPosition", "()I"⟩
def dkwX5_errorPosition_0 : List UInt8 := [42, 3, 181, 0, 65, 42, 180, 0, 29, 172]
abbrev dktX5_errorPosition_0 : List UInt8 := dkwX5_errorPosition_0 ++ []
theorem dksX5_errorPosition_0 : cX5_errorPosition.data.toList.drop 0 = dktX5_errorPosition_0 := by decide +kernel
theorem dX5_errorPosition_0 : decode cX5_errorPosition 0 = .ok (.aload_n 0, 1) := dk_42 (dk_at dksX5_errorPosition_0 0 rfl rfl)
theorem dX5_errorPosition_1 : decode cX5_errorPosition 1 = .ok (.iconst 0, 1) := dk_3 (dk_at dksX5_errorPosition_0 1 rfl rfl)
theorem dX5_errorPosition_2 : decode cX5_errorPosition 2 = .ok (.putfield 65, 3) := dk_181 0 65 (dk_at dksX5_errorPosition_0 2 rfl rfl)
theorem dX5_errorPosition_5 : decode cX5_errorPosition 5 = .ok (.aload_n 0, 1) := dk_42 (dk_at dksX5_errorPosition_0 5 rfl rfl)
theorem dX5_errorPosition_6 : decode cX5_errorPosition 6 = .ok (.getfield 29, 3) := dk_180 0 29 (dk_at dksX5_errorPosition_0 6 rfl rfl)
theorem dX5_errorPosition_9 : decode cX5_errorPosition 9 = .ok (.ireturn, 1) := dk_172 (dk_at dksX5_errorPosition_0 9 rfl rfl)
abbrev cX5_count : ByteArray := prog_12_method_33_code
def yX5_count : MethodName := ⟨RX5, "count", "(I)I"⟩
def dkwX5_count_1 : List UInt8 := [158, 0, 7, 3, 167, 0, 9, 42, 180, 0, 7, 27, 46, 172]
abbrev dktX5_count_1 : List UInt8 := dkwX5_count_1 ++ []
def dkwX5_count_0 : List UInt8 := [42, 27, 3, 16, 8, 184, 0, 71, 153, 0, 7, 3, 167, 0, 4, 4, 181, 0, 65, 42, 180, 0, 65]
abbrev dktX5_count_0 : List UInt8 := dkwX5_count_0 ++ dktX5_count_1
theorem dksX5_count_0 : cX5_count.data.toList.drop 0 = dktX5_count_0 := by decide +kernel
theorem dksX5_count_1 : cX5_count.data.toList.drop 23 = dktX5_count_1 := dk_seg dksX5_count_0 23 rfl rfl
theorem dX5_count_0 : decode cX5_count 0 = .ok (.aload_n 0, 1) := dk_42 (dk_at dksX5_count_0 0 rfl rfl)
theorem dX5_count_1 : decode cX5_count 1 = .ok (.iload_n 1, 1) := dk_27 (dk_at dksX5_count_0 1 rfl rfl)
theorem dX5_count_2 : decode cX5_count 2 = .ok (.iconst 0, 1) := dk_3 (dk_at dksX5_count_0 2 rfl rfl)
theorem dX5_count_3 : decode cX5_count 3 = .ok (.bipush 8, 2) := dk_16 8 (dk_at dksX5_count_0 3 rfl rfl)
theorem dX5_count_5 : decode cX5_count 5 = .ok (.invokestatic 71, 3) := dk_184 0 71 (dk_at dksX5_count_0 5 rfl rfl)
theorem dX5_count_8 : decode cX5_count 8 = .ok (.ifCond .eq 7, 3) := dk_153 0 7 (dk_at dksX5_count_0 8 rfl rfl)
theorem dX5_count_11 : decode cX5_count 11 = .ok (.iconst 0, 1) := dk_3 (dk_at dksX5_count_0 11 rfl rfl)
theorem dX5_count_12 : decode cX5_count 12 = .ok (.goto 4, 3) := dk_167 0 4 (dk_at dksX5_count_0 12 rfl rfl)
theorem dX5_count_15 : decode cX5_count 15 = .ok (.iconst 1, 1) := dk_4 (dk_at dksX5_count_0 15 rfl rfl)
theorem dX5_count_16 : decode cX5_count 16 = .ok (.putfield 65, 3) := dk_181 0 65 (dk_at dksX5_count_0 16 rfl rfl)
theorem dX5_count_19 : decode cX5_count 19 = .ok (.aload_n 0, 1) := dk_42 (dk_at dksX5_count_0 19 rfl rfl)
theorem dX5_count_20 : decode cX5_count 20 = .ok (.getfield 65, 3) := dk_180 0 65 (dk_at dksX5_count_0 20 rfl rfl)
theorem dX5_count_23 : decode cX5_count 23 = .ok (.ifCond .le 7, 3) := dk_158 0 7 (dk_at dksX5_count_1 0 rfl rfl)
theorem dX5_count_26 : decode cX5_count 26 = .ok (.iconst 0, 1) := dk_3 (dk_at dksX5_count_1 3 rfl rfl)
theorem dX5_count_27 : decode cX5_count 27 = .ok (.goto 9, 3) := dk_167 0 9 (dk_at dksX5_count_1 4 rfl rfl)
theorem dX5_count_30 : decode cX5_count 30 = .ok (.aload_n 0, 1) := dk_42 (dk_at dksX5_count_1 7 rfl rfl)
theorem dX5_count_31 : decode cX5_count 31 = .ok (.getfield 7, 3) := dk_180 0 7 (dk_at dksX5_count_1 8 rfl rfl)
theorem dX5_count_34 : decode cX5_count 34 = .ok (.iload_n 1, 1) := dk_27 (dk_at dksX5_count_1 11 rfl rfl)
theorem dX5_count_35 : decode cX5_count 35 = .ok (.iaload, 1) := dk_46 (dk_at dksX5_count_1 12 rfl rfl)
theorem dX5_count_36 : decode cX5_count 36 = .ok (.ireturn, 1) := dk_172 (dk_at dksX5_count_1 13 rfl rfl)
abbrev cX5_cell : ByteArray := prog_12_method_34_code
def yX5_cell : MethodName := ⟨RX5, "cell", "(II)I"⟩
def dkwX5_cell_1 : List UInt8 := [181, 0, 65, 42, 180, 0, 65, 158, 0, 7, 3, 167, 0, 9, 42, 27, 28, 182, 0, 184, 172]
abbrev dktX5_cell_1 : List UInt8 := dkwX5_cell_1 ++ []
def dkwX5_cell_0 : List UInt8 := [42, 42, 27, 182, 0, 181, 153, 0, 15, 42, 28, 182, 0, 181, 153, 0, 7, 3, 167, 0, 4, 4]
abbrev dktX5_cell_0 : List UInt8 := dkwX5_cell_0 ++ dktX5_cell_1
theorem dksX5_cell_0 : cX5_cell.data.toList.drop 0 = dktX5_cell_0 := by decide +kernel
theorem dksX5_cell_1 : cX5_cell.data.toList.drop 22 = dktX5_cell_1 := dk_seg dksX5_cell_0 22 rfl rfl
theorem dX5_cell_0 : decode cX5_cell 0 = .ok (.aload_n 0, 1) := dk_42 (dk_at dksX5_cell_0 0 rfl rfl)
theorem dX5_cell_1 : decode cX5_cell 1 = .ok (.aload_n 0, 1) := dk_42 (dk_at dksX5_cell_0 1 rfl rfl)
theorem dX5_cell_2 : decode cX5_cell 2 = .ok (.iload_n 1, 1) := dk_27 (dk_at dksX5_cell_0 2 rfl rfl)
theorem dX5_cell_3 : decode cX5_cell 3 = .ok (.invokevirtual 181, 3) := dk_182 0 181 (dk_at dksX5_cell_0 3 rfl rfl)
theorem dX5_cell_6 : decode cX5_cell 6 = .ok (.ifCond .eq 15, 3) := dk_153 0 15 (dk_at dksX5_cell_0 6 rfl rfl)
theorem dX5_cell_9 : decode cX5_cell 9 = .ok (.aload_n 0, 1) := dk_42 (dk_at dksX5_cell_0 9 rfl rfl)
theorem dX5_cell_10 : decode cX5_cell 10 = .ok (.iload_n 2, 1) := dk_28 (dk_at dksX5_cell_0 10 rfl rfl)
theorem dX5_cell_11 : decode cX5_cell 11 = .ok (.invokevirtual 181, 3) := dk_182 0 181 (dk_at dksX5_cell_0 11 rfl rfl)
theorem dX5_cell_14 : decode cX5_cell 14 = .ok (.ifCond .eq 7, 3) := dk_153 0 7 (dk_at dksX5_cell_0 14 rfl rfl)
theorem dX5_cell_17 : decode cX5_cell 17 = .ok (.iconst 0, 1) := dk_3 (dk_at dksX5_cell_0 17 rfl rfl)
theorem dX5_cell_18 : decode cX5_cell 18 = .ok (.goto 4, 3) := dk_167 0 4 (dk_at dksX5_cell_0 18 rfl rfl)
theorem dX5_cell_21 : decode cX5_cell 21 = .ok (.iconst 1, 1) := dk_4 (dk_at dksX5_cell_0 21 rfl rfl)
theorem dX5_cell_22 : decode cX5_cell 22 = .ok (.putfield 65, 3) := dk_181 0 65 (dk_at dksX5_cell_1 0 rfl rfl)
theorem dX5_cell_25 : decode cX5_cell 25 = .ok (.aload_n 0, 1) := dk_42 (dk_at dksX5_cell_1 3 rfl rfl)
theorem dX5_cell_26 : decode cX5_cell 26 = .ok (.getfield 65, 3) := dk_180 0 65 (dk_at dksX5_cell_1 4 rfl rfl)
theorem dX5_cell_29 : decode cX5_cell 29 = .ok (.ifCond .le 7, 3) := dk_158 0 7 (dk_at dksX5_cell_1 7 rfl rfl)
theorem dX5_cell_32 : decode cX5_cell 32 = .ok (.iconst 0, 1) := dk_3 (dk_at dksX5_cell_1 10 rfl rfl)
theorem dX5_cell_33 : decode cX5_cell 33 = .ok (.goto 9, 3) := dk_167 0 9 (dk_at dksX5_cell_1 11 rfl rfl)
theorem dX5_cell_36 : decode cX5_cell 36 = .ok (.aload_n 0, 1) := dk_42 (dk_at dksX5_cell_1 14 rfl rfl)
theorem dX5_cell_37 : decode cX5_cell 37 = .ok (.iload_n 1, 1) := dk_27 (dk_at dksX5_cell_1 15 rfl rfl)
theorem dX5_cell_38 : decode cX5_cell 38 = .ok (.iload_n 2, 1) := dk_28 (dk_at dksX5_cell_1 16 rfl rfl)
theorem dX5_cell_39 : decode cX5_cell 39 = .ok (.invokevirtual 184, 3) := dk_182 0 184 (dk_at dksX5_cell_1 17 rfl rfl)
theorem dX5_cell_42 : decode cX5_cell 42 = .ok (.ireturn, 1) := dk_172 (dk_at dksX5_cell_1 20 rfl rfl)
abbrev cX5_isPlace : ByteArray := prog_12_method_30_code
def yX5_isPlace : MethodName := ⟨RX5, "isPlace", "(I)Z"⟩
def dkwX5_isPlace_0 : List UInt8 := [27, 3, 42, 180, 0, 7, 4, 46, 4, 100, 184, 0, 71, 172]
abbrev dktX5_isPlace_0 : List UInt8 := dkwX5_isPlace_0 ++ []
theorem dksX5_isPlace_0 : cX5_isPlace.data.toList.drop 0 = dktX5_isPlace_0 := by decide +kernel
theorem dX5_isPlace_0 : decode cX5_isPlace 0 = .ok (.iload_n 1, 1) := dk_27 (dk_at dksX5_isPlace_0 0 rfl rfl)
theorem dX5_isPlace_1 : decode cX5_isPlace 1 = .ok (.iconst 0, 1) := dk_3 (dk_at dksX5_isPlace_0 1 rfl rfl)
theorem dX5_isPlace_2 : decode cX5_isPlace 2 = .ok (.aload_n 0, 1) := dk_42 (dk_at dksX5_isPlace_0 2 rfl rfl)
theorem dX5_isPlace_3 : decode cX5_isPlace 3 = .ok (.getfield 7, 3) := dk_180 0 7 (dk_at dksX5_isPlace_0 3 rfl rfl)
theorem dX5_isPlace_6 : decode cX5_isPlace 6 = .ok (.iconst 1, 1) := dk_4 (dk_at dksX5_isPlace_0 6 rfl rfl)
theorem dX5_isPlace_7 : decode cX5_isPlace 7 = .ok (.iaload, 1) := dk_46 (dk_at dksX5_isPlace_0 7 rfl rfl)
theorem dX5_isPlace_8 : decode cX5_isPlace 8 = .ok (.iconst 1, 1) := dk_4 (dk_at dksX5_isPlace_0 8 rfl rfl)
theorem dX5_isPlace_9 : decode cX5_isPlace 9 = .ok (.isub, 1) := dk_100 (dk_at dksX5_isPlace_0 9 rfl rfl)
theorem dX5_isPlace_10 : decode cX5_isPlace 10 = .ok (.invokestatic 71, 3) := dk_184 0 71 (dk_at dksX5_isPlace_0 10 rfl rfl)
theorem dX5_isPlace_13 : decode cX5_isPlace 13 = .ok (.ireturn, 1) := dk_172 (dk_at dksX5_isPlace_0 13 rfl rfl)
abbrev cX5_cellOf : ByteArray := prog_12_method_32_code
def yX5_cellOf : MethodName := ⟨RX5, "cellOf", "(II)I"⟩
def dkwX5_cellOf_0 : List UInt8 := [42, 180, 0, 7, 16, 9, 16, 8, 27, 104, 96, 28, 96, 46, 172]
abbrev dktX5_cellOf_0 : List UInt8 := dkwX5_cellOf_0 ++ []
theorem dksX5_cellOf_0 : cX5_cellOf.data.toList.drop 0 = dktX5_cellOf_0 := by decide +kernel
theorem dX5_cellOf_0 : decode cX5_cellOf 0 = .ok (.aload_n 0, 1) := dk_42 (dk_at dksX5_cellOf_0 0 rfl rfl)
theorem dX5_cellOf_1 : decode cX5_cellOf 1 = .ok (.getfield 7, 3) := dk_180 0 7 (dk_at dksX5_cellOf_0 1 rfl rfl)
theorem dX5_cellOf_4 : decode cX5_cellOf 4 = .ok (.bipush 9, 2) := dk_16 9 (dk_at dksX5_cellOf_0 4 rfl rfl)
theorem dX5_cellOf_6 : decode cX5_cellOf 6 = .ok (.bipush 8, 2) := dk_16 8 (dk_at dksX5_cellOf_0 6 rfl rfl)
theorem dX5_cellOf_8 : decode cX5_cellOf 8 = .ok (.iload_n 1, 1) := dk_27 (dk_at dksX5_cellOf_0 8 rfl rfl)
theorem dX5_cellOf_9 : decode cX5_cellOf 9 = .ok (.imul, 1) := dk_104 (dk_at dksX5_cellOf_0 9 rfl rfl)
theorem dX5_cellOf_10 : decode cX5_cellOf 10 = .ok (.iadd, 1) := dk_96 (dk_at dksX5_cellOf_0 10 rfl rfl)
theorem dX5_cellOf_11 : decode cX5_cellOf 11 = .ok (.iload_n 2, 1) := dk_28 (dk_at dksX5_cellOf_0 11 rfl rfl)
theorem dX5_cellOf_12 : decode cX5_cellOf 12 = .ok (.iadd, 1) := dk_96 (dk_at dksX5_cellOf_0 12 rfl rfl)
theorem dX5_cellOf_13 : decode cX5_cellOf 13 = .ok (.iaload, 1) := dk_46 (dk_at dksX5_cellOf_0 13 rfl rfl)
theorem dX5_cellOf_14 : decode cX5_cellOf 14 = .ok (.ireturn, 1) := dk_172 (dk_at dksX5_cellOf_0 14 rfl rfl)
abbrev cX5_start : ByteArray := prog_12_method_35_code
def yX5_start : MethodName := ⟨RX5, "start", "(I)I"⟩
def dkwX5_start_1 : List UInt8 := [3, 167, 0, 12, 42, 180, 0, 7, 16, 73, 27, 96, 46, 172]
abbrev dktX5_start_1 : List UInt8 := dkwX5_start_1 ++ []
def dkwX5_start_0 : List UInt8 := [42, 42, 27, 182, 0, 181, 153, 0, 7, 3, 167, 0, 4, 4, 181, 0, 65, 42, 180, 0, 65, 158, 0, 7]
abbrev dktX5_start_0 : List UInt8 := dkwX5_start_0 ++ dktX5_start_1
theorem dksX5_start_0 : cX5_start.data.toList.drop 0 = dktX5_start_0 := by decide +kernel
theorem dksX5_start_1 : cX5_start.data.toList.drop 24 = dktX5_start_1 := dk_seg dksX5_start_0 24 rfl rfl
theorem dX5_start_0 : decode cX5_start 0 = .ok (.aload_n 0, 1) := dk_42 (dk_at dksX5_start_0 0 rfl rfl)
theorem dX5_start_1 : decode cX5_start 1 = .ok (.aload_n 0, 1) := dk_42 (dk_at dksX5_start_0 1 rfl rfl)
theorem dX5_start_2 : decode cX5_start 2 = .ok (.iload_n 1, 1) := dk_27 (dk_at dksX5_start_0 2 rfl rfl)
theorem dX5_start_3 : decode cX5_start 3 = .ok (.invokevirtual 181, 3) := dk_182 0 181 (dk_at dksX5_start_0 3 rfl rfl)
theorem dX5_start_6 : decode cX5_start 6 = .ok (.ifCond .eq 7, 3) := dk_153 0 7 (dk_at dksX5_start_0 6 rfl rfl)
theorem dX5_start_9 : decode cX5_start 9 = .ok (.iconst 0, 1) := dk_3 (dk_at dksX5_start_0 9 rfl rfl)
theorem dX5_start_10 : decode cX5_start 10 = .ok (.goto 4, 3) := dk_167 0 4 (dk_at dksX5_start_0 10 rfl rfl)
theorem dX5_start_13 : decode cX5_start 13 = .ok (.iconst 1, 1) := dk_4 (dk_at dksX5_start_0 13 rfl rfl)
theorem dX5_start_14 : decode cX5_start 14 = .ok (.putfield 65, 3) := dk_181 0 65 (dk_at dksX5_start_0 14 rfl rfl)
theorem dX5_start_17 : decode cX5_start 17 = .ok (.aload_n 0, 1) := dk_42 (dk_at dksX5_start_0 17 rfl rfl)
theorem dX5_start_18 : decode cX5_start 18 = .ok (.getfield 65, 3) := dk_180 0 65 (dk_at dksX5_start_0 18 rfl rfl)
theorem dX5_start_21 : decode cX5_start 21 = .ok (.ifCond .le 7, 3) := dk_158 0 7 (dk_at dksX5_start_0 21 rfl rfl)
theorem dX5_start_24 : decode cX5_start 24 = .ok (.iconst 0, 1) := dk_3 (dk_at dksX5_start_1 0 rfl rfl)
theorem dX5_start_25 : decode cX5_start 25 = .ok (.goto 12, 3) := dk_167 0 12 (dk_at dksX5_start_1 1 rfl rfl)
theorem dX5_start_28 : decode cX5_start 28 = .ok (.aload_n 0, 1) := dk_42 (dk_at dksX5_start_1 4 rfl rfl)
theorem dX5_start_29 : decode cX5_start 29 = .ok (.getfield 7, 3) := dk_180 0 7 (dk_at dksX5_start_1 5 rfl rfl)
theorem dX5_start_32 : decode cX5_start 32 = .ok (.bipush 73, 2) := dk_16 73 (dk_at dksX5_start_1 8 rfl rfl)
theorem dX5_start_34 : decode cX5_start 34 = .ok (.iload_n 1, 1) := dk_27 (dk_at dksX5_start_1 10 rfl rfl)
theorem dX5_start_35 : decode cX5_start 35 = .ok (.iadd, 1) := dk_96 (dk_at dksX5_start_1 11 rfl rfl)
theorem dX5_start_36 : decode cX5_start 36 = .ok (.iaload, 1) := dk_46 (dk_at dksX5_start_1 12 rfl rfl)
theorem dX5_start_37 : decode cX5_start 37 = .ok (.ireturn, 1) := dk_172 (dk_at dksX5_start_1 13 rfl rfl)
abbrev cX5_setCell : ByteArray := prog_12_method_37_code
def yX5_setCell : MethodName := ⟨RX5, "setCell", "(III)I"⟩
def dkwX5_setCell_3 : List UInt8 := [29, 79, 42, 180, 0, 7, 16, 9, 16, 8, 28, 104, 96, 27, 96, 29, 79, 42, 182, 0, 190, 21, 4, 172]
abbrev dktX5_setCell_3 : List UInt8 := dkwX5_setCell_3 ++ []
def dkwX5_setCell_2 : List UInt8 := [182, 0, 75, 42, 27, 28, 182, 0, 184, 54, 4, 42, 180, 0, 7, 16, 9, 16, 8, 27, 104, 96, 28, 96]
abbrev dktX5_setCell_2 : List UInt8 := dkwX5_setCell_2 ++ dktX5_setCell_3
def dkwX5_setCell_1 : List UInt8 := [182, 0, 187, 153, 0, 7, 3, 167, 0, 4, 5, 181, 0, 65, 42, 180, 0, 65, 158, 0, 5, 3, 172, 42]
abbrev dktX5_setCell_1 : List UInt8 := dkwX5_setCell_1 ++ dktX5_setCell_2
def dkwX5_setCell_0 : List UInt8 := [42, 42, 27, 182, 0, 181, 153, 0, 11, 42, 28, 182, 0, 181, 154, 0, 7, 4, 167, 0, 16, 42, 29]
abbrev dktX5_setCell_0 : List UInt8 := dkwX5_setCell_0 ++ dktX5_setCell_1
theorem dksX5_setCell_0 : cX5_setCell.data.toList.drop 0 = dktX5_setCell_0 := by decide +kernel
theorem dksX5_setCell_1 : cX5_setCell.data.toList.drop 23 = dktX5_setCell_1 := dk_seg dksX5_setCell_0 23 rfl rfl
theorem dksX5_setCell_2 : cX5_setCell.data.toList.drop 47 = dktX5_setCell_2 := dk_seg dksX5_setCell_1 24 rfl rfl
theorem dksX5_setCell_3 : cX5_setCell.data.toList.drop 71 = dktX5_setCell_3 := dk_seg dksX5_setCell_2 24 rfl rfl
theorem dX5_setCell_0 : decode cX5_setCell 0 = .ok (.aload_n 0, 1) := dk_42 (dk_at dksX5_setCell_0 0 rfl rfl)
theorem dX5_setCell_1 : decode cX5_setCell 1 = .ok (.aload_n 0, 1) := dk_42 (dk_at dksX5_setCell_0 1 rfl rfl)
theorem dX5_setCell_2 : decode cX5_setCell 2 = .ok (.iload_n 1, 1) := dk_27 (dk_at dksX5_setCell_0 2 rfl rfl)
theorem dX5_setCell_3 : decode cX5_setCell 3 = .ok (.invokevirtual 181, 3) := dk_182 0 181 (dk_at dksX5_setCell_0 3 rfl rfl)
theorem dX5_setCell_6 : decode cX5_setCell 6 = .ok (.ifCond .eq 11, 3) := dk_153 0 11 (dk_at dksX5_setCell_0 6 rfl rfl)
theorem dX5_setCell_9 : decode cX5_setCell 9 = .ok (.aload_n 0, 1) := dk_42 (dk_at dksX5_setCell_0 9 rfl rfl)
theorem dX5_setCell_10 : decode cX5_setCell 10 = .ok (.iload_n 2, 1) := dk_28 (dk_at dksX5_setCell_0 10 rfl rfl)
theorem dX5_setCell_11 : decode cX5_setCell 11 = .ok (.invokevirtual 181, 3) := dk_182 0 181 (dk_at dksX5_setCell_0 11 rfl rfl)
theorem dX5_setCell_14 : decode cX5_setCell 14 = .ok (.ifCond .ne 7, 3) := dk_154 0 7 (dk_at dksX5_setCell_0 14 rfl rfl)
theorem dX5_setCell_17 : decode cX5_setCell 17 = .ok (.iconst 1, 1) := dk_4 (dk_at dksX5_setCell_0 17 rfl rfl)
theorem dX5_setCell_18 : decode cX5_setCell 18 = .ok (.goto 16, 3) := dk_167 0 16 (dk_at dksX5_setCell_0 18 rfl rfl)
theorem dX5_setCell_21 : decode cX5_setCell 21 = .ok (.aload_n 0, 1) := dk_42 (dk_at dksX5_setCell_0 21 rfl rfl)
theorem dX5_setCell_22 : decode cX5_setCell 22 = .ok (.iload_n 3, 1) := dk_29 (dk_at dksX5_setCell_0 22 rfl rfl)
theorem dX5_setCell_23 : decode cX5_setCell 23 = .ok (.invokevirtual 187, 3) := dk_182 0 187 (dk_at dksX5_setCell_1 0 rfl rfl)
theorem dX5_setCell_26 : decode cX5_setCell 26 = .ok (.ifCond .eq 7, 3) := dk_153 0 7 (dk_at dksX5_setCell_1 3 rfl rfl)
theorem dX5_setCell_29 : decode cX5_setCell 29 = .ok (.iconst 0, 1) := dk_3 (dk_at dksX5_setCell_1 6 rfl rfl)
theorem dX5_setCell_30 : decode cX5_setCell 30 = .ok (.goto 4, 3) := dk_167 0 4 (dk_at dksX5_setCell_1 7 rfl rfl)
theorem dX5_setCell_33 : decode cX5_setCell 33 = .ok (.iconst 2, 1) := dk_5 (dk_at dksX5_setCell_1 10 rfl rfl)
theorem dX5_setCell_34 : decode cX5_setCell 34 = .ok (.putfield 65, 3) := dk_181 0 65 (dk_at dksX5_setCell_1 11 rfl rfl)
theorem dX5_setCell_37 : decode cX5_setCell 37 = .ok (.aload_n 0, 1) := dk_42 (dk_at dksX5_setCell_1 14 rfl rfl)
theorem dX5_setCell_38 : decode cX5_setCell 38 = .ok (.getfield 65, 3) := dk_180 0 65 (dk_at dksX5_setCell_1 15 rfl rfl)
theorem dX5_setCell_41 : decode cX5_setCell 41 = .ok (.ifCond .le 5, 3) := dk_158 0 5 (dk_at dksX5_setCell_1 18 rfl rfl)
theorem dX5_setCell_44 : decode cX5_setCell 44 = .ok (.iconst 0, 1) := dk_3 (dk_at dksX5_setCell_1 21 rfl rfl)
theorem dX5_setCell_45 : decode cX5_setCell 45 = .ok (.ireturn, 1) := dk_172 (dk_at dksX5_setCell_1 22 rfl rfl)
theorem dX5_setCell_46 : decode cX5_setCell 46 = .ok (.aload_n 0, 1) := dk_42 (dk_at dksX5_setCell_1 23 rfl rfl)
theorem dX5_setCell_47 : decode cX5_setCell 47 = .ok (.invokevirtual 75, 3) := dk_182 0 75 (dk_at dksX5_setCell_2 0 rfl rfl)
theorem dX5_setCell_50 : decode cX5_setCell 50 = .ok (.aload_n 0, 1) := dk_42 (dk_at dksX5_setCell_2 3 rfl rfl)
theorem dX5_setCell_51 : decode cX5_setCell 51 = .ok (.iload_n 1, 1) := dk_27 (dk_at dksX5_setCell_2 4 rfl rfl)
theorem dX5_setCell_52 : decode cX5_setCell 52 = .ok (.iload_n 2, 1) := dk_28 (dk_at dksX5_setCell_2 5 rfl rfl)
theorem dX5_setCell_53 : decode cX5_setCell 53 = .ok (.invokevirtual 184, 3) := dk_182 0 184 (dk_at dksX5_setCell_2 6 rfl rfl)
theorem dX5_setCell_56 : decode cX5_setCell 56 = .ok (.istore 4, 2) := dk_54 4 (dk_at dksX5_setCell_2 9 rfl rfl)
theorem dX5_setCell_58 : decode cX5_setCell 58 = .ok (.aload_n 0, 1) := dk_42 (dk_at dksX5_setCell_2 11 rfl rfl)
theorem dX5_setCell_59 : decode cX5_setCell 59 = .ok (.getfield 7, 3) := dk_180 0 7 (dk_at dksX5_setCell_2 12 rfl rfl)
theorem dX5_setCell_62 : decode cX5_setCell 62 = .ok (.bipush 9, 2) := dk_16 9 (dk_at dksX5_setCell_2 15 rfl rfl)
theorem dX5_setCell_64 : decode cX5_setCell 64 = .ok (.bipush 8, 2) := dk_16 8 (dk_at dksX5_setCell_2 17 rfl rfl)
theorem dX5_setCell_66 : decode cX5_setCell 66 = .ok (.iload_n 1, 1) := dk_27 (dk_at dksX5_setCell_2 19 rfl rfl)
theorem dX5_setCell_67 : decode cX5_setCell 67 = .ok (.imul, 1) := dk_104 (dk_at dksX5_setCell_2 20 rfl rfl)
theorem dX5_setCell_68 : decode cX5_setCell 68 = .ok (.iadd, 1) := dk_96 (dk_at dksX5_setCell_2 21 rfl rfl)
theorem dX5_setCell_69 : decode cX5_setCell 69 = .ok (.iload_n 2, 1) := dk_28 (dk_at dksX5_setCell_2 22 rfl rfl)
theorem dX5_setCell_70 : decode cX5_setCell 70 = .ok (.iadd, 1) := dk_96 (dk_at dksX5_setCell_2 23 rfl rfl)
theorem dX5_setCell_71 : decode cX5_setCell 71 = .ok (.iload_n 3, 1) := dk_29 (dk_at dksX5_setCell_3 0 rfl rfl)
theorem dX5_setCell_72 : decode cX5_setCell 72 = .ok (.iastore, 1) := dk_79 (dk_at dksX5_setCell_3 1 rfl rfl)
theorem dX5_setCell_73 : decode cX5_setCell 73 = .ok (.aload_n 0, 1) := dk_42 (dk_at dksX5_setCell_3 2 rfl rfl)
theorem dX5_setCell_74 : decode cX5_setCell 74 = .ok (.getfield 7, 3) := dk_180 0 7 (dk_at dksX5_setCell_3 3 rfl rfl)
theorem dX5_setCell_77 : decode cX5_setCell 77 = .ok (.bipush 9, 2) := dk_16 9 (dk_at dksX5_setCell_3 6 rfl rfl)
theorem dX5_setCell_79 : decode cX5_setCell 79 = .ok (.bipush 8, 2) := dk_16 8 (dk_at dksX5_setCell_3 8 rfl rfl)
theorem dX5_setCell_81 : decode cX5_setCell 81 = .ok (.iload_n 2, 1) := dk_28 (dk_at dksX5_setCell_3 10 rfl rfl)
theorem dX5_setCell_82 : decode cX5_setCell 82 = .ok (.imul, 1) := dk_104 (dk_at dksX5_setCell_3 11 rfl rfl)
theorem dX5_setCell_83 : decode cX5_setCell 83 = .ok (.iadd, 1) := dk_96 (dk_at dksX5_setCell_3 12 rfl rfl)
theorem dX5_setCell_84 : decode cX5_setCell 84 = .ok (.iload_n 1, 1) := dk_27 (dk_at dksX5_setCell_3 13 rfl rfl)
theorem dX5_setCell_85 : decode cX5_setCell 85 = .ok (.iadd, 1) := dk_96 (dk_at dksX5_setCell_3 14 rfl rfl)
theorem dX5_setCell_86 : decode cX5_setCell 86 = .ok (.iload_n 3, 1) := dk_29 (dk_at dksX5_setCell_3 15 rfl rfl)
theorem dX5_setCell_87 : decode cX5_setCell 87 = .ok (.iastore, 1) := dk_79 (dk_at dksX5_setCell_3 16 rfl rfl)
theorem dX5_setCell_88 : decode cX5_setCell 88 = .ok (.aload_n 0, 1) := dk_42 (dk_at dksX5_setCell_3 17 rfl rfl)
theorem dX5_setCell_89 : decode cX5_setCell 89 = .ok (.invokevirtual 190, 3) := dk_182 0 190 (dk_at dksX5_setCell_3 18 rfl rfl)
theorem dX5_setCell_92 : decode cX5_setCell 92 = .ok (.iload 4, 2) := dk_21 4 (dk_at dksX5_setCell_3 21 rfl rfl)
theorem dX5_setCell_94 : decode cX5_setCell 94 = .ok (.ireturn, 1) := dk_172 (dk_at dksX5_setCell_3 23 rfl rfl)
abbrev cX5_isNumber : ByteArray := prog_12_method_31_code
def yX5_isNumber : MethodName := ⟨RX5, "isNumber", "(I)Z"⟩
def dkwX5_isNumber_0 : List UInt8 := [27, 3, 42, 180, 0, 7, 3, 46, 4, 100, 184, 0, 71, 172]
abbrev dktX5_isNumber_0 : List UInt8 := dkwX5_isNumber_0 ++ []
theorem dksX5_isNumber_0 : cX5_isNumber.data.toList.drop 0 = dktX5_isNumber_0 := by decide +kernel
theorem dX5_isNumber_0 : decode cX5_isNumber 0 = .ok (.iload_n 1, 1) := dk_27 (dk_at dksX5_isNumber_0 0 rfl rfl)
theorem dX5_isNumber_1 : decode cX5_isNumber 1 = .ok (.iconst 0, 1) := dk_3 (dk_at dksX5_isNumber_0 1 rfl rfl)
theorem dX5_isNumber_2 : decode cX5_isNumber 2 = .ok (.aload_n 0, 1) := dk_42 (dk_at dksX5_isNumber_0 2 rfl rfl)
theorem dX5_isNumber_3 : decode cX5_isNumber 3 = .ok (.getfield 7, 3) := dk_180 0 7 (dk_at dksX5_isNumber_0 3 rfl rfl)
theorem dX5_isNumber_6 : decode cX5_isNumber 6 = .ok (.iconst 0, 1) := dk_3 (dk_at dksX5_isNumber_0 6 rfl rfl)
theorem dX5_isNumber_7 : decode cX5_isNumber 7 = .ok (.iaload, 1) := dk_46 (dk_at dksX5_isNumber_0 7 rfl rfl)
theorem dX5_isNumber_8 : decode cX5_isNumber 8 = .ok (.iconst 1, 1) := dk_4 (dk_at dksX5_isNumber_0 8 rfl rfl)
theorem dX5_isNumber_9 : decode cX5_isNumber 9 = .ok (.isub, 1) := dk_100 (dk_at dksX5_isNumber_0 9 rfl rfl)
theorem dX5_isNumber_10 : decode cX5_isNumber 10 = .ok (.invokestatic 71, 3) := dk_184 0 71 (dk_at dksX5_isNumber_0 10 rfl rfl)
theorem dX5_isNumber_13 : decode cX5_isNumber 13 = .ok (.ireturn, 1) := dk_172 (dk_at dksX5_isNumber_0 13 rfl rfl)
abbrev cX5_resets : ByteArray := prog_12_method_36_code
def yX5_resets : MethodName := ⟨RX5, "resets", "()V"⟩
def dkwX5_resets_1 : List UInt8 := [27, 17, 0, 162, 162, 0, 16, 42, 180, 0, 7, 27, 3, 79, 132, 1, 1, 167, 255, 239, 177]
abbrev dktX5_resets_1 : List UInt8 := dkwX5_resets_1 ++ []
def dkwX5_resets_0 : List UInt8 := [8, 60, 27, 16, 8, 163, 0, 16, 42, 180, 0, 7, 27, 3, 79, 132, 1, 1, 167, 255, 240, 16, 81, 60]
abbrev dktX5_resets_0 : List UInt8 := dkwX5_resets_0 ++ dktX5_resets_1
theorem dksX5_resets_0 : cX5_resets.data.toList.drop 0 = dktX5_resets_0 := by decide +kernel
theorem dksX5_resets_1 : cX5_resets.data.toList.drop 24 = dktX5_resets_1 := dk_seg dksX5_resets_0 24 rfl rfl
theorem dX5_resets_0 : decode cX5_resets 0 = .ok (.iconst 5, 1) := dk_8 (dk_at dksX5_resets_0 0 rfl rfl)
theorem dX5_resets_1 : decode cX5_resets 1 = .ok (.istore_n 1, 1) := dk_60 (dk_at dksX5_resets_0 1 rfl rfl)
theorem dX5_resets_2 : decode cX5_resets 2 = .ok (.iload_n 1, 1) := dk_27 (dk_at dksX5_resets_0 2 rfl rfl)
theorem dX5_resets_3 : decode cX5_resets 3 = .ok (.bipush 8, 2) := dk_16 8 (dk_at dksX5_resets_0 3 rfl rfl)
theorem dX5_resets_5 : decode cX5_resets 5 = .ok (.if_icmp .gt 16, 3) := dk_163 0 16 (dk_at dksX5_resets_0 5 rfl rfl)
theorem dX5_resets_8 : decode cX5_resets 8 = .ok (.aload_n 0, 1) := dk_42 (dk_at dksX5_resets_0 8 rfl rfl)
theorem dX5_resets_9 : decode cX5_resets 9 = .ok (.getfield 7, 3) := dk_180 0 7 (dk_at dksX5_resets_0 9 rfl rfl)
theorem dX5_resets_12 : decode cX5_resets 12 = .ok (.iload_n 1, 1) := dk_27 (dk_at dksX5_resets_0 12 rfl rfl)
theorem dX5_resets_13 : decode cX5_resets 13 = .ok (.iconst 0, 1) := dk_3 (dk_at dksX5_resets_0 13 rfl rfl)
theorem dX5_resets_14 : decode cX5_resets 14 = .ok (.iastore, 1) := dk_79 (dk_at dksX5_resets_0 14 rfl rfl)
theorem dX5_resets_15 : decode cX5_resets 15 = .ok (.iinc 1 1, 3) := dk_132 1 1 (dk_at dksX5_resets_0 15 rfl rfl)
theorem dX5_resets_18 : decode cX5_resets 18 = .ok (.goto (-16), 3) := dk_167 255 240 (dk_at dksX5_resets_0 18 rfl rfl)
theorem dX5_resets_21 : decode cX5_resets 21 = .ok (.bipush 81, 2) := dk_16 81 (dk_at dksX5_resets_0 21 rfl rfl)
theorem dX5_resets_23 : decode cX5_resets 23 = .ok (.istore_n 1, 1) := dk_60 (dk_at dksX5_resets_0 23 rfl rfl)
theorem dX5_resets_24 : decode cX5_resets 24 = .ok (.iload_n 1, 1) := dk_27 (dk_at dksX5_resets_1 0 rfl rfl)
theorem dX5_resets_25 : decode cX5_resets 25 = .ok (.sipush 162, 3) := dk_17 0 162 (dk_at dksX5_resets_1 1 rfl rfl)
theorem dX5_resets_28 : decode cX5_resets 28 = .ok (.if_icmp .ge 16, 3) := dk_162 0 16 (dk_at dksX5_resets_1 4 rfl rfl)
theorem dX5_resets_31 : decode cX5_resets 31 = .ok (.aload_n 0, 1) := dk_42 (dk_at dksX5_resets_1 7 rfl rfl)
theorem dX5_resets_32 : decode cX5_resets 32 = .ok (.getfield 7, 3) := dk_180 0 7 (dk_at dksX5_resets_1 8 rfl rfl)
theorem dX5_resets_35 : decode cX5_resets 35 = .ok (.iload_n 1, 1) := dk_27 (dk_at dksX5_resets_1 11 rfl rfl)
theorem dX5_resets_36 : decode cX5_resets 36 = .ok (.iconst 0, 1) := dk_3 (dk_at dksX5_resets_1 12 rfl rfl)
theorem dX5_resets_37 : decode cX5_resets 37 = .ok (.iastore, 1) := dk_79 (dk_at dksX5_resets_1 13 rfl rfl)
theorem dX5_resets_38 : decode cX5_resets 38 = .ok (.iinc 1 1, 3) := dk_132 1 1 (dk_at dksX5_resets_1 14 rfl rfl)
theorem dX5_resets_41 : decode cX5_resets 41 = .ok (.goto (-17), 3) := dk_167 255 239 (dk_at dksX5_resets_1 17 rfl rfl)
theorem dX5_resets_44 : decode cX5_resets 44 = .ok (.return_, 1) := dk_177 (dk_at dksX5_resets_1 20 rfl rfl)
abbrev cX5_setStart : ByteArray := prog_12_method_38_code
def yX5_setStart : MethodName := ⟨RX5, "setStart", "(II)I"⟩
def dkwX5_setStart_2 : List UInt8 := [16, 73, 27, 96, 46, 62, 42, 180, 0, 7, 16, 73, 27, 96, 28, 79, 42, 182, 0, 190, 29, 172]
abbrev dktX5_setStart_2 : List UInt8 := dkwX5_setStart_2 ++ []
def dkwX5_setStart_1 : List UInt8 := [167, 0, 4, 5, 181, 0, 65, 42, 180, 0, 65, 158, 0, 5, 3, 172, 42, 182, 0, 75, 42, 180, 0, 7]
abbrev dktX5_setStart_1 : List UInt8 := dkwX5_setStart_1 ++ dktX5_setStart_2
def dkwX5_setStart_0 : List UInt8 := [42, 42, 27, 182, 0, 181, 154, 0, 7, 4, 167, 0, 16, 42, 28, 182, 0, 187, 153, 0, 7, 3]
abbrev dktX5_setStart_0 : List UInt8 := dkwX5_setStart_0 ++ dktX5_setStart_1
theorem dksX5_setStart_0 : cX5_setStart.data.toList.drop 0 = dktX5_setStart_0 := by decide +kernel
theorem dksX5_setStart_1 : cX5_setStart.data.toList.drop 22 = dktX5_setStart_1 := dk_seg dksX5_setStart_0 22 rfl rfl
theorem dksX5_setStart_2 : cX5_setStart.data.toList.drop 46 = dktX5_setStart_2 := dk_seg dksX5_setStart_1 24 rfl rfl
theorem dX5_setStart_0 : decode cX5_setStart 0 = .ok (.aload_n 0, 1) := dk_42 (dk_at dksX5_setStart_0 0 rfl rfl)
theorem dX5_setStart_1 : decode cX5_setStart 1 = .ok (.aload_n 0, 1) := dk_42 (dk_at dksX5_setStart_0 1 rfl rfl)
theorem dX5_setStart_2 : decode cX5_setStart 2 = .ok (.iload_n 1, 1) := dk_27 (dk_at dksX5_setStart_0 2 rfl rfl)
theorem dX5_setStart_3 : decode cX5_setStart 3 = .ok (.invokevirtual 181, 3) := dk_182 0 181 (dk_at dksX5_setStart_0 3 rfl rfl)
theorem dX5_setStart_6 : decode cX5_setStart 6 = .ok (.ifCond .ne 7, 3) := dk_154 0 7 (dk_at dksX5_setStart_0 6 rfl rfl)
theorem dX5_setStart_9 : decode cX5_setStart 9 = .ok (.iconst 1, 1) := dk_4 (dk_at dksX5_setStart_0 9 rfl rfl)
theorem dX5_setStart_10 : decode cX5_setStart 10 = .ok (.goto 16, 3) := dk_167 0 16 (dk_at dksX5_setStart_0 10 rfl rfl)
theorem dX5_setStart_13 : decode cX5_setStart 13 = .ok (.aload_n 0, 1) := dk_42 (dk_at dksX5_setStart_0 13 rfl rfl)
theorem dX5_setStart_14 : decode cX5_setStart 14 = .ok (.iload_n 2, 1) := dk_28 (dk_at dksX5_setStart_0 14 rfl rfl)
theorem dX5_setStart_15 : decode cX5_setStart 15 = .ok (.invokevirtual 187, 3) := dk_182 0 187 (dk_at dksX5_setStart_0 15 rfl rfl)
theorem dX5_setStart_18 : decode cX5_setStart 18 = .ok (.ifCond .eq 7, 3) := dk_153 0 7 (dk_at dksX5_setStart_0 18 rfl rfl)
theorem dX5_setStart_21 : decode cX5_setStart 21 = .ok (.iconst 0, 1) := dk_3 (dk_at dksX5_setStart_0 21 rfl rfl)
theorem dX5_setStart_22 : decode cX5_setStart 22 = .ok (.goto 4, 3) := dk_167 0 4 (dk_at dksX5_setStart_1 0 rfl rfl)
theorem dX5_setStart_25 : decode cX5_setStart 25 = .ok (.iconst 2, 1) := dk_5 (dk_at dksX5_setStart_1 3 rfl rfl)
theorem dX5_setStart_26 : decode cX5_setStart 26 = .ok (.putfield 65, 3) := dk_181 0 65 (dk_at dksX5_setStart_1 4 rfl rfl)
theorem dX5_setStart_29 : decode cX5_setStart 29 = .ok (.aload_n 0, 1) := dk_42 (dk_at dksX5_setStart_1 7 rfl rfl)
theorem dX5_setStart_30 : decode cX5_setStart 30 = .ok (.getfield 65, 3) := dk_180 0 65 (dk_at dksX5_setStart_1 8 rfl rfl)
theorem dX5_setStart_33 : decode cX5_setStart 33 = .ok (.ifCond .le 5, 3) := dk_158 0 5 (dk_at dksX5_setStart_1 11 rfl rfl)
theorem dX5_setStart_36 : decode cX5_setStart 36 = .ok (.iconst 0, 1) := dk_3 (dk_at dksX5_setStart_1 14 rfl rfl)
theorem dX5_setStart_37 : decode cX5_setStart 37 = .ok (.ireturn, 1) := dk_172 (dk_at dksX5_setStart_1 15 rfl rfl)
theorem dX5_setStart_38 : decode cX5_setStart 38 = .ok (.aload_n 0, 1) := dk_42 (dk_at dksX5_setStart_1 16 rfl rfl)
theorem dX5_setStart_39 : decode cX5_setStart 39 = .ok (.invokevirtual 75, 3) := dk_182 0 75 (dk_at dksX5_setStart_1 17 rfl rfl)
theorem dX5_setStart_42 : decode cX5_setStart 42 = .ok (.aload_n 0, 1) := dk_42 (dk_at dksX5_setStart_1 20 rfl rfl)
theorem dX5_setStart_43 : decode cX5_setStart 43 = .ok (.getfield 7, 3) := dk_180 0 7 (dk_at dksX5_setStart_1 21 rfl rfl)
theorem dX5_setStart_46 : decode cX5_setStart 46 = .ok (.bipush 73, 2) := dk_16 73 (dk_at dksX5_setStart_2 0 rfl rfl)
theorem dX5_setStart_48 : decode cX5_setStart 48 = .ok (.iload_n 1, 1) := dk_27 (dk_at dksX5_setStart_2 2 rfl rfl)
theorem dX5_setStart_49 : decode cX5_setStart 49 = .ok (.iadd, 1) := dk_96 (dk_at dksX5_setStart_2 3 rfl rfl)
theorem dX5_setStart_50 : decode cX5_setStart 50 = .ok (.iaload, 1) := dk_46 (dk_at dksX5_setStart_2 4 rfl rfl)
theorem dX5_setStart_51 : decode cX5_setStart 51 = .ok (.istore_n 3, 1) := dk_62 (dk_at dksX5_setStart_2 5 rfl rfl)
theorem dX5_setStart_52 : decode cX5_setStart 52 = .ok (.aload_n 0, 1) := dk_42 (dk_at dksX5_setStart_2 6 rfl rfl)
theorem dX5_setStart_53 : decode cX5_setStart 53 = .ok (.getfield 7, 3) := dk_180 0 7 (dk_at dksX5_setStart_2 7 rfl rfl)
theorem dX5_setStart_56 : decode cX5_setStart 56 = .ok (.bipush 73, 2) := dk_16 73 (dk_at dksX5_setStart_2 10 rfl rfl)
theorem dX5_setStart_58 : decode cX5_setStart 58 = .ok (.iload_n 1, 1) := dk_27 (dk_at dksX5_setStart_2 12 rfl rfl)
theorem dX5_setStart_59 : decode cX5_setStart 59 = .ok (.iadd, 1) := dk_96 (dk_at dksX5_setStart_2 13 rfl rfl)
theorem dX5_setStart_60 : decode cX5_setStart 60 = .ok (.iload_n 2, 1) := dk_28 (dk_at dksX5_setStart_2 14 rfl rfl)
theorem dX5_setStart_61 : decode cX5_setStart 61 = .ok (.iastore, 1) := dk_79 (dk_at dksX5_setStart_2 15 rfl rfl)
theorem dX5_setStart_62 : decode cX5_setStart 62 = .ok (.aload_n 0, 1) := dk_42 (dk_at dksX5_setStart_2 16 rfl rfl)
theorem dX5_setStart_63 : decode cX5_setStart 63 = .ok (.invokevirtual 190, 3) := dk_182 0 190 (dk_at dksX5_setStart_2 17 rfl rfl)
theorem dX5_setStart_66 : decode cX5_setStart 66 = .ok (.iload_n 3, 1) := dk_29 (dk_at dksX5_setStart_2 20 rfl rfl)
theorem dX5_setStart_67 : decode cX5_setStart 67 = .ok (.ireturn, 1) := dk_172 (dk_at dksX5_setStart_2 21 rfl rfl)
abbrev cX5_setLimit : ByteArray := prog_12_method_40_code
def yX5_setLimit : MethodName := ⟨RX5, "setLimit", "(I)I"⟩
def dkwX5_setLimit_1 : List UInt8 := [158, 0, 7, 3, 167, 0, 9, 42, 5, 27, 182, 0, 193, 172]
abbrev dktX5_setLimit_1 : List UInt8 := dkwX5_setLimit_1 ++ []
def dkwX5_setLimit_0 : List UInt8 := [42, 27, 4, 16, 8, 184, 0, 71, 153, 0, 7, 3, 167, 0, 4, 4, 181, 0, 65, 42, 180, 0, 65]
abbrev dktX5_setLimit_0 : List UInt8 := dkwX5_setLimit_0 ++ dktX5_setLimit_1
theorem dksX5_setLimit_0 : cX5_setLimit.data.toList.drop 0 = dktX5_setLimit_0 := by decide +kernel
theorem dksX5_setLimit_1 : cX5_setLimit.data.toList.drop 23 = dktX5_setLimit_1 := dk_seg dksX5_setLimit_0 23 rfl rfl
theorem dX5_setLimit_0 : decode cX5_setLimit 0 = .ok (.aload_n 0, 1) := dk_42 (dk_at dksX5_setLimit_0 0 rfl rfl)
theorem dX5_setLimit_1 : decode cX5_setLimit 1 = .ok (.iload_n 1, 1) := dk_27 (dk_at dksX5_setLimit_0 1 rfl rfl)
theorem dX5_setLimit_2 : decode cX5_setLimit 2 = .ok (.iconst 1, 1) := dk_4 (dk_at dksX5_setLimit_0 2 rfl rfl)
theorem dX5_setLimit_3 : decode cX5_setLimit 3 = .ok (.bipush 8, 2) := dk_16 8 (dk_at dksX5_setLimit_0 3 rfl rfl)
theorem dX5_setLimit_5 : decode cX5_setLimit 5 = .ok (.invokestatic 71, 3) := dk_184 0 71 (dk_at dksX5_setLimit_0 5 rfl rfl)
theorem dX5_setLimit_8 : decode cX5_setLimit 8 = .ok (.ifCond .eq 7, 3) := dk_153 0 7 (dk_at dksX5_setLimit_0 8 rfl rfl)
theorem dX5_setLimit_11 : decode cX5_setLimit 11 = .ok (.iconst 0, 1) := dk_3 (dk_at dksX5_setLimit_0 11 rfl rfl)
theorem dX5_setLimit_12 : decode cX5_setLimit 12 = .ok (.goto 4, 3) := dk_167 0 4 (dk_at dksX5_setLimit_0 12 rfl rfl)
theorem dX5_setLimit_15 : decode cX5_setLimit 15 = .ok (.iconst 1, 1) := dk_4 (dk_at dksX5_setLimit_0 15 rfl rfl)
theorem dX5_setLimit_16 : decode cX5_setLimit 16 = .ok (.putfield 65, 3) := dk_181 0 65 (dk_at dksX5_setLimit_0 16 rfl rfl)
theorem dX5_setLimit_19 : decode cX5_setLimit 19 = .ok (.aload_n 0, 1) := dk_42 (dk_at dksX5_setLimit_0 19 rfl rfl)
theorem dX5_setLimit_20 : decode cX5_setLimit 20 = .ok (.getfield 65, 3) := dk_180 0 65 (dk_at dksX5_setLimit_0 20 rfl rfl)
theorem dX5_setLimit_23 : decode cX5_setLimit 23 = .ok (.ifCond .le 7, 3) := dk_158 0 7 (dk_at dksX5_setLimit_1 0 rfl rfl)
theorem dX5_setLimit_26 : decode cX5_setLimit 26 = .ok (.iconst 0, 1) := dk_3 (dk_at dksX5_setLimit_1 3 rfl rfl)
theorem dX5_setLimit_27 : decode cX5_setLimit 27 = .ok (.goto 9, 3) := dk_167 0 9 (dk_at dksX5_setLimit_1 4 rfl rfl)
theorem dX5_setLimit_30 : decode cX5_setLimit 30 = .ok (.aload_n 0, 1) := dk_42 (dk_at dksX5_setLimit_1 7 rfl rfl)
theorem dX5_setLimit_31 : decode cX5_setLimit 31 = .ok (.iconst 2, 1) := dk_5 (dk_at dksX5_setLimit_1 8 rfl rfl)
theorem dX5_setLimit_32 : decode cX5_setLimit 32 = .ok (.iload_n 1, 1) := dk_27 (dk_at dksX5_setLimit_1 9 rfl rfl)
theorem dX5_setLimit_33 : decode cX5_setLimit 33 = .ok (.invokevirtual 193, 3) := dk_182 0 193 (dk_at dksX5_setLimit_1 10 rfl rfl)
theorem dX5_setLimit_36 : decode cX5_setLimit 36 = .ok (.ireturn, 1) := dk_172 (dk_at dksX5_setLimit_1 13 rfl rfl)
abbrev cX5_sets : ByteArray := prog_12_method_39_code
def yX5_sets : MethodName := ⟨RX5, "sets", "(II)I"⟩
def dkwX5_sets_0 : List UInt8 := [42, 182, 0, 75, 42, 180, 0, 7, 27, 46, 62, 42, 180, 0, 7, 27, 28, 79, 42, 182, 0, 190, 29, 172]
abbrev dktX5_sets_0 : List UInt8 := dkwX5_sets_0 ++ []
theorem dksX5_sets_0 : cX5_sets.data.toList.drop 0 = dktX5_sets_0 := by decide +kernel
theorem dX5_sets_0 : decode cX5_sets 0 = .ok (.aload_n 0, 1) := dk_42 (dk_at dksX5_sets_0 0 rfl rfl)
theorem dX5_sets_1 : decode cX5_sets 1 = .ok (.invokevirtual 75, 3) := dk_182 0 75 (dk_at dksX5_sets_0 1 rfl rfl)
theorem dX5_sets_4 : decode cX5_sets 4 = .ok (.aload_n 0, 1) := dk_42 (dk_at dksX5_sets_0 4 rfl rfl)
theorem dX5_sets_5 : decode cX5_sets 5 = .ok (.getfield 7, 3) := dk_180 0 7 (dk_at dksX5_sets_0 5 rfl rfl)
theorem dX5_sets_8 : decode cX5_sets 8 = .ok (.iload_n 1, 1) := dk_27 (dk_at dksX5_sets_0 8 rfl rfl)
theorem dX5_sets_9 : decode cX5_sets 9 = .ok (.iaload, 1) := dk_46 (dk_at dksX5_sets_0 9 rfl rfl)
theorem dX5_sets_10 : decode cX5_sets 10 = .ok (.istore_n 3, 1) := dk_62 (dk_at dksX5_sets_0 10 rfl rfl)
theorem dX5_sets_11 : decode cX5_sets 11 = .ok (.aload_n 0, 1) := dk_42 (dk_at dksX5_sets_0 11 rfl rfl)
theorem dX5_sets_12 : decode cX5_sets 12 = .ok (.getfield 7, 3) := dk_180 0 7 (dk_at dksX5_sets_0 12 rfl rfl)
theorem dX5_sets_15 : decode cX5_sets 15 = .ok (.iload_n 1, 1) := dk_27 (dk_at dksX5_sets_0 15 rfl rfl)
theorem dX5_sets_16 : decode cX5_sets 16 = .ok (.iload_n 2, 1) := dk_28 (dk_at dksX5_sets_0 16 rfl rfl)
theorem dX5_sets_17 : decode cX5_sets 17 = .ok (.iastore, 1) := dk_79 (dk_at dksX5_sets_0 17 rfl rfl)
theorem dX5_sets_18 : decode cX5_sets 18 = .ok (.aload_n 0, 1) := dk_42 (dk_at dksX5_sets_0 18 rfl rfl)
theorem dX5_sets_19 : decode cX5_sets 19 = .ok (.invokevirtual 190, 3) := dk_182 0 190 (dk_at dksX5_sets_0 19 rfl rfl)
theorem dX5_sets_22 : decode cX5_sets 22 = .ok (.iload_n 3, 1) := dk_29 (dk_at dksX5_sets_0 22 rfl rfl)
theorem dX5_sets_23 : decode cX5_sets 23 = .ok (.ireturn, 1) := dk_172 (dk_at dksX5_sets_0 23 rfl rfl)
abbrev cX5_setRestarts : ByteArray := prog_12_method_41_code
def yX5_setRestarts : MethodName := ⟨RX5, "setRestarts", "(I)I"⟩
def dkwX5_setRestarts_1 : List UInt8 := [158, 0, 7, 3, 167, 0, 9, 42, 6, 27, 182, 0, 193, 172]
abbrev dktX5_setRestarts_1 : List UInt8 := dkwX5_setRestarts_1 ++ []
def dkwX5_setRestarts_0 : List UInt8 := [42, 27, 3, 16, 8, 184, 0, 71, 153, 0, 7, 3, 167, 0, 4, 4, 181, 0, 65, 42, 180, 0, 65]
abbrev dktX5_setRestarts_0 : List UInt8 := dkwX5_setRestarts_0 ++ dktX5_setRestarts_1
theorem dksX5_setRestarts_0 : cX5_setRestarts.data.toList.drop 0 = dktX5_setRestarts_0 := by decide +kernel
theorem dksX5_setRestarts_1 : cX5_setRestarts.data.toList.drop 23 = dktX5_setRestarts_1 := dk_seg dksX5_setRestarts_0 23 rfl rfl
theorem dX5_setRestarts_0 : decode cX5_setRestarts 0 = .ok (.aload_n 0, 1) := dk_42 (dk_at dksX5_setRestarts_0 0 rfl rfl)
theorem dX5_setRestarts_1 : decode cX5_setRestarts 1 = .ok (.iload_n 1, 1) := dk_27 (dk_at dksX5_setRestarts_0 1 rfl rfl)
theorem dX5_setRestarts_2 : decode cX5_setRestarts 2 = .ok (.iconst 0, 1) := dk_3 (dk_at dksX5_setRestarts_0 2 rfl rfl)
theorem dX5_setRestarts_3 : decode cX5_setRestarts 3 = .ok (.bipush 8, 2) := dk_16 8 (dk_at dksX5_setRestarts_0 3 rfl rfl)
theorem dX5_setRestarts_5 : decode cX5_setRestarts 5 = .ok (.invokestatic 71, 3) := dk_184 0 71 (dk_at dksX5_setRestarts_0 5 rfl rfl)
theorem dX5_setRestarts_8 : decode cX5_setRestarts 8 = .ok (.ifCond .eq 7, 3) := dk_153 0 7 (dk_at dksX5_setRestarts_0 8 rfl rfl)
theorem dX5_setRestarts_11 : decode cX5_setRestarts 11 = .ok (.iconst 0, 1) := dk_3 (dk_at dksX5_setRestarts_0 11 rfl rfl)
theorem dX5_setRestarts_12 : decode cX5_setRestarts 12 = .ok (.goto 4, 3) := dk_167 0 4 (dk_at dksX5_setRestarts_0 12 rfl rfl)
theorem dX5_setRestarts_15 : decode cX5_setRestarts 15 = .ok (.iconst 1, 1) := dk_4 (dk_at dksX5_setRestarts_0 15 rfl rfl)
theorem dX5_setRestarts_16 : decode cX5_setRestarts 16 = .ok (.putfield 65, 3) := dk_181 0 65 (dk_at dksX5_setRestarts_0 16 rfl rfl)
theorem dX5_setRestarts_19 : decode cX5_setRestarts 19 = .ok (.aload_n 0, 1) := dk_42 (dk_at dksX5_setRestarts_0 19 rfl rfl)
theorem dX5_setRestarts_20 : decode cX5_setRestarts 20 = .ok (.getfield 65, 3) := dk_180 0 65 (dk_at dksX5_setRestarts_0 20 rfl rfl)
theorem dX5_setRestarts_23 : decode cX5_setRestarts 23 = .ok (.ifCond .le 7, 3) := dk_158 0 7 (dk_at dksX5_setRestarts_1 0 rfl rfl)
theorem dX5_setRestarts_26 : decode cX5_setRestarts 26 = .ok (.iconst 0, 1) := dk_3 (dk_at dksX5_setRestarts_1 3 rfl rfl)
theorem dX5_setRestarts_27 : decode cX5_setRestarts 27 = .ok (.goto 9, 3) := dk_167 0 9 (dk_at dksX5_setRestarts_1 4 rfl rfl)
theorem dX5_setRestarts_30 : decode cX5_setRestarts 30 = .ok (.aload_n 0, 1) := dk_42 (dk_at dksX5_setRestarts_1 7 rfl rfl)
theorem dX5_setRestarts_31 : decode cX5_setRestarts 31 = .ok (.iconst 3, 1) := dk_6 (dk_at dksX5_setRestarts_1 8 rfl rfl)
theorem dX5_setRestarts_32 : decode cX5_setRestarts 32 = .ok (.iload_n 1, 1) := dk_27 (dk_at dksX5_setRestarts_1 9 rfl rfl)
theorem dX5_setRestarts_33 : decode cX5_setRestarts 33 = .ok (.invokevirtual 193, 3) := dk_182 0 193 (dk_at dksX5_setRestarts_1 10 rfl rfl)
theorem dX5_setRestarts_36 : decode cX5_setRestarts 36 = .ok (.ireturn, 1) := dk_172 (dk_at dksX5_setRestarts_1 13 rfl rfl)
abbrev cX5_setFull : ByteArray := prog_12_method_42_code
def yX5_setFull : MethodName := ⟨RX5, "setFull", "(Z)Z"⟩
def dkwX5_setFull_1 : List UInt8 := [167, 0, 4, 3, 172]
abbrev dktX5_setFull_1 : List UInt8 := dkwX5_setFull_1 ++ []
def dkwX5_setFull_0 : List UInt8 := [42, 3, 181, 0, 65, 42, 7, 27, 153, 0, 7, 4, 167, 0, 4, 3, 182, 0, 193, 4, 160, 0, 7, 4]
abbrev dktX5_setFull_0 : List UInt8 := dkwX5_setFull_0 ++ dktX5_setFull_1
theorem dksX5_setFull_0 : cX5_setFull.data.toList.drop 0 = dktX5_setFull_0 := by decide +kernel
theorem dksX5_setFull_1 : cX5_setFull.data.toList.drop 24 = dktX5_setFull_1 := dk_seg dksX5_setFull_0 24 rfl rfl
theorem dX5_setFull_0 : decode cX5_setFull 0 = .ok (.aload_n 0, 1) := dk_42 (dk_at dksX5_setFull_0 0 rfl rfl)
theorem dX5_setFull_1 : decode cX5_setFull 1 = .ok (.iconst 0, 1) := dk_3 (dk_at dksX5_setFull_0 1 rfl rfl)
theorem dX5_setFull_2 : decode cX5_setFull 2 = .ok (.putfield 65, 3) := dk_181 0 65 (dk_at dksX5_setFull_0 2 rfl rfl)
theorem dX5_setFull_5 : decode cX5_setFull 5 = .ok (.aload_n 0, 1) := dk_42 (dk_at dksX5_setFull_0 5 rfl rfl)
theorem dX5_setFull_6 : decode cX5_setFull 6 = .ok (.iconst 4, 1) := dk_7 (dk_at dksX5_setFull_0 6 rfl rfl)
theorem dX5_setFull_7 : decode cX5_setFull 7 = .ok (.iload_n 1, 1) := dk_27 (dk_at dksX5_setFull_0 7 rfl rfl)
theorem dX5_setFull_8 : decode cX5_setFull 8 = .ok (.ifCond .eq 7, 3) := dk_153 0 7 (dk_at dksX5_setFull_0 8 rfl rfl)
theorem dX5_setFull_11 : decode cX5_setFull 11 = .ok (.iconst 1, 1) := dk_4 (dk_at dksX5_setFull_0 11 rfl rfl)
theorem dX5_setFull_12 : decode cX5_setFull 12 = .ok (.goto 4, 3) := dk_167 0 4 (dk_at dksX5_setFull_0 12 rfl rfl)
theorem dX5_setFull_15 : decode cX5_setFull 15 = .ok (.iconst 0, 1) := dk_3 (dk_at dksX5_setFull_0 15 rfl rfl)
theorem dX5_setFull_16 : decode cX5_setFull 16 = .ok (.invokevirtual 193, 3) := dk_182 0 193 (dk_at dksX5_setFull_0 16 rfl rfl)
theorem dX5_setFull_19 : decode cX5_setFull 19 = .ok (.iconst 1, 1) := dk_4 (dk_at dksX5_setFull_0 19 rfl rfl)
theorem dX5_setFull_20 : decode cX5_setFull 20 = .ok (.if_icmp .ne 7, 3) := dk_160 0 7 (dk_at dksX5_setFull_0 20 rfl rfl)
theorem dX5_setFull_23 : decode cX5_setFull 23 = .ok (.iconst 1, 1) := dk_4 (dk_at dksX5_setFull_0 23 rfl rfl)
theorem dX5_setFull_24 : decode cX5_setFull 24 = .ok (.goto 4, 3) := dk_167 0 4 (dk_at dksX5_setFull_1 0 rfl rfl)
theorem dX5_setFull_27 : decode cX5_setFull 27 = .ok (.iconst 0, 1) := dk_3 (dk_at dksX5_setFull_1 3 rfl rfl)
theorem dX5_setFull_28 : decode cX5_setFull 28 = .ok (.ireturn, 1) := dk_172 (dk_at dksX5_setFull_1 4 rfl rfl)
abbrev cX5_step : ByteArray := prog_12_method_61_code
def yX5_step : MethodName := ⟨RX5, "step", "()I"⟩
def dkwX5_step_0 : List UInt8 := [42, 3, 181, 0, 65, 42, 182, 0, 75, 42, 182, 0, 255, 172]
abbrev dktX5_step_0 : List UInt8 := dkwX5_step_0 ++ []
theorem dksX5_step_0 : cX5_step.data.toList.drop 0 = dktX5_step_0 := by decide +kernel
theorem dX5_step_0 : decode cX5_step 0 = .ok (.aload_n 0, 1) := dk_42 (dk_at dksX5_step_0 0 rfl rfl)
theorem dX5_step_1 : decode cX5_step 1 = .ok (.iconst 0, 1) := dk_3 (dk_at dksX5_step_0 1 rfl rfl)
theorem dX5_step_2 : decode cX5_step 2 = .ok (.putfield 65, 3) := dk_181 0 65 (dk_at dksX5_step_0 2 rfl rfl)
theorem dX5_step_5 : decode cX5_step 5 = .ok (.aload_n 0, 1) := dk_42 (dk_at dksX5_step_0 5 rfl rfl)
theorem dX5_step_6 : decode cX5_step 6 = .ok (.invokevirtual 75, 3) := dk_182 0 75 (dk_at dksX5_step_0 6 rfl rfl)
theorem dX5_step_9 : decode cX5_step 9 = .ok (.aload_n 0, 1) := dk_42 (dk_at dksX5_step_0 9 rfl rfl)
theorem dX5_step_10 : decode cX5_step 10 = .ok (.invokevirtual 255, 3) := dk_182 0 255 (dk_at dksX5_step_0 10 rfl rfl)
theorem dX5_step_13 : decode cX5_step 13 = .ok (.ireturn, 1) := dk_172 (dk_at dksX5_step_0 13 rfl rfl)
abbrev cX5_steps : ByteArray := prog_12_method_60_code
def yX5_steps : MethodName := ⟨RX5, "steps", "()I"⟩
def dkwX5_steps_6 : List UInt8 := [8, 79, 8, 172, 42, 182, 0, 252, 172]
abbrev dktX5_steps_6 : List UInt8 := dkwX5_steps_6 ++ []
def dkwX5_steps_5 : List UInt8 := [182, 0, 244, 172, 42, 182, 0, 247, 167, 0, 20, 42, 182, 0, 250, 154, 0, 13, 42, 180, 0, 7, 16, 7]
abbrev dktX5_steps_5 : List UInt8 := dkwX5_steps_5 ++ dktX5_steps_6
def dkwX5_steps_4 : List UInt8 := [180, 0, 7, 16, 6, 46, 4, 100, 182, 0, 231, 42, 180, 0, 7, 5, 46, 161, 0, 9, 42, 6]
abbrev dktX5_steps_4 : List UInt8 := dkwX5_steps_4 ++ dktX5_steps_5
def dkwX5_steps_3 : List UInt8 := [42, 180, 0, 7, 16, 89, 42, 180, 0, 7, 16, 6, 46, 96, 4, 100, 46, 154, 0, 38, 42, 42]
abbrev dktX5_steps_3 : List UInt8 := dkwX5_steps_3 ++ dktX5_steps_4
def dkwX5_steps_2 : List UInt8 := [42, 180, 0, 39, 27, 42, 180, 0, 7, 16, 73, 27, 96, 46, 79, 132, 1, 1, 167, 255, 228, 167, 0, 75]
abbrev dktX5_steps_2 : List UInt8 := dkwX5_steps_2 ++ dktX5_steps_3
def dkwX5_steps_1 : List UInt8 := [46, 154, 0, 47, 42, 180, 0, 7, 16, 6, 4, 79, 3, 60, 27, 42, 180, 0, 7, 4, 46, 162, 0, 24]
abbrev dktX5_steps_1 : List UInt8 := dkwX5_steps_1 ++ dktX5_steps_2
def dkwX5_steps_0 : List UInt8 := [42, 180, 0, 7, 16, 7, 46, 158, 0, 11, 42, 180, 0, 7, 16, 7, 46, 172, 42, 180, 0, 7, 16, 6]
abbrev dktX5_steps_0 : List UInt8 := dkwX5_steps_0 ++ dktX5_steps_1
theorem dksX5_steps_0 : cX5_steps.data.toList.drop 0 = dktX5_steps_0 := by decide +kernel
theorem dksX5_steps_1 : cX5_steps.data.toList.drop 24 = dktX5_steps_1 := dk_seg dksX5_steps_0 24 rfl rfl
theorem dksX5_steps_2 : cX5_steps.data.toList.drop 48 = dktX5_steps_2 := dk_seg dksX5_steps_1 24 rfl rfl
theorem dksX5_steps_3 : cX5_steps.data.toList.drop 72 = dktX5_steps_3 := dk_seg dksX5_steps_2 24 rfl rfl
theorem dksX5_steps_4 : cX5_steps.data.toList.drop 94 = dktX5_steps_4 := dk_seg dksX5_steps_3 22 rfl rfl
theorem dksX5_steps_5 : cX5_steps.data.toList.drop 116 = dktX5_steps_5 := dk_seg dksX5_steps_4 22 rfl rfl
theorem dksX5_steps_6 : cX5_steps.data.toList.drop 140 = dktX5_steps_6 := dk_seg dksX5_steps_5 24 rfl rfl
theorem dX5_steps_0 : decode cX5_steps 0 = .ok (.aload_n 0, 1) := dk_42 (dk_at dksX5_steps_0 0 rfl rfl)
theorem dX5_steps_1 : decode cX5_steps 1 = .ok (.getfield 7, 3) := dk_180 0 7 (dk_at dksX5_steps_0 1 rfl rfl)
theorem dX5_steps_4 : decode cX5_steps 4 = .ok (.bipush 7, 2) := dk_16 7 (dk_at dksX5_steps_0 4 rfl rfl)
theorem dX5_steps_6 : decode cX5_steps 6 = .ok (.iaload, 1) := dk_46 (dk_at dksX5_steps_0 6 rfl rfl)
theorem dX5_steps_7 : decode cX5_steps 7 = .ok (.ifCond .le 11, 3) := dk_158 0 11 (dk_at dksX5_steps_0 7 rfl rfl)
theorem dX5_steps_10 : decode cX5_steps 10 = .ok (.aload_n 0, 1) := dk_42 (dk_at dksX5_steps_0 10 rfl rfl)
theorem dX5_steps_11 : decode cX5_steps 11 = .ok (.getfield 7, 3) := dk_180 0 7 (dk_at dksX5_steps_0 11 rfl rfl)
theorem dX5_steps_14 : decode cX5_steps 14 = .ok (.bipush 7, 2) := dk_16 7 (dk_at dksX5_steps_0 14 rfl rfl)
theorem dX5_steps_16 : decode cX5_steps 16 = .ok (.iaload, 1) := dk_46 (dk_at dksX5_steps_0 16 rfl rfl)
theorem dX5_steps_17 : decode cX5_steps 17 = .ok (.ireturn, 1) := dk_172 (dk_at dksX5_steps_0 17 rfl rfl)
theorem dX5_steps_18 : decode cX5_steps 18 = .ok (.aload_n 0, 1) := dk_42 (dk_at dksX5_steps_0 18 rfl rfl)
theorem dX5_steps_19 : decode cX5_steps 19 = .ok (.getfield 7, 3) := dk_180 0 7 (dk_at dksX5_steps_0 19 rfl rfl)
theorem dX5_steps_22 : decode cX5_steps 22 = .ok (.bipush 6, 2) := dk_16 6 (dk_at dksX5_steps_0 22 rfl rfl)
theorem dX5_steps_24 : decode cX5_steps 24 = .ok (.iaload, 1) := dk_46 (dk_at dksX5_steps_1 0 rfl rfl)
theorem dX5_steps_25 : decode cX5_steps 25 = .ok (.ifCond .ne 47, 3) := dk_154 0 47 (dk_at dksX5_steps_1 1 rfl rfl)
theorem dX5_steps_28 : decode cX5_steps 28 = .ok (.aload_n 0, 1) := dk_42 (dk_at dksX5_steps_1 4 rfl rfl)
theorem dX5_steps_29 : decode cX5_steps 29 = .ok (.getfield 7, 3) := dk_180 0 7 (dk_at dksX5_steps_1 5 rfl rfl)
theorem dX5_steps_32 : decode cX5_steps 32 = .ok (.bipush 6, 2) := dk_16 6 (dk_at dksX5_steps_1 8 rfl rfl)
theorem dX5_steps_34 : decode cX5_steps 34 = .ok (.iconst 1, 1) := dk_4 (dk_at dksX5_steps_1 10 rfl rfl)
theorem dX5_steps_35 : decode cX5_steps 35 = .ok (.iastore, 1) := dk_79 (dk_at dksX5_steps_1 11 rfl rfl)
theorem dX5_steps_36 : decode cX5_steps 36 = .ok (.iconst 0, 1) := dk_3 (dk_at dksX5_steps_1 12 rfl rfl)
theorem dX5_steps_37 : decode cX5_steps 37 = .ok (.istore_n 1, 1) := dk_60 (dk_at dksX5_steps_1 13 rfl rfl)
theorem dX5_steps_38 : decode cX5_steps 38 = .ok (.iload_n 1, 1) := dk_27 (dk_at dksX5_steps_1 14 rfl rfl)
theorem dX5_steps_39 : decode cX5_steps 39 = .ok (.aload_n 0, 1) := dk_42 (dk_at dksX5_steps_1 15 rfl rfl)
theorem dX5_steps_40 : decode cX5_steps 40 = .ok (.getfield 7, 3) := dk_180 0 7 (dk_at dksX5_steps_1 16 rfl rfl)
theorem dX5_steps_43 : decode cX5_steps 43 = .ok (.iconst 1, 1) := dk_4 (dk_at dksX5_steps_1 19 rfl rfl)
theorem dX5_steps_44 : decode cX5_steps 44 = .ok (.iaload, 1) := dk_46 (dk_at dksX5_steps_1 20 rfl rfl)
theorem dX5_steps_45 : decode cX5_steps 45 = .ok (.if_icmp .ge 24, 3) := dk_162 0 24 (dk_at dksX5_steps_1 21 rfl rfl)
theorem dX5_steps_48 : decode cX5_steps 48 = .ok (.aload_n 0, 1) := dk_42 (dk_at dksX5_steps_2 0 rfl rfl)
theorem dX5_steps_49 : decode cX5_steps 49 = .ok (.getfield 39, 3) := dk_180 0 39 (dk_at dksX5_steps_2 1 rfl rfl)
theorem dX5_steps_52 : decode cX5_steps 52 = .ok (.iload_n 1, 1) := dk_27 (dk_at dksX5_steps_2 4 rfl rfl)
theorem dX5_steps_53 : decode cX5_steps 53 = .ok (.aload_n 0, 1) := dk_42 (dk_at dksX5_steps_2 5 rfl rfl)
theorem dX5_steps_54 : decode cX5_steps 54 = .ok (.getfield 7, 3) := dk_180 0 7 (dk_at dksX5_steps_2 6 rfl rfl)
theorem dX5_steps_57 : decode cX5_steps 57 = .ok (.bipush 73, 2) := dk_16 73 (dk_at dksX5_steps_2 9 rfl rfl)
theorem dX5_steps_59 : decode cX5_steps 59 = .ok (.iload_n 1, 1) := dk_27 (dk_at dksX5_steps_2 11 rfl rfl)
theorem dX5_steps_60 : decode cX5_steps 60 = .ok (.iadd, 1) := dk_96 (dk_at dksX5_steps_2 12 rfl rfl)
theorem dX5_steps_61 : decode cX5_steps 61 = .ok (.iaload, 1) := dk_46 (dk_at dksX5_steps_2 13 rfl rfl)
theorem dX5_steps_62 : decode cX5_steps 62 = .ok (.iastore, 1) := dk_79 (dk_at dksX5_steps_2 14 rfl rfl)
theorem dX5_steps_63 : decode cX5_steps 63 = .ok (.iinc 1 1, 3) := dk_132 1 1 (dk_at dksX5_steps_2 15 rfl rfl)
theorem dX5_steps_66 : decode cX5_steps 66 = .ok (.goto (-28), 3) := dk_167 255 228 (dk_at dksX5_steps_2 18 rfl rfl)
theorem dX5_steps_69 : decode cX5_steps 69 = .ok (.goto 75, 3) := dk_167 0 75 (dk_at dksX5_steps_2 21 rfl rfl)
theorem dX5_steps_72 : decode cX5_steps 72 = .ok (.aload_n 0, 1) := dk_42 (dk_at dksX5_steps_3 0 rfl rfl)
theorem dX5_steps_73 : decode cX5_steps 73 = .ok (.getfield 7, 3) := dk_180 0 7 (dk_at dksX5_steps_3 1 rfl rfl)
theorem dX5_steps_76 : decode cX5_steps 76 = .ok (.bipush 89, 2) := dk_16 89 (dk_at dksX5_steps_3 4 rfl rfl)
theorem dX5_steps_78 : decode cX5_steps 78 = .ok (.aload_n 0, 1) := dk_42 (dk_at dksX5_steps_3 6 rfl rfl)
theorem dX5_steps_79 : decode cX5_steps 79 = .ok (.getfield 7, 3) := dk_180 0 7 (dk_at dksX5_steps_3 7 rfl rfl)
theorem dX5_steps_82 : decode cX5_steps 82 = .ok (.bipush 6, 2) := dk_16 6 (dk_at dksX5_steps_3 10 rfl rfl)
theorem dX5_steps_84 : decode cX5_steps 84 = .ok (.iaload, 1) := dk_46 (dk_at dksX5_steps_3 12 rfl rfl)
theorem dX5_steps_85 : decode cX5_steps 85 = .ok (.iadd, 1) := dk_96 (dk_at dksX5_steps_3 13 rfl rfl)
theorem dX5_steps_86 : decode cX5_steps 86 = .ok (.iconst 1, 1) := dk_4 (dk_at dksX5_steps_3 14 rfl rfl)
theorem dX5_steps_87 : decode cX5_steps 87 = .ok (.isub, 1) := dk_100 (dk_at dksX5_steps_3 15 rfl rfl)
theorem dX5_steps_88 : decode cX5_steps 88 = .ok (.iaload, 1) := dk_46 (dk_at dksX5_steps_3 16 rfl rfl)
theorem dX5_steps_89 : decode cX5_steps 89 = .ok (.ifCond .ne 38, 3) := dk_154 0 38 (dk_at dksX5_steps_3 17 rfl rfl)
theorem dX5_steps_92 : decode cX5_steps 92 = .ok (.aload_n 0, 1) := dk_42 (dk_at dksX5_steps_3 20 rfl rfl)
theorem dX5_steps_93 : decode cX5_steps 93 = .ok (.aload_n 0, 1) := dk_42 (dk_at dksX5_steps_3 21 rfl rfl)
theorem dX5_steps_94 : decode cX5_steps 94 = .ok (.getfield 7, 3) := dk_180 0 7 (dk_at dksX5_steps_4 0 rfl rfl)
theorem dX5_steps_97 : decode cX5_steps 97 = .ok (.bipush 6, 2) := dk_16 6 (dk_at dksX5_steps_4 3 rfl rfl)
theorem dX5_steps_99 : decode cX5_steps 99 = .ok (.iaload, 1) := dk_46 (dk_at dksX5_steps_4 5 rfl rfl)
theorem dX5_steps_100 : decode cX5_steps 100 = .ok (.iconst 1, 1) := dk_4 (dk_at dksX5_steps_4 6 rfl rfl)
theorem dX5_steps_101 : decode cX5_steps 101 = .ok (.isub, 1) := dk_100 (dk_at dksX5_steps_4 7 rfl rfl)
theorem dX5_steps_102 : decode cX5_steps 102 = .ok (.invokevirtual 231, 3) := dk_182 0 231 (dk_at dksX5_steps_4 8 rfl rfl)
theorem dX5_steps_105 : decode cX5_steps 105 = .ok (.aload_n 0, 1) := dk_42 (dk_at dksX5_steps_4 11 rfl rfl)
theorem dX5_steps_106 : decode cX5_steps 106 = .ok (.getfield 7, 3) := dk_180 0 7 (dk_at dksX5_steps_4 12 rfl rfl)
theorem dX5_steps_109 : decode cX5_steps 109 = .ok (.iconst 2, 1) := dk_5 (dk_at dksX5_steps_4 15 rfl rfl)
theorem dX5_steps_110 : decode cX5_steps 110 = .ok (.iaload, 1) := dk_46 (dk_at dksX5_steps_4 16 rfl rfl)
theorem dX5_steps_111 : decode cX5_steps 111 = .ok (.if_icmp .lt 9, 3) := dk_161 0 9 (dk_at dksX5_steps_4 17 rfl rfl)
theorem dX5_steps_114 : decode cX5_steps 114 = .ok (.aload_n 0, 1) := dk_42 (dk_at dksX5_steps_4 20 rfl rfl)
theorem dX5_steps_115 : decode cX5_steps 115 = .ok (.iconst 3, 1) := dk_6 (dk_at dksX5_steps_4 21 rfl rfl)
theorem dX5_steps_116 : decode cX5_steps 116 = .ok (.invokevirtual 244, 3) := dk_182 0 244 (dk_at dksX5_steps_5 0 rfl rfl)
theorem dX5_steps_119 : decode cX5_steps 119 = .ok (.ireturn, 1) := dk_172 (dk_at dksX5_steps_5 3 rfl rfl)
theorem dX5_steps_120 : decode cX5_steps 120 = .ok (.aload_n 0, 1) := dk_42 (dk_at dksX5_steps_5 4 rfl rfl)
theorem dX5_steps_121 : decode cX5_steps 121 = .ok (.invokevirtual 247, 3) := dk_182 0 247 (dk_at dksX5_steps_5 5 rfl rfl)
theorem dX5_steps_124 : decode cX5_steps 124 = .ok (.goto 20, 3) := dk_167 0 20 (dk_at dksX5_steps_5 8 rfl rfl)
theorem dX5_steps_127 : decode cX5_steps 127 = .ok (.aload_n 0, 1) := dk_42 (dk_at dksX5_steps_5 11 rfl rfl)
theorem dX5_steps_128 : decode cX5_steps 128 = .ok (.invokevirtual 250, 3) := dk_182 0 250 (dk_at dksX5_steps_5 12 rfl rfl)
theorem dX5_steps_131 : decode cX5_steps 131 = .ok (.ifCond .ne 13, 3) := dk_154 0 13 (dk_at dksX5_steps_5 15 rfl rfl)
theorem dX5_steps_134 : decode cX5_steps 134 = .ok (.aload_n 0, 1) := dk_42 (dk_at dksX5_steps_5 18 rfl rfl)
theorem dX5_steps_135 : decode cX5_steps 135 = .ok (.getfield 7, 3) := dk_180 0 7 (dk_at dksX5_steps_5 19 rfl rfl)
theorem dX5_steps_138 : decode cX5_steps 138 = .ok (.bipush 7, 2) := dk_16 7 (dk_at dksX5_steps_5 22 rfl rfl)
theorem dX5_steps_140 : decode cX5_steps 140 = .ok (.iconst 5, 1) := dk_8 (dk_at dksX5_steps_6 0 rfl rfl)
theorem dX5_steps_141 : decode cX5_steps 141 = .ok (.iastore, 1) := dk_79 (dk_at dksX5_steps_6 1 rfl rfl)
theorem dX5_steps_142 : decode cX5_steps 142 = .ok (.iconst 5, 1) := dk_8 (dk_at dksX5_steps_6 2 rfl rfl)
theorem dX5_steps_143 : decode cX5_steps 143 = .ok (.ireturn, 1) := dk_172 (dk_at dksX5_steps_6 3 rfl rfl)
theorem dX5_steps_144 : decode cX5_steps 144 = .ok (.aload_n 0, 1) := dk_42 (dk_at dksX5_steps_6 4 rfl rfl)
theorem dX5_steps_145 : decode cX5_steps 145 = .ok (.invokevirtual 252, 3) := dk_182 0 252 (dk_at dksX5_steps_6 5 rfl rfl)
theorem dX5_steps_148 : decode cX5_steps 148 = .ok (.ireturn, 1) := dk_172 (dk_at dksX5_steps_6 8 rfl rfl)
abbrev cX5_directionsOf : ByteArray := prog_12_method_54_code
def yX5_directionsOf : MethodName := ⟨RX5, "directionsOf", "(I)I"⟩
def dkwX5_directionsOf_1 : List UInt8 := [27, 160, 0, 7, 4, 167, 0, 4, 3, 96, 61, 132, 3, 1, 167, 255, 222, 28, 172]
abbrev dktX5_directionsOf_1 : List UInt8 := dkwX5_directionsOf_1 ++ []
def dkwX5_directionsOf_0 : List UInt8 := [3, 61, 3, 62, 29, 42, 180, 0, 7, 8, 46, 162, 0, 30, 28, 42, 180, 0, 7, 16, 81, 29, 96, 46]
abbrev dktX5_directionsOf_0 : List UInt8 := dkwX5_directionsOf_0 ++ dktX5_directionsOf_1
theorem dksX5_directionsOf_0 : cX5_directionsOf.data.toList.drop 0 = dktX5_directionsOf_0 := by decide +kernel
theorem dksX5_directionsOf_1 : cX5_directionsOf.data.toList.drop 24 = dktX5_directionsOf_1 := dk_seg dksX5_directionsOf_0 24 rfl rfl
theorem dX5_directionsOf_0 : decode cX5_directionsOf 0 = .ok (.iconst 0, 1) := dk_3 (dk_at dksX5_directionsOf_0 0 rfl rfl)
theorem dX5_directionsOf_1 : decode cX5_directionsOf 1 = .ok (.istore_n 2, 1) := dk_61 (dk_at dksX5_directionsOf_0 1 rfl rfl)
theorem dX5_directionsOf_2 : decode cX5_directionsOf 2 = .ok (.iconst 0, 1) := dk_3 (dk_at dksX5_directionsOf_0 2 rfl rfl)
theorem dX5_directionsOf_3 : decode cX5_directionsOf 3 = .ok (.istore_n 3, 1) := dk_62 (dk_at dksX5_directionsOf_0 3 rfl rfl)
theorem dX5_directionsOf_4 : decode cX5_directionsOf 4 = .ok (.iload_n 3, 1) := dk_29 (dk_at dksX5_directionsOf_0 4 rfl rfl)
theorem dX5_directionsOf_5 : decode cX5_directionsOf 5 = .ok (.aload_n 0, 1) := dk_42 (dk_at dksX5_directionsOf_0 5 rfl rfl)
theorem dX5_directionsOf_6 : decode cX5_directionsOf 6 = .ok (.getfield 7, 3) := dk_180 0 7 (dk_at dksX5_directionsOf_0 6 rfl rfl)
theorem dX5_directionsOf_9 : decode cX5_directionsOf 9 = .ok (.iconst 5, 1) := dk_8 (dk_at dksX5_directionsOf_0 9 rfl rfl)
theorem dX5_directionsOf_10 : decode cX5_directionsOf 10 = .ok (.iaload, 1) := dk_46 (dk_at dksX5_directionsOf_0 10 rfl rfl)
theorem dX5_directionsOf_11 : decode cX5_directionsOf 11 = .ok (.if_icmp .ge 30, 3) := dk_162 0 30 (dk_at dksX5_directionsOf_0 11 rfl rfl)
theorem dX5_directionsOf_14 : decode cX5_directionsOf 14 = .ok (.iload_n 2, 1) := dk_28 (dk_at dksX5_directionsOf_0 14 rfl rfl)
theorem dX5_directionsOf_15 : decode cX5_directionsOf 15 = .ok (.aload_n 0, 1) := dk_42 (dk_at dksX5_directionsOf_0 15 rfl rfl)
theorem dX5_directionsOf_16 : decode cX5_directionsOf 16 = .ok (.getfield 7, 3) := dk_180 0 7 (dk_at dksX5_directionsOf_0 16 rfl rfl)
theorem dX5_directionsOf_19 : decode cX5_directionsOf 19 = .ok (.bipush 81, 2) := dk_16 81 (dk_at dksX5_directionsOf_0 19 rfl rfl)
theorem dX5_directionsOf_21 : decode cX5_directionsOf 21 = .ok (.iload_n 3, 1) := dk_29 (dk_at dksX5_directionsOf_0 21 rfl rfl)
theorem dX5_directionsOf_22 : decode cX5_directionsOf 22 = .ok (.iadd, 1) := dk_96 (dk_at dksX5_directionsOf_0 22 rfl rfl)
theorem dX5_directionsOf_23 : decode cX5_directionsOf 23 = .ok (.iaload, 1) := dk_46 (dk_at dksX5_directionsOf_0 23 rfl rfl)
theorem dX5_directionsOf_24 : decode cX5_directionsOf 24 = .ok (.iload_n 1, 1) := dk_27 (dk_at dksX5_directionsOf_1 0 rfl rfl)
theorem dX5_directionsOf_25 : decode cX5_directionsOf 25 = .ok (.if_icmp .ne 7, 3) := dk_160 0 7 (dk_at dksX5_directionsOf_1 1 rfl rfl)
theorem dX5_directionsOf_28 : decode cX5_directionsOf 28 = .ok (.iconst 1, 1) := dk_4 (dk_at dksX5_directionsOf_1 4 rfl rfl)
theorem dX5_directionsOf_29 : decode cX5_directionsOf 29 = .ok (.goto 4, 3) := dk_167 0 4 (dk_at dksX5_directionsOf_1 5 rfl rfl)
theorem dX5_directionsOf_32 : decode cX5_directionsOf 32 = .ok (.iconst 0, 1) := dk_3 (dk_at dksX5_directionsOf_1 8 rfl rfl)
theorem dX5_directionsOf_33 : decode cX5_directionsOf 33 = .ok (.iadd, 1) := dk_96 (dk_at dksX5_directionsOf_1 9 rfl rfl)
theorem dX5_directionsOf_34 : decode cX5_directionsOf 34 = .ok (.istore_n 2, 1) := dk_61 (dk_at dksX5_directionsOf_1 10 rfl rfl)
theorem dX5_directionsOf_35 : decode cX5_directionsOf 35 = .ok (.iinc 3 1, 3) := dk_132 3 1 (dk_at dksX5_directionsOf_1 11 rfl rfl)
theorem dX5_directionsOf_38 : decode cX5_directionsOf 38 = .ok (.goto (-34), 3) := dk_167 255 222 (dk_at dksX5_directionsOf_1 14 rfl rfl)
theorem dX5_directionsOf_41 : decode cX5_directionsOf 41 = .ok (.iload_n 2, 1) := dk_28 (dk_at dksX5_directionsOf_1 17 rfl rfl)
theorem dX5_directionsOf_42 : decode cX5_directionsOf 42 = .ok (.ireturn, 1) := dk_172 (dk_at dksX5_directionsOf_1 18 rfl rfl)
abbrev cX5_ends : ByteArray := prog_12_method_58_code
def yX5_ends : MethodName := ⟨RX5, "ends", "(I)I"⟩
def dkwX5_ends_0 : List UInt8 := [42, 180, 0, 7, 16, 89, 42, 180, 0, 7, 16, 6, 46, 96, 4, 100, 27, 79, 27, 172]
abbrev dktX5_ends_0 : List UInt8 := dkwX5_ends_0 ++ []
theorem dksX5_ends_0 : cX5_ends.data.toList.drop 0 = dktX5_ends_0 := by decide +kernel
theorem dX5_ends_0 : decode cX5_ends 0 = .ok (.aload_n 0, 1) := dk_42 (dk_at dksX5_ends_0 0 rfl rfl)
theorem dX5_ends_1 : decode cX5_ends 1 = .ok (.getfield 7, 3) := dk_180 0 7 (dk_at dksX5_ends_0 1 rfl rfl)
theorem dX5_ends_4 : decode cX5_ends 4 = .ok (.bipush 89, 2) := dk_16 89 (dk_at dksX5_ends_0 4 rfl rfl)
theorem dX5_ends_6 : decode cX5_ends 6 = .ok (.aload_n 0, 1) := dk_42 (dk_at dksX5_ends_0 6 rfl rfl)
theorem dX5_ends_7 : decode cX5_ends 7 = .ok (.getfield 7, 3) := dk_180 0 7 (dk_at dksX5_ends_0 7 rfl rfl)
theorem dX5_ends_10 : decode cX5_ends 10 = .ok (.bipush 6, 2) := dk_16 6 (dk_at dksX5_ends_0 10 rfl rfl)
theorem dX5_ends_12 : decode cX5_ends 12 = .ok (.iaload, 1) := dk_46 (dk_at dksX5_ends_0 12 rfl rfl)
theorem dX5_ends_13 : decode cX5_ends 13 = .ok (.iadd, 1) := dk_96 (dk_at dksX5_ends_0 13 rfl rfl)
theorem dX5_ends_14 : decode cX5_ends 14 = .ok (.iconst 1, 1) := dk_4 (dk_at dksX5_ends_0 14 rfl rfl)
theorem dX5_ends_15 : decode cX5_ends 15 = .ok (.isub, 1) := dk_100 (dk_at dksX5_ends_0 15 rfl rfl)
theorem dX5_ends_16 : decode cX5_ends 16 = .ok (.iload_n 1, 1) := dk_27 (dk_at dksX5_ends_0 16 rfl rfl)
theorem dX5_ends_17 : decode cX5_ends 17 = .ok (.iastore, 1) := dk_79 (dk_at dksX5_ends_0 17 rfl rfl)
theorem dX5_ends_18 : decode cX5_ends 18 = .ok (.iload_n 1, 1) := dk_27 (dk_at dksX5_ends_0 18 rfl rfl)
theorem dX5_ends_19 : decode cX5_ends 19 = .ok (.ireturn, 1) := dk_172 (dk_at dksX5_ends_0 19 rfl rfl)
abbrev cX5_follows : ByteArray := prog_12_method_56_code
def yX5_follows : MethodName := ⟨RX5, "follows", "()V"⟩
def dkwX5_follows_6 : List UInt8 := [182, 0, 215, 177]
abbrev dktX5_follows_6 : List UInt8 := dkwX5_follows_6 ++ []
def dkwX5_follows_5 : List UInt8 := [180, 0, 39, 42, 42, 27, 182, 0, 205, 42, 27, 4, 100, 182, 0, 205, 182, 0, 208, 27, 4, 100]
abbrev dktX5_follows_5 : List UInt8 := dkwX5_follows_5 ++ dktX5_follows_6
def dkwX5_follows_4 : List UInt8 := [182, 0, 215, 42, 42, 180, 0, 7, 16, 6, 46, 4, 100, 182, 0, 231, 4, 164, 0, 30, 42, 42]
abbrev dktX5_follows_4 : List UInt8 := dkwX5_follows_4 ++ dktX5_follows_5
def dkwX5_follows_3 : List UInt8 := [79, 132, 2, 1, 167, 255, 231, 42, 42, 180, 0, 39, 42, 42, 180, 0, 36, 27, 182, 0, 211, 27]
abbrev dktX5_follows_3 : List UInt8 := dkwX5_follows_3 ++ dktX5_follows_4
def dkwX5_follows_2 : List UInt8 := [177, 3, 61, 28, 42, 180, 0, 7, 4, 46, 162, 0, 21, 42, 180, 0, 39, 28, 42, 180, 0, 36, 28, 46]
abbrev dktX5_follows_2 : List UInt8 := dkwX5_follows_2 ++ dktX5_follows_3
def dkwX5_follows_1 : List UInt8 := [180, 0, 36, 182, 0, 223, 42, 180, 0, 7, 7, 46, 4, 160, 0, 12, 42, 42, 180, 0, 36, 182, 0, 227]
abbrev dktX5_follows_1 : List UInt8 := dkwX5_follows_1 ++ dktX5_follows_2
def dkwX5_follows_0 : List UInt8 := [42, 180, 0, 7, 8, 46, 4, 100, 60, 42, 27, 42, 180, 0, 33, 182, 0, 219, 42, 42, 180, 0, 33, 42]
abbrev dktX5_follows_0 : List UInt8 := dkwX5_follows_0 ++ dktX5_follows_1
theorem dksX5_follows_0 : cX5_follows.data.toList.drop 0 = dktX5_follows_0 := by decide +kernel
theorem dksX5_follows_1 : cX5_follows.data.toList.drop 24 = dktX5_follows_1 := dk_seg dksX5_follows_0 24 rfl rfl
theorem dksX5_follows_2 : cX5_follows.data.toList.drop 48 = dktX5_follows_2 := dk_seg dksX5_follows_1 24 rfl rfl
theorem dksX5_follows_3 : cX5_follows.data.toList.drop 72 = dktX5_follows_3 := dk_seg dksX5_follows_2 24 rfl rfl
theorem dksX5_follows_4 : cX5_follows.data.toList.drop 94 = dktX5_follows_4 := dk_seg dksX5_follows_3 22 rfl rfl
theorem dksX5_follows_5 : cX5_follows.data.toList.drop 116 = dktX5_follows_5 := dk_seg dksX5_follows_4 22 rfl rfl
theorem dksX5_follows_6 : cX5_follows.data.toList.drop 138 = dktX5_follows_6 := dk_seg dksX5_follows_5 22 rfl rfl
theorem dX5_follows_0 : decode cX5_follows 0 = .ok (.aload_n 0, 1) := dk_42 (dk_at dksX5_follows_0 0 rfl rfl)
theorem dX5_follows_1 : decode cX5_follows 1 = .ok (.getfield 7, 3) := dk_180 0 7 (dk_at dksX5_follows_0 1 rfl rfl)
theorem dX5_follows_4 : decode cX5_follows 4 = .ok (.iconst 5, 1) := dk_8 (dk_at dksX5_follows_0 4 rfl rfl)
theorem dX5_follows_5 : decode cX5_follows 5 = .ok (.iaload, 1) := dk_46 (dk_at dksX5_follows_0 5 rfl rfl)
theorem dX5_follows_6 : decode cX5_follows 6 = .ok (.iconst 1, 1) := dk_4 (dk_at dksX5_follows_0 6 rfl rfl)
theorem dX5_follows_7 : decode cX5_follows 7 = .ok (.isub, 1) := dk_100 (dk_at dksX5_follows_0 7 rfl rfl)
theorem dX5_follows_8 : decode cX5_follows 8 = .ok (.istore_n 1, 1) := dk_60 (dk_at dksX5_follows_0 8 rfl rfl)
theorem dX5_follows_9 : decode cX5_follows 9 = .ok (.aload_n 0, 1) := dk_42 (dk_at dksX5_follows_0 9 rfl rfl)
theorem dX5_follows_10 : decode cX5_follows 10 = .ok (.iload_n 1, 1) := dk_27 (dk_at dksX5_follows_0 10 rfl rfl)
theorem dX5_follows_11 : decode cX5_follows 11 = .ok (.aload_n 0, 1) := dk_42 (dk_at dksX5_follows_0 11 rfl rfl)
theorem dX5_follows_12 : decode cX5_follows 12 = .ok (.getfield 33, 3) := dk_180 0 33 (dk_at dksX5_follows_0 12 rfl rfl)
theorem dX5_follows_15 : decode cX5_follows 15 = .ok (.invokevirtual 219, 3) := dk_182 0 219 (dk_at dksX5_follows_0 15 rfl rfl)
theorem dX5_follows_18 : decode cX5_follows 18 = .ok (.aload_n 0, 1) := dk_42 (dk_at dksX5_follows_0 18 rfl rfl)
theorem dX5_follows_19 : decode cX5_follows 19 = .ok (.aload_n 0, 1) := dk_42 (dk_at dksX5_follows_0 19 rfl rfl)
theorem dX5_follows_20 : decode cX5_follows 20 = .ok (.getfield 33, 3) := dk_180 0 33 (dk_at dksX5_follows_0 20 rfl rfl)
theorem dX5_follows_23 : decode cX5_follows 23 = .ok (.aload_n 0, 1) := dk_42 (dk_at dksX5_follows_0 23 rfl rfl)
theorem dX5_follows_24 : decode cX5_follows 24 = .ok (.getfield 36, 3) := dk_180 0 36 (dk_at dksX5_follows_1 0 rfl rfl)
theorem dX5_follows_27 : decode cX5_follows 27 = .ok (.invokevirtual 223, 3) := dk_182 0 223 (dk_at dksX5_follows_1 3 rfl rfl)
theorem dX5_follows_30 : decode cX5_follows 30 = .ok (.aload_n 0, 1) := dk_42 (dk_at dksX5_follows_1 6 rfl rfl)
theorem dX5_follows_31 : decode cX5_follows 31 = .ok (.getfield 7, 3) := dk_180 0 7 (dk_at dksX5_follows_1 7 rfl rfl)
theorem dX5_follows_34 : decode cX5_follows 34 = .ok (.iconst 4, 1) := dk_7 (dk_at dksX5_follows_1 10 rfl rfl)
theorem dX5_follows_35 : decode cX5_follows 35 = .ok (.iaload, 1) := dk_46 (dk_at dksX5_follows_1 11 rfl rfl)
theorem dX5_follows_36 : decode cX5_follows 36 = .ok (.iconst 1, 1) := dk_4 (dk_at dksX5_follows_1 12 rfl rfl)
theorem dX5_follows_37 : decode cX5_follows 37 = .ok (.if_icmp .ne 12, 3) := dk_160 0 12 (dk_at dksX5_follows_1 13 rfl rfl)
theorem dX5_follows_40 : decode cX5_follows 40 = .ok (.aload_n 0, 1) := dk_42 (dk_at dksX5_follows_1 16 rfl rfl)
theorem dX5_follows_41 : decode cX5_follows 41 = .ok (.aload_n 0, 1) := dk_42 (dk_at dksX5_follows_1 17 rfl rfl)
theorem dX5_follows_42 : decode cX5_follows 42 = .ok (.getfield 36, 3) := dk_180 0 36 (dk_at dksX5_follows_1 18 rfl rfl)
theorem dX5_follows_45 : decode cX5_follows 45 = .ok (.invokevirtual 227, 3) := dk_182 0 227 (dk_at dksX5_follows_1 21 rfl rfl)
theorem dX5_follows_48 : decode cX5_follows 48 = .ok (.return_, 1) := dk_177 (dk_at dksX5_follows_2 0 rfl rfl)
theorem dX5_follows_49 : decode cX5_follows 49 = .ok (.iconst 0, 1) := dk_3 (dk_at dksX5_follows_2 1 rfl rfl)
theorem dX5_follows_50 : decode cX5_follows 50 = .ok (.istore_n 2, 1) := dk_61 (dk_at dksX5_follows_2 2 rfl rfl)
theorem dX5_follows_51 : decode cX5_follows 51 = .ok (.iload_n 2, 1) := dk_28 (dk_at dksX5_follows_2 3 rfl rfl)
theorem dX5_follows_52 : decode cX5_follows 52 = .ok (.aload_n 0, 1) := dk_42 (dk_at dksX5_follows_2 4 rfl rfl)
theorem dX5_follows_53 : decode cX5_follows 53 = .ok (.getfield 7, 3) := dk_180 0 7 (dk_at dksX5_follows_2 5 rfl rfl)
theorem dX5_follows_56 : decode cX5_follows 56 = .ok (.iconst 1, 1) := dk_4 (dk_at dksX5_follows_2 8 rfl rfl)
theorem dX5_follows_57 : decode cX5_follows 57 = .ok (.iaload, 1) := dk_46 (dk_at dksX5_follows_2 9 rfl rfl)
theorem dX5_follows_58 : decode cX5_follows 58 = .ok (.if_icmp .ge 21, 3) := dk_162 0 21 (dk_at dksX5_follows_2 10 rfl rfl)
theorem dX5_follows_61 : decode cX5_follows 61 = .ok (.aload_n 0, 1) := dk_42 (dk_at dksX5_follows_2 13 rfl rfl)
theorem dX5_follows_62 : decode cX5_follows 62 = .ok (.getfield 39, 3) := dk_180 0 39 (dk_at dksX5_follows_2 14 rfl rfl)
theorem dX5_follows_65 : decode cX5_follows 65 = .ok (.iload_n 2, 1) := dk_28 (dk_at dksX5_follows_2 17 rfl rfl)
theorem dX5_follows_66 : decode cX5_follows 66 = .ok (.aload_n 0, 1) := dk_42 (dk_at dksX5_follows_2 18 rfl rfl)
theorem dX5_follows_67 : decode cX5_follows 67 = .ok (.getfield 36, 3) := dk_180 0 36 (dk_at dksX5_follows_2 19 rfl rfl)
theorem dX5_follows_70 : decode cX5_follows 70 = .ok (.iload_n 2, 1) := dk_28 (dk_at dksX5_follows_2 22 rfl rfl)
theorem dX5_follows_71 : decode cX5_follows 71 = .ok (.iaload, 1) := dk_46 (dk_at dksX5_follows_2 23 rfl rfl)
theorem dX5_follows_72 : decode cX5_follows 72 = .ok (.iastore, 1) := dk_79 (dk_at dksX5_follows_3 0 rfl rfl)
theorem dX5_follows_73 : decode cX5_follows 73 = .ok (.iinc 2 1, 3) := dk_132 2 1 (dk_at dksX5_follows_3 1 rfl rfl)
theorem dX5_follows_76 : decode cX5_follows 76 = .ok (.goto (-25), 3) := dk_167 255 231 (dk_at dksX5_follows_3 4 rfl rfl)
theorem dX5_follows_79 : decode cX5_follows 79 = .ok (.aload_n 0, 1) := dk_42 (dk_at dksX5_follows_3 7 rfl rfl)
theorem dX5_follows_80 : decode cX5_follows 80 = .ok (.aload_n 0, 1) := dk_42 (dk_at dksX5_follows_3 8 rfl rfl)
theorem dX5_follows_81 : decode cX5_follows 81 = .ok (.getfield 39, 3) := dk_180 0 39 (dk_at dksX5_follows_3 9 rfl rfl)
theorem dX5_follows_84 : decode cX5_follows 84 = .ok (.aload_n 0, 1) := dk_42 (dk_at dksX5_follows_3 12 rfl rfl)
theorem dX5_follows_85 : decode cX5_follows 85 = .ok (.aload_n 0, 1) := dk_42 (dk_at dksX5_follows_3 13 rfl rfl)
theorem dX5_follows_86 : decode cX5_follows 86 = .ok (.getfield 36, 3) := dk_180 0 36 (dk_at dksX5_follows_3 14 rfl rfl)
theorem dX5_follows_89 : decode cX5_follows 89 = .ok (.iload_n 1, 1) := dk_27 (dk_at dksX5_follows_3 17 rfl rfl)
theorem dX5_follows_90 : decode cX5_follows 90 = .ok (.invokevirtual 211, 3) := dk_182 0 211 (dk_at dksX5_follows_3 18 rfl rfl)
theorem dX5_follows_93 : decode cX5_follows 93 = .ok (.iload_n 1, 1) := dk_27 (dk_at dksX5_follows_3 21 rfl rfl)
theorem dX5_follows_94 : decode cX5_follows 94 = .ok (.invokevirtual 215, 3) := dk_182 0 215 (dk_at dksX5_follows_4 0 rfl rfl)
theorem dX5_follows_97 : decode cX5_follows 97 = .ok (.aload_n 0, 1) := dk_42 (dk_at dksX5_follows_4 3 rfl rfl)
theorem dX5_follows_98 : decode cX5_follows 98 = .ok (.aload_n 0, 1) := dk_42 (dk_at dksX5_follows_4 4 rfl rfl)
theorem dX5_follows_99 : decode cX5_follows 99 = .ok (.getfield 7, 3) := dk_180 0 7 (dk_at dksX5_follows_4 5 rfl rfl)
theorem dX5_follows_102 : decode cX5_follows 102 = .ok (.bipush 6, 2) := dk_16 6 (dk_at dksX5_follows_4 8 rfl rfl)
theorem dX5_follows_104 : decode cX5_follows 104 = .ok (.iaload, 1) := dk_46 (dk_at dksX5_follows_4 10 rfl rfl)
theorem dX5_follows_105 : decode cX5_follows 105 = .ok (.iconst 1, 1) := dk_4 (dk_at dksX5_follows_4 11 rfl rfl)
theorem dX5_follows_106 : decode cX5_follows 106 = .ok (.isub, 1) := dk_100 (dk_at dksX5_follows_4 12 rfl rfl)
theorem dX5_follows_107 : decode cX5_follows 107 = .ok (.invokevirtual 231, 3) := dk_182 0 231 (dk_at dksX5_follows_4 13 rfl rfl)
theorem dX5_follows_110 : decode cX5_follows 110 = .ok (.iconst 1, 1) := dk_4 (dk_at dksX5_follows_4 16 rfl rfl)
theorem dX5_follows_111 : decode cX5_follows 111 = .ok (.if_icmp .le 30, 3) := dk_164 0 30 (dk_at dksX5_follows_4 17 rfl rfl)
theorem dX5_follows_114 : decode cX5_follows 114 = .ok (.aload_n 0, 1) := dk_42 (dk_at dksX5_follows_4 20 rfl rfl)
theorem dX5_follows_115 : decode cX5_follows 115 = .ok (.aload_n 0, 1) := dk_42 (dk_at dksX5_follows_4 21 rfl rfl)
theorem dX5_follows_116 : decode cX5_follows 116 = .ok (.getfield 39, 3) := dk_180 0 39 (dk_at dksX5_follows_5 0 rfl rfl)
theorem dX5_follows_119 : decode cX5_follows 119 = .ok (.aload_n 0, 1) := dk_42 (dk_at dksX5_follows_5 3 rfl rfl)
theorem dX5_follows_120 : decode cX5_follows 120 = .ok (.aload_n 0, 1) := dk_42 (dk_at dksX5_follows_5 4 rfl rfl)
theorem dX5_follows_121 : decode cX5_follows 121 = .ok (.iload_n 1, 1) := dk_27 (dk_at dksX5_follows_5 5 rfl rfl)
theorem dX5_follows_122 : decode cX5_follows 122 = .ok (.invokevirtual 205, 3) := dk_182 0 205 (dk_at dksX5_follows_5 6 rfl rfl)
theorem dX5_follows_125 : decode cX5_follows 125 = .ok (.aload_n 0, 1) := dk_42 (dk_at dksX5_follows_5 9 rfl rfl)
theorem dX5_follows_126 : decode cX5_follows 126 = .ok (.iload_n 1, 1) := dk_27 (dk_at dksX5_follows_5 10 rfl rfl)
theorem dX5_follows_127 : decode cX5_follows 127 = .ok (.iconst 1, 1) := dk_4 (dk_at dksX5_follows_5 11 rfl rfl)
theorem dX5_follows_128 : decode cX5_follows 128 = .ok (.isub, 1) := dk_100 (dk_at dksX5_follows_5 12 rfl rfl)
theorem dX5_follows_129 : decode cX5_follows 129 = .ok (.invokevirtual 205, 3) := dk_182 0 205 (dk_at dksX5_follows_5 13 rfl rfl)
theorem dX5_follows_132 : decode cX5_follows 132 = .ok (.invokevirtual 208, 3) := dk_182 0 208 (dk_at dksX5_follows_5 16 rfl rfl)
theorem dX5_follows_135 : decode cX5_follows 135 = .ok (.iload_n 1, 1) := dk_27 (dk_at dksX5_follows_5 19 rfl rfl)
theorem dX5_follows_136 : decode cX5_follows 136 = .ok (.iconst 1, 1) := dk_4 (dk_at dksX5_follows_5 20 rfl rfl)
theorem dX5_follows_137 : decode cX5_follows 137 = .ok (.isub, 1) := dk_100 (dk_at dksX5_follows_5 21 rfl rfl)
theorem dX5_follows_138 : decode cX5_follows 138 = .ok (.invokevirtual 215, 3) := dk_182 0 215 (dk_at dksX5_follows_6 0 rfl rfl)
theorem dX5_follows_141 : decode cX5_follows 141 = .ok (.return_, 1) := dk_177 (dk_at dksX5_follows_6 3 rfl rfl)
abbrev cX5_lays : ByteArray := prog_12_method_47_code
def yX5_lays : MethodName := ⟨RX5, "lays", "(I[I)V"⟩
def dkwX5_lays_1 : List UInt8 := [167, 255, 234, 177]
abbrev dktX5_lays_1 : List UInt8 := dkwX5_lays_1 ++ []
def dkwX5_lays_0 : List UInt8 := [3, 62, 29, 42, 180, 0, 7, 4, 46, 162, 0, 18, 44, 29, 42, 27, 29, 182, 0, 196, 79, 132, 3, 1]
abbrev dktX5_lays_0 : List UInt8 := dkwX5_lays_0 ++ dktX5_lays_1
theorem dksX5_lays_0 : cX5_lays.data.toList.drop 0 = dktX5_lays_0 := by decide +kernel
theorem dksX5_lays_1 : cX5_lays.data.toList.drop 24 = dktX5_lays_1 := dk_seg dksX5_lays_0 24 rfl rfl
theorem dX5_lays_0 : decode cX5_lays 0 = .ok (.iconst 0, 1) := dk_3 (dk_at dksX5_lays_0 0 rfl rfl)
theorem dX5_lays_1 : decode cX5_lays 1 = .ok (.istore_n 3, 1) := dk_62 (dk_at dksX5_lays_0 1 rfl rfl)
theorem dX5_lays_2 : decode cX5_lays 2 = .ok (.iload_n 3, 1) := dk_29 (dk_at dksX5_lays_0 2 rfl rfl)
theorem dX5_lays_3 : decode cX5_lays 3 = .ok (.aload_n 0, 1) := dk_42 (dk_at dksX5_lays_0 3 rfl rfl)
theorem dX5_lays_4 : decode cX5_lays 4 = .ok (.getfield 7, 3) := dk_180 0 7 (dk_at dksX5_lays_0 4 rfl rfl)
theorem dX5_lays_7 : decode cX5_lays 7 = .ok (.iconst 1, 1) := dk_4 (dk_at dksX5_lays_0 7 rfl rfl)
theorem dX5_lays_8 : decode cX5_lays 8 = .ok (.iaload, 1) := dk_46 (dk_at dksX5_lays_0 8 rfl rfl)
theorem dX5_lays_9 : decode cX5_lays 9 = .ok (.if_icmp .ge 18, 3) := dk_162 0 18 (dk_at dksX5_lays_0 9 rfl rfl)
theorem dX5_lays_12 : decode cX5_lays 12 = .ok (.aload_n 2, 1) := dk_44 (dk_at dksX5_lays_0 12 rfl rfl)
theorem dX5_lays_13 : decode cX5_lays 13 = .ok (.iload_n 3, 1) := dk_29 (dk_at dksX5_lays_0 13 rfl rfl)
theorem dX5_lays_14 : decode cX5_lays 14 = .ok (.aload_n 0, 1) := dk_42 (dk_at dksX5_lays_0 14 rfl rfl)
theorem dX5_lays_15 : decode cX5_lays 15 = .ok (.iload_n 1, 1) := dk_27 (dk_at dksX5_lays_0 15 rfl rfl)
theorem dX5_lays_16 : decode cX5_lays 16 = .ok (.iload_n 3, 1) := dk_29 (dk_at dksX5_lays_0 16 rfl rfl)
theorem dX5_lays_17 : decode cX5_lays 17 = .ok (.invokevirtual 196, 3) := dk_182 0 196 (dk_at dksX5_lays_0 17 rfl rfl)
theorem dX5_lays_20 : decode cX5_lays 20 = .ok (.iastore, 1) := dk_79 (dk_at dksX5_lays_0 20 rfl rfl)
theorem dX5_lays_21 : decode cX5_lays 21 = .ok (.iinc 3 1, 3) := dk_132 3 1 (dk_at dksX5_lays_0 21 rfl rfl)
theorem dX5_lays_24 : decode cX5_lays 24 = .ok (.goto (-22), 3) := dk_167 255 234 (dk_at dksX5_lays_1 0 rfl rfl)
theorem dX5_lays_27 : decode cX5_lays 27 = .ok (.return_, 1) := dk_177 (dk_at dksX5_lays_1 3 rfl rfl)
abbrev cX5_wayOf : ByteArray := prog_12_method_43_code
def yX5_wayOf : MethodName := ⟨RX5, "wayOf", "(II)I"⟩
def dkwX5_wayOf_0 : List UInt8 := [42, 180, 0, 7, 16, 98, 16, 8, 27, 104, 96, 28, 96, 46, 172]
abbrev dktX5_wayOf_0 : List UInt8 := dkwX5_wayOf_0 ++ []
theorem dksX5_wayOf_0 : cX5_wayOf.data.toList.drop 0 = dktX5_wayOf_0 := by decide +kernel
theorem dX5_wayOf_0 : decode cX5_wayOf 0 = .ok (.aload_n 0, 1) := dk_42 (dk_at dksX5_wayOf_0 0 rfl rfl)
theorem dX5_wayOf_1 : decode cX5_wayOf 1 = .ok (.getfield 7, 3) := dk_180 0 7 (dk_at dksX5_wayOf_0 1 rfl rfl)
theorem dX5_wayOf_4 : decode cX5_wayOf 4 = .ok (.bipush 98, 2) := dk_16 98 (dk_at dksX5_wayOf_0 4 rfl rfl)
theorem dX5_wayOf_6 : decode cX5_wayOf 6 = .ok (.bipush 8, 2) := dk_16 8 (dk_at dksX5_wayOf_0 6 rfl rfl)
theorem dX5_wayOf_8 : decode cX5_wayOf 8 = .ok (.iload_n 1, 1) := dk_27 (dk_at dksX5_wayOf_0 8 rfl rfl)
theorem dX5_wayOf_9 : decode cX5_wayOf 9 = .ok (.imul, 1) := dk_104 (dk_at dksX5_wayOf_0 9 rfl rfl)
theorem dX5_wayOf_10 : decode cX5_wayOf 10 = .ok (.iadd, 1) := dk_96 (dk_at dksX5_wayOf_0 10 rfl rfl)
theorem dX5_wayOf_11 : decode cX5_wayOf 11 = .ok (.iload_n 2, 1) := dk_28 (dk_at dksX5_wayOf_0 11 rfl rfl)
theorem dX5_wayOf_12 : decode cX5_wayOf 12 = .ok (.iadd, 1) := dk_96 (dk_at dksX5_wayOf_0 12 rfl rfl)
theorem dX5_wayOf_13 : decode cX5_wayOf 13 = .ok (.iaload, 1) := dk_46 (dk_at dksX5_wayOf_0 13 rfl rfl)
theorem dX5_wayOf_14 : decode cX5_wayOf 14 = .ok (.ireturn, 1) := dk_172 (dk_at dksX5_wayOf_0 14 rfl rfl)
abbrev cX5_multiplies : ByteArray := prog_12_method_46_code
def yX5_multiplies : MethodName := ⟨RX5, "multiplies", "([I[I)V"⟩
def dkwX5_multiplies_2 : List UInt8 := [132, 5, 1, 167, 255, 225, 44, 29, 42, 21, 4, 182, 0, 199, 79, 132, 3, 1, 167, 255, 194, 177]
abbrev dktX5_multiplies_2 : List UInt8 := dkwX5_multiplies_2 ++ []
def dkwX5_multiplies_1 : List UInt8 := [4, 46, 162, 0, 26, 21, 4, 42, 29, 21, 5, 182, 0, 184, 43, 21, 5, 46, 104, 96, 54, 4]
abbrev dktX5_multiplies_1 : List UInt8 := dkwX5_multiplies_1 ++ dktX5_multiplies_2
def dkwX5_multiplies_0 : List UInt8 := [3, 62, 29, 42, 180, 0, 7, 4, 46, 162, 0, 58, 3, 54, 4, 3, 54, 5, 21, 5, 42, 180, 0, 7]
abbrev dktX5_multiplies_0 : List UInt8 := dkwX5_multiplies_0 ++ dktX5_multiplies_1
theorem dksX5_multiplies_0 : cX5_multiplies.data.toList.drop 0 = dktX5_multiplies_0 := by decide +kernel
theorem dksX5_multiplies_1 : cX5_multiplies.data.toList.drop 24 = dktX5_multiplies_1 := dk_seg dksX5_multiplies_0 24 rfl rfl
theorem dksX5_multiplies_2 : cX5_multiplies.data.toList.drop 46 = dktX5_multiplies_2 := dk_seg dksX5_multiplies_1 22 rfl rfl
theorem dX5_multiplies_0 : decode cX5_multiplies 0 = .ok (.iconst 0, 1) := dk_3 (dk_at dksX5_multiplies_0 0 rfl rfl)
theorem dX5_multiplies_1 : decode cX5_multiplies 1 = .ok (.istore_n 3, 1) := dk_62 (dk_at dksX5_multiplies_0 1 rfl rfl)
theorem dX5_multiplies_2 : decode cX5_multiplies 2 = .ok (.iload_n 3, 1) := dk_29 (dk_at dksX5_multiplies_0 2 rfl rfl)
theorem dX5_multiplies_3 : decode cX5_multiplies 3 = .ok (.aload_n 0, 1) := dk_42 (dk_at dksX5_multiplies_0 3 rfl rfl)
theorem dX5_multiplies_4 : decode cX5_multiplies 4 = .ok (.getfield 7, 3) := dk_180 0 7 (dk_at dksX5_multiplies_0 4 rfl rfl)
theorem dX5_multiplies_7 : decode cX5_multiplies 7 = .ok (.iconst 1, 1) := dk_4 (dk_at dksX5_multiplies_0 7 rfl rfl)
theorem dX5_multiplies_8 : decode cX5_multiplies 8 = .ok (.iaload, 1) := dk_46 (dk_at dksX5_multiplies_0 8 rfl rfl)
theorem dX5_multiplies_9 : decode cX5_multiplies 9 = .ok (.if_icmp .ge 58, 3) := dk_162 0 58 (dk_at dksX5_multiplies_0 9 rfl rfl)
theorem dX5_multiplies_12 : decode cX5_multiplies 12 = .ok (.iconst 0, 1) := dk_3 (dk_at dksX5_multiplies_0 12 rfl rfl)
theorem dX5_multiplies_13 : decode cX5_multiplies 13 = .ok (.istore 4, 2) := dk_54 4 (dk_at dksX5_multiplies_0 13 rfl rfl)
theorem dX5_multiplies_15 : decode cX5_multiplies 15 = .ok (.iconst 0, 1) := dk_3 (dk_at dksX5_multiplies_0 15 rfl rfl)
theorem dX5_multiplies_16 : decode cX5_multiplies 16 = .ok (.istore 5, 2) := dk_54 5 (dk_at dksX5_multiplies_0 16 rfl rfl)
theorem dX5_multiplies_18 : decode cX5_multiplies 18 = .ok (.iload 5, 2) := dk_21 5 (dk_at dksX5_multiplies_0 18 rfl rfl)
theorem dX5_multiplies_20 : decode cX5_multiplies 20 = .ok (.aload_n 0, 1) := dk_42 (dk_at dksX5_multiplies_0 20 rfl rfl)
theorem dX5_multiplies_21 : decode cX5_multiplies 21 = .ok (.getfield 7, 3) := dk_180 0 7 (dk_at dksX5_multiplies_0 21 rfl rfl)
theorem dX5_multiplies_24 : decode cX5_multiplies 24 = .ok (.iconst 1, 1) := dk_4 (dk_at dksX5_multiplies_1 0 rfl rfl)
theorem dX5_multiplies_25 : decode cX5_multiplies 25 = .ok (.iaload, 1) := dk_46 (dk_at dksX5_multiplies_1 1 rfl rfl)
theorem dX5_multiplies_26 : decode cX5_multiplies 26 = .ok (.if_icmp .ge 26, 3) := dk_162 0 26 (dk_at dksX5_multiplies_1 2 rfl rfl)
theorem dX5_multiplies_29 : decode cX5_multiplies 29 = .ok (.iload 4, 2) := dk_21 4 (dk_at dksX5_multiplies_1 5 rfl rfl)
theorem dX5_multiplies_31 : decode cX5_multiplies 31 = .ok (.aload_n 0, 1) := dk_42 (dk_at dksX5_multiplies_1 7 rfl rfl)
theorem dX5_multiplies_32 : decode cX5_multiplies 32 = .ok (.iload_n 3, 1) := dk_29 (dk_at dksX5_multiplies_1 8 rfl rfl)
theorem dX5_multiplies_33 : decode cX5_multiplies 33 = .ok (.iload 5, 2) := dk_21 5 (dk_at dksX5_multiplies_1 9 rfl rfl)
theorem dX5_multiplies_35 : decode cX5_multiplies 35 = .ok (.invokevirtual 184, 3) := dk_182 0 184 (dk_at dksX5_multiplies_1 11 rfl rfl)
theorem dX5_multiplies_38 : decode cX5_multiplies 38 = .ok (.aload_n 1, 1) := dk_43 (dk_at dksX5_multiplies_1 14 rfl rfl)
theorem dX5_multiplies_39 : decode cX5_multiplies 39 = .ok (.iload 5, 2) := dk_21 5 (dk_at dksX5_multiplies_1 15 rfl rfl)
theorem dX5_multiplies_41 : decode cX5_multiplies 41 = .ok (.iaload, 1) := dk_46 (dk_at dksX5_multiplies_1 17 rfl rfl)
theorem dX5_multiplies_42 : decode cX5_multiplies 42 = .ok (.imul, 1) := dk_104 (dk_at dksX5_multiplies_1 18 rfl rfl)
theorem dX5_multiplies_43 : decode cX5_multiplies 43 = .ok (.iadd, 1) := dk_96 (dk_at dksX5_multiplies_1 19 rfl rfl)
theorem dX5_multiplies_44 : decode cX5_multiplies 44 = .ok (.istore 4, 2) := dk_54 4 (dk_at dksX5_multiplies_1 20 rfl rfl)
theorem dX5_multiplies_46 : decode cX5_multiplies 46 = .ok (.iinc 5 1, 3) := dk_132 5 1 (dk_at dksX5_multiplies_2 0 rfl rfl)
theorem dX5_multiplies_49 : decode cX5_multiplies 49 = .ok (.goto (-31), 3) := dk_167 255 225 (dk_at dksX5_multiplies_2 3 rfl rfl)
theorem dX5_multiplies_52 : decode cX5_multiplies 52 = .ok (.aload_n 2, 1) := dk_44 (dk_at dksX5_multiplies_2 6 rfl rfl)
theorem dX5_multiplies_53 : decode cX5_multiplies 53 = .ok (.iload_n 3, 1) := dk_29 (dk_at dksX5_multiplies_2 7 rfl rfl)
theorem dX5_multiplies_54 : decode cX5_multiplies 54 = .ok (.aload_n 0, 1) := dk_42 (dk_at dksX5_multiplies_2 8 rfl rfl)
theorem dX5_multiplies_55 : decode cX5_multiplies 55 = .ok (.iload 4, 2) := dk_21 4 (dk_at dksX5_multiplies_2 9 rfl rfl)
theorem dX5_multiplies_57 : decode cX5_multiplies 57 = .ok (.invokevirtual 199, 3) := dk_182 0 199 (dk_at dksX5_multiplies_2 11 rfl rfl)
theorem dX5_multiplies_60 : decode cX5_multiplies 60 = .ok (.iastore, 1) := dk_79 (dk_at dksX5_multiplies_2 14 rfl rfl)
theorem dX5_multiplies_61 : decode cX5_multiplies 61 = .ok (.iinc 3 1, 3) := dk_132 3 1 (dk_at dksX5_multiplies_2 15 rfl rfl)
theorem dX5_multiplies_64 : decode cX5_multiplies 64 = .ok (.goto (-62), 3) := dk_167 255 194 (dk_at dksX5_multiplies_2 18 rfl rfl)
theorem dX5_multiplies_67 : decode cX5_multiplies 67 = .ok (.return_, 1) := dk_177 (dk_at dksX5_multiplies_2 21 rfl rfl)
abbrev cX5_mod : ByteArray := prog_12_method_27_code
def yX5_mod : MethodName := ⟨RX5, "mod", "(I)I"⟩
def dkwX5_mod_0 : List UInt8 := [27, 42, 180, 0, 7, 3, 46, 184, 0, 173, 172]
abbrev dktX5_mod_0 : List UInt8 := dkwX5_mod_0 ++ []
theorem dksX5_mod_0 : cX5_mod.data.toList.drop 0 = dktX5_mod_0 := by decide +kernel
theorem dX5_mod_0 : decode cX5_mod 0 = .ok (.iload_n 1, 1) := dk_27 (dk_at dksX5_mod_0 0 rfl rfl)
theorem dX5_mod_1 : decode cX5_mod 1 = .ok (.aload_n 0, 1) := dk_42 (dk_at dksX5_mod_0 1 rfl rfl)
theorem dX5_mod_2 : decode cX5_mod 2 = .ok (.getfield 7, 3) := dk_180 0 7 (dk_at dksX5_mod_0 2 rfl rfl)
theorem dX5_mod_5 : decode cX5_mod 5 = .ok (.iconst 0, 1) := dk_3 (dk_at dksX5_mod_0 5 rfl rfl)
theorem dX5_mod_6 : decode cX5_mod 6 = .ok (.iaload, 1) := dk_46 (dk_at dksX5_mod_0 6 rfl rfl)
theorem dX5_mod_7 : decode cX5_mod 7 = .ok (.invokestatic 173, 3) := dk_184 0 173 (dk_at dksX5_mod_0 7 rfl rfl)
theorem dX5_mod_10 : decode cX5_mod 10 = .ok (.ireturn, 1) := dk_172 (dk_at dksX5_mod_0 10 rfl rfl)
abbrev cX5_remains : ByteArray := prog_12_method_50_code
def yX5_remains : MethodName := ⟨RX5, "remains", "([I)V"⟩
def dkwX5_remains_2 : List UInt8 := [182, 0, 211, 28, 182, 0, 215, 132, 2, 1, 167, 255, 228, 177]
abbrev dktX5_remains_2 : List UInt8 := dkwX5_remains_2 ++ []
def dkwX5_remains_1 : List UInt8 := [167, 255, 234, 3, 61, 28, 42, 180, 0, 7, 8, 46, 162, 0, 24, 42, 42, 180, 0, 39, 42, 43, 28]
abbrev dktX5_remains_1 : List UInt8 := dkwX5_remains_1 ++ dktX5_remains_2
def dkwX5_remains_0 : List UInt8 := [3, 61, 28, 42, 180, 0, 7, 4, 46, 162, 0, 18, 42, 180, 0, 39, 28, 43, 28, 46, 79, 132, 2, 1]
abbrev dktX5_remains_0 : List UInt8 := dkwX5_remains_0 ++ dktX5_remains_1
theorem dksX5_remains_0 : cX5_remains.data.toList.drop 0 = dktX5_remains_0 := by decide +kernel
theorem dksX5_remains_1 : cX5_remains.data.toList.drop 24 = dktX5_remains_1 := dk_seg dksX5_remains_0 24 rfl rfl
theorem dksX5_remains_2 : cX5_remains.data.toList.drop 47 = dktX5_remains_2 := dk_seg dksX5_remains_1 23 rfl rfl
theorem dX5_remains_0 : decode cX5_remains 0 = .ok (.iconst 0, 1) := dk_3 (dk_at dksX5_remains_0 0 rfl rfl)
theorem dX5_remains_1 : decode cX5_remains 1 = .ok (.istore_n 2, 1) := dk_61 (dk_at dksX5_remains_0 1 rfl rfl)
theorem dX5_remains_2 : decode cX5_remains 2 = .ok (.iload_n 2, 1) := dk_28 (dk_at dksX5_remains_0 2 rfl rfl)
theorem dX5_remains_3 : decode cX5_remains 3 = .ok (.aload_n 0, 1) := dk_42 (dk_at dksX5_remains_0 3 rfl rfl)
theorem dX5_remains_4 : decode cX5_remains 4 = .ok (.getfield 7, 3) := dk_180 0 7 (dk_at dksX5_remains_0 4 rfl rfl)
theorem dX5_remains_7 : decode cX5_remains 7 = .ok (.iconst 1, 1) := dk_4 (dk_at dksX5_remains_0 7 rfl rfl)
theorem dX5_remains_8 : decode cX5_remains 8 = .ok (.iaload, 1) := dk_46 (dk_at dksX5_remains_0 8 rfl rfl)
theorem dX5_remains_9 : decode cX5_remains 9 = .ok (.if_icmp .ge 18, 3) := dk_162 0 18 (dk_at dksX5_remains_0 9 rfl rfl)
theorem dX5_remains_12 : decode cX5_remains 12 = .ok (.aload_n 0, 1) := dk_42 (dk_at dksX5_remains_0 12 rfl rfl)
theorem dX5_remains_13 : decode cX5_remains 13 = .ok (.getfield 39, 3) := dk_180 0 39 (dk_at dksX5_remains_0 13 rfl rfl)
theorem dX5_remains_16 : decode cX5_remains 16 = .ok (.iload_n 2, 1) := dk_28 (dk_at dksX5_remains_0 16 rfl rfl)
theorem dX5_remains_17 : decode cX5_remains 17 = .ok (.aload_n 1, 1) := dk_43 (dk_at dksX5_remains_0 17 rfl rfl)
theorem dX5_remains_18 : decode cX5_remains 18 = .ok (.iload_n 2, 1) := dk_28 (dk_at dksX5_remains_0 18 rfl rfl)
theorem dX5_remains_19 : decode cX5_remains 19 = .ok (.iaload, 1) := dk_46 (dk_at dksX5_remains_0 19 rfl rfl)
theorem dX5_remains_20 : decode cX5_remains 20 = .ok (.iastore, 1) := dk_79 (dk_at dksX5_remains_0 20 rfl rfl)
theorem dX5_remains_21 : decode cX5_remains 21 = .ok (.iinc 2 1, 3) := dk_132 2 1 (dk_at dksX5_remains_0 21 rfl rfl)
theorem dX5_remains_24 : decode cX5_remains 24 = .ok (.goto (-22), 3) := dk_167 255 234 (dk_at dksX5_remains_1 0 rfl rfl)
theorem dX5_remains_27 : decode cX5_remains 27 = .ok (.iconst 0, 1) := dk_3 (dk_at dksX5_remains_1 3 rfl rfl)
theorem dX5_remains_28 : decode cX5_remains 28 = .ok (.istore_n 2, 1) := dk_61 (dk_at dksX5_remains_1 4 rfl rfl)
theorem dX5_remains_29 : decode cX5_remains 29 = .ok (.iload_n 2, 1) := dk_28 (dk_at dksX5_remains_1 5 rfl rfl)
theorem dX5_remains_30 : decode cX5_remains 30 = .ok (.aload_n 0, 1) := dk_42 (dk_at dksX5_remains_1 6 rfl rfl)
theorem dX5_remains_31 : decode cX5_remains 31 = .ok (.getfield 7, 3) := dk_180 0 7 (dk_at dksX5_remains_1 7 rfl rfl)
theorem dX5_remains_34 : decode cX5_remains 34 = .ok (.iconst 5, 1) := dk_8 (dk_at dksX5_remains_1 10 rfl rfl)
theorem dX5_remains_35 : decode cX5_remains 35 = .ok (.iaload, 1) := dk_46 (dk_at dksX5_remains_1 11 rfl rfl)
theorem dX5_remains_36 : decode cX5_remains 36 = .ok (.if_icmp .ge 24, 3) := dk_162 0 24 (dk_at dksX5_remains_1 12 rfl rfl)
theorem dX5_remains_39 : decode cX5_remains 39 = .ok (.aload_n 0, 1) := dk_42 (dk_at dksX5_remains_1 15 rfl rfl)
theorem dX5_remains_40 : decode cX5_remains 40 = .ok (.aload_n 0, 1) := dk_42 (dk_at dksX5_remains_1 16 rfl rfl)
theorem dX5_remains_41 : decode cX5_remains 41 = .ok (.getfield 39, 3) := dk_180 0 39 (dk_at dksX5_remains_1 17 rfl rfl)
theorem dX5_remains_44 : decode cX5_remains 44 = .ok (.aload_n 0, 1) := dk_42 (dk_at dksX5_remains_1 20 rfl rfl)
theorem dX5_remains_45 : decode cX5_remains 45 = .ok (.aload_n 1, 1) := dk_43 (dk_at dksX5_remains_1 21 rfl rfl)
theorem dX5_remains_46 : decode cX5_remains 46 = .ok (.iload_n 2, 1) := dk_28 (dk_at dksX5_remains_1 22 rfl rfl)
theorem dX5_remains_47 : decode cX5_remains 47 = .ok (.invokevirtual 211, 3) := dk_182 0 211 (dk_at dksX5_remains_2 0 rfl rfl)
theorem dX5_remains_50 : decode cX5_remains 50 = .ok (.iload_n 2, 1) := dk_28 (dk_at dksX5_remains_2 3 rfl rfl)
theorem dX5_remains_51 : decode cX5_remains 51 = .ok (.invokevirtual 215, 3) := dk_182 0 215 (dk_at dksX5_remains_2 4 rfl rfl)
theorem dX5_remains_54 : decode cX5_remains 54 = .ok (.iinc 2 1, 3) := dk_132 2 1 (dk_at dksX5_remains_2 7 rfl rfl)
theorem dX5_remains_57 : decode cX5_remains 57 = .ok (.goto (-28), 3) := dk_167 255 228 (dk_at dksX5_remains_2 10 rfl rfl)
theorem dX5_remains_60 : decode cX5_remains 60 = .ok (.return_, 1) := dk_177 (dk_at dksX5_remains_2 13 rfl rfl)
abbrev cX5_partOf : ByteArray := prog_12_method_48_code
def yX5_partOf : MethodName := ⟨RX5, "partOf", "([II)I"⟩
def dkwX5_partOf_2 : List UInt8 := [182, 0, 205, 182, 0, 208, 172]
abbrev dktX5_partOf_2 : List UInt8 := dkwX5_partOf_2 ++ []
def dkwX5_partOf_1 : List UInt8 := [21, 4, 182, 0, 196, 104, 96, 62, 132, 4, 1, 167, 255, 227, 42, 42, 29, 182, 0, 199, 42, 28]
abbrev dktX5_partOf_1 : List UInt8 := dkwX5_partOf_1 ++ dktX5_partOf_2
def dkwX5_partOf_0 : List UInt8 := [3, 62, 3, 54, 4, 21, 4, 42, 180, 0, 7, 4, 46, 162, 0, 24, 29, 43, 21, 4, 46, 42, 28]
abbrev dktX5_partOf_0 : List UInt8 := dkwX5_partOf_0 ++ dktX5_partOf_1
theorem dksX5_partOf_0 : cX5_partOf.data.toList.drop 0 = dktX5_partOf_0 := by decide +kernel
theorem dksX5_partOf_1 : cX5_partOf.data.toList.drop 23 = dktX5_partOf_1 := dk_seg dksX5_partOf_0 23 rfl rfl
theorem dksX5_partOf_2 : cX5_partOf.data.toList.drop 45 = dktX5_partOf_2 := dk_seg dksX5_partOf_1 22 rfl rfl
theorem dX5_partOf_0 : decode cX5_partOf 0 = .ok (.iconst 0, 1) := dk_3 (dk_at dksX5_partOf_0 0 rfl rfl)
theorem dX5_partOf_1 : decode cX5_partOf 1 = .ok (.istore_n 3, 1) := dk_62 (dk_at dksX5_partOf_0 1 rfl rfl)
theorem dX5_partOf_2 : decode cX5_partOf 2 = .ok (.iconst 0, 1) := dk_3 (dk_at dksX5_partOf_0 2 rfl rfl)
theorem dX5_partOf_3 : decode cX5_partOf 3 = .ok (.istore 4, 2) := dk_54 4 (dk_at dksX5_partOf_0 3 rfl rfl)
theorem dX5_partOf_5 : decode cX5_partOf 5 = .ok (.iload 4, 2) := dk_21 4 (dk_at dksX5_partOf_0 5 rfl rfl)
theorem dX5_partOf_7 : decode cX5_partOf 7 = .ok (.aload_n 0, 1) := dk_42 (dk_at dksX5_partOf_0 7 rfl rfl)
theorem dX5_partOf_8 : decode cX5_partOf 8 = .ok (.getfield 7, 3) := dk_180 0 7 (dk_at dksX5_partOf_0 8 rfl rfl)
theorem dX5_partOf_11 : decode cX5_partOf 11 = .ok (.iconst 1, 1) := dk_4 (dk_at dksX5_partOf_0 11 rfl rfl)
theorem dX5_partOf_12 : decode cX5_partOf 12 = .ok (.iaload, 1) := dk_46 (dk_at dksX5_partOf_0 12 rfl rfl)
theorem dX5_partOf_13 : decode cX5_partOf 13 = .ok (.if_icmp .ge 24, 3) := dk_162 0 24 (dk_at dksX5_partOf_0 13 rfl rfl)
theorem dX5_partOf_16 : decode cX5_partOf 16 = .ok (.iload_n 3, 1) := dk_29 (dk_at dksX5_partOf_0 16 rfl rfl)
theorem dX5_partOf_17 : decode cX5_partOf 17 = .ok (.aload_n 1, 1) := dk_43 (dk_at dksX5_partOf_0 17 rfl rfl)
theorem dX5_partOf_18 : decode cX5_partOf 18 = .ok (.iload 4, 2) := dk_21 4 (dk_at dksX5_partOf_0 18 rfl rfl)
theorem dX5_partOf_20 : decode cX5_partOf 20 = .ok (.iaload, 1) := dk_46 (dk_at dksX5_partOf_0 20 rfl rfl)
theorem dX5_partOf_21 : decode cX5_partOf 21 = .ok (.aload_n 0, 1) := dk_42 (dk_at dksX5_partOf_0 21 rfl rfl)
theorem dX5_partOf_22 : decode cX5_partOf 22 = .ok (.iload_n 2, 1) := dk_28 (dk_at dksX5_partOf_0 22 rfl rfl)
theorem dX5_partOf_23 : decode cX5_partOf 23 = .ok (.iload 4, 2) := dk_21 4 (dk_at dksX5_partOf_1 0 rfl rfl)
theorem dX5_partOf_25 : decode cX5_partOf 25 = .ok (.invokevirtual 196, 3) := dk_182 0 196 (dk_at dksX5_partOf_1 2 rfl rfl)
theorem dX5_partOf_28 : decode cX5_partOf 28 = .ok (.imul, 1) := dk_104 (dk_at dksX5_partOf_1 5 rfl rfl)
theorem dX5_partOf_29 : decode cX5_partOf 29 = .ok (.iadd, 1) := dk_96 (dk_at dksX5_partOf_1 6 rfl rfl)
theorem dX5_partOf_30 : decode cX5_partOf 30 = .ok (.istore_n 3, 1) := dk_62 (dk_at dksX5_partOf_1 7 rfl rfl)
theorem dX5_partOf_31 : decode cX5_partOf 31 = .ok (.iinc 4 1, 3) := dk_132 4 1 (dk_at dksX5_partOf_1 8 rfl rfl)
theorem dX5_partOf_34 : decode cX5_partOf 34 = .ok (.goto (-29), 3) := dk_167 255 227 (dk_at dksX5_partOf_1 11 rfl rfl)
theorem dX5_partOf_37 : decode cX5_partOf 37 = .ok (.aload_n 0, 1) := dk_42 (dk_at dksX5_partOf_1 14 rfl rfl)
theorem dX5_partOf_38 : decode cX5_partOf 38 = .ok (.aload_n 0, 1) := dk_42 (dk_at dksX5_partOf_1 15 rfl rfl)
theorem dX5_partOf_39 : decode cX5_partOf 39 = .ok (.iload_n 3, 1) := dk_29 (dk_at dksX5_partOf_1 16 rfl rfl)
theorem dX5_partOf_40 : decode cX5_partOf 40 = .ok (.invokevirtual 199, 3) := dk_182 0 199 (dk_at dksX5_partOf_1 17 rfl rfl)
theorem dX5_partOf_43 : decode cX5_partOf 43 = .ok (.aload_n 0, 1) := dk_42 (dk_at dksX5_partOf_1 20 rfl rfl)
theorem dX5_partOf_44 : decode cX5_partOf 44 = .ok (.iload_n 2, 1) := dk_28 (dk_at dksX5_partOf_1 21 rfl rfl)
theorem dX5_partOf_45 : decode cX5_partOf 45 = .ok (.invokevirtual 205, 3) := dk_182 0 205 (dk_at dksX5_partOf_2 0 rfl rfl)
theorem dX5_partOf_48 : decode cX5_partOf 48 = .ok (.invokevirtual 208, 3) := dk_182 0 208 (dk_at dksX5_partOf_2 3 rfl rfl)
theorem dX5_partOf_51 : decode cX5_partOf 51 = .ok (.ireturn, 1) := dk_172 (dk_at dksX5_partOf_2 6 rfl rfl)
abbrev cX5_normOf : ByteArray := prog_12_method_45_code
def yX5_normOf : MethodName := ⟨RX5, "normOf", "(I)I"⟩
def dkwX5_normOf_0 : List UInt8 := [42, 27, 27, 182, 0, 202, 172]
abbrev dktX5_normOf_0 : List UInt8 := dkwX5_normOf_0 ++ []
theorem dksX5_normOf_0 : cX5_normOf.data.toList.drop 0 = dktX5_normOf_0 := by decide +kernel
theorem dX5_normOf_0 : decode cX5_normOf 0 = .ok (.aload_n 0, 1) := dk_42 (dk_at dksX5_normOf_0 0 rfl rfl)
theorem dX5_normOf_1 : decode cX5_normOf 1 = .ok (.iload_n 1, 1) := dk_27 (dk_at dksX5_normOf_0 1 rfl rfl)
theorem dX5_normOf_2 : decode cX5_normOf 2 = .ok (.iload_n 1, 1) := dk_27 (dk_at dksX5_normOf_0 2 rfl rfl)
theorem dX5_normOf_3 : decode cX5_normOf 3 = .ok (.invokevirtual 202, 3) := dk_182 0 202 (dk_at dksX5_normOf_0 3 rfl rfl)
theorem dX5_normOf_6 : decode cX5_normOf 6 = .ok (.ireturn, 1) := dk_172 (dk_at dksX5_normOf_0 6 rfl rfl)
abbrev cX5_productOf : ByteArray := prog_12_method_44_code
def yX5_productOf : MethodName := ⟨RX5, "productOf", "(II)I"⟩
def dkwX5_productOf_1 : List UInt8 := [42, 28, 21, 4, 182, 0, 196, 104, 96, 62, 132, 4, 1, 167, 255, 224, 42, 29, 182, 0, 199, 172]
abbrev dktX5_productOf_1 : List UInt8 := dkwX5_productOf_1 ++ []
def dkwX5_productOf_0 : List UInt8 := [3, 62, 3, 54, 4, 21, 4, 42, 180, 0, 7, 4, 46, 162, 0, 27, 29, 42, 27, 21, 4, 182, 0, 196]
abbrev dktX5_productOf_0 : List UInt8 := dkwX5_productOf_0 ++ dktX5_productOf_1
theorem dksX5_productOf_0 : cX5_productOf.data.toList.drop 0 = dktX5_productOf_0 := by decide +kernel
theorem dksX5_productOf_1 : cX5_productOf.data.toList.drop 24 = dktX5_productOf_1 := dk_seg dksX5_productOf_0 24 rfl rfl
theorem dX5_productOf_0 : decode cX5_productOf 0 = .ok (.iconst 0, 1) := dk_3 (dk_at dksX5_productOf_0 0 rfl rfl)
theorem dX5_productOf_1 : decode cX5_productOf 1 = .ok (.istore_n 3, 1) := dk_62 (dk_at dksX5_productOf_0 1 rfl rfl)
theorem dX5_productOf_2 : decode cX5_productOf 2 = .ok (.iconst 0, 1) := dk_3 (dk_at dksX5_productOf_0 2 rfl rfl)
theorem dX5_productOf_3 : decode cX5_productOf 3 = .ok (.istore 4, 2) := dk_54 4 (dk_at dksX5_productOf_0 3 rfl rfl)
theorem dX5_productOf_5 : decode cX5_productOf 5 = .ok (.iload 4, 2) := dk_21 4 (dk_at dksX5_productOf_0 5 rfl rfl)
theorem dX5_productOf_7 : decode cX5_productOf 7 = .ok (.aload_n 0, 1) := dk_42 (dk_at dksX5_productOf_0 7 rfl rfl)
theorem dX5_productOf_8 : decode cX5_productOf 8 = .ok (.getfield 7, 3) := dk_180 0 7 (dk_at dksX5_productOf_0 8 rfl rfl)
theorem dX5_productOf_11 : decode cX5_productOf 11 = .ok (.iconst 1, 1) := dk_4 (dk_at dksX5_productOf_0 11 rfl rfl)
theorem dX5_productOf_12 : decode cX5_productOf 12 = .ok (.iaload, 1) := dk_46 (dk_at dksX5_productOf_0 12 rfl rfl)
theorem dX5_productOf_13 : decode cX5_productOf 13 = .ok (.if_icmp .ge 27, 3) := dk_162 0 27 (dk_at dksX5_productOf_0 13 rfl rfl)
theorem dX5_productOf_16 : decode cX5_productOf 16 = .ok (.iload_n 3, 1) := dk_29 (dk_at dksX5_productOf_0 16 rfl rfl)
theorem dX5_productOf_17 : decode cX5_productOf 17 = .ok (.aload_n 0, 1) := dk_42 (dk_at dksX5_productOf_0 17 rfl rfl)
theorem dX5_productOf_18 : decode cX5_productOf 18 = .ok (.iload_n 1, 1) := dk_27 (dk_at dksX5_productOf_0 18 rfl rfl)
theorem dX5_productOf_19 : decode cX5_productOf 19 = .ok (.iload 4, 2) := dk_21 4 (dk_at dksX5_productOf_0 19 rfl rfl)
theorem dX5_productOf_21 : decode cX5_productOf 21 = .ok (.invokevirtual 196, 3) := dk_182 0 196 (dk_at dksX5_productOf_0 21 rfl rfl)
theorem dX5_productOf_24 : decode cX5_productOf 24 = .ok (.aload_n 0, 1) := dk_42 (dk_at dksX5_productOf_1 0 rfl rfl)
theorem dX5_productOf_25 : decode cX5_productOf 25 = .ok (.iload_n 2, 1) := dk_28 (dk_at dksX5_productOf_1 1 rfl rfl)
theorem dX5_productOf_26 : decode cX5_productOf 26 = .ok (.iload 4, 2) := dk_21 4 (dk_at dksX5_productOf_1 2 rfl rfl)
theorem dX5_productOf_28 : decode cX5_productOf 28 = .ok (.invokevirtual 196, 3) := dk_182 0 196 (dk_at dksX5_productOf_1 4 rfl rfl)
theorem dX5_productOf_31 : decode cX5_productOf 31 = .ok (.imul, 1) := dk_104 (dk_at dksX5_productOf_1 7 rfl rfl)
theorem dX5_productOf_32 : decode cX5_productOf 32 = .ok (.iadd, 1) := dk_96 (dk_at dksX5_productOf_1 8 rfl rfl)
theorem dX5_productOf_33 : decode cX5_productOf 33 = .ok (.istore_n 3, 1) := dk_62 (dk_at dksX5_productOf_1 9 rfl rfl)
theorem dX5_productOf_34 : decode cX5_productOf 34 = .ok (.iinc 4 1, 3) := dk_132 4 1 (dk_at dksX5_productOf_1 10 rfl rfl)
theorem dX5_productOf_37 : decode cX5_productOf 37 = .ok (.goto (-32), 3) := dk_167 255 224 (dk_at dksX5_productOf_1 13 rfl rfl)
theorem dX5_productOf_40 : decode cX5_productOf 40 = .ok (.aload_n 0, 1) := dk_42 (dk_at dksX5_productOf_1 16 rfl rfl)
theorem dX5_productOf_41 : decode cX5_productOf 41 = .ok (.iload_n 3, 1) := dk_29 (dk_at dksX5_productOf_1 17 rfl rfl)
theorem dX5_productOf_42 : decode cX5_productOf 42 = .ok (.invokevirtual 199, 3) := dk_182 0 199 (dk_at dksX5_productOf_1 18 rfl rfl)
theorem dX5_productOf_45 : decode cX5_productOf 45 = .ok (.ireturn, 1) := dk_172 (dk_at dksX5_productOf_1 21 rfl rfl)
abbrev cX5_quotient : ByteArray := prog_12_method_29_code
def yX5_quotient : MethodName := ⟨RX5, "quotient", "(II)I"⟩
def dkwX5_quotient_0 : List UInt8 := [27, 42, 28, 182, 0, 178, 104, 42, 180, 0, 7, 3, 46, 112, 172]
abbrev dktX5_quotient_0 : List UInt8 := dkwX5_quotient_0 ++ []
theorem dksX5_quotient_0 : cX5_quotient.data.toList.drop 0 = dktX5_quotient_0 := by decide +kernel
theorem dX5_quotient_0 : decode cX5_quotient 0 = .ok (.iload_n 1, 1) := dk_27 (dk_at dksX5_quotient_0 0 rfl rfl)
theorem dX5_quotient_1 : decode cX5_quotient 1 = .ok (.aload_n 0, 1) := dk_42 (dk_at dksX5_quotient_0 1 rfl rfl)
theorem dX5_quotient_2 : decode cX5_quotient 2 = .ok (.iload_n 2, 1) := dk_28 (dk_at dksX5_quotient_0 2 rfl rfl)
theorem dX5_quotient_3 : decode cX5_quotient 3 = .ok (.invokevirtual 178, 3) := dk_182 0 178 (dk_at dksX5_quotient_0 3 rfl rfl)
theorem dX5_quotient_6 : decode cX5_quotient 6 = .ok (.imul, 1) := dk_104 (dk_at dksX5_quotient_0 6 rfl rfl)
theorem dX5_quotient_7 : decode cX5_quotient 7 = .ok (.aload_n 0, 1) := dk_42 (dk_at dksX5_quotient_0 7 rfl rfl)
theorem dX5_quotient_8 : decode cX5_quotient 8 = .ok (.getfield 7, 3) := dk_180 0 7 (dk_at dksX5_quotient_0 8 rfl rfl)
theorem dX5_quotient_11 : decode cX5_quotient 11 = .ok (.iconst 0, 1) := dk_3 (dk_at dksX5_quotient_0 11 rfl rfl)
theorem dX5_quotient_12 : decode cX5_quotient 12 = .ok (.iaload, 1) := dk_46 (dk_at dksX5_quotient_0 12 rfl rfl)
theorem dX5_quotient_13 : decode cX5_quotient 13 = .ok (.irem, 1) := dk_112 (dk_at dksX5_quotient_0 13 rfl rfl)
theorem dX5_quotient_14 : decode cX5_quotient 14 = .ok (.ireturn, 1) := dk_172 (dk_at dksX5_quotient_0 14 rfl rfl)
abbrev cX5_inverse : ByteArray := prog_12_method_28_code
def yX5_inverse : MethodName := ⟨RX5, "inverse", "(I)I"⟩
def dkwX5_inverse_0 : List UInt8 := [4, 61, 28, 27, 104, 42, 180, 0, 7, 3, 46, 112, 4, 159, 0, 9, 132, 2, 1, 167, 255, 239, 28, 172]
abbrev dktX5_inverse_0 : List UInt8 := dkwX5_inverse_0 ++ []
theorem dksX5_inverse_0 : cX5_inverse.data.toList.drop 0 = dktX5_inverse_0 := by decide +kernel
theorem dX5_inverse_0 : decode cX5_inverse 0 = .ok (.iconst 1, 1) := dk_4 (dk_at dksX5_inverse_0 0 rfl rfl)
theorem dX5_inverse_1 : decode cX5_inverse 1 = .ok (.istore_n 2, 1) := dk_61 (dk_at dksX5_inverse_0 1 rfl rfl)
theorem dX5_inverse_2 : decode cX5_inverse 2 = .ok (.iload_n 2, 1) := dk_28 (dk_at dksX5_inverse_0 2 rfl rfl)
theorem dX5_inverse_3 : decode cX5_inverse 3 = .ok (.iload_n 1, 1) := dk_27 (dk_at dksX5_inverse_0 3 rfl rfl)
theorem dX5_inverse_4 : decode cX5_inverse 4 = .ok (.imul, 1) := dk_104 (dk_at dksX5_inverse_0 4 rfl rfl)
theorem dX5_inverse_5 : decode cX5_inverse 5 = .ok (.aload_n 0, 1) := dk_42 (dk_at dksX5_inverse_0 5 rfl rfl)
theorem dX5_inverse_6 : decode cX5_inverse 6 = .ok (.getfield 7, 3) := dk_180 0 7 (dk_at dksX5_inverse_0 6 rfl rfl)
theorem dX5_inverse_9 : decode cX5_inverse 9 = .ok (.iconst 0, 1) := dk_3 (dk_at dksX5_inverse_0 9 rfl rfl)
theorem dX5_inverse_10 : decode cX5_inverse 10 = .ok (.iaload, 1) := dk_46 (dk_at dksX5_inverse_0 10 rfl rfl)
theorem dX5_inverse_11 : decode cX5_inverse 11 = .ok (.irem, 1) := dk_112 (dk_at dksX5_inverse_0 11 rfl rfl)
theorem dX5_inverse_12 : decode cX5_inverse 12 = .ok (.iconst 1, 1) := dk_4 (dk_at dksX5_inverse_0 12 rfl rfl)
theorem dX5_inverse_13 : decode cX5_inverse 13 = .ok (.if_icmp .eq 9, 3) := dk_159 0 9 (dk_at dksX5_inverse_0 13 rfl rfl)
theorem dX5_inverse_16 : decode cX5_inverse 16 = .ok (.iinc 2 1, 3) := dk_132 2 1 (dk_at dksX5_inverse_0 16 rfl rfl)
theorem dX5_inverse_19 : decode cX5_inverse 19 = .ok (.goto (-17), 3) := dk_167 255 239 (dk_at dksX5_inverse_0 19 rfl rfl)
theorem dX5_inverse_22 : decode cX5_inverse 22 = .ok (.iload_n 2, 1) := dk_28 (dk_at dksX5_inverse_0 22 rfl rfl)
theorem dX5_inverse_23 : decode cX5_inverse 23 = .ok (.ireturn, 1) := dk_172 (dk_at dksX5_inverse_0 23 rfl rfl)
abbrev cX5_takesAway : ByteArray := prog_12_method_49_code
def yX5_takesAway : MethodName := ⟨RX5, "takesAway", "([III)V"⟩
def dkwX5_takesAway_1 : List UInt8 := [29, 21, 4, 182, 0, 196, 104, 100, 182, 0, 199, 79, 132, 4, 1, 167, 255, 220, 177]
abbrev dktX5_takesAway_1 : List UInt8 := dkwX5_takesAway_1 ++ []
def dkwX5_takesAway_0 : List UInt8 := [3, 54, 4, 21, 4, 42, 180, 0, 7, 4, 46, 162, 0, 31, 43, 21, 4, 42, 43, 21, 4, 46, 28, 42]
abbrev dktX5_takesAway_0 : List UInt8 := dkwX5_takesAway_0 ++ dktX5_takesAway_1
theorem dksX5_takesAway_0 : cX5_takesAway.data.toList.drop 0 = dktX5_takesAway_0 := by decide +kernel
theorem dksX5_takesAway_1 : cX5_takesAway.data.toList.drop 24 = dktX5_takesAway_1 := dk_seg dksX5_takesAway_0 24 rfl rfl
theorem dX5_takesAway_0 : decode cX5_takesAway 0 = .ok (.iconst 0, 1) := dk_3 (dk_at dksX5_takesAway_0 0 rfl rfl)
theorem dX5_takesAway_1 : decode cX5_takesAway 1 = .ok (.istore 4, 2) := dk_54 4 (dk_at dksX5_takesAway_0 1 rfl rfl)
theorem dX5_takesAway_3 : decode cX5_takesAway 3 = .ok (.iload 4, 2) := dk_21 4 (dk_at dksX5_takesAway_0 3 rfl rfl)
theorem dX5_takesAway_5 : decode cX5_takesAway 5 = .ok (.aload_n 0, 1) := dk_42 (dk_at dksX5_takesAway_0 5 rfl rfl)
theorem dX5_takesAway_6 : decode cX5_takesAway 6 = .ok (.getfield 7, 3) := dk_180 0 7 (dk_at dksX5_takesAway_0 6 rfl rfl)
theorem dX5_takesAway_9 : decode cX5_takesAway 9 = .ok (.iconst 1, 1) := dk_4 (dk_at dksX5_takesAway_0 9 rfl rfl)
theorem dX5_takesAway_10 : decode cX5_takesAway 10 = .ok (.iaload, 1) := dk_46 (dk_at dksX5_takesAway_0 10 rfl rfl)
theorem dX5_takesAway_11 : decode cX5_takesAway 11 = .ok (.if_icmp .ge 31, 3) := dk_162 0 31 (dk_at dksX5_takesAway_0 11 rfl rfl)
theorem dX5_takesAway_14 : decode cX5_takesAway 14 = .ok (.aload_n 1, 1) := dk_43 (dk_at dksX5_takesAway_0 14 rfl rfl)
theorem dX5_takesAway_15 : decode cX5_takesAway 15 = .ok (.iload 4, 2) := dk_21 4 (dk_at dksX5_takesAway_0 15 rfl rfl)
theorem dX5_takesAway_17 : decode cX5_takesAway 17 = .ok (.aload_n 0, 1) := dk_42 (dk_at dksX5_takesAway_0 17 rfl rfl)
theorem dX5_takesAway_18 : decode cX5_takesAway 18 = .ok (.aload_n 1, 1) := dk_43 (dk_at dksX5_takesAway_0 18 rfl rfl)
theorem dX5_takesAway_19 : decode cX5_takesAway 19 = .ok (.iload 4, 2) := dk_21 4 (dk_at dksX5_takesAway_0 19 rfl rfl)
theorem dX5_takesAway_21 : decode cX5_takesAway 21 = .ok (.iaload, 1) := dk_46 (dk_at dksX5_takesAway_0 21 rfl rfl)
theorem dX5_takesAway_22 : decode cX5_takesAway 22 = .ok (.iload_n 2, 1) := dk_28 (dk_at dksX5_takesAway_0 22 rfl rfl)
theorem dX5_takesAway_23 : decode cX5_takesAway 23 = .ok (.aload_n 0, 1) := dk_42 (dk_at dksX5_takesAway_0 23 rfl rfl)
theorem dX5_takesAway_24 : decode cX5_takesAway 24 = .ok (.iload_n 3, 1) := dk_29 (dk_at dksX5_takesAway_1 0 rfl rfl)
theorem dX5_takesAway_25 : decode cX5_takesAway 25 = .ok (.iload 4, 2) := dk_21 4 (dk_at dksX5_takesAway_1 1 rfl rfl)
theorem dX5_takesAway_27 : decode cX5_takesAway 27 = .ok (.invokevirtual 196, 3) := dk_182 0 196 (dk_at dksX5_takesAway_1 3 rfl rfl)
theorem dX5_takesAway_30 : decode cX5_takesAway 30 = .ok (.imul, 1) := dk_104 (dk_at dksX5_takesAway_1 6 rfl rfl)
theorem dX5_takesAway_31 : decode cX5_takesAway 31 = .ok (.isub, 1) := dk_100 (dk_at dksX5_takesAway_1 7 rfl rfl)
theorem dX5_takesAway_32 : decode cX5_takesAway 32 = .ok (.invokevirtual 199, 3) := dk_182 0 199 (dk_at dksX5_takesAway_1 8 rfl rfl)
theorem dX5_takesAway_35 : decode cX5_takesAway 35 = .ok (.iastore, 1) := dk_79 (dk_at dksX5_takesAway_1 11 rfl rfl)
theorem dX5_takesAway_36 : decode cX5_takesAway 36 = .ok (.iinc 4 1, 3) := dk_132 4 1 (dk_at dksX5_takesAway_1 12 rfl rfl)
theorem dX5_takesAway_39 : decode cX5_takesAway 39 = .ok (.goto (-36), 3) := dk_167 255 220 (dk_at dksX5_takesAway_1 15 rfl rfl)
theorem dX5_takesAway_42 : decode cX5_takesAway 42 = .ok (.return_, 1) := dk_177 (dk_at dksX5_takesAway_1 18 rfl rfl)
abbrev cX5_restarts : ByteArray := prog_12_method_57_code
def yX5_restarts : MethodName := ⟨RX5, "restarts", "()Z"⟩
def dkwX5_restarts_3 : List UInt8 := [182, 0, 237, 154, 0, 6, 167, 255, 199, 42, 180, 0, 7, 16, 6, 92, 46, 4, 96, 79, 4, 172, 3, 172]
abbrev dktX5_restarts_3 : List UInt8 := dkwX5_restarts_3 ++ []
def dkwX5_restarts_2 : List UInt8 := [182, 0, 234, 42, 42, 180, 0, 33, 182, 0, 227, 42, 180, 0, 7, 16, 8, 92, 46, 4, 96, 79, 42]
abbrev dktX5_restarts_2 : List UInt8 := dkwX5_restarts_2 ++ dktX5_restarts_3
def dkwX5_restarts_1 : List UInt8 := [16, 8, 46, 42, 180, 0, 7, 4, 46, 162, 0, 60, 42, 42, 180, 0, 7, 16, 8, 46, 42, 180, 0, 33]
abbrev dktX5_restarts_1 : List UInt8 := dkwX5_restarts_1 ++ dktX5_restarts_2
def dkwX5_restarts_0 : List UInt8 := [42, 180, 0, 7, 16, 6, 46, 4, 100, 42, 180, 0, 7, 6, 46, 161, 0, 5, 3, 172, 42, 180, 0, 7]
abbrev dktX5_restarts_0 : List UInt8 := dkwX5_restarts_0 ++ dktX5_restarts_1
theorem dksX5_restarts_0 : cX5_restarts.data.toList.drop 0 = dktX5_restarts_0 := by decide +kernel
theorem dksX5_restarts_1 : cX5_restarts.data.toList.drop 24 = dktX5_restarts_1 := dk_seg dksX5_restarts_0 24 rfl rfl
theorem dksX5_restarts_2 : cX5_restarts.data.toList.drop 48 = dktX5_restarts_2 := dk_seg dksX5_restarts_1 24 rfl rfl
theorem dksX5_restarts_3 : cX5_restarts.data.toList.drop 71 = dktX5_restarts_3 := dk_seg dksX5_restarts_2 23 rfl rfl
theorem dX5_restarts_0 : decode cX5_restarts 0 = .ok (.aload_n 0, 1) := dk_42 (dk_at dksX5_restarts_0 0 rfl rfl)
theorem dX5_restarts_1 : decode cX5_restarts 1 = .ok (.getfield 7, 3) := dk_180 0 7 (dk_at dksX5_restarts_0 1 rfl rfl)
theorem dX5_restarts_4 : decode cX5_restarts 4 = .ok (.bipush 6, 2) := dk_16 6 (dk_at dksX5_restarts_0 4 rfl rfl)
theorem dX5_restarts_6 : decode cX5_restarts 6 = .ok (.iaload, 1) := dk_46 (dk_at dksX5_restarts_0 6 rfl rfl)
theorem dX5_restarts_7 : decode cX5_restarts 7 = .ok (.iconst 1, 1) := dk_4 (dk_at dksX5_restarts_0 7 rfl rfl)
theorem dX5_restarts_8 : decode cX5_restarts 8 = .ok (.isub, 1) := dk_100 (dk_at dksX5_restarts_0 8 rfl rfl)
theorem dX5_restarts_9 : decode cX5_restarts 9 = .ok (.aload_n 0, 1) := dk_42 (dk_at dksX5_restarts_0 9 rfl rfl)
theorem dX5_restarts_10 : decode cX5_restarts 10 = .ok (.getfield 7, 3) := dk_180 0 7 (dk_at dksX5_restarts_0 10 rfl rfl)
theorem dX5_restarts_13 : decode cX5_restarts 13 = .ok (.iconst 3, 1) := dk_6 (dk_at dksX5_restarts_0 13 rfl rfl)
theorem dX5_restarts_14 : decode cX5_restarts 14 = .ok (.iaload, 1) := dk_46 (dk_at dksX5_restarts_0 14 rfl rfl)
theorem dX5_restarts_15 : decode cX5_restarts 15 = .ok (.if_icmp .lt 5, 3) := dk_161 0 5 (dk_at dksX5_restarts_0 15 rfl rfl)
theorem dX5_restarts_18 : decode cX5_restarts 18 = .ok (.iconst 0, 1) := dk_3 (dk_at dksX5_restarts_0 18 rfl rfl)
theorem dX5_restarts_19 : decode cX5_restarts 19 = .ok (.ireturn, 1) := dk_172 (dk_at dksX5_restarts_0 19 rfl rfl)
theorem dX5_restarts_20 : decode cX5_restarts 20 = .ok (.aload_n 0, 1) := dk_42 (dk_at dksX5_restarts_0 20 rfl rfl)
theorem dX5_restarts_21 : decode cX5_restarts 21 = .ok (.getfield 7, 3) := dk_180 0 7 (dk_at dksX5_restarts_0 21 rfl rfl)
theorem dX5_restarts_24 : decode cX5_restarts 24 = .ok (.bipush 8, 2) := dk_16 8 (dk_at dksX5_restarts_1 0 rfl rfl)
theorem dX5_restarts_26 : decode cX5_restarts 26 = .ok (.iaload, 1) := dk_46 (dk_at dksX5_restarts_1 2 rfl rfl)
theorem dX5_restarts_27 : decode cX5_restarts 27 = .ok (.aload_n 0, 1) := dk_42 (dk_at dksX5_restarts_1 3 rfl rfl)
theorem dX5_restarts_28 : decode cX5_restarts 28 = .ok (.getfield 7, 3) := dk_180 0 7 (dk_at dksX5_restarts_1 4 rfl rfl)
theorem dX5_restarts_31 : decode cX5_restarts 31 = .ok (.iconst 1, 1) := dk_4 (dk_at dksX5_restarts_1 7 rfl rfl)
theorem dX5_restarts_32 : decode cX5_restarts 32 = .ok (.iaload, 1) := dk_46 (dk_at dksX5_restarts_1 8 rfl rfl)
theorem dX5_restarts_33 : decode cX5_restarts 33 = .ok (.if_icmp .ge 60, 3) := dk_162 0 60 (dk_at dksX5_restarts_1 9 rfl rfl)
theorem dX5_restarts_36 : decode cX5_restarts 36 = .ok (.aload_n 0, 1) := dk_42 (dk_at dksX5_restarts_1 12 rfl rfl)
theorem dX5_restarts_37 : decode cX5_restarts 37 = .ok (.aload_n 0, 1) := dk_42 (dk_at dksX5_restarts_1 13 rfl rfl)
theorem dX5_restarts_38 : decode cX5_restarts 38 = .ok (.getfield 7, 3) := dk_180 0 7 (dk_at dksX5_restarts_1 14 rfl rfl)
theorem dX5_restarts_41 : decode cX5_restarts 41 = .ok (.bipush 8, 2) := dk_16 8 (dk_at dksX5_restarts_1 17 rfl rfl)
theorem dX5_restarts_43 : decode cX5_restarts 43 = .ok (.iaload, 1) := dk_46 (dk_at dksX5_restarts_1 19 rfl rfl)
theorem dX5_restarts_44 : decode cX5_restarts 44 = .ok (.aload_n 0, 1) := dk_42 (dk_at dksX5_restarts_1 20 rfl rfl)
theorem dX5_restarts_45 : decode cX5_restarts 45 = .ok (.getfield 33, 3) := dk_180 0 33 (dk_at dksX5_restarts_1 21 rfl rfl)
theorem dX5_restarts_48 : decode cX5_restarts 48 = .ok (.invokevirtual 234, 3) := dk_182 0 234 (dk_at dksX5_restarts_2 0 rfl rfl)
theorem dX5_restarts_51 : decode cX5_restarts 51 = .ok (.aload_n 0, 1) := dk_42 (dk_at dksX5_restarts_2 3 rfl rfl)
theorem dX5_restarts_52 : decode cX5_restarts 52 = .ok (.aload_n 0, 1) := dk_42 (dk_at dksX5_restarts_2 4 rfl rfl)
theorem dX5_restarts_53 : decode cX5_restarts 53 = .ok (.getfield 33, 3) := dk_180 0 33 (dk_at dksX5_restarts_2 5 rfl rfl)
theorem dX5_restarts_56 : decode cX5_restarts 56 = .ok (.invokevirtual 227, 3) := dk_182 0 227 (dk_at dksX5_restarts_2 8 rfl rfl)
theorem dX5_restarts_59 : decode cX5_restarts 59 = .ok (.aload_n 0, 1) := dk_42 (dk_at dksX5_restarts_2 11 rfl rfl)
theorem dX5_restarts_60 : decode cX5_restarts 60 = .ok (.getfield 7, 3) := dk_180 0 7 (dk_at dksX5_restarts_2 12 rfl rfl)
theorem dX5_restarts_63 : decode cX5_restarts 63 = .ok (.bipush 8, 2) := dk_16 8 (dk_at dksX5_restarts_2 15 rfl rfl)
theorem dX5_restarts_65 : decode cX5_restarts 65 = .ok (.dup2, 1) := dk_92 (dk_at dksX5_restarts_2 17 rfl rfl)
theorem dX5_restarts_66 : decode cX5_restarts 66 = .ok (.iaload, 1) := dk_46 (dk_at dksX5_restarts_2 18 rfl rfl)
theorem dX5_restarts_67 : decode cX5_restarts 67 = .ok (.iconst 1, 1) := dk_4 (dk_at dksX5_restarts_2 19 rfl rfl)
theorem dX5_restarts_68 : decode cX5_restarts 68 = .ok (.iadd, 1) := dk_96 (dk_at dksX5_restarts_2 20 rfl rfl)
theorem dX5_restarts_69 : decode cX5_restarts 69 = .ok (.iastore, 1) := dk_79 (dk_at dksX5_restarts_2 21 rfl rfl)
theorem dX5_restarts_70 : decode cX5_restarts 70 = .ok (.aload_n 0, 1) := dk_42 (dk_at dksX5_restarts_2 22 rfl rfl)
theorem dX5_restarts_71 : decode cX5_restarts 71 = .ok (.invokevirtual 237, 3) := dk_182 0 237 (dk_at dksX5_restarts_3 0 rfl rfl)
theorem dX5_restarts_74 : decode cX5_restarts 74 = .ok (.ifCond .ne 6, 3) := dk_154 0 6 (dk_at dksX5_restarts_3 3 rfl rfl)
theorem dX5_restarts_77 : decode cX5_restarts 77 = .ok (.goto (-57), 3) := dk_167 255 199 (dk_at dksX5_restarts_3 6 rfl rfl)
theorem dX5_restarts_80 : decode cX5_restarts 80 = .ok (.aload_n 0, 1) := dk_42 (dk_at dksX5_restarts_3 9 rfl rfl)
theorem dX5_restarts_81 : decode cX5_restarts 81 = .ok (.getfield 7, 3) := dk_180 0 7 (dk_at dksX5_restarts_3 10 rfl rfl)
theorem dX5_restarts_84 : decode cX5_restarts 84 = .ok (.bipush 6, 2) := dk_16 6 (dk_at dksX5_restarts_3 13 rfl rfl)
theorem dX5_restarts_86 : decode cX5_restarts 86 = .ok (.dup2, 1) := dk_92 (dk_at dksX5_restarts_3 15 rfl rfl)
theorem dX5_restarts_87 : decode cX5_restarts 87 = .ok (.iaload, 1) := dk_46 (dk_at dksX5_restarts_3 16 rfl rfl)
theorem dX5_restarts_88 : decode cX5_restarts 88 = .ok (.iconst 1, 1) := dk_4 (dk_at dksX5_restarts_3 17 rfl rfl)
theorem dX5_restarts_89 : decode cX5_restarts 89 = .ok (.iadd, 1) := dk_96 (dk_at dksX5_restarts_3 18 rfl rfl)
theorem dX5_restarts_90 : decode cX5_restarts 90 = .ok (.iastore, 1) := dk_79 (dk_at dksX5_restarts_3 19 rfl rfl)
theorem dX5_restarts_91 : decode cX5_restarts 91 = .ok (.iconst 1, 1) := dk_4 (dk_at dksX5_restarts_3 20 rfl rfl)
theorem dX5_restarts_92 : decode cX5_restarts 92 = .ok (.ireturn, 1) := dk_172 (dk_at dksX5_restarts_3 21 rfl rfl)
theorem dX5_restarts_93 : decode cX5_restarts 93 = .ok (.iconst 0, 1) := dk_3 (dk_at dksX5_restarts_3 22 rfl rfl)
theorem dX5_restarts_94 : decode cX5_restarts 94 = .ok (.ireturn, 1) := dk_172 (dk_at dksX5_restarts_3 23 rfl rfl)
abbrev cX5_laysUnit : ByteArray := prog_12_method_51_code
def yX5_laysUnit : MethodName := ⟨RX5, "laysUnit", "(I[I)V"⟩
def dkwX5_laysUnit_1 : List UInt8 := [79, 132, 3, 1, 167, 255, 230, 177]
abbrev dktX5_laysUnit_1 : List UInt8 := dkwX5_laysUnit_1 ++ []
def dkwX5_laysUnit_0 : List UInt8 := [3, 62, 29, 42, 180, 0, 7, 4, 46, 162, 0, 22, 44, 29, 29, 27, 160, 0, 7, 4, 167, 0, 4, 3]
abbrev dktX5_laysUnit_0 : List UInt8 := dkwX5_laysUnit_0 ++ dktX5_laysUnit_1
theorem dksX5_laysUnit_0 : cX5_laysUnit.data.toList.drop 0 = dktX5_laysUnit_0 := by decide +kernel
theorem dksX5_laysUnit_1 : cX5_laysUnit.data.toList.drop 24 = dktX5_laysUnit_1 := dk_seg dksX5_laysUnit_0 24 rfl rfl
theorem dX5_laysUnit_0 : decode cX5_laysUnit 0 = .ok (.iconst 0, 1) := dk_3 (dk_at dksX5_laysUnit_0 0 rfl rfl)
theorem dX5_laysUnit_1 : decode cX5_laysUnit 1 = .ok (.istore_n 3, 1) := dk_62 (dk_at dksX5_laysUnit_0 1 rfl rfl)
theorem dX5_laysUnit_2 : decode cX5_laysUnit 2 = .ok (.iload_n 3, 1) := dk_29 (dk_at dksX5_laysUnit_0 2 rfl rfl)
theorem dX5_laysUnit_3 : decode cX5_laysUnit 3 = .ok (.aload_n 0, 1) := dk_42 (dk_at dksX5_laysUnit_0 3 rfl rfl)
theorem dX5_laysUnit_4 : decode cX5_laysUnit 4 = .ok (.getfield 7, 3) := dk_180 0 7 (dk_at dksX5_laysUnit_0 4 rfl rfl)
theorem dX5_laysUnit_7 : decode cX5_laysUnit 7 = .ok (.iconst 1, 1) := dk_4 (dk_at dksX5_laysUnit_0 7 rfl rfl)
theorem dX5_laysUnit_8 : decode cX5_laysUnit 8 = .ok (.iaload, 1) := dk_46 (dk_at dksX5_laysUnit_0 8 rfl rfl)
theorem dX5_laysUnit_9 : decode cX5_laysUnit 9 = .ok (.if_icmp .ge 22, 3) := dk_162 0 22 (dk_at dksX5_laysUnit_0 9 rfl rfl)
theorem dX5_laysUnit_12 : decode cX5_laysUnit 12 = .ok (.aload_n 2, 1) := dk_44 (dk_at dksX5_laysUnit_0 12 rfl rfl)
theorem dX5_laysUnit_13 : decode cX5_laysUnit 13 = .ok (.iload_n 3, 1) := dk_29 (dk_at dksX5_laysUnit_0 13 rfl rfl)
theorem dX5_laysUnit_14 : decode cX5_laysUnit 14 = .ok (.iload_n 3, 1) := dk_29 (dk_at dksX5_laysUnit_0 14 rfl rfl)
theorem dX5_laysUnit_15 : decode cX5_laysUnit 15 = .ok (.iload_n 1, 1) := dk_27 (dk_at dksX5_laysUnit_0 15 rfl rfl)
theorem dX5_laysUnit_16 : decode cX5_laysUnit 16 = .ok (.if_icmp .ne 7, 3) := dk_160 0 7 (dk_at dksX5_laysUnit_0 16 rfl rfl)
theorem dX5_laysUnit_19 : decode cX5_laysUnit 19 = .ok (.iconst 1, 1) := dk_4 (dk_at dksX5_laysUnit_0 19 rfl rfl)
theorem dX5_laysUnit_20 : decode cX5_laysUnit 20 = .ok (.goto 4, 3) := dk_167 0 4 (dk_at dksX5_laysUnit_0 20 rfl rfl)
theorem dX5_laysUnit_23 : decode cX5_laysUnit 23 = .ok (.iconst 0, 1) := dk_3 (dk_at dksX5_laysUnit_0 23 rfl rfl)
theorem dX5_laysUnit_24 : decode cX5_laysUnit 24 = .ok (.iastore, 1) := dk_79 (dk_at dksX5_laysUnit_1 0 rfl rfl)
theorem dX5_laysUnit_25 : decode cX5_laysUnit 25 = .ok (.iinc 3 1, 3) := dk_132 3 1 (dk_at dksX5_laysUnit_1 1 rfl rfl)
theorem dX5_laysUnit_28 : decode cX5_laysUnit 28 = .ok (.goto (-26), 3) := dk_167 255 230 (dk_at dksX5_laysUnit_1 4 rfl rfl)
theorem dX5_laysUnit_31 : decode cX5_laysUnit 31 = .ok (.return_, 1) := dk_177 (dk_at dksX5_laysUnit_1 7 rfl rfl)
abbrev cX5_ownProduct : ByteArray := prog_12_method_53_code
def yX5_ownProduct : MethodName := ⟨RX5, "ownProduct", "()I"⟩
def dkwX5_ownProduct_1 : List UInt8 := [180, 0, 39, 28, 46, 104, 96, 60, 132, 2, 1, 167, 255, 227, 42, 27, 182, 0, 199, 172]
abbrev dktX5_ownProduct_1 : List UInt8 := dkwX5_ownProduct_1 ++ []
def dkwX5_ownProduct_0 : List UInt8 := [3, 60, 3, 61, 28, 42, 180, 0, 7, 4, 46, 162, 0, 25, 27, 42, 180, 0, 39, 28, 46, 42]
abbrev dktX5_ownProduct_0 : List UInt8 := dkwX5_ownProduct_0 ++ dktX5_ownProduct_1
theorem dksX5_ownProduct_0 : cX5_ownProduct.data.toList.drop 0 = dktX5_ownProduct_0 := by decide +kernel
theorem dksX5_ownProduct_1 : cX5_ownProduct.data.toList.drop 22 = dktX5_ownProduct_1 := dk_seg dksX5_ownProduct_0 22 rfl rfl
theorem dX5_ownProduct_0 : decode cX5_ownProduct 0 = .ok (.iconst 0, 1) := dk_3 (dk_at dksX5_ownProduct_0 0 rfl rfl)
theorem dX5_ownProduct_1 : decode cX5_ownProduct 1 = .ok (.istore_n 1, 1) := dk_60 (dk_at dksX5_ownProduct_0 1 rfl rfl)
theorem dX5_ownProduct_2 : decode cX5_ownProduct 2 = .ok (.iconst 0, 1) := dk_3 (dk_at dksX5_ownProduct_0 2 rfl rfl)
theorem dX5_ownProduct_3 : decode cX5_ownProduct 3 = .ok (.istore_n 2, 1) := dk_61 (dk_at dksX5_ownProduct_0 3 rfl rfl)
theorem dX5_ownProduct_4 : decode cX5_ownProduct 4 = .ok (.iload_n 2, 1) := dk_28 (dk_at dksX5_ownProduct_0 4 rfl rfl)
theorem dX5_ownProduct_5 : decode cX5_ownProduct 5 = .ok (.aload_n 0, 1) := dk_42 (dk_at dksX5_ownProduct_0 5 rfl rfl)
theorem dX5_ownProduct_6 : decode cX5_ownProduct 6 = .ok (.getfield 7, 3) := dk_180 0 7 (dk_at dksX5_ownProduct_0 6 rfl rfl)
theorem dX5_ownProduct_9 : decode cX5_ownProduct 9 = .ok (.iconst 1, 1) := dk_4 (dk_at dksX5_ownProduct_0 9 rfl rfl)
theorem dX5_ownProduct_10 : decode cX5_ownProduct 10 = .ok (.iaload, 1) := dk_46 (dk_at dksX5_ownProduct_0 10 rfl rfl)
theorem dX5_ownProduct_11 : decode cX5_ownProduct 11 = .ok (.if_icmp .ge 25, 3) := dk_162 0 25 (dk_at dksX5_ownProduct_0 11 rfl rfl)
theorem dX5_ownProduct_14 : decode cX5_ownProduct 14 = .ok (.iload_n 1, 1) := dk_27 (dk_at dksX5_ownProduct_0 14 rfl rfl)
theorem dX5_ownProduct_15 : decode cX5_ownProduct 15 = .ok (.aload_n 0, 1) := dk_42 (dk_at dksX5_ownProduct_0 15 rfl rfl)
theorem dX5_ownProduct_16 : decode cX5_ownProduct 16 = .ok (.getfield 39, 3) := dk_180 0 39 (dk_at dksX5_ownProduct_0 16 rfl rfl)
theorem dX5_ownProduct_19 : decode cX5_ownProduct 19 = .ok (.iload_n 2, 1) := dk_28 (dk_at dksX5_ownProduct_0 19 rfl rfl)
theorem dX5_ownProduct_20 : decode cX5_ownProduct 20 = .ok (.iaload, 1) := dk_46 (dk_at dksX5_ownProduct_0 20 rfl rfl)
theorem dX5_ownProduct_21 : decode cX5_ownProduct 21 = .ok (.aload_n 0, 1) := dk_42 (dk_at dksX5_ownProduct_0 21 rfl rfl)
theorem dX5_ownProduct_22 : decode cX5_ownProduct 22 = .ok (.getfield 39, 3) := dk_180 0 39 (dk_at dksX5_ownProduct_1 0 rfl rfl)
theorem dX5_ownProduct_25 : decode cX5_ownProduct 25 = .ok (.iload_n 2, 1) := dk_28 (dk_at dksX5_ownProduct_1 3 rfl rfl)
theorem dX5_ownProduct_26 : decode cX5_ownProduct 26 = .ok (.iaload, 1) := dk_46 (dk_at dksX5_ownProduct_1 4 rfl rfl)
theorem dX5_ownProduct_27 : decode cX5_ownProduct 27 = .ok (.imul, 1) := dk_104 (dk_at dksX5_ownProduct_1 5 rfl rfl)
theorem dX5_ownProduct_28 : decode cX5_ownProduct 28 = .ok (.iadd, 1) := dk_96 (dk_at dksX5_ownProduct_1 6 rfl rfl)
theorem dX5_ownProduct_29 : decode cX5_ownProduct 29 = .ok (.istore_n 1, 1) := dk_60 (dk_at dksX5_ownProduct_1 7 rfl rfl)
theorem dX5_ownProduct_30 : decode cX5_ownProduct 30 = .ok (.iinc 2 1, 3) := dk_132 2 1 (dk_at dksX5_ownProduct_1 8 rfl rfl)
theorem dX5_ownProduct_33 : decode cX5_ownProduct 33 = .ok (.goto (-29), 3) := dk_167 255 227 (dk_at dksX5_ownProduct_1 11 rfl rfl)
theorem dX5_ownProduct_36 : decode cX5_ownProduct 36 = .ok (.aload_n 0, 1) := dk_42 (dk_at dksX5_ownProduct_1 14 rfl rfl)
theorem dX5_ownProduct_37 : decode cX5_ownProduct 37 = .ok (.iload_n 1, 1) := dk_27 (dk_at dksX5_ownProduct_1 15 rfl rfl)
theorem dX5_ownProduct_38 : decode cX5_ownProduct 38 = .ok (.invokevirtual 199, 3) := dk_182 0 199 (dk_at dksX5_ownProduct_1 16 rfl rfl)
theorem dX5_ownProduct_41 : decode cX5_ownProduct 41 = .ok (.ireturn, 1) := dk_172 (dk_at dksX5_ownProduct_1 19 rfl rfl)
abbrev cX5_judges : ByteArray := prog_12_method_59_code
def yX5_judges : MethodName := ⟨RX5, "judges", "()I"⟩
def dkwX5_judges_5 : List UInt8 := [180, 0, 7, 4, 46, 160, 0, 7, 7, 167, 0, 4, 3, 79, 42, 180, 0, 7, 16, 7, 46, 172]
abbrev dktX5_judges_5 : List UInt8 := dkwX5_judges_5 ++ []
def dkwX5_judges_4 : List UInt8 := [180, 0, 7, 8, 92, 46, 4, 96, 79, 42, 180, 0, 7, 16, 7, 42, 180, 0, 7, 8, 46, 42]
abbrev dktX5_judges_4 : List UInt8 := dkwX5_judges_4 ++ dktX5_judges_5
def dkwX5_judges_3 : List UInt8 := [180, 0, 7, 16, 81, 42, 180, 0, 7, 8, 46, 96, 42, 180, 0, 7, 16, 6, 46, 4, 100, 79, 42]
abbrev dktX5_judges_3 : List UInt8 := dkwX5_judges_3 ++ dktX5_judges_4
def dkwX5_judges_2 : List UInt8 := [42, 180, 0, 7, 8, 46, 104, 96, 27, 96, 42, 180, 0, 39, 27, 46, 79, 132, 1, 1, 167, 255, 218, 42]
abbrev dktX5_judges_2 : List UInt8 := dkwX5_judges_2 ++ dktX5_judges_3
def dkwX5_judges_1 : List UInt8 := [182, 0, 244, 172, 3, 60, 27, 42, 180, 0, 7, 4, 46, 162, 0, 34, 42, 180, 0, 7, 16, 98, 16, 8]
abbrev dktX5_judges_1 : List UInt8 := dkwX5_judges_1 ++ dktX5_judges_2
def dkwX5_judges_0 : List UInt8 := [42, 182, 0, 240, 153, 0, 9, 42, 4, 182, 0, 244, 172, 42, 182, 0, 237, 154, 0, 9, 42, 5]
abbrev dktX5_judges_0 : List UInt8 := dkwX5_judges_0 ++ dktX5_judges_1
theorem dksX5_judges_0 : cX5_judges.data.toList.drop 0 = dktX5_judges_0 := by decide +kernel
theorem dksX5_judges_1 : cX5_judges.data.toList.drop 22 = dktX5_judges_1 := dk_seg dksX5_judges_0 22 rfl rfl
theorem dksX5_judges_2 : cX5_judges.data.toList.drop 46 = dktX5_judges_2 := dk_seg dksX5_judges_1 24 rfl rfl
theorem dksX5_judges_3 : cX5_judges.data.toList.drop 70 = dktX5_judges_3 := dk_seg dksX5_judges_2 24 rfl rfl
theorem dksX5_judges_4 : cX5_judges.data.toList.drop 93 = dktX5_judges_4 := dk_seg dksX5_judges_3 23 rfl rfl
theorem dksX5_judges_5 : cX5_judges.data.toList.drop 115 = dktX5_judges_5 := dk_seg dksX5_judges_4 22 rfl rfl
theorem dX5_judges_0 : decode cX5_judges 0 = .ok (.aload_n 0, 1) := dk_42 (dk_at dksX5_judges_0 0 rfl rfl)
theorem dX5_judges_1 : decode cX5_judges 1 = .ok (.invokevirtual 240, 3) := dk_182 0 240 (dk_at dksX5_judges_0 1 rfl rfl)
theorem dX5_judges_4 : decode cX5_judges 4 = .ok (.ifCond .eq 9, 3) := dk_153 0 9 (dk_at dksX5_judges_0 4 rfl rfl)
theorem dX5_judges_7 : decode cX5_judges 7 = .ok (.aload_n 0, 1) := dk_42 (dk_at dksX5_judges_0 7 rfl rfl)
theorem dX5_judges_8 : decode cX5_judges 8 = .ok (.iconst 1, 1) := dk_4 (dk_at dksX5_judges_0 8 rfl rfl)
theorem dX5_judges_9 : decode cX5_judges 9 = .ok (.invokevirtual 244, 3) := dk_182 0 244 (dk_at dksX5_judges_0 9 rfl rfl)
theorem dX5_judges_12 : decode cX5_judges 12 = .ok (.ireturn, 1) := dk_172 (dk_at dksX5_judges_0 12 rfl rfl)
theorem dX5_judges_13 : decode cX5_judges 13 = .ok (.aload_n 0, 1) := dk_42 (dk_at dksX5_judges_0 13 rfl rfl)
theorem dX5_judges_14 : decode cX5_judges 14 = .ok (.invokevirtual 237, 3) := dk_182 0 237 (dk_at dksX5_judges_0 14 rfl rfl)
theorem dX5_judges_17 : decode cX5_judges 17 = .ok (.ifCond .ne 9, 3) := dk_154 0 9 (dk_at dksX5_judges_0 17 rfl rfl)
theorem dX5_judges_20 : decode cX5_judges 20 = .ok (.aload_n 0, 1) := dk_42 (dk_at dksX5_judges_0 20 rfl rfl)
theorem dX5_judges_21 : decode cX5_judges 21 = .ok (.iconst 2, 1) := dk_5 (dk_at dksX5_judges_0 21 rfl rfl)
theorem dX5_judges_22 : decode cX5_judges 22 = .ok (.invokevirtual 244, 3) := dk_182 0 244 (dk_at dksX5_judges_1 0 rfl rfl)
theorem dX5_judges_25 : decode cX5_judges 25 = .ok (.ireturn, 1) := dk_172 (dk_at dksX5_judges_1 3 rfl rfl)
theorem dX5_judges_26 : decode cX5_judges 26 = .ok (.iconst 0, 1) := dk_3 (dk_at dksX5_judges_1 4 rfl rfl)
theorem dX5_judges_27 : decode cX5_judges 27 = .ok (.istore_n 1, 1) := dk_60 (dk_at dksX5_judges_1 5 rfl rfl)
theorem dX5_judges_28 : decode cX5_judges 28 = .ok (.iload_n 1, 1) := dk_27 (dk_at dksX5_judges_1 6 rfl rfl)
theorem dX5_judges_29 : decode cX5_judges 29 = .ok (.aload_n 0, 1) := dk_42 (dk_at dksX5_judges_1 7 rfl rfl)
theorem dX5_judges_30 : decode cX5_judges 30 = .ok (.getfield 7, 3) := dk_180 0 7 (dk_at dksX5_judges_1 8 rfl rfl)
theorem dX5_judges_33 : decode cX5_judges 33 = .ok (.iconst 1, 1) := dk_4 (dk_at dksX5_judges_1 11 rfl rfl)
theorem dX5_judges_34 : decode cX5_judges 34 = .ok (.iaload, 1) := dk_46 (dk_at dksX5_judges_1 12 rfl rfl)
theorem dX5_judges_35 : decode cX5_judges 35 = .ok (.if_icmp .ge 34, 3) := dk_162 0 34 (dk_at dksX5_judges_1 13 rfl rfl)
theorem dX5_judges_38 : decode cX5_judges 38 = .ok (.aload_n 0, 1) := dk_42 (dk_at dksX5_judges_1 16 rfl rfl)
theorem dX5_judges_39 : decode cX5_judges 39 = .ok (.getfield 7, 3) := dk_180 0 7 (dk_at dksX5_judges_1 17 rfl rfl)
theorem dX5_judges_42 : decode cX5_judges 42 = .ok (.bipush 98, 2) := dk_16 98 (dk_at dksX5_judges_1 20 rfl rfl)
theorem dX5_judges_44 : decode cX5_judges 44 = .ok (.bipush 8, 2) := dk_16 8 (dk_at dksX5_judges_1 22 rfl rfl)
theorem dX5_judges_46 : decode cX5_judges 46 = .ok (.aload_n 0, 1) := dk_42 (dk_at dksX5_judges_2 0 rfl rfl)
theorem dX5_judges_47 : decode cX5_judges 47 = .ok (.getfield 7, 3) := dk_180 0 7 (dk_at dksX5_judges_2 1 rfl rfl)
theorem dX5_judges_50 : decode cX5_judges 50 = .ok (.iconst 5, 1) := dk_8 (dk_at dksX5_judges_2 4 rfl rfl)
theorem dX5_judges_51 : decode cX5_judges 51 = .ok (.iaload, 1) := dk_46 (dk_at dksX5_judges_2 5 rfl rfl)
theorem dX5_judges_52 : decode cX5_judges 52 = .ok (.imul, 1) := dk_104 (dk_at dksX5_judges_2 6 rfl rfl)
theorem dX5_judges_53 : decode cX5_judges 53 = .ok (.iadd, 1) := dk_96 (dk_at dksX5_judges_2 7 rfl rfl)
theorem dX5_judges_54 : decode cX5_judges 54 = .ok (.iload_n 1, 1) := dk_27 (dk_at dksX5_judges_2 8 rfl rfl)
theorem dX5_judges_55 : decode cX5_judges 55 = .ok (.iadd, 1) := dk_96 (dk_at dksX5_judges_2 9 rfl rfl)
theorem dX5_judges_56 : decode cX5_judges 56 = .ok (.aload_n 0, 1) := dk_42 (dk_at dksX5_judges_2 10 rfl rfl)
theorem dX5_judges_57 : decode cX5_judges 57 = .ok (.getfield 39, 3) := dk_180 0 39 (dk_at dksX5_judges_2 11 rfl rfl)
theorem dX5_judges_60 : decode cX5_judges 60 = .ok (.iload_n 1, 1) := dk_27 (dk_at dksX5_judges_2 14 rfl rfl)
theorem dX5_judges_61 : decode cX5_judges 61 = .ok (.iaload, 1) := dk_46 (dk_at dksX5_judges_2 15 rfl rfl)
theorem dX5_judges_62 : decode cX5_judges 62 = .ok (.iastore, 1) := dk_79 (dk_at dksX5_judges_2 16 rfl rfl)
theorem dX5_judges_63 : decode cX5_judges 63 = .ok (.iinc 1 1, 3) := dk_132 1 1 (dk_at dksX5_judges_2 17 rfl rfl)
theorem dX5_judges_66 : decode cX5_judges 66 = .ok (.goto (-38), 3) := dk_167 255 218 (dk_at dksX5_judges_2 20 rfl rfl)
theorem dX5_judges_69 : decode cX5_judges 69 = .ok (.aload_n 0, 1) := dk_42 (dk_at dksX5_judges_2 23 rfl rfl)
theorem dX5_judges_70 : decode cX5_judges 70 = .ok (.getfield 7, 3) := dk_180 0 7 (dk_at dksX5_judges_3 0 rfl rfl)
theorem dX5_judges_73 : decode cX5_judges 73 = .ok (.bipush 81, 2) := dk_16 81 (dk_at dksX5_judges_3 3 rfl rfl)
theorem dX5_judges_75 : decode cX5_judges 75 = .ok (.aload_n 0, 1) := dk_42 (dk_at dksX5_judges_3 5 rfl rfl)
theorem dX5_judges_76 : decode cX5_judges 76 = .ok (.getfield 7, 3) := dk_180 0 7 (dk_at dksX5_judges_3 6 rfl rfl)
theorem dX5_judges_79 : decode cX5_judges 79 = .ok (.iconst 5, 1) := dk_8 (dk_at dksX5_judges_3 9 rfl rfl)
theorem dX5_judges_80 : decode cX5_judges 80 = .ok (.iaload, 1) := dk_46 (dk_at dksX5_judges_3 10 rfl rfl)
theorem dX5_judges_81 : decode cX5_judges 81 = .ok (.iadd, 1) := dk_96 (dk_at dksX5_judges_3 11 rfl rfl)
theorem dX5_judges_82 : decode cX5_judges 82 = .ok (.aload_n 0, 1) := dk_42 (dk_at dksX5_judges_3 12 rfl rfl)
theorem dX5_judges_83 : decode cX5_judges 83 = .ok (.getfield 7, 3) := dk_180 0 7 (dk_at dksX5_judges_3 13 rfl rfl)
theorem dX5_judges_86 : decode cX5_judges 86 = .ok (.bipush 6, 2) := dk_16 6 (dk_at dksX5_judges_3 16 rfl rfl)
theorem dX5_judges_88 : decode cX5_judges 88 = .ok (.iaload, 1) := dk_46 (dk_at dksX5_judges_3 18 rfl rfl)
theorem dX5_judges_89 : decode cX5_judges 89 = .ok (.iconst 1, 1) := dk_4 (dk_at dksX5_judges_3 19 rfl rfl)
theorem dX5_judges_90 : decode cX5_judges 90 = .ok (.isub, 1) := dk_100 (dk_at dksX5_judges_3 20 rfl rfl)
theorem dX5_judges_91 : decode cX5_judges 91 = .ok (.iastore, 1) := dk_79 (dk_at dksX5_judges_3 21 rfl rfl)
theorem dX5_judges_92 : decode cX5_judges 92 = .ok (.aload_n 0, 1) := dk_42 (dk_at dksX5_judges_3 22 rfl rfl)
theorem dX5_judges_93 : decode cX5_judges 93 = .ok (.getfield 7, 3) := dk_180 0 7 (dk_at dksX5_judges_4 0 rfl rfl)
theorem dX5_judges_96 : decode cX5_judges 96 = .ok (.iconst 5, 1) := dk_8 (dk_at dksX5_judges_4 3 rfl rfl)
theorem dX5_judges_97 : decode cX5_judges 97 = .ok (.dup2, 1) := dk_92 (dk_at dksX5_judges_4 4 rfl rfl)
theorem dX5_judges_98 : decode cX5_judges 98 = .ok (.iaload, 1) := dk_46 (dk_at dksX5_judges_4 5 rfl rfl)
theorem dX5_judges_99 : decode cX5_judges 99 = .ok (.iconst 1, 1) := dk_4 (dk_at dksX5_judges_4 6 rfl rfl)
theorem dX5_judges_100 : decode cX5_judges 100 = .ok (.iadd, 1) := dk_96 (dk_at dksX5_judges_4 7 rfl rfl)
theorem dX5_judges_101 : decode cX5_judges 101 = .ok (.iastore, 1) := dk_79 (dk_at dksX5_judges_4 8 rfl rfl)
theorem dX5_judges_102 : decode cX5_judges 102 = .ok (.aload_n 0, 1) := dk_42 (dk_at dksX5_judges_4 9 rfl rfl)
theorem dX5_judges_103 : decode cX5_judges 103 = .ok (.getfield 7, 3) := dk_180 0 7 (dk_at dksX5_judges_4 10 rfl rfl)
theorem dX5_judges_106 : decode cX5_judges 106 = .ok (.bipush 7, 2) := dk_16 7 (dk_at dksX5_judges_4 13 rfl rfl)
theorem dX5_judges_108 : decode cX5_judges 108 = .ok (.aload_n 0, 1) := dk_42 (dk_at dksX5_judges_4 15 rfl rfl)
theorem dX5_judges_109 : decode cX5_judges 109 = .ok (.getfield 7, 3) := dk_180 0 7 (dk_at dksX5_judges_4 16 rfl rfl)
theorem dX5_judges_112 : decode cX5_judges 112 = .ok (.iconst 5, 1) := dk_8 (dk_at dksX5_judges_4 19 rfl rfl)
theorem dX5_judges_113 : decode cX5_judges 113 = .ok (.iaload, 1) := dk_46 (dk_at dksX5_judges_4 20 rfl rfl)
theorem dX5_judges_114 : decode cX5_judges 114 = .ok (.aload_n 0, 1) := dk_42 (dk_at dksX5_judges_4 21 rfl rfl)
theorem dX5_judges_115 : decode cX5_judges 115 = .ok (.getfield 7, 3) := dk_180 0 7 (dk_at dksX5_judges_5 0 rfl rfl)
theorem dX5_judges_118 : decode cX5_judges 118 = .ok (.iconst 1, 1) := dk_4 (dk_at dksX5_judges_5 3 rfl rfl)
theorem dX5_judges_119 : decode cX5_judges 119 = .ok (.iaload, 1) := dk_46 (dk_at dksX5_judges_5 4 rfl rfl)
theorem dX5_judges_120 : decode cX5_judges 120 = .ok (.if_icmp .ne 7, 3) := dk_160 0 7 (dk_at dksX5_judges_5 5 rfl rfl)
theorem dX5_judges_123 : decode cX5_judges 123 = .ok (.iconst 4, 1) := dk_7 (dk_at dksX5_judges_5 8 rfl rfl)
theorem dX5_judges_124 : decode cX5_judges 124 = .ok (.goto 4, 3) := dk_167 0 4 (dk_at dksX5_judges_5 9 rfl rfl)
theorem dX5_judges_127 : decode cX5_judges 127 = .ok (.iconst 0, 1) := dk_3 (dk_at dksX5_judges_5 12 rfl rfl)
theorem dX5_judges_128 : decode cX5_judges 128 = .ok (.iastore, 1) := dk_79 (dk_at dksX5_judges_5 13 rfl rfl)
theorem dX5_judges_129 : decode cX5_judges 129 = .ok (.aload_n 0, 1) := dk_42 (dk_at dksX5_judges_5 14 rfl rfl)
theorem dX5_judges_130 : decode cX5_judges 130 = .ok (.getfield 7, 3) := dk_180 0 7 (dk_at dksX5_judges_5 15 rfl rfl)
theorem dX5_judges_133 : decode cX5_judges 133 = .ok (.bipush 7, 2) := dk_16 7 (dk_at dksX5_judges_5 18 rfl rfl)
theorem dX5_judges_135 : decode cX5_judges 135 = .ok (.iaload, 1) := dk_46 (dk_at dksX5_judges_5 20 rfl rfl)
theorem dX5_judges_136 : decode cX5_judges 136 = .ok (.ireturn, 1) := dk_172 (dk_at dksX5_judges_5 21 rfl rfl)
abbrev cX5_isZero : ByteArray := prog_12_method_52_code
def yX5_isZero : MethodName := ⟨RX5, "isZero", "()Z"⟩
def dkwX5_isZero_1 : List UInt8 := [154, 0, 7, 4, 167, 0, 4, 3, 60, 132, 2, 1, 167, 255, 224, 27, 172]
abbrev dktX5_isZero_1 : List UInt8 := dkwX5_isZero_1 ++ []
def dkwX5_isZero_0 : List UInt8 := [4, 60, 3, 61, 28, 42, 180, 0, 7, 4, 46, 162, 0, 28, 27, 153, 0, 16, 42, 180, 0, 39, 28, 46]
abbrev dktX5_isZero_0 : List UInt8 := dkwX5_isZero_0 ++ dktX5_isZero_1
theorem dksX5_isZero_0 : cX5_isZero.data.toList.drop 0 = dktX5_isZero_0 := by decide +kernel
theorem dksX5_isZero_1 : cX5_isZero.data.toList.drop 24 = dktX5_isZero_1 := dk_seg dksX5_isZero_0 24 rfl rfl
theorem dX5_isZero_0 : decode cX5_isZero 0 = .ok (.iconst 1, 1) := dk_4 (dk_at dksX5_isZero_0 0 rfl rfl)
theorem dX5_isZero_1 : decode cX5_isZero 1 = .ok (.istore_n 1, 1) := dk_60 (dk_at dksX5_isZero_0 1 rfl rfl)
theorem dX5_isZero_2 : decode cX5_isZero 2 = .ok (.iconst 0, 1) := dk_3 (dk_at dksX5_isZero_0 2 rfl rfl)
theorem dX5_isZero_3 : decode cX5_isZero 3 = .ok (.istore_n 2, 1) := dk_61 (dk_at dksX5_isZero_0 3 rfl rfl)
theorem dX5_isZero_4 : decode cX5_isZero 4 = .ok (.iload_n 2, 1) := dk_28 (dk_at dksX5_isZero_0 4 rfl rfl)
theorem dX5_isZero_5 : decode cX5_isZero 5 = .ok (.aload_n 0, 1) := dk_42 (dk_at dksX5_isZero_0 5 rfl rfl)
theorem dX5_isZero_6 : decode cX5_isZero 6 = .ok (.getfield 7, 3) := dk_180 0 7 (dk_at dksX5_isZero_0 6 rfl rfl)
theorem dX5_isZero_9 : decode cX5_isZero 9 = .ok (.iconst 1, 1) := dk_4 (dk_at dksX5_isZero_0 9 rfl rfl)
theorem dX5_isZero_10 : decode cX5_isZero 10 = .ok (.iaload, 1) := dk_46 (dk_at dksX5_isZero_0 10 rfl rfl)
theorem dX5_isZero_11 : decode cX5_isZero 11 = .ok (.if_icmp .ge 28, 3) := dk_162 0 28 (dk_at dksX5_isZero_0 11 rfl rfl)
theorem dX5_isZero_14 : decode cX5_isZero 14 = .ok (.iload_n 1, 1) := dk_27 (dk_at dksX5_isZero_0 14 rfl rfl)
theorem dX5_isZero_15 : decode cX5_isZero 15 = .ok (.ifCond .eq 16, 3) := dk_153 0 16 (dk_at dksX5_isZero_0 15 rfl rfl)
theorem dX5_isZero_18 : decode cX5_isZero 18 = .ok (.aload_n 0, 1) := dk_42 (dk_at dksX5_isZero_0 18 rfl rfl)
theorem dX5_isZero_19 : decode cX5_isZero 19 = .ok (.getfield 39, 3) := dk_180 0 39 (dk_at dksX5_isZero_0 19 rfl rfl)
theorem dX5_isZero_22 : decode cX5_isZero 22 = .ok (.iload_n 2, 1) := dk_28 (dk_at dksX5_isZero_0 22 rfl rfl)
theorem dX5_isZero_23 : decode cX5_isZero 23 = .ok (.iaload, 1) := dk_46 (dk_at dksX5_isZero_0 23 rfl rfl)
theorem dX5_isZero_24 : decode cX5_isZero 24 = .ok (.ifCond .ne 7, 3) := dk_154 0 7 (dk_at dksX5_isZero_1 0 rfl rfl)
theorem dX5_isZero_27 : decode cX5_isZero 27 = .ok (.iconst 1, 1) := dk_4 (dk_at dksX5_isZero_1 3 rfl rfl)
theorem dX5_isZero_28 : decode cX5_isZero 28 = .ok (.goto 4, 3) := dk_167 0 4 (dk_at dksX5_isZero_1 4 rfl rfl)
theorem dX5_isZero_31 : decode cX5_isZero 31 = .ok (.iconst 0, 1) := dk_3 (dk_at dksX5_isZero_1 7 rfl rfl)
theorem dX5_isZero_32 : decode cX5_isZero 32 = .ok (.istore_n 1, 1) := dk_60 (dk_at dksX5_isZero_1 8 rfl rfl)
theorem dX5_isZero_33 : decode cX5_isZero 33 = .ok (.iinc 2 1, 3) := dk_132 2 1 (dk_at dksX5_isZero_1 9 rfl rfl)
theorem dX5_isZero_36 : decode cX5_isZero 36 = .ok (.goto (-32), 3) := dk_167 255 224 (dk_at dksX5_isZero_1 12 rfl rfl)
theorem dX5_isZero_39 : decode cX5_isZero 39 = .ok (.iload_n 1, 1) := dk_27 (dk_at dksX5_isZero_1 15 rfl rfl)
theorem dX5_isZero_40 : decode cX5_isZero 40 = .ok (.ireturn, 1) := dk_172 (dk_at dksX5_isZero_1 16 rfl rfl)
abbrev cX5_run : ByteArray := prog_12_method_62_code
def yX5_run : MethodName := ⟨RX5, "run", "(I)I"⟩
def dkwX5_run_3 : List UInt8 := [180, 0, 7, 8, 46, 28, 100, 172]
abbrev dktX5_run_3 : List UInt8 := dkwX5_run_3 ++ []
def dkwX5_run_2 : List UInt8 := [180, 0, 7, 16, 7, 46, 154, 0, 17, 42, 42, 182, 0, 255, 181, 1, 2, 132, 3, 1, 167, 255, 230, 42]
abbrev dktX5_run_2 : List UInt8 := dkwX5_run_2 ++ dktX5_run_3
def dkwX5_run_1 : List UInt8 := [158, 0, 5, 3, 172, 42, 182, 0, 75, 42, 180, 0, 7, 8, 46, 61, 3, 62, 29, 27, 162, 0, 27, 42]
abbrev dktX5_run_1 : List UInt8 := dkwX5_run_1 ++ dktX5_run_2
def dkwX5_run_0 : List UInt8 := [42, 27, 4, 16, 40, 184, 0, 71, 153, 0, 7, 3, 167, 0, 4, 4, 181, 0, 65, 42, 180, 0, 65]
abbrev dktX5_run_0 : List UInt8 := dkwX5_run_0 ++ dktX5_run_1
theorem dksX5_run_0 : cX5_run.data.toList.drop 0 = dktX5_run_0 := by decide +kernel
theorem dksX5_run_1 : cX5_run.data.toList.drop 23 = dktX5_run_1 := dk_seg dksX5_run_0 23 rfl rfl
theorem dksX5_run_2 : cX5_run.data.toList.drop 47 = dktX5_run_2 := dk_seg dksX5_run_1 24 rfl rfl
theorem dksX5_run_3 : cX5_run.data.toList.drop 71 = dktX5_run_3 := dk_seg dksX5_run_2 24 rfl rfl
theorem dX5_run_0 : decode cX5_run 0 = .ok (.aload_n 0, 1) := dk_42 (dk_at dksX5_run_0 0 rfl rfl)
theorem dX5_run_1 : decode cX5_run 1 = .ok (.iload_n 1, 1) := dk_27 (dk_at dksX5_run_0 1 rfl rfl)
theorem dX5_run_2 : decode cX5_run 2 = .ok (.iconst 1, 1) := dk_4 (dk_at dksX5_run_0 2 rfl rfl)
theorem dX5_run_3 : decode cX5_run 3 = .ok (.bipush 40, 2) := dk_16 40 (dk_at dksX5_run_0 3 rfl rfl)
theorem dX5_run_5 : decode cX5_run 5 = .ok (.invokestatic 71, 3) := dk_184 0 71 (dk_at dksX5_run_0 5 rfl rfl)
theorem dX5_run_8 : decode cX5_run 8 = .ok (.ifCond .eq 7, 3) := dk_153 0 7 (dk_at dksX5_run_0 8 rfl rfl)
theorem dX5_run_11 : decode cX5_run 11 = .ok (.iconst 0, 1) := dk_3 (dk_at dksX5_run_0 11 rfl rfl)
theorem dX5_run_12 : decode cX5_run 12 = .ok (.goto 4, 3) := dk_167 0 4 (dk_at dksX5_run_0 12 rfl rfl)
theorem dX5_run_15 : decode cX5_run 15 = .ok (.iconst 1, 1) := dk_4 (dk_at dksX5_run_0 15 rfl rfl)
theorem dX5_run_16 : decode cX5_run 16 = .ok (.putfield 65, 3) := dk_181 0 65 (dk_at dksX5_run_0 16 rfl rfl)
theorem dX5_run_19 : decode cX5_run 19 = .ok (.aload_n 0, 1) := dk_42 (dk_at dksX5_run_0 19 rfl rfl)
theorem dX5_run_20 : decode cX5_run 20 = .ok (.getfield 65, 3) := dk_180 0 65 (dk_at dksX5_run_0 20 rfl rfl)
theorem dX5_run_23 : decode cX5_run 23 = .ok (.ifCond .le 5, 3) := dk_158 0 5 (dk_at dksX5_run_1 0 rfl rfl)
theorem dX5_run_26 : decode cX5_run 26 = .ok (.iconst 0, 1) := dk_3 (dk_at dksX5_run_1 3 rfl rfl)
theorem dX5_run_27 : decode cX5_run 27 = .ok (.ireturn, 1) := dk_172 (dk_at dksX5_run_1 4 rfl rfl)
theorem dX5_run_28 : decode cX5_run 28 = .ok (.aload_n 0, 1) := dk_42 (dk_at dksX5_run_1 5 rfl rfl)
theorem dX5_run_29 : decode cX5_run 29 = .ok (.invokevirtual 75, 3) := dk_182 0 75 (dk_at dksX5_run_1 6 rfl rfl)
theorem dX5_run_32 : decode cX5_run 32 = .ok (.aload_n 0, 1) := dk_42 (dk_at dksX5_run_1 9 rfl rfl)
theorem dX5_run_33 : decode cX5_run 33 = .ok (.getfield 7, 3) := dk_180 0 7 (dk_at dksX5_run_1 10 rfl rfl)
theorem dX5_run_36 : decode cX5_run 36 = .ok (.iconst 5, 1) := dk_8 (dk_at dksX5_run_1 13 rfl rfl)
theorem dX5_run_37 : decode cX5_run 37 = .ok (.iaload, 1) := dk_46 (dk_at dksX5_run_1 14 rfl rfl)
theorem dX5_run_38 : decode cX5_run 38 = .ok (.istore_n 2, 1) := dk_61 (dk_at dksX5_run_1 15 rfl rfl)
theorem dX5_run_39 : decode cX5_run 39 = .ok (.iconst 0, 1) := dk_3 (dk_at dksX5_run_1 16 rfl rfl)
theorem dX5_run_40 : decode cX5_run 40 = .ok (.istore_n 3, 1) := dk_62 (dk_at dksX5_run_1 17 rfl rfl)
theorem dX5_run_41 : decode cX5_run 41 = .ok (.iload_n 3, 1) := dk_29 (dk_at dksX5_run_1 18 rfl rfl)
theorem dX5_run_42 : decode cX5_run 42 = .ok (.iload_n 1, 1) := dk_27 (dk_at dksX5_run_1 19 rfl rfl)
theorem dX5_run_43 : decode cX5_run 43 = .ok (.if_icmp .ge 27, 3) := dk_162 0 27 (dk_at dksX5_run_1 20 rfl rfl)
theorem dX5_run_46 : decode cX5_run 46 = .ok (.aload_n 0, 1) := dk_42 (dk_at dksX5_run_1 23 rfl rfl)
theorem dX5_run_47 : decode cX5_run 47 = .ok (.getfield 7, 3) := dk_180 0 7 (dk_at dksX5_run_2 0 rfl rfl)
theorem dX5_run_50 : decode cX5_run 50 = .ok (.bipush 7, 2) := dk_16 7 (dk_at dksX5_run_2 3 rfl rfl)
theorem dX5_run_52 : decode cX5_run 52 = .ok (.iaload, 1) := dk_46 (dk_at dksX5_run_2 5 rfl rfl)
theorem dX5_run_53 : decode cX5_run 53 = .ok (.ifCond .ne 17, 3) := dk_154 0 17 (dk_at dksX5_run_2 6 rfl rfl)
theorem dX5_run_56 : decode cX5_run 56 = .ok (.aload_n 0, 1) := dk_42 (dk_at dksX5_run_2 9 rfl rfl)
theorem dX5_run_57 : decode cX5_run 57 = .ok (.aload_n 0, 1) := dk_42 (dk_at dksX5_run_2 10 rfl rfl)
theorem dX5_run_58 : decode cX5_run 58 = .ok (.invokevirtual 255, 3) := dk_182 0 255 (dk_at dksX5_run_2 11 rfl rfl)
theorem dX5_run_61 : decode cX5_run 61 = .ok (.putfield 258, 3) := dk_181 1 2 (dk_at dksX5_run_2 14 rfl rfl)
theorem dX5_run_64 : decode cX5_run 64 = .ok (.iinc 3 1, 3) := dk_132 3 1 (dk_at dksX5_run_2 17 rfl rfl)
theorem dX5_run_67 : decode cX5_run 67 = .ok (.goto (-26), 3) := dk_167 255 230 (dk_at dksX5_run_2 20 rfl rfl)
theorem dX5_run_70 : decode cX5_run 70 = .ok (.aload_n 0, 1) := dk_42 (dk_at dksX5_run_2 23 rfl rfl)
theorem dX5_run_71 : decode cX5_run 71 = .ok (.getfield 7, 3) := dk_180 0 7 (dk_at dksX5_run_3 0 rfl rfl)
theorem dX5_run_74 : decode cX5_run 74 = .ok (.iconst 5, 1) := dk_8 (dk_at dksX5_run_3 3 rfl rfl)
theorem dX5_run_75 : decode cX5_run 75 = .ok (.iaload, 1) := dk_46 (dk_at dksX5_run_3 4 rfl rfl)
theorem dX5_run_76 : decode cX5_run 76 = .ok (.iload_n 2, 1) := dk_28 (dk_at dksX5_run_3 5 rfl rfl)
theorem dX5_run_77 : decode cX5_run 77 = .ok (.isub, 1) := dk_100 (dk_at dksX5_run_3 6 rfl rfl)
theorem dX5_run_78 : decode cX5_run 78 = .ok (.ireturn, 1) := dk_172 (dk_at dksX5_run_3 7 rfl rfl)
abbrev cX5_reset : ByteArray := prog_12_method_63_code
def yX5_reset : MethodName := ⟨RX5, "reset", "()I"⟩
def dkwX5_reset_0 : List UInt8 := [42, 3, 181, 0, 65, 42, 182, 0, 75, 42, 180, 0, 7, 8, 46, 60, 42, 182, 0, 190, 27, 172]
abbrev dktX5_reset_0 : List UInt8 := dkwX5_reset_0 ++ []
theorem dksX5_reset_0 : cX5_reset.data.toList.drop 0 = dktX5_reset_0 := by decide +kernel
theorem dX5_reset_0 : decode cX5_reset 0 = .ok (.aload_n 0, 1) := dk_42 (dk_at dksX5_reset_0 0 rfl rfl)
theorem dX5_reset_1 : decode cX5_reset 1 = .ok (.iconst 0, 1) := dk_3 (dk_at dksX5_reset_0 1 rfl rfl)
theorem dX5_reset_2 : decode cX5_reset 2 = .ok (.putfield 65, 3) := dk_181 0 65 (dk_at dksX5_reset_0 2 rfl rfl)
theorem dX5_reset_5 : decode cX5_reset 5 = .ok (.aload_n 0, 1) := dk_42 (dk_at dksX5_reset_0 5 rfl rfl)
theorem dX5_reset_6 : decode cX5_reset 6 = .ok (.invokevirtual 75, 3) := dk_182 0 75 (dk_at dksX5_reset_0 6 rfl rfl)
theorem dX5_reset_9 : decode cX5_reset 9 = .ok (.aload_n 0, 1) := dk_42 (dk_at dksX5_reset_0 9 rfl rfl)
theorem dX5_reset_10 : decode cX5_reset 10 = .ok (.getfield 7, 3) := dk_180 0 7 (dk_at dksX5_reset_0 10 rfl rfl)
theorem dX5_reset_13 : decode cX5_reset 13 = .ok (.iconst 5, 1) := dk_8 (dk_at dksX5_reset_0 13 rfl rfl)
theorem dX5_reset_14 : decode cX5_reset 14 = .ok (.iaload, 1) := dk_46 (dk_at dksX5_reset_0 14 rfl rfl)
theorem dX5_reset_15 : decode cX5_reset 15 = .ok (.istore_n 1, 1) := dk_60 (dk_at dksX5_reset_0 15 rfl rfl)
theorem dX5_reset_16 : decode cX5_reset 16 = .ok (.aload_n 0, 1) := dk_42 (dk_at dksX5_reset_0 16 rfl rfl)
theorem dX5_reset_17 : decode cX5_reset 17 = .ok (.invokevirtual 190, 3) := dk_182 0 190 (dk_at dksX5_reset_0 17 rfl rfl)
theorem dX5_reset_20 : decode cX5_reset 20 = .ok (.iload_n 1, 1) := dk_27 (dk_at dksX5_reset_0 20 rfl rfl)
theorem dX5_reset_21 : decode cX5_reset 21 = .ok (.ireturn, 1) := dk_172 (dk_at dksX5_reset_0 21 rfl rfl)
abbrev cX5_chain : ByteArray := prog_12_method_69_code
def yX5_chain : MethodName := ⟨RX5, "chain", "(II)I"⟩
def dkwX5_chain_3 : List UInt8 := [42, 180, 0, 7, 16, 89, 27, 96, 46, 167, 0, 8, 42, 27, 182, 1, 20, 172]
abbrev dktX5_chain_3 : List UInt8 := dkwX5_chain_3 ++ []
def dkwX5_chain_2 : List UInt8 := [182, 0, 231, 167, 0, 38, 28, 4, 160, 0, 11, 42, 27, 182, 1, 5, 167, 0, 25, 28, 5, 160, 0, 15]
abbrev dktX5_chain_2 : List UInt8 := dkwX5_chain_2 ++ dktX5_chain_3
def dkwX5_chain_1 : List UInt8 := [167, 0, 4, 5, 181, 0, 65, 42, 180, 0, 65, 158, 0, 5, 3, 172, 28, 154, 0, 11, 42, 27]
abbrev dktX5_chain_1 : List UInt8 := dkwX5_chain_1 ++ dktX5_chain_2
def dkwX5_chain_0 : List UInt8 := [42, 42, 27, 182, 1, 17, 154, 0, 7, 4, 167, 0, 17, 28, 3, 6, 184, 0, 71, 153, 0, 7, 3]
abbrev dktX5_chain_0 : List UInt8 := dkwX5_chain_0 ++ dktX5_chain_1
theorem dksX5_chain_0 : cX5_chain.data.toList.drop 0 = dktX5_chain_0 := by decide +kernel
theorem dksX5_chain_1 : cX5_chain.data.toList.drop 23 = dktX5_chain_1 := dk_seg dksX5_chain_0 23 rfl rfl
theorem dksX5_chain_2 : cX5_chain.data.toList.drop 45 = dktX5_chain_2 := dk_seg dksX5_chain_1 22 rfl rfl
theorem dksX5_chain_3 : cX5_chain.data.toList.drop 69 = dktX5_chain_3 := dk_seg dksX5_chain_2 24 rfl rfl
theorem dX5_chain_0 : decode cX5_chain 0 = .ok (.aload_n 0, 1) := dk_42 (dk_at dksX5_chain_0 0 rfl rfl)
theorem dX5_chain_1 : decode cX5_chain 1 = .ok (.aload_n 0, 1) := dk_42 (dk_at dksX5_chain_0 1 rfl rfl)
theorem dX5_chain_2 : decode cX5_chain 2 = .ok (.iload_n 1, 1) := dk_27 (dk_at dksX5_chain_0 2 rfl rfl)
theorem dX5_chain_3 : decode cX5_chain 3 = .ok (.invokevirtual 273, 3) := dk_182 1 17 (dk_at dksX5_chain_0 3 rfl rfl)
theorem dX5_chain_6 : decode cX5_chain 6 = .ok (.ifCond .ne 7, 3) := dk_154 0 7 (dk_at dksX5_chain_0 6 rfl rfl)
theorem dX5_chain_9 : decode cX5_chain 9 = .ok (.iconst 1, 1) := dk_4 (dk_at dksX5_chain_0 9 rfl rfl)
theorem dX5_chain_10 : decode cX5_chain 10 = .ok (.goto 17, 3) := dk_167 0 17 (dk_at dksX5_chain_0 10 rfl rfl)
theorem dX5_chain_13 : decode cX5_chain 13 = .ok (.iload_n 2, 1) := dk_28 (dk_at dksX5_chain_0 13 rfl rfl)
theorem dX5_chain_14 : decode cX5_chain 14 = .ok (.iconst 0, 1) := dk_3 (dk_at dksX5_chain_0 14 rfl rfl)
theorem dX5_chain_15 : decode cX5_chain 15 = .ok (.iconst 3, 1) := dk_6 (dk_at dksX5_chain_0 15 rfl rfl)
theorem dX5_chain_16 : decode cX5_chain 16 = .ok (.invokestatic 71, 3) := dk_184 0 71 (dk_at dksX5_chain_0 16 rfl rfl)
theorem dX5_chain_19 : decode cX5_chain 19 = .ok (.ifCond .eq 7, 3) := dk_153 0 7 (dk_at dksX5_chain_0 19 rfl rfl)
theorem dX5_chain_22 : decode cX5_chain 22 = .ok (.iconst 0, 1) := dk_3 (dk_at dksX5_chain_0 22 rfl rfl)
theorem dX5_chain_23 : decode cX5_chain 23 = .ok (.goto 4, 3) := dk_167 0 4 (dk_at dksX5_chain_1 0 rfl rfl)
theorem dX5_chain_26 : decode cX5_chain 26 = .ok (.iconst 2, 1) := dk_5 (dk_at dksX5_chain_1 3 rfl rfl)
theorem dX5_chain_27 : decode cX5_chain 27 = .ok (.putfield 65, 3) := dk_181 0 65 (dk_at dksX5_chain_1 4 rfl rfl)
theorem dX5_chain_30 : decode cX5_chain 30 = .ok (.aload_n 0, 1) := dk_42 (dk_at dksX5_chain_1 7 rfl rfl)
theorem dX5_chain_31 : decode cX5_chain 31 = .ok (.getfield 65, 3) := dk_180 0 65 (dk_at dksX5_chain_1 8 rfl rfl)
theorem dX5_chain_34 : decode cX5_chain 34 = .ok (.ifCond .le 5, 3) := dk_158 0 5 (dk_at dksX5_chain_1 11 rfl rfl)
theorem dX5_chain_37 : decode cX5_chain 37 = .ok (.iconst 0, 1) := dk_3 (dk_at dksX5_chain_1 14 rfl rfl)
theorem dX5_chain_38 : decode cX5_chain 38 = .ok (.ireturn, 1) := dk_172 (dk_at dksX5_chain_1 15 rfl rfl)
theorem dX5_chain_39 : decode cX5_chain 39 = .ok (.iload_n 2, 1) := dk_28 (dk_at dksX5_chain_1 16 rfl rfl)
theorem dX5_chain_40 : decode cX5_chain 40 = .ok (.ifCond .ne 11, 3) := dk_154 0 11 (dk_at dksX5_chain_1 17 rfl rfl)
theorem dX5_chain_43 : decode cX5_chain 43 = .ok (.aload_n 0, 1) := dk_42 (dk_at dksX5_chain_1 20 rfl rfl)
theorem dX5_chain_44 : decode cX5_chain 44 = .ok (.iload_n 1, 1) := dk_27 (dk_at dksX5_chain_1 21 rfl rfl)
theorem dX5_chain_45 : decode cX5_chain 45 = .ok (.invokevirtual 231, 3) := dk_182 0 231 (dk_at dksX5_chain_2 0 rfl rfl)
theorem dX5_chain_48 : decode cX5_chain 48 = .ok (.goto 38, 3) := dk_167 0 38 (dk_at dksX5_chain_2 3 rfl rfl)
theorem dX5_chain_51 : decode cX5_chain 51 = .ok (.iload_n 2, 1) := dk_28 (dk_at dksX5_chain_2 6 rfl rfl)
theorem dX5_chain_52 : decode cX5_chain 52 = .ok (.iconst 1, 1) := dk_4 (dk_at dksX5_chain_2 7 rfl rfl)
theorem dX5_chain_53 : decode cX5_chain 53 = .ok (.if_icmp .ne 11, 3) := dk_160 0 11 (dk_at dksX5_chain_2 8 rfl rfl)
theorem dX5_chain_56 : decode cX5_chain 56 = .ok (.aload_n 0, 1) := dk_42 (dk_at dksX5_chain_2 11 rfl rfl)
theorem dX5_chain_57 : decode cX5_chain 57 = .ok (.iload_n 1, 1) := dk_27 (dk_at dksX5_chain_2 12 rfl rfl)
theorem dX5_chain_58 : decode cX5_chain 58 = .ok (.invokevirtual 261, 3) := dk_182 1 5 (dk_at dksX5_chain_2 13 rfl rfl)
theorem dX5_chain_61 : decode cX5_chain 61 = .ok (.goto 25, 3) := dk_167 0 25 (dk_at dksX5_chain_2 16 rfl rfl)
theorem dX5_chain_64 : decode cX5_chain 64 = .ok (.iload_n 2, 1) := dk_28 (dk_at dksX5_chain_2 19 rfl rfl)
theorem dX5_chain_65 : decode cX5_chain 65 = .ok (.iconst 2, 1) := dk_5 (dk_at dksX5_chain_2 20 rfl rfl)
theorem dX5_chain_66 : decode cX5_chain 66 = .ok (.if_icmp .ne 15, 3) := dk_160 0 15 (dk_at dksX5_chain_2 21 rfl rfl)
theorem dX5_chain_69 : decode cX5_chain 69 = .ok (.aload_n 0, 1) := dk_42 (dk_at dksX5_chain_3 0 rfl rfl)
theorem dX5_chain_70 : decode cX5_chain 70 = .ok (.getfield 7, 3) := dk_180 0 7 (dk_at dksX5_chain_3 1 rfl rfl)
theorem dX5_chain_73 : decode cX5_chain 73 = .ok (.bipush 89, 2) := dk_16 89 (dk_at dksX5_chain_3 4 rfl rfl)
theorem dX5_chain_75 : decode cX5_chain 75 = .ok (.iload_n 1, 1) := dk_27 (dk_at dksX5_chain_3 6 rfl rfl)
theorem dX5_chain_76 : decode cX5_chain 76 = .ok (.iadd, 1) := dk_96 (dk_at dksX5_chain_3 7 rfl rfl)
theorem dX5_chain_77 : decode cX5_chain 77 = .ok (.iaload, 1) := dk_46 (dk_at dksX5_chain_3 8 rfl rfl)
theorem dX5_chain_78 : decode cX5_chain 78 = .ok (.goto 8, 3) := dk_167 0 8 (dk_at dksX5_chain_3 9 rfl rfl)
theorem dX5_chain_81 : decode cX5_chain 81 = .ok (.aload_n 0, 1) := dk_42 (dk_at dksX5_chain_3 12 rfl rfl)
theorem dX5_chain_82 : decode cX5_chain 82 = .ok (.iload_n 1, 1) := dk_27 (dk_at dksX5_chain_3 13 rfl rfl)
theorem dX5_chain_83 : decode cX5_chain 83 = .ok (.invokevirtual 276, 3) := dk_182 1 20 (dk_at dksX5_chain_3 14 rfl rfl)
theorem dX5_chain_86 : decode cX5_chain 86 = .ok (.ireturn, 1) := dk_172 (dk_at dksX5_chain_3 17 rfl rfl)
abbrev cX5_isChain : ByteArray := prog_12_method_68_code
def yX5_isChain : MethodName := ⟨RX5, "isChain", "(I)Z"⟩
def dkwX5_isChain_0 : List UInt8 := [27, 3, 42, 180, 0, 7, 16, 6, 46, 4, 100, 184, 0, 71, 172]
abbrev dktX5_isChain_0 : List UInt8 := dkwX5_isChain_0 ++ []
theorem dksX5_isChain_0 : cX5_isChain.data.toList.drop 0 = dktX5_isChain_0 := by decide +kernel
theorem dX5_isChain_0 : decode cX5_isChain 0 = .ok (.iload_n 1, 1) := dk_27 (dk_at dksX5_isChain_0 0 rfl rfl)
theorem dX5_isChain_1 : decode cX5_isChain 1 = .ok (.iconst 0, 1) := dk_3 (dk_at dksX5_isChain_0 1 rfl rfl)
theorem dX5_isChain_2 : decode cX5_isChain 2 = .ok (.aload_n 0, 1) := dk_42 (dk_at dksX5_isChain_0 2 rfl rfl)
theorem dX5_isChain_3 : decode cX5_isChain 3 = .ok (.getfield 7, 3) := dk_180 0 7 (dk_at dksX5_isChain_0 3 rfl rfl)
theorem dX5_isChain_6 : decode cX5_isChain 6 = .ok (.bipush 6, 2) := dk_16 6 (dk_at dksX5_isChain_0 6 rfl rfl)
theorem dX5_isChain_8 : decode cX5_isChain 8 = .ok (.iaload, 1) := dk_46 (dk_at dksX5_isChain_0 8 rfl rfl)
theorem dX5_isChain_9 : decode cX5_isChain 9 = .ok (.iconst 1, 1) := dk_4 (dk_at dksX5_isChain_0 9 rfl rfl)
theorem dX5_isChain_10 : decode cX5_isChain 10 = .ok (.isub, 1) := dk_100 (dk_at dksX5_isChain_0 10 rfl rfl)
theorem dX5_isChain_11 : decode cX5_isChain 11 = .ok (.invokestatic 71, 3) := dk_184 0 71 (dk_at dksX5_isChain_0 11 rfl rfl)
theorem dX5_isChain_14 : decode cX5_isChain 14 = .ok (.ireturn, 1) := dk_172 (dk_at dksX5_isChain_0 14 rfl rfl)
abbrev cX5_firstOf : ByteArray := prog_12_method_55_code
def yX5_firstOf : MethodName := ⟨RX5, "firstOf", "(I)I"⟩
def dkwX5_firstOf_2 : List UInt8 := [172]
abbrev dktX5_firstOf_2 : List UInt8 := dkwX5_firstOf_2 ++ []
def dkwX5_firstOf_1 : List UInt8 := [159, 0, 9, 132, 2, 1, 167, 255, 230, 28, 42, 180, 0, 7, 8, 46, 160, 0, 7, 2, 167, 0, 4, 28]
abbrev dktX5_firstOf_1 : List UInt8 := dkwX5_firstOf_1 ++ dktX5_firstOf_2
def dkwX5_firstOf_0 : List UInt8 := [3, 61, 28, 42, 180, 0, 7, 8, 46, 162, 0, 22, 42, 180, 0, 7, 16, 81, 28, 96, 46, 27]
abbrev dktX5_firstOf_0 : List UInt8 := dkwX5_firstOf_0 ++ dktX5_firstOf_1
theorem dksX5_firstOf_0 : cX5_firstOf.data.toList.drop 0 = dktX5_firstOf_0 := by decide +kernel
theorem dksX5_firstOf_1 : cX5_firstOf.data.toList.drop 22 = dktX5_firstOf_1 := dk_seg dksX5_firstOf_0 22 rfl rfl
theorem dksX5_firstOf_2 : cX5_firstOf.data.toList.drop 46 = dktX5_firstOf_2 := dk_seg dksX5_firstOf_1 24 rfl rfl
theorem dX5_firstOf_0 : decode cX5_firstOf 0 = .ok (.iconst 0, 1) := dk_3 (dk_at dksX5_firstOf_0 0 rfl rfl)
theorem dX5_firstOf_1 : decode cX5_firstOf 1 = .ok (.istore_n 2, 1) := dk_61 (dk_at dksX5_firstOf_0 1 rfl rfl)
theorem dX5_firstOf_2 : decode cX5_firstOf 2 = .ok (.iload_n 2, 1) := dk_28 (dk_at dksX5_firstOf_0 2 rfl rfl)
theorem dX5_firstOf_3 : decode cX5_firstOf 3 = .ok (.aload_n 0, 1) := dk_42 (dk_at dksX5_firstOf_0 3 rfl rfl)
theorem dX5_firstOf_4 : decode cX5_firstOf 4 = .ok (.getfield 7, 3) := dk_180 0 7 (dk_at dksX5_firstOf_0 4 rfl rfl)
theorem dX5_firstOf_7 : decode cX5_firstOf 7 = .ok (.iconst 5, 1) := dk_8 (dk_at dksX5_firstOf_0 7 rfl rfl)
theorem dX5_firstOf_8 : decode cX5_firstOf 8 = .ok (.iaload, 1) := dk_46 (dk_at dksX5_firstOf_0 8 rfl rfl)
theorem dX5_firstOf_9 : decode cX5_firstOf 9 = .ok (.if_icmp .ge 22, 3) := dk_162 0 22 (dk_at dksX5_firstOf_0 9 rfl rfl)
theorem dX5_firstOf_12 : decode cX5_firstOf 12 = .ok (.aload_n 0, 1) := dk_42 (dk_at dksX5_firstOf_0 12 rfl rfl)
theorem dX5_firstOf_13 : decode cX5_firstOf 13 = .ok (.getfield 7, 3) := dk_180 0 7 (dk_at dksX5_firstOf_0 13 rfl rfl)
theorem dX5_firstOf_16 : decode cX5_firstOf 16 = .ok (.bipush 81, 2) := dk_16 81 (dk_at dksX5_firstOf_0 16 rfl rfl)
theorem dX5_firstOf_18 : decode cX5_firstOf 18 = .ok (.iload_n 2, 1) := dk_28 (dk_at dksX5_firstOf_0 18 rfl rfl)
theorem dX5_firstOf_19 : decode cX5_firstOf 19 = .ok (.iadd, 1) := dk_96 (dk_at dksX5_firstOf_0 19 rfl rfl)
theorem dX5_firstOf_20 : decode cX5_firstOf 20 = .ok (.iaload, 1) := dk_46 (dk_at dksX5_firstOf_0 20 rfl rfl)
theorem dX5_firstOf_21 : decode cX5_firstOf 21 = .ok (.iload_n 1, 1) := dk_27 (dk_at dksX5_firstOf_0 21 rfl rfl)
theorem dX5_firstOf_22 : decode cX5_firstOf 22 = .ok (.if_icmp .eq 9, 3) := dk_159 0 9 (dk_at dksX5_firstOf_1 0 rfl rfl)
theorem dX5_firstOf_25 : decode cX5_firstOf 25 = .ok (.iinc 2 1, 3) := dk_132 2 1 (dk_at dksX5_firstOf_1 3 rfl rfl)
theorem dX5_firstOf_28 : decode cX5_firstOf 28 = .ok (.goto (-26), 3) := dk_167 255 230 (dk_at dksX5_firstOf_1 6 rfl rfl)
theorem dX5_firstOf_31 : decode cX5_firstOf 31 = .ok (.iload_n 2, 1) := dk_28 (dk_at dksX5_firstOf_1 9 rfl rfl)
theorem dX5_firstOf_32 : decode cX5_firstOf 32 = .ok (.aload_n 0, 1) := dk_42 (dk_at dksX5_firstOf_1 10 rfl rfl)
theorem dX5_firstOf_33 : decode cX5_firstOf 33 = .ok (.getfield 7, 3) := dk_180 0 7 (dk_at dksX5_firstOf_1 11 rfl rfl)
theorem dX5_firstOf_36 : decode cX5_firstOf 36 = .ok (.iconst 5, 1) := dk_8 (dk_at dksX5_firstOf_1 14 rfl rfl)
theorem dX5_firstOf_37 : decode cX5_firstOf 37 = .ok (.iaload, 1) := dk_46 (dk_at dksX5_firstOf_1 15 rfl rfl)
theorem dX5_firstOf_38 : decode cX5_firstOf 38 = .ok (.if_icmp .ne 7, 3) := dk_160 0 7 (dk_at dksX5_firstOf_1 16 rfl rfl)
theorem dX5_firstOf_41 : decode cX5_firstOf 41 = .ok (.iconst (-1), 1) := dk_2 (dk_at dksX5_firstOf_1 19 rfl rfl)
theorem dX5_firstOf_42 : decode cX5_firstOf 42 = .ok (.goto 4, 3) := dk_167 0 4 (dk_at dksX5_firstOf_1 20 rfl rfl)
theorem dX5_firstOf_45 : decode cX5_firstOf 45 = .ok (.iload_n 2, 1) := dk_28 (dk_at dksX5_firstOf_1 23 rfl rfl)
theorem dX5_firstOf_46 : decode cX5_firstOf 46 = .ok (.ireturn, 1) := dk_172 (dk_at dksX5_firstOf_2 0 rfl rfl)
abbrev cX5_rootsOf : ByteArray := prog_12_method_67_code
def yX5_rootsOf : MethodName := ⟨RX5, "rootsOf", "(I)I"⟩
def dkwX5_rootsOf_2 : List UInt8 := [167, 255, 221, 29, 172]
abbrev dktX5_rootsOf_2 : List UInt8 := dkwX5_rootsOf_2 ++ []
def dkwX5_rootsOf_1 : List UInt8 := [158, 0, 26, 29, 42, 21, 4, 182, 1, 14, 154, 0, 7, 4, 167, 0, 4, 3, 96, 62, 132, 4, 1]
abbrev dktX5_rootsOf_1 : List UInt8 := dkwX5_rootsOf_1 ++ dktX5_rootsOf_2
def dkwX5_rootsOf_0 : List UInt8 := [42, 27, 182, 1, 11, 61, 3, 62, 3, 54, 4, 21, 4, 42, 180, 0, 7, 3, 46, 162, 0, 30, 28]
abbrev dktX5_rootsOf_0 : List UInt8 := dkwX5_rootsOf_0 ++ dktX5_rootsOf_1
theorem dksX5_rootsOf_0 : cX5_rootsOf.data.toList.drop 0 = dktX5_rootsOf_0 := by decide +kernel
theorem dksX5_rootsOf_1 : cX5_rootsOf.data.toList.drop 23 = dktX5_rootsOf_1 := dk_seg dksX5_rootsOf_0 23 rfl rfl
theorem dksX5_rootsOf_2 : cX5_rootsOf.data.toList.drop 46 = dktX5_rootsOf_2 := dk_seg dksX5_rootsOf_1 23 rfl rfl
theorem dX5_rootsOf_0 : decode cX5_rootsOf 0 = .ok (.aload_n 0, 1) := dk_42 (dk_at dksX5_rootsOf_0 0 rfl rfl)
theorem dX5_rootsOf_1 : decode cX5_rootsOf 1 = .ok (.iload_n 1, 1) := dk_27 (dk_at dksX5_rootsOf_0 1 rfl rfl)
theorem dX5_rootsOf_2 : decode cX5_rootsOf 2 = .ok (.invokevirtual 267, 3) := dk_182 1 11 (dk_at dksX5_rootsOf_0 2 rfl rfl)
theorem dX5_rootsOf_5 : decode cX5_rootsOf 5 = .ok (.istore_n 2, 1) := dk_61 (dk_at dksX5_rootsOf_0 5 rfl rfl)
theorem dX5_rootsOf_6 : decode cX5_rootsOf 6 = .ok (.iconst 0, 1) := dk_3 (dk_at dksX5_rootsOf_0 6 rfl rfl)
theorem dX5_rootsOf_7 : decode cX5_rootsOf 7 = .ok (.istore_n 3, 1) := dk_62 (dk_at dksX5_rootsOf_0 7 rfl rfl)
theorem dX5_rootsOf_8 : decode cX5_rootsOf 8 = .ok (.iconst 0, 1) := dk_3 (dk_at dksX5_rootsOf_0 8 rfl rfl)
theorem dX5_rootsOf_9 : decode cX5_rootsOf 9 = .ok (.istore 4, 2) := dk_54 4 (dk_at dksX5_rootsOf_0 9 rfl rfl)
theorem dX5_rootsOf_11 : decode cX5_rootsOf 11 = .ok (.iload 4, 2) := dk_21 4 (dk_at dksX5_rootsOf_0 11 rfl rfl)
theorem dX5_rootsOf_13 : decode cX5_rootsOf 13 = .ok (.aload_n 0, 1) := dk_42 (dk_at dksX5_rootsOf_0 13 rfl rfl)
theorem dX5_rootsOf_14 : decode cX5_rootsOf 14 = .ok (.getfield 7, 3) := dk_180 0 7 (dk_at dksX5_rootsOf_0 14 rfl rfl)
theorem dX5_rootsOf_17 : decode cX5_rootsOf 17 = .ok (.iconst 0, 1) := dk_3 (dk_at dksX5_rootsOf_0 17 rfl rfl)
theorem dX5_rootsOf_18 : decode cX5_rootsOf 18 = .ok (.iaload, 1) := dk_46 (dk_at dksX5_rootsOf_0 18 rfl rfl)
theorem dX5_rootsOf_19 : decode cX5_rootsOf 19 = .ok (.if_icmp .ge 30, 3) := dk_162 0 30 (dk_at dksX5_rootsOf_0 19 rfl rfl)
theorem dX5_rootsOf_22 : decode cX5_rootsOf 22 = .ok (.iload_n 2, 1) := dk_28 (dk_at dksX5_rootsOf_0 22 rfl rfl)
theorem dX5_rootsOf_23 : decode cX5_rootsOf 23 = .ok (.ifCond .le 26, 3) := dk_158 0 26 (dk_at dksX5_rootsOf_1 0 rfl rfl)
theorem dX5_rootsOf_26 : decode cX5_rootsOf 26 = .ok (.iload_n 3, 1) := dk_29 (dk_at dksX5_rootsOf_1 3 rfl rfl)
theorem dX5_rootsOf_27 : decode cX5_rootsOf 27 = .ok (.aload_n 0, 1) := dk_42 (dk_at dksX5_rootsOf_1 4 rfl rfl)
theorem dX5_rootsOf_28 : decode cX5_rootsOf 28 = .ok (.iload 4, 2) := dk_21 4 (dk_at dksX5_rootsOf_1 5 rfl rfl)
theorem dX5_rootsOf_30 : decode cX5_rootsOf 30 = .ok (.invokevirtual 270, 3) := dk_182 1 14 (dk_at dksX5_rootsOf_1 7 rfl rfl)
theorem dX5_rootsOf_33 : decode cX5_rootsOf 33 = .ok (.ifCond .ne 7, 3) := dk_154 0 7 (dk_at dksX5_rootsOf_1 10 rfl rfl)
theorem dX5_rootsOf_36 : decode cX5_rootsOf 36 = .ok (.iconst 1, 1) := dk_4 (dk_at dksX5_rootsOf_1 13 rfl rfl)
theorem dX5_rootsOf_37 : decode cX5_rootsOf 37 = .ok (.goto 4, 3) := dk_167 0 4 (dk_at dksX5_rootsOf_1 14 rfl rfl)
theorem dX5_rootsOf_40 : decode cX5_rootsOf 40 = .ok (.iconst 0, 1) := dk_3 (dk_at dksX5_rootsOf_1 17 rfl rfl)
theorem dX5_rootsOf_41 : decode cX5_rootsOf 41 = .ok (.iadd, 1) := dk_96 (dk_at dksX5_rootsOf_1 18 rfl rfl)
theorem dX5_rootsOf_42 : decode cX5_rootsOf 42 = .ok (.istore_n 3, 1) := dk_62 (dk_at dksX5_rootsOf_1 19 rfl rfl)
theorem dX5_rootsOf_43 : decode cX5_rootsOf 43 = .ok (.iinc 4 1, 3) := dk_132 4 1 (dk_at dksX5_rootsOf_1 20 rfl rfl)
theorem dX5_rootsOf_46 : decode cX5_rootsOf 46 = .ok (.goto (-35), 3) := dk_167 255 221 (dk_at dksX5_rootsOf_2 0 rfl rfl)
theorem dX5_rootsOf_49 : decode cX5_rootsOf 49 = .ok (.iload_n 3, 1) := dk_29 (dk_at dksX5_rootsOf_2 3 rfl rfl)
theorem dX5_rootsOf_50 : decode cX5_rootsOf 50 = .ok (.ireturn, 1) := dk_172 (dk_at dksX5_rootsOf_2 4 rfl rfl)
abbrev cX5_works : ByteArray := prog_12_method_65_code
def yX5_works : MethodName := ⟨RX5, "works", "(I)I"⟩
def dkwX5_works_9 : List UInt8 := [132, 7, 1, 167, 255, 195, 132, 4, 1, 167, 255, 89, 28, 172]
abbrev dktX5_works_9 : List UInt8 := dkwX5_works_9 ++ []
def dkwX5_works_8 : List UInt8 := [180, 0, 45, 21, 7, 46, 104, 100, 21, 6, 42, 180, 0, 42, 21, 7, 46, 104, 100, 182, 0, 199, 79]
abbrev dktX5_works_8 : List UInt8 := dkwX5_works_8 ++ dktX5_works_9
def dkwX5_works_7 : List UInt8 := [21, 7, 42, 21, 7, 154, 0, 7, 3, 167, 0, 12, 42, 180, 0, 45, 21, 7, 4, 100, 46, 21, 5, 42]
abbrev dktX5_works_7 : List UInt8 := dkwX5_works_7 ++ dktX5_works_8
def dkwX5_works_6 : List UInt8 := [21, 7, 46, 79, 132, 7, 1, 167, 255, 218, 3, 54, 7, 21, 7, 16, 9, 162, 0, 60, 42, 180, 0, 48]
abbrev dktX5_works_6 : List UInt8 := dkwX5_works_6 ++ dktX5_works_7
def dkwX5_works_5 : List UInt8 := [42, 180, 0, 42, 21, 7, 42, 180, 0, 45, 21, 7, 46, 79, 42, 180, 0, 45, 21, 7, 42, 180, 0, 48]
abbrev dktX5_works_5 : List UInt8 := dkwX5_works_5 ++ dktX5_works_6
def dkwX5_works_4 : List UInt8 := [29, 21, 4, 96, 4, 100, 182, 0, 205, 182, 0, 208, 54, 6, 3, 54, 7, 21, 7, 16, 9, 162, 0, 37]
abbrev dktX5_works_4 : List UInt8 := dkwX5_works_4 ++ dktX5_works_5
def dkwX5_works_3 : List UInt8 := [182, 1, 8, 54, 5, 21, 4, 154, 0, 7, 3, 167, 0, 25, 42, 42, 29, 21, 4, 96, 182, 0, 205, 42]
abbrev dktX5_works_3 : List UInt8 := dkwX5_works_3 ++ dktX5_works_4
def dkwX5_works_2 : List UInt8 := [132, 4, 1, 167, 255, 221, 3, 54, 4, 21, 4, 28, 162, 0, 167, 42, 29, 21, 4, 96, 29, 21, 4, 96]
abbrev dktX5_works_2 : List UInt8 := dkwX5_works_2 ++ dktX5_works_3
def dkwX5_works_1 : List UInt8 := [180, 0, 45, 21, 4, 3, 79, 42, 180, 0, 48, 21, 4, 21, 4, 154, 0, 7, 4, 167, 0, 4, 3, 79]
abbrev dktX5_works_1 : List UInt8 := dkwX5_works_1 ++ dktX5_works_2
def dkwX5_works_0 : List UInt8 := [42, 27, 182, 0, 231, 61, 42, 27, 182, 1, 5, 62, 3, 54, 4, 21, 4, 16, 9, 162, 0, 34, 42]
abbrev dktX5_works_0 : List UInt8 := dkwX5_works_0 ++ dktX5_works_1
theorem dksX5_works_0 : cX5_works.data.toList.drop 0 = dktX5_works_0 := by decide +kernel
theorem dksX5_works_1 : cX5_works.data.toList.drop 23 = dktX5_works_1 := dk_seg dksX5_works_0 23 rfl rfl
theorem dksX5_works_2 : cX5_works.data.toList.drop 47 = dktX5_works_2 := dk_seg dksX5_works_1 24 rfl rfl
theorem dksX5_works_3 : cX5_works.data.toList.drop 71 = dktX5_works_3 := dk_seg dksX5_works_2 24 rfl rfl
theorem dksX5_works_4 : cX5_works.data.toList.drop 95 = dktX5_works_4 := dk_seg dksX5_works_3 24 rfl rfl
theorem dksX5_works_5 : cX5_works.data.toList.drop 119 = dktX5_works_5 := dk_seg dksX5_works_4 24 rfl rfl
theorem dksX5_works_6 : cX5_works.data.toList.drop 143 = dktX5_works_6 := dk_seg dksX5_works_5 24 rfl rfl
theorem dksX5_works_7 : cX5_works.data.toList.drop 167 = dktX5_works_7 := dk_seg dksX5_works_6 24 rfl rfl
theorem dksX5_works_8 : cX5_works.data.toList.drop 191 = dktX5_works_8 := dk_seg dksX5_works_7 24 rfl rfl
theorem dksX5_works_9 : cX5_works.data.toList.drop 214 = dktX5_works_9 := dk_seg dksX5_works_8 23 rfl rfl
theorem dX5_works_0 : decode cX5_works 0 = .ok (.aload_n 0, 1) := dk_42 (dk_at dksX5_works_0 0 rfl rfl)
theorem dX5_works_1 : decode cX5_works 1 = .ok (.iload_n 1, 1) := dk_27 (dk_at dksX5_works_0 1 rfl rfl)
theorem dX5_works_2 : decode cX5_works 2 = .ok (.invokevirtual 231, 3) := dk_182 0 231 (dk_at dksX5_works_0 2 rfl rfl)
theorem dX5_works_5 : decode cX5_works 5 = .ok (.istore_n 2, 1) := dk_61 (dk_at dksX5_works_0 5 rfl rfl)
theorem dX5_works_6 : decode cX5_works 6 = .ok (.aload_n 0, 1) := dk_42 (dk_at dksX5_works_0 6 rfl rfl)
theorem dX5_works_7 : decode cX5_works 7 = .ok (.iload_n 1, 1) := dk_27 (dk_at dksX5_works_0 7 rfl rfl)
theorem dX5_works_8 : decode cX5_works 8 = .ok (.invokevirtual 261, 3) := dk_182 1 5 (dk_at dksX5_works_0 8 rfl rfl)
theorem dX5_works_11 : decode cX5_works 11 = .ok (.istore_n 3, 1) := dk_62 (dk_at dksX5_works_0 11 rfl rfl)
theorem dX5_works_12 : decode cX5_works 12 = .ok (.iconst 0, 1) := dk_3 (dk_at dksX5_works_0 12 rfl rfl)
theorem dX5_works_13 : decode cX5_works 13 = .ok (.istore 4, 2) := dk_54 4 (dk_at dksX5_works_0 13 rfl rfl)
theorem dX5_works_15 : decode cX5_works 15 = .ok (.iload 4, 2) := dk_21 4 (dk_at dksX5_works_0 15 rfl rfl)
theorem dX5_works_17 : decode cX5_works 17 = .ok (.bipush 9, 2) := dk_16 9 (dk_at dksX5_works_0 17 rfl rfl)
theorem dX5_works_19 : decode cX5_works 19 = .ok (.if_icmp .ge 34, 3) := dk_162 0 34 (dk_at dksX5_works_0 19 rfl rfl)
theorem dX5_works_22 : decode cX5_works 22 = .ok (.aload_n 0, 1) := dk_42 (dk_at dksX5_works_0 22 rfl rfl)
theorem dX5_works_23 : decode cX5_works 23 = .ok (.getfield 45, 3) := dk_180 0 45 (dk_at dksX5_works_1 0 rfl rfl)
theorem dX5_works_26 : decode cX5_works 26 = .ok (.iload 4, 2) := dk_21 4 (dk_at dksX5_works_1 3 rfl rfl)
theorem dX5_works_28 : decode cX5_works 28 = .ok (.iconst 0, 1) := dk_3 (dk_at dksX5_works_1 5 rfl rfl)
theorem dX5_works_29 : decode cX5_works 29 = .ok (.iastore, 1) := dk_79 (dk_at dksX5_works_1 6 rfl rfl)
theorem dX5_works_30 : decode cX5_works 30 = .ok (.aload_n 0, 1) := dk_42 (dk_at dksX5_works_1 7 rfl rfl)
theorem dX5_works_31 : decode cX5_works 31 = .ok (.getfield 48, 3) := dk_180 0 48 (dk_at dksX5_works_1 8 rfl rfl)
theorem dX5_works_34 : decode cX5_works 34 = .ok (.iload 4, 2) := dk_21 4 (dk_at dksX5_works_1 11 rfl rfl)
theorem dX5_works_36 : decode cX5_works 36 = .ok (.iload 4, 2) := dk_21 4 (dk_at dksX5_works_1 13 rfl rfl)
theorem dX5_works_38 : decode cX5_works 38 = .ok (.ifCond .ne 7, 3) := dk_154 0 7 (dk_at dksX5_works_1 15 rfl rfl)
theorem dX5_works_41 : decode cX5_works 41 = .ok (.iconst 1, 1) := dk_4 (dk_at dksX5_works_1 18 rfl rfl)
theorem dX5_works_42 : decode cX5_works 42 = .ok (.goto 4, 3) := dk_167 0 4 (dk_at dksX5_works_1 19 rfl rfl)
theorem dX5_works_45 : decode cX5_works 45 = .ok (.iconst 0, 1) := dk_3 (dk_at dksX5_works_1 22 rfl rfl)
theorem dX5_works_46 : decode cX5_works 46 = .ok (.iastore, 1) := dk_79 (dk_at dksX5_works_1 23 rfl rfl)
theorem dX5_works_47 : decode cX5_works 47 = .ok (.iinc 4 1, 3) := dk_132 4 1 (dk_at dksX5_works_2 0 rfl rfl)
theorem dX5_works_50 : decode cX5_works 50 = .ok (.goto (-35), 3) := dk_167 255 221 (dk_at dksX5_works_2 3 rfl rfl)
theorem dX5_works_53 : decode cX5_works 53 = .ok (.iconst 0, 1) := dk_3 (dk_at dksX5_works_2 6 rfl rfl)
theorem dX5_works_54 : decode cX5_works 54 = .ok (.istore 4, 2) := dk_54 4 (dk_at dksX5_works_2 7 rfl rfl)
theorem dX5_works_56 : decode cX5_works 56 = .ok (.iload 4, 2) := dk_21 4 (dk_at dksX5_works_2 9 rfl rfl)
theorem dX5_works_58 : decode cX5_works 58 = .ok (.iload_n 2, 1) := dk_28 (dk_at dksX5_works_2 11 rfl rfl)
theorem dX5_works_59 : decode cX5_works 59 = .ok (.if_icmp .ge 167, 3) := dk_162 0 167 (dk_at dksX5_works_2 12 rfl rfl)
theorem dX5_works_62 : decode cX5_works 62 = .ok (.aload_n 0, 1) := dk_42 (dk_at dksX5_works_2 15 rfl rfl)
theorem dX5_works_63 : decode cX5_works 63 = .ok (.iload_n 3, 1) := dk_29 (dk_at dksX5_works_2 16 rfl rfl)
theorem dX5_works_64 : decode cX5_works 64 = .ok (.iload 4, 2) := dk_21 4 (dk_at dksX5_works_2 17 rfl rfl)
theorem dX5_works_66 : decode cX5_works 66 = .ok (.iadd, 1) := dk_96 (dk_at dksX5_works_2 19 rfl rfl)
theorem dX5_works_67 : decode cX5_works 67 = .ok (.iload_n 3, 1) := dk_29 (dk_at dksX5_works_2 20 rfl rfl)
theorem dX5_works_68 : decode cX5_works 68 = .ok (.iload 4, 2) := dk_21 4 (dk_at dksX5_works_2 21 rfl rfl)
theorem dX5_works_70 : decode cX5_works 70 = .ok (.iadd, 1) := dk_96 (dk_at dksX5_works_2 23 rfl rfl)
theorem dX5_works_71 : decode cX5_works 71 = .ok (.invokevirtual 264, 3) := dk_182 1 8 (dk_at dksX5_works_3 0 rfl rfl)
theorem dX5_works_74 : decode cX5_works 74 = .ok (.istore 5, 2) := dk_54 5 (dk_at dksX5_works_3 3 rfl rfl)
theorem dX5_works_76 : decode cX5_works 76 = .ok (.iload 4, 2) := dk_21 4 (dk_at dksX5_works_3 5 rfl rfl)
theorem dX5_works_78 : decode cX5_works 78 = .ok (.ifCond .ne 7, 3) := dk_154 0 7 (dk_at dksX5_works_3 7 rfl rfl)
theorem dX5_works_81 : decode cX5_works 81 = .ok (.iconst 0, 1) := dk_3 (dk_at dksX5_works_3 10 rfl rfl)
theorem dX5_works_82 : decode cX5_works 82 = .ok (.goto 25, 3) := dk_167 0 25 (dk_at dksX5_works_3 11 rfl rfl)
theorem dX5_works_85 : decode cX5_works 85 = .ok (.aload_n 0, 1) := dk_42 (dk_at dksX5_works_3 14 rfl rfl)
theorem dX5_works_86 : decode cX5_works 86 = .ok (.aload_n 0, 1) := dk_42 (dk_at dksX5_works_3 15 rfl rfl)
theorem dX5_works_87 : decode cX5_works 87 = .ok (.iload_n 3, 1) := dk_29 (dk_at dksX5_works_3 16 rfl rfl)
theorem dX5_works_88 : decode cX5_works 88 = .ok (.iload 4, 2) := dk_21 4 (dk_at dksX5_works_3 17 rfl rfl)
theorem dX5_works_90 : decode cX5_works 90 = .ok (.iadd, 1) := dk_96 (dk_at dksX5_works_3 19 rfl rfl)
theorem dX5_works_91 : decode cX5_works 91 = .ok (.invokevirtual 205, 3) := dk_182 0 205 (dk_at dksX5_works_3 20 rfl rfl)
theorem dX5_works_94 : decode cX5_works 94 = .ok (.aload_n 0, 1) := dk_42 (dk_at dksX5_works_3 23 rfl rfl)
theorem dX5_works_95 : decode cX5_works 95 = .ok (.iload_n 3, 1) := dk_29 (dk_at dksX5_works_4 0 rfl rfl)
theorem dX5_works_96 : decode cX5_works 96 = .ok (.iload 4, 2) := dk_21 4 (dk_at dksX5_works_4 1 rfl rfl)
theorem dX5_works_98 : decode cX5_works 98 = .ok (.iadd, 1) := dk_96 (dk_at dksX5_works_4 3 rfl rfl)
theorem dX5_works_99 : decode cX5_works 99 = .ok (.iconst 1, 1) := dk_4 (dk_at dksX5_works_4 4 rfl rfl)
theorem dX5_works_100 : decode cX5_works 100 = .ok (.isub, 1) := dk_100 (dk_at dksX5_works_4 5 rfl rfl)
theorem dX5_works_101 : decode cX5_works 101 = .ok (.invokevirtual 205, 3) := dk_182 0 205 (dk_at dksX5_works_4 6 rfl rfl)
theorem dX5_works_104 : decode cX5_works 104 = .ok (.invokevirtual 208, 3) := dk_182 0 208 (dk_at dksX5_works_4 9 rfl rfl)
theorem dX5_works_107 : decode cX5_works 107 = .ok (.istore 6, 2) := dk_54 6 (dk_at dksX5_works_4 12 rfl rfl)
theorem dX5_works_109 : decode cX5_works 109 = .ok (.iconst 0, 1) := dk_3 (dk_at dksX5_works_4 14 rfl rfl)
theorem dX5_works_110 : decode cX5_works 110 = .ok (.istore 7, 2) := dk_54 7 (dk_at dksX5_works_4 15 rfl rfl)
theorem dX5_works_112 : decode cX5_works 112 = .ok (.iload 7, 2) := dk_21 7 (dk_at dksX5_works_4 17 rfl rfl)
theorem dX5_works_114 : decode cX5_works 114 = .ok (.bipush 9, 2) := dk_16 9 (dk_at dksX5_works_4 19 rfl rfl)
theorem dX5_works_116 : decode cX5_works 116 = .ok (.if_icmp .ge 37, 3) := dk_162 0 37 (dk_at dksX5_works_4 21 rfl rfl)
theorem dX5_works_119 : decode cX5_works 119 = .ok (.aload_n 0, 1) := dk_42 (dk_at dksX5_works_5 0 rfl rfl)
theorem dX5_works_120 : decode cX5_works 120 = .ok (.getfield 42, 3) := dk_180 0 42 (dk_at dksX5_works_5 1 rfl rfl)
theorem dX5_works_123 : decode cX5_works 123 = .ok (.iload 7, 2) := dk_21 7 (dk_at dksX5_works_5 4 rfl rfl)
theorem dX5_works_125 : decode cX5_works 125 = .ok (.aload_n 0, 1) := dk_42 (dk_at dksX5_works_5 6 rfl rfl)
theorem dX5_works_126 : decode cX5_works 126 = .ok (.getfield 45, 3) := dk_180 0 45 (dk_at dksX5_works_5 7 rfl rfl)
theorem dX5_works_129 : decode cX5_works 129 = .ok (.iload 7, 2) := dk_21 7 (dk_at dksX5_works_5 10 rfl rfl)
theorem dX5_works_131 : decode cX5_works 131 = .ok (.iaload, 1) := dk_46 (dk_at dksX5_works_5 12 rfl rfl)
theorem dX5_works_132 : decode cX5_works 132 = .ok (.iastore, 1) := dk_79 (dk_at dksX5_works_5 13 rfl rfl)
theorem dX5_works_133 : decode cX5_works 133 = .ok (.aload_n 0, 1) := dk_42 (dk_at dksX5_works_5 14 rfl rfl)
theorem dX5_works_134 : decode cX5_works 134 = .ok (.getfield 45, 3) := dk_180 0 45 (dk_at dksX5_works_5 15 rfl rfl)
theorem dX5_works_137 : decode cX5_works 137 = .ok (.iload 7, 2) := dk_21 7 (dk_at dksX5_works_5 18 rfl rfl)
theorem dX5_works_139 : decode cX5_works 139 = .ok (.aload_n 0, 1) := dk_42 (dk_at dksX5_works_5 20 rfl rfl)
theorem dX5_works_140 : decode cX5_works 140 = .ok (.getfield 48, 3) := dk_180 0 48 (dk_at dksX5_works_5 21 rfl rfl)
theorem dX5_works_143 : decode cX5_works 143 = .ok (.iload 7, 2) := dk_21 7 (dk_at dksX5_works_6 0 rfl rfl)
theorem dX5_works_145 : decode cX5_works 145 = .ok (.iaload, 1) := dk_46 (dk_at dksX5_works_6 2 rfl rfl)
theorem dX5_works_146 : decode cX5_works 146 = .ok (.iastore, 1) := dk_79 (dk_at dksX5_works_6 3 rfl rfl)
theorem dX5_works_147 : decode cX5_works 147 = .ok (.iinc 7 1, 3) := dk_132 7 1 (dk_at dksX5_works_6 4 rfl rfl)
theorem dX5_works_150 : decode cX5_works 150 = .ok (.goto (-38), 3) := dk_167 255 218 (dk_at dksX5_works_6 7 rfl rfl)
theorem dX5_works_153 : decode cX5_works 153 = .ok (.iconst 0, 1) := dk_3 (dk_at dksX5_works_6 10 rfl rfl)
theorem dX5_works_154 : decode cX5_works 154 = .ok (.istore 7, 2) := dk_54 7 (dk_at dksX5_works_6 11 rfl rfl)
theorem dX5_works_156 : decode cX5_works 156 = .ok (.iload 7, 2) := dk_21 7 (dk_at dksX5_works_6 13 rfl rfl)
theorem dX5_works_158 : decode cX5_works 158 = .ok (.bipush 9, 2) := dk_16 9 (dk_at dksX5_works_6 15 rfl rfl)
theorem dX5_works_160 : decode cX5_works 160 = .ok (.if_icmp .ge 60, 3) := dk_162 0 60 (dk_at dksX5_works_6 17 rfl rfl)
theorem dX5_works_163 : decode cX5_works 163 = .ok (.aload_n 0, 1) := dk_42 (dk_at dksX5_works_6 20 rfl rfl)
theorem dX5_works_164 : decode cX5_works 164 = .ok (.getfield 48, 3) := dk_180 0 48 (dk_at dksX5_works_6 21 rfl rfl)
theorem dX5_works_167 : decode cX5_works 167 = .ok (.iload 7, 2) := dk_21 7 (dk_at dksX5_works_7 0 rfl rfl)
theorem dX5_works_169 : decode cX5_works 169 = .ok (.aload_n 0, 1) := dk_42 (dk_at dksX5_works_7 2 rfl rfl)
theorem dX5_works_170 : decode cX5_works 170 = .ok (.iload 7, 2) := dk_21 7 (dk_at dksX5_works_7 3 rfl rfl)
theorem dX5_works_172 : decode cX5_works 172 = .ok (.ifCond .ne 7, 3) := dk_154 0 7 (dk_at dksX5_works_7 5 rfl rfl)
theorem dX5_works_175 : decode cX5_works 175 = .ok (.iconst 0, 1) := dk_3 (dk_at dksX5_works_7 8 rfl rfl)
theorem dX5_works_176 : decode cX5_works 176 = .ok (.goto 12, 3) := dk_167 0 12 (dk_at dksX5_works_7 9 rfl rfl)
theorem dX5_works_179 : decode cX5_works 179 = .ok (.aload_n 0, 1) := dk_42 (dk_at dksX5_works_7 12 rfl rfl)
theorem dX5_works_180 : decode cX5_works 180 = .ok (.getfield 45, 3) := dk_180 0 45 (dk_at dksX5_works_7 13 rfl rfl)
theorem dX5_works_183 : decode cX5_works 183 = .ok (.iload 7, 2) := dk_21 7 (dk_at dksX5_works_7 16 rfl rfl)
theorem dX5_works_185 : decode cX5_works 185 = .ok (.iconst 1, 1) := dk_4 (dk_at dksX5_works_7 18 rfl rfl)
theorem dX5_works_186 : decode cX5_works 186 = .ok (.isub, 1) := dk_100 (dk_at dksX5_works_7 19 rfl rfl)
theorem dX5_works_187 : decode cX5_works 187 = .ok (.iaload, 1) := dk_46 (dk_at dksX5_works_7 20 rfl rfl)
theorem dX5_works_188 : decode cX5_works 188 = .ok (.iload 5, 2) := dk_21 5 (dk_at dksX5_works_7 21 rfl rfl)
theorem dX5_works_190 : decode cX5_works 190 = .ok (.aload_n 0, 1) := dk_42 (dk_at dksX5_works_7 23 rfl rfl)
theorem dX5_works_191 : decode cX5_works 191 = .ok (.getfield 45, 3) := dk_180 0 45 (dk_at dksX5_works_8 0 rfl rfl)
theorem dX5_works_194 : decode cX5_works 194 = .ok (.iload 7, 2) := dk_21 7 (dk_at dksX5_works_8 3 rfl rfl)
theorem dX5_works_196 : decode cX5_works 196 = .ok (.iaload, 1) := dk_46 (dk_at dksX5_works_8 5 rfl rfl)
theorem dX5_works_197 : decode cX5_works 197 = .ok (.imul, 1) := dk_104 (dk_at dksX5_works_8 6 rfl rfl)
theorem dX5_works_198 : decode cX5_works 198 = .ok (.isub, 1) := dk_100 (dk_at dksX5_works_8 7 rfl rfl)
theorem dX5_works_199 : decode cX5_works 199 = .ok (.iload 6, 2) := dk_21 6 (dk_at dksX5_works_8 8 rfl rfl)
theorem dX5_works_201 : decode cX5_works 201 = .ok (.aload_n 0, 1) := dk_42 (dk_at dksX5_works_8 10 rfl rfl)
theorem dX5_works_202 : decode cX5_works 202 = .ok (.getfield 42, 3) := dk_180 0 42 (dk_at dksX5_works_8 11 rfl rfl)
theorem dX5_works_205 : decode cX5_works 205 = .ok (.iload 7, 2) := dk_21 7 (dk_at dksX5_works_8 14 rfl rfl)
theorem dX5_works_207 : decode cX5_works 207 = .ok (.iaload, 1) := dk_46 (dk_at dksX5_works_8 16 rfl rfl)
theorem dX5_works_208 : decode cX5_works 208 = .ok (.imul, 1) := dk_104 (dk_at dksX5_works_8 17 rfl rfl)
theorem dX5_works_209 : decode cX5_works 209 = .ok (.isub, 1) := dk_100 (dk_at dksX5_works_8 18 rfl rfl)
theorem dX5_works_210 : decode cX5_works 210 = .ok (.invokevirtual 199, 3) := dk_182 0 199 (dk_at dksX5_works_8 19 rfl rfl)
theorem dX5_works_213 : decode cX5_works 213 = .ok (.iastore, 1) := dk_79 (dk_at dksX5_works_8 22 rfl rfl)
theorem dX5_works_214 : decode cX5_works 214 = .ok (.iinc 7 1, 3) := dk_132 7 1 (dk_at dksX5_works_9 0 rfl rfl)
theorem dX5_works_217 : decode cX5_works 217 = .ok (.goto (-61), 3) := dk_167 255 195 (dk_at dksX5_works_9 3 rfl rfl)
theorem dX5_works_220 : decode cX5_works 220 = .ok (.iinc 4 1, 3) := dk_132 4 1 (dk_at dksX5_works_9 6 rfl rfl)
theorem dX5_works_223 : decode cX5_works 223 = .ok (.goto (-167), 3) := dk_167 255 89 (dk_at dksX5_works_9 9 rfl rfl)
theorem dX5_works_226 : decode cX5_works 226 = .ok (.iload_n 2, 1) := dk_28 (dk_at dksX5_works_9 12 rfl rfl)
theorem dX5_works_227 : decode cX5_works 227 = .ok (.ireturn, 1) := dk_172 (dk_at dksX5_works_9 13 rfl rfl)
abbrev cX5_projectedOf : ByteArray := prog_12_method_64_code
def yX5_projectedOf : MethodName := ⟨RX5, "projectedOf", "(II)I"⟩
def dkwX5_projectedOf_1 : List UInt8 := [180, 0, 36, 28, 182, 0, 211, 172]
abbrev dktX5_projectedOf_1 : List UInt8 := dkwX5_projectedOf_1 ++ []
def dkwX5_projectedOf_0 : List UInt8 := [42, 27, 42, 180, 0, 33, 182, 0, 219, 42, 42, 180, 0, 33, 42, 180, 0, 36, 182, 0, 223, 42, 42]
abbrev dktX5_projectedOf_0 : List UInt8 := dkwX5_projectedOf_0 ++ dktX5_projectedOf_1
theorem dksX5_projectedOf_0 : cX5_projectedOf.data.toList.drop 0 = dktX5_projectedOf_0 := by decide +kernel
theorem dksX5_projectedOf_1 : cX5_projectedOf.data.toList.drop 23 = dktX5_projectedOf_1 := dk_seg dksX5_projectedOf_0 23 rfl rfl
theorem dX5_projectedOf_0 : decode cX5_projectedOf 0 = .ok (.aload_n 0, 1) := dk_42 (dk_at dksX5_projectedOf_0 0 rfl rfl)
theorem dX5_projectedOf_1 : decode cX5_projectedOf 1 = .ok (.iload_n 1, 1) := dk_27 (dk_at dksX5_projectedOf_0 1 rfl rfl)
theorem dX5_projectedOf_2 : decode cX5_projectedOf 2 = .ok (.aload_n 0, 1) := dk_42 (dk_at dksX5_projectedOf_0 2 rfl rfl)
theorem dX5_projectedOf_3 : decode cX5_projectedOf 3 = .ok (.getfield 33, 3) := dk_180 0 33 (dk_at dksX5_projectedOf_0 3 rfl rfl)
theorem dX5_projectedOf_6 : decode cX5_projectedOf 6 = .ok (.invokevirtual 219, 3) := dk_182 0 219 (dk_at dksX5_projectedOf_0 6 rfl rfl)
theorem dX5_projectedOf_9 : decode cX5_projectedOf 9 = .ok (.aload_n 0, 1) := dk_42 (dk_at dksX5_projectedOf_0 9 rfl rfl)
theorem dX5_projectedOf_10 : decode cX5_projectedOf 10 = .ok (.aload_n 0, 1) := dk_42 (dk_at dksX5_projectedOf_0 10 rfl rfl)
theorem dX5_projectedOf_11 : decode cX5_projectedOf 11 = .ok (.getfield 33, 3) := dk_180 0 33 (dk_at dksX5_projectedOf_0 11 rfl rfl)
theorem dX5_projectedOf_14 : decode cX5_projectedOf 14 = .ok (.aload_n 0, 1) := dk_42 (dk_at dksX5_projectedOf_0 14 rfl rfl)
theorem dX5_projectedOf_15 : decode cX5_projectedOf 15 = .ok (.getfield 36, 3) := dk_180 0 36 (dk_at dksX5_projectedOf_0 15 rfl rfl)
theorem dX5_projectedOf_18 : decode cX5_projectedOf 18 = .ok (.invokevirtual 223, 3) := dk_182 0 223 (dk_at dksX5_projectedOf_0 18 rfl rfl)
theorem dX5_projectedOf_21 : decode cX5_projectedOf 21 = .ok (.aload_n 0, 1) := dk_42 (dk_at dksX5_projectedOf_0 21 rfl rfl)
theorem dX5_projectedOf_22 : decode cX5_projectedOf 22 = .ok (.aload_n 0, 1) := dk_42 (dk_at dksX5_projectedOf_0 22 rfl rfl)
theorem dX5_projectedOf_23 : decode cX5_projectedOf 23 = .ok (.getfield 36, 3) := dk_180 0 36 (dk_at dksX5_projectedOf_1 0 rfl rfl)
theorem dX5_projectedOf_26 : decode cX5_projectedOf 26 = .ok (.iload_n 2, 1) := dk_28 (dk_at dksX5_projectedOf_1 3 rfl rfl)
theorem dX5_projectedOf_27 : decode cX5_projectedOf 27 = .ok (.invokevirtual 211, 3) := dk_182 0 211 (dk_at dksX5_projectedOf_1 4 rfl rfl)
theorem dX5_projectedOf_30 : decode cX5_projectedOf 30 = .ok (.ireturn, 1) := dk_172 (dk_at dksX5_projectedOf_1 7 rfl rfl)
abbrev cX5_valueAt : ByteArray := prog_12_method_66_code
def yX5_valueAt : MethodName := ⟨RX5, "valueAt", "(I)I"⟩
def dkwX5_valueAt_1 : List UInt8 := [46, 112, 61, 132, 3, 255, 167, 255, 231, 28, 172]
abbrev dktX5_valueAt_1 : List UInt8 := dkwX5_valueAt_1 ++ []
def dkwX5_valueAt_0 : List UInt8 := [3, 61, 16, 8, 62, 29, 155, 0, 27, 28, 27, 104, 42, 180, 0, 48, 29, 46, 96, 42, 180, 0, 7, 3]
abbrev dktX5_valueAt_0 : List UInt8 := dkwX5_valueAt_0 ++ dktX5_valueAt_1
theorem dksX5_valueAt_0 : cX5_valueAt.data.toList.drop 0 = dktX5_valueAt_0 := by decide +kernel
theorem dksX5_valueAt_1 : cX5_valueAt.data.toList.drop 24 = dktX5_valueAt_1 := dk_seg dksX5_valueAt_0 24 rfl rfl
theorem dX5_valueAt_0 : decode cX5_valueAt 0 = .ok (.iconst 0, 1) := dk_3 (dk_at dksX5_valueAt_0 0 rfl rfl)
theorem dX5_valueAt_1 : decode cX5_valueAt 1 = .ok (.istore_n 2, 1) := dk_61 (dk_at dksX5_valueAt_0 1 rfl rfl)
theorem dX5_valueAt_2 : decode cX5_valueAt 2 = .ok (.bipush 8, 2) := dk_16 8 (dk_at dksX5_valueAt_0 2 rfl rfl)
theorem dX5_valueAt_4 : decode cX5_valueAt 4 = .ok (.istore_n 3, 1) := dk_62 (dk_at dksX5_valueAt_0 4 rfl rfl)
theorem dX5_valueAt_5 : decode cX5_valueAt 5 = .ok (.iload_n 3, 1) := dk_29 (dk_at dksX5_valueAt_0 5 rfl rfl)
theorem dX5_valueAt_6 : decode cX5_valueAt 6 = .ok (.ifCond .lt 27, 3) := dk_155 0 27 (dk_at dksX5_valueAt_0 6 rfl rfl)
theorem dX5_valueAt_9 : decode cX5_valueAt 9 = .ok (.iload_n 2, 1) := dk_28 (dk_at dksX5_valueAt_0 9 rfl rfl)
theorem dX5_valueAt_10 : decode cX5_valueAt 10 = .ok (.iload_n 1, 1) := dk_27 (dk_at dksX5_valueAt_0 10 rfl rfl)
theorem dX5_valueAt_11 : decode cX5_valueAt 11 = .ok (.imul, 1) := dk_104 (dk_at dksX5_valueAt_0 11 rfl rfl)
theorem dX5_valueAt_12 : decode cX5_valueAt 12 = .ok (.aload_n 0, 1) := dk_42 (dk_at dksX5_valueAt_0 12 rfl rfl)
theorem dX5_valueAt_13 : decode cX5_valueAt 13 = .ok (.getfield 48, 3) := dk_180 0 48 (dk_at dksX5_valueAt_0 13 rfl rfl)
theorem dX5_valueAt_16 : decode cX5_valueAt 16 = .ok (.iload_n 3, 1) := dk_29 (dk_at dksX5_valueAt_0 16 rfl rfl)
theorem dX5_valueAt_17 : decode cX5_valueAt 17 = .ok (.iaload, 1) := dk_46 (dk_at dksX5_valueAt_0 17 rfl rfl)
theorem dX5_valueAt_18 : decode cX5_valueAt 18 = .ok (.iadd, 1) := dk_96 (dk_at dksX5_valueAt_0 18 rfl rfl)
theorem dX5_valueAt_19 : decode cX5_valueAt 19 = .ok (.aload_n 0, 1) := dk_42 (dk_at dksX5_valueAt_0 19 rfl rfl)
theorem dX5_valueAt_20 : decode cX5_valueAt 20 = .ok (.getfield 7, 3) := dk_180 0 7 (dk_at dksX5_valueAt_0 20 rfl rfl)
theorem dX5_valueAt_23 : decode cX5_valueAt 23 = .ok (.iconst 0, 1) := dk_3 (dk_at dksX5_valueAt_0 23 rfl rfl)
theorem dX5_valueAt_24 : decode cX5_valueAt 24 = .ok (.iaload, 1) := dk_46 (dk_at dksX5_valueAt_1 0 rfl rfl)
theorem dX5_valueAt_25 : decode cX5_valueAt 25 = .ok (.irem, 1) := dk_112 (dk_at dksX5_valueAt_1 1 rfl rfl)
theorem dX5_valueAt_26 : decode cX5_valueAt 26 = .ok (.istore_n 2, 1) := dk_61 (dk_at dksX5_valueAt_1 2 rfl rfl)
theorem dX5_valueAt_27 : decode cX5_valueAt 27 = .ok (.iinc 3 (-1), 3) := dk_132 3 255 (dk_at dksX5_valueAt_1 3 rfl rfl)
theorem dX5_valueAt_30 : decode cX5_valueAt 30 = .ok (.goto (-25), 3) := dk_167 255 231 (dk_at dksX5_valueAt_1 6 rfl rfl)
theorem dX5_valueAt_33 : decode cX5_valueAt 33 = .ok (.iload_n 2, 1) := dk_28 (dk_at dksX5_valueAt_1 9 rfl rfl)
theorem dX5_valueAt_34 : decode cX5_valueAt 34 = .ok (.ireturn, 1) := dk_172 (dk_at dksX5_valueAt_1 10 rfl rfl)
abbrev cX5_polynomial : ByteArray := prog_12_method_70_code
def yX5_polynomial : MethodName := ⟨RX5, "polynomial", "(II)I"⟩
def dkwX5_polynomial_2 : List UInt8 := [181, 1, 2, 42, 28, 182, 1, 14, 172]
abbrev dktX5_polynomial_2 : List UInt8 := dkwX5_polynomial_2 ++ []
def dkwX5_polynomial_1 : List UInt8 := [167, 0, 4, 5, 181, 0, 65, 42, 180, 0, 65, 158, 0, 5, 3, 172, 42, 42, 27, 182, 1, 11]
abbrev dktX5_polynomial_1 : List UInt8 := dkwX5_polynomial_1 ++ dktX5_polynomial_2
def dkwX5_polynomial_0 : List UInt8 := [42, 42, 27, 182, 1, 17, 154, 0, 7, 4, 167, 0, 16, 42, 28, 182, 0, 187, 153, 0, 7, 3]
abbrev dktX5_polynomial_0 : List UInt8 := dkwX5_polynomial_0 ++ dktX5_polynomial_1
theorem dksX5_polynomial_0 : cX5_polynomial.data.toList.drop 0 = dktX5_polynomial_0 := by decide +kernel
theorem dksX5_polynomial_1 : cX5_polynomial.data.toList.drop 22 = dktX5_polynomial_1 := dk_seg dksX5_polynomial_0 22 rfl rfl
theorem dksX5_polynomial_2 : cX5_polynomial.data.toList.drop 44 = dktX5_polynomial_2 := dk_seg dksX5_polynomial_1 22 rfl rfl
theorem dX5_polynomial_0 : decode cX5_polynomial 0 = .ok (.aload_n 0, 1) := dk_42 (dk_at dksX5_polynomial_0 0 rfl rfl)
theorem dX5_polynomial_1 : decode cX5_polynomial 1 = .ok (.aload_n 0, 1) := dk_42 (dk_at dksX5_polynomial_0 1 rfl rfl)
theorem dX5_polynomial_2 : decode cX5_polynomial 2 = .ok (.iload_n 1, 1) := dk_27 (dk_at dksX5_polynomial_0 2 rfl rfl)
theorem dX5_polynomial_3 : decode cX5_polynomial 3 = .ok (.invokevirtual 273, 3) := dk_182 1 17 (dk_at dksX5_polynomial_0 3 rfl rfl)
theorem dX5_polynomial_6 : decode cX5_polynomial 6 = .ok (.ifCond .ne 7, 3) := dk_154 0 7 (dk_at dksX5_polynomial_0 6 rfl rfl)
theorem dX5_polynomial_9 : decode cX5_polynomial 9 = .ok (.iconst 1, 1) := dk_4 (dk_at dksX5_polynomial_0 9 rfl rfl)
theorem dX5_polynomial_10 : decode cX5_polynomial 10 = .ok (.goto 16, 3) := dk_167 0 16 (dk_at dksX5_polynomial_0 10 rfl rfl)
theorem dX5_polynomial_13 : decode cX5_polynomial 13 = .ok (.aload_n 0, 1) := dk_42 (dk_at dksX5_polynomial_0 13 rfl rfl)
theorem dX5_polynomial_14 : decode cX5_polynomial 14 = .ok (.iload_n 2, 1) := dk_28 (dk_at dksX5_polynomial_0 14 rfl rfl)
theorem dX5_polynomial_15 : decode cX5_polynomial 15 = .ok (.invokevirtual 187, 3) := dk_182 0 187 (dk_at dksX5_polynomial_0 15 rfl rfl)
theorem dX5_polynomial_18 : decode cX5_polynomial 18 = .ok (.ifCond .eq 7, 3) := dk_153 0 7 (dk_at dksX5_polynomial_0 18 rfl rfl)
theorem dX5_polynomial_21 : decode cX5_polynomial 21 = .ok (.iconst 0, 1) := dk_3 (dk_at dksX5_polynomial_0 21 rfl rfl)
theorem dX5_polynomial_22 : decode cX5_polynomial 22 = .ok (.goto 4, 3) := dk_167 0 4 (dk_at dksX5_polynomial_1 0 rfl rfl)
theorem dX5_polynomial_25 : decode cX5_polynomial 25 = .ok (.iconst 2, 1) := dk_5 (dk_at dksX5_polynomial_1 3 rfl rfl)
theorem dX5_polynomial_26 : decode cX5_polynomial 26 = .ok (.putfield 65, 3) := dk_181 0 65 (dk_at dksX5_polynomial_1 4 rfl rfl)
theorem dX5_polynomial_29 : decode cX5_polynomial 29 = .ok (.aload_n 0, 1) := dk_42 (dk_at dksX5_polynomial_1 7 rfl rfl)
theorem dX5_polynomial_30 : decode cX5_polynomial 30 = .ok (.getfield 65, 3) := dk_180 0 65 (dk_at dksX5_polynomial_1 8 rfl rfl)
theorem dX5_polynomial_33 : decode cX5_polynomial 33 = .ok (.ifCond .le 5, 3) := dk_158 0 5 (dk_at dksX5_polynomial_1 11 rfl rfl)
theorem dX5_polynomial_36 : decode cX5_polynomial 36 = .ok (.iconst 0, 1) := dk_3 (dk_at dksX5_polynomial_1 14 rfl rfl)
theorem dX5_polynomial_37 : decode cX5_polynomial 37 = .ok (.ireturn, 1) := dk_172 (dk_at dksX5_polynomial_1 15 rfl rfl)
theorem dX5_polynomial_38 : decode cX5_polynomial 38 = .ok (.aload_n 0, 1) := dk_42 (dk_at dksX5_polynomial_1 16 rfl rfl)
theorem dX5_polynomial_39 : decode cX5_polynomial 39 = .ok (.aload_n 0, 1) := dk_42 (dk_at dksX5_polynomial_1 17 rfl rfl)
theorem dX5_polynomial_40 : decode cX5_polynomial 40 = .ok (.iload_n 1, 1) := dk_27 (dk_at dksX5_polynomial_1 18 rfl rfl)
theorem dX5_polynomial_41 : decode cX5_polynomial 41 = .ok (.invokevirtual 267, 3) := dk_182 1 11 (dk_at dksX5_polynomial_1 19 rfl rfl)
theorem dX5_polynomial_44 : decode cX5_polynomial 44 = .ok (.putfield 258, 3) := dk_181 1 2 (dk_at dksX5_polynomial_2 0 rfl rfl)
theorem dX5_polynomial_47 : decode cX5_polynomial 47 = .ok (.aload_n 0, 1) := dk_42 (dk_at dksX5_polynomial_2 3 rfl rfl)
theorem dX5_polynomial_48 : decode cX5_polynomial 48 = .ok (.iload_n 2, 1) := dk_28 (dk_at dksX5_polynomial_2 4 rfl rfl)
theorem dX5_polynomial_49 : decode cX5_polynomial 49 = .ok (.invokevirtual 270, 3) := dk_182 1 14 (dk_at dksX5_polynomial_2 5 rfl rfl)
theorem dX5_polynomial_52 : decode cX5_polynomial 52 = .ok (.ireturn, 1) := dk_172 (dk_at dksX5_polynomial_2 8 rfl rfl)
abbrev cX5_coefficient : ByteArray := prog_12_method_71_code
def yX5_coefficient : MethodName := ⟨RX5, "coefficient", "(II)I"⟩
def dkwX5_coefficient_2 : List UInt8 := [182, 1, 11, 181, 1, 2, 42, 180, 0, 48, 28, 46, 172]
abbrev dktX5_coefficient_2 : List UInt8 := dkwX5_coefficient_2 ++ []
def dkwX5_coefficient_1 : List UInt8 := [153, 0, 7, 3, 167, 0, 4, 5, 181, 0, 65, 42, 180, 0, 65, 158, 0, 5, 3, 172, 42, 42, 27]
abbrev dktX5_coefficient_1 : List UInt8 := dkwX5_coefficient_1 ++ dktX5_coefficient_2
def dkwX5_coefficient_0 : List UInt8 := [42, 42, 27, 182, 1, 17, 154, 0, 7, 4, 167, 0, 21, 28, 3, 42, 27, 182, 0, 231, 184, 0, 71]
abbrev dktX5_coefficient_0 : List UInt8 := dkwX5_coefficient_0 ++ dktX5_coefficient_1
theorem dksX5_coefficient_0 : cX5_coefficient.data.toList.drop 0 = dktX5_coefficient_0 := by decide +kernel
theorem dksX5_coefficient_1 : cX5_coefficient.data.toList.drop 23 = dktX5_coefficient_1 := dk_seg dksX5_coefficient_0 23 rfl rfl
theorem dksX5_coefficient_2 : cX5_coefficient.data.toList.drop 46 = dktX5_coefficient_2 := dk_seg dksX5_coefficient_1 23 rfl rfl
theorem dX5_coefficient_0 : decode cX5_coefficient 0 = .ok (.aload_n 0, 1) := dk_42 (dk_at dksX5_coefficient_0 0 rfl rfl)
theorem dX5_coefficient_1 : decode cX5_coefficient 1 = .ok (.aload_n 0, 1) := dk_42 (dk_at dksX5_coefficient_0 1 rfl rfl)
theorem dX5_coefficient_2 : decode cX5_coefficient 2 = .ok (.iload_n 1, 1) := dk_27 (dk_at dksX5_coefficient_0 2 rfl rfl)
theorem dX5_coefficient_3 : decode cX5_coefficient 3 = .ok (.invokevirtual 273, 3) := dk_182 1 17 (dk_at dksX5_coefficient_0 3 rfl rfl)
theorem dX5_coefficient_6 : decode cX5_coefficient 6 = .ok (.ifCond .ne 7, 3) := dk_154 0 7 (dk_at dksX5_coefficient_0 6 rfl rfl)
theorem dX5_coefficient_9 : decode cX5_coefficient 9 = .ok (.iconst 1, 1) := dk_4 (dk_at dksX5_coefficient_0 9 rfl rfl)
theorem dX5_coefficient_10 : decode cX5_coefficient 10 = .ok (.goto 21, 3) := dk_167 0 21 (dk_at dksX5_coefficient_0 10 rfl rfl)
theorem dX5_coefficient_13 : decode cX5_coefficient 13 = .ok (.iload_n 2, 1) := dk_28 (dk_at dksX5_coefficient_0 13 rfl rfl)
theorem dX5_coefficient_14 : decode cX5_coefficient 14 = .ok (.iconst 0, 1) := dk_3 (dk_at dksX5_coefficient_0 14 rfl rfl)
theorem dX5_coefficient_15 : decode cX5_coefficient 15 = .ok (.aload_n 0, 1) := dk_42 (dk_at dksX5_coefficient_0 15 rfl rfl)
theorem dX5_coefficient_16 : decode cX5_coefficient 16 = .ok (.iload_n 1, 1) := dk_27 (dk_at dksX5_coefficient_0 16 rfl rfl)
theorem dX5_coefficient_17 : decode cX5_coefficient 17 = .ok (.invokevirtual 231, 3) := dk_182 0 231 (dk_at dksX5_coefficient_0 17 rfl rfl)
theorem dX5_coefficient_20 : decode cX5_coefficient 20 = .ok (.invokestatic 71, 3) := dk_184 0 71 (dk_at dksX5_coefficient_0 20 rfl rfl)
theorem dX5_coefficient_23 : decode cX5_coefficient 23 = .ok (.ifCond .eq 7, 3) := dk_153 0 7 (dk_at dksX5_coefficient_1 0 rfl rfl)
theorem dX5_coefficient_26 : decode cX5_coefficient 26 = .ok (.iconst 0, 1) := dk_3 (dk_at dksX5_coefficient_1 3 rfl rfl)
theorem dX5_coefficient_27 : decode cX5_coefficient 27 = .ok (.goto 4, 3) := dk_167 0 4 (dk_at dksX5_coefficient_1 4 rfl rfl)
theorem dX5_coefficient_30 : decode cX5_coefficient 30 = .ok (.iconst 2, 1) := dk_5 (dk_at dksX5_coefficient_1 7 rfl rfl)
theorem dX5_coefficient_31 : decode cX5_coefficient 31 = .ok (.putfield 65, 3) := dk_181 0 65 (dk_at dksX5_coefficient_1 8 rfl rfl)
theorem dX5_coefficient_34 : decode cX5_coefficient 34 = .ok (.aload_n 0, 1) := dk_42 (dk_at dksX5_coefficient_1 11 rfl rfl)
theorem dX5_coefficient_35 : decode cX5_coefficient 35 = .ok (.getfield 65, 3) := dk_180 0 65 (dk_at dksX5_coefficient_1 12 rfl rfl)
theorem dX5_coefficient_38 : decode cX5_coefficient 38 = .ok (.ifCond .le 5, 3) := dk_158 0 5 (dk_at dksX5_coefficient_1 15 rfl rfl)
theorem dX5_coefficient_41 : decode cX5_coefficient 41 = .ok (.iconst 0, 1) := dk_3 (dk_at dksX5_coefficient_1 18 rfl rfl)
theorem dX5_coefficient_42 : decode cX5_coefficient 42 = .ok (.ireturn, 1) := dk_172 (dk_at dksX5_coefficient_1 19 rfl rfl)
theorem dX5_coefficient_43 : decode cX5_coefficient 43 = .ok (.aload_n 0, 1) := dk_42 (dk_at dksX5_coefficient_1 20 rfl rfl)
theorem dX5_coefficient_44 : decode cX5_coefficient 44 = .ok (.aload_n 0, 1) := dk_42 (dk_at dksX5_coefficient_1 21 rfl rfl)
theorem dX5_coefficient_45 : decode cX5_coefficient 45 = .ok (.iload_n 1, 1) := dk_27 (dk_at dksX5_coefficient_1 22 rfl rfl)
theorem dX5_coefficient_46 : decode cX5_coefficient 46 = .ok (.invokevirtual 267, 3) := dk_182 1 11 (dk_at dksX5_coefficient_2 0 rfl rfl)
theorem dX5_coefficient_49 : decode cX5_coefficient 49 = .ok (.putfield 258, 3) := dk_181 1 2 (dk_at dksX5_coefficient_2 3 rfl rfl)
theorem dX5_coefficient_52 : decode cX5_coefficient 52 = .ok (.aload_n 0, 1) := dk_42 (dk_at dksX5_coefficient_2 6 rfl rfl)
theorem dX5_coefficient_53 : decode cX5_coefficient 53 = .ok (.getfield 48, 3) := dk_180 0 48 (dk_at dksX5_coefficient_2 7 rfl rfl)
theorem dX5_coefficient_56 : decode cX5_coefficient 56 = .ok (.iload_n 2, 1) := dk_28 (dk_at dksX5_coefficient_2 10 rfl rfl)
theorem dX5_coefficient_57 : decode cX5_coefficient 57 = .ok (.iaload, 1) := dk_46 (dk_at dksX5_coefficient_2 11 rfl rfl)
theorem dX5_coefficient_58 : decode cX5_coefficient 58 = .ok (.ireturn, 1) := dk_172 (dk_at dksX5_coefficient_2 12 rfl rfl)
abbrev cX5_applied : ByteArray := prog_12_method_72_code
def yX5_applied : MethodName := ⟨RX5, "applied", "(III)I"⟩
def dkwX5_applied_6 : List UInt8 := [167, 255, 181, 42, 21, 5, 182, 0, 199, 172]
abbrev dktX5_applied_6 : List UInt8 := dkwX5_applied_6 ++ []
def dkwX5_applied_5 : List UInt8 := [42, 180, 0, 33, 21, 7, 42, 180, 0, 36, 21, 7, 46, 79, 132, 7, 1, 167, 255, 228, 132, 6, 1]
abbrev dktX5_applied_5 : List UInt8 := dkwX5_applied_5 ++ dktX5_applied_6
def dkwX5_applied_4 : List UInt8 := [180, 0, 33, 42, 180, 0, 36, 182, 0, 223, 3, 54, 7, 21, 7, 42, 180, 0, 7, 4, 46, 162, 0, 23]
abbrev dktX5_applied_4 : List UInt8 := dkwX5_applied_4 ++ dktX5_applied_5
def dkwX5_applied_3 : List UInt8 := [163, 0, 74, 21, 5, 42, 180, 0, 48, 21, 6, 46, 42, 180, 0, 33, 29, 46, 104, 96, 54, 5, 42, 42]
abbrev dktX5_applied_3 : List UInt8 := dkwX5_applied_3 ++ dktX5_applied_4
def dkwX5_applied_2 : List UInt8 := [182, 1, 11, 54, 4, 42, 28, 42, 180, 0, 33, 182, 0, 234, 3, 54, 5, 3, 54, 6, 21, 6, 21, 4]
abbrev dktX5_applied_2 : List UInt8 := dkwX5_applied_2 ++ dktX5_applied_3
def dkwX5_applied_1 : List UInt8 := [153, 0, 7, 3, 167, 0, 4, 4, 181, 0, 65, 42, 180, 0, 65, 158, 0, 5, 3, 172, 42, 27]
abbrev dktX5_applied_1 : List UInt8 := dkwX5_applied_1 ++ dktX5_applied_2
def dkwX5_applied_0 : List UInt8 := [42, 42, 27, 182, 1, 17, 153, 0, 23, 42, 28, 182, 0, 181, 153, 0, 15, 42, 29, 182, 0, 181]
abbrev dktX5_applied_0 : List UInt8 := dkwX5_applied_0 ++ dktX5_applied_1
theorem dksX5_applied_0 : cX5_applied.data.toList.drop 0 = dktX5_applied_0 := by decide +kernel
theorem dksX5_applied_1 : cX5_applied.data.toList.drop 22 = dktX5_applied_1 := dk_seg dksX5_applied_0 22 rfl rfl
theorem dksX5_applied_2 : cX5_applied.data.toList.drop 44 = dktX5_applied_2 := dk_seg dksX5_applied_1 22 rfl rfl
theorem dksX5_applied_3 : cX5_applied.data.toList.drop 68 = dktX5_applied_3 := dk_seg dksX5_applied_2 24 rfl rfl
theorem dksX5_applied_4 : cX5_applied.data.toList.drop 92 = dktX5_applied_4 := dk_seg dksX5_applied_3 24 rfl rfl
theorem dksX5_applied_5 : cX5_applied.data.toList.drop 116 = dktX5_applied_5 := dk_seg dksX5_applied_4 24 rfl rfl
theorem dksX5_applied_6 : cX5_applied.data.toList.drop 139 = dktX5_applied_6 := dk_seg dksX5_applied_5 23 rfl rfl
theorem dX5_applied_0 : decode cX5_applied 0 = .ok (.aload_n 0, 1) := dk_42 (dk_at dksX5_applied_0 0 rfl rfl)
theorem dX5_applied_1 : decode cX5_applied 1 = .ok (.aload_n 0, 1) := dk_42 (dk_at dksX5_applied_0 1 rfl rfl)
theorem dX5_applied_2 : decode cX5_applied 2 = .ok (.iload_n 1, 1) := dk_27 (dk_at dksX5_applied_0 2 rfl rfl)
theorem dX5_applied_3 : decode cX5_applied 3 = .ok (.invokevirtual 273, 3) := dk_182 1 17 (dk_at dksX5_applied_0 3 rfl rfl)
theorem dX5_applied_6 : decode cX5_applied 6 = .ok (.ifCond .eq 23, 3) := dk_153 0 23 (dk_at dksX5_applied_0 6 rfl rfl)
theorem dX5_applied_9 : decode cX5_applied 9 = .ok (.aload_n 0, 1) := dk_42 (dk_at dksX5_applied_0 9 rfl rfl)
theorem dX5_applied_10 : decode cX5_applied 10 = .ok (.iload_n 2, 1) := dk_28 (dk_at dksX5_applied_0 10 rfl rfl)
theorem dX5_applied_11 : decode cX5_applied 11 = .ok (.invokevirtual 181, 3) := dk_182 0 181 (dk_at dksX5_applied_0 11 rfl rfl)
theorem dX5_applied_14 : decode cX5_applied 14 = .ok (.ifCond .eq 15, 3) := dk_153 0 15 (dk_at dksX5_applied_0 14 rfl rfl)
theorem dX5_applied_17 : decode cX5_applied 17 = .ok (.aload_n 0, 1) := dk_42 (dk_at dksX5_applied_0 17 rfl rfl)
theorem dX5_applied_18 : decode cX5_applied 18 = .ok (.iload_n 3, 1) := dk_29 (dk_at dksX5_applied_0 18 rfl rfl)
theorem dX5_applied_19 : decode cX5_applied 19 = .ok (.invokevirtual 181, 3) := dk_182 0 181 (dk_at dksX5_applied_0 19 rfl rfl)
theorem dX5_applied_22 : decode cX5_applied 22 = .ok (.ifCond .eq 7, 3) := dk_153 0 7 (dk_at dksX5_applied_1 0 rfl rfl)
theorem dX5_applied_25 : decode cX5_applied 25 = .ok (.iconst 0, 1) := dk_3 (dk_at dksX5_applied_1 3 rfl rfl)
theorem dX5_applied_26 : decode cX5_applied 26 = .ok (.goto 4, 3) := dk_167 0 4 (dk_at dksX5_applied_1 4 rfl rfl)
theorem dX5_applied_29 : decode cX5_applied 29 = .ok (.iconst 1, 1) := dk_4 (dk_at dksX5_applied_1 7 rfl rfl)
theorem dX5_applied_30 : decode cX5_applied 30 = .ok (.putfield 65, 3) := dk_181 0 65 (dk_at dksX5_applied_1 8 rfl rfl)
theorem dX5_applied_33 : decode cX5_applied 33 = .ok (.aload_n 0, 1) := dk_42 (dk_at dksX5_applied_1 11 rfl rfl)
theorem dX5_applied_34 : decode cX5_applied 34 = .ok (.getfield 65, 3) := dk_180 0 65 (dk_at dksX5_applied_1 12 rfl rfl)
theorem dX5_applied_37 : decode cX5_applied 37 = .ok (.ifCond .le 5, 3) := dk_158 0 5 (dk_at dksX5_applied_1 15 rfl rfl)
theorem dX5_applied_40 : decode cX5_applied 40 = .ok (.iconst 0, 1) := dk_3 (dk_at dksX5_applied_1 18 rfl rfl)
theorem dX5_applied_41 : decode cX5_applied 41 = .ok (.ireturn, 1) := dk_172 (dk_at dksX5_applied_1 19 rfl rfl)
theorem dX5_applied_42 : decode cX5_applied 42 = .ok (.aload_n 0, 1) := dk_42 (dk_at dksX5_applied_1 20 rfl rfl)
theorem dX5_applied_43 : decode cX5_applied 43 = .ok (.iload_n 1, 1) := dk_27 (dk_at dksX5_applied_1 21 rfl rfl)
theorem dX5_applied_44 : decode cX5_applied 44 = .ok (.invokevirtual 267, 3) := dk_182 1 11 (dk_at dksX5_applied_2 0 rfl rfl)
theorem dX5_applied_47 : decode cX5_applied 47 = .ok (.istore 4, 2) := dk_54 4 (dk_at dksX5_applied_2 3 rfl rfl)
theorem dX5_applied_49 : decode cX5_applied 49 = .ok (.aload_n 0, 1) := dk_42 (dk_at dksX5_applied_2 5 rfl rfl)
theorem dX5_applied_50 : decode cX5_applied 50 = .ok (.iload_n 2, 1) := dk_28 (dk_at dksX5_applied_2 6 rfl rfl)
theorem dX5_applied_51 : decode cX5_applied 51 = .ok (.aload_n 0, 1) := dk_42 (dk_at dksX5_applied_2 7 rfl rfl)
theorem dX5_applied_52 : decode cX5_applied 52 = .ok (.getfield 33, 3) := dk_180 0 33 (dk_at dksX5_applied_2 8 rfl rfl)
theorem dX5_applied_55 : decode cX5_applied 55 = .ok (.invokevirtual 234, 3) := dk_182 0 234 (dk_at dksX5_applied_2 11 rfl rfl)
theorem dX5_applied_58 : decode cX5_applied 58 = .ok (.iconst 0, 1) := dk_3 (dk_at dksX5_applied_2 14 rfl rfl)
theorem dX5_applied_59 : decode cX5_applied 59 = .ok (.istore 5, 2) := dk_54 5 (dk_at dksX5_applied_2 15 rfl rfl)
theorem dX5_applied_61 : decode cX5_applied 61 = .ok (.iconst 0, 1) := dk_3 (dk_at dksX5_applied_2 17 rfl rfl)
theorem dX5_applied_62 : decode cX5_applied 62 = .ok (.istore 6, 2) := dk_54 6 (dk_at dksX5_applied_2 18 rfl rfl)
theorem dX5_applied_64 : decode cX5_applied 64 = .ok (.iload 6, 2) := dk_21 6 (dk_at dksX5_applied_2 20 rfl rfl)
theorem dX5_applied_66 : decode cX5_applied 66 = .ok (.iload 4, 2) := dk_21 4 (dk_at dksX5_applied_2 22 rfl rfl)
theorem dX5_applied_68 : decode cX5_applied 68 = .ok (.if_icmp .gt 74, 3) := dk_163 0 74 (dk_at dksX5_applied_3 0 rfl rfl)
theorem dX5_applied_71 : decode cX5_applied 71 = .ok (.iload 5, 2) := dk_21 5 (dk_at dksX5_applied_3 3 rfl rfl)
theorem dX5_applied_73 : decode cX5_applied 73 = .ok (.aload_n 0, 1) := dk_42 (dk_at dksX5_applied_3 5 rfl rfl)
theorem dX5_applied_74 : decode cX5_applied 74 = .ok (.getfield 48, 3) := dk_180 0 48 (dk_at dksX5_applied_3 6 rfl rfl)
theorem dX5_applied_77 : decode cX5_applied 77 = .ok (.iload 6, 2) := dk_21 6 (dk_at dksX5_applied_3 9 rfl rfl)
theorem dX5_applied_79 : decode cX5_applied 79 = .ok (.iaload, 1) := dk_46 (dk_at dksX5_applied_3 11 rfl rfl)
theorem dX5_applied_80 : decode cX5_applied 80 = .ok (.aload_n 0, 1) := dk_42 (dk_at dksX5_applied_3 12 rfl rfl)
theorem dX5_applied_81 : decode cX5_applied 81 = .ok (.getfield 33, 3) := dk_180 0 33 (dk_at dksX5_applied_3 13 rfl rfl)
theorem dX5_applied_84 : decode cX5_applied 84 = .ok (.iload_n 3, 1) := dk_29 (dk_at dksX5_applied_3 16 rfl rfl)
theorem dX5_applied_85 : decode cX5_applied 85 = .ok (.iaload, 1) := dk_46 (dk_at dksX5_applied_3 17 rfl rfl)
theorem dX5_applied_86 : decode cX5_applied 86 = .ok (.imul, 1) := dk_104 (dk_at dksX5_applied_3 18 rfl rfl)
theorem dX5_applied_87 : decode cX5_applied 87 = .ok (.iadd, 1) := dk_96 (dk_at dksX5_applied_3 19 rfl rfl)
theorem dX5_applied_88 : decode cX5_applied 88 = .ok (.istore 5, 2) := dk_54 5 (dk_at dksX5_applied_3 20 rfl rfl)
theorem dX5_applied_90 : decode cX5_applied 90 = .ok (.aload_n 0, 1) := dk_42 (dk_at dksX5_applied_3 22 rfl rfl)
theorem dX5_applied_91 : decode cX5_applied 91 = .ok (.aload_n 0, 1) := dk_42 (dk_at dksX5_applied_3 23 rfl rfl)
theorem dX5_applied_92 : decode cX5_applied 92 = .ok (.getfield 33, 3) := dk_180 0 33 (dk_at dksX5_applied_4 0 rfl rfl)
theorem dX5_applied_95 : decode cX5_applied 95 = .ok (.aload_n 0, 1) := dk_42 (dk_at dksX5_applied_4 3 rfl rfl)
theorem dX5_applied_96 : decode cX5_applied 96 = .ok (.getfield 36, 3) := dk_180 0 36 (dk_at dksX5_applied_4 4 rfl rfl)
theorem dX5_applied_99 : decode cX5_applied 99 = .ok (.invokevirtual 223, 3) := dk_182 0 223 (dk_at dksX5_applied_4 7 rfl rfl)
theorem dX5_applied_102 : decode cX5_applied 102 = .ok (.iconst 0, 1) := dk_3 (dk_at dksX5_applied_4 10 rfl rfl)
theorem dX5_applied_103 : decode cX5_applied 103 = .ok (.istore 7, 2) := dk_54 7 (dk_at dksX5_applied_4 11 rfl rfl)
theorem dX5_applied_105 : decode cX5_applied 105 = .ok (.iload 7, 2) := dk_21 7 (dk_at dksX5_applied_4 13 rfl rfl)
theorem dX5_applied_107 : decode cX5_applied 107 = .ok (.aload_n 0, 1) := dk_42 (dk_at dksX5_applied_4 15 rfl rfl)
theorem dX5_applied_108 : decode cX5_applied 108 = .ok (.getfield 7, 3) := dk_180 0 7 (dk_at dksX5_applied_4 16 rfl rfl)
theorem dX5_applied_111 : decode cX5_applied 111 = .ok (.iconst 1, 1) := dk_4 (dk_at dksX5_applied_4 19 rfl rfl)
theorem dX5_applied_112 : decode cX5_applied 112 = .ok (.iaload, 1) := dk_46 (dk_at dksX5_applied_4 20 rfl rfl)
theorem dX5_applied_113 : decode cX5_applied 113 = .ok (.if_icmp .ge 23, 3) := dk_162 0 23 (dk_at dksX5_applied_4 21 rfl rfl)
theorem dX5_applied_116 : decode cX5_applied 116 = .ok (.aload_n 0, 1) := dk_42 (dk_at dksX5_applied_5 0 rfl rfl)
theorem dX5_applied_117 : decode cX5_applied 117 = .ok (.getfield 33, 3) := dk_180 0 33 (dk_at dksX5_applied_5 1 rfl rfl)
theorem dX5_applied_120 : decode cX5_applied 120 = .ok (.iload 7, 2) := dk_21 7 (dk_at dksX5_applied_5 4 rfl rfl)
theorem dX5_applied_122 : decode cX5_applied 122 = .ok (.aload_n 0, 1) := dk_42 (dk_at dksX5_applied_5 6 rfl rfl)
theorem dX5_applied_123 : decode cX5_applied 123 = .ok (.getfield 36, 3) := dk_180 0 36 (dk_at dksX5_applied_5 7 rfl rfl)
theorem dX5_applied_126 : decode cX5_applied 126 = .ok (.iload 7, 2) := dk_21 7 (dk_at dksX5_applied_5 10 rfl rfl)
theorem dX5_applied_128 : decode cX5_applied 128 = .ok (.iaload, 1) := dk_46 (dk_at dksX5_applied_5 12 rfl rfl)
theorem dX5_applied_129 : decode cX5_applied 129 = .ok (.iastore, 1) := dk_79 (dk_at dksX5_applied_5 13 rfl rfl)
theorem dX5_applied_130 : decode cX5_applied 130 = .ok (.iinc 7 1, 3) := dk_132 7 1 (dk_at dksX5_applied_5 14 rfl rfl)
theorem dX5_applied_133 : decode cX5_applied 133 = .ok (.goto (-28), 3) := dk_167 255 228 (dk_at dksX5_applied_5 17 rfl rfl)
theorem dX5_applied_136 : decode cX5_applied 136 = .ok (.iinc 6 1, 3) := dk_132 6 1 (dk_at dksX5_applied_5 20 rfl rfl)
theorem dX5_applied_139 : decode cX5_applied 139 = .ok (.goto (-75), 3) := dk_167 255 181 (dk_at dksX5_applied_6 0 rfl rfl)
theorem dX5_applied_142 : decode cX5_applied 142 = .ok (.aload_n 0, 1) := dk_42 (dk_at dksX5_applied_6 3 rfl rfl)
theorem dX5_applied_143 : decode cX5_applied 143 = .ok (.iload 5, 2) := dk_21 5 (dk_at dksX5_applied_6 4 rfl rfl)
theorem dX5_applied_145 : decode cX5_applied 145 = .ok (.invokevirtual 199, 3) := dk_182 0 199 (dk_at dksX5_applied_6 6 rfl rfl)
theorem dX5_applied_148 : decode cX5_applied 148 = .ok (.ireturn, 1) := dk_172 (dk_at dksX5_applied_6 9 rfl rfl)
abbrev cX5_ended : ByteArray := prog_12_method_73_code
def yX5_ended : MethodName := ⟨RX5, "ended", "(I)I"⟩
def dkwX5_ended_3 : List UInt8 := [167, 255, 221, 28, 172]
abbrev dktX5_ended_3 : List UInt8 := dkwX5_ended_3 ++ []
def dkwX5_ended_2 : List UInt8 := [180, 0, 7, 16, 89, 29, 96, 46, 27, 160, 0, 7, 4, 167, 0, 4, 3, 96, 61, 132, 3, 1]
abbrev dktX5_ended_2 : List UInt8 := dkwX5_ended_2 ++ dktX5_ended_3
def dkwX5_ended_1 : List UInt8 := [158, 0, 5, 3, 172, 3, 61, 3, 62, 29, 42, 180, 0, 7, 16, 6, 46, 162, 0, 30, 28, 42]
abbrev dktX5_ended_1 : List UInt8 := dkwX5_ended_1 ++ dktX5_ended_2
def dkwX5_ended_0 : List UInt8 := [42, 27, 3, 6, 184, 0, 71, 153, 0, 7, 3, 167, 0, 4, 4, 181, 0, 65, 42, 180, 0, 65]
abbrev dktX5_ended_0 : List UInt8 := dkwX5_ended_0 ++ dktX5_ended_1
theorem dksX5_ended_0 : cX5_ended.data.toList.drop 0 = dktX5_ended_0 := by decide +kernel
theorem dksX5_ended_1 : cX5_ended.data.toList.drop 22 = dktX5_ended_1 := dk_seg dksX5_ended_0 22 rfl rfl
theorem dksX5_ended_2 : cX5_ended.data.toList.drop 44 = dktX5_ended_2 := dk_seg dksX5_ended_1 22 rfl rfl
theorem dksX5_ended_3 : cX5_ended.data.toList.drop 66 = dktX5_ended_3 := dk_seg dksX5_ended_2 22 rfl rfl
theorem dX5_ended_0 : decode cX5_ended 0 = .ok (.aload_n 0, 1) := dk_42 (dk_at dksX5_ended_0 0 rfl rfl)
theorem dX5_ended_1 : decode cX5_ended 1 = .ok (.iload_n 1, 1) := dk_27 (dk_at dksX5_ended_0 1 rfl rfl)
theorem dX5_ended_2 : decode cX5_ended 2 = .ok (.iconst 0, 1) := dk_3 (dk_at dksX5_ended_0 2 rfl rfl)
theorem dX5_ended_3 : decode cX5_ended 3 = .ok (.iconst 3, 1) := dk_6 (dk_at dksX5_ended_0 3 rfl rfl)
theorem dX5_ended_4 : decode cX5_ended 4 = .ok (.invokestatic 71, 3) := dk_184 0 71 (dk_at dksX5_ended_0 4 rfl rfl)
theorem dX5_ended_7 : decode cX5_ended 7 = .ok (.ifCond .eq 7, 3) := dk_153 0 7 (dk_at dksX5_ended_0 7 rfl rfl)
theorem dX5_ended_10 : decode cX5_ended 10 = .ok (.iconst 0, 1) := dk_3 (dk_at dksX5_ended_0 10 rfl rfl)
theorem dX5_ended_11 : decode cX5_ended 11 = .ok (.goto 4, 3) := dk_167 0 4 (dk_at dksX5_ended_0 11 rfl rfl)
theorem dX5_ended_14 : decode cX5_ended 14 = .ok (.iconst 1, 1) := dk_4 (dk_at dksX5_ended_0 14 rfl rfl)
theorem dX5_ended_15 : decode cX5_ended 15 = .ok (.putfield 65, 3) := dk_181 0 65 (dk_at dksX5_ended_0 15 rfl rfl)
theorem dX5_ended_18 : decode cX5_ended 18 = .ok (.aload_n 0, 1) := dk_42 (dk_at dksX5_ended_0 18 rfl rfl)
theorem dX5_ended_19 : decode cX5_ended 19 = .ok (.getfield 65, 3) := dk_180 0 65 (dk_at dksX5_ended_0 19 rfl rfl)
theorem dX5_ended_22 : decode cX5_ended 22 = .ok (.ifCond .le 5, 3) := dk_158 0 5 (dk_at dksX5_ended_1 0 rfl rfl)
theorem dX5_ended_25 : decode cX5_ended 25 = .ok (.iconst 0, 1) := dk_3 (dk_at dksX5_ended_1 3 rfl rfl)
theorem dX5_ended_26 : decode cX5_ended 26 = .ok (.ireturn, 1) := dk_172 (dk_at dksX5_ended_1 4 rfl rfl)
theorem dX5_ended_27 : decode cX5_ended 27 = .ok (.iconst 0, 1) := dk_3 (dk_at dksX5_ended_1 5 rfl rfl)
theorem dX5_ended_28 : decode cX5_ended 28 = .ok (.istore_n 2, 1) := dk_61 (dk_at dksX5_ended_1 6 rfl rfl)
theorem dX5_ended_29 : decode cX5_ended 29 = .ok (.iconst 0, 1) := dk_3 (dk_at dksX5_ended_1 7 rfl rfl)
theorem dX5_ended_30 : decode cX5_ended 30 = .ok (.istore_n 3, 1) := dk_62 (dk_at dksX5_ended_1 8 rfl rfl)
theorem dX5_ended_31 : decode cX5_ended 31 = .ok (.iload_n 3, 1) := dk_29 (dk_at dksX5_ended_1 9 rfl rfl)
theorem dX5_ended_32 : decode cX5_ended 32 = .ok (.aload_n 0, 1) := dk_42 (dk_at dksX5_ended_1 10 rfl rfl)
theorem dX5_ended_33 : decode cX5_ended 33 = .ok (.getfield 7, 3) := dk_180 0 7 (dk_at dksX5_ended_1 11 rfl rfl)
theorem dX5_ended_36 : decode cX5_ended 36 = .ok (.bipush 6, 2) := dk_16 6 (dk_at dksX5_ended_1 14 rfl rfl)
theorem dX5_ended_38 : decode cX5_ended 38 = .ok (.iaload, 1) := dk_46 (dk_at dksX5_ended_1 16 rfl rfl)
theorem dX5_ended_39 : decode cX5_ended 39 = .ok (.if_icmp .ge 30, 3) := dk_162 0 30 (dk_at dksX5_ended_1 17 rfl rfl)
theorem dX5_ended_42 : decode cX5_ended 42 = .ok (.iload_n 2, 1) := dk_28 (dk_at dksX5_ended_1 20 rfl rfl)
theorem dX5_ended_43 : decode cX5_ended 43 = .ok (.aload_n 0, 1) := dk_42 (dk_at dksX5_ended_1 21 rfl rfl)
theorem dX5_ended_44 : decode cX5_ended 44 = .ok (.getfield 7, 3) := dk_180 0 7 (dk_at dksX5_ended_2 0 rfl rfl)
theorem dX5_ended_47 : decode cX5_ended 47 = .ok (.bipush 89, 2) := dk_16 89 (dk_at dksX5_ended_2 3 rfl rfl)
theorem dX5_ended_49 : decode cX5_ended 49 = .ok (.iload_n 3, 1) := dk_29 (dk_at dksX5_ended_2 5 rfl rfl)
theorem dX5_ended_50 : decode cX5_ended 50 = .ok (.iadd, 1) := dk_96 (dk_at dksX5_ended_2 6 rfl rfl)
theorem dX5_ended_51 : decode cX5_ended 51 = .ok (.iaload, 1) := dk_46 (dk_at dksX5_ended_2 7 rfl rfl)
theorem dX5_ended_52 : decode cX5_ended 52 = .ok (.iload_n 1, 1) := dk_27 (dk_at dksX5_ended_2 8 rfl rfl)
theorem dX5_ended_53 : decode cX5_ended 53 = .ok (.if_icmp .ne 7, 3) := dk_160 0 7 (dk_at dksX5_ended_2 9 rfl rfl)
theorem dX5_ended_56 : decode cX5_ended 56 = .ok (.iconst 1, 1) := dk_4 (dk_at dksX5_ended_2 12 rfl rfl)
theorem dX5_ended_57 : decode cX5_ended 57 = .ok (.goto 4, 3) := dk_167 0 4 (dk_at dksX5_ended_2 13 rfl rfl)
theorem dX5_ended_60 : decode cX5_ended 60 = .ok (.iconst 0, 1) := dk_3 (dk_at dksX5_ended_2 16 rfl rfl)
theorem dX5_ended_61 : decode cX5_ended 61 = .ok (.iadd, 1) := dk_96 (dk_at dksX5_ended_2 17 rfl rfl)
theorem dX5_ended_62 : decode cX5_ended 62 = .ok (.istore_n 2, 1) := dk_61 (dk_at dksX5_ended_2 18 rfl rfl)
theorem dX5_ended_63 : decode cX5_ended 63 = .ok (.iinc 3 1, 3) := dk_132 3 1 (dk_at dksX5_ended_2 19 rfl rfl)
theorem dX5_ended_66 : decode cX5_ended 66 = .ok (.goto (-35), 3) := dk_167 255 221 (dk_at dksX5_ended_3 0 rfl rfl)
theorem dX5_ended_69 : decode cX5_ended 69 = .ok (.iload_n 2, 1) := dk_28 (dk_at dksX5_ended_3 3 rfl rfl)
theorem dX5_ended_70 : decode cX5_ended 70 = .ok (.ireturn, 1) := dk_172 (dk_at dksX5_ended_3 4 rfl rfl)
abbrev cX5_direction : ByteArray := prog_12_method_75_code
def yX5_direction : MethodName := ⟨RX5, "direction", "(II)I"⟩
def dkwX5_direction_1 : List UInt8 := [181, 0, 65, 42, 180, 0, 65, 158, 0, 7, 3, 167, 0, 9, 42, 27, 28, 182, 0, 196, 172]
abbrev dktX5_direction_1 : List UInt8 := dkwX5_direction_1 ++ []
def dkwX5_direction_0 : List UInt8 := [42, 42, 27, 182, 1, 23, 153, 0, 15, 42, 28, 182, 0, 181, 153, 0, 7, 3, 167, 0, 4, 4]
abbrev dktX5_direction_0 : List UInt8 := dkwX5_direction_0 ++ dktX5_direction_1
theorem dksX5_direction_0 : cX5_direction.data.toList.drop 0 = dktX5_direction_0 := by decide +kernel
theorem dksX5_direction_1 : cX5_direction.data.toList.drop 22 = dktX5_direction_1 := dk_seg dksX5_direction_0 22 rfl rfl
theorem dX5_direction_0 : decode cX5_direction 0 = .ok (.aload_n 0, 1) := dk_42 (dk_at dksX5_direction_0 0 rfl rfl)
theorem dX5_direction_1 : decode cX5_direction 1 = .ok (.aload_n 0, 1) := dk_42 (dk_at dksX5_direction_0 1 rfl rfl)
theorem dX5_direction_2 : decode cX5_direction 2 = .ok (.iload_n 1, 1) := dk_27 (dk_at dksX5_direction_0 2 rfl rfl)
theorem dX5_direction_3 : decode cX5_direction 3 = .ok (.invokevirtual 279, 3) := dk_182 1 23 (dk_at dksX5_direction_0 3 rfl rfl)
theorem dX5_direction_6 : decode cX5_direction 6 = .ok (.ifCond .eq 15, 3) := dk_153 0 15 (dk_at dksX5_direction_0 6 rfl rfl)
theorem dX5_direction_9 : decode cX5_direction 9 = .ok (.aload_n 0, 1) := dk_42 (dk_at dksX5_direction_0 9 rfl rfl)
theorem dX5_direction_10 : decode cX5_direction 10 = .ok (.iload_n 2, 1) := dk_28 (dk_at dksX5_direction_0 10 rfl rfl)
theorem dX5_direction_11 : decode cX5_direction 11 = .ok (.invokevirtual 181, 3) := dk_182 0 181 (dk_at dksX5_direction_0 11 rfl rfl)
theorem dX5_direction_14 : decode cX5_direction 14 = .ok (.ifCond .eq 7, 3) := dk_153 0 7 (dk_at dksX5_direction_0 14 rfl rfl)
theorem dX5_direction_17 : decode cX5_direction 17 = .ok (.iconst 0, 1) := dk_3 (dk_at dksX5_direction_0 17 rfl rfl)
theorem dX5_direction_18 : decode cX5_direction 18 = .ok (.goto 4, 3) := dk_167 0 4 (dk_at dksX5_direction_0 18 rfl rfl)
theorem dX5_direction_21 : decode cX5_direction 21 = .ok (.iconst 1, 1) := dk_4 (dk_at dksX5_direction_0 21 rfl rfl)
theorem dX5_direction_22 : decode cX5_direction 22 = .ok (.putfield 65, 3) := dk_181 0 65 (dk_at dksX5_direction_1 0 rfl rfl)
theorem dX5_direction_25 : decode cX5_direction 25 = .ok (.aload_n 0, 1) := dk_42 (dk_at dksX5_direction_1 3 rfl rfl)
theorem dX5_direction_26 : decode cX5_direction 26 = .ok (.getfield 65, 3) := dk_180 0 65 (dk_at dksX5_direction_1 4 rfl rfl)
theorem dX5_direction_29 : decode cX5_direction 29 = .ok (.ifCond .le 7, 3) := dk_158 0 7 (dk_at dksX5_direction_1 7 rfl rfl)
theorem dX5_direction_32 : decode cX5_direction 32 = .ok (.iconst 0, 1) := dk_3 (dk_at dksX5_direction_1 10 rfl rfl)
theorem dX5_direction_33 : decode cX5_direction 33 = .ok (.goto 9, 3) := dk_167 0 9 (dk_at dksX5_direction_1 11 rfl rfl)
theorem dX5_direction_36 : decode cX5_direction 36 = .ok (.aload_n 0, 1) := dk_42 (dk_at dksX5_direction_1 14 rfl rfl)
theorem dX5_direction_37 : decode cX5_direction 37 = .ok (.iload_n 1, 1) := dk_27 (dk_at dksX5_direction_1 15 rfl rfl)
theorem dX5_direction_38 : decode cX5_direction 38 = .ok (.iload_n 2, 1) := dk_28 (dk_at dksX5_direction_1 16 rfl rfl)
theorem dX5_direction_39 : decode cX5_direction 39 = .ok (.invokevirtual 196, 3) := dk_182 0 196 (dk_at dksX5_direction_1 17 rfl rfl)
theorem dX5_direction_42 : decode cX5_direction 42 = .ok (.ireturn, 1) := dk_172 (dk_at dksX5_direction_1 20 rfl rfl)
abbrev cX5_isDirection : ByteArray := prog_12_method_74_code
def yX5_isDirection : MethodName := ⟨RX5, "isDirection", "(I)Z"⟩
def dkwX5_isDirection_0 : List UInt8 := [27, 3, 42, 180, 0, 7, 8, 46, 4, 100, 184, 0, 71, 172]
abbrev dktX5_isDirection_0 : List UInt8 := dkwX5_isDirection_0 ++ []
theorem dksX5_isDirection_0 : cX5_isDirection.data.toList.drop 0 = dktX5_isDirection_0 := by decide +kernel
theorem dX5_isDirection_0 : decode cX5_isDirection 0 = .ok (.iload_n 1, 1) := dk_27 (dk_at dksX5_isDirection_0 0 rfl rfl)
theorem dX5_isDirection_1 : decode cX5_isDirection 1 = .ok (.iconst 0, 1) := dk_3 (dk_at dksX5_isDirection_0 1 rfl rfl)
theorem dX5_isDirection_2 : decode cX5_isDirection 2 = .ok (.aload_n 0, 1) := dk_42 (dk_at dksX5_isDirection_0 2 rfl rfl)
theorem dX5_isDirection_3 : decode cX5_isDirection 3 = .ok (.getfield 7, 3) := dk_180 0 7 (dk_at dksX5_isDirection_0 3 rfl rfl)
theorem dX5_isDirection_6 : decode cX5_isDirection 6 = .ok (.iconst 5, 1) := dk_8 (dk_at dksX5_isDirection_0 6 rfl rfl)
theorem dX5_isDirection_7 : decode cX5_isDirection 7 = .ok (.iaload, 1) := dk_46 (dk_at dksX5_isDirection_0 7 rfl rfl)
theorem dX5_isDirection_8 : decode cX5_isDirection 8 = .ok (.iconst 1, 1) := dk_4 (dk_at dksX5_isDirection_0 8 rfl rfl)
theorem dX5_isDirection_9 : decode cX5_isDirection 9 = .ok (.isub, 1) := dk_100 (dk_at dksX5_isDirection_0 9 rfl rfl)
theorem dX5_isDirection_10 : decode cX5_isDirection 10 = .ok (.invokestatic 71, 3) := dk_184 0 71 (dk_at dksX5_isDirection_0 10 rfl rfl)
theorem dX5_isDirection_13 : decode cX5_isDirection 13 = .ok (.ireturn, 1) := dk_172 (dk_at dksX5_isDirection_0 13 rfl rfl)
abbrev cX5_chainOf : ByteArray := prog_12_method_76_code
def yX5_chainOf : MethodName := ⟨RX5, "chainOf", "(I)I"⟩
def dkwX5_chainOf_1 : List UInt8 := [3, 167, 0, 12, 42, 180, 0, 7, 16, 81, 27, 96, 46, 172]
abbrev dktX5_chainOf_1 : List UInt8 := dkwX5_chainOf_1 ++ []
def dkwX5_chainOf_0 : List UInt8 := [42, 42, 27, 182, 1, 23, 153, 0, 7, 3, 167, 0, 4, 4, 181, 0, 65, 42, 180, 0, 65, 158, 0, 7]
abbrev dktX5_chainOf_0 : List UInt8 := dkwX5_chainOf_0 ++ dktX5_chainOf_1
theorem dksX5_chainOf_0 : cX5_chainOf.data.toList.drop 0 = dktX5_chainOf_0 := by decide +kernel
theorem dksX5_chainOf_1 : cX5_chainOf.data.toList.drop 24 = dktX5_chainOf_1 := dk_seg dksX5_chainOf_0 24 rfl rfl
theorem dX5_chainOf_0 : decode cX5_chainOf 0 = .ok (.aload_n 0, 1) := dk_42 (dk_at dksX5_chainOf_0 0 rfl rfl)
theorem dX5_chainOf_1 : decode cX5_chainOf 1 = .ok (.aload_n 0, 1) := dk_42 (dk_at dksX5_chainOf_0 1 rfl rfl)
theorem dX5_chainOf_2 : decode cX5_chainOf 2 = .ok (.iload_n 1, 1) := dk_27 (dk_at dksX5_chainOf_0 2 rfl rfl)
theorem dX5_chainOf_3 : decode cX5_chainOf 3 = .ok (.invokevirtual 279, 3) := dk_182 1 23 (dk_at dksX5_chainOf_0 3 rfl rfl)
theorem dX5_chainOf_6 : decode cX5_chainOf 6 = .ok (.ifCond .eq 7, 3) := dk_153 0 7 (dk_at dksX5_chainOf_0 6 rfl rfl)
theorem dX5_chainOf_9 : decode cX5_chainOf 9 = .ok (.iconst 0, 1) := dk_3 (dk_at dksX5_chainOf_0 9 rfl rfl)
theorem dX5_chainOf_10 : decode cX5_chainOf 10 = .ok (.goto 4, 3) := dk_167 0 4 (dk_at dksX5_chainOf_0 10 rfl rfl)
theorem dX5_chainOf_13 : decode cX5_chainOf 13 = .ok (.iconst 1, 1) := dk_4 (dk_at dksX5_chainOf_0 13 rfl rfl)
theorem dX5_chainOf_14 : decode cX5_chainOf 14 = .ok (.putfield 65, 3) := dk_181 0 65 (dk_at dksX5_chainOf_0 14 rfl rfl)
theorem dX5_chainOf_17 : decode cX5_chainOf 17 = .ok (.aload_n 0, 1) := dk_42 (dk_at dksX5_chainOf_0 17 rfl rfl)
theorem dX5_chainOf_18 : decode cX5_chainOf 18 = .ok (.getfield 65, 3) := dk_180 0 65 (dk_at dksX5_chainOf_0 18 rfl rfl)
theorem dX5_chainOf_21 : decode cX5_chainOf 21 = .ok (.ifCond .le 7, 3) := dk_158 0 7 (dk_at dksX5_chainOf_0 21 rfl rfl)
theorem dX5_chainOf_24 : decode cX5_chainOf 24 = .ok (.iconst 0, 1) := dk_3 (dk_at dksX5_chainOf_1 0 rfl rfl)
theorem dX5_chainOf_25 : decode cX5_chainOf 25 = .ok (.goto 12, 3) := dk_167 0 12 (dk_at dksX5_chainOf_1 1 rfl rfl)
theorem dX5_chainOf_28 : decode cX5_chainOf 28 = .ok (.aload_n 0, 1) := dk_42 (dk_at dksX5_chainOf_1 4 rfl rfl)
theorem dX5_chainOf_29 : decode cX5_chainOf 29 = .ok (.getfield 7, 3) := dk_180 0 7 (dk_at dksX5_chainOf_1 5 rfl rfl)
theorem dX5_chainOf_32 : decode cX5_chainOf 32 = .ok (.bipush 81, 2) := dk_16 81 (dk_at dksX5_chainOf_1 8 rfl rfl)
theorem dX5_chainOf_34 : decode cX5_chainOf 34 = .ok (.iload_n 1, 1) := dk_27 (dk_at dksX5_chainOf_1 10 rfl rfl)
theorem dX5_chainOf_35 : decode cX5_chainOf 35 = .ok (.iadd, 1) := dk_96 (dk_at dksX5_chainOf_1 11 rfl rfl)
theorem dX5_chainOf_36 : decode cX5_chainOf 36 = .ok (.iaload, 1) := dk_46 (dk_at dksX5_chainOf_1 12 rfl rfl)
theorem dX5_chainOf_37 : decode cX5_chainOf 37 = .ok (.ireturn, 1) := dk_172 (dk_at dksX5_chainOf_1 13 rfl rfl)
abbrev cX5_product : ByteArray := prog_12_method_77_code
def yX5_product : MethodName := ⟨RX5, "product", "(II)I"⟩
def dkwX5_product_1 : List UInt8 := [181, 0, 65, 42, 180, 0, 65, 158, 0, 7, 3, 167, 0, 9, 42, 27, 28, 182, 0, 202, 172]
abbrev dktX5_product_1 : List UInt8 := dkwX5_product_1 ++ []
def dkwX5_product_0 : List UInt8 := [42, 42, 27, 182, 1, 23, 153, 0, 15, 42, 28, 182, 1, 23, 153, 0, 7, 3, 167, 0, 4, 4]
abbrev dktX5_product_0 : List UInt8 := dkwX5_product_0 ++ dktX5_product_1
theorem dksX5_product_0 : cX5_product.data.toList.drop 0 = dktX5_product_0 := by decide +kernel
theorem dksX5_product_1 : cX5_product.data.toList.drop 22 = dktX5_product_1 := dk_seg dksX5_product_0 22 rfl rfl
theorem dX5_product_0 : decode cX5_product 0 = .ok (.aload_n 0, 1) := dk_42 (dk_at dksX5_product_0 0 rfl rfl)
theorem dX5_product_1 : decode cX5_product 1 = .ok (.aload_n 0, 1) := dk_42 (dk_at dksX5_product_0 1 rfl rfl)
theorem dX5_product_2 : decode cX5_product 2 = .ok (.iload_n 1, 1) := dk_27 (dk_at dksX5_product_0 2 rfl rfl)
theorem dX5_product_3 : decode cX5_product 3 = .ok (.invokevirtual 279, 3) := dk_182 1 23 (dk_at dksX5_product_0 3 rfl rfl)
theorem dX5_product_6 : decode cX5_product 6 = .ok (.ifCond .eq 15, 3) := dk_153 0 15 (dk_at dksX5_product_0 6 rfl rfl)
theorem dX5_product_9 : decode cX5_product 9 = .ok (.aload_n 0, 1) := dk_42 (dk_at dksX5_product_0 9 rfl rfl)
theorem dX5_product_10 : decode cX5_product 10 = .ok (.iload_n 2, 1) := dk_28 (dk_at dksX5_product_0 10 rfl rfl)
theorem dX5_product_11 : decode cX5_product 11 = .ok (.invokevirtual 279, 3) := dk_182 1 23 (dk_at dksX5_product_0 11 rfl rfl)
theorem dX5_product_14 : decode cX5_product 14 = .ok (.ifCond .eq 7, 3) := dk_153 0 7 (dk_at dksX5_product_0 14 rfl rfl)
theorem dX5_product_17 : decode cX5_product 17 = .ok (.iconst 0, 1) := dk_3 (dk_at dksX5_product_0 17 rfl rfl)
theorem dX5_product_18 : decode cX5_product 18 = .ok (.goto 4, 3) := dk_167 0 4 (dk_at dksX5_product_0 18 rfl rfl)
theorem dX5_product_21 : decode cX5_product 21 = .ok (.iconst 1, 1) := dk_4 (dk_at dksX5_product_0 21 rfl rfl)
theorem dX5_product_22 : decode cX5_product 22 = .ok (.putfield 65, 3) := dk_181 0 65 (dk_at dksX5_product_1 0 rfl rfl)
theorem dX5_product_25 : decode cX5_product 25 = .ok (.aload_n 0, 1) := dk_42 (dk_at dksX5_product_1 3 rfl rfl)
theorem dX5_product_26 : decode cX5_product 26 = .ok (.getfield 65, 3) := dk_180 0 65 (dk_at dksX5_product_1 4 rfl rfl)
theorem dX5_product_29 : decode cX5_product 29 = .ok (.ifCond .le 7, 3) := dk_158 0 7 (dk_at dksX5_product_1 7 rfl rfl)
theorem dX5_product_32 : decode cX5_product 32 = .ok (.iconst 0, 1) := dk_3 (dk_at dksX5_product_1 10 rfl rfl)
theorem dX5_product_33 : decode cX5_product 33 = .ok (.goto 9, 3) := dk_167 0 9 (dk_at dksX5_product_1 11 rfl rfl)
theorem dX5_product_36 : decode cX5_product 36 = .ok (.aload_n 0, 1) := dk_42 (dk_at dksX5_product_1 14 rfl rfl)
theorem dX5_product_37 : decode cX5_product 37 = .ok (.iload_n 1, 1) := dk_27 (dk_at dksX5_product_1 15 rfl rfl)
theorem dX5_product_38 : decode cX5_product 38 = .ok (.iload_n 2, 1) := dk_28 (dk_at dksX5_product_1 16 rfl rfl)
theorem dX5_product_39 : decode cX5_product 39 = .ok (.invokevirtual 202, 3) := dk_182 0 202 (dk_at dksX5_product_1 17 rfl rfl)
theorem dX5_product_42 : decode cX5_product 42 = .ok (.ireturn, 1) := dk_172 (dk_at dksX5_product_1 20 rfl rfl)
abbrev cX5_skew : ByteArray := prog_12_method_78_code
def yX5_skew : MethodName := ⟨RX5, "skew", "()I"⟩
def dkwX5_skew_2 : List UInt8 := [167, 255, 231, 132, 2, 1, 167, 255, 213, 27, 172]
abbrev dktX5_skew_2 : List UInt8 := dkwX5_skew_2 ++ []
def dkwX5_skew_1 : List UInt8 := [162, 0, 26, 27, 42, 28, 29, 182, 0, 202, 154, 0, 7, 3, 167, 0, 4, 4, 96, 60, 132, 3, 1]
abbrev dktX5_skew_1 : List UInt8 := dkwX5_skew_1 ++ dktX5_skew_2
def dkwX5_skew_0 : List UInt8 := [42, 3, 181, 0, 65, 3, 60, 3, 61, 28, 42, 180, 0, 7, 8, 46, 162, 0, 39, 3, 62, 29, 28]
abbrev dktX5_skew_0 : List UInt8 := dkwX5_skew_0 ++ dktX5_skew_1
theorem dksX5_skew_0 : cX5_skew.data.toList.drop 0 = dktX5_skew_0 := by decide +kernel
theorem dksX5_skew_1 : cX5_skew.data.toList.drop 23 = dktX5_skew_1 := dk_seg dksX5_skew_0 23 rfl rfl
theorem dksX5_skew_2 : cX5_skew.data.toList.drop 46 = dktX5_skew_2 := dk_seg dksX5_skew_1 23 rfl rfl
theorem dX5_skew_0 : decode cX5_skew 0 = .ok (.aload_n 0, 1) := dk_42 (dk_at dksX5_skew_0 0 rfl rfl)
theorem dX5_skew_1 : decode cX5_skew 1 = .ok (.iconst 0, 1) := dk_3 (dk_at dksX5_skew_0 1 rfl rfl)
theorem dX5_skew_2 : decode cX5_skew 2 = .ok (.putfield 65, 3) := dk_181 0 65 (dk_at dksX5_skew_0 2 rfl rfl)
theorem dX5_skew_5 : decode cX5_skew 5 = .ok (.iconst 0, 1) := dk_3 (dk_at dksX5_skew_0 5 rfl rfl)
theorem dX5_skew_6 : decode cX5_skew 6 = .ok (.istore_n 1, 1) := dk_60 (dk_at dksX5_skew_0 6 rfl rfl)
theorem dX5_skew_7 : decode cX5_skew 7 = .ok (.iconst 0, 1) := dk_3 (dk_at dksX5_skew_0 7 rfl rfl)
theorem dX5_skew_8 : decode cX5_skew 8 = .ok (.istore_n 2, 1) := dk_61 (dk_at dksX5_skew_0 8 rfl rfl)
theorem dX5_skew_9 : decode cX5_skew 9 = .ok (.iload_n 2, 1) := dk_28 (dk_at dksX5_skew_0 9 rfl rfl)
theorem dX5_skew_10 : decode cX5_skew 10 = .ok (.aload_n 0, 1) := dk_42 (dk_at dksX5_skew_0 10 rfl rfl)
theorem dX5_skew_11 : decode cX5_skew 11 = .ok (.getfield 7, 3) := dk_180 0 7 (dk_at dksX5_skew_0 11 rfl rfl)
theorem dX5_skew_14 : decode cX5_skew 14 = .ok (.iconst 5, 1) := dk_8 (dk_at dksX5_skew_0 14 rfl rfl)
theorem dX5_skew_15 : decode cX5_skew 15 = .ok (.iaload, 1) := dk_46 (dk_at dksX5_skew_0 15 rfl rfl)
theorem dX5_skew_16 : decode cX5_skew 16 = .ok (.if_icmp .ge 39, 3) := dk_162 0 39 (dk_at dksX5_skew_0 16 rfl rfl)
theorem dX5_skew_19 : decode cX5_skew 19 = .ok (.iconst 0, 1) := dk_3 (dk_at dksX5_skew_0 19 rfl rfl)
theorem dX5_skew_20 : decode cX5_skew 20 = .ok (.istore_n 3, 1) := dk_62 (dk_at dksX5_skew_0 20 rfl rfl)
theorem dX5_skew_21 : decode cX5_skew 21 = .ok (.iload_n 3, 1) := dk_29 (dk_at dksX5_skew_0 21 rfl rfl)
theorem dX5_skew_22 : decode cX5_skew 22 = .ok (.iload_n 2, 1) := dk_28 (dk_at dksX5_skew_0 22 rfl rfl)
theorem dX5_skew_23 : decode cX5_skew 23 = .ok (.if_icmp .ge 26, 3) := dk_162 0 26 (dk_at dksX5_skew_1 0 rfl rfl)
theorem dX5_skew_26 : decode cX5_skew 26 = .ok (.iload_n 1, 1) := dk_27 (dk_at dksX5_skew_1 3 rfl rfl)
theorem dX5_skew_27 : decode cX5_skew 27 = .ok (.aload_n 0, 1) := dk_42 (dk_at dksX5_skew_1 4 rfl rfl)
theorem dX5_skew_28 : decode cX5_skew 28 = .ok (.iload_n 2, 1) := dk_28 (dk_at dksX5_skew_1 5 rfl rfl)
theorem dX5_skew_29 : decode cX5_skew 29 = .ok (.iload_n 3, 1) := dk_29 (dk_at dksX5_skew_1 6 rfl rfl)
theorem dX5_skew_30 : decode cX5_skew 30 = .ok (.invokevirtual 202, 3) := dk_182 0 202 (dk_at dksX5_skew_1 7 rfl rfl)
theorem dX5_skew_33 : decode cX5_skew 33 = .ok (.ifCond .ne 7, 3) := dk_154 0 7 (dk_at dksX5_skew_1 10 rfl rfl)
theorem dX5_skew_36 : decode cX5_skew 36 = .ok (.iconst 0, 1) := dk_3 (dk_at dksX5_skew_1 13 rfl rfl)
theorem dX5_skew_37 : decode cX5_skew 37 = .ok (.goto 4, 3) := dk_167 0 4 (dk_at dksX5_skew_1 14 rfl rfl)
theorem dX5_skew_40 : decode cX5_skew 40 = .ok (.iconst 1, 1) := dk_4 (dk_at dksX5_skew_1 17 rfl rfl)
theorem dX5_skew_41 : decode cX5_skew 41 = .ok (.iadd, 1) := dk_96 (dk_at dksX5_skew_1 18 rfl rfl)
theorem dX5_skew_42 : decode cX5_skew 42 = .ok (.istore_n 1, 1) := dk_60 (dk_at dksX5_skew_1 19 rfl rfl)
theorem dX5_skew_43 : decode cX5_skew 43 = .ok (.iinc 3 1, 3) := dk_132 3 1 (dk_at dksX5_skew_1 20 rfl rfl)
theorem dX5_skew_46 : decode cX5_skew 46 = .ok (.goto (-25), 3) := dk_167 255 231 (dk_at dksX5_skew_2 0 rfl rfl)
theorem dX5_skew_49 : decode cX5_skew 49 = .ok (.iinc 2 1, 3) := dk_132 2 1 (dk_at dksX5_skew_2 3 rfl rfl)
theorem dX5_skew_52 : decode cX5_skew 52 = .ok (.goto (-43), 3) := dk_167 255 213 (dk_at dksX5_skew_2 6 rfl rfl)
theorem dX5_skew_55 : decode cX5_skew 55 = .ok (.iload_n 1, 1) := dk_27 (dk_at dksX5_skew_2 9 rfl rfl)
theorem dX5_skew_56 : decode cX5_skew 56 = .ok (.ireturn, 1) := dk_172 (dk_at dksX5_skew_2 10 rfl rfl)
abbrev cX5_rank : ByteArray := prog_12_method_83_code
def yX5_rank : MethodName := ⟨RX5, "rank", "()I"⟩
def dkwX5_rank_3 : List UInt8 := [180, 0, 7, 8, 46, 42, 180, 0, 7, 4, 46, 182, 1, 39, 172]
abbrev dktX5_rank_3 : List UInt8 := dkwX5_rank_3 ++ []
def dkwX5_rank_2 : List UInt8 := [27, 28, 182, 0, 196, 167, 0, 4, 3, 79, 132, 2, 1, 167, 255, 216, 132, 1, 1, 167, 255, 198, 42, 42]
abbrev dktX5_rank_2 : List UInt8 := dkwX5_rank_2 ++ dktX5_rank_3
def dkwX5_rank_1 : List UInt8 := [162, 0, 40, 42, 180, 0, 51, 16, 9, 27, 104, 28, 96, 28, 42, 180, 0, 7, 4, 46, 162, 0, 12, 42]
abbrev dktX5_rank_1 : List UInt8 := dkwX5_rank_1 ++ dktX5_rank_2
def dkwX5_rank_0 : List UInt8 := [42, 3, 181, 0, 65, 3, 60, 27, 42, 180, 0, 7, 8, 46, 162, 0, 54, 3, 61, 28, 16, 9]
abbrev dktX5_rank_0 : List UInt8 := dkwX5_rank_0 ++ dktX5_rank_1
theorem dksX5_rank_0 : cX5_rank.data.toList.drop 0 = dktX5_rank_0 := by decide +kernel
theorem dksX5_rank_1 : cX5_rank.data.toList.drop 22 = dktX5_rank_1 := dk_seg dksX5_rank_0 22 rfl rfl
theorem dksX5_rank_2 : cX5_rank.data.toList.drop 46 = dktX5_rank_2 := dk_seg dksX5_rank_1 24 rfl rfl
theorem dksX5_rank_3 : cX5_rank.data.toList.drop 70 = dktX5_rank_3 := dk_seg dksX5_rank_2 24 rfl rfl
theorem dX5_rank_0 : decode cX5_rank 0 = .ok (.aload_n 0, 1) := dk_42 (dk_at dksX5_rank_0 0 rfl rfl)
theorem dX5_rank_1 : decode cX5_rank 1 = .ok (.iconst 0, 1) := dk_3 (dk_at dksX5_rank_0 1 rfl rfl)
theorem dX5_rank_2 : decode cX5_rank 2 = .ok (.putfield 65, 3) := dk_181 0 65 (dk_at dksX5_rank_0 2 rfl rfl)
theorem dX5_rank_5 : decode cX5_rank 5 = .ok (.iconst 0, 1) := dk_3 (dk_at dksX5_rank_0 5 rfl rfl)
theorem dX5_rank_6 : decode cX5_rank 6 = .ok (.istore_n 1, 1) := dk_60 (dk_at dksX5_rank_0 6 rfl rfl)
theorem dX5_rank_7 : decode cX5_rank 7 = .ok (.iload_n 1, 1) := dk_27 (dk_at dksX5_rank_0 7 rfl rfl)
theorem dX5_rank_8 : decode cX5_rank 8 = .ok (.aload_n 0, 1) := dk_42 (dk_at dksX5_rank_0 8 rfl rfl)
theorem dX5_rank_9 : decode cX5_rank 9 = .ok (.getfield 7, 3) := dk_180 0 7 (dk_at dksX5_rank_0 9 rfl rfl)
theorem dX5_rank_12 : decode cX5_rank 12 = .ok (.iconst 5, 1) := dk_8 (dk_at dksX5_rank_0 12 rfl rfl)
theorem dX5_rank_13 : decode cX5_rank 13 = .ok (.iaload, 1) := dk_46 (dk_at dksX5_rank_0 13 rfl rfl)
theorem dX5_rank_14 : decode cX5_rank 14 = .ok (.if_icmp .ge 54, 3) := dk_162 0 54 (dk_at dksX5_rank_0 14 rfl rfl)
theorem dX5_rank_17 : decode cX5_rank 17 = .ok (.iconst 0, 1) := dk_3 (dk_at dksX5_rank_0 17 rfl rfl)
theorem dX5_rank_18 : decode cX5_rank 18 = .ok (.istore_n 2, 1) := dk_61 (dk_at dksX5_rank_0 18 rfl rfl)
theorem dX5_rank_19 : decode cX5_rank 19 = .ok (.iload_n 2, 1) := dk_28 (dk_at dksX5_rank_0 19 rfl rfl)
theorem dX5_rank_20 : decode cX5_rank 20 = .ok (.bipush 9, 2) := dk_16 9 (dk_at dksX5_rank_0 20 rfl rfl)
theorem dX5_rank_22 : decode cX5_rank 22 = .ok (.if_icmp .ge 40, 3) := dk_162 0 40 (dk_at dksX5_rank_1 0 rfl rfl)
theorem dX5_rank_25 : decode cX5_rank 25 = .ok (.aload_n 0, 1) := dk_42 (dk_at dksX5_rank_1 3 rfl rfl)
theorem dX5_rank_26 : decode cX5_rank 26 = .ok (.getfield 51, 3) := dk_180 0 51 (dk_at dksX5_rank_1 4 rfl rfl)
theorem dX5_rank_29 : decode cX5_rank 29 = .ok (.bipush 9, 2) := dk_16 9 (dk_at dksX5_rank_1 7 rfl rfl)
theorem dX5_rank_31 : decode cX5_rank 31 = .ok (.iload_n 1, 1) := dk_27 (dk_at dksX5_rank_1 9 rfl rfl)
theorem dX5_rank_32 : decode cX5_rank 32 = .ok (.imul, 1) := dk_104 (dk_at dksX5_rank_1 10 rfl rfl)
theorem dX5_rank_33 : decode cX5_rank 33 = .ok (.iload_n 2, 1) := dk_28 (dk_at dksX5_rank_1 11 rfl rfl)
theorem dX5_rank_34 : decode cX5_rank 34 = .ok (.iadd, 1) := dk_96 (dk_at dksX5_rank_1 12 rfl rfl)
theorem dX5_rank_35 : decode cX5_rank 35 = .ok (.iload_n 2, 1) := dk_28 (dk_at dksX5_rank_1 13 rfl rfl)
theorem dX5_rank_36 : decode cX5_rank 36 = .ok (.aload_n 0, 1) := dk_42 (dk_at dksX5_rank_1 14 rfl rfl)
theorem dX5_rank_37 : decode cX5_rank 37 = .ok (.getfield 7, 3) := dk_180 0 7 (dk_at dksX5_rank_1 15 rfl rfl)
theorem dX5_rank_40 : decode cX5_rank 40 = .ok (.iconst 1, 1) := dk_4 (dk_at dksX5_rank_1 18 rfl rfl)
theorem dX5_rank_41 : decode cX5_rank 41 = .ok (.iaload, 1) := dk_46 (dk_at dksX5_rank_1 19 rfl rfl)
theorem dX5_rank_42 : decode cX5_rank 42 = .ok (.if_icmp .ge 12, 3) := dk_162 0 12 (dk_at dksX5_rank_1 20 rfl rfl)
theorem dX5_rank_45 : decode cX5_rank 45 = .ok (.aload_n 0, 1) := dk_42 (dk_at dksX5_rank_1 23 rfl rfl)
theorem dX5_rank_46 : decode cX5_rank 46 = .ok (.iload_n 1, 1) := dk_27 (dk_at dksX5_rank_2 0 rfl rfl)
theorem dX5_rank_47 : decode cX5_rank 47 = .ok (.iload_n 2, 1) := dk_28 (dk_at dksX5_rank_2 1 rfl rfl)
theorem dX5_rank_48 : decode cX5_rank 48 = .ok (.invokevirtual 196, 3) := dk_182 0 196 (dk_at dksX5_rank_2 2 rfl rfl)
theorem dX5_rank_51 : decode cX5_rank 51 = .ok (.goto 4, 3) := dk_167 0 4 (dk_at dksX5_rank_2 5 rfl rfl)
theorem dX5_rank_54 : decode cX5_rank 54 = .ok (.iconst 0, 1) := dk_3 (dk_at dksX5_rank_2 8 rfl rfl)
theorem dX5_rank_55 : decode cX5_rank 55 = .ok (.iastore, 1) := dk_79 (dk_at dksX5_rank_2 9 rfl rfl)
theorem dX5_rank_56 : decode cX5_rank 56 = .ok (.iinc 2 1, 3) := dk_132 2 1 (dk_at dksX5_rank_2 10 rfl rfl)
theorem dX5_rank_59 : decode cX5_rank 59 = .ok (.goto (-40), 3) := dk_167 255 216 (dk_at dksX5_rank_2 13 rfl rfl)
theorem dX5_rank_62 : decode cX5_rank 62 = .ok (.iinc 1 1, 3) := dk_132 1 1 (dk_at dksX5_rank_2 16 rfl rfl)
theorem dX5_rank_65 : decode cX5_rank 65 = .ok (.goto (-58), 3) := dk_167 255 198 (dk_at dksX5_rank_2 19 rfl rfl)
theorem dX5_rank_68 : decode cX5_rank 68 = .ok (.aload_n 0, 1) := dk_42 (dk_at dksX5_rank_2 22 rfl rfl)
theorem dX5_rank_69 : decode cX5_rank 69 = .ok (.aload_n 0, 1) := dk_42 (dk_at dksX5_rank_2 23 rfl rfl)
theorem dX5_rank_70 : decode cX5_rank 70 = .ok (.getfield 7, 3) := dk_180 0 7 (dk_at dksX5_rank_3 0 rfl rfl)
theorem dX5_rank_73 : decode cX5_rank 73 = .ok (.iconst 5, 1) := dk_8 (dk_at dksX5_rank_3 3 rfl rfl)
theorem dX5_rank_74 : decode cX5_rank 74 = .ok (.iaload, 1) := dk_46 (dk_at dksX5_rank_3 4 rfl rfl)
theorem dX5_rank_75 : decode cX5_rank 75 = .ok (.aload_n 0, 1) := dk_42 (dk_at dksX5_rank_3 5 rfl rfl)
theorem dX5_rank_76 : decode cX5_rank 76 = .ok (.getfield 7, 3) := dk_180 0 7 (dk_at dksX5_rank_3 6 rfl rfl)
theorem dX5_rank_79 : decode cX5_rank 79 = .ok (.iconst 1, 1) := dk_4 (dk_at dksX5_rank_3 9 rfl rfl)
theorem dX5_rank_80 : decode cX5_rank 80 = .ok (.iaload, 1) := dk_46 (dk_at dksX5_rank_3 10 rfl rfl)
theorem dX5_rank_81 : decode cX5_rank 81 = .ok (.invokevirtual 295, 3) := dk_182 1 39 (dk_at dksX5_rank_3 11 rfl rfl)
theorem dX5_rank_84 : decode cX5_rank 84 = .ok (.ireturn, 1) := dk_172 (dk_at dksX5_rank_3 14 rfl rfl)
abbrev cX5_ranks : ByteArray := prog_12_method_82_code
def yX5_ranks : MethodName := ⟨RX5, "ranks", "(II)I"⟩
def dkwX5_ranks_7 : List UInt8 := [167, 255, 104, 29, 172]
abbrev dktX5_ranks_7 : List UInt8 := dkwX5_ranks_7 ++ []
def dkwX5_ranks_6 : List UInt8 := [159, 0, 12, 42, 21, 7, 29, 21, 4, 182, 1, 35, 132, 7, 1, 167, 255, 232, 132, 3, 1, 132, 4, 1]
abbrev dktX5_ranks_6 : List UInt8 := dkwX5_ranks_6 ++ dktX5_ranks_7
def dkwX5_ranks_5 : List UInt8 := [112, 181, 1, 26, 42, 29, 21, 6, 182, 1, 32, 3, 54, 7, 21, 7, 27, 162, 0, 24, 21, 7, 29]
abbrev dktX5_ranks_5 : List UInt8 := dkwX5_ranks_5 ++ dktX5_ranks_6
def dkwX5_ranks_4 : List UInt8 := [16, 9, 29, 104, 21, 4, 96, 46, 54, 6, 42, 42, 180, 1, 26, 21, 6, 104, 42, 180, 0, 7, 3, 46]
abbrev dktX5_ranks_4 : List UInt8 := dkwX5_ranks_4 ++ dktX5_ranks_5
def dkwX5_ranks_3 : List UInt8 := [42, 42, 180, 1, 26, 116, 182, 0, 199, 181, 1, 26, 42, 21, 5, 29, 182, 1, 29, 42, 180, 0, 51]
abbrev dktX5_ranks_3 : List UInt8 := dkwX5_ranks_3 ++ dktX5_ranks_4
def dkwX5_ranks_2 : List UInt8 := [167, 255, 231, 21, 5, 27, 161, 0, 11, 42, 3, 181, 1, 26, 167, 0, 101, 21, 5, 29, 159, 0, 16, 42]
abbrev dktX5_ranks_2 : List UInt8 := dkwX5_ranks_2 ++ dktX5_ranks_3
def dkwX5_ranks_1 : List UInt8 := [162, 0, 25, 42, 180, 0, 51, 16, 9, 21, 5, 104, 21, 4, 96, 46, 154, 0, 9, 132, 5, 1]
abbrev dktX5_ranks_1 : List UInt8 := dkwX5_ranks_1 ++ dktX5_ranks_2
def dkwX5_ranks_0 : List UInt8 := [3, 62, 42, 4, 181, 1, 26, 3, 54, 4, 21, 4, 28, 162, 0, 152, 29, 54, 5, 21, 5, 27]
abbrev dktX5_ranks_0 : List UInt8 := dkwX5_ranks_0 ++ dktX5_ranks_1
theorem dksX5_ranks_0 : cX5_ranks.data.toList.drop 0 = dktX5_ranks_0 := by decide +kernel
theorem dksX5_ranks_1 : cX5_ranks.data.toList.drop 22 = dktX5_ranks_1 := dk_seg dksX5_ranks_0 22 rfl rfl
theorem dksX5_ranks_2 : cX5_ranks.data.toList.drop 44 = dktX5_ranks_2 := dk_seg dksX5_ranks_1 22 rfl rfl
theorem dksX5_ranks_3 : cX5_ranks.data.toList.drop 68 = dktX5_ranks_3 := dk_seg dksX5_ranks_2 24 rfl rfl
theorem dksX5_ranks_4 : cX5_ranks.data.toList.drop 91 = dktX5_ranks_4 := dk_seg dksX5_ranks_3 23 rfl rfl
theorem dksX5_ranks_5 : cX5_ranks.data.toList.drop 115 = dktX5_ranks_5 := dk_seg dksX5_ranks_4 24 rfl rfl
theorem dksX5_ranks_6 : cX5_ranks.data.toList.drop 138 = dktX5_ranks_6 := dk_seg dksX5_ranks_5 23 rfl rfl
theorem dksX5_ranks_7 : cX5_ranks.data.toList.drop 162 = dktX5_ranks_7 := dk_seg dksX5_ranks_6 24 rfl rfl
theorem dX5_ranks_0 : decode cX5_ranks 0 = .ok (.iconst 0, 1) := dk_3 (dk_at dksX5_ranks_0 0 rfl rfl)
theorem dX5_ranks_1 : decode cX5_ranks 1 = .ok (.istore_n 3, 1) := dk_62 (dk_at dksX5_ranks_0 1 rfl rfl)
theorem dX5_ranks_2 : decode cX5_ranks 2 = .ok (.aload_n 0, 1) := dk_42 (dk_at dksX5_ranks_0 2 rfl rfl)
theorem dX5_ranks_3 : decode cX5_ranks 3 = .ok (.iconst 1, 1) := dk_4 (dk_at dksX5_ranks_0 3 rfl rfl)
theorem dX5_ranks_4 : decode cX5_ranks 4 = .ok (.putfield 282, 3) := dk_181 1 26 (dk_at dksX5_ranks_0 4 rfl rfl)
theorem dX5_ranks_7 : decode cX5_ranks 7 = .ok (.iconst 0, 1) := dk_3 (dk_at dksX5_ranks_0 7 rfl rfl)
theorem dX5_ranks_8 : decode cX5_ranks 8 = .ok (.istore 4, 2) := dk_54 4 (dk_at dksX5_ranks_0 8 rfl rfl)
theorem dX5_ranks_10 : decode cX5_ranks 10 = .ok (.iload 4, 2) := dk_21 4 (dk_at dksX5_ranks_0 10 rfl rfl)
theorem dX5_ranks_12 : decode cX5_ranks 12 = .ok (.iload_n 2, 1) := dk_28 (dk_at dksX5_ranks_0 12 rfl rfl)
theorem dX5_ranks_13 : decode cX5_ranks 13 = .ok (.if_icmp .ge 152, 3) := dk_162 0 152 (dk_at dksX5_ranks_0 13 rfl rfl)
theorem dX5_ranks_16 : decode cX5_ranks 16 = .ok (.iload_n 3, 1) := dk_29 (dk_at dksX5_ranks_0 16 rfl rfl)
theorem dX5_ranks_17 : decode cX5_ranks 17 = .ok (.istore 5, 2) := dk_54 5 (dk_at dksX5_ranks_0 17 rfl rfl)
theorem dX5_ranks_19 : decode cX5_ranks 19 = .ok (.iload 5, 2) := dk_21 5 (dk_at dksX5_ranks_0 19 rfl rfl)
theorem dX5_ranks_21 : decode cX5_ranks 21 = .ok (.iload_n 1, 1) := dk_27 (dk_at dksX5_ranks_0 21 rfl rfl)
theorem dX5_ranks_22 : decode cX5_ranks 22 = .ok (.if_icmp .ge 25, 3) := dk_162 0 25 (dk_at dksX5_ranks_1 0 rfl rfl)
theorem dX5_ranks_25 : decode cX5_ranks 25 = .ok (.aload_n 0, 1) := dk_42 (dk_at dksX5_ranks_1 3 rfl rfl)
theorem dX5_ranks_26 : decode cX5_ranks 26 = .ok (.getfield 51, 3) := dk_180 0 51 (dk_at dksX5_ranks_1 4 rfl rfl)
theorem dX5_ranks_29 : decode cX5_ranks 29 = .ok (.bipush 9, 2) := dk_16 9 (dk_at dksX5_ranks_1 7 rfl rfl)
theorem dX5_ranks_31 : decode cX5_ranks 31 = .ok (.iload 5, 2) := dk_21 5 (dk_at dksX5_ranks_1 9 rfl rfl)
theorem dX5_ranks_33 : decode cX5_ranks 33 = .ok (.imul, 1) := dk_104 (dk_at dksX5_ranks_1 11 rfl rfl)
theorem dX5_ranks_34 : decode cX5_ranks 34 = .ok (.iload 4, 2) := dk_21 4 (dk_at dksX5_ranks_1 12 rfl rfl)
theorem dX5_ranks_36 : decode cX5_ranks 36 = .ok (.iadd, 1) := dk_96 (dk_at dksX5_ranks_1 14 rfl rfl)
theorem dX5_ranks_37 : decode cX5_ranks 37 = .ok (.iaload, 1) := dk_46 (dk_at dksX5_ranks_1 15 rfl rfl)
theorem dX5_ranks_38 : decode cX5_ranks 38 = .ok (.ifCond .ne 9, 3) := dk_154 0 9 (dk_at dksX5_ranks_1 16 rfl rfl)
theorem dX5_ranks_41 : decode cX5_ranks 41 = .ok (.iinc 5 1, 3) := dk_132 5 1 (dk_at dksX5_ranks_1 19 rfl rfl)
theorem dX5_ranks_44 : decode cX5_ranks 44 = .ok (.goto (-25), 3) := dk_167 255 231 (dk_at dksX5_ranks_2 0 rfl rfl)
theorem dX5_ranks_47 : decode cX5_ranks 47 = .ok (.iload 5, 2) := dk_21 5 (dk_at dksX5_ranks_2 3 rfl rfl)
theorem dX5_ranks_49 : decode cX5_ranks 49 = .ok (.iload_n 1, 1) := dk_27 (dk_at dksX5_ranks_2 5 rfl rfl)
theorem dX5_ranks_50 : decode cX5_ranks 50 = .ok (.if_icmp .lt 11, 3) := dk_161 0 11 (dk_at dksX5_ranks_2 6 rfl rfl)
theorem dX5_ranks_53 : decode cX5_ranks 53 = .ok (.aload_n 0, 1) := dk_42 (dk_at dksX5_ranks_2 9 rfl rfl)
theorem dX5_ranks_54 : decode cX5_ranks 54 = .ok (.iconst 0, 1) := dk_3 (dk_at dksX5_ranks_2 10 rfl rfl)
theorem dX5_ranks_55 : decode cX5_ranks 55 = .ok (.putfield 282, 3) := dk_181 1 26 (dk_at dksX5_ranks_2 11 rfl rfl)
theorem dX5_ranks_58 : decode cX5_ranks 58 = .ok (.goto 101, 3) := dk_167 0 101 (dk_at dksX5_ranks_2 14 rfl rfl)
theorem dX5_ranks_61 : decode cX5_ranks 61 = .ok (.iload 5, 2) := dk_21 5 (dk_at dksX5_ranks_2 17 rfl rfl)
theorem dX5_ranks_63 : decode cX5_ranks 63 = .ok (.iload_n 3, 1) := dk_29 (dk_at dksX5_ranks_2 19 rfl rfl)
theorem dX5_ranks_64 : decode cX5_ranks 64 = .ok (.if_icmp .eq 16, 3) := dk_159 0 16 (dk_at dksX5_ranks_2 20 rfl rfl)
theorem dX5_ranks_67 : decode cX5_ranks 67 = .ok (.aload_n 0, 1) := dk_42 (dk_at dksX5_ranks_2 23 rfl rfl)
theorem dX5_ranks_68 : decode cX5_ranks 68 = .ok (.aload_n 0, 1) := dk_42 (dk_at dksX5_ranks_3 0 rfl rfl)
theorem dX5_ranks_69 : decode cX5_ranks 69 = .ok (.aload_n 0, 1) := dk_42 (dk_at dksX5_ranks_3 1 rfl rfl)
theorem dX5_ranks_70 : decode cX5_ranks 70 = .ok (.getfield 282, 3) := dk_180 1 26 (dk_at dksX5_ranks_3 2 rfl rfl)
theorem dX5_ranks_73 : decode cX5_ranks 73 = .ok (.ineg, 1) := dk_116 (dk_at dksX5_ranks_3 5 rfl rfl)
theorem dX5_ranks_74 : decode cX5_ranks 74 = .ok (.invokevirtual 199, 3) := dk_182 0 199 (dk_at dksX5_ranks_3 6 rfl rfl)
theorem dX5_ranks_77 : decode cX5_ranks 77 = .ok (.putfield 282, 3) := dk_181 1 26 (dk_at dksX5_ranks_3 9 rfl rfl)
theorem dX5_ranks_80 : decode cX5_ranks 80 = .ok (.aload_n 0, 1) := dk_42 (dk_at dksX5_ranks_3 12 rfl rfl)
theorem dX5_ranks_81 : decode cX5_ranks 81 = .ok (.iload 5, 2) := dk_21 5 (dk_at dksX5_ranks_3 13 rfl rfl)
theorem dX5_ranks_83 : decode cX5_ranks 83 = .ok (.iload_n 3, 1) := dk_29 (dk_at dksX5_ranks_3 15 rfl rfl)
theorem dX5_ranks_84 : decode cX5_ranks 84 = .ok (.invokevirtual 285, 3) := dk_182 1 29 (dk_at dksX5_ranks_3 16 rfl rfl)
theorem dX5_ranks_87 : decode cX5_ranks 87 = .ok (.aload_n 0, 1) := dk_42 (dk_at dksX5_ranks_3 19 rfl rfl)
theorem dX5_ranks_88 : decode cX5_ranks 88 = .ok (.getfield 51, 3) := dk_180 0 51 (dk_at dksX5_ranks_3 20 rfl rfl)
theorem dX5_ranks_91 : decode cX5_ranks 91 = .ok (.bipush 9, 2) := dk_16 9 (dk_at dksX5_ranks_4 0 rfl rfl)
theorem dX5_ranks_93 : decode cX5_ranks 93 = .ok (.iload_n 3, 1) := dk_29 (dk_at dksX5_ranks_4 2 rfl rfl)
theorem dX5_ranks_94 : decode cX5_ranks 94 = .ok (.imul, 1) := dk_104 (dk_at dksX5_ranks_4 3 rfl rfl)
theorem dX5_ranks_95 : decode cX5_ranks 95 = .ok (.iload 4, 2) := dk_21 4 (dk_at dksX5_ranks_4 4 rfl rfl)
theorem dX5_ranks_97 : decode cX5_ranks 97 = .ok (.iadd, 1) := dk_96 (dk_at dksX5_ranks_4 6 rfl rfl)
theorem dX5_ranks_98 : decode cX5_ranks 98 = .ok (.iaload, 1) := dk_46 (dk_at dksX5_ranks_4 7 rfl rfl)
theorem dX5_ranks_99 : decode cX5_ranks 99 = .ok (.istore 6, 2) := dk_54 6 (dk_at dksX5_ranks_4 8 rfl rfl)
theorem dX5_ranks_101 : decode cX5_ranks 101 = .ok (.aload_n 0, 1) := dk_42 (dk_at dksX5_ranks_4 10 rfl rfl)
theorem dX5_ranks_102 : decode cX5_ranks 102 = .ok (.aload_n 0, 1) := dk_42 (dk_at dksX5_ranks_4 11 rfl rfl)
theorem dX5_ranks_103 : decode cX5_ranks 103 = .ok (.getfield 282, 3) := dk_180 1 26 (dk_at dksX5_ranks_4 12 rfl rfl)
theorem dX5_ranks_106 : decode cX5_ranks 106 = .ok (.iload 6, 2) := dk_21 6 (dk_at dksX5_ranks_4 15 rfl rfl)
theorem dX5_ranks_108 : decode cX5_ranks 108 = .ok (.imul, 1) := dk_104 (dk_at dksX5_ranks_4 17 rfl rfl)
theorem dX5_ranks_109 : decode cX5_ranks 109 = .ok (.aload_n 0, 1) := dk_42 (dk_at dksX5_ranks_4 18 rfl rfl)
theorem dX5_ranks_110 : decode cX5_ranks 110 = .ok (.getfield 7, 3) := dk_180 0 7 (dk_at dksX5_ranks_4 19 rfl rfl)
theorem dX5_ranks_113 : decode cX5_ranks 113 = .ok (.iconst 0, 1) := dk_3 (dk_at dksX5_ranks_4 22 rfl rfl)
theorem dX5_ranks_114 : decode cX5_ranks 114 = .ok (.iaload, 1) := dk_46 (dk_at dksX5_ranks_4 23 rfl rfl)
theorem dX5_ranks_115 : decode cX5_ranks 115 = .ok (.irem, 1) := dk_112 (dk_at dksX5_ranks_5 0 rfl rfl)
theorem dX5_ranks_116 : decode cX5_ranks 116 = .ok (.putfield 282, 3) := dk_181 1 26 (dk_at dksX5_ranks_5 1 rfl rfl)
theorem dX5_ranks_119 : decode cX5_ranks 119 = .ok (.aload_n 0, 1) := dk_42 (dk_at dksX5_ranks_5 4 rfl rfl)
theorem dX5_ranks_120 : decode cX5_ranks 120 = .ok (.iload_n 3, 1) := dk_29 (dk_at dksX5_ranks_5 5 rfl rfl)
theorem dX5_ranks_121 : decode cX5_ranks 121 = .ok (.iload 6, 2) := dk_21 6 (dk_at dksX5_ranks_5 6 rfl rfl)
theorem dX5_ranks_123 : decode cX5_ranks 123 = .ok (.invokevirtual 288, 3) := dk_182 1 32 (dk_at dksX5_ranks_5 8 rfl rfl)
theorem dX5_ranks_126 : decode cX5_ranks 126 = .ok (.iconst 0, 1) := dk_3 (dk_at dksX5_ranks_5 11 rfl rfl)
theorem dX5_ranks_127 : decode cX5_ranks 127 = .ok (.istore 7, 2) := dk_54 7 (dk_at dksX5_ranks_5 12 rfl rfl)
theorem dX5_ranks_129 : decode cX5_ranks 129 = .ok (.iload 7, 2) := dk_21 7 (dk_at dksX5_ranks_5 14 rfl rfl)
theorem dX5_ranks_131 : decode cX5_ranks 131 = .ok (.iload_n 1, 1) := dk_27 (dk_at dksX5_ranks_5 16 rfl rfl)
theorem dX5_ranks_132 : decode cX5_ranks 132 = .ok (.if_icmp .ge 24, 3) := dk_162 0 24 (dk_at dksX5_ranks_5 17 rfl rfl)
theorem dX5_ranks_135 : decode cX5_ranks 135 = .ok (.iload 7, 2) := dk_21 7 (dk_at dksX5_ranks_5 20 rfl rfl)
theorem dX5_ranks_137 : decode cX5_ranks 137 = .ok (.iload_n 3, 1) := dk_29 (dk_at dksX5_ranks_5 22 rfl rfl)
theorem dX5_ranks_138 : decode cX5_ranks 138 = .ok (.if_icmp .eq 12, 3) := dk_159 0 12 (dk_at dksX5_ranks_6 0 rfl rfl)
theorem dX5_ranks_141 : decode cX5_ranks 141 = .ok (.aload_n 0, 1) := dk_42 (dk_at dksX5_ranks_6 3 rfl rfl)
theorem dX5_ranks_142 : decode cX5_ranks 142 = .ok (.iload 7, 2) := dk_21 7 (dk_at dksX5_ranks_6 4 rfl rfl)
theorem dX5_ranks_144 : decode cX5_ranks 144 = .ok (.iload_n 3, 1) := dk_29 (dk_at dksX5_ranks_6 6 rfl rfl)
theorem dX5_ranks_145 : decode cX5_ranks 145 = .ok (.iload 4, 2) := dk_21 4 (dk_at dksX5_ranks_6 7 rfl rfl)
theorem dX5_ranks_147 : decode cX5_ranks 147 = .ok (.invokevirtual 291, 3) := dk_182 1 35 (dk_at dksX5_ranks_6 9 rfl rfl)
theorem dX5_ranks_150 : decode cX5_ranks 150 = .ok (.iinc 7 1, 3) := dk_132 7 1 (dk_at dksX5_ranks_6 12 rfl rfl)
theorem dX5_ranks_153 : decode cX5_ranks 153 = .ok (.goto (-24), 3) := dk_167 255 232 (dk_at dksX5_ranks_6 15 rfl rfl)
theorem dX5_ranks_156 : decode cX5_ranks 156 = .ok (.iinc 3 1, 3) := dk_132 3 1 (dk_at dksX5_ranks_6 18 rfl rfl)
theorem dX5_ranks_159 : decode cX5_ranks 159 = .ok (.iinc 4 1, 3) := dk_132 4 1 (dk_at dksX5_ranks_6 21 rfl rfl)
theorem dX5_ranks_162 : decode cX5_ranks 162 = .ok (.goto (-152), 3) := dk_167 255 104 (dk_at dksX5_ranks_7 0 rfl rfl)
theorem dX5_ranks_165 : decode cX5_ranks 165 = .ok (.iload_n 3, 1) := dk_29 (dk_at dksX5_ranks_7 3 rfl rfl)
theorem dX5_ranks_166 : decode cX5_ranks 166 = .ok (.ireturn, 1) := dk_172 (dk_at dksX5_ranks_7 4 rfl rfl)
abbrev cX5_exchanges : ByteArray := prog_12_method_79_code
def yX5_exchanges : MethodName := ⟨RX5, "exchanges", "(II)V"⟩
def dkwX5_exchanges_2 : List UInt8 := [180, 0, 51, 16, 9, 28, 104, 29, 96, 21, 4, 79, 132, 3, 1, 167, 255, 199, 177]
abbrev dktX5_exchanges_2 : List UInt8 := dkwX5_exchanges_2 ++ []
def dkwX5_exchanges_1 : List UInt8 := [180, 0, 51, 16, 9, 27, 104, 29, 96, 42, 180, 0, 51, 16, 9, 28, 104, 29, 96, 46, 79, 42]
abbrev dktX5_exchanges_1 : List UInt8 := dkwX5_exchanges_1 ++ dktX5_exchanges_2
def dkwX5_exchanges_0 : List UInt8 := [3, 62, 29, 16, 9, 162, 0, 57, 42, 180, 0, 51, 16, 9, 27, 104, 29, 96, 46, 54, 4, 42]
abbrev dktX5_exchanges_0 : List UInt8 := dkwX5_exchanges_0 ++ dktX5_exchanges_1
theorem dksX5_exchanges_0 : cX5_exchanges.data.toList.drop 0 = dktX5_exchanges_0 := by decide +kernel
theorem dksX5_exchanges_1 : cX5_exchanges.data.toList.drop 22 = dktX5_exchanges_1 := dk_seg dksX5_exchanges_0 22 rfl rfl
theorem dksX5_exchanges_2 : cX5_exchanges.data.toList.drop 44 = dktX5_exchanges_2 := dk_seg dksX5_exchanges_1 22 rfl rfl
theorem dX5_exchanges_0 : decode cX5_exchanges 0 = .ok (.iconst 0, 1) := dk_3 (dk_at dksX5_exchanges_0 0 rfl rfl)
theorem dX5_exchanges_1 : decode cX5_exchanges 1 = .ok (.istore_n 3, 1) := dk_62 (dk_at dksX5_exchanges_0 1 rfl rfl)
theorem dX5_exchanges_2 : decode cX5_exchanges 2 = .ok (.iload_n 3, 1) := dk_29 (dk_at dksX5_exchanges_0 2 rfl rfl)
theorem dX5_exchanges_3 : decode cX5_exchanges 3 = .ok (.bipush 9, 2) := dk_16 9 (dk_at dksX5_exchanges_0 3 rfl rfl)
theorem dX5_exchanges_5 : decode cX5_exchanges 5 = .ok (.if_icmp .ge 57, 3) := dk_162 0 57 (dk_at dksX5_exchanges_0 5 rfl rfl)
theorem dX5_exchanges_8 : decode cX5_exchanges 8 = .ok (.aload_n 0, 1) := dk_42 (dk_at dksX5_exchanges_0 8 rfl rfl)
theorem dX5_exchanges_9 : decode cX5_exchanges 9 = .ok (.getfield 51, 3) := dk_180 0 51 (dk_at dksX5_exchanges_0 9 rfl rfl)
theorem dX5_exchanges_12 : decode cX5_exchanges 12 = .ok (.bipush 9, 2) := dk_16 9 (dk_at dksX5_exchanges_0 12 rfl rfl)
theorem dX5_exchanges_14 : decode cX5_exchanges 14 = .ok (.iload_n 1, 1) := dk_27 (dk_at dksX5_exchanges_0 14 rfl rfl)
theorem dX5_exchanges_15 : decode cX5_exchanges 15 = .ok (.imul, 1) := dk_104 (dk_at dksX5_exchanges_0 15 rfl rfl)
theorem dX5_exchanges_16 : decode cX5_exchanges 16 = .ok (.iload_n 3, 1) := dk_29 (dk_at dksX5_exchanges_0 16 rfl rfl)
theorem dX5_exchanges_17 : decode cX5_exchanges 17 = .ok (.iadd, 1) := dk_96 (dk_at dksX5_exchanges_0 17 rfl rfl)
theorem dX5_exchanges_18 : decode cX5_exchanges 18 = .ok (.iaload, 1) := dk_46 (dk_at dksX5_exchanges_0 18 rfl rfl)
theorem dX5_exchanges_19 : decode cX5_exchanges 19 = .ok (.istore 4, 2) := dk_54 4 (dk_at dksX5_exchanges_0 19 rfl rfl)
theorem dX5_exchanges_21 : decode cX5_exchanges 21 = .ok (.aload_n 0, 1) := dk_42 (dk_at dksX5_exchanges_0 21 rfl rfl)
theorem dX5_exchanges_22 : decode cX5_exchanges 22 = .ok (.getfield 51, 3) := dk_180 0 51 (dk_at dksX5_exchanges_1 0 rfl rfl)
theorem dX5_exchanges_25 : decode cX5_exchanges 25 = .ok (.bipush 9, 2) := dk_16 9 (dk_at dksX5_exchanges_1 3 rfl rfl)
theorem dX5_exchanges_27 : decode cX5_exchanges 27 = .ok (.iload_n 1, 1) := dk_27 (dk_at dksX5_exchanges_1 5 rfl rfl)
theorem dX5_exchanges_28 : decode cX5_exchanges 28 = .ok (.imul, 1) := dk_104 (dk_at dksX5_exchanges_1 6 rfl rfl)
theorem dX5_exchanges_29 : decode cX5_exchanges 29 = .ok (.iload_n 3, 1) := dk_29 (dk_at dksX5_exchanges_1 7 rfl rfl)
theorem dX5_exchanges_30 : decode cX5_exchanges 30 = .ok (.iadd, 1) := dk_96 (dk_at dksX5_exchanges_1 8 rfl rfl)
theorem dX5_exchanges_31 : decode cX5_exchanges 31 = .ok (.aload_n 0, 1) := dk_42 (dk_at dksX5_exchanges_1 9 rfl rfl)
theorem dX5_exchanges_32 : decode cX5_exchanges 32 = .ok (.getfield 51, 3) := dk_180 0 51 (dk_at dksX5_exchanges_1 10 rfl rfl)
theorem dX5_exchanges_35 : decode cX5_exchanges 35 = .ok (.bipush 9, 2) := dk_16 9 (dk_at dksX5_exchanges_1 13 rfl rfl)
theorem dX5_exchanges_37 : decode cX5_exchanges 37 = .ok (.iload_n 2, 1) := dk_28 (dk_at dksX5_exchanges_1 15 rfl rfl)
theorem dX5_exchanges_38 : decode cX5_exchanges 38 = .ok (.imul, 1) := dk_104 (dk_at dksX5_exchanges_1 16 rfl rfl)
theorem dX5_exchanges_39 : decode cX5_exchanges 39 = .ok (.iload_n 3, 1) := dk_29 (dk_at dksX5_exchanges_1 17 rfl rfl)
theorem dX5_exchanges_40 : decode cX5_exchanges 40 = .ok (.iadd, 1) := dk_96 (dk_at dksX5_exchanges_1 18 rfl rfl)
theorem dX5_exchanges_41 : decode cX5_exchanges 41 = .ok (.iaload, 1) := dk_46 (dk_at dksX5_exchanges_1 19 rfl rfl)
theorem dX5_exchanges_42 : decode cX5_exchanges 42 = .ok (.iastore, 1) := dk_79 (dk_at dksX5_exchanges_1 20 rfl rfl)
theorem dX5_exchanges_43 : decode cX5_exchanges 43 = .ok (.aload_n 0, 1) := dk_42 (dk_at dksX5_exchanges_1 21 rfl rfl)
theorem dX5_exchanges_44 : decode cX5_exchanges 44 = .ok (.getfield 51, 3) := dk_180 0 51 (dk_at dksX5_exchanges_2 0 rfl rfl)
theorem dX5_exchanges_47 : decode cX5_exchanges 47 = .ok (.bipush 9, 2) := dk_16 9 (dk_at dksX5_exchanges_2 3 rfl rfl)
theorem dX5_exchanges_49 : decode cX5_exchanges 49 = .ok (.iload_n 2, 1) := dk_28 (dk_at dksX5_exchanges_2 5 rfl rfl)
theorem dX5_exchanges_50 : decode cX5_exchanges 50 = .ok (.imul, 1) := dk_104 (dk_at dksX5_exchanges_2 6 rfl rfl)
theorem dX5_exchanges_51 : decode cX5_exchanges 51 = .ok (.iload_n 3, 1) := dk_29 (dk_at dksX5_exchanges_2 7 rfl rfl)
theorem dX5_exchanges_52 : decode cX5_exchanges 52 = .ok (.iadd, 1) := dk_96 (dk_at dksX5_exchanges_2 8 rfl rfl)
theorem dX5_exchanges_53 : decode cX5_exchanges 53 = .ok (.iload 4, 2) := dk_21 4 (dk_at dksX5_exchanges_2 9 rfl rfl)
theorem dX5_exchanges_55 : decode cX5_exchanges 55 = .ok (.iastore, 1) := dk_79 (dk_at dksX5_exchanges_2 11 rfl rfl)
theorem dX5_exchanges_56 : decode cX5_exchanges 56 = .ok (.iinc 3 1, 3) := dk_132 3 1 (dk_at dksX5_exchanges_2 12 rfl rfl)
theorem dX5_exchanges_59 : decode cX5_exchanges 59 = .ok (.goto (-57), 3) := dk_167 255 199 (dk_at dksX5_exchanges_2 15 rfl rfl)
theorem dX5_exchanges_62 : decode cX5_exchanges 62 = .ok (.return_, 1) := dk_177 (dk_at dksX5_exchanges_2 18 rfl rfl)
abbrev cX5_divides : ByteArray := prog_12_method_81_code
def yX5_divides : MethodName := ⟨RX5, "divides", "(II)V"⟩
def dkwX5_divides_1 : List UInt8 := [16, 9, 27, 104, 29, 96, 46, 28, 182, 0, 208, 79, 132, 3, 1, 167, 255, 220, 177]
abbrev dktX5_divides_1 : List UInt8 := dkwX5_divides_1 ++ []
def dkwX5_divides_0 : List UInt8 := [3, 62, 29, 16, 9, 162, 0, 36, 42, 180, 0, 51, 16, 9, 27, 104, 29, 96, 42, 42, 180, 0, 51]
abbrev dktX5_divides_0 : List UInt8 := dkwX5_divides_0 ++ dktX5_divides_1
theorem dksX5_divides_0 : cX5_divides.data.toList.drop 0 = dktX5_divides_0 := by decide +kernel
theorem dksX5_divides_1 : cX5_divides.data.toList.drop 23 = dktX5_divides_1 := dk_seg dksX5_divides_0 23 rfl rfl
theorem dX5_divides_0 : decode cX5_divides 0 = .ok (.iconst 0, 1) := dk_3 (dk_at dksX5_divides_0 0 rfl rfl)
theorem dX5_divides_1 : decode cX5_divides 1 = .ok (.istore_n 3, 1) := dk_62 (dk_at dksX5_divides_0 1 rfl rfl)
theorem dX5_divides_2 : decode cX5_divides 2 = .ok (.iload_n 3, 1) := dk_29 (dk_at dksX5_divides_0 2 rfl rfl)
theorem dX5_divides_3 : decode cX5_divides 3 = .ok (.bipush 9, 2) := dk_16 9 (dk_at dksX5_divides_0 3 rfl rfl)
theorem dX5_divides_5 : decode cX5_divides 5 = .ok (.if_icmp .ge 36, 3) := dk_162 0 36 (dk_at dksX5_divides_0 5 rfl rfl)
theorem dX5_divides_8 : decode cX5_divides 8 = .ok (.aload_n 0, 1) := dk_42 (dk_at dksX5_divides_0 8 rfl rfl)
theorem dX5_divides_9 : decode cX5_divides 9 = .ok (.getfield 51, 3) := dk_180 0 51 (dk_at dksX5_divides_0 9 rfl rfl)
theorem dX5_divides_12 : decode cX5_divides 12 = .ok (.bipush 9, 2) := dk_16 9 (dk_at dksX5_divides_0 12 rfl rfl)
theorem dX5_divides_14 : decode cX5_divides 14 = .ok (.iload_n 1, 1) := dk_27 (dk_at dksX5_divides_0 14 rfl rfl)
theorem dX5_divides_15 : decode cX5_divides 15 = .ok (.imul, 1) := dk_104 (dk_at dksX5_divides_0 15 rfl rfl)
theorem dX5_divides_16 : decode cX5_divides 16 = .ok (.iload_n 3, 1) := dk_29 (dk_at dksX5_divides_0 16 rfl rfl)
theorem dX5_divides_17 : decode cX5_divides 17 = .ok (.iadd, 1) := dk_96 (dk_at dksX5_divides_0 17 rfl rfl)
theorem dX5_divides_18 : decode cX5_divides 18 = .ok (.aload_n 0, 1) := dk_42 (dk_at dksX5_divides_0 18 rfl rfl)
theorem dX5_divides_19 : decode cX5_divides 19 = .ok (.aload_n 0, 1) := dk_42 (dk_at dksX5_divides_0 19 rfl rfl)
theorem dX5_divides_20 : decode cX5_divides 20 = .ok (.getfield 51, 3) := dk_180 0 51 (dk_at dksX5_divides_0 20 rfl rfl)
theorem dX5_divides_23 : decode cX5_divides 23 = .ok (.bipush 9, 2) := dk_16 9 (dk_at dksX5_divides_1 0 rfl rfl)
theorem dX5_divides_25 : decode cX5_divides 25 = .ok (.iload_n 1, 1) := dk_27 (dk_at dksX5_divides_1 2 rfl rfl)
theorem dX5_divides_26 : decode cX5_divides 26 = .ok (.imul, 1) := dk_104 (dk_at dksX5_divides_1 3 rfl rfl)
theorem dX5_divides_27 : decode cX5_divides 27 = .ok (.iload_n 3, 1) := dk_29 (dk_at dksX5_divides_1 4 rfl rfl)
theorem dX5_divides_28 : decode cX5_divides 28 = .ok (.iadd, 1) := dk_96 (dk_at dksX5_divides_1 5 rfl rfl)
theorem dX5_divides_29 : decode cX5_divides 29 = .ok (.iaload, 1) := dk_46 (dk_at dksX5_divides_1 6 rfl rfl)
theorem dX5_divides_30 : decode cX5_divides 30 = .ok (.iload_n 2, 1) := dk_28 (dk_at dksX5_divides_1 7 rfl rfl)
theorem dX5_divides_31 : decode cX5_divides 31 = .ok (.invokevirtual 208, 3) := dk_182 0 208 (dk_at dksX5_divides_1 8 rfl rfl)
theorem dX5_divides_34 : decode cX5_divides 34 = .ok (.iastore, 1) := dk_79 (dk_at dksX5_divides_1 11 rfl rfl)
theorem dX5_divides_35 : decode cX5_divides 35 = .ok (.iinc 3 1, 3) := dk_132 3 1 (dk_at dksX5_divides_1 12 rfl rfl)
theorem dX5_divides_38 : decode cX5_divides 38 = .ok (.goto (-36), 3) := dk_167 255 220 (dk_at dksX5_divides_1 15 rfl rfl)
theorem dX5_divides_41 : decode cX5_divides 41 = .ok (.return_, 1) := dk_177 (dk_at dksX5_divides_1 18 rfl rfl)
abbrev cX5_clears : ByteArray := prog_12_method_80_code
def yX5_clears : MethodName := ⟨RX5, "clears", "(III)V"⟩
def dkwX5_clears_3 : List UInt8 := [167, 255, 202, 177]
abbrev dktX5_clears_3 : List UInt8 := dkwX5_clears_3 ++ []
def dkwX5_clears_2 : List UInt8 := [21, 4, 42, 180, 0, 51, 16, 9, 28, 104, 21, 5, 96, 46, 104, 100, 182, 0, 199, 79, 132, 5, 1]
abbrev dktX5_clears_2 : List UInt8 := dkwX5_clears_2 ++ dktX5_clears_3
def dkwX5_clears_1 : List UInt8 := [180, 0, 51, 16, 9, 27, 104, 21, 5, 96, 42, 42, 180, 0, 51, 16, 9, 27, 104, 21, 5, 96, 46]
abbrev dktX5_clears_1 : List UInt8 := dkwX5_clears_1 ++ dktX5_clears_2
def dkwX5_clears_0 : List UInt8 := [42, 180, 0, 51, 16, 9, 27, 104, 29, 96, 46, 54, 4, 3, 54, 5, 21, 5, 16, 9, 162, 0, 53, 42]
abbrev dktX5_clears_0 : List UInt8 := dkwX5_clears_0 ++ dktX5_clears_1
theorem dksX5_clears_0 : cX5_clears.data.toList.drop 0 = dktX5_clears_0 := by decide +kernel
theorem dksX5_clears_1 : cX5_clears.data.toList.drop 24 = dktX5_clears_1 := dk_seg dksX5_clears_0 24 rfl rfl
theorem dksX5_clears_2 : cX5_clears.data.toList.drop 47 = dktX5_clears_2 := dk_seg dksX5_clears_1 23 rfl rfl
theorem dksX5_clears_3 : cX5_clears.data.toList.drop 70 = dktX5_clears_3 := dk_seg dksX5_clears_2 23 rfl rfl
theorem dX5_clears_0 : decode cX5_clears 0 = .ok (.aload_n 0, 1) := dk_42 (dk_at dksX5_clears_0 0 rfl rfl)
theorem dX5_clears_1 : decode cX5_clears 1 = .ok (.getfield 51, 3) := dk_180 0 51 (dk_at dksX5_clears_0 1 rfl rfl)
theorem dX5_clears_4 : decode cX5_clears 4 = .ok (.bipush 9, 2) := dk_16 9 (dk_at dksX5_clears_0 4 rfl rfl)
theorem dX5_clears_6 : decode cX5_clears 6 = .ok (.iload_n 1, 1) := dk_27 (dk_at dksX5_clears_0 6 rfl rfl)
theorem dX5_clears_7 : decode cX5_clears 7 = .ok (.imul, 1) := dk_104 (dk_at dksX5_clears_0 7 rfl rfl)
theorem dX5_clears_8 : decode cX5_clears 8 = .ok (.iload_n 3, 1) := dk_29 (dk_at dksX5_clears_0 8 rfl rfl)
theorem dX5_clears_9 : decode cX5_clears 9 = .ok (.iadd, 1) := dk_96 (dk_at dksX5_clears_0 9 rfl rfl)
theorem dX5_clears_10 : decode cX5_clears 10 = .ok (.iaload, 1) := dk_46 (dk_at dksX5_clears_0 10 rfl rfl)
theorem dX5_clears_11 : decode cX5_clears 11 = .ok (.istore 4, 2) := dk_54 4 (dk_at dksX5_clears_0 11 rfl rfl)
theorem dX5_clears_13 : decode cX5_clears 13 = .ok (.iconst 0, 1) := dk_3 (dk_at dksX5_clears_0 13 rfl rfl)
theorem dX5_clears_14 : decode cX5_clears 14 = .ok (.istore 5, 2) := dk_54 5 (dk_at dksX5_clears_0 14 rfl rfl)
theorem dX5_clears_16 : decode cX5_clears 16 = .ok (.iload 5, 2) := dk_21 5 (dk_at dksX5_clears_0 16 rfl rfl)
theorem dX5_clears_18 : decode cX5_clears 18 = .ok (.bipush 9, 2) := dk_16 9 (dk_at dksX5_clears_0 18 rfl rfl)
theorem dX5_clears_20 : decode cX5_clears 20 = .ok (.if_icmp .ge 53, 3) := dk_162 0 53 (dk_at dksX5_clears_0 20 rfl rfl)
theorem dX5_clears_23 : decode cX5_clears 23 = .ok (.aload_n 0, 1) := dk_42 (dk_at dksX5_clears_0 23 rfl rfl)
theorem dX5_clears_24 : decode cX5_clears 24 = .ok (.getfield 51, 3) := dk_180 0 51 (dk_at dksX5_clears_1 0 rfl rfl)
theorem dX5_clears_27 : decode cX5_clears 27 = .ok (.bipush 9, 2) := dk_16 9 (dk_at dksX5_clears_1 3 rfl rfl)
theorem dX5_clears_29 : decode cX5_clears 29 = .ok (.iload_n 1, 1) := dk_27 (dk_at dksX5_clears_1 5 rfl rfl)
theorem dX5_clears_30 : decode cX5_clears 30 = .ok (.imul, 1) := dk_104 (dk_at dksX5_clears_1 6 rfl rfl)
theorem dX5_clears_31 : decode cX5_clears 31 = .ok (.iload 5, 2) := dk_21 5 (dk_at dksX5_clears_1 7 rfl rfl)
theorem dX5_clears_33 : decode cX5_clears 33 = .ok (.iadd, 1) := dk_96 (dk_at dksX5_clears_1 9 rfl rfl)
theorem dX5_clears_34 : decode cX5_clears 34 = .ok (.aload_n 0, 1) := dk_42 (dk_at dksX5_clears_1 10 rfl rfl)
theorem dX5_clears_35 : decode cX5_clears 35 = .ok (.aload_n 0, 1) := dk_42 (dk_at dksX5_clears_1 11 rfl rfl)
theorem dX5_clears_36 : decode cX5_clears 36 = .ok (.getfield 51, 3) := dk_180 0 51 (dk_at dksX5_clears_1 12 rfl rfl)
theorem dX5_clears_39 : decode cX5_clears 39 = .ok (.bipush 9, 2) := dk_16 9 (dk_at dksX5_clears_1 15 rfl rfl)
theorem dX5_clears_41 : decode cX5_clears 41 = .ok (.iload_n 1, 1) := dk_27 (dk_at dksX5_clears_1 17 rfl rfl)
theorem dX5_clears_42 : decode cX5_clears 42 = .ok (.imul, 1) := dk_104 (dk_at dksX5_clears_1 18 rfl rfl)
theorem dX5_clears_43 : decode cX5_clears 43 = .ok (.iload 5, 2) := dk_21 5 (dk_at dksX5_clears_1 19 rfl rfl)
theorem dX5_clears_45 : decode cX5_clears 45 = .ok (.iadd, 1) := dk_96 (dk_at dksX5_clears_1 21 rfl rfl)
theorem dX5_clears_46 : decode cX5_clears 46 = .ok (.iaload, 1) := dk_46 (dk_at dksX5_clears_1 22 rfl rfl)
theorem dX5_clears_47 : decode cX5_clears 47 = .ok (.iload 4, 2) := dk_21 4 (dk_at dksX5_clears_2 0 rfl rfl)
theorem dX5_clears_49 : decode cX5_clears 49 = .ok (.aload_n 0, 1) := dk_42 (dk_at dksX5_clears_2 2 rfl rfl)
theorem dX5_clears_50 : decode cX5_clears 50 = .ok (.getfield 51, 3) := dk_180 0 51 (dk_at dksX5_clears_2 3 rfl rfl)
theorem dX5_clears_53 : decode cX5_clears 53 = .ok (.bipush 9, 2) := dk_16 9 (dk_at dksX5_clears_2 6 rfl rfl)
theorem dX5_clears_55 : decode cX5_clears 55 = .ok (.iload_n 2, 1) := dk_28 (dk_at dksX5_clears_2 8 rfl rfl)
theorem dX5_clears_56 : decode cX5_clears 56 = .ok (.imul, 1) := dk_104 (dk_at dksX5_clears_2 9 rfl rfl)
theorem dX5_clears_57 : decode cX5_clears 57 = .ok (.iload 5, 2) := dk_21 5 (dk_at dksX5_clears_2 10 rfl rfl)
theorem dX5_clears_59 : decode cX5_clears 59 = .ok (.iadd, 1) := dk_96 (dk_at dksX5_clears_2 12 rfl rfl)
theorem dX5_clears_60 : decode cX5_clears 60 = .ok (.iaload, 1) := dk_46 (dk_at dksX5_clears_2 13 rfl rfl)
theorem dX5_clears_61 : decode cX5_clears 61 = .ok (.imul, 1) := dk_104 (dk_at dksX5_clears_2 14 rfl rfl)
theorem dX5_clears_62 : decode cX5_clears 62 = .ok (.isub, 1) := dk_100 (dk_at dksX5_clears_2 15 rfl rfl)
theorem dX5_clears_63 : decode cX5_clears 63 = .ok (.invokevirtual 199, 3) := dk_182 0 199 (dk_at dksX5_clears_2 16 rfl rfl)
theorem dX5_clears_66 : decode cX5_clears 66 = .ok (.iastore, 1) := dk_79 (dk_at dksX5_clears_2 19 rfl rfl)
theorem dX5_clears_67 : decode cX5_clears 67 = .ok (.iinc 5 1, 3) := dk_132 5 1 (dk_at dksX5_clears_2 20 rfl rfl)
theorem dX5_clears_70 : decode cX5_clears 70 = .ok (.goto (-54), 3) := dk_167 255 202 (dk_at dksX5_clears_3 0 rfl rfl)
theorem dX5_clears_73 : decode cX5_clears 73 = .ok (.return_, 1) := dk_177 (dk_at dksX5_clears_3 3 rfl rfl)
abbrev cX5_projected : ByteArray := prog_12_method_84_code
def yX5_projected : MethodName := ⟨RX5, "projected", "(II)I"⟩
def dkwX5_projected_1 : List UInt8 := [181, 0, 65, 42, 180, 0, 65, 158, 0, 7, 3, 167, 0, 9, 42, 27, 28, 182, 1, 8, 172]
abbrev dktX5_projected_1 : List UInt8 := dkwX5_projected_1 ++ []
def dkwX5_projected_0 : List UInt8 := [42, 42, 27, 182, 1, 23, 153, 0, 15, 42, 28, 182, 1, 23, 153, 0, 7, 3, 167, 0, 4, 4]
abbrev dktX5_projected_0 : List UInt8 := dkwX5_projected_0 ++ dktX5_projected_1
theorem dksX5_projected_0 : cX5_projected.data.toList.drop 0 = dktX5_projected_0 := by decide +kernel
theorem dksX5_projected_1 : cX5_projected.data.toList.drop 22 = dktX5_projected_1 := dk_seg dksX5_projected_0 22 rfl rfl
theorem dX5_projected_0 : decode cX5_projected 0 = .ok (.aload_n 0, 1) := dk_42 (dk_at dksX5_projected_0 0 rfl rfl)
theorem dX5_projected_1 : decode cX5_projected 1 = .ok (.aload_n 0, 1) := dk_42 (dk_at dksX5_projected_0 1 rfl rfl)
theorem dX5_projected_2 : decode cX5_projected 2 = .ok (.iload_n 1, 1) := dk_27 (dk_at dksX5_projected_0 2 rfl rfl)
theorem dX5_projected_3 : decode cX5_projected 3 = .ok (.invokevirtual 279, 3) := dk_182 1 23 (dk_at dksX5_projected_0 3 rfl rfl)
theorem dX5_projected_6 : decode cX5_projected 6 = .ok (.ifCond .eq 15, 3) := dk_153 0 15 (dk_at dksX5_projected_0 6 rfl rfl)
theorem dX5_projected_9 : decode cX5_projected 9 = .ok (.aload_n 0, 1) := dk_42 (dk_at dksX5_projected_0 9 rfl rfl)
theorem dX5_projected_10 : decode cX5_projected 10 = .ok (.iload_n 2, 1) := dk_28 (dk_at dksX5_projected_0 10 rfl rfl)
theorem dX5_projected_11 : decode cX5_projected 11 = .ok (.invokevirtual 279, 3) := dk_182 1 23 (dk_at dksX5_projected_0 11 rfl rfl)
theorem dX5_projected_14 : decode cX5_projected 14 = .ok (.ifCond .eq 7, 3) := dk_153 0 7 (dk_at dksX5_projected_0 14 rfl rfl)
theorem dX5_projected_17 : decode cX5_projected 17 = .ok (.iconst 0, 1) := dk_3 (dk_at dksX5_projected_0 17 rfl rfl)
theorem dX5_projected_18 : decode cX5_projected 18 = .ok (.goto 4, 3) := dk_167 0 4 (dk_at dksX5_projected_0 18 rfl rfl)
theorem dX5_projected_21 : decode cX5_projected 21 = .ok (.iconst 1, 1) := dk_4 (dk_at dksX5_projected_0 21 rfl rfl)
theorem dX5_projected_22 : decode cX5_projected 22 = .ok (.putfield 65, 3) := dk_181 0 65 (dk_at dksX5_projected_1 0 rfl rfl)
theorem dX5_projected_25 : decode cX5_projected 25 = .ok (.aload_n 0, 1) := dk_42 (dk_at dksX5_projected_1 3 rfl rfl)
theorem dX5_projected_26 : decode cX5_projected 26 = .ok (.getfield 65, 3) := dk_180 0 65 (dk_at dksX5_projected_1 4 rfl rfl)
theorem dX5_projected_29 : decode cX5_projected 29 = .ok (.ifCond .le 7, 3) := dk_158 0 7 (dk_at dksX5_projected_1 7 rfl rfl)
theorem dX5_projected_32 : decode cX5_projected 32 = .ok (.iconst 0, 1) := dk_3 (dk_at dksX5_projected_1 10 rfl rfl)
theorem dX5_projected_33 : decode cX5_projected 33 = .ok (.goto 9, 3) := dk_167 0 9 (dk_at dksX5_projected_1 11 rfl rfl)
theorem dX5_projected_36 : decode cX5_projected 36 = .ok (.aload_n 0, 1) := dk_42 (dk_at dksX5_projected_1 14 rfl rfl)
theorem dX5_projected_37 : decode cX5_projected 37 = .ok (.iload_n 1, 1) := dk_27 (dk_at dksX5_projected_1 15 rfl rfl)
theorem dX5_projected_38 : decode cX5_projected 38 = .ok (.iload_n 2, 1) := dk_28 (dk_at dksX5_projected_1 16 rfl rfl)
theorem dX5_projected_39 : decode cX5_projected 39 = .ok (.invokevirtual 264, 3) := dk_182 1 8 (dk_at dksX5_projected_1 17 rfl rfl)
theorem dX5_projected_42 : decode cX5_projected 42 = .ok (.ireturn, 1) := dk_172 (dk_at dksX5_projected_1 20 rfl rfl)
abbrev cX5_width : ByteArray := prog_12_method_85_code
def yX5_width : MethodName := ⟨RX5, "width", "()I"⟩
def dkwX5_width_3 : List UInt8 := [132, 3, 1, 167, 255, 205, 132, 2, 1, 167, 255, 187, 27, 172]
abbrev dktX5_width_3 : List UInt8 := dkwX5_width_3 ++ []
def dkwX5_width_2 : List UInt8 := [21, 4, 27, 164, 0, 17, 42, 28, 29, 182, 1, 8, 153, 0, 8, 21, 4, 167, 0, 4, 27, 60]
abbrev dktX5_width_2 : List UInt8 := dkwX5_width_2 ++ dktX5_width_3
def dkwX5_width_1 : List UInt8 := [180, 0, 7, 8, 46, 162, 0, 47, 28, 29, 162, 0, 9, 29, 28, 100, 167, 0, 6, 28, 29, 100, 54, 4]
abbrev dktX5_width_1 : List UInt8 := dkwX5_width_1 ++ dktX5_width_2
def dkwX5_width_0 : List UInt8 := [42, 3, 181, 0, 65, 2, 60, 3, 61, 28, 42, 180, 0, 7, 8, 46, 162, 0, 65, 3, 62, 29, 42]
abbrev dktX5_width_0 : List UInt8 := dkwX5_width_0 ++ dktX5_width_1
theorem dksX5_width_0 : cX5_width.data.toList.drop 0 = dktX5_width_0 := by decide +kernel
theorem dksX5_width_1 : cX5_width.data.toList.drop 23 = dktX5_width_1 := dk_seg dksX5_width_0 23 rfl rfl
theorem dksX5_width_2 : cX5_width.data.toList.drop 47 = dktX5_width_2 := dk_seg dksX5_width_1 24 rfl rfl
theorem dksX5_width_3 : cX5_width.data.toList.drop 69 = dktX5_width_3 := dk_seg dksX5_width_2 22 rfl rfl
theorem dX5_width_0 : decode cX5_width 0 = .ok (.aload_n 0, 1) := dk_42 (dk_at dksX5_width_0 0 rfl rfl)
theorem dX5_width_1 : decode cX5_width 1 = .ok (.iconst 0, 1) := dk_3 (dk_at dksX5_width_0 1 rfl rfl)
theorem dX5_width_2 : decode cX5_width 2 = .ok (.putfield 65, 3) := dk_181 0 65 (dk_at dksX5_width_0 2 rfl rfl)
theorem dX5_width_5 : decode cX5_width 5 = .ok (.iconst (-1), 1) := dk_2 (dk_at dksX5_width_0 5 rfl rfl)
theorem dX5_width_6 : decode cX5_width 6 = .ok (.istore_n 1, 1) := dk_60 (dk_at dksX5_width_0 6 rfl rfl)
theorem dX5_width_7 : decode cX5_width 7 = .ok (.iconst 0, 1) := dk_3 (dk_at dksX5_width_0 7 rfl rfl)
theorem dX5_width_8 : decode cX5_width 8 = .ok (.istore_n 2, 1) := dk_61 (dk_at dksX5_width_0 8 rfl rfl)
theorem dX5_width_9 : decode cX5_width 9 = .ok (.iload_n 2, 1) := dk_28 (dk_at dksX5_width_0 9 rfl rfl)
theorem dX5_width_10 : decode cX5_width 10 = .ok (.aload_n 0, 1) := dk_42 (dk_at dksX5_width_0 10 rfl rfl)
theorem dX5_width_11 : decode cX5_width 11 = .ok (.getfield 7, 3) := dk_180 0 7 (dk_at dksX5_width_0 11 rfl rfl)
theorem dX5_width_14 : decode cX5_width 14 = .ok (.iconst 5, 1) := dk_8 (dk_at dksX5_width_0 14 rfl rfl)
theorem dX5_width_15 : decode cX5_width 15 = .ok (.iaload, 1) := dk_46 (dk_at dksX5_width_0 15 rfl rfl)
theorem dX5_width_16 : decode cX5_width 16 = .ok (.if_icmp .ge 65, 3) := dk_162 0 65 (dk_at dksX5_width_0 16 rfl rfl)
theorem dX5_width_19 : decode cX5_width 19 = .ok (.iconst 0, 1) := dk_3 (dk_at dksX5_width_0 19 rfl rfl)
theorem dX5_width_20 : decode cX5_width 20 = .ok (.istore_n 3, 1) := dk_62 (dk_at dksX5_width_0 20 rfl rfl)
theorem dX5_width_21 : decode cX5_width 21 = .ok (.iload_n 3, 1) := dk_29 (dk_at dksX5_width_0 21 rfl rfl)
theorem dX5_width_22 : decode cX5_width 22 = .ok (.aload_n 0, 1) := dk_42 (dk_at dksX5_width_0 22 rfl rfl)
theorem dX5_width_23 : decode cX5_width 23 = .ok (.getfield 7, 3) := dk_180 0 7 (dk_at dksX5_width_1 0 rfl rfl)
theorem dX5_width_26 : decode cX5_width 26 = .ok (.iconst 5, 1) := dk_8 (dk_at dksX5_width_1 3 rfl rfl)
theorem dX5_width_27 : decode cX5_width 27 = .ok (.iaload, 1) := dk_46 (dk_at dksX5_width_1 4 rfl rfl)
theorem dX5_width_28 : decode cX5_width 28 = .ok (.if_icmp .ge 47, 3) := dk_162 0 47 (dk_at dksX5_width_1 5 rfl rfl)
theorem dX5_width_31 : decode cX5_width 31 = .ok (.iload_n 2, 1) := dk_28 (dk_at dksX5_width_1 8 rfl rfl)
theorem dX5_width_32 : decode cX5_width 32 = .ok (.iload_n 3, 1) := dk_29 (dk_at dksX5_width_1 9 rfl rfl)
theorem dX5_width_33 : decode cX5_width 33 = .ok (.if_icmp .ge 9, 3) := dk_162 0 9 (dk_at dksX5_width_1 10 rfl rfl)
theorem dX5_width_36 : decode cX5_width 36 = .ok (.iload_n 3, 1) := dk_29 (dk_at dksX5_width_1 13 rfl rfl)
theorem dX5_width_37 : decode cX5_width 37 = .ok (.iload_n 2, 1) := dk_28 (dk_at dksX5_width_1 14 rfl rfl)
theorem dX5_width_38 : decode cX5_width 38 = .ok (.isub, 1) := dk_100 (dk_at dksX5_width_1 15 rfl rfl)
theorem dX5_width_39 : decode cX5_width 39 = .ok (.goto 6, 3) := dk_167 0 6 (dk_at dksX5_width_1 16 rfl rfl)
theorem dX5_width_42 : decode cX5_width 42 = .ok (.iload_n 2, 1) := dk_28 (dk_at dksX5_width_1 19 rfl rfl)
theorem dX5_width_43 : decode cX5_width 43 = .ok (.iload_n 3, 1) := dk_29 (dk_at dksX5_width_1 20 rfl rfl)
theorem dX5_width_44 : decode cX5_width 44 = .ok (.isub, 1) := dk_100 (dk_at dksX5_width_1 21 rfl rfl)
theorem dX5_width_45 : decode cX5_width 45 = .ok (.istore 4, 2) := dk_54 4 (dk_at dksX5_width_1 22 rfl rfl)
theorem dX5_width_47 : decode cX5_width 47 = .ok (.iload 4, 2) := dk_21 4 (dk_at dksX5_width_2 0 rfl rfl)
theorem dX5_width_49 : decode cX5_width 49 = .ok (.iload_n 1, 1) := dk_27 (dk_at dksX5_width_2 2 rfl rfl)
theorem dX5_width_50 : decode cX5_width 50 = .ok (.if_icmp .le 17, 3) := dk_164 0 17 (dk_at dksX5_width_2 3 rfl rfl)
theorem dX5_width_53 : decode cX5_width 53 = .ok (.aload_n 0, 1) := dk_42 (dk_at dksX5_width_2 6 rfl rfl)
theorem dX5_width_54 : decode cX5_width 54 = .ok (.iload_n 2, 1) := dk_28 (dk_at dksX5_width_2 7 rfl rfl)
theorem dX5_width_55 : decode cX5_width 55 = .ok (.iload_n 3, 1) := dk_29 (dk_at dksX5_width_2 8 rfl rfl)
theorem dX5_width_56 : decode cX5_width 56 = .ok (.invokevirtual 264, 3) := dk_182 1 8 (dk_at dksX5_width_2 9 rfl rfl)
theorem dX5_width_59 : decode cX5_width 59 = .ok (.ifCond .eq 8, 3) := dk_153 0 8 (dk_at dksX5_width_2 12 rfl rfl)
theorem dX5_width_62 : decode cX5_width 62 = .ok (.iload 4, 2) := dk_21 4 (dk_at dksX5_width_2 15 rfl rfl)
theorem dX5_width_64 : decode cX5_width 64 = .ok (.goto 4, 3) := dk_167 0 4 (dk_at dksX5_width_2 17 rfl rfl)
theorem dX5_width_67 : decode cX5_width 67 = .ok (.iload_n 1, 1) := dk_27 (dk_at dksX5_width_2 20 rfl rfl)
theorem dX5_width_68 : decode cX5_width 68 = .ok (.istore_n 1, 1) := dk_60 (dk_at dksX5_width_2 21 rfl rfl)
theorem dX5_width_69 : decode cX5_width 69 = .ok (.iinc 3 1, 3) := dk_132 3 1 (dk_at dksX5_width_3 0 rfl rfl)
theorem dX5_width_72 : decode cX5_width 72 = .ok (.goto (-51), 3) := dk_167 255 205 (dk_at dksX5_width_3 3 rfl rfl)
theorem dX5_width_75 : decode cX5_width 75 = .ok (.iinc 2 1, 3) := dk_132 2 1 (dk_at dksX5_width_3 6 rfl rfl)
theorem dX5_width_78 : decode cX5_width 78 = .ok (.goto (-69), 3) := dk_167 255 187 (dk_at dksX5_width_3 9 rfl rfl)
theorem dX5_width_81 : decode cX5_width 81 = .ok (.iload_n 1, 1) := dk_27 (dk_at dksX5_width_3 12 rfl rfl)
theorem dX5_width_82 : decode cX5_width 82 = .ok (.ireturn, 1) := dk_172 (dk_at dksX5_width_3 13 rfl rfl)
abbrev cX5_determinant : ByteArray := prog_12_method_87_code
def yX5_determinant : MethodName := ⟨RX5, "determinant", "()I"⟩
def dkwX5_determinant_1 : List UInt8 := [180, 0, 7, 8, 46, 182, 1, 39, 181, 1, 2, 42, 180, 1, 26, 172]
abbrev dktX5_determinant_1 : List UInt8 := dkwX5_determinant_1 ++ []
def dkwX5_determinant_0 : List UInt8 := [42, 3, 181, 0, 65, 42, 42, 180, 0, 7, 8, 46, 182, 1, 42, 42, 42, 42, 180, 0, 7, 8, 46, 42]
abbrev dktX5_determinant_0 : List UInt8 := dkwX5_determinant_0 ++ dktX5_determinant_1
theorem dksX5_determinant_0 : cX5_determinant.data.toList.drop 0 = dktX5_determinant_0 := by decide +kernel
theorem dksX5_determinant_1 : cX5_determinant.data.toList.drop 24 = dktX5_determinant_1 := dk_seg dksX5_determinant_0 24 rfl rfl
theorem dX5_determinant_0 : decode cX5_determinant 0 = .ok (.aload_n 0, 1) := dk_42 (dk_at dksX5_determinant_0 0 rfl rfl)
theorem dX5_determinant_1 : decode cX5_determinant 1 = .ok (.iconst 0, 1) := dk_3 (dk_at dksX5_determinant_0 1 rfl rfl)
theorem dX5_determinant_2 : decode cX5_determinant 2 = .ok (.putfield 65, 3) := dk_181 0 65 (dk_at dksX5_determinant_0 2 rfl rfl)
theorem dX5_determinant_5 : decode cX5_determinant 5 = .ok (.aload_n 0, 1) := dk_42 (dk_at dksX5_determinant_0 5 rfl rfl)
theorem dX5_determinant_6 : decode cX5_determinant 6 = .ok (.aload_n 0, 1) := dk_42 (dk_at dksX5_determinant_0 6 rfl rfl)
theorem dX5_determinant_7 : decode cX5_determinant 7 = .ok (.getfield 7, 3) := dk_180 0 7 (dk_at dksX5_determinant_0 7 rfl rfl)
theorem dX5_determinant_10 : decode cX5_determinant 10 = .ok (.iconst 5, 1) := dk_8 (dk_at dksX5_determinant_0 10 rfl rfl)
theorem dX5_determinant_11 : decode cX5_determinant 11 = .ok (.iaload, 1) := dk_46 (dk_at dksX5_determinant_0 11 rfl rfl)
theorem dX5_determinant_12 : decode cX5_determinant 12 = .ok (.invokevirtual 298, 3) := dk_182 1 42 (dk_at dksX5_determinant_0 12 rfl rfl)
theorem dX5_determinant_15 : decode cX5_determinant 15 = .ok (.aload_n 0, 1) := dk_42 (dk_at dksX5_determinant_0 15 rfl rfl)
theorem dX5_determinant_16 : decode cX5_determinant 16 = .ok (.aload_n 0, 1) := dk_42 (dk_at dksX5_determinant_0 16 rfl rfl)
theorem dX5_determinant_17 : decode cX5_determinant 17 = .ok (.aload_n 0, 1) := dk_42 (dk_at dksX5_determinant_0 17 rfl rfl)
theorem dX5_determinant_18 : decode cX5_determinant 18 = .ok (.getfield 7, 3) := dk_180 0 7 (dk_at dksX5_determinant_0 18 rfl rfl)
theorem dX5_determinant_21 : decode cX5_determinant 21 = .ok (.iconst 5, 1) := dk_8 (dk_at dksX5_determinant_0 21 rfl rfl)
theorem dX5_determinant_22 : decode cX5_determinant 22 = .ok (.iaload, 1) := dk_46 (dk_at dksX5_determinant_0 22 rfl rfl)
theorem dX5_determinant_23 : decode cX5_determinant 23 = .ok (.aload_n 0, 1) := dk_42 (dk_at dksX5_determinant_0 23 rfl rfl)
theorem dX5_determinant_24 : decode cX5_determinant 24 = .ok (.getfield 7, 3) := dk_180 0 7 (dk_at dksX5_determinant_1 0 rfl rfl)
theorem dX5_determinant_27 : decode cX5_determinant 27 = .ok (.iconst 5, 1) := dk_8 (dk_at dksX5_determinant_1 3 rfl rfl)
theorem dX5_determinant_28 : decode cX5_determinant 28 = .ok (.iaload, 1) := dk_46 (dk_at dksX5_determinant_1 4 rfl rfl)
theorem dX5_determinant_29 : decode cX5_determinant 29 = .ok (.invokevirtual 295, 3) := dk_182 1 39 (dk_at dksX5_determinant_1 5 rfl rfl)
theorem dX5_determinant_32 : decode cX5_determinant 32 = .ok (.putfield 258, 3) := dk_181 1 2 (dk_at dksX5_determinant_1 8 rfl rfl)
theorem dX5_determinant_35 : decode cX5_determinant 35 = .ok (.aload_n 0, 1) := dk_42 (dk_at dksX5_determinant_1 11 rfl rfl)
theorem dX5_determinant_36 : decode cX5_determinant 36 = .ok (.getfield 282, 3) := dk_180 1 26 (dk_at dksX5_determinant_1 12 rfl rfl)
theorem dX5_determinant_39 : decode cX5_determinant 39 = .ok (.ireturn, 1) := dk_172 (dk_at dksX5_determinant_1 15 rfl rfl)
abbrev cX5_laysProjected : ByteArray := prog_12_method_86_code
def yX5_laysProjected : MethodName := ⟨RX5, "laysProjected", "(I)V"⟩
def dkwX5_laysProjected_3 : List UInt8 := [167, 255, 188, 177]
abbrev dktX5_laysProjected_3 : List UInt8 := dkwX5_laysProjected_3 ++ []
def dkwX5_laysProjected_2 : List UInt8 := [180, 0, 51, 16, 9, 28, 104, 27, 96, 28, 154, 0, 7, 4, 167, 0, 4, 3, 79, 132, 2, 1]
abbrev dktX5_laysProjected_2 : List UInt8 := dkwX5_laysProjected_2 ++ dktX5_laysProjected_3
def dkwX5_laysProjected_1 : List UInt8 := [96, 29, 27, 162, 0, 12, 42, 29, 28, 182, 1, 8, 167, 0, 4, 3, 79, 132, 3, 1, 167, 255, 221, 42]
abbrev dktX5_laysProjected_1 : List UInt8 := dkwX5_laysProjected_1 ++ dktX5_laysProjected_2
def dkwX5_laysProjected_0 : List UInt8 := [3, 61, 28, 27, 162, 0, 69, 3, 62, 29, 16, 9, 162, 0, 35, 42, 180, 0, 51, 16, 9, 28, 104, 29]
abbrev dktX5_laysProjected_0 : List UInt8 := dkwX5_laysProjected_0 ++ dktX5_laysProjected_1
theorem dksX5_laysProjected_0 : cX5_laysProjected.data.toList.drop 0 = dktX5_laysProjected_0 := by decide +kernel
theorem dksX5_laysProjected_1 : cX5_laysProjected.data.toList.drop 24 = dktX5_laysProjected_1 := dk_seg dksX5_laysProjected_0 24 rfl rfl
theorem dksX5_laysProjected_2 : cX5_laysProjected.data.toList.drop 48 = dktX5_laysProjected_2 := dk_seg dksX5_laysProjected_1 24 rfl rfl
theorem dksX5_laysProjected_3 : cX5_laysProjected.data.toList.drop 70 = dktX5_laysProjected_3 := dk_seg dksX5_laysProjected_2 22 rfl rfl
theorem dX5_laysProjected_0 : decode cX5_laysProjected 0 = .ok (.iconst 0, 1) := dk_3 (dk_at dksX5_laysProjected_0 0 rfl rfl)
theorem dX5_laysProjected_1 : decode cX5_laysProjected 1 = .ok (.istore_n 2, 1) := dk_61 (dk_at dksX5_laysProjected_0 1 rfl rfl)
theorem dX5_laysProjected_2 : decode cX5_laysProjected 2 = .ok (.iload_n 2, 1) := dk_28 (dk_at dksX5_laysProjected_0 2 rfl rfl)
theorem dX5_laysProjected_3 : decode cX5_laysProjected 3 = .ok (.iload_n 1, 1) := dk_27 (dk_at dksX5_laysProjected_0 3 rfl rfl)
theorem dX5_laysProjected_4 : decode cX5_laysProjected 4 = .ok (.if_icmp .ge 69, 3) := dk_162 0 69 (dk_at dksX5_laysProjected_0 4 rfl rfl)
theorem dX5_laysProjected_7 : decode cX5_laysProjected 7 = .ok (.iconst 0, 1) := dk_3 (dk_at dksX5_laysProjected_0 7 rfl rfl)
theorem dX5_laysProjected_8 : decode cX5_laysProjected 8 = .ok (.istore_n 3, 1) := dk_62 (dk_at dksX5_laysProjected_0 8 rfl rfl)
theorem dX5_laysProjected_9 : decode cX5_laysProjected 9 = .ok (.iload_n 3, 1) := dk_29 (dk_at dksX5_laysProjected_0 9 rfl rfl)
theorem dX5_laysProjected_10 : decode cX5_laysProjected 10 = .ok (.bipush 9, 2) := dk_16 9 (dk_at dksX5_laysProjected_0 10 rfl rfl)
theorem dX5_laysProjected_12 : decode cX5_laysProjected 12 = .ok (.if_icmp .ge 35, 3) := dk_162 0 35 (dk_at dksX5_laysProjected_0 12 rfl rfl)
theorem dX5_laysProjected_15 : decode cX5_laysProjected 15 = .ok (.aload_n 0, 1) := dk_42 (dk_at dksX5_laysProjected_0 15 rfl rfl)
theorem dX5_laysProjected_16 : decode cX5_laysProjected 16 = .ok (.getfield 51, 3) := dk_180 0 51 (dk_at dksX5_laysProjected_0 16 rfl rfl)
theorem dX5_laysProjected_19 : decode cX5_laysProjected 19 = .ok (.bipush 9, 2) := dk_16 9 (dk_at dksX5_laysProjected_0 19 rfl rfl)
theorem dX5_laysProjected_21 : decode cX5_laysProjected 21 = .ok (.iload_n 2, 1) := dk_28 (dk_at dksX5_laysProjected_0 21 rfl rfl)
theorem dX5_laysProjected_22 : decode cX5_laysProjected 22 = .ok (.imul, 1) := dk_104 (dk_at dksX5_laysProjected_0 22 rfl rfl)
theorem dX5_laysProjected_23 : decode cX5_laysProjected 23 = .ok (.iload_n 3, 1) := dk_29 (dk_at dksX5_laysProjected_0 23 rfl rfl)
theorem dX5_laysProjected_24 : decode cX5_laysProjected 24 = .ok (.iadd, 1) := dk_96 (dk_at dksX5_laysProjected_1 0 rfl rfl)
theorem dX5_laysProjected_25 : decode cX5_laysProjected 25 = .ok (.iload_n 3, 1) := dk_29 (dk_at dksX5_laysProjected_1 1 rfl rfl)
theorem dX5_laysProjected_26 : decode cX5_laysProjected 26 = .ok (.iload_n 1, 1) := dk_27 (dk_at dksX5_laysProjected_1 2 rfl rfl)
theorem dX5_laysProjected_27 : decode cX5_laysProjected 27 = .ok (.if_icmp .ge 12, 3) := dk_162 0 12 (dk_at dksX5_laysProjected_1 3 rfl rfl)
theorem dX5_laysProjected_30 : decode cX5_laysProjected 30 = .ok (.aload_n 0, 1) := dk_42 (dk_at dksX5_laysProjected_1 6 rfl rfl)
theorem dX5_laysProjected_31 : decode cX5_laysProjected 31 = .ok (.iload_n 3, 1) := dk_29 (dk_at dksX5_laysProjected_1 7 rfl rfl)
theorem dX5_laysProjected_32 : decode cX5_laysProjected 32 = .ok (.iload_n 2, 1) := dk_28 (dk_at dksX5_laysProjected_1 8 rfl rfl)
theorem dX5_laysProjected_33 : decode cX5_laysProjected 33 = .ok (.invokevirtual 264, 3) := dk_182 1 8 (dk_at dksX5_laysProjected_1 9 rfl rfl)
theorem dX5_laysProjected_36 : decode cX5_laysProjected 36 = .ok (.goto 4, 3) := dk_167 0 4 (dk_at dksX5_laysProjected_1 12 rfl rfl)
theorem dX5_laysProjected_39 : decode cX5_laysProjected 39 = .ok (.iconst 0, 1) := dk_3 (dk_at dksX5_laysProjected_1 15 rfl rfl)
theorem dX5_laysProjected_40 : decode cX5_laysProjected 40 = .ok (.iastore, 1) := dk_79 (dk_at dksX5_laysProjected_1 16 rfl rfl)
theorem dX5_laysProjected_41 : decode cX5_laysProjected 41 = .ok (.iinc 3 1, 3) := dk_132 3 1 (dk_at dksX5_laysProjected_1 17 rfl rfl)
theorem dX5_laysProjected_44 : decode cX5_laysProjected 44 = .ok (.goto (-35), 3) := dk_167 255 221 (dk_at dksX5_laysProjected_1 20 rfl rfl)
theorem dX5_laysProjected_47 : decode cX5_laysProjected 47 = .ok (.aload_n 0, 1) := dk_42 (dk_at dksX5_laysProjected_1 23 rfl rfl)
theorem dX5_laysProjected_48 : decode cX5_laysProjected 48 = .ok (.getfield 51, 3) := dk_180 0 51 (dk_at dksX5_laysProjected_2 0 rfl rfl)
theorem dX5_laysProjected_51 : decode cX5_laysProjected 51 = .ok (.bipush 9, 2) := dk_16 9 (dk_at dksX5_laysProjected_2 3 rfl rfl)
theorem dX5_laysProjected_53 : decode cX5_laysProjected 53 = .ok (.iload_n 2, 1) := dk_28 (dk_at dksX5_laysProjected_2 5 rfl rfl)
theorem dX5_laysProjected_54 : decode cX5_laysProjected 54 = .ok (.imul, 1) := dk_104 (dk_at dksX5_laysProjected_2 6 rfl rfl)
theorem dX5_laysProjected_55 : decode cX5_laysProjected 55 = .ok (.iload_n 1, 1) := dk_27 (dk_at dksX5_laysProjected_2 7 rfl rfl)
theorem dX5_laysProjected_56 : decode cX5_laysProjected 56 = .ok (.iadd, 1) := dk_96 (dk_at dksX5_laysProjected_2 8 rfl rfl)
theorem dX5_laysProjected_57 : decode cX5_laysProjected 57 = .ok (.iload_n 2, 1) := dk_28 (dk_at dksX5_laysProjected_2 9 rfl rfl)
theorem dX5_laysProjected_58 : decode cX5_laysProjected 58 = .ok (.ifCond .ne 7, 3) := dk_154 0 7 (dk_at dksX5_laysProjected_2 10 rfl rfl)
theorem dX5_laysProjected_61 : decode cX5_laysProjected 61 = .ok (.iconst 1, 1) := dk_4 (dk_at dksX5_laysProjected_2 13 rfl rfl)
theorem dX5_laysProjected_62 : decode cX5_laysProjected 62 = .ok (.goto 4, 3) := dk_167 0 4 (dk_at dksX5_laysProjected_2 14 rfl rfl)
theorem dX5_laysProjected_65 : decode cX5_laysProjected 65 = .ok (.iconst 0, 1) := dk_3 (dk_at dksX5_laysProjected_2 17 rfl rfl)
theorem dX5_laysProjected_66 : decode cX5_laysProjected 66 = .ok (.iastore, 1) := dk_79 (dk_at dksX5_laysProjected_2 18 rfl rfl)
theorem dX5_laysProjected_67 : decode cX5_laysProjected 67 = .ok (.iinc 2 1, 3) := dk_132 2 1 (dk_at dksX5_laysProjected_2 19 rfl rfl)
theorem dX5_laysProjected_70 : decode cX5_laysProjected 70 = .ok (.goto (-68), 3) := dk_167 255 188 (dk_at dksX5_laysProjected_3 0 rfl rfl)
theorem dX5_laysProjected_73 : decode cX5_laysProjected 73 = .ok (.return_, 1) := dk_177 (dk_at dksX5_laysProjected_3 3 rfl rfl)
abbrev cX5_filled : ByteArray := prog_12_method_88_code
def yX5_filled : MethodName := ⟨RX5, "filled", "()F"⟩
def dkwX5_filled_3 : List UInt8 := [167, 0, 20, 27, 134, 42, 180, 0, 7, 8, 46, 42, 180, 0, 7, 8, 46, 104, 134, 110, 174]
abbrev dktX5_filled_3 : List UInt8 := dkwX5_filled_3 ++ []
def dkwX5_filled_2 : List UInt8 := [60, 132, 3, 1, 167, 255, 226, 132, 2, 1, 167, 255, 208, 42, 180, 0, 7, 8, 46, 154, 0, 7, 11]
abbrev dktX5_filled_2 : List UInt8 := dkwX5_filled_2 ++ dktX5_filled_3
def dkwX5_filled_1 : List UInt8 := [180, 0, 7, 8, 46, 162, 0, 26, 27, 42, 28, 29, 182, 1, 8, 154, 0, 7, 3, 167, 0, 4, 4, 96]
abbrev dktX5_filled_1 : List UInt8 := dkwX5_filled_1 ++ dktX5_filled_2
def dkwX5_filled_0 : List UInt8 := [42, 3, 181, 0, 65, 3, 60, 3, 61, 28, 42, 180, 0, 7, 8, 46, 162, 0, 44, 3, 62, 29, 42]
abbrev dktX5_filled_0 : List UInt8 := dkwX5_filled_0 ++ dktX5_filled_1
theorem dksX5_filled_0 : cX5_filled.data.toList.drop 0 = dktX5_filled_0 := by decide +kernel
theorem dksX5_filled_1 : cX5_filled.data.toList.drop 23 = dktX5_filled_1 := dk_seg dksX5_filled_0 23 rfl rfl
theorem dksX5_filled_2 : cX5_filled.data.toList.drop 47 = dktX5_filled_2 := dk_seg dksX5_filled_1 24 rfl rfl
theorem dksX5_filled_3 : cX5_filled.data.toList.drop 70 = dktX5_filled_3 := dk_seg dksX5_filled_2 23 rfl rfl
theorem dX5_filled_0 : decode cX5_filled 0 = .ok (.aload_n 0, 1) := dk_42 (dk_at dksX5_filled_0 0 rfl rfl)
theorem dX5_filled_1 : decode cX5_filled 1 = .ok (.iconst 0, 1) := dk_3 (dk_at dksX5_filled_0 1 rfl rfl)
theorem dX5_filled_2 : decode cX5_filled 2 = .ok (.putfield 65, 3) := dk_181 0 65 (dk_at dksX5_filled_0 2 rfl rfl)
theorem dX5_filled_5 : decode cX5_filled 5 = .ok (.iconst 0, 1) := dk_3 (dk_at dksX5_filled_0 5 rfl rfl)
theorem dX5_filled_6 : decode cX5_filled 6 = .ok (.istore_n 1, 1) := dk_60 (dk_at dksX5_filled_0 6 rfl rfl)
theorem dX5_filled_7 : decode cX5_filled 7 = .ok (.iconst 0, 1) := dk_3 (dk_at dksX5_filled_0 7 rfl rfl)
theorem dX5_filled_8 : decode cX5_filled 8 = .ok (.istore_n 2, 1) := dk_61 (dk_at dksX5_filled_0 8 rfl rfl)
theorem dX5_filled_9 : decode cX5_filled 9 = .ok (.iload_n 2, 1) := dk_28 (dk_at dksX5_filled_0 9 rfl rfl)
theorem dX5_filled_10 : decode cX5_filled 10 = .ok (.aload_n 0, 1) := dk_42 (dk_at dksX5_filled_0 10 rfl rfl)
theorem dX5_filled_11 : decode cX5_filled 11 = .ok (.getfield 7, 3) := dk_180 0 7 (dk_at dksX5_filled_0 11 rfl rfl)
theorem dX5_filled_14 : decode cX5_filled 14 = .ok (.iconst 5, 1) := dk_8 (dk_at dksX5_filled_0 14 rfl rfl)
theorem dX5_filled_15 : decode cX5_filled 15 = .ok (.iaload, 1) := dk_46 (dk_at dksX5_filled_0 15 rfl rfl)
theorem dX5_filled_16 : decode cX5_filled 16 = .ok (.if_icmp .ge 44, 3) := dk_162 0 44 (dk_at dksX5_filled_0 16 rfl rfl)
theorem dX5_filled_19 : decode cX5_filled 19 = .ok (.iconst 0, 1) := dk_3 (dk_at dksX5_filled_0 19 rfl rfl)
theorem dX5_filled_20 : decode cX5_filled 20 = .ok (.istore_n 3, 1) := dk_62 (dk_at dksX5_filled_0 20 rfl rfl)
theorem dX5_filled_21 : decode cX5_filled 21 = .ok (.iload_n 3, 1) := dk_29 (dk_at dksX5_filled_0 21 rfl rfl)
theorem dX5_filled_22 : decode cX5_filled 22 = .ok (.aload_n 0, 1) := dk_42 (dk_at dksX5_filled_0 22 rfl rfl)
theorem dX5_filled_23 : decode cX5_filled 23 = .ok (.getfield 7, 3) := dk_180 0 7 (dk_at dksX5_filled_1 0 rfl rfl)
theorem dX5_filled_26 : decode cX5_filled 26 = .ok (.iconst 5, 1) := dk_8 (dk_at dksX5_filled_1 3 rfl rfl)
theorem dX5_filled_27 : decode cX5_filled 27 = .ok (.iaload, 1) := dk_46 (dk_at dksX5_filled_1 4 rfl rfl)
theorem dX5_filled_28 : decode cX5_filled 28 = .ok (.if_icmp .ge 26, 3) := dk_162 0 26 (dk_at dksX5_filled_1 5 rfl rfl)
theorem dX5_filled_31 : decode cX5_filled 31 = .ok (.iload_n 1, 1) := dk_27 (dk_at dksX5_filled_1 8 rfl rfl)
theorem dX5_filled_32 : decode cX5_filled 32 = .ok (.aload_n 0, 1) := dk_42 (dk_at dksX5_filled_1 9 rfl rfl)
theorem dX5_filled_33 : decode cX5_filled 33 = .ok (.iload_n 2, 1) := dk_28 (dk_at dksX5_filled_1 10 rfl rfl)
theorem dX5_filled_34 : decode cX5_filled 34 = .ok (.iload_n 3, 1) := dk_29 (dk_at dksX5_filled_1 11 rfl rfl)
theorem dX5_filled_35 : decode cX5_filled 35 = .ok (.invokevirtual 264, 3) := dk_182 1 8 (dk_at dksX5_filled_1 12 rfl rfl)
theorem dX5_filled_38 : decode cX5_filled 38 = .ok (.ifCond .ne 7, 3) := dk_154 0 7 (dk_at dksX5_filled_1 15 rfl rfl)
theorem dX5_filled_41 : decode cX5_filled 41 = .ok (.iconst 0, 1) := dk_3 (dk_at dksX5_filled_1 18 rfl rfl)
theorem dX5_filled_42 : decode cX5_filled 42 = .ok (.goto 4, 3) := dk_167 0 4 (dk_at dksX5_filled_1 19 rfl rfl)
theorem dX5_filled_45 : decode cX5_filled 45 = .ok (.iconst 1, 1) := dk_4 (dk_at dksX5_filled_1 22 rfl rfl)
theorem dX5_filled_46 : decode cX5_filled 46 = .ok (.iadd, 1) := dk_96 (dk_at dksX5_filled_1 23 rfl rfl)
theorem dX5_filled_47 : decode cX5_filled 47 = .ok (.istore_n 1, 1) := dk_60 (dk_at dksX5_filled_2 0 rfl rfl)
theorem dX5_filled_48 : decode cX5_filled 48 = .ok (.iinc 3 1, 3) := dk_132 3 1 (dk_at dksX5_filled_2 1 rfl rfl)
theorem dX5_filled_51 : decode cX5_filled 51 = .ok (.goto (-30), 3) := dk_167 255 226 (dk_at dksX5_filled_2 4 rfl rfl)
theorem dX5_filled_54 : decode cX5_filled 54 = .ok (.iinc 2 1, 3) := dk_132 2 1 (dk_at dksX5_filled_2 7 rfl rfl)
theorem dX5_filled_57 : decode cX5_filled 57 = .ok (.goto (-48), 3) := dk_167 255 208 (dk_at dksX5_filled_2 10 rfl rfl)
theorem dX5_filled_60 : decode cX5_filled 60 = .ok (.aload_n 0, 1) := dk_42 (dk_at dksX5_filled_2 13 rfl rfl)
theorem dX5_filled_61 : decode cX5_filled 61 = .ok (.getfield 7, 3) := dk_180 0 7 (dk_at dksX5_filled_2 14 rfl rfl)
theorem dX5_filled_64 : decode cX5_filled 64 = .ok (.iconst 5, 1) := dk_8 (dk_at dksX5_filled_2 17 rfl rfl)
theorem dX5_filled_65 : decode cX5_filled 65 = .ok (.iaload, 1) := dk_46 (dk_at dksX5_filled_2 18 rfl rfl)
theorem dX5_filled_66 : decode cX5_filled 66 = .ok (.ifCond .ne 7, 3) := dk_154 0 7 (dk_at dksX5_filled_2 19 rfl rfl)
theorem dX5_filled_69 : decode cX5_filled 69 = .ok (.fconst 0, 1) := dk_11 (dk_at dksX5_filled_2 22 rfl rfl)
theorem dX5_filled_70 : decode cX5_filled 70 = .ok (.goto 20, 3) := dk_167 0 20 (dk_at dksX5_filled_3 0 rfl rfl)
theorem dX5_filled_73 : decode cX5_filled 73 = .ok (.iload_n 1, 1) := dk_27 (dk_at dksX5_filled_3 3 rfl rfl)
theorem dX5_filled_74 : decode cX5_filled 74 = .ok (.i2f, 1) := dk_134 (dk_at dksX5_filled_3 4 rfl rfl)
theorem dX5_filled_75 : decode cX5_filled 75 = .ok (.aload_n 0, 1) := dk_42 (dk_at dksX5_filled_3 5 rfl rfl)
theorem dX5_filled_76 : decode cX5_filled 76 = .ok (.getfield 7, 3) := dk_180 0 7 (dk_at dksX5_filled_3 6 rfl rfl)
theorem dX5_filled_79 : decode cX5_filled 79 = .ok (.iconst 5, 1) := dk_8 (dk_at dksX5_filled_3 9 rfl rfl)
theorem dX5_filled_80 : decode cX5_filled 80 = .ok (.iaload, 1) := dk_46 (dk_at dksX5_filled_3 10 rfl rfl)
theorem dX5_filled_81 : decode cX5_filled 81 = .ok (.aload_n 0, 1) := dk_42 (dk_at dksX5_filled_3 11 rfl rfl)
theorem dX5_filled_82 : decode cX5_filled 82 = .ok (.getfield 7, 3) := dk_180 0 7 (dk_at dksX5_filled_3 12 rfl rfl)
theorem dX5_filled_85 : decode cX5_filled 85 = .ok (.iconst 5, 1) := dk_8 (dk_at dksX5_filled_3 15 rfl rfl)
theorem dX5_filled_86 : decode cX5_filled 86 = .ok (.iaload, 1) := dk_46 (dk_at dksX5_filled_3 16 rfl rfl)
theorem dX5_filled_87 : decode cX5_filled 87 = .ok (.imul, 1) := dk_104 (dk_at dksX5_filled_3 17 rfl rfl)
theorem dX5_filled_88 : decode cX5_filled 88 = .ok (.i2f, 1) := dk_134 (dk_at dksX5_filled_3 18 rfl rfl)
theorem dX5_filled_89 : decode cX5_filled 89 = .ok (.fdiv, 1) := dk_110 (dk_at dksX5_filled_3 19 rfl rfl)
theorem dX5_filled_90 : decode cX5_filled 90 = .ok (.freturn, 1) := dk_174 (dk_at dksX5_filled_3 20 rfl rfl)
abbrev cX5_determinantAt : ByteArray := prog_12_method_90_code
def yX5_determinantAt : MethodName := ⟨RX5, "determinantAt", "(I)I"⟩
def dkwX5_determinantAt_1 : List UInt8 := [3, 172, 42, 42, 27, 182, 1, 45, 181, 1, 2, 42, 180, 1, 26, 172]
abbrev dktX5_determinantAt_1 : List UInt8 := dkwX5_determinantAt_1 ++ []
def dkwX5_determinantAt_0 : List UInt8 := [42, 42, 27, 182, 0, 187, 153, 0, 7, 3, 167, 0, 4, 4, 181, 0, 65, 42, 180, 0, 65, 158, 0, 5]
abbrev dktX5_determinantAt_0 : List UInt8 := dkwX5_determinantAt_0 ++ dktX5_determinantAt_1
theorem dksX5_determinantAt_0 : cX5_determinantAt.data.toList.drop 0 = dktX5_determinantAt_0 := by decide +kernel
theorem dksX5_determinantAt_1 : cX5_determinantAt.data.toList.drop 24 = dktX5_determinantAt_1 := dk_seg dksX5_determinantAt_0 24 rfl rfl
theorem dX5_determinantAt_0 : decode cX5_determinantAt 0 = .ok (.aload_n 0, 1) := dk_42 (dk_at dksX5_determinantAt_0 0 rfl rfl)
theorem dX5_determinantAt_1 : decode cX5_determinantAt 1 = .ok (.aload_n 0, 1) := dk_42 (dk_at dksX5_determinantAt_0 1 rfl rfl)
theorem dX5_determinantAt_2 : decode cX5_determinantAt 2 = .ok (.iload_n 1, 1) := dk_27 (dk_at dksX5_determinantAt_0 2 rfl rfl)
theorem dX5_determinantAt_3 : decode cX5_determinantAt 3 = .ok (.invokevirtual 187, 3) := dk_182 0 187 (dk_at dksX5_determinantAt_0 3 rfl rfl)
theorem dX5_determinantAt_6 : decode cX5_determinantAt 6 = .ok (.ifCond .eq 7, 3) := dk_153 0 7 (dk_at dksX5_determinantAt_0 6 rfl rfl)
theorem dX5_determinantAt_9 : decode cX5_determinantAt 9 = .ok (.iconst 0, 1) := dk_3 (dk_at dksX5_determinantAt_0 9 rfl rfl)
theorem dX5_determinantAt_10 : decode cX5_determinantAt 10 = .ok (.goto 4, 3) := dk_167 0 4 (dk_at dksX5_determinantAt_0 10 rfl rfl)
theorem dX5_determinantAt_13 : decode cX5_determinantAt 13 = .ok (.iconst 1, 1) := dk_4 (dk_at dksX5_determinantAt_0 13 rfl rfl)
theorem dX5_determinantAt_14 : decode cX5_determinantAt 14 = .ok (.putfield 65, 3) := dk_181 0 65 (dk_at dksX5_determinantAt_0 14 rfl rfl)
theorem dX5_determinantAt_17 : decode cX5_determinantAt 17 = .ok (.aload_n 0, 1) := dk_42 (dk_at dksX5_determinantAt_0 17 rfl rfl)
theorem dX5_determinantAt_18 : decode cX5_determinantAt 18 = .ok (.getfield 65, 3) := dk_180 0 65 (dk_at dksX5_determinantAt_0 18 rfl rfl)
theorem dX5_determinantAt_21 : decode cX5_determinantAt 21 = .ok (.ifCond .le 5, 3) := dk_158 0 5 (dk_at dksX5_determinantAt_0 21 rfl rfl)
theorem dX5_determinantAt_24 : decode cX5_determinantAt 24 = .ok (.iconst 0, 1) := dk_3 (dk_at dksX5_determinantAt_1 0 rfl rfl)
theorem dX5_determinantAt_25 : decode cX5_determinantAt 25 = .ok (.ireturn, 1) := dk_172 (dk_at dksX5_determinantAt_1 1 rfl rfl)
theorem dX5_determinantAt_26 : decode cX5_determinantAt 26 = .ok (.aload_n 0, 1) := dk_42 (dk_at dksX5_determinantAt_1 2 rfl rfl)
theorem dX5_determinantAt_27 : decode cX5_determinantAt 27 = .ok (.aload_n 0, 1) := dk_42 (dk_at dksX5_determinantAt_1 3 rfl rfl)
theorem dX5_determinantAt_28 : decode cX5_determinantAt 28 = .ok (.iload_n 1, 1) := dk_27 (dk_at dksX5_determinantAt_1 4 rfl rfl)
theorem dX5_determinantAt_29 : decode cX5_determinantAt 29 = .ok (.invokevirtual 301, 3) := dk_182 1 45 (dk_at dksX5_determinantAt_1 5 rfl rfl)
theorem dX5_determinantAt_32 : decode cX5_determinantAt 32 = .ok (.putfield 258, 3) := dk_181 1 2 (dk_at dksX5_determinantAt_1 8 rfl rfl)
theorem dX5_determinantAt_35 : decode cX5_determinantAt 35 = .ok (.aload_n 0, 1) := dk_42 (dk_at dksX5_determinantAt_1 11 rfl rfl)
theorem dX5_determinantAt_36 : decode cX5_determinantAt 36 = .ok (.getfield 282, 3) := dk_180 1 26 (dk_at dksX5_determinantAt_1 12 rfl rfl)
theorem dX5_determinantAt_39 : decode cX5_determinantAt 39 = .ok (.ireturn, 1) := dk_172 (dk_at dksX5_determinantAt_1 15 rfl rfl)
abbrev cX5_rankAt : ByteArray := prog_12_method_89_code
def yX5_rankAt : MethodName := ⟨RX5, "rankAt", "(I)I"⟩
def dkwX5_rankAt_3 : List UInt8 := [132, 2, 1, 167, 255, 183, 42, 42, 180, 0, 7, 4, 46, 42, 180, 0, 7, 4, 46, 182, 1, 39, 172]
abbrev dktX5_rankAt_3 : List UInt8 := dkwX5_rankAt_3 ++ []
def dkwX5_rankAt_2 : List UInt8 := [182, 0, 184, 28, 29, 160, 0, 7, 27, 167, 0, 4, 3, 100, 182, 0, 199, 79, 132, 3, 1, 167, 255, 201]
abbrev dktX5_rankAt_2 : List UInt8 := dkwX5_rankAt_2 ++ dktX5_rankAt_3
def dkwX5_rankAt_1 : List UInt8 := [16, 9, 28, 104, 29, 96, 29, 42, 180, 0, 7, 4, 46, 161, 0, 7, 3, 167, 0, 24, 42, 42, 28, 29]
abbrev dktX5_rankAt_1 : List UInt8 := dkwX5_rankAt_1 ++ dktX5_rankAt_2
def dkwX5_rankAt_0 : List UInt8 := [3, 61, 28, 42, 180, 0, 7, 4, 46, 162, 0, 69, 3, 62, 29, 16, 9, 162, 0, 55, 42, 180, 0, 51]
abbrev dktX5_rankAt_0 : List UInt8 := dkwX5_rankAt_0 ++ dktX5_rankAt_1
theorem dksX5_rankAt_0 : cX5_rankAt.data.toList.drop 0 = dktX5_rankAt_0 := by decide +kernel
theorem dksX5_rankAt_1 : cX5_rankAt.data.toList.drop 24 = dktX5_rankAt_1 := dk_seg dksX5_rankAt_0 24 rfl rfl
theorem dksX5_rankAt_2 : cX5_rankAt.data.toList.drop 48 = dktX5_rankAt_2 := dk_seg dksX5_rankAt_1 24 rfl rfl
theorem dksX5_rankAt_3 : cX5_rankAt.data.toList.drop 72 = dktX5_rankAt_3 := dk_seg dksX5_rankAt_2 24 rfl rfl
theorem dX5_rankAt_0 : decode cX5_rankAt 0 = .ok (.iconst 0, 1) := dk_3 (dk_at dksX5_rankAt_0 0 rfl rfl)
theorem dX5_rankAt_1 : decode cX5_rankAt 1 = .ok (.istore_n 2, 1) := dk_61 (dk_at dksX5_rankAt_0 1 rfl rfl)
theorem dX5_rankAt_2 : decode cX5_rankAt 2 = .ok (.iload_n 2, 1) := dk_28 (dk_at dksX5_rankAt_0 2 rfl rfl)
theorem dX5_rankAt_3 : decode cX5_rankAt 3 = .ok (.aload_n 0, 1) := dk_42 (dk_at dksX5_rankAt_0 3 rfl rfl)
theorem dX5_rankAt_4 : decode cX5_rankAt 4 = .ok (.getfield 7, 3) := dk_180 0 7 (dk_at dksX5_rankAt_0 4 rfl rfl)
theorem dX5_rankAt_7 : decode cX5_rankAt 7 = .ok (.iconst 1, 1) := dk_4 (dk_at dksX5_rankAt_0 7 rfl rfl)
theorem dX5_rankAt_8 : decode cX5_rankAt 8 = .ok (.iaload, 1) := dk_46 (dk_at dksX5_rankAt_0 8 rfl rfl)
theorem dX5_rankAt_9 : decode cX5_rankAt 9 = .ok (.if_icmp .ge 69, 3) := dk_162 0 69 (dk_at dksX5_rankAt_0 9 rfl rfl)
theorem dX5_rankAt_12 : decode cX5_rankAt 12 = .ok (.iconst 0, 1) := dk_3 (dk_at dksX5_rankAt_0 12 rfl rfl)
theorem dX5_rankAt_13 : decode cX5_rankAt 13 = .ok (.istore_n 3, 1) := dk_62 (dk_at dksX5_rankAt_0 13 rfl rfl)
theorem dX5_rankAt_14 : decode cX5_rankAt 14 = .ok (.iload_n 3, 1) := dk_29 (dk_at dksX5_rankAt_0 14 rfl rfl)
theorem dX5_rankAt_15 : decode cX5_rankAt 15 = .ok (.bipush 9, 2) := dk_16 9 (dk_at dksX5_rankAt_0 15 rfl rfl)
theorem dX5_rankAt_17 : decode cX5_rankAt 17 = .ok (.if_icmp .ge 55, 3) := dk_162 0 55 (dk_at dksX5_rankAt_0 17 rfl rfl)
theorem dX5_rankAt_20 : decode cX5_rankAt 20 = .ok (.aload_n 0, 1) := dk_42 (dk_at dksX5_rankAt_0 20 rfl rfl)
theorem dX5_rankAt_21 : decode cX5_rankAt 21 = .ok (.getfield 51, 3) := dk_180 0 51 (dk_at dksX5_rankAt_0 21 rfl rfl)
theorem dX5_rankAt_24 : decode cX5_rankAt 24 = .ok (.bipush 9, 2) := dk_16 9 (dk_at dksX5_rankAt_1 0 rfl rfl)
theorem dX5_rankAt_26 : decode cX5_rankAt 26 = .ok (.iload_n 2, 1) := dk_28 (dk_at dksX5_rankAt_1 2 rfl rfl)
theorem dX5_rankAt_27 : decode cX5_rankAt 27 = .ok (.imul, 1) := dk_104 (dk_at dksX5_rankAt_1 3 rfl rfl)
theorem dX5_rankAt_28 : decode cX5_rankAt 28 = .ok (.iload_n 3, 1) := dk_29 (dk_at dksX5_rankAt_1 4 rfl rfl)
theorem dX5_rankAt_29 : decode cX5_rankAt 29 = .ok (.iadd, 1) := dk_96 (dk_at dksX5_rankAt_1 5 rfl rfl)
theorem dX5_rankAt_30 : decode cX5_rankAt 30 = .ok (.iload_n 3, 1) := dk_29 (dk_at dksX5_rankAt_1 6 rfl rfl)
theorem dX5_rankAt_31 : decode cX5_rankAt 31 = .ok (.aload_n 0, 1) := dk_42 (dk_at dksX5_rankAt_1 7 rfl rfl)
theorem dX5_rankAt_32 : decode cX5_rankAt 32 = .ok (.getfield 7, 3) := dk_180 0 7 (dk_at dksX5_rankAt_1 8 rfl rfl)
theorem dX5_rankAt_35 : decode cX5_rankAt 35 = .ok (.iconst 1, 1) := dk_4 (dk_at dksX5_rankAt_1 11 rfl rfl)
theorem dX5_rankAt_36 : decode cX5_rankAt 36 = .ok (.iaload, 1) := dk_46 (dk_at dksX5_rankAt_1 12 rfl rfl)
theorem dX5_rankAt_37 : decode cX5_rankAt 37 = .ok (.if_icmp .lt 7, 3) := dk_161 0 7 (dk_at dksX5_rankAt_1 13 rfl rfl)
theorem dX5_rankAt_40 : decode cX5_rankAt 40 = .ok (.iconst 0, 1) := dk_3 (dk_at dksX5_rankAt_1 16 rfl rfl)
theorem dX5_rankAt_41 : decode cX5_rankAt 41 = .ok (.goto 24, 3) := dk_167 0 24 (dk_at dksX5_rankAt_1 17 rfl rfl)
theorem dX5_rankAt_44 : decode cX5_rankAt 44 = .ok (.aload_n 0, 1) := dk_42 (dk_at dksX5_rankAt_1 20 rfl rfl)
theorem dX5_rankAt_45 : decode cX5_rankAt 45 = .ok (.aload_n 0, 1) := dk_42 (dk_at dksX5_rankAt_1 21 rfl rfl)
theorem dX5_rankAt_46 : decode cX5_rankAt 46 = .ok (.iload_n 2, 1) := dk_28 (dk_at dksX5_rankAt_1 22 rfl rfl)
theorem dX5_rankAt_47 : decode cX5_rankAt 47 = .ok (.iload_n 3, 1) := dk_29 (dk_at dksX5_rankAt_1 23 rfl rfl)
theorem dX5_rankAt_48 : decode cX5_rankAt 48 = .ok (.invokevirtual 184, 3) := dk_182 0 184 (dk_at dksX5_rankAt_2 0 rfl rfl)
theorem dX5_rankAt_51 : decode cX5_rankAt 51 = .ok (.iload_n 2, 1) := dk_28 (dk_at dksX5_rankAt_2 3 rfl rfl)
theorem dX5_rankAt_52 : decode cX5_rankAt 52 = .ok (.iload_n 3, 1) := dk_29 (dk_at dksX5_rankAt_2 4 rfl rfl)
theorem dX5_rankAt_53 : decode cX5_rankAt 53 = .ok (.if_icmp .ne 7, 3) := dk_160 0 7 (dk_at dksX5_rankAt_2 5 rfl rfl)
theorem dX5_rankAt_56 : decode cX5_rankAt 56 = .ok (.iload_n 1, 1) := dk_27 (dk_at dksX5_rankAt_2 8 rfl rfl)
theorem dX5_rankAt_57 : decode cX5_rankAt 57 = .ok (.goto 4, 3) := dk_167 0 4 (dk_at dksX5_rankAt_2 9 rfl rfl)
theorem dX5_rankAt_60 : decode cX5_rankAt 60 = .ok (.iconst 0, 1) := dk_3 (dk_at dksX5_rankAt_2 12 rfl rfl)
theorem dX5_rankAt_61 : decode cX5_rankAt 61 = .ok (.isub, 1) := dk_100 (dk_at dksX5_rankAt_2 13 rfl rfl)
theorem dX5_rankAt_62 : decode cX5_rankAt 62 = .ok (.invokevirtual 199, 3) := dk_182 0 199 (dk_at dksX5_rankAt_2 14 rfl rfl)
theorem dX5_rankAt_65 : decode cX5_rankAt 65 = .ok (.iastore, 1) := dk_79 (dk_at dksX5_rankAt_2 17 rfl rfl)
theorem dX5_rankAt_66 : decode cX5_rankAt 66 = .ok (.iinc 3 1, 3) := dk_132 3 1 (dk_at dksX5_rankAt_2 18 rfl rfl)
theorem dX5_rankAt_69 : decode cX5_rankAt 69 = .ok (.goto (-55), 3) := dk_167 255 201 (dk_at dksX5_rankAt_2 21 rfl rfl)
theorem dX5_rankAt_72 : decode cX5_rankAt 72 = .ok (.iinc 2 1, 3) := dk_132 2 1 (dk_at dksX5_rankAt_3 0 rfl rfl)
theorem dX5_rankAt_75 : decode cX5_rankAt 75 = .ok (.goto (-73), 3) := dk_167 255 183 (dk_at dksX5_rankAt_3 3 rfl rfl)
theorem dX5_rankAt_78 : decode cX5_rankAt 78 = .ok (.aload_n 0, 1) := dk_42 (dk_at dksX5_rankAt_3 6 rfl rfl)
theorem dX5_rankAt_79 : decode cX5_rankAt 79 = .ok (.aload_n 0, 1) := dk_42 (dk_at dksX5_rankAt_3 7 rfl rfl)
theorem dX5_rankAt_80 : decode cX5_rankAt 80 = .ok (.getfield 7, 3) := dk_180 0 7 (dk_at dksX5_rankAt_3 8 rfl rfl)
theorem dX5_rankAt_83 : decode cX5_rankAt 83 = .ok (.iconst 1, 1) := dk_4 (dk_at dksX5_rankAt_3 11 rfl rfl)
theorem dX5_rankAt_84 : decode cX5_rankAt 84 = .ok (.iaload, 1) := dk_46 (dk_at dksX5_rankAt_3 12 rfl rfl)
theorem dX5_rankAt_85 : decode cX5_rankAt 85 = .ok (.aload_n 0, 1) := dk_42 (dk_at dksX5_rankAt_3 13 rfl rfl)
theorem dX5_rankAt_86 : decode cX5_rankAt 86 = .ok (.getfield 7, 3) := dk_180 0 7 (dk_at dksX5_rankAt_3 14 rfl rfl)
theorem dX5_rankAt_89 : decode cX5_rankAt 89 = .ok (.iconst 1, 1) := dk_4 (dk_at dksX5_rankAt_3 17 rfl rfl)
theorem dX5_rankAt_90 : decode cX5_rankAt 90 = .ok (.iaload, 1) := dk_46 (dk_at dksX5_rankAt_3 18 rfl rfl)
theorem dX5_rankAt_91 : decode cX5_rankAt 91 = .ok (.invokevirtual 295, 3) := dk_182 1 39 (dk_at dksX5_rankAt_3 19 rfl rfl)
theorem dX5_rankAt_94 : decode cX5_rankAt 94 = .ok (.ireturn, 1) := dk_172 (dk_at dksX5_rankAt_3 22 rfl rfl)
abbrev cX5_dimension : ByteArray := prog_12_method_91_code
def yX5_dimension : MethodName := ⟨RX5, "dimension", "(I)I"⟩
def dkwX5_dimension_1 : List UInt8 := [3, 167, 0, 15, 42, 180, 0, 7, 4, 46, 42, 27, 182, 1, 45, 100, 172]
abbrev dktX5_dimension_1 : List UInt8 := dkwX5_dimension_1 ++ []
def dkwX5_dimension_0 : List UInt8 := [42, 42, 27, 182, 0, 187, 153, 0, 7, 3, 167, 0, 4, 4, 181, 0, 65, 42, 180, 0, 65, 158, 0, 7]
abbrev dktX5_dimension_0 : List UInt8 := dkwX5_dimension_0 ++ dktX5_dimension_1
theorem dksX5_dimension_0 : cX5_dimension.data.toList.drop 0 = dktX5_dimension_0 := by decide +kernel
theorem dksX5_dimension_1 : cX5_dimension.data.toList.drop 24 = dktX5_dimension_1 := dk_seg dksX5_dimension_0 24 rfl rfl
theorem dX5_dimension_0 : decode cX5_dimension 0 = .ok (.aload_n 0, 1) := dk_42 (dk_at dksX5_dimension_0 0 rfl rfl)
theorem dX5_dimension_1 : decode cX5_dimension 1 = .ok (.aload_n 0, 1) := dk_42 (dk_at dksX5_dimension_0 1 rfl rfl)
theorem dX5_dimension_2 : decode cX5_dimension 2 = .ok (.iload_n 1, 1) := dk_27 (dk_at dksX5_dimension_0 2 rfl rfl)
theorem dX5_dimension_3 : decode cX5_dimension 3 = .ok (.invokevirtual 187, 3) := dk_182 0 187 (dk_at dksX5_dimension_0 3 rfl rfl)
theorem dX5_dimension_6 : decode cX5_dimension 6 = .ok (.ifCond .eq 7, 3) := dk_153 0 7 (dk_at dksX5_dimension_0 6 rfl rfl)
theorem dX5_dimension_9 : decode cX5_dimension 9 = .ok (.iconst 0, 1) := dk_3 (dk_at dksX5_dimension_0 9 rfl rfl)
theorem dX5_dimension_10 : decode cX5_dimension 10 = .ok (.goto 4, 3) := dk_167 0 4 (dk_at dksX5_dimension_0 10 rfl rfl)
theorem dX5_dimension_13 : decode cX5_dimension 13 = .ok (.iconst 1, 1) := dk_4 (dk_at dksX5_dimension_0 13 rfl rfl)
theorem dX5_dimension_14 : decode cX5_dimension 14 = .ok (.putfield 65, 3) := dk_181 0 65 (dk_at dksX5_dimension_0 14 rfl rfl)
theorem dX5_dimension_17 : decode cX5_dimension 17 = .ok (.aload_n 0, 1) := dk_42 (dk_at dksX5_dimension_0 17 rfl rfl)
theorem dX5_dimension_18 : decode cX5_dimension 18 = .ok (.getfield 65, 3) := dk_180 0 65 (dk_at dksX5_dimension_0 18 rfl rfl)
theorem dX5_dimension_21 : decode cX5_dimension 21 = .ok (.ifCond .le 7, 3) := dk_158 0 7 (dk_at dksX5_dimension_0 21 rfl rfl)
theorem dX5_dimension_24 : decode cX5_dimension 24 = .ok (.iconst 0, 1) := dk_3 (dk_at dksX5_dimension_1 0 rfl rfl)
theorem dX5_dimension_25 : decode cX5_dimension 25 = .ok (.goto 15, 3) := dk_167 0 15 (dk_at dksX5_dimension_1 1 rfl rfl)
theorem dX5_dimension_28 : decode cX5_dimension 28 = .ok (.aload_n 0, 1) := dk_42 (dk_at dksX5_dimension_1 4 rfl rfl)
theorem dX5_dimension_29 : decode cX5_dimension 29 = .ok (.getfield 7, 3) := dk_180 0 7 (dk_at dksX5_dimension_1 5 rfl rfl)
theorem dX5_dimension_32 : decode cX5_dimension 32 = .ok (.iconst 1, 1) := dk_4 (dk_at dksX5_dimension_1 8 rfl rfl)
theorem dX5_dimension_33 : decode cX5_dimension 33 = .ok (.iaload, 1) := dk_46 (dk_at dksX5_dimension_1 9 rfl rfl)
theorem dX5_dimension_34 : decode cX5_dimension 34 = .ok (.aload_n 0, 1) := dk_42 (dk_at dksX5_dimension_1 10 rfl rfl)
theorem dX5_dimension_35 : decode cX5_dimension 35 = .ok (.iload_n 1, 1) := dk_27 (dk_at dksX5_dimension_1 11 rfl rfl)
theorem dX5_dimension_36 : decode cX5_dimension 36 = .ok (.invokevirtual 301, 3) := dk_182 1 45 (dk_at dksX5_dimension_1 12 rfl rfl)
theorem dX5_dimension_39 : decode cX5_dimension 39 = .ok (.isub, 1) := dk_100 (dk_at dksX5_dimension_1 15 rfl rfl)
theorem dX5_dimension_40 : decode cX5_dimension 40 = .ok (.ireturn, 1) := dk_172 (dk_at dksX5_dimension_1 16 rfl rfl)
abbrev cX5_eigenvalues : ByteArray := prog_12_method_92_code
def yX5_eigenvalues : MethodName := ⟨RX5, "eigenvalues", "()I"⟩
def dkwX5_eigenvalues_2 : List UInt8 := [167, 255, 221, 27, 172]
abbrev dktX5_eigenvalues_2 : List UInt8 := dkwX5_eigenvalues_2 ++ []
def dkwX5_eigenvalues_1 : List UInt8 := [182, 1, 45, 42, 180, 0, 7, 4, 46, 162, 0, 7, 4, 167, 0, 4, 3, 96, 60, 132, 2, 1]
abbrev dktX5_eigenvalues_1 : List UInt8 := dkwX5_eigenvalues_1 ++ dktX5_eigenvalues_2
def dkwX5_eigenvalues_0 : List UInt8 := [42, 3, 181, 0, 65, 3, 60, 3, 61, 28, 42, 180, 0, 7, 3, 46, 162, 0, 31, 27, 42, 28]
abbrev dktX5_eigenvalues_0 : List UInt8 := dkwX5_eigenvalues_0 ++ dktX5_eigenvalues_1
theorem dksX5_eigenvalues_0 : cX5_eigenvalues.data.toList.drop 0 = dktX5_eigenvalues_0 := by decide +kernel
theorem dksX5_eigenvalues_1 : cX5_eigenvalues.data.toList.drop 22 = dktX5_eigenvalues_1 := dk_seg dksX5_eigenvalues_0 22 rfl rfl
theorem dksX5_eigenvalues_2 : cX5_eigenvalues.data.toList.drop 44 = dktX5_eigenvalues_2 := dk_seg dksX5_eigenvalues_1 22 rfl rfl
theorem dX5_eigenvalues_0 : decode cX5_eigenvalues 0 = .ok (.aload_n 0, 1) := dk_42 (dk_at dksX5_eigenvalues_0 0 rfl rfl)
theorem dX5_eigenvalues_1 : decode cX5_eigenvalues 1 = .ok (.iconst 0, 1) := dk_3 (dk_at dksX5_eigenvalues_0 1 rfl rfl)
theorem dX5_eigenvalues_2 : decode cX5_eigenvalues 2 = .ok (.putfield 65, 3) := dk_181 0 65 (dk_at dksX5_eigenvalues_0 2 rfl rfl)
theorem dX5_eigenvalues_5 : decode cX5_eigenvalues 5 = .ok (.iconst 0, 1) := dk_3 (dk_at dksX5_eigenvalues_0 5 rfl rfl)
theorem dX5_eigenvalues_6 : decode cX5_eigenvalues 6 = .ok (.istore_n 1, 1) := dk_60 (dk_at dksX5_eigenvalues_0 6 rfl rfl)
theorem dX5_eigenvalues_7 : decode cX5_eigenvalues 7 = .ok (.iconst 0, 1) := dk_3 (dk_at dksX5_eigenvalues_0 7 rfl rfl)
theorem dX5_eigenvalues_8 : decode cX5_eigenvalues 8 = .ok (.istore_n 2, 1) := dk_61 (dk_at dksX5_eigenvalues_0 8 rfl rfl)
theorem dX5_eigenvalues_9 : decode cX5_eigenvalues 9 = .ok (.iload_n 2, 1) := dk_28 (dk_at dksX5_eigenvalues_0 9 rfl rfl)
theorem dX5_eigenvalues_10 : decode cX5_eigenvalues 10 = .ok (.aload_n 0, 1) := dk_42 (dk_at dksX5_eigenvalues_0 10 rfl rfl)
theorem dX5_eigenvalues_11 : decode cX5_eigenvalues 11 = .ok (.getfield 7, 3) := dk_180 0 7 (dk_at dksX5_eigenvalues_0 11 rfl rfl)
theorem dX5_eigenvalues_14 : decode cX5_eigenvalues 14 = .ok (.iconst 0, 1) := dk_3 (dk_at dksX5_eigenvalues_0 14 rfl rfl)
theorem dX5_eigenvalues_15 : decode cX5_eigenvalues 15 = .ok (.iaload, 1) := dk_46 (dk_at dksX5_eigenvalues_0 15 rfl rfl)
theorem dX5_eigenvalues_16 : decode cX5_eigenvalues 16 = .ok (.if_icmp .ge 31, 3) := dk_162 0 31 (dk_at dksX5_eigenvalues_0 16 rfl rfl)
theorem dX5_eigenvalues_19 : decode cX5_eigenvalues 19 = .ok (.iload_n 1, 1) := dk_27 (dk_at dksX5_eigenvalues_0 19 rfl rfl)
theorem dX5_eigenvalues_20 : decode cX5_eigenvalues 20 = .ok (.aload_n 0, 1) := dk_42 (dk_at dksX5_eigenvalues_0 20 rfl rfl)
theorem dX5_eigenvalues_21 : decode cX5_eigenvalues 21 = .ok (.iload_n 2, 1) := dk_28 (dk_at dksX5_eigenvalues_0 21 rfl rfl)
theorem dX5_eigenvalues_22 : decode cX5_eigenvalues 22 = .ok (.invokevirtual 301, 3) := dk_182 1 45 (dk_at dksX5_eigenvalues_1 0 rfl rfl)
theorem dX5_eigenvalues_25 : decode cX5_eigenvalues 25 = .ok (.aload_n 0, 1) := dk_42 (dk_at dksX5_eigenvalues_1 3 rfl rfl)
theorem dX5_eigenvalues_26 : decode cX5_eigenvalues 26 = .ok (.getfield 7, 3) := dk_180 0 7 (dk_at dksX5_eigenvalues_1 4 rfl rfl)
theorem dX5_eigenvalues_29 : decode cX5_eigenvalues 29 = .ok (.iconst 1, 1) := dk_4 (dk_at dksX5_eigenvalues_1 7 rfl rfl)
theorem dX5_eigenvalues_30 : decode cX5_eigenvalues 30 = .ok (.iaload, 1) := dk_46 (dk_at dksX5_eigenvalues_1 8 rfl rfl)
theorem dX5_eigenvalues_31 : decode cX5_eigenvalues 31 = .ok (.if_icmp .ge 7, 3) := dk_162 0 7 (dk_at dksX5_eigenvalues_1 9 rfl rfl)
theorem dX5_eigenvalues_34 : decode cX5_eigenvalues 34 = .ok (.iconst 1, 1) := dk_4 (dk_at dksX5_eigenvalues_1 12 rfl rfl)
theorem dX5_eigenvalues_35 : decode cX5_eigenvalues 35 = .ok (.goto 4, 3) := dk_167 0 4 (dk_at dksX5_eigenvalues_1 13 rfl rfl)
theorem dX5_eigenvalues_38 : decode cX5_eigenvalues 38 = .ok (.iconst 0, 1) := dk_3 (dk_at dksX5_eigenvalues_1 16 rfl rfl)
theorem dX5_eigenvalues_39 : decode cX5_eigenvalues 39 = .ok (.iadd, 1) := dk_96 (dk_at dksX5_eigenvalues_1 17 rfl rfl)
theorem dX5_eigenvalues_40 : decode cX5_eigenvalues 40 = .ok (.istore_n 1, 1) := dk_60 (dk_at dksX5_eigenvalues_1 18 rfl rfl)
theorem dX5_eigenvalues_41 : decode cX5_eigenvalues 41 = .ok (.iinc 2 1, 3) := dk_132 2 1 (dk_at dksX5_eigenvalues_1 19 rfl rfl)
theorem dX5_eigenvalues_44 : decode cX5_eigenvalues 44 = .ok (.goto (-35), 3) := dk_167 255 221 (dk_at dksX5_eigenvalues_2 0 rfl rfl)
theorem dX5_eigenvalues_47 : decode cX5_eigenvalues 47 = .ok (.iload_n 1, 1) := dk_27 (dk_at dksX5_eigenvalues_2 3 rfl rfl)
theorem dX5_eigenvalues_48 : decode cX5_eigenvalues 48 = .ok (.ireturn, 1) := dk_172 (dk_at dksX5_eigenvalues_2 4 rfl rfl)
abbrev cX5_isSplit : ByteArray := prog_12_method_93_code
def yX5_isSplit : MethodName := ⟨RX5, "isSplit", "()Z"⟩
def dkwX5_isSplit_2 : List UInt8 := [160, 0, 7, 4, 167, 0, 4, 3, 172]
abbrev dktX5_isSplit_2 : List UInt8 := dkwX5_isSplit_2 ++ []
def dkwX5_isSplit_1 : List UInt8 := [4, 46, 42, 28, 182, 1, 45, 100, 96, 60, 132, 2, 1, 167, 255, 228, 27, 42, 180, 0, 7, 4, 46]
abbrev dktX5_isSplit_1 : List UInt8 := dkwX5_isSplit_1 ++ dktX5_isSplit_2
def dkwX5_isSplit_0 : List UInt8 := [42, 3, 181, 0, 65, 3, 60, 3, 61, 28, 42, 180, 0, 7, 3, 46, 162, 0, 24, 27, 42, 180, 0, 7]
abbrev dktX5_isSplit_0 : List UInt8 := dkwX5_isSplit_0 ++ dktX5_isSplit_1
theorem dksX5_isSplit_0 : cX5_isSplit.data.toList.drop 0 = dktX5_isSplit_0 := by decide +kernel
theorem dksX5_isSplit_1 : cX5_isSplit.data.toList.drop 24 = dktX5_isSplit_1 := dk_seg dksX5_isSplit_0 24 rfl rfl
theorem dksX5_isSplit_2 : cX5_isSplit.data.toList.drop 47 = dktX5_isSplit_2 := dk_seg dksX5_isSplit_1 23 rfl rfl
theorem dX5_isSplit_0 : decode cX5_isSplit 0 = .ok (.aload_n 0, 1) := dk_42 (dk_at dksX5_isSplit_0 0 rfl rfl)
theorem dX5_isSplit_1 : decode cX5_isSplit 1 = .ok (.iconst 0, 1) := dk_3 (dk_at dksX5_isSplit_0 1 rfl rfl)
theorem dX5_isSplit_2 : decode cX5_isSplit 2 = .ok (.putfield 65, 3) := dk_181 0 65 (dk_at dksX5_isSplit_0 2 rfl rfl)
theorem dX5_isSplit_5 : decode cX5_isSplit 5 = .ok (.iconst 0, 1) := dk_3 (dk_at dksX5_isSplit_0 5 rfl rfl)
theorem dX5_isSplit_6 : decode cX5_isSplit 6 = .ok (.istore_n 1, 1) := dk_60 (dk_at dksX5_isSplit_0 6 rfl rfl)
theorem dX5_isSplit_7 : decode cX5_isSplit 7 = .ok (.iconst 0, 1) := dk_3 (dk_at dksX5_isSplit_0 7 rfl rfl)
theorem dX5_isSplit_8 : decode cX5_isSplit 8 = .ok (.istore_n 2, 1) := dk_61 (dk_at dksX5_isSplit_0 8 rfl rfl)
theorem dX5_isSplit_9 : decode cX5_isSplit 9 = .ok (.iload_n 2, 1) := dk_28 (dk_at dksX5_isSplit_0 9 rfl rfl)
theorem dX5_isSplit_10 : decode cX5_isSplit 10 = .ok (.aload_n 0, 1) := dk_42 (dk_at dksX5_isSplit_0 10 rfl rfl)
theorem dX5_isSplit_11 : decode cX5_isSplit 11 = .ok (.getfield 7, 3) := dk_180 0 7 (dk_at dksX5_isSplit_0 11 rfl rfl)
theorem dX5_isSplit_14 : decode cX5_isSplit 14 = .ok (.iconst 0, 1) := dk_3 (dk_at dksX5_isSplit_0 14 rfl rfl)
theorem dX5_isSplit_15 : decode cX5_isSplit 15 = .ok (.iaload, 1) := dk_46 (dk_at dksX5_isSplit_0 15 rfl rfl)
theorem dX5_isSplit_16 : decode cX5_isSplit 16 = .ok (.if_icmp .ge 24, 3) := dk_162 0 24 (dk_at dksX5_isSplit_0 16 rfl rfl)
theorem dX5_isSplit_19 : decode cX5_isSplit 19 = .ok (.iload_n 1, 1) := dk_27 (dk_at dksX5_isSplit_0 19 rfl rfl)
theorem dX5_isSplit_20 : decode cX5_isSplit 20 = .ok (.aload_n 0, 1) := dk_42 (dk_at dksX5_isSplit_0 20 rfl rfl)
theorem dX5_isSplit_21 : decode cX5_isSplit 21 = .ok (.getfield 7, 3) := dk_180 0 7 (dk_at dksX5_isSplit_0 21 rfl rfl)
theorem dX5_isSplit_24 : decode cX5_isSplit 24 = .ok (.iconst 1, 1) := dk_4 (dk_at dksX5_isSplit_1 0 rfl rfl)
theorem dX5_isSplit_25 : decode cX5_isSplit 25 = .ok (.iaload, 1) := dk_46 (dk_at dksX5_isSplit_1 1 rfl rfl)
theorem dX5_isSplit_26 : decode cX5_isSplit 26 = .ok (.aload_n 0, 1) := dk_42 (dk_at dksX5_isSplit_1 2 rfl rfl)
theorem dX5_isSplit_27 : decode cX5_isSplit 27 = .ok (.iload_n 2, 1) := dk_28 (dk_at dksX5_isSplit_1 3 rfl rfl)
theorem dX5_isSplit_28 : decode cX5_isSplit 28 = .ok (.invokevirtual 301, 3) := dk_182 1 45 (dk_at dksX5_isSplit_1 4 rfl rfl)
theorem dX5_isSplit_31 : decode cX5_isSplit 31 = .ok (.isub, 1) := dk_100 (dk_at dksX5_isSplit_1 7 rfl rfl)
theorem dX5_isSplit_32 : decode cX5_isSplit 32 = .ok (.iadd, 1) := dk_96 (dk_at dksX5_isSplit_1 8 rfl rfl)
theorem dX5_isSplit_33 : decode cX5_isSplit 33 = .ok (.istore_n 1, 1) := dk_60 (dk_at dksX5_isSplit_1 9 rfl rfl)
theorem dX5_isSplit_34 : decode cX5_isSplit 34 = .ok (.iinc 2 1, 3) := dk_132 2 1 (dk_at dksX5_isSplit_1 10 rfl rfl)
theorem dX5_isSplit_37 : decode cX5_isSplit 37 = .ok (.goto (-28), 3) := dk_167 255 228 (dk_at dksX5_isSplit_1 13 rfl rfl)
theorem dX5_isSplit_40 : decode cX5_isSplit 40 = .ok (.iload_n 1, 1) := dk_27 (dk_at dksX5_isSplit_1 16 rfl rfl)
theorem dX5_isSplit_41 : decode cX5_isSplit 41 = .ok (.aload_n 0, 1) := dk_42 (dk_at dksX5_isSplit_1 17 rfl rfl)
theorem dX5_isSplit_42 : decode cX5_isSplit 42 = .ok (.getfield 7, 3) := dk_180 0 7 (dk_at dksX5_isSplit_1 18 rfl rfl)
theorem dX5_isSplit_45 : decode cX5_isSplit 45 = .ok (.iconst 1, 1) := dk_4 (dk_at dksX5_isSplit_1 21 rfl rfl)
theorem dX5_isSplit_46 : decode cX5_isSplit 46 = .ok (.iaload, 1) := dk_46 (dk_at dksX5_isSplit_1 22 rfl rfl)
theorem dX5_isSplit_47 : decode cX5_isSplit 47 = .ok (.if_icmp .ne 7, 3) := dk_160 0 7 (dk_at dksX5_isSplit_2 0 rfl rfl)
theorem dX5_isSplit_50 : decode cX5_isSplit 50 = .ok (.iconst 1, 1) := dk_4 (dk_at dksX5_isSplit_2 3 rfl rfl)
theorem dX5_isSplit_51 : decode cX5_isSplit 51 = .ok (.goto 4, 3) := dk_167 0 4 (dk_at dksX5_isSplit_2 4 rfl rfl)
theorem dX5_isSplit_54 : decode cX5_isSplit 54 = .ok (.iconst 0, 1) := dk_3 (dk_at dksX5_isSplit_2 7 rfl rfl)
theorem dX5_isSplit_55 : decode cX5_isSplit 55 = .ok (.ireturn, 1) := dk_172 (dk_at dksX5_isSplit_2 8 rfl rfl)
abbrev cX5_reach : ByteArray := prog_12_method_95_code
def yX5_reach : MethodName := ⟨RX5, "reach", "()I"⟩
def dkwX5_reach_1 : List UInt8 := [180, 0, 7, 16, 73, 27, 96, 46, 79, 132, 1, 1, 167, 255, 228, 42, 182, 1, 48, 172]
abbrev dktX5_reach_1 : List UInt8 := dkwX5_reach_1 ++ []
def dkwX5_reach_0 : List UInt8 := [42, 3, 181, 0, 65, 3, 60, 27, 42, 180, 0, 7, 4, 46, 162, 0, 24, 42, 180, 0, 33, 27, 42]
abbrev dktX5_reach_0 : List UInt8 := dkwX5_reach_0 ++ dktX5_reach_1
theorem dksX5_reach_0 : cX5_reach.data.toList.drop 0 = dktX5_reach_0 := by decide +kernel
theorem dksX5_reach_1 : cX5_reach.data.toList.drop 23 = dktX5_reach_1 := dk_seg dksX5_reach_0 23 rfl rfl
theorem dX5_reach_0 : decode cX5_reach 0 = .ok (.aload_n 0, 1) := dk_42 (dk_at dksX5_reach_0 0 rfl rfl)
theorem dX5_reach_1 : decode cX5_reach 1 = .ok (.iconst 0, 1) := dk_3 (dk_at dksX5_reach_0 1 rfl rfl)
theorem dX5_reach_2 : decode cX5_reach 2 = .ok (.putfield 65, 3) := dk_181 0 65 (dk_at dksX5_reach_0 2 rfl rfl)
theorem dX5_reach_5 : decode cX5_reach 5 = .ok (.iconst 0, 1) := dk_3 (dk_at dksX5_reach_0 5 rfl rfl)
theorem dX5_reach_6 : decode cX5_reach 6 = .ok (.istore_n 1, 1) := dk_60 (dk_at dksX5_reach_0 6 rfl rfl)
theorem dX5_reach_7 : decode cX5_reach 7 = .ok (.iload_n 1, 1) := dk_27 (dk_at dksX5_reach_0 7 rfl rfl)
theorem dX5_reach_8 : decode cX5_reach 8 = .ok (.aload_n 0, 1) := dk_42 (dk_at dksX5_reach_0 8 rfl rfl)
theorem dX5_reach_9 : decode cX5_reach 9 = .ok (.getfield 7, 3) := dk_180 0 7 (dk_at dksX5_reach_0 9 rfl rfl)
theorem dX5_reach_12 : decode cX5_reach 12 = .ok (.iconst 1, 1) := dk_4 (dk_at dksX5_reach_0 12 rfl rfl)
theorem dX5_reach_13 : decode cX5_reach 13 = .ok (.iaload, 1) := dk_46 (dk_at dksX5_reach_0 13 rfl rfl)
theorem dX5_reach_14 : decode cX5_reach 14 = .ok (.if_icmp .ge 24, 3) := dk_162 0 24 (dk_at dksX5_reach_0 14 rfl rfl)
theorem dX5_reach_17 : decode cX5_reach 17 = .ok (.aload_n 0, 1) := dk_42 (dk_at dksX5_reach_0 17 rfl rfl)
theorem dX5_reach_18 : decode cX5_reach 18 = .ok (.getfield 33, 3) := dk_180 0 33 (dk_at dksX5_reach_0 18 rfl rfl)
theorem dX5_reach_21 : decode cX5_reach 21 = .ok (.iload_n 1, 1) := dk_27 (dk_at dksX5_reach_0 21 rfl rfl)
theorem dX5_reach_22 : decode cX5_reach 22 = .ok (.aload_n 0, 1) := dk_42 (dk_at dksX5_reach_0 22 rfl rfl)
theorem dX5_reach_23 : decode cX5_reach 23 = .ok (.getfield 7, 3) := dk_180 0 7 (dk_at dksX5_reach_1 0 rfl rfl)
theorem dX5_reach_26 : decode cX5_reach 26 = .ok (.bipush 73, 2) := dk_16 73 (dk_at dksX5_reach_1 3 rfl rfl)
theorem dX5_reach_28 : decode cX5_reach 28 = .ok (.iload_n 1, 1) := dk_27 (dk_at dksX5_reach_1 5 rfl rfl)
theorem dX5_reach_29 : decode cX5_reach 29 = .ok (.iadd, 1) := dk_96 (dk_at dksX5_reach_1 6 rfl rfl)
theorem dX5_reach_30 : decode cX5_reach 30 = .ok (.iaload, 1) := dk_46 (dk_at dksX5_reach_1 7 rfl rfl)
theorem dX5_reach_31 : decode cX5_reach 31 = .ok (.iastore, 1) := dk_79 (dk_at dksX5_reach_1 8 rfl rfl)
theorem dX5_reach_32 : decode cX5_reach 32 = .ok (.iinc 1 1, 3) := dk_132 1 1 (dk_at dksX5_reach_1 9 rfl rfl)
theorem dX5_reach_35 : decode cX5_reach 35 = .ok (.goto (-28), 3) := dk_167 255 228 (dk_at dksX5_reach_1 12 rfl rfl)
theorem dX5_reach_38 : decode cX5_reach 38 = .ok (.aload_n 0, 1) := dk_42 (dk_at dksX5_reach_1 15 rfl rfl)
theorem dX5_reach_39 : decode cX5_reach 39 = .ok (.invokevirtual 304, 3) := dk_182 1 48 (dk_at dksX5_reach_1 16 rfl rfl)
theorem dX5_reach_42 : decode cX5_reach 42 = .ok (.ireturn, 1) := dk_172 (dk_at dksX5_reach_1 19 rfl rfl)
abbrev cX5_reachBy : ByteArray := prog_12_method_94_code
def yX5_reachBy : MethodName := ⟨RX5, "reachBy", "()I"⟩
def dkwX5_reachBy_5 : List UInt8 := [46, 182, 1, 39, 172]
abbrev dktX5_reachBy_5 : List UInt8 := dkwX5_reachBy_5 ++ []
def dkwX5_reachBy_4 : List UInt8 := [132, 2, 1, 167, 255, 231, 132, 1, 1, 167, 255, 156, 42, 42, 180, 0, 7, 4, 46, 42, 180, 0, 7, 4]
abbrev dktX5_reachBy_4 : List UInt8 := dkwX5_reachBy_4 ++ dktX5_reachBy_5
def dkwX5_reachBy_3 : List UInt8 := [61, 28, 42, 180, 0, 7, 4, 46, 162, 0, 21, 42, 180, 0, 33, 28, 42, 180, 0, 36, 28, 46, 79]
abbrev dktX5_reachBy_3 : List UInt8 := dkwX5_reachBy_3 ++ dktX5_reachBy_4
def dkwX5_reachBy_2 : List UInt8 := [167, 0, 4, 3, 79, 132, 2, 1, 167, 255, 216, 42, 42, 180, 0, 33, 42, 180, 0, 36, 182, 0, 223, 3]
abbrev dktX5_reachBy_2 : List UInt8 := dkwX5_reachBy_2 ++ dktX5_reachBy_3
def dkwX5_reachBy_1 : List UInt8 := [16, 9, 27, 104, 28, 96, 28, 42, 180, 0, 7, 4, 46, 162, 0, 12, 42, 180, 0, 33, 28, 46]
abbrev dktX5_reachBy_1 : List UInt8 := dkwX5_reachBy_1 ++ dktX5_reachBy_2
def dkwX5_reachBy_0 : List UInt8 := [3, 60, 27, 42, 180, 0, 7, 4, 46, 162, 0, 96, 3, 61, 28, 16, 9, 162, 0, 40, 42, 180, 0, 51]
abbrev dktX5_reachBy_0 : List UInt8 := dkwX5_reachBy_0 ++ dktX5_reachBy_1
theorem dksX5_reachBy_0 : cX5_reachBy.data.toList.drop 0 = dktX5_reachBy_0 := by decide +kernel
theorem dksX5_reachBy_1 : cX5_reachBy.data.toList.drop 24 = dktX5_reachBy_1 := dk_seg dksX5_reachBy_0 24 rfl rfl
theorem dksX5_reachBy_2 : cX5_reachBy.data.toList.drop 46 = dktX5_reachBy_2 := dk_seg dksX5_reachBy_1 22 rfl rfl
theorem dksX5_reachBy_3 : cX5_reachBy.data.toList.drop 70 = dktX5_reachBy_3 := dk_seg dksX5_reachBy_2 24 rfl rfl
theorem dksX5_reachBy_4 : cX5_reachBy.data.toList.drop 93 = dktX5_reachBy_4 := dk_seg dksX5_reachBy_3 23 rfl rfl
theorem dksX5_reachBy_5 : cX5_reachBy.data.toList.drop 117 = dktX5_reachBy_5 := dk_seg dksX5_reachBy_4 24 rfl rfl
theorem dX5_reachBy_0 : decode cX5_reachBy 0 = .ok (.iconst 0, 1) := dk_3 (dk_at dksX5_reachBy_0 0 rfl rfl)
theorem dX5_reachBy_1 : decode cX5_reachBy 1 = .ok (.istore_n 1, 1) := dk_60 (dk_at dksX5_reachBy_0 1 rfl rfl)
theorem dX5_reachBy_2 : decode cX5_reachBy 2 = .ok (.iload_n 1, 1) := dk_27 (dk_at dksX5_reachBy_0 2 rfl rfl)
theorem dX5_reachBy_3 : decode cX5_reachBy 3 = .ok (.aload_n 0, 1) := dk_42 (dk_at dksX5_reachBy_0 3 rfl rfl)
theorem dX5_reachBy_4 : decode cX5_reachBy 4 = .ok (.getfield 7, 3) := dk_180 0 7 (dk_at dksX5_reachBy_0 4 rfl rfl)
theorem dX5_reachBy_7 : decode cX5_reachBy 7 = .ok (.iconst 1, 1) := dk_4 (dk_at dksX5_reachBy_0 7 rfl rfl)
theorem dX5_reachBy_8 : decode cX5_reachBy 8 = .ok (.iaload, 1) := dk_46 (dk_at dksX5_reachBy_0 8 rfl rfl)
theorem dX5_reachBy_9 : decode cX5_reachBy 9 = .ok (.if_icmp .ge 96, 3) := dk_162 0 96 (dk_at dksX5_reachBy_0 9 rfl rfl)
theorem dX5_reachBy_12 : decode cX5_reachBy 12 = .ok (.iconst 0, 1) := dk_3 (dk_at dksX5_reachBy_0 12 rfl rfl)
theorem dX5_reachBy_13 : decode cX5_reachBy 13 = .ok (.istore_n 2, 1) := dk_61 (dk_at dksX5_reachBy_0 13 rfl rfl)
theorem dX5_reachBy_14 : decode cX5_reachBy 14 = .ok (.iload_n 2, 1) := dk_28 (dk_at dksX5_reachBy_0 14 rfl rfl)
theorem dX5_reachBy_15 : decode cX5_reachBy 15 = .ok (.bipush 9, 2) := dk_16 9 (dk_at dksX5_reachBy_0 15 rfl rfl)
theorem dX5_reachBy_17 : decode cX5_reachBy 17 = .ok (.if_icmp .ge 40, 3) := dk_162 0 40 (dk_at dksX5_reachBy_0 17 rfl rfl)
theorem dX5_reachBy_20 : decode cX5_reachBy 20 = .ok (.aload_n 0, 1) := dk_42 (dk_at dksX5_reachBy_0 20 rfl rfl)
theorem dX5_reachBy_21 : decode cX5_reachBy 21 = .ok (.getfield 51, 3) := dk_180 0 51 (dk_at dksX5_reachBy_0 21 rfl rfl)
theorem dX5_reachBy_24 : decode cX5_reachBy 24 = .ok (.bipush 9, 2) := dk_16 9 (dk_at dksX5_reachBy_1 0 rfl rfl)
theorem dX5_reachBy_26 : decode cX5_reachBy 26 = .ok (.iload_n 1, 1) := dk_27 (dk_at dksX5_reachBy_1 2 rfl rfl)
theorem dX5_reachBy_27 : decode cX5_reachBy 27 = .ok (.imul, 1) := dk_104 (dk_at dksX5_reachBy_1 3 rfl rfl)
theorem dX5_reachBy_28 : decode cX5_reachBy 28 = .ok (.iload_n 2, 1) := dk_28 (dk_at dksX5_reachBy_1 4 rfl rfl)
theorem dX5_reachBy_29 : decode cX5_reachBy 29 = .ok (.iadd, 1) := dk_96 (dk_at dksX5_reachBy_1 5 rfl rfl)
theorem dX5_reachBy_30 : decode cX5_reachBy 30 = .ok (.iload_n 2, 1) := dk_28 (dk_at dksX5_reachBy_1 6 rfl rfl)
theorem dX5_reachBy_31 : decode cX5_reachBy 31 = .ok (.aload_n 0, 1) := dk_42 (dk_at dksX5_reachBy_1 7 rfl rfl)
theorem dX5_reachBy_32 : decode cX5_reachBy 32 = .ok (.getfield 7, 3) := dk_180 0 7 (dk_at dksX5_reachBy_1 8 rfl rfl)
theorem dX5_reachBy_35 : decode cX5_reachBy 35 = .ok (.iconst 1, 1) := dk_4 (dk_at dksX5_reachBy_1 11 rfl rfl)
theorem dX5_reachBy_36 : decode cX5_reachBy 36 = .ok (.iaload, 1) := dk_46 (dk_at dksX5_reachBy_1 12 rfl rfl)
theorem dX5_reachBy_37 : decode cX5_reachBy 37 = .ok (.if_icmp .ge 12, 3) := dk_162 0 12 (dk_at dksX5_reachBy_1 13 rfl rfl)
theorem dX5_reachBy_40 : decode cX5_reachBy 40 = .ok (.aload_n 0, 1) := dk_42 (dk_at dksX5_reachBy_1 16 rfl rfl)
theorem dX5_reachBy_41 : decode cX5_reachBy 41 = .ok (.getfield 33, 3) := dk_180 0 33 (dk_at dksX5_reachBy_1 17 rfl rfl)
theorem dX5_reachBy_44 : decode cX5_reachBy 44 = .ok (.iload_n 2, 1) := dk_28 (dk_at dksX5_reachBy_1 20 rfl rfl)
theorem dX5_reachBy_45 : decode cX5_reachBy 45 = .ok (.iaload, 1) := dk_46 (dk_at dksX5_reachBy_1 21 rfl rfl)
theorem dX5_reachBy_46 : decode cX5_reachBy 46 = .ok (.goto 4, 3) := dk_167 0 4 (dk_at dksX5_reachBy_2 0 rfl rfl)
theorem dX5_reachBy_49 : decode cX5_reachBy 49 = .ok (.iconst 0, 1) := dk_3 (dk_at dksX5_reachBy_2 3 rfl rfl)
theorem dX5_reachBy_50 : decode cX5_reachBy 50 = .ok (.iastore, 1) := dk_79 (dk_at dksX5_reachBy_2 4 rfl rfl)
theorem dX5_reachBy_51 : decode cX5_reachBy 51 = .ok (.iinc 2 1, 3) := dk_132 2 1 (dk_at dksX5_reachBy_2 5 rfl rfl)
theorem dX5_reachBy_54 : decode cX5_reachBy 54 = .ok (.goto (-40), 3) := dk_167 255 216 (dk_at dksX5_reachBy_2 8 rfl rfl)
theorem dX5_reachBy_57 : decode cX5_reachBy 57 = .ok (.aload_n 0, 1) := dk_42 (dk_at dksX5_reachBy_2 11 rfl rfl)
theorem dX5_reachBy_58 : decode cX5_reachBy 58 = .ok (.aload_n 0, 1) := dk_42 (dk_at dksX5_reachBy_2 12 rfl rfl)
theorem dX5_reachBy_59 : decode cX5_reachBy 59 = .ok (.getfield 33, 3) := dk_180 0 33 (dk_at dksX5_reachBy_2 13 rfl rfl)
theorem dX5_reachBy_62 : decode cX5_reachBy 62 = .ok (.aload_n 0, 1) := dk_42 (dk_at dksX5_reachBy_2 16 rfl rfl)
theorem dX5_reachBy_63 : decode cX5_reachBy 63 = .ok (.getfield 36, 3) := dk_180 0 36 (dk_at dksX5_reachBy_2 17 rfl rfl)
theorem dX5_reachBy_66 : decode cX5_reachBy 66 = .ok (.invokevirtual 223, 3) := dk_182 0 223 (dk_at dksX5_reachBy_2 20 rfl rfl)
theorem dX5_reachBy_69 : decode cX5_reachBy 69 = .ok (.iconst 0, 1) := dk_3 (dk_at dksX5_reachBy_2 23 rfl rfl)
theorem dX5_reachBy_70 : decode cX5_reachBy 70 = .ok (.istore_n 2, 1) := dk_61 (dk_at dksX5_reachBy_3 0 rfl rfl)
theorem dX5_reachBy_71 : decode cX5_reachBy 71 = .ok (.iload_n 2, 1) := dk_28 (dk_at dksX5_reachBy_3 1 rfl rfl)
theorem dX5_reachBy_72 : decode cX5_reachBy 72 = .ok (.aload_n 0, 1) := dk_42 (dk_at dksX5_reachBy_3 2 rfl rfl)
theorem dX5_reachBy_73 : decode cX5_reachBy 73 = .ok (.getfield 7, 3) := dk_180 0 7 (dk_at dksX5_reachBy_3 3 rfl rfl)
theorem dX5_reachBy_76 : decode cX5_reachBy 76 = .ok (.iconst 1, 1) := dk_4 (dk_at dksX5_reachBy_3 6 rfl rfl)
theorem dX5_reachBy_77 : decode cX5_reachBy 77 = .ok (.iaload, 1) := dk_46 (dk_at dksX5_reachBy_3 7 rfl rfl)
theorem dX5_reachBy_78 : decode cX5_reachBy 78 = .ok (.if_icmp .ge 21, 3) := dk_162 0 21 (dk_at dksX5_reachBy_3 8 rfl rfl)
theorem dX5_reachBy_81 : decode cX5_reachBy 81 = .ok (.aload_n 0, 1) := dk_42 (dk_at dksX5_reachBy_3 11 rfl rfl)
theorem dX5_reachBy_82 : decode cX5_reachBy 82 = .ok (.getfield 33, 3) := dk_180 0 33 (dk_at dksX5_reachBy_3 12 rfl rfl)
theorem dX5_reachBy_85 : decode cX5_reachBy 85 = .ok (.iload_n 2, 1) := dk_28 (dk_at dksX5_reachBy_3 15 rfl rfl)
theorem dX5_reachBy_86 : decode cX5_reachBy 86 = .ok (.aload_n 0, 1) := dk_42 (dk_at dksX5_reachBy_3 16 rfl rfl)
theorem dX5_reachBy_87 : decode cX5_reachBy 87 = .ok (.getfield 36, 3) := dk_180 0 36 (dk_at dksX5_reachBy_3 17 rfl rfl)
theorem dX5_reachBy_90 : decode cX5_reachBy 90 = .ok (.iload_n 2, 1) := dk_28 (dk_at dksX5_reachBy_3 20 rfl rfl)
theorem dX5_reachBy_91 : decode cX5_reachBy 91 = .ok (.iaload, 1) := dk_46 (dk_at dksX5_reachBy_3 21 rfl rfl)
theorem dX5_reachBy_92 : decode cX5_reachBy 92 = .ok (.iastore, 1) := dk_79 (dk_at dksX5_reachBy_3 22 rfl rfl)
theorem dX5_reachBy_93 : decode cX5_reachBy 93 = .ok (.iinc 2 1, 3) := dk_132 2 1 (dk_at dksX5_reachBy_4 0 rfl rfl)
theorem dX5_reachBy_96 : decode cX5_reachBy 96 = .ok (.goto (-25), 3) := dk_167 255 231 (dk_at dksX5_reachBy_4 3 rfl rfl)
theorem dX5_reachBy_99 : decode cX5_reachBy 99 = .ok (.iinc 1 1, 3) := dk_132 1 1 (dk_at dksX5_reachBy_4 6 rfl rfl)
theorem dX5_reachBy_102 : decode cX5_reachBy 102 = .ok (.goto (-100), 3) := dk_167 255 156 (dk_at dksX5_reachBy_4 9 rfl rfl)
theorem dX5_reachBy_105 : decode cX5_reachBy 105 = .ok (.aload_n 0, 1) := dk_42 (dk_at dksX5_reachBy_4 12 rfl rfl)
theorem dX5_reachBy_106 : decode cX5_reachBy 106 = .ok (.aload_n 0, 1) := dk_42 (dk_at dksX5_reachBy_4 13 rfl rfl)
theorem dX5_reachBy_107 : decode cX5_reachBy 107 = .ok (.getfield 7, 3) := dk_180 0 7 (dk_at dksX5_reachBy_4 14 rfl rfl)
theorem dX5_reachBy_110 : decode cX5_reachBy 110 = .ok (.iconst 1, 1) := dk_4 (dk_at dksX5_reachBy_4 17 rfl rfl)
theorem dX5_reachBy_111 : decode cX5_reachBy 111 = .ok (.iaload, 1) := dk_46 (dk_at dksX5_reachBy_4 18 rfl rfl)
theorem dX5_reachBy_112 : decode cX5_reachBy 112 = .ok (.aload_n 0, 1) := dk_42 (dk_at dksX5_reachBy_4 19 rfl rfl)
theorem dX5_reachBy_113 : decode cX5_reachBy 113 = .ok (.getfield 7, 3) := dk_180 0 7 (dk_at dksX5_reachBy_4 20 rfl rfl)
theorem dX5_reachBy_116 : decode cX5_reachBy 116 = .ok (.iconst 1, 1) := dk_4 (dk_at dksX5_reachBy_4 23 rfl rfl)
theorem dX5_reachBy_117 : decode cX5_reachBy 117 = .ok (.iaload, 1) := dk_46 (dk_at dksX5_reachBy_5 0 rfl rfl)
theorem dX5_reachBy_118 : decode cX5_reachBy 118 = .ok (.invokevirtual 295, 3) := dk_182 1 39 (dk_at dksX5_reachBy_5 1 rfl rfl)
theorem dX5_reachBy_121 : decode cX5_reachBy 121 = .ok (.ireturn, 1) := dk_172 (dk_at dksX5_reachBy_5 4 rfl rfl)
abbrev cX5_reachOf : ByteArray := prog_12_method_96_code
def yX5_reachOf : MethodName := ⟨RX5, "reachOf", "(I)I"⟩
def dkwX5_reachOf_1 : List UInt8 := [3, 172, 42, 27, 42, 180, 0, 33, 182, 0, 234, 42, 182, 1, 48, 172]
abbrev dktX5_reachOf_1 : List UInt8 := dkwX5_reachOf_1 ++ []
def dkwX5_reachOf_0 : List UInt8 := [42, 42, 27, 182, 0, 181, 153, 0, 7, 3, 167, 0, 4, 4, 181, 0, 65, 42, 180, 0, 65, 158, 0, 5]
abbrev dktX5_reachOf_0 : List UInt8 := dkwX5_reachOf_0 ++ dktX5_reachOf_1
theorem dksX5_reachOf_0 : cX5_reachOf.data.toList.drop 0 = dktX5_reachOf_0 := by decide +kernel
theorem dksX5_reachOf_1 : cX5_reachOf.data.toList.drop 24 = dktX5_reachOf_1 := dk_seg dksX5_reachOf_0 24 rfl rfl
theorem dX5_reachOf_0 : decode cX5_reachOf 0 = .ok (.aload_n 0, 1) := dk_42 (dk_at dksX5_reachOf_0 0 rfl rfl)
theorem dX5_reachOf_1 : decode cX5_reachOf 1 = .ok (.aload_n 0, 1) := dk_42 (dk_at dksX5_reachOf_0 1 rfl rfl)
theorem dX5_reachOf_2 : decode cX5_reachOf 2 = .ok (.iload_n 1, 1) := dk_27 (dk_at dksX5_reachOf_0 2 rfl rfl)
theorem dX5_reachOf_3 : decode cX5_reachOf 3 = .ok (.invokevirtual 181, 3) := dk_182 0 181 (dk_at dksX5_reachOf_0 3 rfl rfl)
theorem dX5_reachOf_6 : decode cX5_reachOf 6 = .ok (.ifCond .eq 7, 3) := dk_153 0 7 (dk_at dksX5_reachOf_0 6 rfl rfl)
theorem dX5_reachOf_9 : decode cX5_reachOf 9 = .ok (.iconst 0, 1) := dk_3 (dk_at dksX5_reachOf_0 9 rfl rfl)
theorem dX5_reachOf_10 : decode cX5_reachOf 10 = .ok (.goto 4, 3) := dk_167 0 4 (dk_at dksX5_reachOf_0 10 rfl rfl)
theorem dX5_reachOf_13 : decode cX5_reachOf 13 = .ok (.iconst 1, 1) := dk_4 (dk_at dksX5_reachOf_0 13 rfl rfl)
theorem dX5_reachOf_14 : decode cX5_reachOf 14 = .ok (.putfield 65, 3) := dk_181 0 65 (dk_at dksX5_reachOf_0 14 rfl rfl)
theorem dX5_reachOf_17 : decode cX5_reachOf 17 = .ok (.aload_n 0, 1) := dk_42 (dk_at dksX5_reachOf_0 17 rfl rfl)
theorem dX5_reachOf_18 : decode cX5_reachOf 18 = .ok (.getfield 65, 3) := dk_180 0 65 (dk_at dksX5_reachOf_0 18 rfl rfl)
theorem dX5_reachOf_21 : decode cX5_reachOf 21 = .ok (.ifCond .le 5, 3) := dk_158 0 5 (dk_at dksX5_reachOf_0 21 rfl rfl)
theorem dX5_reachOf_24 : decode cX5_reachOf 24 = .ok (.iconst 0, 1) := dk_3 (dk_at dksX5_reachOf_1 0 rfl rfl)
theorem dX5_reachOf_25 : decode cX5_reachOf 25 = .ok (.ireturn, 1) := dk_172 (dk_at dksX5_reachOf_1 1 rfl rfl)
theorem dX5_reachOf_26 : decode cX5_reachOf 26 = .ok (.aload_n 0, 1) := dk_42 (dk_at dksX5_reachOf_1 2 rfl rfl)
theorem dX5_reachOf_27 : decode cX5_reachOf 27 = .ok (.iload_n 1, 1) := dk_27 (dk_at dksX5_reachOf_1 3 rfl rfl)
theorem dX5_reachOf_28 : decode cX5_reachOf 28 = .ok (.aload_n 0, 1) := dk_42 (dk_at dksX5_reachOf_1 4 rfl rfl)
theorem dX5_reachOf_29 : decode cX5_reachOf 29 = .ok (.getfield 33, 3) := dk_180 0 33 (dk_at dksX5_reachOf_1 5 rfl rfl)
theorem dX5_reachOf_32 : decode cX5_reachOf 32 = .ok (.invokevirtual 234, 3) := dk_182 0 234 (dk_at dksX5_reachOf_1 8 rfl rfl)
theorem dX5_reachOf_35 : decode cX5_reachOf 35 = .ok (.aload_n 0, 1) := dk_42 (dk_at dksX5_reachOf_1 11 rfl rfl)
theorem dX5_reachOf_36 : decode cX5_reachOf 36 = .ok (.invokevirtual 304, 3) := dk_182 1 48 (dk_at dksX5_reachOf_1 12 rfl rfl)
theorem dX5_reachOf_39 : decode cX5_reachOf 39 = .ok (.ireturn, 1) := dk_172 (dk_at dksX5_reachOf_1 15 rfl rfl)
abbrev cX5_solution : ByteArray := prog_12_method_99_code
def yX5_solution : MethodName := ⟨RX5, "solution", "(I)I"⟩
def dkwX5_solution_4 : List UInt8 := [182, 0, 199, 172]
abbrev dktX5_solution_4 : List UInt8 := dkwX5_solution_4 ++ []
def dkwX5_solution_3 : List UInt8 := [21, 4, 104, 28, 96, 46, 42, 21, 4, 27, 182, 0, 196, 104, 96, 62, 132, 4, 1, 167, 255, 224, 42, 29]
abbrev dktX5_solution_3 : List UInt8 := dkwX5_solution_3 ++ dktX5_solution_4
def dkwX5_solution_2 : List UInt8 := [42, 3, 182, 0, 231, 61, 3, 62, 3, 54, 4, 21, 4, 28, 162, 0, 32, 29, 42, 180, 0, 51, 16, 9]
abbrev dktX5_solution_2 : List UInt8 := dkwX5_solution_2 ++ dktX5_solution_3
def dkwX5_solution_1 : List UInt8 := [42, 182, 1, 54, 153, 0, 7, 3, 167, 0, 4, 6, 181, 0, 65, 42, 180, 0, 65, 158, 0, 5, 3, 172]
abbrev dktX5_solution_1 : List UInt8 := dkwX5_solution_1 ++ dktX5_solution_2
def dkwX5_solution_0 : List UInt8 := [42, 42, 27, 182, 0, 181, 154, 0, 7, 4, 167, 0, 26, 42, 182, 1, 51, 154, 0, 7, 5, 167, 0, 15]
abbrev dktX5_solution_0 : List UInt8 := dkwX5_solution_0 ++ dktX5_solution_1
theorem dksX5_solution_0 : cX5_solution.data.toList.drop 0 = dktX5_solution_0 := by decide +kernel
theorem dksX5_solution_1 : cX5_solution.data.toList.drop 24 = dktX5_solution_1 := dk_seg dksX5_solution_0 24 rfl rfl
theorem dksX5_solution_2 : cX5_solution.data.toList.drop 48 = dktX5_solution_2 := dk_seg dksX5_solution_1 24 rfl rfl
theorem dksX5_solution_3 : cX5_solution.data.toList.drop 72 = dktX5_solution_3 := dk_seg dksX5_solution_2 24 rfl rfl
theorem dksX5_solution_4 : cX5_solution.data.toList.drop 96 = dktX5_solution_4 := dk_seg dksX5_solution_3 24 rfl rfl
theorem dX5_solution_0 : decode cX5_solution 0 = .ok (.aload_n 0, 1) := dk_42 (dk_at dksX5_solution_0 0 rfl rfl)
theorem dX5_solution_1 : decode cX5_solution 1 = .ok (.aload_n 0, 1) := dk_42 (dk_at dksX5_solution_0 1 rfl rfl)
theorem dX5_solution_2 : decode cX5_solution 2 = .ok (.iload_n 1, 1) := dk_27 (dk_at dksX5_solution_0 2 rfl rfl)
theorem dX5_solution_3 : decode cX5_solution 3 = .ok (.invokevirtual 181, 3) := dk_182 0 181 (dk_at dksX5_solution_0 3 rfl rfl)
theorem dX5_solution_6 : decode cX5_solution 6 = .ok (.ifCond .ne 7, 3) := dk_154 0 7 (dk_at dksX5_solution_0 6 rfl rfl)
theorem dX5_solution_9 : decode cX5_solution 9 = .ok (.iconst 1, 1) := dk_4 (dk_at dksX5_solution_0 9 rfl rfl)
theorem dX5_solution_10 : decode cX5_solution 10 = .ok (.goto 26, 3) := dk_167 0 26 (dk_at dksX5_solution_0 10 rfl rfl)
theorem dX5_solution_13 : decode cX5_solution 13 = .ok (.aload_n 0, 1) := dk_42 (dk_at dksX5_solution_0 13 rfl rfl)
theorem dX5_solution_14 : decode cX5_solution 14 = .ok (.invokevirtual 307, 3) := dk_182 1 51 (dk_at dksX5_solution_0 14 rfl rfl)
theorem dX5_solution_17 : decode cX5_solution 17 = .ok (.ifCond .ne 7, 3) := dk_154 0 7 (dk_at dksX5_solution_0 17 rfl rfl)
theorem dX5_solution_20 : decode cX5_solution 20 = .ok (.iconst 2, 1) := dk_5 (dk_at dksX5_solution_0 20 rfl rfl)
theorem dX5_solution_21 : decode cX5_solution 21 = .ok (.goto 15, 3) := dk_167 0 15 (dk_at dksX5_solution_0 21 rfl rfl)
theorem dX5_solution_24 : decode cX5_solution 24 = .ok (.aload_n 0, 1) := dk_42 (dk_at dksX5_solution_1 0 rfl rfl)
theorem dX5_solution_25 : decode cX5_solution 25 = .ok (.invokevirtual 310, 3) := dk_182 1 54 (dk_at dksX5_solution_1 1 rfl rfl)
theorem dX5_solution_28 : decode cX5_solution 28 = .ok (.ifCond .eq 7, 3) := dk_153 0 7 (dk_at dksX5_solution_1 4 rfl rfl)
theorem dX5_solution_31 : decode cX5_solution 31 = .ok (.iconst 0, 1) := dk_3 (dk_at dksX5_solution_1 7 rfl rfl)
theorem dX5_solution_32 : decode cX5_solution 32 = .ok (.goto 4, 3) := dk_167 0 4 (dk_at dksX5_solution_1 8 rfl rfl)
theorem dX5_solution_35 : decode cX5_solution 35 = .ok (.iconst 3, 1) := dk_6 (dk_at dksX5_solution_1 11 rfl rfl)
theorem dX5_solution_36 : decode cX5_solution 36 = .ok (.putfield 65, 3) := dk_181 0 65 (dk_at dksX5_solution_1 12 rfl rfl)
theorem dX5_solution_39 : decode cX5_solution 39 = .ok (.aload_n 0, 1) := dk_42 (dk_at dksX5_solution_1 15 rfl rfl)
theorem dX5_solution_40 : decode cX5_solution 40 = .ok (.getfield 65, 3) := dk_180 0 65 (dk_at dksX5_solution_1 16 rfl rfl)
theorem dX5_solution_43 : decode cX5_solution 43 = .ok (.ifCond .le 5, 3) := dk_158 0 5 (dk_at dksX5_solution_1 19 rfl rfl)
theorem dX5_solution_46 : decode cX5_solution 46 = .ok (.iconst 0, 1) := dk_3 (dk_at dksX5_solution_1 22 rfl rfl)
theorem dX5_solution_47 : decode cX5_solution 47 = .ok (.ireturn, 1) := dk_172 (dk_at dksX5_solution_1 23 rfl rfl)
theorem dX5_solution_48 : decode cX5_solution 48 = .ok (.aload_n 0, 1) := dk_42 (dk_at dksX5_solution_2 0 rfl rfl)
theorem dX5_solution_49 : decode cX5_solution 49 = .ok (.iconst 0, 1) := dk_3 (dk_at dksX5_solution_2 1 rfl rfl)
theorem dX5_solution_50 : decode cX5_solution 50 = .ok (.invokevirtual 231, 3) := dk_182 0 231 (dk_at dksX5_solution_2 2 rfl rfl)
theorem dX5_solution_53 : decode cX5_solution 53 = .ok (.istore_n 2, 1) := dk_61 (dk_at dksX5_solution_2 5 rfl rfl)
theorem dX5_solution_54 : decode cX5_solution 54 = .ok (.iconst 0, 1) := dk_3 (dk_at dksX5_solution_2 6 rfl rfl)
theorem dX5_solution_55 : decode cX5_solution 55 = .ok (.istore_n 3, 1) := dk_62 (dk_at dksX5_solution_2 7 rfl rfl)
theorem dX5_solution_56 : decode cX5_solution 56 = .ok (.iconst 0, 1) := dk_3 (dk_at dksX5_solution_2 8 rfl rfl)
theorem dX5_solution_57 : decode cX5_solution 57 = .ok (.istore 4, 2) := dk_54 4 (dk_at dksX5_solution_2 9 rfl rfl)
theorem dX5_solution_59 : decode cX5_solution 59 = .ok (.iload 4, 2) := dk_21 4 (dk_at dksX5_solution_2 11 rfl rfl)
theorem dX5_solution_61 : decode cX5_solution 61 = .ok (.iload_n 2, 1) := dk_28 (dk_at dksX5_solution_2 13 rfl rfl)
theorem dX5_solution_62 : decode cX5_solution 62 = .ok (.if_icmp .ge 32, 3) := dk_162 0 32 (dk_at dksX5_solution_2 14 rfl rfl)
theorem dX5_solution_65 : decode cX5_solution 65 = .ok (.iload_n 3, 1) := dk_29 (dk_at dksX5_solution_2 17 rfl rfl)
theorem dX5_solution_66 : decode cX5_solution 66 = .ok (.aload_n 0, 1) := dk_42 (dk_at dksX5_solution_2 18 rfl rfl)
theorem dX5_solution_67 : decode cX5_solution 67 = .ok (.getfield 51, 3) := dk_180 0 51 (dk_at dksX5_solution_2 19 rfl rfl)
theorem dX5_solution_70 : decode cX5_solution 70 = .ok (.bipush 9, 2) := dk_16 9 (dk_at dksX5_solution_2 22 rfl rfl)
theorem dX5_solution_72 : decode cX5_solution 72 = .ok (.iload 4, 2) := dk_21 4 (dk_at dksX5_solution_3 0 rfl rfl)
theorem dX5_solution_74 : decode cX5_solution 74 = .ok (.imul, 1) := dk_104 (dk_at dksX5_solution_3 2 rfl rfl)
theorem dX5_solution_75 : decode cX5_solution 75 = .ok (.iload_n 2, 1) := dk_28 (dk_at dksX5_solution_3 3 rfl rfl)
theorem dX5_solution_76 : decode cX5_solution 76 = .ok (.iadd, 1) := dk_96 (dk_at dksX5_solution_3 4 rfl rfl)
theorem dX5_solution_77 : decode cX5_solution 77 = .ok (.iaload, 1) := dk_46 (dk_at dksX5_solution_3 5 rfl rfl)
theorem dX5_solution_78 : decode cX5_solution 78 = .ok (.aload_n 0, 1) := dk_42 (dk_at dksX5_solution_3 6 rfl rfl)
theorem dX5_solution_79 : decode cX5_solution 79 = .ok (.iload 4, 2) := dk_21 4 (dk_at dksX5_solution_3 7 rfl rfl)
theorem dX5_solution_81 : decode cX5_solution 81 = .ok (.iload_n 1, 1) := dk_27 (dk_at dksX5_solution_3 9 rfl rfl)
theorem dX5_solution_82 : decode cX5_solution 82 = .ok (.invokevirtual 196, 3) := dk_182 0 196 (dk_at dksX5_solution_3 10 rfl rfl)
theorem dX5_solution_85 : decode cX5_solution 85 = .ok (.imul, 1) := dk_104 (dk_at dksX5_solution_3 13 rfl rfl)
theorem dX5_solution_86 : decode cX5_solution 86 = .ok (.iadd, 1) := dk_96 (dk_at dksX5_solution_3 14 rfl rfl)
theorem dX5_solution_87 : decode cX5_solution 87 = .ok (.istore_n 3, 1) := dk_62 (dk_at dksX5_solution_3 15 rfl rfl)
theorem dX5_solution_88 : decode cX5_solution 88 = .ok (.iinc 4 1, 3) := dk_132 4 1 (dk_at dksX5_solution_3 16 rfl rfl)
theorem dX5_solution_91 : decode cX5_solution 91 = .ok (.goto (-32), 3) := dk_167 255 224 (dk_at dksX5_solution_3 19 rfl rfl)
theorem dX5_solution_94 : decode cX5_solution 94 = .ok (.aload_n 0, 1) := dk_42 (dk_at dksX5_solution_3 22 rfl rfl)
theorem dX5_solution_95 : decode cX5_solution 95 = .ok (.iload_n 3, 1) := dk_29 (dk_at dksX5_solution_3 23 rfl rfl)
theorem dX5_solution_96 : decode cX5_solution 96 = .ok (.invokevirtual 199, 3) := dk_182 0 199 (dk_at dksX5_solution_4 0 rfl rfl)
theorem dX5_solution_99 : decode cX5_solution 99 = .ok (.ireturn, 1) := dk_172 (dk_at dksX5_solution_4 3 rfl rfl)
abbrev cX5_isClosed : ByteArray := prog_12_method_97_code
def yX5_isClosed : MethodName := ⟨RX5, "isClosed", "()Z"⟩
def dkwX5_isClosed_1 : List UInt8 := [167, 0, 4, 3, 172]
abbrev dktX5_isClosed_1 : List UInt8 := dkwX5_isClosed_1 ++ []
def dkwX5_isClosed_0 : List UInt8 := [42, 180, 0, 7, 16, 6, 46, 158, 0, 18, 42, 180, 0, 7, 16, 89, 46, 4, 160, 0, 7, 4]
abbrev dktX5_isClosed_0 : List UInt8 := dkwX5_isClosed_0 ++ dktX5_isClosed_1
theorem dksX5_isClosed_0 : cX5_isClosed.data.toList.drop 0 = dktX5_isClosed_0 := by decide +kernel
theorem dksX5_isClosed_1 : cX5_isClosed.data.toList.drop 22 = dktX5_isClosed_1 := dk_seg dksX5_isClosed_0 22 rfl rfl
theorem dX5_isClosed_0 : decode cX5_isClosed 0 = .ok (.aload_n 0, 1) := dk_42 (dk_at dksX5_isClosed_0 0 rfl rfl)
theorem dX5_isClosed_1 : decode cX5_isClosed 1 = .ok (.getfield 7, 3) := dk_180 0 7 (dk_at dksX5_isClosed_0 1 rfl rfl)
theorem dX5_isClosed_4 : decode cX5_isClosed 4 = .ok (.bipush 6, 2) := dk_16 6 (dk_at dksX5_isClosed_0 4 rfl rfl)
theorem dX5_isClosed_6 : decode cX5_isClosed 6 = .ok (.iaload, 1) := dk_46 (dk_at dksX5_isClosed_0 6 rfl rfl)
theorem dX5_isClosed_7 : decode cX5_isClosed 7 = .ok (.ifCond .le 18, 3) := dk_158 0 18 (dk_at dksX5_isClosed_0 7 rfl rfl)
theorem dX5_isClosed_10 : decode cX5_isClosed 10 = .ok (.aload_n 0, 1) := dk_42 (dk_at dksX5_isClosed_0 10 rfl rfl)
theorem dX5_isClosed_11 : decode cX5_isClosed 11 = .ok (.getfield 7, 3) := dk_180 0 7 (dk_at dksX5_isClosed_0 11 rfl rfl)
theorem dX5_isClosed_14 : decode cX5_isClosed 14 = .ok (.bipush 89, 2) := dk_16 89 (dk_at dksX5_isClosed_0 14 rfl rfl)
theorem dX5_isClosed_16 : decode cX5_isClosed 16 = .ok (.iaload, 1) := dk_46 (dk_at dksX5_isClosed_0 16 rfl rfl)
theorem dX5_isClosed_17 : decode cX5_isClosed 17 = .ok (.iconst 1, 1) := dk_4 (dk_at dksX5_isClosed_0 17 rfl rfl)
theorem dX5_isClosed_18 : decode cX5_isClosed 18 = .ok (.if_icmp .ne 7, 3) := dk_160 0 7 (dk_at dksX5_isClosed_0 18 rfl rfl)
theorem dX5_isClosed_21 : decode cX5_isClosed 21 = .ok (.iconst 1, 1) := dk_4 (dk_at dksX5_isClosed_0 21 rfl rfl)
theorem dX5_isClosed_22 : decode cX5_isClosed 22 = .ok (.goto 4, 3) := dk_167 0 4 (dk_at dksX5_isClosed_1 0 rfl rfl)
theorem dX5_isClosed_25 : decode cX5_isClosed 25 = .ok (.iconst 0, 1) := dk_3 (dk_at dksX5_isClosed_1 3 rfl rfl)
theorem dX5_isClosed_26 : decode cX5_isClosed 26 = .ok (.ireturn, 1) := dk_172 (dk_at dksX5_isClosed_1 4 rfl rfl)
abbrev cX5_solves : ByteArray := prog_12_method_98_code
def yX5_solves : MethodName := ⟨RX5, "solves", "()Z"⟩
def dkwX5_solves_1 : List UInt8 := [180, 1, 26, 153, 0, 7, 4, 167, 0, 4, 3, 172]
abbrev dktX5_solves_1 : List UInt8 := dkwX5_solves_1 ++ []
def dkwX5_solves_0 : List UInt8 := [42, 3, 182, 0, 231, 60, 42, 27, 182, 1, 42, 42, 42, 27, 27, 182, 1, 39, 181, 1, 2, 42]
abbrev dktX5_solves_0 : List UInt8 := dkwX5_solves_0 ++ dktX5_solves_1
theorem dksX5_solves_0 : cX5_solves.data.toList.drop 0 = dktX5_solves_0 := by decide +kernel
theorem dksX5_solves_1 : cX5_solves.data.toList.drop 22 = dktX5_solves_1 := dk_seg dksX5_solves_0 22 rfl rfl
theorem dX5_solves_0 : decode cX5_solves 0 = .ok (.aload_n 0, 1) := dk_42 (dk_at dksX5_solves_0 0 rfl rfl)
theorem dX5_solves_1 : decode cX5_solves 1 = .ok (.iconst 0, 1) := dk_3 (dk_at dksX5_solves_0 1 rfl rfl)
theorem dX5_solves_2 : decode cX5_solves 2 = .ok (.invokevirtual 231, 3) := dk_182 0 231 (dk_at dksX5_solves_0 2 rfl rfl)
theorem dX5_solves_5 : decode cX5_solves 5 = .ok (.istore_n 1, 1) := dk_60 (dk_at dksX5_solves_0 5 rfl rfl)
theorem dX5_solves_6 : decode cX5_solves 6 = .ok (.aload_n 0, 1) := dk_42 (dk_at dksX5_solves_0 6 rfl rfl)
theorem dX5_solves_7 : decode cX5_solves 7 = .ok (.iload_n 1, 1) := dk_27 (dk_at dksX5_solves_0 7 rfl rfl)
theorem dX5_solves_8 : decode cX5_solves 8 = .ok (.invokevirtual 298, 3) := dk_182 1 42 (dk_at dksX5_solves_0 8 rfl rfl)
theorem dX5_solves_11 : decode cX5_solves 11 = .ok (.aload_n 0, 1) := dk_42 (dk_at dksX5_solves_0 11 rfl rfl)
theorem dX5_solves_12 : decode cX5_solves 12 = .ok (.aload_n 0, 1) := dk_42 (dk_at dksX5_solves_0 12 rfl rfl)
theorem dX5_solves_13 : decode cX5_solves 13 = .ok (.iload_n 1, 1) := dk_27 (dk_at dksX5_solves_0 13 rfl rfl)
theorem dX5_solves_14 : decode cX5_solves 14 = .ok (.iload_n 1, 1) := dk_27 (dk_at dksX5_solves_0 14 rfl rfl)
theorem dX5_solves_15 : decode cX5_solves 15 = .ok (.invokevirtual 295, 3) := dk_182 1 39 (dk_at dksX5_solves_0 15 rfl rfl)
theorem dX5_solves_18 : decode cX5_solves 18 = .ok (.putfield 258, 3) := dk_181 1 2 (dk_at dksX5_solves_0 18 rfl rfl)
theorem dX5_solves_21 : decode cX5_solves 21 = .ok (.aload_n 0, 1) := dk_42 (dk_at dksX5_solves_0 21 rfl rfl)
theorem dX5_solves_22 : decode cX5_solves 22 = .ok (.getfield 282, 3) := dk_180 1 26 (dk_at dksX5_solves_1 0 rfl rfl)
theorem dX5_solves_25 : decode cX5_solves 25 = .ok (.ifCond .eq 7, 3) := dk_153 0 7 (dk_at dksX5_solves_1 3 rfl rfl)
theorem dX5_solves_28 : decode cX5_solves 28 = .ok (.iconst 1, 1) := dk_4 (dk_at dksX5_solves_1 6 rfl rfl)
theorem dX5_solves_29 : decode cX5_solves 29 = .ok (.goto 4, 3) := dk_167 0 4 (dk_at dksX5_solves_1 7 rfl rfl)
theorem dX5_solves_32 : decode cX5_solves 32 = .ok (.iconst 0, 1) := dk_3 (dk_at dksX5_solves_1 10 rfl rfl)
theorem dX5_solves_33 : decode cX5_solves 33 = .ok (.ireturn, 1) := dk_172 (dk_at dksX5_solves_1 11 rfl rfl)
abbrev cX5_remainder : ByteArray := prog_12_method_100_code
def yX5_remainder : MethodName := ⟨RX5, "remainder", "(II)I"⟩
def dkwX5_remainder_2 : List UInt8 := [180, 0, 33, 182, 0, 227, 42, 180, 0, 39, 28, 46, 172]
abbrev dktX5_remainder_2 : List UInt8 := dkwX5_remainder_2 ++ []
def dkwX5_remainder_1 : List UInt8 := [181, 0, 65, 42, 180, 0, 65, 158, 0, 5, 3, 172, 42, 27, 42, 180, 0, 33, 182, 0, 234, 42, 42]
abbrev dktX5_remainder_1 : List UInt8 := dkwX5_remainder_1 ++ dktX5_remainder_2
def dkwX5_remainder_0 : List UInt8 := [42, 42, 27, 182, 0, 181, 153, 0, 15, 42, 28, 182, 0, 181, 153, 0, 7, 3, 167, 0, 4, 4]
abbrev dktX5_remainder_0 : List UInt8 := dkwX5_remainder_0 ++ dktX5_remainder_1
theorem dksX5_remainder_0 : cX5_remainder.data.toList.drop 0 = dktX5_remainder_0 := by decide +kernel
theorem dksX5_remainder_1 : cX5_remainder.data.toList.drop 22 = dktX5_remainder_1 := dk_seg dksX5_remainder_0 22 rfl rfl
theorem dksX5_remainder_2 : cX5_remainder.data.toList.drop 45 = dktX5_remainder_2 := dk_seg dksX5_remainder_1 23 rfl rfl
theorem dX5_remainder_0 : decode cX5_remainder 0 = .ok (.aload_n 0, 1) := dk_42 (dk_at dksX5_remainder_0 0 rfl rfl)
theorem dX5_remainder_1 : decode cX5_remainder 1 = .ok (.aload_n 0, 1) := dk_42 (dk_at dksX5_remainder_0 1 rfl rfl)
theorem dX5_remainder_2 : decode cX5_remainder 2 = .ok (.iload_n 1, 1) := dk_27 (dk_at dksX5_remainder_0 2 rfl rfl)
theorem dX5_remainder_3 : decode cX5_remainder 3 = .ok (.invokevirtual 181, 3) := dk_182 0 181 (dk_at dksX5_remainder_0 3 rfl rfl)
theorem dX5_remainder_6 : decode cX5_remainder 6 = .ok (.ifCond .eq 15, 3) := dk_153 0 15 (dk_at dksX5_remainder_0 6 rfl rfl)
theorem dX5_remainder_9 : decode cX5_remainder 9 = .ok (.aload_n 0, 1) := dk_42 (dk_at dksX5_remainder_0 9 rfl rfl)
theorem dX5_remainder_10 : decode cX5_remainder 10 = .ok (.iload_n 2, 1) := dk_28 (dk_at dksX5_remainder_0 10 rfl rfl)
theorem dX5_remainder_11 : decode cX5_remainder 11 = .ok (.invokevirtual 181, 3) := dk_182 0 181 (dk_at dksX5_remainder_0 11 rfl rfl)
theorem dX5_remainder_14 : decode cX5_remainder 14 = .ok (.ifCond .eq 7, 3) := dk_153 0 7 (dk_at dksX5_remainder_0 14 rfl rfl)
theorem dX5_remainder_17 : decode cX5_remainder 17 = .ok (.iconst 0, 1) := dk_3 (dk_at dksX5_remainder_0 17 rfl rfl)
theorem dX5_remainder_18 : decode cX5_remainder 18 = .ok (.goto 4, 3) := dk_167 0 4 (dk_at dksX5_remainder_0 18 rfl rfl)
theorem dX5_remainder_21 : decode cX5_remainder 21 = .ok (.iconst 1, 1) := dk_4 (dk_at dksX5_remainder_0 21 rfl rfl)
theorem dX5_remainder_22 : decode cX5_remainder 22 = .ok (.putfield 65, 3) := dk_181 0 65 (dk_at dksX5_remainder_1 0 rfl rfl)
theorem dX5_remainder_25 : decode cX5_remainder 25 = .ok (.aload_n 0, 1) := dk_42 (dk_at dksX5_remainder_1 3 rfl rfl)
theorem dX5_remainder_26 : decode cX5_remainder 26 = .ok (.getfield 65, 3) := dk_180 0 65 (dk_at dksX5_remainder_1 4 rfl rfl)
theorem dX5_remainder_29 : decode cX5_remainder 29 = .ok (.ifCond .le 5, 3) := dk_158 0 5 (dk_at dksX5_remainder_1 7 rfl rfl)
theorem dX5_remainder_32 : decode cX5_remainder 32 = .ok (.iconst 0, 1) := dk_3 (dk_at dksX5_remainder_1 10 rfl rfl)
theorem dX5_remainder_33 : decode cX5_remainder 33 = .ok (.ireturn, 1) := dk_172 (dk_at dksX5_remainder_1 11 rfl rfl)
theorem dX5_remainder_34 : decode cX5_remainder 34 = .ok (.aload_n 0, 1) := dk_42 (dk_at dksX5_remainder_1 12 rfl rfl)
theorem dX5_remainder_35 : decode cX5_remainder 35 = .ok (.iload_n 1, 1) := dk_27 (dk_at dksX5_remainder_1 13 rfl rfl)
theorem dX5_remainder_36 : decode cX5_remainder 36 = .ok (.aload_n 0, 1) := dk_42 (dk_at dksX5_remainder_1 14 rfl rfl)
theorem dX5_remainder_37 : decode cX5_remainder 37 = .ok (.getfield 33, 3) := dk_180 0 33 (dk_at dksX5_remainder_1 15 rfl rfl)
theorem dX5_remainder_40 : decode cX5_remainder 40 = .ok (.invokevirtual 234, 3) := dk_182 0 234 (dk_at dksX5_remainder_1 18 rfl rfl)
theorem dX5_remainder_43 : decode cX5_remainder 43 = .ok (.aload_n 0, 1) := dk_42 (dk_at dksX5_remainder_1 21 rfl rfl)
theorem dX5_remainder_44 : decode cX5_remainder 44 = .ok (.aload_n 0, 1) := dk_42 (dk_at dksX5_remainder_1 22 rfl rfl)
theorem dX5_remainder_45 : decode cX5_remainder 45 = .ok (.getfield 33, 3) := dk_180 0 33 (dk_at dksX5_remainder_2 0 rfl rfl)
theorem dX5_remainder_48 : decode cX5_remainder 48 = .ok (.invokevirtual 227, 3) := dk_182 0 227 (dk_at dksX5_remainder_2 3 rfl rfl)
theorem dX5_remainder_51 : decode cX5_remainder 51 = .ok (.aload_n 0, 1) := dk_42 (dk_at dksX5_remainder_2 6 rfl rfl)
theorem dX5_remainder_52 : decode cX5_remainder 52 = .ok (.getfield 39, 3) := dk_180 0 39 (dk_at dksX5_remainder_2 7 rfl rfl)
theorem dX5_remainder_55 : decode cX5_remainder 55 = .ok (.iload_n 2, 1) := dk_28 (dk_at dksX5_remainder_2 10 rfl rfl)
theorem dX5_remainder_56 : decode cX5_remainder 56 = .ok (.iaload, 1) := dk_46 (dk_at dksX5_remainder_2 11 rfl rfl)
theorem dX5_remainder_57 : decode cX5_remainder 57 = .ok (.ireturn, 1) := dk_172 (dk_at dksX5_remainder_2 12 rfl rfl)
abbrev cX5_writeChains : ByteArray := prog_12_method_103_code
def yX5_writeChains : MethodName := ⟨RX5, "writeChains", "()I"⟩
def dkwX5_writeChains_3 : List UInt8 := [16, 7, 46, 158, 0, 9, 42, 16, 33, 182, 1, 60, 42, 180, 1, 57, 172]
abbrev dktX5_writeChains_3 : List UInt8 := dkwX5_writeChains_3 ++ []
def dkwX5_writeChains_2 : List UInt8 := [180, 0, 7, 16, 89, 27, 96, 46, 184, 1, 63, 182, 1, 60, 132, 1, 1, 167, 255, 204, 42, 180, 0, 7]
abbrev dktX5_writeChains_2 : List UInt8 := dkwX5_writeChains_2 ++ dktX5_writeChains_3
def dkwX5_writeChains_1 : List UInt8 := [158, 0, 9, 42, 16, 32, 182, 1, 60, 42, 16, 48, 42, 27, 182, 0, 231, 96, 182, 1, 60, 42, 42]
abbrev dktX5_writeChains_1 : List UInt8 := dkwX5_writeChains_1 ++ dktX5_writeChains_2
def dkwX5_writeChains_0 : List UInt8 := [42, 3, 181, 0, 65, 42, 3, 181, 1, 57, 3, 60, 27, 42, 180, 0, 7, 16, 6, 46, 162, 0, 47, 27]
abbrev dktX5_writeChains_0 : List UInt8 := dkwX5_writeChains_0 ++ dktX5_writeChains_1
theorem dksX5_writeChains_0 : cX5_writeChains.data.toList.drop 0 = dktX5_writeChains_0 := by decide +kernel
theorem dksX5_writeChains_1 : cX5_writeChains.data.toList.drop 24 = dktX5_writeChains_1 := dk_seg dksX5_writeChains_0 24 rfl rfl
theorem dksX5_writeChains_2 : cX5_writeChains.data.toList.drop 47 = dktX5_writeChains_2 := dk_seg dksX5_writeChains_1 23 rfl rfl
theorem dksX5_writeChains_3 : cX5_writeChains.data.toList.drop 71 = dktX5_writeChains_3 := dk_seg dksX5_writeChains_2 24 rfl rfl
theorem dX5_writeChains_0 : decode cX5_writeChains 0 = .ok (.aload_n 0, 1) := dk_42 (dk_at dksX5_writeChains_0 0 rfl rfl)
theorem dX5_writeChains_1 : decode cX5_writeChains 1 = .ok (.iconst 0, 1) := dk_3 (dk_at dksX5_writeChains_0 1 rfl rfl)
theorem dX5_writeChains_2 : decode cX5_writeChains 2 = .ok (.putfield 65, 3) := dk_181 0 65 (dk_at dksX5_writeChains_0 2 rfl rfl)
theorem dX5_writeChains_5 : decode cX5_writeChains 5 = .ok (.aload_n 0, 1) := dk_42 (dk_at dksX5_writeChains_0 5 rfl rfl)
theorem dX5_writeChains_6 : decode cX5_writeChains 6 = .ok (.iconst 0, 1) := dk_3 (dk_at dksX5_writeChains_0 6 rfl rfl)
theorem dX5_writeChains_7 : decode cX5_writeChains 7 = .ok (.putfield 313, 3) := dk_181 1 57 (dk_at dksX5_writeChains_0 7 rfl rfl)
theorem dX5_writeChains_10 : decode cX5_writeChains 10 = .ok (.iconst 0, 1) := dk_3 (dk_at dksX5_writeChains_0 10 rfl rfl)
theorem dX5_writeChains_11 : decode cX5_writeChains 11 = .ok (.istore_n 1, 1) := dk_60 (dk_at dksX5_writeChains_0 11 rfl rfl)
theorem dX5_writeChains_12 : decode cX5_writeChains 12 = .ok (.iload_n 1, 1) := dk_27 (dk_at dksX5_writeChains_0 12 rfl rfl)
theorem dX5_writeChains_13 : decode cX5_writeChains 13 = .ok (.aload_n 0, 1) := dk_42 (dk_at dksX5_writeChains_0 13 rfl rfl)
theorem dX5_writeChains_14 : decode cX5_writeChains 14 = .ok (.getfield 7, 3) := dk_180 0 7 (dk_at dksX5_writeChains_0 14 rfl rfl)
theorem dX5_writeChains_17 : decode cX5_writeChains 17 = .ok (.bipush 6, 2) := dk_16 6 (dk_at dksX5_writeChains_0 17 rfl rfl)
theorem dX5_writeChains_19 : decode cX5_writeChains 19 = .ok (.iaload, 1) := dk_46 (dk_at dksX5_writeChains_0 19 rfl rfl)
theorem dX5_writeChains_20 : decode cX5_writeChains 20 = .ok (.if_icmp .ge 47, 3) := dk_162 0 47 (dk_at dksX5_writeChains_0 20 rfl rfl)
theorem dX5_writeChains_23 : decode cX5_writeChains 23 = .ok (.iload_n 1, 1) := dk_27 (dk_at dksX5_writeChains_0 23 rfl rfl)
theorem dX5_writeChains_24 : decode cX5_writeChains 24 = .ok (.ifCond .le 9, 3) := dk_158 0 9 (dk_at dksX5_writeChains_1 0 rfl rfl)
theorem dX5_writeChains_27 : decode cX5_writeChains 27 = .ok (.aload_n 0, 1) := dk_42 (dk_at dksX5_writeChains_1 3 rfl rfl)
theorem dX5_writeChains_28 : decode cX5_writeChains 28 = .ok (.bipush 32, 2) := dk_16 32 (dk_at dksX5_writeChains_1 4 rfl rfl)
theorem dX5_writeChains_30 : decode cX5_writeChains 30 = .ok (.invokevirtual 316, 3) := dk_182 1 60 (dk_at dksX5_writeChains_1 6 rfl rfl)
theorem dX5_writeChains_33 : decode cX5_writeChains 33 = .ok (.aload_n 0, 1) := dk_42 (dk_at dksX5_writeChains_1 9 rfl rfl)
theorem dX5_writeChains_34 : decode cX5_writeChains 34 = .ok (.bipush 48, 2) := dk_16 48 (dk_at dksX5_writeChains_1 10 rfl rfl)
theorem dX5_writeChains_36 : decode cX5_writeChains 36 = .ok (.aload_n 0, 1) := dk_42 (dk_at dksX5_writeChains_1 12 rfl rfl)
theorem dX5_writeChains_37 : decode cX5_writeChains 37 = .ok (.iload_n 1, 1) := dk_27 (dk_at dksX5_writeChains_1 13 rfl rfl)
theorem dX5_writeChains_38 : decode cX5_writeChains 38 = .ok (.invokevirtual 231, 3) := dk_182 0 231 (dk_at dksX5_writeChains_1 14 rfl rfl)
theorem dX5_writeChains_41 : decode cX5_writeChains 41 = .ok (.iadd, 1) := dk_96 (dk_at dksX5_writeChains_1 17 rfl rfl)
theorem dX5_writeChains_42 : decode cX5_writeChains 42 = .ok (.invokevirtual 316, 3) := dk_182 1 60 (dk_at dksX5_writeChains_1 18 rfl rfl)
theorem dX5_writeChains_45 : decode cX5_writeChains 45 = .ok (.aload_n 0, 1) := dk_42 (dk_at dksX5_writeChains_1 21 rfl rfl)
theorem dX5_writeChains_46 : decode cX5_writeChains 46 = .ok (.aload_n 0, 1) := dk_42 (dk_at dksX5_writeChains_1 22 rfl rfl)
theorem dX5_writeChains_47 : decode cX5_writeChains 47 = .ok (.getfield 7, 3) := dk_180 0 7 (dk_at dksX5_writeChains_2 0 rfl rfl)
theorem dX5_writeChains_50 : decode cX5_writeChains 50 = .ok (.bipush 89, 2) := dk_16 89 (dk_at dksX5_writeChains_2 3 rfl rfl)
theorem dX5_writeChains_52 : decode cX5_writeChains 52 = .ok (.iload_n 1, 1) := dk_27 (dk_at dksX5_writeChains_2 5 rfl rfl)
theorem dX5_writeChains_53 : decode cX5_writeChains 53 = .ok (.iadd, 1) := dk_96 (dk_at dksX5_writeChains_2 6 rfl rfl)
theorem dX5_writeChains_54 : decode cX5_writeChains 54 = .ok (.iaload, 1) := dk_46 (dk_at dksX5_writeChains_2 7 rfl rfl)
theorem dX5_writeChains_55 : decode cX5_writeChains 55 = .ok (.invokestatic 319, 3) := dk_184 1 63 (dk_at dksX5_writeChains_2 8 rfl rfl)
theorem dX5_writeChains_58 : decode cX5_writeChains 58 = .ok (.invokevirtual 316, 3) := dk_182 1 60 (dk_at dksX5_writeChains_2 11 rfl rfl)
theorem dX5_writeChains_61 : decode cX5_writeChains 61 = .ok (.iinc 1 1, 3) := dk_132 1 1 (dk_at dksX5_writeChains_2 14 rfl rfl)
theorem dX5_writeChains_64 : decode cX5_writeChains 64 = .ok (.goto (-52), 3) := dk_167 255 204 (dk_at dksX5_writeChains_2 17 rfl rfl)
theorem dX5_writeChains_67 : decode cX5_writeChains 67 = .ok (.aload_n 0, 1) := dk_42 (dk_at dksX5_writeChains_2 20 rfl rfl)
theorem dX5_writeChains_68 : decode cX5_writeChains 68 = .ok (.getfield 7, 3) := dk_180 0 7 (dk_at dksX5_writeChains_2 21 rfl rfl)
theorem dX5_writeChains_71 : decode cX5_writeChains 71 = .ok (.bipush 7, 2) := dk_16 7 (dk_at dksX5_writeChains_3 0 rfl rfl)
theorem dX5_writeChains_73 : decode cX5_writeChains 73 = .ok (.iaload, 1) := dk_46 (dk_at dksX5_writeChains_3 2 rfl rfl)
theorem dX5_writeChains_74 : decode cX5_writeChains 74 = .ok (.ifCond .le 9, 3) := dk_158 0 9 (dk_at dksX5_writeChains_3 3 rfl rfl)
theorem dX5_writeChains_77 : decode cX5_writeChains 77 = .ok (.aload_n 0, 1) := dk_42 (dk_at dksX5_writeChains_3 6 rfl rfl)
theorem dX5_writeChains_78 : decode cX5_writeChains 78 = .ok (.bipush 33, 2) := dk_16 33 (dk_at dksX5_writeChains_3 7 rfl rfl)
theorem dX5_writeChains_80 : decode cX5_writeChains 80 = .ok (.invokevirtual 316, 3) := dk_182 1 60 (dk_at dksX5_writeChains_3 9 rfl rfl)
theorem dX5_writeChains_83 : decode cX5_writeChains 83 = .ok (.aload_n 0, 1) := dk_42 (dk_at dksX5_writeChains_3 12 rfl rfl)
theorem dX5_writeChains_84 : decode cX5_writeChains 84 = .ok (.getfield 313, 3) := dk_180 1 57 (dk_at dksX5_writeChains_3 13 rfl rfl)
theorem dX5_writeChains_87 : decode cX5_writeChains 87 = .ok (.ireturn, 1) := dk_172 (dk_at dksX5_writeChains_3 16 rfl rfl)
abbrev cX5_says : ByteArray := prog_12_method_101_code
def yX5_says : MethodName := ⟨RX5, "says", "(I)V"⟩
def dkwX5_says_0 : List UInt8 := [42, 180, 0, 54, 42, 180, 1, 57, 27, 79, 42, 89, 180, 1, 57, 4, 96, 181, 1, 57, 177]
abbrev dktX5_says_0 : List UInt8 := dkwX5_says_0 ++ []
theorem dksX5_says_0 : cX5_says.data.toList.drop 0 = dktX5_says_0 := by decide +kernel
theorem dX5_says_0 : decode cX5_says 0 = .ok (.aload_n 0, 1) := dk_42 (dk_at dksX5_says_0 0 rfl rfl)
theorem dX5_says_1 : decode cX5_says 1 = .ok (.getfield 54, 3) := dk_180 0 54 (dk_at dksX5_says_0 1 rfl rfl)
theorem dX5_says_4 : decode cX5_says 4 = .ok (.aload_n 0, 1) := dk_42 (dk_at dksX5_says_0 4 rfl rfl)
theorem dX5_says_5 : decode cX5_says 5 = .ok (.getfield 313, 3) := dk_180 1 57 (dk_at dksX5_says_0 5 rfl rfl)
theorem dX5_says_8 : decode cX5_says 8 = .ok (.iload_n 1, 1) := dk_27 (dk_at dksX5_says_0 8 rfl rfl)
theorem dX5_says_9 : decode cX5_says 9 = .ok (.iastore, 1) := dk_79 (dk_at dksX5_says_0 9 rfl rfl)
theorem dX5_says_10 : decode cX5_says 10 = .ok (.aload_n 0, 1) := dk_42 (dk_at dksX5_says_0 10 rfl rfl)
theorem dX5_says_11 : decode cX5_says 11 = .ok (.dup, 1) := dk_89 (dk_at dksX5_says_0 11 rfl rfl)
theorem dX5_says_12 : decode cX5_says 12 = .ok (.getfield 313, 3) := dk_180 1 57 (dk_at dksX5_says_0 12 rfl rfl)
theorem dX5_says_15 : decode cX5_says 15 = .ok (.iconst 1, 1) := dk_4 (dk_at dksX5_says_0 15 rfl rfl)
theorem dX5_says_16 : decode cX5_says 16 = .ok (.iadd, 1) := dk_96 (dk_at dksX5_says_0 16 rfl rfl)
theorem dX5_says_17 : decode cX5_says 17 = .ok (.putfield 313, 3) := dk_181 1 57 (dk_at dksX5_says_0 17 rfl rfl)
theorem dX5_says_20 : decode cX5_says 20 = .ok (.return_, 1) := dk_177 (dk_at dksX5_says_0 20 rfl rfl)
abbrev cX5_letterOf : ByteArray := prog_12_method_102_code
def yX5_letterOf : MethodName := ⟨RX5, "letterOf", "(I)I"⟩
def dkwX5_letterOf_1 : List UInt8 := [16, 98, 167, 0, 5, 16, 108, 172]
abbrev dktX5_letterOf_1 : List UInt8 := dkwX5_letterOf_1 ++ []
def dkwX5_letterOf_0 : List UInt8 := [26, 154, 0, 8, 16, 111, 167, 0, 25, 26, 4, 160, 0, 8, 16, 99, 167, 0, 15, 26, 5, 160, 0, 8]
abbrev dktX5_letterOf_0 : List UInt8 := dkwX5_letterOf_0 ++ dktX5_letterOf_1
theorem dksX5_letterOf_0 : cX5_letterOf.data.toList.drop 0 = dktX5_letterOf_0 := by decide +kernel
theorem dksX5_letterOf_1 : cX5_letterOf.data.toList.drop 24 = dktX5_letterOf_1 := dk_seg dksX5_letterOf_0 24 rfl rfl
theorem dX5_letterOf_0 : decode cX5_letterOf 0 = .ok (.iload_n 0, 1) := dk_26 (dk_at dksX5_letterOf_0 0 rfl rfl)
theorem dX5_letterOf_1 : decode cX5_letterOf 1 = .ok (.ifCond .ne 8, 3) := dk_154 0 8 (dk_at dksX5_letterOf_0 1 rfl rfl)
theorem dX5_letterOf_4 : decode cX5_letterOf 4 = .ok (.bipush 111, 2) := dk_16 111 (dk_at dksX5_letterOf_0 4 rfl rfl)
theorem dX5_letterOf_6 : decode cX5_letterOf 6 = .ok (.goto 25, 3) := dk_167 0 25 (dk_at dksX5_letterOf_0 6 rfl rfl)
theorem dX5_letterOf_9 : decode cX5_letterOf 9 = .ok (.iload_n 0, 1) := dk_26 (dk_at dksX5_letterOf_0 9 rfl rfl)
theorem dX5_letterOf_10 : decode cX5_letterOf 10 = .ok (.iconst 1, 1) := dk_4 (dk_at dksX5_letterOf_0 10 rfl rfl)
theorem dX5_letterOf_11 : decode cX5_letterOf 11 = .ok (.if_icmp .ne 8, 3) := dk_160 0 8 (dk_at dksX5_letterOf_0 11 rfl rfl)
theorem dX5_letterOf_14 : decode cX5_letterOf 14 = .ok (.bipush 99, 2) := dk_16 99 (dk_at dksX5_letterOf_0 14 rfl rfl)
theorem dX5_letterOf_16 : decode cX5_letterOf 16 = .ok (.goto 15, 3) := dk_167 0 15 (dk_at dksX5_letterOf_0 16 rfl rfl)
theorem dX5_letterOf_19 : decode cX5_letterOf 19 = .ok (.iload_n 0, 1) := dk_26 (dk_at dksX5_letterOf_0 19 rfl rfl)
theorem dX5_letterOf_20 : decode cX5_letterOf 20 = .ok (.iconst 2, 1) := dk_5 (dk_at dksX5_letterOf_0 20 rfl rfl)
theorem dX5_letterOf_21 : decode cX5_letterOf 21 = .ok (.if_icmp .ne 8, 3) := dk_160 0 8 (dk_at dksX5_letterOf_0 21 rfl rfl)
theorem dX5_letterOf_24 : decode cX5_letterOf 24 = .ok (.bipush 98, 2) := dk_16 98 (dk_at dksX5_letterOf_1 0 rfl rfl)
theorem dX5_letterOf_26 : decode cX5_letterOf 26 = .ok (.goto 5, 3) := dk_167 0 5 (dk_at dksX5_letterOf_1 2 rfl rfl)
theorem dX5_letterOf_29 : decode cX5_letterOf 29 = .ok (.bipush 108, 2) := dk_16 108 (dk_at dksX5_letterOf_1 5 rfl rfl)
theorem dX5_letterOf_31 : decode cX5_letterOf 31 = .ok (.ireturn, 1) := dk_172 (dk_at dksX5_letterOf_1 7 rfl rfl)
abbrev cX5_writtenByte : ByteArray := prog_12_method_104_code
def yX5_writtenByte : MethodName := ⟨RX5, "writtenByte", "(I)I"⟩
def dkwX5_writtenByte_1 : List UInt8 := [180, 0, 65, 158, 0, 7, 3, 167, 0, 9, 42, 180, 0, 54, 27, 46, 172]
abbrev dktX5_writtenByte_1 : List UInt8 := dkwX5_writtenByte_1 ++ []
def dkwX5_writtenByte_0 : List UInt8 := [42, 27, 3, 42, 180, 1, 57, 4, 100, 184, 0, 71, 153, 0, 7, 3, 167, 0, 4, 4, 181, 0, 65, 42]
abbrev dktX5_writtenByte_0 : List UInt8 := dkwX5_writtenByte_0 ++ dktX5_writtenByte_1
theorem dksX5_writtenByte_0 : cX5_writtenByte.data.toList.drop 0 = dktX5_writtenByte_0 := by decide +kernel
theorem dksX5_writtenByte_1 : cX5_writtenByte.data.toList.drop 24 = dktX5_writtenByte_1 := dk_seg dksX5_writtenByte_0 24 rfl rfl
theorem dX5_writtenByte_0 : decode cX5_writtenByte 0 = .ok (.aload_n 0, 1) := dk_42 (dk_at dksX5_writtenByte_0 0 rfl rfl)
theorem dX5_writtenByte_1 : decode cX5_writtenByte 1 = .ok (.iload_n 1, 1) := dk_27 (dk_at dksX5_writtenByte_0 1 rfl rfl)
theorem dX5_writtenByte_2 : decode cX5_writtenByte 2 = .ok (.iconst 0, 1) := dk_3 (dk_at dksX5_writtenByte_0 2 rfl rfl)
theorem dX5_writtenByte_3 : decode cX5_writtenByte 3 = .ok (.aload_n 0, 1) := dk_42 (dk_at dksX5_writtenByte_0 3 rfl rfl)
theorem dX5_writtenByte_4 : decode cX5_writtenByte 4 = .ok (.getfield 313, 3) := dk_180 1 57 (dk_at dksX5_writtenByte_0 4 rfl rfl)
theorem dX5_writtenByte_7 : decode cX5_writtenByte 7 = .ok (.iconst 1, 1) := dk_4 (dk_at dksX5_writtenByte_0 7 rfl rfl)
theorem dX5_writtenByte_8 : decode cX5_writtenByte 8 = .ok (.isub, 1) := dk_100 (dk_at dksX5_writtenByte_0 8 rfl rfl)
theorem dX5_writtenByte_9 : decode cX5_writtenByte 9 = .ok (.invokestatic 71, 3) := dk_184 0 71 (dk_at dksX5_writtenByte_0 9 rfl rfl)
theorem dX5_writtenByte_12 : decode cX5_writtenByte 12 = .ok (.ifCond .eq 7, 3) := dk_153 0 7 (dk_at dksX5_writtenByte_0 12 rfl rfl)
theorem dX5_writtenByte_15 : decode cX5_writtenByte 15 = .ok (.iconst 0, 1) := dk_3 (dk_at dksX5_writtenByte_0 15 rfl rfl)
theorem dX5_writtenByte_16 : decode cX5_writtenByte 16 = .ok (.goto 4, 3) := dk_167 0 4 (dk_at dksX5_writtenByte_0 16 rfl rfl)
theorem dX5_writtenByte_19 : decode cX5_writtenByte 19 = .ok (.iconst 1, 1) := dk_4 (dk_at dksX5_writtenByte_0 19 rfl rfl)
theorem dX5_writtenByte_20 : decode cX5_writtenByte 20 = .ok (.putfield 65, 3) := dk_181 0 65 (dk_at dksX5_writtenByte_0 20 rfl rfl)
theorem dX5_writtenByte_23 : decode cX5_writtenByte 23 = .ok (.aload_n 0, 1) := dk_42 (dk_at dksX5_writtenByte_0 23 rfl rfl)
theorem dX5_writtenByte_24 : decode cX5_writtenByte 24 = .ok (.getfield 65, 3) := dk_180 0 65 (dk_at dksX5_writtenByte_1 0 rfl rfl)
theorem dX5_writtenByte_27 : decode cX5_writtenByte 27 = .ok (.ifCond .le 7, 3) := dk_158 0 7 (dk_at dksX5_writtenByte_1 3 rfl rfl)
theorem dX5_writtenByte_30 : decode cX5_writtenByte 30 = .ok (.iconst 0, 1) := dk_3 (dk_at dksX5_writtenByte_1 6 rfl rfl)
theorem dX5_writtenByte_31 : decode cX5_writtenByte 31 = .ok (.goto 9, 3) := dk_167 0 9 (dk_at dksX5_writtenByte_1 7 rfl rfl)
theorem dX5_writtenByte_34 : decode cX5_writtenByte 34 = .ok (.aload_n 0, 1) := dk_42 (dk_at dksX5_writtenByte_1 10 rfl rfl)
theorem dX5_writtenByte_35 : decode cX5_writtenByte 35 = .ok (.getfield 54, 3) := dk_180 0 54 (dk_at dksX5_writtenByte_1 11 rfl rfl)
theorem dX5_writtenByte_38 : decode cX5_writtenByte 38 = .ok (.iload_n 1, 1) := dk_27 (dk_at dksX5_writtenByte_1 14 rfl rfl)
theorem dX5_writtenByte_39 : decode cX5_writtenByte 39 = .ok (.iaload, 1) := dk_46 (dk_at dksX5_writtenByte_1 15 rfl rfl)
theorem dX5_writtenByte_40 : decode cX5_writtenByte 40 = .ok (.ireturn, 1) := dk_172 (dk_at dksX5_writtenByte_1 16 rfl rfl)
theorem q125 : (Jvm.Cond.initialized "ExactChainsModel") ∈ lw_all := lw_g (lw_at lw_m1 25 rfl) rfl
theorem q731 : (Jvm.Cond.selects "ExactChainsModel" ({ cls := "java/lang/Object", name := "getClass", desc := "()Ljava/lang/Class;" } : Jvm.MethodName) ({ cls := "java/lang/Object", name := "getClass", desc := "()Ljava/lang/Class;" } : Jvm.MethodName)) ∈ lw_all := lw_g (lw_at lw_m3 151 rfl) rfl
theorem q1973 : (Jvm.Cond.instantiable "ExactChainsModel" (28 : Nat)) ∈ lw_all := lw_g (lw_at lw_m8 193 rfl) rfl
theorem q1975 : (Jvm.Cond.instanceMethod ({ cls := "ExactChainsModel", name := "<init>", desc := "()V" } : Jvm.MethodName)) ∈ lw_all := lw_g (lw_at lw_m8 195 rfl) rfl
theorem q1976 : (Jvm.Cond.code ({ cls := "ExactChainsModel", name := "<init>", desc := "()V" } : Jvm.MethodName) prog_12_method_1_code (1 : Nat) (Option.none : Option Jvm.ClassFile.FieldType)) ∈ lw_all := lw_g (lw_at lw_m8 196 rfl) rfl
theorem q1977 : (Jvm.Cond.methodLink "ExactChainsModel" (1 : Nat) ({ cls := "java/lang/Object", name := "<init>", desc := "()V" } : Jvm.MethodName)) ∈ lw_all := lw_g (lw_at lw_m8 197 rfl) rfl
theorem q1978 : (Jvm.Cond.methodLink "ExactChainsModel" (57 : Nat) ({ cls := "ExactChainsModel", name := "begins", desc := "(II)V" } : Jvm.MethodName)) ∈ lw_all := lw_g (lw_at lw_m8 198 rfl) rfl
theorem q1979 : (Jvm.Cond.privateMethod ({ cls := "ExactChainsModel", name := "begins", desc := "(II)V" } : Jvm.MethodName)) ∈ lw_tbl := lw_at lw_m8 199 rfl
theorem q1980 : (Jvm.Cond.instanceMethod ({ cls := "ExactChainsModel", name := "begins", desc := "(II)V" } : Jvm.MethodName)) ∈ lw_all := lw_g (lw_at lw_m8 200 rfl) rfl
theorem q1981 : (Jvm.Cond.code ({ cls := "ExactChainsModel", name := "begins", desc := "(II)V" } : Jvm.MethodName) prog_12_method_2_code (4 : Nat) (Option.none : Option Jvm.ClassFile.FieldType)) ∈ lw_all := lw_g (lw_at lw_m8 201 rfl) rfl
theorem q1982 : (Jvm.Cond.methodLink "ExactChainsModel" (61 : Nat) ({ cls := "ExactChainsModel", name := "becomes", desc := "([II)V" } : Jvm.MethodName)) ∈ lw_all := lw_g (lw_at lw_m8 202 rfl) rfl
theorem q1983 : (Jvm.Cond.privateMethod ({ cls := "ExactChainsModel", name := "becomes", desc := "([II)V" } : Jvm.MethodName)) ∈ lw_tbl := lw_at lw_m8 203 rfl
theorem q1984 : (Jvm.Cond.instanceMethod ({ cls := "ExactChainsModel", name := "becomes", desc := "([II)V" } : Jvm.MethodName)) ∈ lw_all := lw_g (lw_at lw_m8 204 rfl) rfl
theorem q1985 : (Jvm.Cond.code ({ cls := "ExactChainsModel", name := "becomes", desc := "([II)V" } : Jvm.MethodName) prog_12_method_3_code (4 : Nat) (Option.none : Option Jvm.ClassFile.FieldType)) ∈ lw_all := lw_g (lw_at lw_m8 205 rfl) rfl
theorem q1986 : (Jvm.Cond.fieldLink "ExactChainsModel" (7 : Nat) "ExactChainsModel" "a" "[I") ∈ lw_all := lw_g (lw_at lw_m8 206 rfl) rfl
theorem q1987 : (Jvm.Cond.fieldLink "ExactChainsModel" (13 : Nat) "ExactChainsModel" "fresh" "[I") ∈ lw_all := lw_g (lw_at lw_m8 207 rfl) rfl
theorem q1988 : (Jvm.Cond.fieldLink "ExactChainsModel" (16 : Nat) "ExactChainsModel" "kept" "[I") ∈ lw_all := lw_g (lw_at lw_m8 208 rfl) rfl
theorem q1989 : (Jvm.Cond.fieldLink "ExactChainsModel" (19 : Nat) "ExactChainsModel" "slots" "[I") ∈ lw_all := lw_g (lw_at lw_m8 209 rfl) rfl
theorem q1990 : (Jvm.Cond.fieldLink "ExactChainsModel" (22 : Nat) "ExactChainsModel" "isSaved" "[Z") ∈ lw_all := lw_g (lw_at lw_m8 210 rfl) rfl
theorem q1991 : (Jvm.Cond.fieldLink "ExactChainsModel" (68 : Nat) "ExactChainsModel" "keptMany" "I") ∈ lw_all := lw_g (lw_at lw_m8 211 rfl) rfl
theorem q1992 : (Jvm.Cond.fieldLink "ExactChainsModel" (65 : Nat) "ExactChainsModel" "thrown" "I") ∈ lw_all := lw_g (lw_at lw_m8 212 rfl) rfl
theorem q1993 : (Jvm.Cond.fieldLink "ExactChainsModel" (26 : Nat) "ExactChainsModel" "buffer" "[I") ∈ lw_all := lw_g (lw_at lw_m8 213 rfl) rfl
theorem q1994 : (Jvm.Cond.fieldLink "ExactChainsModel" (78 : Nat) "ExactChainsModel" "buffered" "I") ∈ lw_all := lw_g (lw_at lw_m8 214 rfl) rfl
theorem q1995 : (Jvm.Cond.fieldLink "ExactChainsModel" (81 : Nat) "ExactChainsModel" "size" "I") ∈ lw_all := lw_g (lw_at lw_m8 215 rfl) rfl
theorem q1996 : (Jvm.Cond.fieldLink "ExactChainsModel" (87 : Nat) "ExactChainsModel" "at" "I") ∈ lw_all := lw_g (lw_at lw_m8 216 rfl) rfl
theorem q1997 : (Jvm.Cond.fieldLink "ExactChainsModel" (84 : Nat) "ExactChainsModel" "behind" "I") ∈ lw_all := lw_g (lw_at lw_m8 217 rfl) rfl
theorem q1998 : (Jvm.Cond.fieldLink "ExactChainsModel" (94 : Nat) "ExactChainsModel" "kind" "I") ∈ lw_all := lw_g (lw_at lw_m8 218 rfl) rfl
theorem q1999 : (Jvm.Cond.fieldLink "ExactChainsModel" (104 : Nat) "ExactChainsModel" "number" "I") ∈ lw_all := lw_g (lw_at lw_m8 219 rfl) rfl
theorem q2000 : (Jvm.Cond.fieldLink "ExactChainsModel" (107 : Nat) "ExactChainsModel" "wrong" "I") ∈ lw_all := lw_g (lw_at lw_m8 220 rfl) rfl
theorem q2001 : (Jvm.Cond.fieldLink "ExactChainsModel" (120 : Nat) "ExactChainsModel" "wrongAt" "I") ∈ lw_all := lw_g (lw_at lw_m8 221 rfl) rfl
theorem q2002 : (Jvm.Cond.fieldLink "ExactChainsModel" (29 : Nat) "ExactChainsModel" "errorAt" "I") ∈ lw_all := lw_g (lw_at lw_m8 222 rfl) rfl
theorem q2003 : (Jvm.Cond.fieldLink "ExactChainsModel" (33 : Nat) "ExactChainsModel" "x" "[I") ∈ lw_all := lw_g (lw_at lw_m8 223 rfl) rfl
theorem q2004 : (Jvm.Cond.fieldLink "ExactChainsModel" (36 : Nat) "ExactChainsModel" "y" "[I") ∈ lw_all := lw_g (lw_at lw_m8 224 rfl) rfl
theorem q2005 : (Jvm.Cond.fieldLink "ExactChainsModel" (39 : Nat) "ExactChainsModel" "candidate" "[I") ∈ lw_all := lw_g (lw_at lw_m8 225 rfl) rfl
theorem q2006 : (Jvm.Cond.fieldLink "ExactChainsModel" (258 : Nat) "ExactChainsModel" "wasted" "I") ∈ lw_all := lw_g (lw_at lw_m8 226 rfl) rfl
theorem q2007 : (Jvm.Cond.fieldLink "ExactChainsModel" (42 : Nat) "ExactChainsModel" "older" "[I") ∈ lw_all := lw_g (lw_at lw_m8 227 rfl) rfl
theorem q2008 : (Jvm.Cond.fieldLink "ExactChainsModel" (45 : Nat) "ExactChainsModel" "old" "[I") ∈ lw_all := lw_g (lw_at lw_m8 228 rfl) rfl
theorem q2009 : (Jvm.Cond.fieldLink "ExactChainsModel" (48 : Nat) "ExactChainsModel" "young" "[I") ∈ lw_all := lw_g (lw_at lw_m8 229 rfl) rfl
theorem q2010 : (Jvm.Cond.fieldLink "ExactChainsModel" (51 : Nat) "ExactChainsModel" "work" "[I") ∈ lw_all := lw_g (lw_at lw_m8 230 rfl) rfl
theorem q2011 : (Jvm.Cond.fieldLink "ExactChainsModel" (282 : Nat) "ExactChainsModel" "determinantFound" "I") ∈ lw_all := lw_g (lw_at lw_m8 231 rfl) rfl
theorem q2012 : (Jvm.Cond.fieldLink "ExactChainsModel" (54 : Nat) "ExactChainsModel" "written" "[I") ∈ lw_all := lw_g (lw_at lw_m8 232 rfl) rfl
theorem q2013 : (Jvm.Cond.fieldLink "ExactChainsModel" (313 : Nat) "ExactChainsModel" "writtenMany" "I") ∈ lw_all := lw_g (lw_at lw_m8 233 rfl) rfl
theorem q2014 : (Jvm.Cond.laysFinal "ExactChainsModel" "ExactChainsModel" "a" "[I") ∈ lw_all := lw_g (lw_at lw_m8 234 rfl) rfl
theorem q2015 : (Jvm.Cond.soleField "ExactChainsModel" "a") ∈ lw_all := lw_g (lw_at lw_m8 235 rfl) rfl
theorem q2016 : (Jvm.Cond.laysFinal "ExactChainsModel" "ExactChainsModel" "fresh" "[I") ∈ lw_all := lw_g (lw_at lw_m8 236 rfl) rfl
theorem q2017 : (Jvm.Cond.soleField "ExactChainsModel" "fresh") ∈ lw_all := lw_g (lw_at lw_m8 237 rfl) rfl
theorem q2018 : (Jvm.Cond.laysFinal "ExactChainsModel" "ExactChainsModel" "kept" "[I") ∈ lw_all := lw_g (lw_at lw_m8 238 rfl) rfl
theorem q2019 : (Jvm.Cond.soleField "ExactChainsModel" "kept") ∈ lw_all := lw_g (lw_at lw_m8 239 rfl) rfl
theorem q2020 : (Jvm.Cond.laysFinal "ExactChainsModel" "ExactChainsModel" "slots" "[I") ∈ lw_all := lw_g (lw_at lw_m9 0 rfl) rfl
theorem q2021 : (Jvm.Cond.soleField "ExactChainsModel" "slots") ∈ lw_all := lw_g (lw_at lw_m9 1 rfl) rfl
theorem q2022 : (Jvm.Cond.laysFinal "ExactChainsModel" "ExactChainsModel" "isSaved" "[Z") ∈ lw_all := lw_g (lw_at lw_m9 2 rfl) rfl
theorem q2023 : (Jvm.Cond.soleField "ExactChainsModel" "isSaved") ∈ lw_all := lw_g (lw_at lw_m9 3 rfl) rfl
theorem q2024 : (Jvm.Cond.lays "ExactChainsModel" "ExactChainsModel" "keptMany" "I") ∈ lw_all := lw_g (lw_at lw_m9 4 rfl) rfl
theorem q2025 : (Jvm.Cond.soleField "ExactChainsModel" "keptMany") ∈ lw_all := lw_g (lw_at lw_m9 5 rfl) rfl
theorem q2026 : (Jvm.Cond.lays "ExactChainsModel" "ExactChainsModel" "thrown" "I") ∈ lw_all := lw_g (lw_at lw_m9 6 rfl) rfl
theorem q2027 : (Jvm.Cond.soleField "ExactChainsModel" "thrown") ∈ lw_all := lw_g (lw_at lw_m9 7 rfl) rfl
theorem q2028 : (Jvm.Cond.laysFinal "ExactChainsModel" "ExactChainsModel" "buffer" "[I") ∈ lw_all := lw_g (lw_at lw_m9 8 rfl) rfl
theorem q2029 : (Jvm.Cond.soleField "ExactChainsModel" "buffer") ∈ lw_all := lw_g (lw_at lw_m9 9 rfl) rfl
theorem q2030 : (Jvm.Cond.lays "ExactChainsModel" "ExactChainsModel" "buffered" "I") ∈ lw_all := lw_g (lw_at lw_m9 10 rfl) rfl
theorem q2031 : (Jvm.Cond.soleField "ExactChainsModel" "buffered") ∈ lw_all := lw_g (lw_at lw_m9 11 rfl) rfl
theorem q2032 : (Jvm.Cond.lays "ExactChainsModel" "ExactChainsModel" "size" "I") ∈ lw_all := lw_g (lw_at lw_m9 12 rfl) rfl
theorem q2033 : (Jvm.Cond.soleField "ExactChainsModel" "size") ∈ lw_all := lw_g (lw_at lw_m9 13 rfl) rfl
theorem q2034 : (Jvm.Cond.lays "ExactChainsModel" "ExactChainsModel" "at" "I") ∈ lw_all := lw_g (lw_at lw_m9 14 rfl) rfl
theorem q2035 : (Jvm.Cond.soleField "ExactChainsModel" "at") ∈ lw_all := lw_g (lw_at lw_m9 15 rfl) rfl
theorem q2036 : (Jvm.Cond.lays "ExactChainsModel" "ExactChainsModel" "behind" "I") ∈ lw_all := lw_g (lw_at lw_m9 16 rfl) rfl
theorem q2037 : (Jvm.Cond.soleField "ExactChainsModel" "behind") ∈ lw_all := lw_g (lw_at lw_m9 17 rfl) rfl
theorem q2038 : (Jvm.Cond.lays "ExactChainsModel" "ExactChainsModel" "kind" "I") ∈ lw_all := lw_g (lw_at lw_m9 18 rfl) rfl
theorem q2039 : (Jvm.Cond.soleField "ExactChainsModel" "kind") ∈ lw_all := lw_g (lw_at lw_m9 19 rfl) rfl
theorem q2040 : (Jvm.Cond.lays "ExactChainsModel" "ExactChainsModel" "number" "I") ∈ lw_all := lw_g (lw_at lw_m9 20 rfl) rfl
theorem q2041 : (Jvm.Cond.soleField "ExactChainsModel" "number") ∈ lw_all := lw_g (lw_at lw_m9 21 rfl) rfl
theorem q2042 : (Jvm.Cond.lays "ExactChainsModel" "ExactChainsModel" "wrong" "I") ∈ lw_all := lw_g (lw_at lw_m9 22 rfl) rfl
theorem q2043 : (Jvm.Cond.soleField "ExactChainsModel" "wrong") ∈ lw_all := lw_g (lw_at lw_m9 23 rfl) rfl
theorem q2044 : (Jvm.Cond.lays "ExactChainsModel" "ExactChainsModel" "wrongAt" "I") ∈ lw_all := lw_g (lw_at lw_m9 24 rfl) rfl
theorem q2045 : (Jvm.Cond.soleField "ExactChainsModel" "wrongAt") ∈ lw_all := lw_g (lw_at lw_m9 25 rfl) rfl
theorem q2046 : (Jvm.Cond.lays "ExactChainsModel" "ExactChainsModel" "errorAt" "I") ∈ lw_all := lw_g (lw_at lw_m9 26 rfl) rfl
theorem q2047 : (Jvm.Cond.soleField "ExactChainsModel" "errorAt") ∈ lw_all := lw_g (lw_at lw_m9 27 rfl) rfl
theorem q2048 : (Jvm.Cond.laysFinal "ExactChainsModel" "ExactChainsModel" "x" "[I") ∈ lw_all := lw_g (lw_at lw_m9 28 rfl) rfl
theorem q2049 : (Jvm.Cond.soleField "ExactChainsModel" "x") ∈ lw_all := lw_g (lw_at lw_m9 29 rfl) rfl
theorem q2050 : (Jvm.Cond.laysFinal "ExactChainsModel" "ExactChainsModel" "y" "[I") ∈ lw_all := lw_g (lw_at lw_m9 30 rfl) rfl
theorem q2051 : (Jvm.Cond.soleField "ExactChainsModel" "y") ∈ lw_all := lw_g (lw_at lw_m9 31 rfl) rfl
theorem q2052 : (Jvm.Cond.laysFinal "ExactChainsModel" "ExactChainsModel" "candidate" "[I") ∈ lw_all := lw_g (lw_at lw_m9 32 rfl) rfl
theorem q2053 : (Jvm.Cond.soleField "ExactChainsModel" "candidate") ∈ lw_all := lw_g (lw_at lw_m9 33 rfl) rfl
theorem q2054 : (Jvm.Cond.lays "ExactChainsModel" "ExactChainsModel" "wasted" "I") ∈ lw_all := lw_g (lw_at lw_m9 34 rfl) rfl
theorem q2055 : (Jvm.Cond.soleField "ExactChainsModel" "wasted") ∈ lw_all := lw_g (lw_at lw_m9 35 rfl) rfl
theorem q2056 : (Jvm.Cond.laysFinal "ExactChainsModel" "ExactChainsModel" "older" "[I") ∈ lw_all := lw_g (lw_at lw_m9 36 rfl) rfl
theorem q2057 : (Jvm.Cond.soleField "ExactChainsModel" "older") ∈ lw_all := lw_g (lw_at lw_m9 37 rfl) rfl
theorem q2058 : (Jvm.Cond.laysFinal "ExactChainsModel" "ExactChainsModel" "old" "[I") ∈ lw_all := lw_g (lw_at lw_m9 38 rfl) rfl
theorem q2059 : (Jvm.Cond.soleField "ExactChainsModel" "old") ∈ lw_all := lw_g (lw_at lw_m9 39 rfl) rfl
theorem q2060 : (Jvm.Cond.laysFinal "ExactChainsModel" "ExactChainsModel" "young" "[I") ∈ lw_all := lw_g (lw_at lw_m9 40 rfl) rfl
theorem q2061 : (Jvm.Cond.soleField "ExactChainsModel" "young") ∈ lw_all := lw_g (lw_at lw_m9 41 rfl) rfl
theorem q2062 : (Jvm.Cond.laysFinal "ExactChainsModel" "ExactChainsModel" "work" "[I") ∈ lw_all := lw_g (lw_at lw_m9 42 rfl) rfl
theorem q2063 : (Jvm.Cond.soleField "ExactChainsModel" "work") ∈ lw_all := lw_g (lw_at lw_m9 43 rfl) rfl
theorem q2064 : (Jvm.Cond.lays "ExactChainsModel" "ExactChainsModel" "determinantFound" "I") ∈ lw_all := lw_g (lw_at lw_m9 44 rfl) rfl
theorem q2065 : (Jvm.Cond.soleField "ExactChainsModel" "determinantFound") ∈ lw_all := lw_g (lw_at lw_m9 45 rfl) rfl
theorem q2066 : (Jvm.Cond.laysFinal "ExactChainsModel" "ExactChainsModel" "written" "[I") ∈ lw_all := lw_g (lw_at lw_m9 46 rfl) rfl
theorem q2067 : (Jvm.Cond.soleField "ExactChainsModel" "written") ∈ lw_all := lw_g (lw_at lw_m9 47 rfl) rfl
theorem q2068 : (Jvm.Cond.lays "ExactChainsModel" "ExactChainsModel" "writtenMany" "I") ∈ lw_all := lw_g (lw_at lw_m9 48 rfl) rfl
theorem q2069 : (Jvm.Cond.soleField "ExactChainsModel" "writtenMany") ∈ lw_all := lw_g (lw_at lw_m9 49 rfl) rfl
theorem q2070 : (Jvm.Cond.superclass "ExactChainsModel" "java/lang/Object") ∈ lw_all := lw_g (lw_at lw_m9 50 rfl) rfl
theorem q2073 : (Jvm.Cond.instanceMethod ({ cls := "ExactChainsModel", name := "thrown", desc := "()I" } : Jvm.MethodName)) ∈ lw_all := lw_g (lw_at lw_m9 53 rfl) rfl
theorem q2074 : (Jvm.Cond.selects "ExactChainsModel" ({ cls := "ExactChainsModel", name := "thrown", desc := "()I" } : Jvm.MethodName) ({ cls := "ExactChainsModel", name := "thrown", desc := "()I" } : Jvm.MethodName)) ∈ lw_all := lw_g (lw_at lw_m9 54 rfl) rfl
theorem q2075 : (Jvm.Cond.code ({ cls := "ExactChainsModel", name := "thrown", desc := "()I" } : Jvm.MethodName) prog_12_method_4_code (1 : Nat) (Option.some Jvm.ClassFile.FieldType.int)) ∈ lw_all := lw_g (lw_at lw_m9 55 rfl) rfl
theorem q2077 : (Jvm.Cond.instanceMethod ({ cls := "ExactChainsModel", name := "undo", desc := "()I" } : Jvm.MethodName)) ∈ lw_all := lw_g (lw_at lw_m9 57 rfl) rfl
theorem q2078 : (Jvm.Cond.selects "ExactChainsModel" ({ cls := "ExactChainsModel", name := "undo", desc := "()I" } : Jvm.MethodName) ({ cls := "ExactChainsModel", name := "undo", desc := "()I" } : Jvm.MethodName)) ∈ lw_all := lw_g (lw_at lw_m9 58 rfl) rfl
theorem q2079 : (Jvm.Cond.code ({ cls := "ExactChainsModel", name := "undo", desc := "()I" } : Jvm.MethodName) prog_12_method_7_code (1 : Nat) (Option.some Jvm.ClassFile.FieldType.int)) ∈ lw_all := lw_g (lw_at lw_m9 59 rfl) rfl
theorem q2081 : (Jvm.Cond.instanceMethod ({ cls := "ExactChainsModel", name := "save", desc := "(I)I" } : Jvm.MethodName)) ∈ lw_all := lw_g (lw_at lw_m9 61 rfl) rfl
theorem q2082 : (Jvm.Cond.selects "ExactChainsModel" ({ cls := "ExactChainsModel", name := "save", desc := "(I)I" } : Jvm.MethodName) ({ cls := "ExactChainsModel", name := "save", desc := "(I)I" } : Jvm.MethodName)) ∈ lw_all := lw_g (lw_at lw_m9 62 rfl) rfl
theorem q2083 : (Jvm.Cond.code ({ cls := "ExactChainsModel", name := "save", desc := "(I)I" } : Jvm.MethodName) prog_12_method_8_code (3 : Nat) (Option.some Jvm.ClassFile.FieldType.int)) ∈ lw_all := lw_g (lw_at lw_m9 63 rfl) rfl
theorem q2084 : (Jvm.Cond.methodLink "ExactChainsModel" (71 : Nat) ({ cls := "ExactChainsModel", name := "isIn", desc := "(III)Z" } : Jvm.MethodName)) ∈ lw_all := lw_g (lw_at lw_m9 64 rfl) rfl
theorem q2085 : (Jvm.Cond.static ({ cls := "ExactChainsModel", name := "isIn", desc := "(III)Z" } : Jvm.MethodName)) ∈ lw_all := lw_g (lw_at lw_m9 65 rfl) rfl
theorem q2086 : (Jvm.Cond.code ({ cls := "ExactChainsModel", name := "isIn", desc := "(III)Z" } : Jvm.MethodName) prog_12_method_5_code (3 : Nat) (Option.some Jvm.ClassFile.FieldType.boolean)) ∈ lw_all := lw_g (lw_at lw_m9 66 rfl) rfl
theorem q2088 : (Jvm.Cond.instanceMethod ({ cls := "ExactChainsModel", name := "restore", desc := "(I)I" } : Jvm.MethodName)) ∈ lw_all := lw_g (lw_at lw_m9 68 rfl) rfl
theorem q2089 : (Jvm.Cond.selects "ExactChainsModel" ({ cls := "ExactChainsModel", name := "restore", desc := "(I)I" } : Jvm.MethodName) ({ cls := "ExactChainsModel", name := "restore", desc := "(I)I" } : Jvm.MethodName)) ∈ lw_all := lw_g (lw_at lw_m9 69 rfl) rfl
theorem q2090 : (Jvm.Cond.code ({ cls := "ExactChainsModel", name := "restore", desc := "(I)I" } : Jvm.MethodName) prog_12_method_9_code (2 : Nat) (Option.some Jvm.ClassFile.FieldType.int)) ∈ lw_all := lw_g (lw_at lw_m9 70 rfl) rfl
theorem q2091 : (Jvm.Cond.methodLink "ExactChainsModel" (75 : Nat) ({ cls := "ExactChainsModel", name := "keeps", desc := "()V" } : Jvm.MethodName)) ∈ lw_all := lw_g (lw_at lw_m9 71 rfl) rfl
theorem q2092 : (Jvm.Cond.privateMethod ({ cls := "ExactChainsModel", name := "keeps", desc := "()V" } : Jvm.MethodName)) ∈ lw_tbl := lw_at lw_m9 72 rfl
theorem q2093 : (Jvm.Cond.instanceMethod ({ cls := "ExactChainsModel", name := "keeps", desc := "()V" } : Jvm.MethodName)) ∈ lw_all := lw_g (lw_at lw_m9 73 rfl) rfl
theorem q2094 : (Jvm.Cond.code ({ cls := "ExactChainsModel", name := "keeps", desc := "()V" } : Jvm.MethodName) prog_12_method_6_code (2 : Nat) (Option.none : Option Jvm.ClassFile.FieldType)) ∈ lw_all := lw_g (lw_at lw_m9 74 rfl) rfl
theorem q2096 : (Jvm.Cond.instanceMethod ({ cls := "ExactChainsModel", name := "append", desc := "(IIIII)I" } : Jvm.MethodName)) ∈ lw_all := lw_g (lw_at lw_m9 76 rfl) rfl
theorem q2097 : (Jvm.Cond.selects "ExactChainsModel" ({ cls := "ExactChainsModel", name := "append", desc := "(IIIII)I" } : Jvm.MethodName) ({ cls := "ExactChainsModel", name := "append", desc := "(IIIII)I" } : Jvm.MethodName)) ∈ lw_all := lw_g (lw_at lw_m9 77 rfl) rfl
theorem q2098 : (Jvm.Cond.code ({ cls := "ExactChainsModel", name := "append", desc := "(IIIII)I" } : Jvm.MethodName) prog_12_method_10_code (8 : Nat) (Option.some Jvm.ClassFile.FieldType.int)) ∈ lw_all := lw_g (lw_at lw_m9 78 rfl) rfl
theorem q2100 : (Jvm.Cond.instanceMethod ({ cls := "ExactChainsModel", name := "load", desc := "(I)I" } : Jvm.MethodName)) ∈ lw_all := lw_g (lw_at lw_m9 80 rfl) rfl
theorem q2101 : (Jvm.Cond.selects "ExactChainsModel" ({ cls := "ExactChainsModel", name := "load", desc := "(I)I" } : Jvm.MethodName) ({ cls := "ExactChainsModel", name := "load", desc := "(I)I" } : Jvm.MethodName)) ∈ lw_all := lw_g (lw_at lw_m9 81 rfl) rfl
theorem q2102 : (Jvm.Cond.code ({ cls := "ExactChainsModel", name := "load", desc := "(I)I" } : Jvm.MethodName) prog_12_method_25_code (2 : Nat) (Option.some Jvm.ClassFile.FieldType.int)) ∈ lw_all := lw_g (lw_at lw_m9 82 rfl) rfl
theorem q2103 : (Jvm.Cond.methodLink "ExactChainsModel" (127 : Nat) ({ cls := "ExactChainsModel", name := "next", desc := "()V" } : Jvm.MethodName)) ∈ lw_all := lw_g (lw_at lw_m9 83 rfl) rfl
theorem q2104 : (Jvm.Cond.privateMethod ({ cls := "ExactChainsModel", name := "next", desc := "()V" } : Jvm.MethodName)) ∈ lw_tbl := lw_at lw_m9 84 rfl
theorem q2105 : (Jvm.Cond.instanceMethod ({ cls := "ExactChainsModel", name := "next", desc := "()V" } : Jvm.MethodName)) ∈ lw_all := lw_g (lw_at lw_m9 85 rfl) rfl
theorem q2106 : (Jvm.Cond.code ({ cls := "ExactChainsModel", name := "next", desc := "()V" } : Jvm.MethodName) prog_12_method_14_code (1 : Nat) (Option.none : Option Jvm.ClassFile.FieldType)) ∈ lw_all := lw_g (lw_at lw_m9 86 rfl) rfl
theorem q2107 : (Jvm.Cond.methodLink "ExactChainsModel" (90 : Nat) ({ cls := "ExactChainsModel", name := "see", desc := "(I)I" } : Jvm.MethodName)) ∈ lw_all := lw_g (lw_at lw_m9 87 rfl) rfl
theorem q2108 : (Jvm.Cond.privateMethod ({ cls := "ExactChainsModel", name := "see", desc := "(I)I" } : Jvm.MethodName)) ∈ lw_tbl := lw_at lw_m9 88 rfl
theorem q2109 : (Jvm.Cond.instanceMethod ({ cls := "ExactChainsModel", name := "see", desc := "(I)I" } : Jvm.MethodName)) ∈ lw_all := lw_g (lw_at lw_m9 89 rfl) rfl
theorem q2110 : (Jvm.Cond.code ({ cls := "ExactChainsModel", name := "see", desc := "(I)I" } : Jvm.MethodName) prog_12_method_11_code (2 : Nat) (Option.some Jvm.ClassFile.FieldType.int)) ∈ lw_all := lw_g (lw_at lw_m9 90 rfl) rfl
theorem q2111 : (Jvm.Cond.methodLink "ExactChainsModel" (97 : Nat) ({ cls := "ExactChainsModel", name := "isLetter", desc := "(I)Z" } : Jvm.MethodName)) ∈ lw_all := lw_g (lw_at lw_m9 91 rfl) rfl
theorem q2112 : (Jvm.Cond.static ({ cls := "ExactChainsModel", name := "isLetter", desc := "(I)Z" } : Jvm.MethodName)) ∈ lw_all := lw_g (lw_at lw_m9 92 rfl) rfl
theorem q2113 : (Jvm.Cond.code ({ cls := "ExactChainsModel", name := "isLetter", desc := "(I)Z" } : Jvm.MethodName) prog_12_method_12_code (1 : Nat) (Option.some Jvm.ClassFile.FieldType.boolean)) ∈ lw_all := lw_g (lw_at lw_m9 93 rfl) rfl
theorem q2114 : (Jvm.Cond.methodLink "ExactChainsModel" (101 : Nat) ({ cls := "ExactChainsModel", name := "isDigit", desc := "(I)Z" } : Jvm.MethodName)) ∈ lw_all := lw_g (lw_at lw_m9 94 rfl) rfl
theorem q2115 : (Jvm.Cond.static ({ cls := "ExactChainsModel", name := "isDigit", desc := "(I)Z" } : Jvm.MethodName)) ∈ lw_all := lw_g (lw_at lw_m9 95 rfl) rfl
theorem q2116 : (Jvm.Cond.code ({ cls := "ExactChainsModel", name := "isDigit", desc := "(I)Z" } : Jvm.MethodName) prog_12_method_13_code (1 : Nat) (Option.some Jvm.ClassFile.FieldType.boolean)) ∈ lw_all := lw_g (lw_at lw_m9 96 rfl) rfl
theorem q2117 : (Jvm.Cond.methodLink "ExactChainsModel" (167 : Nat) ({ cls := "ExactChainsModel", name := "readsHead", desc := "()V" } : Jvm.MethodName)) ∈ lw_all := lw_g (lw_at lw_m9 97 rfl) rfl
theorem q2118 : (Jvm.Cond.privateMethod ({ cls := "ExactChainsModel", name := "readsHead", desc := "()V" } : Jvm.MethodName)) ∈ lw_tbl := lw_at lw_m9 98 rfl
theorem q2119 : (Jvm.Cond.instanceMethod ({ cls := "ExactChainsModel", name := "readsHead", desc := "()V" } : Jvm.MethodName)) ∈ lw_all := lw_g (lw_at lw_m9 99 rfl) rfl
theorem q2120 : (Jvm.Cond.code ({ cls := "ExactChainsModel", name := "readsHead", desc := "()V" } : Jvm.MethodName) prog_12_method_20_code (3 : Nat) (Option.none : Option Jvm.ClassFile.FieldType)) ∈ lw_all := lw_g (lw_at lw_m9 100 rfl) rfl
theorem q2121 : (Jvm.Cond.stringRef "ExactChainsModel" (130 : Nat) "prime") ∈ lw_tbl := lw_at lw_m9 101 rfl
theorem q2122 : (Jvm.Cond.methodLink "ExactChainsModel" (132 : Nat) ({ cls := "ExactChainsModel", name := "isWord", desc := "(Ljava/lang/String;)Z" } : Jvm.MethodName)) ∈ lw_all := lw_g (lw_at lw_m9 102 rfl) rfl
theorem q2123 : (Jvm.Cond.privateMethod ({ cls := "ExactChainsModel", name := "isWord", desc := "(Ljava/lang/String;)Z" } : Jvm.MethodName)) ∈ lw_tbl := lw_at lw_m9 103 rfl
theorem q2124 : (Jvm.Cond.instanceMethod ({ cls := "ExactChainsModel", name := "isWord", desc := "(Ljava/lang/String;)Z" } : Jvm.MethodName)) ∈ lw_all := lw_g (lw_at lw_m9 104 rfl) rfl
theorem q2125 : (Jvm.Cond.code ({ cls := "ExactChainsModel", name := "isWord", desc := "(Ljava/lang/String;)Z" } : Jvm.MethodName) prog_12_method_15_code (3 : Nat) (Option.some Jvm.ClassFile.FieldType.boolean)) ∈ lw_all := lw_g (lw_at lw_m9 105 rfl) rfl
theorem q2126 : (Jvm.Cond.methodLink "ExactChainsModel" (110 : Nat) ({ cls := "java/lang/String", name := "length", desc := "()I" } : Jvm.MethodName)) ∈ lw_all := lw_g (lw_at lw_m9 106 rfl) rfl
theorem q2127 : (Jvm.Cond.methodLink "ExactChainsModel" (116 : Nat) ({ cls := "java/lang/String", name := "charAt", desc := "(I)C" } : Jvm.MethodName)) ∈ lw_all := lw_g (lw_at lw_m9 107 rfl) rfl
theorem q2128 : (Jvm.Cond.methodLink "ExactChainsModel" (136 : Nat) ({ cls := "ExactChainsModel", name := "must", desc := "(Z)V" } : Jvm.MethodName)) ∈ lw_all := lw_g (lw_at lw_m9 108 rfl) rfl
theorem q2129 : (Jvm.Cond.privateMethod ({ cls := "ExactChainsModel", name := "must", desc := "(Z)V" } : Jvm.MethodName)) ∈ lw_tbl := lw_at lw_m9 109 rfl
theorem q2130 : (Jvm.Cond.instanceMethod ({ cls := "ExactChainsModel", name := "must", desc := "(Z)V" } : Jvm.MethodName)) ∈ lw_all := lw_g (lw_at lw_m9 110 rfl) rfl
theorem q2131 : (Jvm.Cond.code ({ cls := "ExactChainsModel", name := "must", desc := "(Z)V" } : Jvm.MethodName) prog_12_method_17_code (2 : Nat) (Option.none : Option Jvm.ClassFile.FieldType)) ∈ lw_all := lw_g (lw_at lw_m9 111 rfl) rfl
theorem q2132 : (Jvm.Cond.methodLink "ExactChainsModel" (123 : Nat) ({ cls := "ExactChainsModel", name := "fails", desc := "(I)V" } : Jvm.MethodName)) ∈ lw_all := lw_g (lw_at lw_m9 112 rfl) rfl
theorem q2133 : (Jvm.Cond.privateMethod ({ cls := "ExactChainsModel", name := "fails", desc := "(I)V" } : Jvm.MethodName)) ∈ lw_tbl := lw_at lw_m9 113 rfl
theorem q2134 : (Jvm.Cond.instanceMethod ({ cls := "ExactChainsModel", name := "fails", desc := "(I)V" } : Jvm.MethodName)) ∈ lw_all := lw_g (lw_at lw_m9 114 rfl) rfl
theorem q2135 : (Jvm.Cond.code ({ cls := "ExactChainsModel", name := "fails", desc := "(I)V" } : Jvm.MethodName) prog_12_method_16_code (2 : Nat) (Option.none : Option Jvm.ClassFile.FieldType)) ∈ lw_all := lw_g (lw_at lw_m9 115 rfl) rfl
theorem q2136 : (Jvm.Cond.methodLink "ExactChainsModel" (140 : Nat) ({ cls := "ExactChainsModel", name := "isPrime", desc := "(I)Z" } : Jvm.MethodName)) ∈ lw_all := lw_g (lw_at lw_m9 116 rfl) rfl
theorem q2137 : (Jvm.Cond.static ({ cls := "ExactChainsModel", name := "isPrime", desc := "(I)Z" } : Jvm.MethodName)) ∈ lw_all := lw_g (lw_at lw_m9 117 rfl) rfl
theorem q2138 : (Jvm.Cond.code ({ cls := "ExactChainsModel", name := "isPrime", desc := "(I)Z" } : Jvm.MethodName) prog_12_method_19_code (3 : Nat) (Option.some Jvm.ClassFile.FieldType.boolean)) ∈ lw_all := lw_g (lw_at lw_m9 118 rfl) rfl
theorem q2139 : (Jvm.Cond.methodLink "ExactChainsModel" (143 : Nat) ({ cls := "ExactChainsModel", name := "takes", desc := "(II)I" } : Jvm.MethodName)) ∈ lw_all := lw_g (lw_at lw_m9 119 rfl) rfl
theorem q2140 : (Jvm.Cond.privateMethod ({ cls := "ExactChainsModel", name := "takes", desc := "(II)I" } : Jvm.MethodName)) ∈ lw_tbl := lw_at lw_m9 120 rfl
theorem q2141 : (Jvm.Cond.instanceMethod ({ cls := "ExactChainsModel", name := "takes", desc := "(II)I" } : Jvm.MethodName)) ∈ lw_all := lw_g (lw_at lw_m9 121 rfl) rfl
theorem q2142 : (Jvm.Cond.code ({ cls := "ExactChainsModel", name := "takes", desc := "(II)I" } : Jvm.MethodName) prog_12_method_18_code (4 : Nat) (Option.some Jvm.ClassFile.FieldType.int)) ∈ lw_all := lw_g (lw_at lw_m9 122 rfl) rfl
theorem q2143 : (Jvm.Cond.stringRef "ExactChainsModel" (147 : Nat) "size") ∈ lw_tbl := lw_at lw_m9 123 rfl
theorem q2144 : (Jvm.Cond.methodLink "ExactChainsModel" (148 : Nat) ({ cls := "ExactChainsModel", name := "mustEnd", desc := "()V" } : Jvm.MethodName)) ∈ lw_all := lw_g (lw_at lw_m9 124 rfl) rfl
theorem q2145 : (Jvm.Cond.privateMethod ({ cls := "ExactChainsModel", name := "mustEnd", desc := "()V" } : Jvm.MethodName)) ∈ lw_tbl := lw_at lw_m9 125 rfl
theorem q2146 : (Jvm.Cond.instanceMethod ({ cls := "ExactChainsModel", name := "mustEnd", desc := "()V" } : Jvm.MethodName)) ∈ lw_all := lw_g (lw_at lw_m9 126 rfl) rfl
theorem q2147 : (Jvm.Cond.code ({ cls := "ExactChainsModel", name := "mustEnd", desc := "()V" } : Jvm.MethodName) prog_12_method_21_code (1 : Nat) (Option.none : Option Jvm.ClassFile.FieldType)) ∈ lw_all := lw_g (lw_at lw_m9 127 rfl) rfl
theorem q2148 : (Jvm.Cond.methodLink "ExactChainsModel" (170 : Nat) ({ cls := "ExactChainsModel", name := "readsStatement", desc := "()V" } : Jvm.MethodName)) ∈ lw_all := lw_g (lw_at lw_m9 128 rfl) rfl
theorem q2149 : (Jvm.Cond.privateMethod ({ cls := "ExactChainsModel", name := "readsStatement", desc := "()V" } : Jvm.MethodName)) ∈ lw_tbl := lw_at lw_m9 129 rfl
theorem q2150 : (Jvm.Cond.instanceMethod ({ cls := "ExactChainsModel", name := "readsStatement", desc := "()V" } : Jvm.MethodName)) ∈ lw_all := lw_g (lw_at lw_m9 130 rfl) rfl
theorem q2151 : (Jvm.Cond.code ({ cls := "ExactChainsModel", name := "readsStatement", desc := "()V" } : Jvm.MethodName) prog_12_method_24_code (1 : Nat) (Option.none : Option Jvm.ClassFile.FieldType)) ∈ lw_all := lw_g (lw_at lw_m9 131 rfl) rfl
theorem q2152 : (Jvm.Cond.stringRef "ExactChainsModel" (151 : Nat) "cell") ∈ lw_tbl := lw_at lw_m9 132 rfl
theorem q2153 : (Jvm.Cond.methodLink "ExactChainsModel" (153 : Nat) ({ cls := "ExactChainsModel", name := "readsCell", desc := "()V" } : Jvm.MethodName)) ∈ lw_all := lw_g (lw_at lw_m9 133 rfl) rfl
theorem q2154 : (Jvm.Cond.privateMethod ({ cls := "ExactChainsModel", name := "readsCell", desc := "()V" } : Jvm.MethodName)) ∈ lw_tbl := lw_at lw_m9 134 rfl
theorem q2155 : (Jvm.Cond.instanceMethod ({ cls := "ExactChainsModel", name := "readsCell", desc := "()V" } : Jvm.MethodName)) ∈ lw_all := lw_g (lw_at lw_m9 135 rfl) rfl
theorem q2156 : (Jvm.Cond.code ({ cls := "ExactChainsModel", name := "readsCell", desc := "()V" } : Jvm.MethodName) prog_12_method_22_code (4 : Nat) (Option.none : Option Jvm.ClassFile.FieldType)) ∈ lw_all := lw_g (lw_at lw_m9 136 rfl) rfl
theorem q2157 : (Jvm.Cond.stringRef "ExactChainsModel" (156 : Nat) "start") ∈ lw_tbl := lw_at lw_m9 137 rfl
theorem q2158 : (Jvm.Cond.methodLink "ExactChainsModel" (158 : Nat) ({ cls := "ExactChainsModel", name := "readsStart", desc := "()V" } : Jvm.MethodName)) ∈ lw_all := lw_g (lw_at lw_m9 138 rfl) rfl
theorem q2159 : (Jvm.Cond.privateMethod ({ cls := "ExactChainsModel", name := "readsStart", desc := "()V" } : Jvm.MethodName)) ∈ lw_tbl := lw_at lw_m9 139 rfl
theorem q2160 : (Jvm.Cond.instanceMethod ({ cls := "ExactChainsModel", name := "readsStart", desc := "()V" } : Jvm.MethodName)) ∈ lw_all := lw_g (lw_at lw_m9 140 rfl) rfl
theorem q2161 : (Jvm.Cond.code ({ cls := "ExactChainsModel", name := "readsStart", desc := "()V" } : Jvm.MethodName) prog_12_method_23_code (4 : Nat) (Option.none : Option Jvm.ClassFile.FieldType)) ∈ lw_all := lw_g (lw_at lw_m9 141 rfl) rfl
theorem q2162 : (Jvm.Cond.stringRef "ExactChainsModel" (161 : Nat) "limit") ∈ lw_tbl := lw_at lw_m9 142 rfl
theorem q2163 : (Jvm.Cond.stringRef "ExactChainsModel" (163 : Nat) "restarts") ∈ lw_tbl := lw_at lw_m9 143 rfl
theorem q2164 : (Jvm.Cond.stringRef "ExactChainsModel" (165 : Nat) "full") ∈ lw_tbl := lw_at lw_m9 144 rfl
theorem q2166 : (Jvm.Cond.instanceMethod ({ cls := "ExactChainsModel", name := "errorPosition", desc := "()I" } : Jvm.MethodName)) ∈ lw_all := lw_g (lw_at lw_m9 146 rfl) rfl
theorem q2167 : (Jvm.Cond.selects "ExactChainsModel" ({ cls := "ExactChainsModel", name := "errorPosition", desc := "()I" } : Jvm.MethodName) ({ cls := "ExactChainsModel", name := "errorPosition", desc := "()I" } : Jvm.MethodName)) ∈ lw_all := lw_g (lw_at lw_m9 147 rfl) rfl
theorem q2168 : (Jvm.Cond.code ({ cls := "ExactChainsModel", name := "errorPosition", desc := "()I" } : Jvm.MethodName) prog_12_method_26_code (1 : Nat) (Option.some Jvm.ClassFile.FieldType.int)) ∈ lw_all := lw_g (lw_at lw_m9 148 rfl) rfl
theorem q2170 : (Jvm.Cond.instanceMethod ({ cls := "ExactChainsModel", name := "count", desc := "(I)I" } : Jvm.MethodName)) ∈ lw_all := lw_g (lw_at lw_m9 150 rfl) rfl
theorem q2171 : (Jvm.Cond.selects "ExactChainsModel" ({ cls := "ExactChainsModel", name := "count", desc := "(I)I" } : Jvm.MethodName) ({ cls := "ExactChainsModel", name := "count", desc := "(I)I" } : Jvm.MethodName)) ∈ lw_all := lw_g (lw_at lw_m9 151 rfl) rfl
theorem q2172 : (Jvm.Cond.code ({ cls := "ExactChainsModel", name := "count", desc := "(I)I" } : Jvm.MethodName) prog_12_method_33_code (2 : Nat) (Option.some Jvm.ClassFile.FieldType.int)) ∈ lw_all := lw_g (lw_at lw_m9 152 rfl) rfl
theorem q2174 : (Jvm.Cond.instanceMethod ({ cls := "ExactChainsModel", name := "cell", desc := "(II)I" } : Jvm.MethodName)) ∈ lw_all := lw_g (lw_at lw_m9 154 rfl) rfl
theorem q2175 : (Jvm.Cond.selects "ExactChainsModel" ({ cls := "ExactChainsModel", name := "cell", desc := "(II)I" } : Jvm.MethodName) ({ cls := "ExactChainsModel", name := "cell", desc := "(II)I" } : Jvm.MethodName)) ∈ lw_all := lw_g (lw_at lw_m9 155 rfl) rfl
theorem q2176 : (Jvm.Cond.code ({ cls := "ExactChainsModel", name := "cell", desc := "(II)I" } : Jvm.MethodName) prog_12_method_34_code (3 : Nat) (Option.some Jvm.ClassFile.FieldType.int)) ∈ lw_all := lw_g (lw_at lw_m9 156 rfl) rfl
theorem q2177 : (Jvm.Cond.methodLink "ExactChainsModel" (181 : Nat) ({ cls := "ExactChainsModel", name := "isPlace", desc := "(I)Z" } : Jvm.MethodName)) ∈ lw_all := lw_g (lw_at lw_m9 157 rfl) rfl
theorem q2178 : (Jvm.Cond.privateMethod ({ cls := "ExactChainsModel", name := "isPlace", desc := "(I)Z" } : Jvm.MethodName)) ∈ lw_tbl := lw_at lw_m9 158 rfl
theorem q2179 : (Jvm.Cond.instanceMethod ({ cls := "ExactChainsModel", name := "isPlace", desc := "(I)Z" } : Jvm.MethodName)) ∈ lw_all := lw_g (lw_at lw_m9 159 rfl) rfl
theorem q2180 : (Jvm.Cond.code ({ cls := "ExactChainsModel", name := "isPlace", desc := "(I)Z" } : Jvm.MethodName) prog_12_method_30_code (2 : Nat) (Option.some Jvm.ClassFile.FieldType.boolean)) ∈ lw_all := lw_g (lw_at lw_m9 160 rfl) rfl
theorem q2181 : (Jvm.Cond.methodLink "ExactChainsModel" (184 : Nat) ({ cls := "ExactChainsModel", name := "cellOf", desc := "(II)I" } : Jvm.MethodName)) ∈ lw_all := lw_g (lw_at lw_m9 161 rfl) rfl
theorem q2182 : (Jvm.Cond.privateMethod ({ cls := "ExactChainsModel", name := "cellOf", desc := "(II)I" } : Jvm.MethodName)) ∈ lw_tbl := lw_at lw_m9 162 rfl
theorem q2183 : (Jvm.Cond.instanceMethod ({ cls := "ExactChainsModel", name := "cellOf", desc := "(II)I" } : Jvm.MethodName)) ∈ lw_all := lw_g (lw_at lw_m9 163 rfl) rfl
theorem q2184 : (Jvm.Cond.code ({ cls := "ExactChainsModel", name := "cellOf", desc := "(II)I" } : Jvm.MethodName) prog_12_method_32_code (3 : Nat) (Option.some Jvm.ClassFile.FieldType.int)) ∈ lw_all := lw_g (lw_at lw_m9 164 rfl) rfl
theorem q2186 : (Jvm.Cond.instanceMethod ({ cls := "ExactChainsModel", name := "start", desc := "(I)I" } : Jvm.MethodName)) ∈ lw_all := lw_g (lw_at lw_m9 166 rfl) rfl
theorem q2187 : (Jvm.Cond.selects "ExactChainsModel" ({ cls := "ExactChainsModel", name := "start", desc := "(I)I" } : Jvm.MethodName) ({ cls := "ExactChainsModel", name := "start", desc := "(I)I" } : Jvm.MethodName)) ∈ lw_all := lw_g (lw_at lw_m9 167 rfl) rfl
theorem q2188 : (Jvm.Cond.code ({ cls := "ExactChainsModel", name := "start", desc := "(I)I" } : Jvm.MethodName) prog_12_method_35_code (2 : Nat) (Option.some Jvm.ClassFile.FieldType.int)) ∈ lw_all := lw_g (lw_at lw_m9 168 rfl) rfl
theorem q2190 : (Jvm.Cond.instanceMethod ({ cls := "ExactChainsModel", name := "setCell", desc := "(III)I" } : Jvm.MethodName)) ∈ lw_all := lw_g (lw_at lw_m9 170 rfl) rfl
theorem q2191 : (Jvm.Cond.selects "ExactChainsModel" ({ cls := "ExactChainsModel", name := "setCell", desc := "(III)I" } : Jvm.MethodName) ({ cls := "ExactChainsModel", name := "setCell", desc := "(III)I" } : Jvm.MethodName)) ∈ lw_all := lw_g (lw_at lw_m9 171 rfl) rfl
theorem q2192 : (Jvm.Cond.code ({ cls := "ExactChainsModel", name := "setCell", desc := "(III)I" } : Jvm.MethodName) prog_12_method_37_code (5 : Nat) (Option.some Jvm.ClassFile.FieldType.int)) ∈ lw_all := lw_g (lw_at lw_m9 172 rfl) rfl
theorem q2193 : (Jvm.Cond.methodLink "ExactChainsModel" (187 : Nat) ({ cls := "ExactChainsModel", name := "isNumber", desc := "(I)Z" } : Jvm.MethodName)) ∈ lw_all := lw_g (lw_at lw_m9 173 rfl) rfl
theorem q2194 : (Jvm.Cond.privateMethod ({ cls := "ExactChainsModel", name := "isNumber", desc := "(I)Z" } : Jvm.MethodName)) ∈ lw_tbl := lw_at lw_m9 174 rfl
theorem q2195 : (Jvm.Cond.instanceMethod ({ cls := "ExactChainsModel", name := "isNumber", desc := "(I)Z" } : Jvm.MethodName)) ∈ lw_all := lw_g (lw_at lw_m9 175 rfl) rfl
theorem q2196 : (Jvm.Cond.code ({ cls := "ExactChainsModel", name := "isNumber", desc := "(I)Z" } : Jvm.MethodName) prog_12_method_31_code (2 : Nat) (Option.some Jvm.ClassFile.FieldType.boolean)) ∈ lw_all := lw_g (lw_at lw_m9 176 rfl) rfl
theorem q2197 : (Jvm.Cond.methodLink "ExactChainsModel" (190 : Nat) ({ cls := "ExactChainsModel", name := "resets", desc := "()V" } : Jvm.MethodName)) ∈ lw_all := lw_g (lw_at lw_m9 177 rfl) rfl
theorem q2198 : (Jvm.Cond.privateMethod ({ cls := "ExactChainsModel", name := "resets", desc := "()V" } : Jvm.MethodName)) ∈ lw_tbl := lw_at lw_m9 178 rfl
theorem q2199 : (Jvm.Cond.instanceMethod ({ cls := "ExactChainsModel", name := "resets", desc := "()V" } : Jvm.MethodName)) ∈ lw_all := lw_g (lw_at lw_m9 179 rfl) rfl
theorem q2200 : (Jvm.Cond.code ({ cls := "ExactChainsModel", name := "resets", desc := "()V" } : Jvm.MethodName) prog_12_method_36_code (2 : Nat) (Option.none : Option Jvm.ClassFile.FieldType)) ∈ lw_all := lw_g (lw_at lw_m9 180 rfl) rfl
theorem q2202 : (Jvm.Cond.instanceMethod ({ cls := "ExactChainsModel", name := "setStart", desc := "(II)I" } : Jvm.MethodName)) ∈ lw_all := lw_g (lw_at lw_m9 182 rfl) rfl
theorem q2203 : (Jvm.Cond.selects "ExactChainsModel" ({ cls := "ExactChainsModel", name := "setStart", desc := "(II)I" } : Jvm.MethodName) ({ cls := "ExactChainsModel", name := "setStart", desc := "(II)I" } : Jvm.MethodName)) ∈ lw_all := lw_g (lw_at lw_m9 183 rfl) rfl
theorem q2204 : (Jvm.Cond.code ({ cls := "ExactChainsModel", name := "setStart", desc := "(II)I" } : Jvm.MethodName) prog_12_method_38_code (4 : Nat) (Option.some Jvm.ClassFile.FieldType.int)) ∈ lw_all := lw_g (lw_at lw_m9 184 rfl) rfl
theorem q2206 : (Jvm.Cond.instanceMethod ({ cls := "ExactChainsModel", name := "setLimit", desc := "(I)I" } : Jvm.MethodName)) ∈ lw_all := lw_g (lw_at lw_m9 186 rfl) rfl
theorem q2207 : (Jvm.Cond.selects "ExactChainsModel" ({ cls := "ExactChainsModel", name := "setLimit", desc := "(I)I" } : Jvm.MethodName) ({ cls := "ExactChainsModel", name := "setLimit", desc := "(I)I" } : Jvm.MethodName)) ∈ lw_all := lw_g (lw_at lw_m9 187 rfl) rfl
theorem q2208 : (Jvm.Cond.code ({ cls := "ExactChainsModel", name := "setLimit", desc := "(I)I" } : Jvm.MethodName) prog_12_method_40_code (2 : Nat) (Option.some Jvm.ClassFile.FieldType.int)) ∈ lw_all := lw_g (lw_at lw_m9 188 rfl) rfl
theorem q2209 : (Jvm.Cond.methodLink "ExactChainsModel" (193 : Nat) ({ cls := "ExactChainsModel", name := "sets", desc := "(II)I" } : Jvm.MethodName)) ∈ lw_all := lw_g (lw_at lw_m9 189 rfl) rfl
theorem q2210 : (Jvm.Cond.privateMethod ({ cls := "ExactChainsModel", name := "sets", desc := "(II)I" } : Jvm.MethodName)) ∈ lw_tbl := lw_at lw_m9 190 rfl
theorem q2211 : (Jvm.Cond.instanceMethod ({ cls := "ExactChainsModel", name := "sets", desc := "(II)I" } : Jvm.MethodName)) ∈ lw_all := lw_g (lw_at lw_m9 191 rfl) rfl
theorem q2212 : (Jvm.Cond.code ({ cls := "ExactChainsModel", name := "sets", desc := "(II)I" } : Jvm.MethodName) prog_12_method_39_code (4 : Nat) (Option.some Jvm.ClassFile.FieldType.int)) ∈ lw_all := lw_g (lw_at lw_m9 192 rfl) rfl
theorem q2214 : (Jvm.Cond.instanceMethod ({ cls := "ExactChainsModel", name := "setRestarts", desc := "(I)I" } : Jvm.MethodName)) ∈ lw_all := lw_g (lw_at lw_m9 194 rfl) rfl
theorem q2215 : (Jvm.Cond.selects "ExactChainsModel" ({ cls := "ExactChainsModel", name := "setRestarts", desc := "(I)I" } : Jvm.MethodName) ({ cls := "ExactChainsModel", name := "setRestarts", desc := "(I)I" } : Jvm.MethodName)) ∈ lw_all := lw_g (lw_at lw_m9 195 rfl) rfl
theorem q2216 : (Jvm.Cond.code ({ cls := "ExactChainsModel", name := "setRestarts", desc := "(I)I" } : Jvm.MethodName) prog_12_method_41_code (2 : Nat) (Option.some Jvm.ClassFile.FieldType.int)) ∈ lw_all := lw_g (lw_at lw_m9 196 rfl) rfl
theorem q2218 : (Jvm.Cond.instanceMethod ({ cls := "ExactChainsModel", name := "setFull", desc := "(Z)Z" } : Jvm.MethodName)) ∈ lw_all := lw_g (lw_at lw_m9 198 rfl) rfl
theorem q2219 : (Jvm.Cond.selects "ExactChainsModel" ({ cls := "ExactChainsModel", name := "setFull", desc := "(Z)Z" } : Jvm.MethodName) ({ cls := "ExactChainsModel", name := "setFull", desc := "(Z)Z" } : Jvm.MethodName)) ∈ lw_all := lw_g (lw_at lw_m9 199 rfl) rfl
theorem q2220 : (Jvm.Cond.code ({ cls := "ExactChainsModel", name := "setFull", desc := "(Z)Z" } : Jvm.MethodName) prog_12_method_42_code (2 : Nat) (Option.some Jvm.ClassFile.FieldType.boolean)) ∈ lw_all := lw_g (lw_at lw_m9 200 rfl) rfl
theorem q2222 : (Jvm.Cond.instanceMethod ({ cls := "ExactChainsModel", name := "step", desc := "()I" } : Jvm.MethodName)) ∈ lw_all := lw_g (lw_at lw_m9 202 rfl) rfl
theorem q2223 : (Jvm.Cond.selects "ExactChainsModel" ({ cls := "ExactChainsModel", name := "step", desc := "()I" } : Jvm.MethodName) ({ cls := "ExactChainsModel", name := "step", desc := "()I" } : Jvm.MethodName)) ∈ lw_all := lw_g (lw_at lw_m9 203 rfl) rfl
theorem q2224 : (Jvm.Cond.code ({ cls := "ExactChainsModel", name := "step", desc := "()I" } : Jvm.MethodName) prog_12_method_61_code (1 : Nat) (Option.some Jvm.ClassFile.FieldType.int)) ∈ lw_all := lw_g (lw_at lw_m9 204 rfl) rfl
theorem q2225 : (Jvm.Cond.methodLink "ExactChainsModel" (255 : Nat) ({ cls := "ExactChainsModel", name := "steps", desc := "()I" } : Jvm.MethodName)) ∈ lw_all := lw_g (lw_at lw_m9 205 rfl) rfl
theorem q2226 : (Jvm.Cond.privateMethod ({ cls := "ExactChainsModel", name := "steps", desc := "()I" } : Jvm.MethodName)) ∈ lw_tbl := lw_at lw_m9 206 rfl
theorem q2227 : (Jvm.Cond.instanceMethod ({ cls := "ExactChainsModel", name := "steps", desc := "()I" } : Jvm.MethodName)) ∈ lw_all := lw_g (lw_at lw_m9 207 rfl) rfl
theorem q2228 : (Jvm.Cond.code ({ cls := "ExactChainsModel", name := "steps", desc := "()I" } : Jvm.MethodName) prog_12_method_60_code (2 : Nat) (Option.some Jvm.ClassFile.FieldType.int)) ∈ lw_all := lw_g (lw_at lw_m9 208 rfl) rfl
theorem q2229 : (Jvm.Cond.methodLink "ExactChainsModel" (231 : Nat) ({ cls := "ExactChainsModel", name := "directionsOf", desc := "(I)I" } : Jvm.MethodName)) ∈ lw_all := lw_g (lw_at lw_m9 209 rfl) rfl
theorem q2230 : (Jvm.Cond.privateMethod ({ cls := "ExactChainsModel", name := "directionsOf", desc := "(I)I" } : Jvm.MethodName)) ∈ lw_tbl := lw_at lw_m9 210 rfl
theorem q2231 : (Jvm.Cond.instanceMethod ({ cls := "ExactChainsModel", name := "directionsOf", desc := "(I)I" } : Jvm.MethodName)) ∈ lw_all := lw_g (lw_at lw_m9 211 rfl) rfl
theorem q2232 : (Jvm.Cond.code ({ cls := "ExactChainsModel", name := "directionsOf", desc := "(I)I" } : Jvm.MethodName) prog_12_method_54_code (4 : Nat) (Option.some Jvm.ClassFile.FieldType.int)) ∈ lw_all := lw_g (lw_at lw_m9 212 rfl) rfl
theorem q2233 : (Jvm.Cond.methodLink "ExactChainsModel" (244 : Nat) ({ cls := "ExactChainsModel", name := "ends", desc := "(I)I" } : Jvm.MethodName)) ∈ lw_all := lw_g (lw_at lw_m9 213 rfl) rfl
theorem q2234 : (Jvm.Cond.privateMethod ({ cls := "ExactChainsModel", name := "ends", desc := "(I)I" } : Jvm.MethodName)) ∈ lw_tbl := lw_at lw_m9 214 rfl
theorem q2235 : (Jvm.Cond.instanceMethod ({ cls := "ExactChainsModel", name := "ends", desc := "(I)I" } : Jvm.MethodName)) ∈ lw_all := lw_g (lw_at lw_m9 215 rfl) rfl
theorem q2236 : (Jvm.Cond.code ({ cls := "ExactChainsModel", name := "ends", desc := "(I)I" } : Jvm.MethodName) prog_12_method_58_code (2 : Nat) (Option.some Jvm.ClassFile.FieldType.int)) ∈ lw_all := lw_g (lw_at lw_m9 216 rfl) rfl
theorem q2237 : (Jvm.Cond.methodLink "ExactChainsModel" (247 : Nat) ({ cls := "ExactChainsModel", name := "follows", desc := "()V" } : Jvm.MethodName)) ∈ lw_all := lw_g (lw_at lw_m9 217 rfl) rfl
theorem q2238 : (Jvm.Cond.privateMethod ({ cls := "ExactChainsModel", name := "follows", desc := "()V" } : Jvm.MethodName)) ∈ lw_tbl := lw_at lw_m9 218 rfl
theorem q2239 : (Jvm.Cond.instanceMethod ({ cls := "ExactChainsModel", name := "follows", desc := "()V" } : Jvm.MethodName)) ∈ lw_all := lw_g (lw_at lw_m9 219 rfl) rfl
theorem q2240 : (Jvm.Cond.code ({ cls := "ExactChainsModel", name := "follows", desc := "()V" } : Jvm.MethodName) prog_12_method_56_code (3 : Nat) (Option.none : Option Jvm.ClassFile.FieldType)) ∈ lw_all := lw_g (lw_at lw_m9 220 rfl) rfl
theorem q2241 : (Jvm.Cond.methodLink "ExactChainsModel" (219 : Nat) ({ cls := "ExactChainsModel", name := "lays", desc := "(I[I)V" } : Jvm.MethodName)) ∈ lw_all := lw_g (lw_at lw_m9 221 rfl) rfl
theorem q2242 : (Jvm.Cond.privateMethod ({ cls := "ExactChainsModel", name := "lays", desc := "(I[I)V" } : Jvm.MethodName)) ∈ lw_tbl := lw_at lw_m9 222 rfl
theorem q2243 : (Jvm.Cond.instanceMethod ({ cls := "ExactChainsModel", name := "lays", desc := "(I[I)V" } : Jvm.MethodName)) ∈ lw_all := lw_g (lw_at lw_m9 223 rfl) rfl
theorem q2244 : (Jvm.Cond.code ({ cls := "ExactChainsModel", name := "lays", desc := "(I[I)V" } : Jvm.MethodName) prog_12_method_47_code (4 : Nat) (Option.none : Option Jvm.ClassFile.FieldType)) ∈ lw_all := lw_g (lw_at lw_m9 224 rfl) rfl
theorem q2245 : (Jvm.Cond.methodLink "ExactChainsModel" (196 : Nat) ({ cls := "ExactChainsModel", name := "wayOf", desc := "(II)I" } : Jvm.MethodName)) ∈ lw_all := lw_g (lw_at lw_m9 225 rfl) rfl
theorem q2246 : (Jvm.Cond.privateMethod ({ cls := "ExactChainsModel", name := "wayOf", desc := "(II)I" } : Jvm.MethodName)) ∈ lw_tbl := lw_at lw_m9 226 rfl
theorem q2247 : (Jvm.Cond.instanceMethod ({ cls := "ExactChainsModel", name := "wayOf", desc := "(II)I" } : Jvm.MethodName)) ∈ lw_all := lw_g (lw_at lw_m9 227 rfl) rfl
theorem q2248 : (Jvm.Cond.code ({ cls := "ExactChainsModel", name := "wayOf", desc := "(II)I" } : Jvm.MethodName) prog_12_method_43_code (3 : Nat) (Option.some Jvm.ClassFile.FieldType.int)) ∈ lw_all := lw_g (lw_at lw_m9 228 rfl) rfl
theorem q2249 : (Jvm.Cond.methodLink "ExactChainsModel" (223 : Nat) ({ cls := "ExactChainsModel", name := "multiplies", desc := "([I[I)V" } : Jvm.MethodName)) ∈ lw_all := lw_g (lw_at lw_m9 229 rfl) rfl
theorem q2250 : (Jvm.Cond.privateMethod ({ cls := "ExactChainsModel", name := "multiplies", desc := "([I[I)V" } : Jvm.MethodName)) ∈ lw_tbl := lw_at lw_m9 230 rfl
theorem q2251 : (Jvm.Cond.instanceMethod ({ cls := "ExactChainsModel", name := "multiplies", desc := "([I[I)V" } : Jvm.MethodName)) ∈ lw_all := lw_g (lw_at lw_m9 231 rfl) rfl
theorem q2252 : (Jvm.Cond.code ({ cls := "ExactChainsModel", name := "multiplies", desc := "([I[I)V" } : Jvm.MethodName) prog_12_method_46_code (6 : Nat) (Option.none : Option Jvm.ClassFile.FieldType)) ∈ lw_all := lw_g (lw_at lw_m9 232 rfl) rfl
theorem q2253 : (Jvm.Cond.methodLink "ExactChainsModel" (199 : Nat) ({ cls := "ExactChainsModel", name := "mod", desc := "(I)I" } : Jvm.MethodName)) ∈ lw_all := lw_g (lw_at lw_m9 233 rfl) rfl
theorem q2254 : (Jvm.Cond.privateMethod ({ cls := "ExactChainsModel", name := "mod", desc := "(I)I" } : Jvm.MethodName)) ∈ lw_tbl := lw_at lw_m9 234 rfl
theorem q2255 : (Jvm.Cond.instanceMethod ({ cls := "ExactChainsModel", name := "mod", desc := "(I)I" } : Jvm.MethodName)) ∈ lw_all := lw_g (lw_at lw_m9 235 rfl) rfl
theorem q2256 : (Jvm.Cond.code ({ cls := "ExactChainsModel", name := "mod", desc := "(I)I" } : Jvm.MethodName) prog_12_method_27_code (2 : Nat) (Option.some Jvm.ClassFile.FieldType.int)) ∈ lw_all := lw_g (lw_at lw_m9 236 rfl) rfl
theorem q2257 : (Jvm.Cond.methodLink "ExactChainsModel" (173 : Nat) ({ cls := "java/lang/Math", name := "floorMod", desc := "(II)I" } : Jvm.MethodName)) ∈ lw_all := lw_g (lw_at lw_m9 237 rfl) rfl
theorem q2260 : (Jvm.Cond.methodLink "ExactChainsModel" (227 : Nat) ({ cls := "ExactChainsModel", name := "remains", desc := "([I)V" } : Jvm.MethodName)) ∈ lw_all := lw_g (lw_at lw_m10 0 rfl) rfl
theorem q2261 : (Jvm.Cond.privateMethod ({ cls := "ExactChainsModel", name := "remains", desc := "([I)V" } : Jvm.MethodName)) ∈ lw_tbl := lw_at lw_m10 1 rfl
theorem q2262 : (Jvm.Cond.instanceMethod ({ cls := "ExactChainsModel", name := "remains", desc := "([I)V" } : Jvm.MethodName)) ∈ lw_all := lw_g (lw_at lw_m10 2 rfl) rfl
theorem q2263 : (Jvm.Cond.code ({ cls := "ExactChainsModel", name := "remains", desc := "([I)V" } : Jvm.MethodName) prog_12_method_50_code (3 : Nat) (Option.none : Option Jvm.ClassFile.FieldType)) ∈ lw_all := lw_g (lw_at lw_m10 3 rfl) rfl
theorem q2264 : (Jvm.Cond.methodLink "ExactChainsModel" (211 : Nat) ({ cls := "ExactChainsModel", name := "partOf", desc := "([II)I" } : Jvm.MethodName)) ∈ lw_all := lw_g (lw_at lw_m10 4 rfl) rfl
theorem q2265 : (Jvm.Cond.privateMethod ({ cls := "ExactChainsModel", name := "partOf", desc := "([II)I" } : Jvm.MethodName)) ∈ lw_tbl := lw_at lw_m10 5 rfl
theorem q2266 : (Jvm.Cond.instanceMethod ({ cls := "ExactChainsModel", name := "partOf", desc := "([II)I" } : Jvm.MethodName)) ∈ lw_all := lw_g (lw_at lw_m10 6 rfl) rfl
theorem q2267 : (Jvm.Cond.code ({ cls := "ExactChainsModel", name := "partOf", desc := "([II)I" } : Jvm.MethodName) prog_12_method_48_code (5 : Nat) (Option.some Jvm.ClassFile.FieldType.int)) ∈ lw_all := lw_g (lw_at lw_m10 7 rfl) rfl
theorem q2268 : (Jvm.Cond.methodLink "ExactChainsModel" (205 : Nat) ({ cls := "ExactChainsModel", name := "normOf", desc := "(I)I" } : Jvm.MethodName)) ∈ lw_all := lw_g (lw_at lw_m10 8 rfl) rfl
theorem q2269 : (Jvm.Cond.privateMethod ({ cls := "ExactChainsModel", name := "normOf", desc := "(I)I" } : Jvm.MethodName)) ∈ lw_tbl := lw_at lw_m10 9 rfl
theorem q2270 : (Jvm.Cond.instanceMethod ({ cls := "ExactChainsModel", name := "normOf", desc := "(I)I" } : Jvm.MethodName)) ∈ lw_all := lw_g (lw_at lw_m10 10 rfl) rfl
theorem q2271 : (Jvm.Cond.code ({ cls := "ExactChainsModel", name := "normOf", desc := "(I)I" } : Jvm.MethodName) prog_12_method_45_code (2 : Nat) (Option.some Jvm.ClassFile.FieldType.int)) ∈ lw_all := lw_g (lw_at lw_m10 11 rfl) rfl
theorem q2272 : (Jvm.Cond.methodLink "ExactChainsModel" (202 : Nat) ({ cls := "ExactChainsModel", name := "productOf", desc := "(II)I" } : Jvm.MethodName)) ∈ lw_all := lw_g (lw_at lw_m10 12 rfl) rfl
theorem q2273 : (Jvm.Cond.privateMethod ({ cls := "ExactChainsModel", name := "productOf", desc := "(II)I" } : Jvm.MethodName)) ∈ lw_tbl := lw_at lw_m10 13 rfl
theorem q2274 : (Jvm.Cond.instanceMethod ({ cls := "ExactChainsModel", name := "productOf", desc := "(II)I" } : Jvm.MethodName)) ∈ lw_all := lw_g (lw_at lw_m10 14 rfl) rfl
theorem q2275 : (Jvm.Cond.code ({ cls := "ExactChainsModel", name := "productOf", desc := "(II)I" } : Jvm.MethodName) prog_12_method_44_code (5 : Nat) (Option.some Jvm.ClassFile.FieldType.int)) ∈ lw_all := lw_g (lw_at lw_m10 15 rfl) rfl
theorem q2276 : (Jvm.Cond.methodLink "ExactChainsModel" (208 : Nat) ({ cls := "ExactChainsModel", name := "quotient", desc := "(II)I" } : Jvm.MethodName)) ∈ lw_all := lw_g (lw_at lw_m10 16 rfl) rfl
theorem q2277 : (Jvm.Cond.privateMethod ({ cls := "ExactChainsModel", name := "quotient", desc := "(II)I" } : Jvm.MethodName)) ∈ lw_tbl := lw_at lw_m10 17 rfl
theorem q2278 : (Jvm.Cond.instanceMethod ({ cls := "ExactChainsModel", name := "quotient", desc := "(II)I" } : Jvm.MethodName)) ∈ lw_all := lw_g (lw_at lw_m10 18 rfl) rfl
theorem q2279 : (Jvm.Cond.code ({ cls := "ExactChainsModel", name := "quotient", desc := "(II)I" } : Jvm.MethodName) prog_12_method_29_code (3 : Nat) (Option.some Jvm.ClassFile.FieldType.int)) ∈ lw_all := lw_g (lw_at lw_m10 19 rfl) rfl
theorem q2280 : (Jvm.Cond.methodLink "ExactChainsModel" (178 : Nat) ({ cls := "ExactChainsModel", name := "inverse", desc := "(I)I" } : Jvm.MethodName)) ∈ lw_all := lw_g (lw_at lw_m10 20 rfl) rfl
theorem q2281 : (Jvm.Cond.privateMethod ({ cls := "ExactChainsModel", name := "inverse", desc := "(I)I" } : Jvm.MethodName)) ∈ lw_tbl := lw_at lw_m10 21 rfl
theorem q2282 : (Jvm.Cond.instanceMethod ({ cls := "ExactChainsModel", name := "inverse", desc := "(I)I" } : Jvm.MethodName)) ∈ lw_all := lw_g (lw_at lw_m10 22 rfl) rfl
theorem q2283 : (Jvm.Cond.code ({ cls := "ExactChainsModel", name := "inverse", desc := "(I)I" } : Jvm.MethodName) prog_12_method_28_code (3 : Nat) (Option.some Jvm.ClassFile.FieldType.int)) ∈ lw_all := lw_g (lw_at lw_m10 23 rfl) rfl
theorem q2284 : (Jvm.Cond.methodLink "ExactChainsModel" (215 : Nat) ({ cls := "ExactChainsModel", name := "takesAway", desc := "([III)V" } : Jvm.MethodName)) ∈ lw_all := lw_g (lw_at lw_m10 24 rfl) rfl
theorem q2285 : (Jvm.Cond.privateMethod ({ cls := "ExactChainsModel", name := "takesAway", desc := "([III)V" } : Jvm.MethodName)) ∈ lw_tbl := lw_at lw_m10 25 rfl
theorem q2286 : (Jvm.Cond.instanceMethod ({ cls := "ExactChainsModel", name := "takesAway", desc := "([III)V" } : Jvm.MethodName)) ∈ lw_all := lw_g (lw_at lw_m10 26 rfl) rfl
theorem q2287 : (Jvm.Cond.code ({ cls := "ExactChainsModel", name := "takesAway", desc := "([III)V" } : Jvm.MethodName) prog_12_method_49_code (5 : Nat) (Option.none : Option Jvm.ClassFile.FieldType)) ∈ lw_all := lw_g (lw_at lw_m10 27 rfl) rfl
theorem q2288 : (Jvm.Cond.methodLink "ExactChainsModel" (250 : Nat) ({ cls := "ExactChainsModel", name := "restarts", desc := "()Z" } : Jvm.MethodName)) ∈ lw_all := lw_g (lw_at lw_m10 28 rfl) rfl
theorem q2289 : (Jvm.Cond.privateMethod ({ cls := "ExactChainsModel", name := "restarts", desc := "()Z" } : Jvm.MethodName)) ∈ lw_tbl := lw_at lw_m10 29 rfl
theorem q2290 : (Jvm.Cond.instanceMethod ({ cls := "ExactChainsModel", name := "restarts", desc := "()Z" } : Jvm.MethodName)) ∈ lw_all := lw_g (lw_at lw_m10 30 rfl) rfl
theorem q2291 : (Jvm.Cond.code ({ cls := "ExactChainsModel", name := "restarts", desc := "()Z" } : Jvm.MethodName) prog_12_method_57_code (1 : Nat) (Option.some Jvm.ClassFile.FieldType.boolean)) ∈ lw_all := lw_g (lw_at lw_m10 31 rfl) rfl
theorem q2292 : (Jvm.Cond.methodLink "ExactChainsModel" (234 : Nat) ({ cls := "ExactChainsModel", name := "laysUnit", desc := "(I[I)V" } : Jvm.MethodName)) ∈ lw_all := lw_g (lw_at lw_m10 32 rfl) rfl
theorem q2293 : (Jvm.Cond.privateMethod ({ cls := "ExactChainsModel", name := "laysUnit", desc := "(I[I)V" } : Jvm.MethodName)) ∈ lw_tbl := lw_at lw_m10 33 rfl
theorem q2294 : (Jvm.Cond.instanceMethod ({ cls := "ExactChainsModel", name := "laysUnit", desc := "(I[I)V" } : Jvm.MethodName)) ∈ lw_all := lw_g (lw_at lw_m10 34 rfl) rfl
theorem q2295 : (Jvm.Cond.code ({ cls := "ExactChainsModel", name := "laysUnit", desc := "(I[I)V" } : Jvm.MethodName) prog_12_method_51_code (4 : Nat) (Option.none : Option Jvm.ClassFile.FieldType)) ∈ lw_all := lw_g (lw_at lw_m10 35 rfl) rfl
theorem q2296 : (Jvm.Cond.methodLink "ExactChainsModel" (237 : Nat) ({ cls := "ExactChainsModel", name := "ownProduct", desc := "()I" } : Jvm.MethodName)) ∈ lw_all := lw_g (lw_at lw_m10 36 rfl) rfl
theorem q2297 : (Jvm.Cond.privateMethod ({ cls := "ExactChainsModel", name := "ownProduct", desc := "()I" } : Jvm.MethodName)) ∈ lw_tbl := lw_at lw_m10 37 rfl
theorem q2298 : (Jvm.Cond.instanceMethod ({ cls := "ExactChainsModel", name := "ownProduct", desc := "()I" } : Jvm.MethodName)) ∈ lw_all := lw_g (lw_at lw_m10 38 rfl) rfl
theorem q2299 : (Jvm.Cond.code ({ cls := "ExactChainsModel", name := "ownProduct", desc := "()I" } : Jvm.MethodName) prog_12_method_53_code (3 : Nat) (Option.some Jvm.ClassFile.FieldType.int)) ∈ lw_all := lw_g (lw_at lw_m10 39 rfl) rfl
theorem q2300 : (Jvm.Cond.methodLink "ExactChainsModel" (252 : Nat) ({ cls := "ExactChainsModel", name := "judges", desc := "()I" } : Jvm.MethodName)) ∈ lw_all := lw_g (lw_at lw_m10 40 rfl) rfl
theorem q2301 : (Jvm.Cond.privateMethod ({ cls := "ExactChainsModel", name := "judges", desc := "()I" } : Jvm.MethodName)) ∈ lw_tbl := lw_at lw_m10 41 rfl
theorem q2302 : (Jvm.Cond.instanceMethod ({ cls := "ExactChainsModel", name := "judges", desc := "()I" } : Jvm.MethodName)) ∈ lw_all := lw_g (lw_at lw_m10 42 rfl) rfl
theorem q2303 : (Jvm.Cond.code ({ cls := "ExactChainsModel", name := "judges", desc := "()I" } : Jvm.MethodName) prog_12_method_59_code (2 : Nat) (Option.some Jvm.ClassFile.FieldType.int)) ∈ lw_all := lw_g (lw_at lw_m10 43 rfl) rfl
theorem q2304 : (Jvm.Cond.methodLink "ExactChainsModel" (240 : Nat) ({ cls := "ExactChainsModel", name := "isZero", desc := "()Z" } : Jvm.MethodName)) ∈ lw_all := lw_g (lw_at lw_m10 44 rfl) rfl
theorem q2305 : (Jvm.Cond.privateMethod ({ cls := "ExactChainsModel", name := "isZero", desc := "()Z" } : Jvm.MethodName)) ∈ lw_tbl := lw_at lw_m10 45 rfl
theorem q2306 : (Jvm.Cond.instanceMethod ({ cls := "ExactChainsModel", name := "isZero", desc := "()Z" } : Jvm.MethodName)) ∈ lw_all := lw_g (lw_at lw_m10 46 rfl) rfl
theorem q2307 : (Jvm.Cond.code ({ cls := "ExactChainsModel", name := "isZero", desc := "()Z" } : Jvm.MethodName) prog_12_method_52_code (3 : Nat) (Option.some Jvm.ClassFile.FieldType.boolean)) ∈ lw_all := lw_g (lw_at lw_m10 47 rfl) rfl
theorem q2309 : (Jvm.Cond.instanceMethod ({ cls := "ExactChainsModel", name := "run", desc := "(I)I" } : Jvm.MethodName)) ∈ lw_all := lw_g (lw_at lw_m10 49 rfl) rfl
theorem q2310 : (Jvm.Cond.selects "ExactChainsModel" ({ cls := "ExactChainsModel", name := "run", desc := "(I)I" } : Jvm.MethodName) ({ cls := "ExactChainsModel", name := "run", desc := "(I)I" } : Jvm.MethodName)) ∈ lw_all := lw_g (lw_at lw_m10 50 rfl) rfl
theorem q2311 : (Jvm.Cond.code ({ cls := "ExactChainsModel", name := "run", desc := "(I)I" } : Jvm.MethodName) prog_12_method_62_code (4 : Nat) (Option.some Jvm.ClassFile.FieldType.int)) ∈ lw_all := lw_g (lw_at lw_m10 51 rfl) rfl
theorem q2313 : (Jvm.Cond.instanceMethod ({ cls := "ExactChainsModel", name := "reset", desc := "()I" } : Jvm.MethodName)) ∈ lw_all := lw_g (lw_at lw_m10 53 rfl) rfl
theorem q2314 : (Jvm.Cond.selects "ExactChainsModel" ({ cls := "ExactChainsModel", name := "reset", desc := "()I" } : Jvm.MethodName) ({ cls := "ExactChainsModel", name := "reset", desc := "()I" } : Jvm.MethodName)) ∈ lw_all := lw_g (lw_at lw_m10 54 rfl) rfl
theorem q2315 : (Jvm.Cond.code ({ cls := "ExactChainsModel", name := "reset", desc := "()I" } : Jvm.MethodName) prog_12_method_63_code (2 : Nat) (Option.some Jvm.ClassFile.FieldType.int)) ∈ lw_all := lw_g (lw_at lw_m10 55 rfl) rfl
theorem q2317 : (Jvm.Cond.instanceMethod ({ cls := "ExactChainsModel", name := "chain", desc := "(II)I" } : Jvm.MethodName)) ∈ lw_all := lw_g (lw_at lw_m10 57 rfl) rfl
theorem q2318 : (Jvm.Cond.selects "ExactChainsModel" ({ cls := "ExactChainsModel", name := "chain", desc := "(II)I" } : Jvm.MethodName) ({ cls := "ExactChainsModel", name := "chain", desc := "(II)I" } : Jvm.MethodName)) ∈ lw_all := lw_g (lw_at lw_m10 58 rfl) rfl
theorem q2319 : (Jvm.Cond.code ({ cls := "ExactChainsModel", name := "chain", desc := "(II)I" } : Jvm.MethodName) prog_12_method_69_code (3 : Nat) (Option.some Jvm.ClassFile.FieldType.int)) ∈ lw_all := lw_g (lw_at lw_m10 59 rfl) rfl
theorem q2320 : (Jvm.Cond.methodLink "ExactChainsModel" (273 : Nat) ({ cls := "ExactChainsModel", name := "isChain", desc := "(I)Z" } : Jvm.MethodName)) ∈ lw_all := lw_g (lw_at lw_m10 60 rfl) rfl
theorem q2321 : (Jvm.Cond.privateMethod ({ cls := "ExactChainsModel", name := "isChain", desc := "(I)Z" } : Jvm.MethodName)) ∈ lw_tbl := lw_at lw_m10 61 rfl
theorem q2322 : (Jvm.Cond.instanceMethod ({ cls := "ExactChainsModel", name := "isChain", desc := "(I)Z" } : Jvm.MethodName)) ∈ lw_all := lw_g (lw_at lw_m10 62 rfl) rfl
theorem q2323 : (Jvm.Cond.code ({ cls := "ExactChainsModel", name := "isChain", desc := "(I)Z" } : Jvm.MethodName) prog_12_method_68_code (2 : Nat) (Option.some Jvm.ClassFile.FieldType.boolean)) ∈ lw_all := lw_g (lw_at lw_m10 63 rfl) rfl
theorem q2324 : (Jvm.Cond.methodLink "ExactChainsModel" (261 : Nat) ({ cls := "ExactChainsModel", name := "firstOf", desc := "(I)I" } : Jvm.MethodName)) ∈ lw_all := lw_g (lw_at lw_m10 64 rfl) rfl
theorem q2325 : (Jvm.Cond.privateMethod ({ cls := "ExactChainsModel", name := "firstOf", desc := "(I)I" } : Jvm.MethodName)) ∈ lw_tbl := lw_at lw_m10 65 rfl
theorem q2326 : (Jvm.Cond.instanceMethod ({ cls := "ExactChainsModel", name := "firstOf", desc := "(I)I" } : Jvm.MethodName)) ∈ lw_all := lw_g (lw_at lw_m10 66 rfl) rfl
theorem q2327 : (Jvm.Cond.code ({ cls := "ExactChainsModel", name := "firstOf", desc := "(I)I" } : Jvm.MethodName) prog_12_method_55_code (3 : Nat) (Option.some Jvm.ClassFile.FieldType.int)) ∈ lw_all := lw_g (lw_at lw_m10 67 rfl) rfl
theorem q2328 : (Jvm.Cond.methodLink "ExactChainsModel" (276 : Nat) ({ cls := "ExactChainsModel", name := "rootsOf", desc := "(I)I" } : Jvm.MethodName)) ∈ lw_all := lw_g (lw_at lw_m10 68 rfl) rfl
theorem q2329 : (Jvm.Cond.privateMethod ({ cls := "ExactChainsModel", name := "rootsOf", desc := "(I)I" } : Jvm.MethodName)) ∈ lw_tbl := lw_at lw_m10 69 rfl
theorem q2330 : (Jvm.Cond.instanceMethod ({ cls := "ExactChainsModel", name := "rootsOf", desc := "(I)I" } : Jvm.MethodName)) ∈ lw_all := lw_g (lw_at lw_m10 70 rfl) rfl
theorem q2331 : (Jvm.Cond.code ({ cls := "ExactChainsModel", name := "rootsOf", desc := "(I)I" } : Jvm.MethodName) prog_12_method_67_code (5 : Nat) (Option.some Jvm.ClassFile.FieldType.int)) ∈ lw_all := lw_g (lw_at lw_m10 71 rfl) rfl
theorem q2332 : (Jvm.Cond.methodLink "ExactChainsModel" (267 : Nat) ({ cls := "ExactChainsModel", name := "works", desc := "(I)I" } : Jvm.MethodName)) ∈ lw_all := lw_g (lw_at lw_m10 72 rfl) rfl
theorem q2333 : (Jvm.Cond.privateMethod ({ cls := "ExactChainsModel", name := "works", desc := "(I)I" } : Jvm.MethodName)) ∈ lw_tbl := lw_at lw_m10 73 rfl
theorem q2334 : (Jvm.Cond.instanceMethod ({ cls := "ExactChainsModel", name := "works", desc := "(I)I" } : Jvm.MethodName)) ∈ lw_all := lw_g (lw_at lw_m10 74 rfl) rfl
theorem q2335 : (Jvm.Cond.code ({ cls := "ExactChainsModel", name := "works", desc := "(I)I" } : Jvm.MethodName) prog_12_method_65_code (8 : Nat) (Option.some Jvm.ClassFile.FieldType.int)) ∈ lw_all := lw_g (lw_at lw_m10 75 rfl) rfl
theorem q2336 : (Jvm.Cond.methodLink "ExactChainsModel" (264 : Nat) ({ cls := "ExactChainsModel", name := "projectedOf", desc := "(II)I" } : Jvm.MethodName)) ∈ lw_all := lw_g (lw_at lw_m10 76 rfl) rfl
theorem q2337 : (Jvm.Cond.privateMethod ({ cls := "ExactChainsModel", name := "projectedOf", desc := "(II)I" } : Jvm.MethodName)) ∈ lw_tbl := lw_at lw_m10 77 rfl
theorem q2338 : (Jvm.Cond.instanceMethod ({ cls := "ExactChainsModel", name := "projectedOf", desc := "(II)I" } : Jvm.MethodName)) ∈ lw_all := lw_g (lw_at lw_m10 78 rfl) rfl
theorem q2339 : (Jvm.Cond.code ({ cls := "ExactChainsModel", name := "projectedOf", desc := "(II)I" } : Jvm.MethodName) prog_12_method_64_code (3 : Nat) (Option.some Jvm.ClassFile.FieldType.int)) ∈ lw_all := lw_g (lw_at lw_m10 79 rfl) rfl
theorem q2340 : (Jvm.Cond.methodLink "ExactChainsModel" (270 : Nat) ({ cls := "ExactChainsModel", name := "valueAt", desc := "(I)I" } : Jvm.MethodName)) ∈ lw_all := lw_g (lw_at lw_m10 80 rfl) rfl
theorem q2341 : (Jvm.Cond.privateMethod ({ cls := "ExactChainsModel", name := "valueAt", desc := "(I)I" } : Jvm.MethodName)) ∈ lw_tbl := lw_at lw_m10 81 rfl
theorem q2342 : (Jvm.Cond.instanceMethod ({ cls := "ExactChainsModel", name := "valueAt", desc := "(I)I" } : Jvm.MethodName)) ∈ lw_all := lw_g (lw_at lw_m10 82 rfl) rfl
theorem q2343 : (Jvm.Cond.code ({ cls := "ExactChainsModel", name := "valueAt", desc := "(I)I" } : Jvm.MethodName) prog_12_method_66_code (4 : Nat) (Option.some Jvm.ClassFile.FieldType.int)) ∈ lw_all := lw_g (lw_at lw_m10 83 rfl) rfl
theorem q2345 : (Jvm.Cond.instanceMethod ({ cls := "ExactChainsModel", name := "polynomial", desc := "(II)I" } : Jvm.MethodName)) ∈ lw_all := lw_g (lw_at lw_m10 85 rfl) rfl
theorem q2346 : (Jvm.Cond.selects "ExactChainsModel" ({ cls := "ExactChainsModel", name := "polynomial", desc := "(II)I" } : Jvm.MethodName) ({ cls := "ExactChainsModel", name := "polynomial", desc := "(II)I" } : Jvm.MethodName)) ∈ lw_all := lw_g (lw_at lw_m10 86 rfl) rfl
theorem q2347 : (Jvm.Cond.code ({ cls := "ExactChainsModel", name := "polynomial", desc := "(II)I" } : Jvm.MethodName) prog_12_method_70_code (3 : Nat) (Option.some Jvm.ClassFile.FieldType.int)) ∈ lw_all := lw_g (lw_at lw_m10 87 rfl) rfl
theorem q2349 : (Jvm.Cond.instanceMethod ({ cls := "ExactChainsModel", name := "coefficient", desc := "(II)I" } : Jvm.MethodName)) ∈ lw_all := lw_g (lw_at lw_m10 89 rfl) rfl
theorem q2350 : (Jvm.Cond.selects "ExactChainsModel" ({ cls := "ExactChainsModel", name := "coefficient", desc := "(II)I" } : Jvm.MethodName) ({ cls := "ExactChainsModel", name := "coefficient", desc := "(II)I" } : Jvm.MethodName)) ∈ lw_all := lw_g (lw_at lw_m10 90 rfl) rfl
theorem q2351 : (Jvm.Cond.code ({ cls := "ExactChainsModel", name := "coefficient", desc := "(II)I" } : Jvm.MethodName) prog_12_method_71_code (3 : Nat) (Option.some Jvm.ClassFile.FieldType.int)) ∈ lw_all := lw_g (lw_at lw_m10 91 rfl) rfl
theorem q2353 : (Jvm.Cond.instanceMethod ({ cls := "ExactChainsModel", name := "applied", desc := "(III)I" } : Jvm.MethodName)) ∈ lw_all := lw_g (lw_at lw_m10 93 rfl) rfl
theorem q2354 : (Jvm.Cond.selects "ExactChainsModel" ({ cls := "ExactChainsModel", name := "applied", desc := "(III)I" } : Jvm.MethodName) ({ cls := "ExactChainsModel", name := "applied", desc := "(III)I" } : Jvm.MethodName)) ∈ lw_all := lw_g (lw_at lw_m10 94 rfl) rfl
theorem q2355 : (Jvm.Cond.code ({ cls := "ExactChainsModel", name := "applied", desc := "(III)I" } : Jvm.MethodName) prog_12_method_72_code (8 : Nat) (Option.some Jvm.ClassFile.FieldType.int)) ∈ lw_all := lw_g (lw_at lw_m10 95 rfl) rfl
theorem q2357 : (Jvm.Cond.instanceMethod ({ cls := "ExactChainsModel", name := "ended", desc := "(I)I" } : Jvm.MethodName)) ∈ lw_all := lw_g (lw_at lw_m10 97 rfl) rfl
theorem q2358 : (Jvm.Cond.selects "ExactChainsModel" ({ cls := "ExactChainsModel", name := "ended", desc := "(I)I" } : Jvm.MethodName) ({ cls := "ExactChainsModel", name := "ended", desc := "(I)I" } : Jvm.MethodName)) ∈ lw_all := lw_g (lw_at lw_m10 98 rfl) rfl
theorem q2359 : (Jvm.Cond.code ({ cls := "ExactChainsModel", name := "ended", desc := "(I)I" } : Jvm.MethodName) prog_12_method_73_code (4 : Nat) (Option.some Jvm.ClassFile.FieldType.int)) ∈ lw_all := lw_g (lw_at lw_m10 99 rfl) rfl
theorem q2361 : (Jvm.Cond.instanceMethod ({ cls := "ExactChainsModel", name := "direction", desc := "(II)I" } : Jvm.MethodName)) ∈ lw_all := lw_g (lw_at lw_m10 101 rfl) rfl
theorem q2362 : (Jvm.Cond.selects "ExactChainsModel" ({ cls := "ExactChainsModel", name := "direction", desc := "(II)I" } : Jvm.MethodName) ({ cls := "ExactChainsModel", name := "direction", desc := "(II)I" } : Jvm.MethodName)) ∈ lw_all := lw_g (lw_at lw_m10 102 rfl) rfl
theorem q2363 : (Jvm.Cond.code ({ cls := "ExactChainsModel", name := "direction", desc := "(II)I" } : Jvm.MethodName) prog_12_method_75_code (3 : Nat) (Option.some Jvm.ClassFile.FieldType.int)) ∈ lw_all := lw_g (lw_at lw_m10 103 rfl) rfl
theorem q2364 : (Jvm.Cond.methodLink "ExactChainsModel" (279 : Nat) ({ cls := "ExactChainsModel", name := "isDirection", desc := "(I)Z" } : Jvm.MethodName)) ∈ lw_all := lw_g (lw_at lw_m10 104 rfl) rfl
theorem q2365 : (Jvm.Cond.privateMethod ({ cls := "ExactChainsModel", name := "isDirection", desc := "(I)Z" } : Jvm.MethodName)) ∈ lw_tbl := lw_at lw_m10 105 rfl
theorem q2366 : (Jvm.Cond.instanceMethod ({ cls := "ExactChainsModel", name := "isDirection", desc := "(I)Z" } : Jvm.MethodName)) ∈ lw_all := lw_g (lw_at lw_m10 106 rfl) rfl
theorem q2367 : (Jvm.Cond.code ({ cls := "ExactChainsModel", name := "isDirection", desc := "(I)Z" } : Jvm.MethodName) prog_12_method_74_code (2 : Nat) (Option.some Jvm.ClassFile.FieldType.boolean)) ∈ lw_all := lw_g (lw_at lw_m10 107 rfl) rfl
theorem q2369 : (Jvm.Cond.instanceMethod ({ cls := "ExactChainsModel", name := "chainOf", desc := "(I)I" } : Jvm.MethodName)) ∈ lw_all := lw_g (lw_at lw_m10 109 rfl) rfl
theorem q2370 : (Jvm.Cond.selects "ExactChainsModel" ({ cls := "ExactChainsModel", name := "chainOf", desc := "(I)I" } : Jvm.MethodName) ({ cls := "ExactChainsModel", name := "chainOf", desc := "(I)I" } : Jvm.MethodName)) ∈ lw_all := lw_g (lw_at lw_m10 110 rfl) rfl
theorem q2371 : (Jvm.Cond.code ({ cls := "ExactChainsModel", name := "chainOf", desc := "(I)I" } : Jvm.MethodName) prog_12_method_76_code (2 : Nat) (Option.some Jvm.ClassFile.FieldType.int)) ∈ lw_all := lw_g (lw_at lw_m10 111 rfl) rfl
theorem q2373 : (Jvm.Cond.instanceMethod ({ cls := "ExactChainsModel", name := "product", desc := "(II)I" } : Jvm.MethodName)) ∈ lw_all := lw_g (lw_at lw_m10 113 rfl) rfl
theorem q2374 : (Jvm.Cond.selects "ExactChainsModel" ({ cls := "ExactChainsModel", name := "product", desc := "(II)I" } : Jvm.MethodName) ({ cls := "ExactChainsModel", name := "product", desc := "(II)I" } : Jvm.MethodName)) ∈ lw_all := lw_g (lw_at lw_m10 114 rfl) rfl
theorem q2375 : (Jvm.Cond.code ({ cls := "ExactChainsModel", name := "product", desc := "(II)I" } : Jvm.MethodName) prog_12_method_77_code (3 : Nat) (Option.some Jvm.ClassFile.FieldType.int)) ∈ lw_all := lw_g (lw_at lw_m10 115 rfl) rfl
theorem q2377 : (Jvm.Cond.instanceMethod ({ cls := "ExactChainsModel", name := "skew", desc := "()I" } : Jvm.MethodName)) ∈ lw_all := lw_g (lw_at lw_m10 117 rfl) rfl
theorem q2378 : (Jvm.Cond.selects "ExactChainsModel" ({ cls := "ExactChainsModel", name := "skew", desc := "()I" } : Jvm.MethodName) ({ cls := "ExactChainsModel", name := "skew", desc := "()I" } : Jvm.MethodName)) ∈ lw_all := lw_g (lw_at lw_m10 118 rfl) rfl
theorem q2379 : (Jvm.Cond.code ({ cls := "ExactChainsModel", name := "skew", desc := "()I" } : Jvm.MethodName) prog_12_method_78_code (4 : Nat) (Option.some Jvm.ClassFile.FieldType.int)) ∈ lw_all := lw_g (lw_at lw_m10 119 rfl) rfl
theorem q2381 : (Jvm.Cond.instanceMethod ({ cls := "ExactChainsModel", name := "rank", desc := "()I" } : Jvm.MethodName)) ∈ lw_all := lw_g (lw_at lw_m10 121 rfl) rfl
theorem q2382 : (Jvm.Cond.selects "ExactChainsModel" ({ cls := "ExactChainsModel", name := "rank", desc := "()I" } : Jvm.MethodName) ({ cls := "ExactChainsModel", name := "rank", desc := "()I" } : Jvm.MethodName)) ∈ lw_all := lw_g (lw_at lw_m10 122 rfl) rfl
theorem q2383 : (Jvm.Cond.code ({ cls := "ExactChainsModel", name := "rank", desc := "()I" } : Jvm.MethodName) prog_12_method_83_code (3 : Nat) (Option.some Jvm.ClassFile.FieldType.int)) ∈ lw_all := lw_g (lw_at lw_m10 123 rfl) rfl
theorem q2384 : (Jvm.Cond.methodLink "ExactChainsModel" (295 : Nat) ({ cls := "ExactChainsModel", name := "ranks", desc := "(II)I" } : Jvm.MethodName)) ∈ lw_all := lw_g (lw_at lw_m10 124 rfl) rfl
theorem q2385 : (Jvm.Cond.privateMethod ({ cls := "ExactChainsModel", name := "ranks", desc := "(II)I" } : Jvm.MethodName)) ∈ lw_tbl := lw_at lw_m10 125 rfl
theorem q2386 : (Jvm.Cond.instanceMethod ({ cls := "ExactChainsModel", name := "ranks", desc := "(II)I" } : Jvm.MethodName)) ∈ lw_all := lw_g (lw_at lw_m10 126 rfl) rfl
theorem q2387 : (Jvm.Cond.code ({ cls := "ExactChainsModel", name := "ranks", desc := "(II)I" } : Jvm.MethodName) prog_12_method_82_code (8 : Nat) (Option.some Jvm.ClassFile.FieldType.int)) ∈ lw_all := lw_g (lw_at lw_m10 127 rfl) rfl
theorem q2388 : (Jvm.Cond.methodLink "ExactChainsModel" (285 : Nat) ({ cls := "ExactChainsModel", name := "exchanges", desc := "(II)V" } : Jvm.MethodName)) ∈ lw_all := lw_g (lw_at lw_m10 128 rfl) rfl
theorem q2389 : (Jvm.Cond.privateMethod ({ cls := "ExactChainsModel", name := "exchanges", desc := "(II)V" } : Jvm.MethodName)) ∈ lw_tbl := lw_at lw_m10 129 rfl
theorem q2390 : (Jvm.Cond.instanceMethod ({ cls := "ExactChainsModel", name := "exchanges", desc := "(II)V" } : Jvm.MethodName)) ∈ lw_all := lw_g (lw_at lw_m10 130 rfl) rfl
theorem q2391 : (Jvm.Cond.code ({ cls := "ExactChainsModel", name := "exchanges", desc := "(II)V" } : Jvm.MethodName) prog_12_method_79_code (5 : Nat) (Option.none : Option Jvm.ClassFile.FieldType)) ∈ lw_all := lw_g (lw_at lw_m10 131 rfl) rfl
theorem q2392 : (Jvm.Cond.methodLink "ExactChainsModel" (288 : Nat) ({ cls := "ExactChainsModel", name := "divides", desc := "(II)V" } : Jvm.MethodName)) ∈ lw_all := lw_g (lw_at lw_m10 132 rfl) rfl
theorem q2393 : (Jvm.Cond.privateMethod ({ cls := "ExactChainsModel", name := "divides", desc := "(II)V" } : Jvm.MethodName)) ∈ lw_tbl := lw_at lw_m10 133 rfl
theorem q2394 : (Jvm.Cond.instanceMethod ({ cls := "ExactChainsModel", name := "divides", desc := "(II)V" } : Jvm.MethodName)) ∈ lw_all := lw_g (lw_at lw_m10 134 rfl) rfl
theorem q2395 : (Jvm.Cond.code ({ cls := "ExactChainsModel", name := "divides", desc := "(II)V" } : Jvm.MethodName) prog_12_method_81_code (4 : Nat) (Option.none : Option Jvm.ClassFile.FieldType)) ∈ lw_all := lw_g (lw_at lw_m10 135 rfl) rfl
theorem q2396 : (Jvm.Cond.methodLink "ExactChainsModel" (291 : Nat) ({ cls := "ExactChainsModel", name := "clears", desc := "(III)V" } : Jvm.MethodName)) ∈ lw_all := lw_g (lw_at lw_m10 136 rfl) rfl
theorem q2397 : (Jvm.Cond.privateMethod ({ cls := "ExactChainsModel", name := "clears", desc := "(III)V" } : Jvm.MethodName)) ∈ lw_tbl := lw_at lw_m10 137 rfl
theorem q2398 : (Jvm.Cond.instanceMethod ({ cls := "ExactChainsModel", name := "clears", desc := "(III)V" } : Jvm.MethodName)) ∈ lw_all := lw_g (lw_at lw_m10 138 rfl) rfl
theorem q2399 : (Jvm.Cond.code ({ cls := "ExactChainsModel", name := "clears", desc := "(III)V" } : Jvm.MethodName) prog_12_method_80_code (6 : Nat) (Option.none : Option Jvm.ClassFile.FieldType)) ∈ lw_all := lw_g (lw_at lw_m10 139 rfl) rfl
theorem q2401 : (Jvm.Cond.instanceMethod ({ cls := "ExactChainsModel", name := "projected", desc := "(II)I" } : Jvm.MethodName)) ∈ lw_all := lw_g (lw_at lw_m10 141 rfl) rfl
theorem q2402 : (Jvm.Cond.selects "ExactChainsModel" ({ cls := "ExactChainsModel", name := "projected", desc := "(II)I" } : Jvm.MethodName) ({ cls := "ExactChainsModel", name := "projected", desc := "(II)I" } : Jvm.MethodName)) ∈ lw_all := lw_g (lw_at lw_m10 142 rfl) rfl
theorem q2403 : (Jvm.Cond.code ({ cls := "ExactChainsModel", name := "projected", desc := "(II)I" } : Jvm.MethodName) prog_12_method_84_code (3 : Nat) (Option.some Jvm.ClassFile.FieldType.int)) ∈ lw_all := lw_g (lw_at lw_m10 143 rfl) rfl
theorem q2405 : (Jvm.Cond.instanceMethod ({ cls := "ExactChainsModel", name := "width", desc := "()I" } : Jvm.MethodName)) ∈ lw_all := lw_g (lw_at lw_m10 145 rfl) rfl
theorem q2406 : (Jvm.Cond.selects "ExactChainsModel" ({ cls := "ExactChainsModel", name := "width", desc := "()I" } : Jvm.MethodName) ({ cls := "ExactChainsModel", name := "width", desc := "()I" } : Jvm.MethodName)) ∈ lw_all := lw_g (lw_at lw_m10 146 rfl) rfl
theorem q2407 : (Jvm.Cond.code ({ cls := "ExactChainsModel", name := "width", desc := "()I" } : Jvm.MethodName) prog_12_method_85_code (5 : Nat) (Option.some Jvm.ClassFile.FieldType.int)) ∈ lw_all := lw_g (lw_at lw_m10 147 rfl) rfl
theorem q2409 : (Jvm.Cond.instanceMethod ({ cls := "ExactChainsModel", name := "determinant", desc := "()I" } : Jvm.MethodName)) ∈ lw_all := lw_g (lw_at lw_m10 149 rfl) rfl
theorem q2410 : (Jvm.Cond.selects "ExactChainsModel" ({ cls := "ExactChainsModel", name := "determinant", desc := "()I" } : Jvm.MethodName) ({ cls := "ExactChainsModel", name := "determinant", desc := "()I" } : Jvm.MethodName)) ∈ lw_all := lw_g (lw_at lw_m10 150 rfl) rfl
theorem q2411 : (Jvm.Cond.code ({ cls := "ExactChainsModel", name := "determinant", desc := "()I" } : Jvm.MethodName) prog_12_method_87_code (1 : Nat) (Option.some Jvm.ClassFile.FieldType.int)) ∈ lw_all := lw_g (lw_at lw_m10 151 rfl) rfl
theorem q2412 : (Jvm.Cond.methodLink "ExactChainsModel" (298 : Nat) ({ cls := "ExactChainsModel", name := "laysProjected", desc := "(I)V" } : Jvm.MethodName)) ∈ lw_all := lw_g (lw_at lw_m10 152 rfl) rfl
theorem q2413 : (Jvm.Cond.privateMethod ({ cls := "ExactChainsModel", name := "laysProjected", desc := "(I)V" } : Jvm.MethodName)) ∈ lw_tbl := lw_at lw_m10 153 rfl
theorem q2414 : (Jvm.Cond.instanceMethod ({ cls := "ExactChainsModel", name := "laysProjected", desc := "(I)V" } : Jvm.MethodName)) ∈ lw_all := lw_g (lw_at lw_m10 154 rfl) rfl
theorem q2415 : (Jvm.Cond.code ({ cls := "ExactChainsModel", name := "laysProjected", desc := "(I)V" } : Jvm.MethodName) prog_12_method_86_code (4 : Nat) (Option.none : Option Jvm.ClassFile.FieldType)) ∈ lw_all := lw_g (lw_at lw_m10 155 rfl) rfl
theorem q2417 : (Jvm.Cond.instanceMethod ({ cls := "ExactChainsModel", name := "filled", desc := "()F" } : Jvm.MethodName)) ∈ lw_all := lw_g (lw_at lw_m10 157 rfl) rfl
theorem q2418 : (Jvm.Cond.selects "ExactChainsModel" ({ cls := "ExactChainsModel", name := "filled", desc := "()F" } : Jvm.MethodName) ({ cls := "ExactChainsModel", name := "filled", desc := "()F" } : Jvm.MethodName)) ∈ lw_all := lw_g (lw_at lw_m10 158 rfl) rfl
theorem q2419 : (Jvm.Cond.code ({ cls := "ExactChainsModel", name := "filled", desc := "()F" } : Jvm.MethodName) prog_12_method_88_code (4 : Nat) (Option.some Jvm.ClassFile.FieldType.float)) ∈ lw_all := lw_g (lw_at lw_m10 159 rfl) rfl
theorem q2421 : (Jvm.Cond.instanceMethod ({ cls := "ExactChainsModel", name := "determinantAt", desc := "(I)I" } : Jvm.MethodName)) ∈ lw_all := lw_g (lw_at lw_m10 161 rfl) rfl
theorem q2422 : (Jvm.Cond.selects "ExactChainsModel" ({ cls := "ExactChainsModel", name := "determinantAt", desc := "(I)I" } : Jvm.MethodName) ({ cls := "ExactChainsModel", name := "determinantAt", desc := "(I)I" } : Jvm.MethodName)) ∈ lw_all := lw_g (lw_at lw_m10 162 rfl) rfl
theorem q2423 : (Jvm.Cond.code ({ cls := "ExactChainsModel", name := "determinantAt", desc := "(I)I" } : Jvm.MethodName) prog_12_method_90_code (2 : Nat) (Option.some Jvm.ClassFile.FieldType.int)) ∈ lw_all := lw_g (lw_at lw_m10 163 rfl) rfl
theorem q2424 : (Jvm.Cond.methodLink "ExactChainsModel" (301 : Nat) ({ cls := "ExactChainsModel", name := "rankAt", desc := "(I)I" } : Jvm.MethodName)) ∈ lw_all := lw_g (lw_at lw_m10 164 rfl) rfl
theorem q2425 : (Jvm.Cond.privateMethod ({ cls := "ExactChainsModel", name := "rankAt", desc := "(I)I" } : Jvm.MethodName)) ∈ lw_tbl := lw_at lw_m10 165 rfl
theorem q2426 : (Jvm.Cond.instanceMethod ({ cls := "ExactChainsModel", name := "rankAt", desc := "(I)I" } : Jvm.MethodName)) ∈ lw_all := lw_g (lw_at lw_m10 166 rfl) rfl
theorem q2427 : (Jvm.Cond.code ({ cls := "ExactChainsModel", name := "rankAt", desc := "(I)I" } : Jvm.MethodName) prog_12_method_89_code (4 : Nat) (Option.some Jvm.ClassFile.FieldType.int)) ∈ lw_all := lw_g (lw_at lw_m10 167 rfl) rfl
theorem q2429 : (Jvm.Cond.instanceMethod ({ cls := "ExactChainsModel", name := "dimension", desc := "(I)I" } : Jvm.MethodName)) ∈ lw_all := lw_g (lw_at lw_m10 169 rfl) rfl
theorem q2430 : (Jvm.Cond.selects "ExactChainsModel" ({ cls := "ExactChainsModel", name := "dimension", desc := "(I)I" } : Jvm.MethodName) ({ cls := "ExactChainsModel", name := "dimension", desc := "(I)I" } : Jvm.MethodName)) ∈ lw_all := lw_g (lw_at lw_m10 170 rfl) rfl
theorem q2431 : (Jvm.Cond.code ({ cls := "ExactChainsModel", name := "dimension", desc := "(I)I" } : Jvm.MethodName) prog_12_method_91_code (2 : Nat) (Option.some Jvm.ClassFile.FieldType.int)) ∈ lw_all := lw_g (lw_at lw_m10 171 rfl) rfl
theorem q2433 : (Jvm.Cond.instanceMethod ({ cls := "ExactChainsModel", name := "eigenvalues", desc := "()I" } : Jvm.MethodName)) ∈ lw_all := lw_g (lw_at lw_m10 173 rfl) rfl
theorem q2434 : (Jvm.Cond.selects "ExactChainsModel" ({ cls := "ExactChainsModel", name := "eigenvalues", desc := "()I" } : Jvm.MethodName) ({ cls := "ExactChainsModel", name := "eigenvalues", desc := "()I" } : Jvm.MethodName)) ∈ lw_all := lw_g (lw_at lw_m10 174 rfl) rfl
theorem q2435 : (Jvm.Cond.code ({ cls := "ExactChainsModel", name := "eigenvalues", desc := "()I" } : Jvm.MethodName) prog_12_method_92_code (3 : Nat) (Option.some Jvm.ClassFile.FieldType.int)) ∈ lw_all := lw_g (lw_at lw_m10 175 rfl) rfl
theorem q2437 : (Jvm.Cond.instanceMethod ({ cls := "ExactChainsModel", name := "isSplit", desc := "()Z" } : Jvm.MethodName)) ∈ lw_all := lw_g (lw_at lw_m10 177 rfl) rfl
theorem q2438 : (Jvm.Cond.selects "ExactChainsModel" ({ cls := "ExactChainsModel", name := "isSplit", desc := "()Z" } : Jvm.MethodName) ({ cls := "ExactChainsModel", name := "isSplit", desc := "()Z" } : Jvm.MethodName)) ∈ lw_all := lw_g (lw_at lw_m10 178 rfl) rfl
theorem q2439 : (Jvm.Cond.code ({ cls := "ExactChainsModel", name := "isSplit", desc := "()Z" } : Jvm.MethodName) prog_12_method_93_code (3 : Nat) (Option.some Jvm.ClassFile.FieldType.boolean)) ∈ lw_all := lw_g (lw_at lw_m10 179 rfl) rfl
theorem q2441 : (Jvm.Cond.instanceMethod ({ cls := "ExactChainsModel", name := "reach", desc := "()I" } : Jvm.MethodName)) ∈ lw_all := lw_g (lw_at lw_m10 181 rfl) rfl
theorem q2442 : (Jvm.Cond.selects "ExactChainsModel" ({ cls := "ExactChainsModel", name := "reach", desc := "()I" } : Jvm.MethodName) ({ cls := "ExactChainsModel", name := "reach", desc := "()I" } : Jvm.MethodName)) ∈ lw_all := lw_g (lw_at lw_m10 182 rfl) rfl
theorem q2443 : (Jvm.Cond.code ({ cls := "ExactChainsModel", name := "reach", desc := "()I" } : Jvm.MethodName) prog_12_method_95_code (2 : Nat) (Option.some Jvm.ClassFile.FieldType.int)) ∈ lw_all := lw_g (lw_at lw_m10 183 rfl) rfl
theorem q2444 : (Jvm.Cond.methodLink "ExactChainsModel" (304 : Nat) ({ cls := "ExactChainsModel", name := "reachBy", desc := "()I" } : Jvm.MethodName)) ∈ lw_all := lw_g (lw_at lw_m10 184 rfl) rfl
theorem q2445 : (Jvm.Cond.privateMethod ({ cls := "ExactChainsModel", name := "reachBy", desc := "()I" } : Jvm.MethodName)) ∈ lw_tbl := lw_at lw_m10 185 rfl
theorem q2446 : (Jvm.Cond.instanceMethod ({ cls := "ExactChainsModel", name := "reachBy", desc := "()I" } : Jvm.MethodName)) ∈ lw_all := lw_g (lw_at lw_m10 186 rfl) rfl
theorem q2447 : (Jvm.Cond.code ({ cls := "ExactChainsModel", name := "reachBy", desc := "()I" } : Jvm.MethodName) prog_12_method_94_code (3 : Nat) (Option.some Jvm.ClassFile.FieldType.int)) ∈ lw_all := lw_g (lw_at lw_m10 187 rfl) rfl
theorem q2449 : (Jvm.Cond.instanceMethod ({ cls := "ExactChainsModel", name := "reachOf", desc := "(I)I" } : Jvm.MethodName)) ∈ lw_all := lw_g (lw_at lw_m10 189 rfl) rfl
theorem q2450 : (Jvm.Cond.selects "ExactChainsModel" ({ cls := "ExactChainsModel", name := "reachOf", desc := "(I)I" } : Jvm.MethodName) ({ cls := "ExactChainsModel", name := "reachOf", desc := "(I)I" } : Jvm.MethodName)) ∈ lw_all := lw_g (lw_at lw_m10 190 rfl) rfl
theorem q2451 : (Jvm.Cond.code ({ cls := "ExactChainsModel", name := "reachOf", desc := "(I)I" } : Jvm.MethodName) prog_12_method_96_code (2 : Nat) (Option.some Jvm.ClassFile.FieldType.int)) ∈ lw_all := lw_g (lw_at lw_m10 191 rfl) rfl
theorem q2453 : (Jvm.Cond.instanceMethod ({ cls := "ExactChainsModel", name := "solution", desc := "(I)I" } : Jvm.MethodName)) ∈ lw_all := lw_g (lw_at lw_m10 193 rfl) rfl
theorem q2454 : (Jvm.Cond.selects "ExactChainsModel" ({ cls := "ExactChainsModel", name := "solution", desc := "(I)I" } : Jvm.MethodName) ({ cls := "ExactChainsModel", name := "solution", desc := "(I)I" } : Jvm.MethodName)) ∈ lw_all := lw_g (lw_at lw_m10 194 rfl) rfl
theorem q2455 : (Jvm.Cond.code ({ cls := "ExactChainsModel", name := "solution", desc := "(I)I" } : Jvm.MethodName) prog_12_method_99_code (5 : Nat) (Option.some Jvm.ClassFile.FieldType.int)) ∈ lw_all := lw_g (lw_at lw_m10 195 rfl) rfl
theorem q2456 : (Jvm.Cond.methodLink "ExactChainsModel" (307 : Nat) ({ cls := "ExactChainsModel", name := "isClosed", desc := "()Z" } : Jvm.MethodName)) ∈ lw_all := lw_g (lw_at lw_m10 196 rfl) rfl
theorem q2457 : (Jvm.Cond.privateMethod ({ cls := "ExactChainsModel", name := "isClosed", desc := "()Z" } : Jvm.MethodName)) ∈ lw_tbl := lw_at lw_m10 197 rfl
theorem q2458 : (Jvm.Cond.instanceMethod ({ cls := "ExactChainsModel", name := "isClosed", desc := "()Z" } : Jvm.MethodName)) ∈ lw_all := lw_g (lw_at lw_m10 198 rfl) rfl
theorem q2459 : (Jvm.Cond.code ({ cls := "ExactChainsModel", name := "isClosed", desc := "()Z" } : Jvm.MethodName) prog_12_method_97_code (1 : Nat) (Option.some Jvm.ClassFile.FieldType.boolean)) ∈ lw_all := lw_g (lw_at lw_m10 199 rfl) rfl
theorem q2460 : (Jvm.Cond.methodLink "ExactChainsModel" (310 : Nat) ({ cls := "ExactChainsModel", name := "solves", desc := "()Z" } : Jvm.MethodName)) ∈ lw_all := lw_g (lw_at lw_m10 200 rfl) rfl
theorem q2461 : (Jvm.Cond.privateMethod ({ cls := "ExactChainsModel", name := "solves", desc := "()Z" } : Jvm.MethodName)) ∈ lw_tbl := lw_at lw_m10 201 rfl
theorem q2462 : (Jvm.Cond.instanceMethod ({ cls := "ExactChainsModel", name := "solves", desc := "()Z" } : Jvm.MethodName)) ∈ lw_all := lw_g (lw_at lw_m10 202 rfl) rfl
theorem q2463 : (Jvm.Cond.code ({ cls := "ExactChainsModel", name := "solves", desc := "()Z" } : Jvm.MethodName) prog_12_method_98_code (2 : Nat) (Option.some Jvm.ClassFile.FieldType.boolean)) ∈ lw_all := lw_g (lw_at lw_m10 203 rfl) rfl
theorem q2465 : (Jvm.Cond.instanceMethod ({ cls := "ExactChainsModel", name := "remainder", desc := "(II)I" } : Jvm.MethodName)) ∈ lw_all := lw_g (lw_at lw_m10 205 rfl) rfl
theorem q2466 : (Jvm.Cond.selects "ExactChainsModel" ({ cls := "ExactChainsModel", name := "remainder", desc := "(II)I" } : Jvm.MethodName) ({ cls := "ExactChainsModel", name := "remainder", desc := "(II)I" } : Jvm.MethodName)) ∈ lw_all := lw_g (lw_at lw_m10 206 rfl) rfl
theorem q2467 : (Jvm.Cond.code ({ cls := "ExactChainsModel", name := "remainder", desc := "(II)I" } : Jvm.MethodName) prog_12_method_100_code (3 : Nat) (Option.some Jvm.ClassFile.FieldType.int)) ∈ lw_all := lw_g (lw_at lw_m10 207 rfl) rfl
theorem q2469 : (Jvm.Cond.instanceMethod ({ cls := "ExactChainsModel", name := "writeChains", desc := "()I" } : Jvm.MethodName)) ∈ lw_all := lw_g (lw_at lw_m10 209 rfl) rfl
theorem q2470 : (Jvm.Cond.selects "ExactChainsModel" ({ cls := "ExactChainsModel", name := "writeChains", desc := "()I" } : Jvm.MethodName) ({ cls := "ExactChainsModel", name := "writeChains", desc := "()I" } : Jvm.MethodName)) ∈ lw_all := lw_g (lw_at lw_m10 210 rfl) rfl
theorem q2471 : (Jvm.Cond.code ({ cls := "ExactChainsModel", name := "writeChains", desc := "()I" } : Jvm.MethodName) prog_12_method_103_code (2 : Nat) (Option.some Jvm.ClassFile.FieldType.int)) ∈ lw_all := lw_g (lw_at lw_m10 211 rfl) rfl
theorem q2472 : (Jvm.Cond.methodLink "ExactChainsModel" (316 : Nat) ({ cls := "ExactChainsModel", name := "says", desc := "(I)V" } : Jvm.MethodName)) ∈ lw_all := lw_g (lw_at lw_m10 212 rfl) rfl
theorem q2473 : (Jvm.Cond.privateMethod ({ cls := "ExactChainsModel", name := "says", desc := "(I)V" } : Jvm.MethodName)) ∈ lw_tbl := lw_at lw_m10 213 rfl
theorem q2474 : (Jvm.Cond.instanceMethod ({ cls := "ExactChainsModel", name := "says", desc := "(I)V" } : Jvm.MethodName)) ∈ lw_all := lw_g (lw_at lw_m10 214 rfl) rfl
theorem q2475 : (Jvm.Cond.code ({ cls := "ExactChainsModel", name := "says", desc := "(I)V" } : Jvm.MethodName) prog_12_method_101_code (2 : Nat) (Option.none : Option Jvm.ClassFile.FieldType)) ∈ lw_all := lw_g (lw_at lw_m10 215 rfl) rfl
theorem q2476 : (Jvm.Cond.methodLink "ExactChainsModel" (319 : Nat) ({ cls := "ExactChainsModel", name := "letterOf", desc := "(I)I" } : Jvm.MethodName)) ∈ lw_all := lw_g (lw_at lw_m10 216 rfl) rfl
theorem q2477 : (Jvm.Cond.static ({ cls := "ExactChainsModel", name := "letterOf", desc := "(I)I" } : Jvm.MethodName)) ∈ lw_all := lw_g (lw_at lw_m10 217 rfl) rfl
theorem q2478 : (Jvm.Cond.code ({ cls := "ExactChainsModel", name := "letterOf", desc := "(I)I" } : Jvm.MethodName) prog_12_method_102_code (1 : Nat) (Option.some Jvm.ClassFile.FieldType.int)) ∈ lw_all := lw_g (lw_at lw_m10 218 rfl) rfl
theorem q2480 : (Jvm.Cond.instanceMethod ({ cls := "ExactChainsModel", name := "writtenByte", desc := "(I)I" } : Jvm.MethodName)) ∈ lw_all := lw_g (lw_at lw_m10 220 rfl) rfl
theorem q2481 : (Jvm.Cond.selects "ExactChainsModel" ({ cls := "ExactChainsModel", name := "writtenByte", desc := "(I)I" } : Jvm.MethodName) ({ cls := "ExactChainsModel", name := "writtenByte", desc := "(I)I" } : Jvm.MethodName)) ∈ lw_all := lw_g (lw_at lw_m10 221 rfl) rfl
theorem q2482 : (Jvm.Cond.code ({ cls := "ExactChainsModel", name := "writtenByte", desc := "(I)I" } : Jvm.MethodName) prog_12_method_104_code (2 : Nat) (Option.some Jvm.ClassFile.FieldType.int)) ∈ lw_all := lw_g (lw_at lw_m10 222 rfl) rfl
theorem q2521 : (Jvm.Cond.castable "ExactChainsModel" "java/lang/Object") ∈ lw_tbl := lw_at lw_m11 21 rfl
theorem in_X5 : ∀ w ∈ wsX50, w ∈ lw_all := lw_in wsX50 [2014, 2016, 2018, 2020, 2022, 2024, 2026, 2028, 2030, 2032, 2034, 2036, 2038, 2040, 2042, 2044, 2046, 2048, 2050, 2052, 2054, 2056, 2058, 2060, 2062, 2064, 2066, 2068] (by decide +kernel) (by decide +kernel)
