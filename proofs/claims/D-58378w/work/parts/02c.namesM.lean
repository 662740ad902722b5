/-! BarrelProcessorModel -/
set_option maxRecDepth 100000
def RX8 : String := "BarrelProcessorModel"
def TX8 : u_T := fun k => match k with
  | 0 => ("BarrelProcessorModel", "s", "[I", true)
  | 1 => ("BarrelProcessorModel", "aside", "[I", true)
  | 2 => ("BarrelProcessorModel", "past", "[I", true)
  | 3 => ("BarrelProcessorModel", "pasts", "I", false)
  | 4 => ("BarrelProcessorModel", "text", "[I", true)
  | 5 => ("BarrelProcessorModel", "length", "I", false)
  | 6 => ("BarrelProcessorModel", "spot", "I", false)
  | 7 => ("BarrelProcessorModel", "isWrong", "Z", false)
  | 8 => ("BarrelProcessorModel", "operation", "I", false)
  | 9 => ("BarrelProcessorModel", "first", "I", false)
  | _ => ("BarrelProcessorModel", "second", "I", false)
def tyX8 : Nat → FieldType := fun k => match k with
  | 0 => .array .int
  | 1 => .array .int
  | 2 => .array .int
  | 3 => .int
  | 4 => .array .int
  | 5 => .int
  | 6 => .int
  | 7 => .boolean
  | 8 => .int
  | 9 => .int
  | _ => .int
abbrev wsX80 : List Cond := u_ws RX8 TX8 11
theorem nmX8 : ∀ a, a < 11 → ∀ b, b < 11 → a ≠ b → (TX8 a).2.1 ≠ (TX8 b).2.1 := by decide +kernel
theorem tyX8_ok : ∀ k, k < 11 → parseFieldDescriptor (TX8 k).2.2.1 = some (tyX8 k) := by decide +kernel
abbrev cX8_init : ByteArray := prog_12_method_1_code
def yX8_init : MethodName := ⟨RX8, "<init>", "()V"⟩
def dkwX8_init_5 : List UInt8 := [180, 0, 7, 17, 0, 242, 6, 79, 177]
abbrev dktX8_init_5 : List UInt8 := dkwX8_init_5 ++ []
def dkwX8_init_4 : List UInt8 := [27, 7, 162, 0, 21, 42, 180, 0, 7, 27, 16, 9, 184, 0, 22, 2, 79, 132, 1, 1, 167, 255, 236, 42]
abbrev dktX8_init_4 : List UInt8 := dkwX8_init_4 ++ dktX8_init_5
def dkwX8_init_3 : List UInt8 := [162, 0, 22, 42, 180, 0, 7, 17, 0, 234, 27, 96, 27, 7, 112, 79, 132, 1, 1, 167, 255, 234, 3, 60]
abbrev dktX8_init_3 : List UInt8 := dkwX8_init_3 ++ dktX8_init_4
def dkwX8_init_2 : List UInt8 := [42, 180, 0, 7, 16, 56, 6, 27, 104, 96, 16, 11, 79, 132, 1, 1, 167, 255, 234, 3, 60, 27, 16, 8]
abbrev dktX8_init_2 : List UInt8 := dkwX8_init_2 ++ dktX8_init_3
def dkwX8_init_1 : List UInt8 := [17, 5, 84, 188, 10, 181, 0, 16, 42, 16, 100, 188, 10, 181, 0, 19, 3, 60, 27, 16, 48, 162, 0, 22]
abbrev dktX8_init_1 : List UInt8 := dkwX8_init_1 ++ dktX8_init_2
def dkwX8_init_0 : List UInt8 := [42, 183, 0, 1, 42, 17, 1, 85, 188, 10, 181, 0, 7, 42, 17, 1, 85, 188, 10, 181, 0, 13, 42]
abbrev dktX8_init_0 : List UInt8 := dkwX8_init_0 ++ dktX8_init_1
theorem dksX8_init_0 : cX8_init.data.toList.drop 0 = dktX8_init_0 := by decide +kernel
theorem dksX8_init_1 : cX8_init.data.toList.drop 23 = dktX8_init_1 := dk_seg dksX8_init_0 23 rfl rfl
theorem dksX8_init_2 : cX8_init.data.toList.drop 47 = dktX8_init_2 := dk_seg dksX8_init_1 24 rfl rfl
theorem dksX8_init_3 : cX8_init.data.toList.drop 71 = dktX8_init_3 := dk_seg dksX8_init_2 24 rfl rfl
theorem dksX8_init_4 : cX8_init.data.toList.drop 95 = dktX8_init_4 := dk_seg dksX8_init_3 24 rfl rfl
theorem dksX8_init_5 : cX8_init.data.toList.drop 119 = dktX8_init_5 := dk_seg dksX8_init_4 24 rfl rfl
theorem dX8_init_0 : decode cX8_init 0 = .ok (.aload_n 0, 1) := dk_42 (dk_at dksX8_init_0 0 rfl rfl)
theorem dX8_init_1 : decode cX8_init 1 = .ok (.invokespecial 1, 3) := dk_183 0 1 (dk_at dksX8_init_0 1 rfl rfl)
theorem dX8_init_4 : decode cX8_init 4 = .ok (.aload_n 0, 1) := dk_42 (dk_at dksX8_init_0 4 rfl rfl)
theorem dX8_init_5 : decode cX8_init 5 = .ok (.sipush 341, 3) := dk_17 1 85 (dk_at dksX8_init_0 5 rfl rfl)
theorem dX8_init_8 : decode cX8_init 8 = .ok (.newarray .int, 2) := dk_188_10 (dk_at dksX8_init_0 8 rfl rfl)
theorem dX8_init_10 : decode cX8_init 10 = .ok (.putfield 7, 3) := dk_181 0 7 (dk_at dksX8_init_0 10 rfl rfl)
theorem dX8_init_13 : decode cX8_init 13 = .ok (.aload_n 0, 1) := dk_42 (dk_at dksX8_init_0 13 rfl rfl)
theorem dX8_init_14 : decode cX8_init 14 = .ok (.sipush 341, 3) := dk_17 1 85 (dk_at dksX8_init_0 14 rfl rfl)
theorem dX8_init_17 : decode cX8_init 17 = .ok (.newarray .int, 2) := dk_188_10 (dk_at dksX8_init_0 17 rfl rfl)
theorem dX8_init_19 : decode cX8_init 19 = .ok (.putfield 13, 3) := dk_181 0 13 (dk_at dksX8_init_0 19 rfl rfl)
theorem dX8_init_22 : decode cX8_init 22 = .ok (.aload_n 0, 1) := dk_42 (dk_at dksX8_init_0 22 rfl rfl)
theorem dX8_init_23 : decode cX8_init 23 = .ok (.sipush 1364, 3) := dk_17 5 84 (dk_at dksX8_init_1 0 rfl rfl)
theorem dX8_init_26 : decode cX8_init 26 = .ok (.newarray .int, 2) := dk_188_10 (dk_at dksX8_init_1 3 rfl rfl)
theorem dX8_init_28 : decode cX8_init 28 = .ok (.putfield 16, 3) := dk_181 0 16 (dk_at dksX8_init_1 5 rfl rfl)
theorem dX8_init_31 : decode cX8_init 31 = .ok (.aload_n 0, 1) := dk_42 (dk_at dksX8_init_1 8 rfl rfl)
theorem dX8_init_32 : decode cX8_init 32 = .ok (.bipush 100, 2) := dk_16 100 (dk_at dksX8_init_1 9 rfl rfl)
theorem dX8_init_34 : decode cX8_init 34 = .ok (.newarray .int, 2) := dk_188_10 (dk_at dksX8_init_1 11 rfl rfl)
theorem dX8_init_36 : decode cX8_init 36 = .ok (.putfield 19, 3) := dk_181 0 19 (dk_at dksX8_init_1 13 rfl rfl)
theorem dX8_init_39 : decode cX8_init 39 = .ok (.iconst 0, 1) := dk_3 (dk_at dksX8_init_1 16 rfl rfl)
theorem dX8_init_40 : decode cX8_init 40 = .ok (.istore_n 1, 1) := dk_60 (dk_at dksX8_init_1 17 rfl rfl)
theorem dX8_init_41 : decode cX8_init 41 = .ok (.iload_n 1, 1) := dk_27 (dk_at dksX8_init_1 18 rfl rfl)
theorem dX8_init_42 : decode cX8_init 42 = .ok (.bipush 48, 2) := dk_16 48 (dk_at dksX8_init_1 19 rfl rfl)
theorem dX8_init_44 : decode cX8_init 44 = .ok (.if_icmp .ge 22, 3) := dk_162 0 22 (dk_at dksX8_init_1 21 rfl rfl)
theorem dX8_init_47 : decode cX8_init 47 = .ok (.aload_n 0, 1) := dk_42 (dk_at dksX8_init_2 0 rfl rfl)
theorem dX8_init_48 : decode cX8_init 48 = .ok (.getfield 7, 3) := dk_180 0 7 (dk_at dksX8_init_2 1 rfl rfl)
theorem dX8_init_51 : decode cX8_init 51 = .ok (.bipush 56, 2) := dk_16 56 (dk_at dksX8_init_2 4 rfl rfl)
theorem dX8_init_53 : decode cX8_init 53 = .ok (.iconst 3, 1) := dk_6 (dk_at dksX8_init_2 6 rfl rfl)
theorem dX8_init_54 : decode cX8_init 54 = .ok (.iload_n 1, 1) := dk_27 (dk_at dksX8_init_2 7 rfl rfl)
theorem dX8_init_55 : decode cX8_init 55 = .ok (.imul, 1) := dk_104 (dk_at dksX8_init_2 8 rfl rfl)
theorem dX8_init_56 : decode cX8_init 56 = .ok (.iadd, 1) := dk_96 (dk_at dksX8_init_2 9 rfl rfl)
theorem dX8_init_57 : decode cX8_init 57 = .ok (.bipush 11, 2) := dk_16 11 (dk_at dksX8_init_2 10 rfl rfl)
theorem dX8_init_59 : decode cX8_init 59 = .ok (.iastore, 1) := dk_79 (dk_at dksX8_init_2 12 rfl rfl)
theorem dX8_init_60 : decode cX8_init 60 = .ok (.iinc 1 1, 3) := dk_132 1 1 (dk_at dksX8_init_2 13 rfl rfl)
theorem dX8_init_63 : decode cX8_init 63 = .ok (.goto (-22), 3) := dk_167 255 234 (dk_at dksX8_init_2 16 rfl rfl)
theorem dX8_init_66 : decode cX8_init 66 = .ok (.iconst 0, 1) := dk_3 (dk_at dksX8_init_2 19 rfl rfl)
theorem dX8_init_67 : decode cX8_init 67 = .ok (.istore_n 1, 1) := dk_60 (dk_at dksX8_init_2 20 rfl rfl)
theorem dX8_init_68 : decode cX8_init 68 = .ok (.iload_n 1, 1) := dk_27 (dk_at dksX8_init_2 21 rfl rfl)
theorem dX8_init_69 : decode cX8_init 69 = .ok (.bipush 8, 2) := dk_16 8 (dk_at dksX8_init_2 22 rfl rfl)
theorem dX8_init_71 : decode cX8_init 71 = .ok (.if_icmp .ge 22, 3) := dk_162 0 22 (dk_at dksX8_init_3 0 rfl rfl)
theorem dX8_init_74 : decode cX8_init 74 = .ok (.aload_n 0, 1) := dk_42 (dk_at dksX8_init_3 3 rfl rfl)
theorem dX8_init_75 : decode cX8_init 75 = .ok (.getfield 7, 3) := dk_180 0 7 (dk_at dksX8_init_3 4 rfl rfl)
theorem dX8_init_78 : decode cX8_init 78 = .ok (.sipush 234, 3) := dk_17 0 234 (dk_at dksX8_init_3 7 rfl rfl)
theorem dX8_init_81 : decode cX8_init 81 = .ok (.iload_n 1, 1) := dk_27 (dk_at dksX8_init_3 10 rfl rfl)
theorem dX8_init_82 : decode cX8_init 82 = .ok (.iadd, 1) := dk_96 (dk_at dksX8_init_3 11 rfl rfl)
theorem dX8_init_83 : decode cX8_init 83 = .ok (.iload_n 1, 1) := dk_27 (dk_at dksX8_init_3 12 rfl rfl)
theorem dX8_init_84 : decode cX8_init 84 = .ok (.iconst 4, 1) := dk_7 (dk_at dksX8_init_3 13 rfl rfl)
theorem dX8_init_85 : decode cX8_init 85 = .ok (.irem, 1) := dk_112 (dk_at dksX8_init_3 14 rfl rfl)
theorem dX8_init_86 : decode cX8_init 86 = .ok (.iastore, 1) := dk_79 (dk_at dksX8_init_3 15 rfl rfl)
theorem dX8_init_87 : decode cX8_init 87 = .ok (.iinc 1 1, 3) := dk_132 1 1 (dk_at dksX8_init_3 16 rfl rfl)
theorem dX8_init_90 : decode cX8_init 90 = .ok (.goto (-22), 3) := dk_167 255 234 (dk_at dksX8_init_3 19 rfl rfl)
theorem dX8_init_93 : decode cX8_init 93 = .ok (.iconst 0, 1) := dk_3 (dk_at dksX8_init_3 22 rfl rfl)
theorem dX8_init_94 : decode cX8_init 94 = .ok (.istore_n 1, 1) := dk_60 (dk_at dksX8_init_3 23 rfl rfl)
theorem dX8_init_95 : decode cX8_init 95 = .ok (.iload_n 1, 1) := dk_27 (dk_at dksX8_init_4 0 rfl rfl)
theorem dX8_init_96 : decode cX8_init 96 = .ok (.iconst 4, 1) := dk_7 (dk_at dksX8_init_4 1 rfl rfl)
theorem dX8_init_97 : decode cX8_init 97 = .ok (.if_icmp .ge 21, 3) := dk_162 0 21 (dk_at dksX8_init_4 2 rfl rfl)
theorem dX8_init_100 : decode cX8_init 100 = .ok (.aload_n 0, 1) := dk_42 (dk_at dksX8_init_4 5 rfl rfl)
theorem dX8_init_101 : decode cX8_init 101 = .ok (.getfield 7, 3) := dk_180 0 7 (dk_at dksX8_init_4 6 rfl rfl)
theorem dX8_init_104 : decode cX8_init 104 = .ok (.iload_n 1, 1) := dk_27 (dk_at dksX8_init_4 9 rfl rfl)
theorem dX8_init_105 : decode cX8_init 105 = .ok (.bipush 9, 2) := dk_16 9 (dk_at dksX8_init_4 10 rfl rfl)
theorem dX8_init_107 : decode cX8_init 107 = .ok (.invokestatic 22, 3) := dk_184 0 22 (dk_at dksX8_init_4 12 rfl rfl)
theorem dX8_init_110 : decode cX8_init 110 = .ok (.iconst (-1), 1) := dk_2 (dk_at dksX8_init_4 15 rfl rfl)
theorem dX8_init_111 : decode cX8_init 111 = .ok (.iastore, 1) := dk_79 (dk_at dksX8_init_4 16 rfl rfl)
theorem dX8_init_112 : decode cX8_init 112 = .ok (.iinc 1 1, 3) := dk_132 1 1 (dk_at dksX8_init_4 17 rfl rfl)
theorem dX8_init_115 : decode cX8_init 115 = .ok (.goto (-20), 3) := dk_167 255 236 (dk_at dksX8_init_4 20 rfl rfl)
theorem dX8_init_118 : decode cX8_init 118 = .ok (.aload_n 0, 1) := dk_42 (dk_at dksX8_init_4 23 rfl rfl)
theorem dX8_init_119 : decode cX8_init 119 = .ok (.getfield 7, 3) := dk_180 0 7 (dk_at dksX8_init_5 0 rfl rfl)
theorem dX8_init_122 : decode cX8_init 122 = .ok (.sipush 242, 3) := dk_17 0 242 (dk_at dksX8_init_5 3 rfl rfl)
theorem dX8_init_125 : decode cX8_init 125 = .ok (.iconst 3, 1) := dk_6 (dk_at dksX8_init_5 6 rfl rfl)
theorem dX8_init_126 : decode cX8_init 126 = .ok (.iastore, 1) := dk_79 (dk_at dksX8_init_5 7 rfl rfl)
theorem dX8_init_127 : decode cX8_init 127 = .ok (.return_, 1) := dk_177 (dk_at dksX8_init_5 8 rfl rfl)
abbrev cX8_at : ByteArray := prog_12_method_4_code
def yX8_at : MethodName := ⟨RX8, "at", "(II)I"⟩
def dkwX8_at_0 : List UInt8 := [16, 14, 26, 104, 27, 96, 172]
abbrev dktX8_at_0 : List UInt8 := dkwX8_at_0 ++ []
theorem dksX8_at_0 : cX8_at.data.toList.drop 0 = dktX8_at_0 := by decide +kernel
theorem dX8_at_0 : decode cX8_at 0 = .ok (.bipush 14, 2) := dk_16 14 (dk_at dksX8_at_0 0 rfl rfl)
theorem dX8_at_2 : decode cX8_at 2 = .ok (.iload_n 0, 1) := dk_26 (dk_at dksX8_at_0 2 rfl rfl)
theorem dX8_at_3 : decode cX8_at 3 = .ok (.imul, 1) := dk_104 (dk_at dksX8_at_0 3 rfl rfl)
theorem dX8_at_4 : decode cX8_at 4 = .ok (.iload_n 1, 1) := dk_27 (dk_at dksX8_at_0 4 rfl rfl)
theorem dX8_at_5 : decode cX8_at 5 = .ok (.iadd, 1) := dk_96 (dk_at dksX8_at_0 5 rfl rfl)
theorem dX8_at_6 : decode cX8_at 6 = .ok (.ireturn, 1) := dk_172 (dk_at dksX8_at_0 6 rfl rfl)
abbrev cX8_assemble : ByteArray := prog_12_method_23_code
def yX8_assemble : MethodName := ⟨RX8, "assemble", "(I)I"⟩
def dkwX8_assemble_6 : List UInt8 := [96, 104, 96, 5, 96, 42, 180, 0, 100, 79, 132, 3, 1, 167, 255, 179, 28, 172]
abbrev dktX8_assemble_6 : List UInt8 := dkwX8_assemble_6 ++ []
def dkwX8_assemble_5 : List UInt8 := [16, 56, 6, 27, 29, 96, 104, 96, 4, 96, 42, 180, 0, 97, 79, 42, 180, 0, 7, 16, 56, 6, 27, 29]
abbrev dktX8_assemble_5 : List UInt8 := dkwX8_assemble_5 ++ dktX8_assemble_6
def dkwX8_assemble_4 : List UInt8 := [181, 0, 88, 42, 180, 0, 7, 16, 56, 6, 27, 29, 96, 104, 96, 42, 180, 0, 94, 79, 42, 180, 0, 7]
abbrev dktX8_assemble_4 : List UInt8 := dkwX8_assemble_4 ++ dktX8_assemble_5
def dkwX8_assemble_3 : List UInt8 := [42, 3, 181, 0, 88, 3, 62, 29, 28, 162, 0, 78, 42, 182, 0, 91, 42, 89, 180, 0, 88, 4, 96]
abbrev dktX8_assemble_3 : List UInt8 := dkwX8_assemble_3 ++ dktX8_assemble_4
def dkwX8_assemble_2 : List UInt8 := [3, 96, 61, 132, 3, 1, 167, 255, 226, 27, 28, 96, 16, 48, 164, 0, 6, 18, 84, 172, 42, 182, 0, 85]
abbrev dktX8_assemble_2 : List UInt8 := dkwX8_assemble_2 ++ dktX8_assemble_3
def dkwX8_assemble_1 : List UInt8 := [29, 42, 180, 0, 81, 162, 0, 28, 28, 42, 180, 0, 19, 29, 46, 16, 59, 160, 0, 7, 4, 167, 0, 4]
abbrev dktX8_assemble_1 : List UInt8 := dkwX8_assemble_1 ++ dktX8_assemble_2
def dkwX8_assemble_0 : List UInt8 := [27, 184, 0, 72, 154, 0, 6, 18, 75, 172, 42, 182, 0, 76, 153, 0, 6, 18, 80, 172, 4, 61, 3, 62]
abbrev dktX8_assemble_0 : List UInt8 := dkwX8_assemble_0 ++ dktX8_assemble_1
theorem dksX8_assemble_0 : cX8_assemble.data.toList.drop 0 = dktX8_assemble_0 := by decide +kernel
theorem dksX8_assemble_1 : cX8_assemble.data.toList.drop 24 = dktX8_assemble_1 := dk_seg dksX8_assemble_0 24 rfl rfl
theorem dksX8_assemble_2 : cX8_assemble.data.toList.drop 48 = dktX8_assemble_2 := dk_seg dksX8_assemble_1 24 rfl rfl
theorem dksX8_assemble_3 : cX8_assemble.data.toList.drop 72 = dktX8_assemble_3 := dk_seg dksX8_assemble_2 24 rfl rfl
theorem dksX8_assemble_4 : cX8_assemble.data.toList.drop 95 = dktX8_assemble_4 := dk_seg dksX8_assemble_3 23 rfl rfl
theorem dksX8_assemble_5 : cX8_assemble.data.toList.drop 119 = dktX8_assemble_5 := dk_seg dksX8_assemble_4 24 rfl rfl
theorem dksX8_assemble_6 : cX8_assemble.data.toList.drop 143 = dktX8_assemble_6 := dk_seg dksX8_assemble_5 24 rfl rfl
theorem dX8_assemble_0 : decode cX8_assemble 0 = .ok (.iload_n 1, 1) := dk_27 (dk_at dksX8_assemble_0 0 rfl rfl)
theorem dX8_assemble_1 : decode cX8_assemble 1 = .ok (.invokestatic 72, 3) := dk_184 0 72 (dk_at dksX8_assemble_0 1 rfl rfl)
theorem dX8_assemble_4 : decode cX8_assemble 4 = .ok (.ifCond .ne 6, 3) := dk_154 0 6 (dk_at dksX8_assemble_0 4 rfl rfl)
theorem dX8_assemble_7 : decode cX8_assemble 7 = .ok (.ldc 75, 2) := dk_18 75 (dk_at dksX8_assemble_0 7 rfl rfl)
theorem dX8_assemble_9 : decode cX8_assemble 9 = .ok (.ireturn, 1) := dk_172 (dk_at dksX8_assemble_0 9 rfl rfl)
theorem dX8_assemble_10 : decode cX8_assemble 10 = .ok (.aload_n 0, 1) := dk_42 (dk_at dksX8_assemble_0 10 rfl rfl)
theorem dX8_assemble_11 : decode cX8_assemble 11 = .ok (.invokevirtual 76, 3) := dk_182 0 76 (dk_at dksX8_assemble_0 11 rfl rfl)
theorem dX8_assemble_14 : decode cX8_assemble 14 = .ok (.ifCond .eq 6, 3) := dk_153 0 6 (dk_at dksX8_assemble_0 14 rfl rfl)
theorem dX8_assemble_17 : decode cX8_assemble 17 = .ok (.ldc 80, 2) := dk_18 80 (dk_at dksX8_assemble_0 17 rfl rfl)
theorem dX8_assemble_19 : decode cX8_assemble 19 = .ok (.ireturn, 1) := dk_172 (dk_at dksX8_assemble_0 19 rfl rfl)
theorem dX8_assemble_20 : decode cX8_assemble 20 = .ok (.iconst 1, 1) := dk_4 (dk_at dksX8_assemble_0 20 rfl rfl)
theorem dX8_assemble_21 : decode cX8_assemble 21 = .ok (.istore_n 2, 1) := dk_61 (dk_at dksX8_assemble_0 21 rfl rfl)
theorem dX8_assemble_22 : decode cX8_assemble 22 = .ok (.iconst 0, 1) := dk_3 (dk_at dksX8_assemble_0 22 rfl rfl)
theorem dX8_assemble_23 : decode cX8_assemble 23 = .ok (.istore_n 3, 1) := dk_62 (dk_at dksX8_assemble_0 23 rfl rfl)
theorem dX8_assemble_24 : decode cX8_assemble 24 = .ok (.iload_n 3, 1) := dk_29 (dk_at dksX8_assemble_1 0 rfl rfl)
theorem dX8_assemble_25 : decode cX8_assemble 25 = .ok (.aload_n 0, 1) := dk_42 (dk_at dksX8_assemble_1 1 rfl rfl)
theorem dX8_assemble_26 : decode cX8_assemble 26 = .ok (.getfield 81, 3) := dk_180 0 81 (dk_at dksX8_assemble_1 2 rfl rfl)
theorem dX8_assemble_29 : decode cX8_assemble 29 = .ok (.if_icmp .ge 28, 3) := dk_162 0 28 (dk_at dksX8_assemble_1 5 rfl rfl)
theorem dX8_assemble_32 : decode cX8_assemble 32 = .ok (.iload_n 2, 1) := dk_28 (dk_at dksX8_assemble_1 8 rfl rfl)
theorem dX8_assemble_33 : decode cX8_assemble 33 = .ok (.aload_n 0, 1) := dk_42 (dk_at dksX8_assemble_1 9 rfl rfl)
theorem dX8_assemble_34 : decode cX8_assemble 34 = .ok (.getfield 19, 3) := dk_180 0 19 (dk_at dksX8_assemble_1 10 rfl rfl)
theorem dX8_assemble_37 : decode cX8_assemble 37 = .ok (.iload_n 3, 1) := dk_29 (dk_at dksX8_assemble_1 13 rfl rfl)
theorem dX8_assemble_38 : decode cX8_assemble 38 = .ok (.iaload, 1) := dk_46 (dk_at dksX8_assemble_1 14 rfl rfl)
theorem dX8_assemble_39 : decode cX8_assemble 39 = .ok (.bipush 59, 2) := dk_16 59 (dk_at dksX8_assemble_1 15 rfl rfl)
theorem dX8_assemble_41 : decode cX8_assemble 41 = .ok (.if_icmp .ne 7, 3) := dk_160 0 7 (dk_at dksX8_assemble_1 17 rfl rfl)
theorem dX8_assemble_44 : decode cX8_assemble 44 = .ok (.iconst 1, 1) := dk_4 (dk_at dksX8_assemble_1 20 rfl rfl)
theorem dX8_assemble_45 : decode cX8_assemble 45 = .ok (.goto 4, 3) := dk_167 0 4 (dk_at dksX8_assemble_1 21 rfl rfl)
theorem dX8_assemble_48 : decode cX8_assemble 48 = .ok (.iconst 0, 1) := dk_3 (dk_at dksX8_assemble_2 0 rfl rfl)
theorem dX8_assemble_49 : decode cX8_assemble 49 = .ok (.iadd, 1) := dk_96 (dk_at dksX8_assemble_2 1 rfl rfl)
theorem dX8_assemble_50 : decode cX8_assemble 50 = .ok (.istore_n 2, 1) := dk_61 (dk_at dksX8_assemble_2 2 rfl rfl)
theorem dX8_assemble_51 : decode cX8_assemble 51 = .ok (.iinc 3 1, 3) := dk_132 3 1 (dk_at dksX8_assemble_2 3 rfl rfl)
theorem dX8_assemble_54 : decode cX8_assemble 54 = .ok (.goto (-30), 3) := dk_167 255 226 (dk_at dksX8_assemble_2 6 rfl rfl)
theorem dX8_assemble_57 : decode cX8_assemble 57 = .ok (.iload_n 1, 1) := dk_27 (dk_at dksX8_assemble_2 9 rfl rfl)
theorem dX8_assemble_58 : decode cX8_assemble 58 = .ok (.iload_n 2, 1) := dk_28 (dk_at dksX8_assemble_2 10 rfl rfl)
theorem dX8_assemble_59 : decode cX8_assemble 59 = .ok (.iadd, 1) := dk_96 (dk_at dksX8_assemble_2 11 rfl rfl)
theorem dX8_assemble_60 : decode cX8_assemble 60 = .ok (.bipush 48, 2) := dk_16 48 (dk_at dksX8_assemble_2 12 rfl rfl)
theorem dX8_assemble_62 : decode cX8_assemble 62 = .ok (.if_icmp .le 6, 3) := dk_164 0 6 (dk_at dksX8_assemble_2 14 rfl rfl)
theorem dX8_assemble_65 : decode cX8_assemble 65 = .ok (.ldc 84, 2) := dk_18 84 (dk_at dksX8_assemble_2 17 rfl rfl)
theorem dX8_assemble_67 : decode cX8_assemble 67 = .ok (.ireturn, 1) := dk_172 (dk_at dksX8_assemble_2 19 rfl rfl)
theorem dX8_assemble_68 : decode cX8_assemble 68 = .ok (.aload_n 0, 1) := dk_42 (dk_at dksX8_assemble_2 20 rfl rfl)
theorem dX8_assemble_69 : decode cX8_assemble 69 = .ok (.invokevirtual 85, 3) := dk_182 0 85 (dk_at dksX8_assemble_2 21 rfl rfl)
theorem dX8_assemble_72 : decode cX8_assemble 72 = .ok (.aload_n 0, 1) := dk_42 (dk_at dksX8_assemble_3 0 rfl rfl)
theorem dX8_assemble_73 : decode cX8_assemble 73 = .ok (.iconst 0, 1) := dk_3 (dk_at dksX8_assemble_3 1 rfl rfl)
theorem dX8_assemble_74 : decode cX8_assemble 74 = .ok (.putfield 88, 3) := dk_181 0 88 (dk_at dksX8_assemble_3 2 rfl rfl)
theorem dX8_assemble_77 : decode cX8_assemble 77 = .ok (.iconst 0, 1) := dk_3 (dk_at dksX8_assemble_3 5 rfl rfl)
theorem dX8_assemble_78 : decode cX8_assemble 78 = .ok (.istore_n 3, 1) := dk_62 (dk_at dksX8_assemble_3 6 rfl rfl)
theorem dX8_assemble_79 : decode cX8_assemble 79 = .ok (.iload_n 3, 1) := dk_29 (dk_at dksX8_assemble_3 7 rfl rfl)
theorem dX8_assemble_80 : decode cX8_assemble 80 = .ok (.iload_n 2, 1) := dk_28 (dk_at dksX8_assemble_3 8 rfl rfl)
theorem dX8_assemble_81 : decode cX8_assemble 81 = .ok (.if_icmp .ge 78, 3) := dk_162 0 78 (dk_at dksX8_assemble_3 9 rfl rfl)
theorem dX8_assemble_84 : decode cX8_assemble 84 = .ok (.aload_n 0, 1) := dk_42 (dk_at dksX8_assemble_3 12 rfl rfl)
theorem dX8_assemble_85 : decode cX8_assemble 85 = .ok (.invokevirtual 91, 3) := dk_182 0 91 (dk_at dksX8_assemble_3 13 rfl rfl)
theorem dX8_assemble_88 : decode cX8_assemble 88 = .ok (.aload_n 0, 1) := dk_42 (dk_at dksX8_assemble_3 16 rfl rfl)
theorem dX8_assemble_89 : decode cX8_assemble 89 = .ok (.dup, 1) := dk_89 (dk_at dksX8_assemble_3 17 rfl rfl)
theorem dX8_assemble_90 : decode cX8_assemble 90 = .ok (.getfield 88, 3) := dk_180 0 88 (dk_at dksX8_assemble_3 18 rfl rfl)
theorem dX8_assemble_93 : decode cX8_assemble 93 = .ok (.iconst 1, 1) := dk_4 (dk_at dksX8_assemble_3 21 rfl rfl)
theorem dX8_assemble_94 : decode cX8_assemble 94 = .ok (.iadd, 1) := dk_96 (dk_at dksX8_assemble_3 22 rfl rfl)
theorem dX8_assemble_95 : decode cX8_assemble 95 = .ok (.putfield 88, 3) := dk_181 0 88 (dk_at dksX8_assemble_4 0 rfl rfl)
theorem dX8_assemble_98 : decode cX8_assemble 98 = .ok (.aload_n 0, 1) := dk_42 (dk_at dksX8_assemble_4 3 rfl rfl)
theorem dX8_assemble_99 : decode cX8_assemble 99 = .ok (.getfield 7, 3) := dk_180 0 7 (dk_at dksX8_assemble_4 4 rfl rfl)
theorem dX8_assemble_102 : decode cX8_assemble 102 = .ok (.bipush 56, 2) := dk_16 56 (dk_at dksX8_assemble_4 7 rfl rfl)
theorem dX8_assemble_104 : decode cX8_assemble 104 = .ok (.iconst 3, 1) := dk_6 (dk_at dksX8_assemble_4 9 rfl rfl)
theorem dX8_assemble_105 : decode cX8_assemble 105 = .ok (.iload_n 1, 1) := dk_27 (dk_at dksX8_assemble_4 10 rfl rfl)
theorem dX8_assemble_106 : decode cX8_assemble 106 = .ok (.iload_n 3, 1) := dk_29 (dk_at dksX8_assemble_4 11 rfl rfl)
theorem dX8_assemble_107 : decode cX8_assemble 107 = .ok (.iadd, 1) := dk_96 (dk_at dksX8_assemble_4 12 rfl rfl)
theorem dX8_assemble_108 : decode cX8_assemble 108 = .ok (.imul, 1) := dk_104 (dk_at dksX8_assemble_4 13 rfl rfl)
theorem dX8_assemble_109 : decode cX8_assemble 109 = .ok (.iadd, 1) := dk_96 (dk_at dksX8_assemble_4 14 rfl rfl)
theorem dX8_assemble_110 : decode cX8_assemble 110 = .ok (.aload_n 0, 1) := dk_42 (dk_at dksX8_assemble_4 15 rfl rfl)
theorem dX8_assemble_111 : decode cX8_assemble 111 = .ok (.getfield 94, 3) := dk_180 0 94 (dk_at dksX8_assemble_4 16 rfl rfl)
theorem dX8_assemble_114 : decode cX8_assemble 114 = .ok (.iastore, 1) := dk_79 (dk_at dksX8_assemble_4 19 rfl rfl)
theorem dX8_assemble_115 : decode cX8_assemble 115 = .ok (.aload_n 0, 1) := dk_42 (dk_at dksX8_assemble_4 20 rfl rfl)
theorem dX8_assemble_116 : decode cX8_assemble 116 = .ok (.getfield 7, 3) := dk_180 0 7 (dk_at dksX8_assemble_4 21 rfl rfl)
theorem dX8_assemble_119 : decode cX8_assemble 119 = .ok (.bipush 56, 2) := dk_16 56 (dk_at dksX8_assemble_5 0 rfl rfl)
theorem dX8_assemble_121 : decode cX8_assemble 121 = .ok (.iconst 3, 1) := dk_6 (dk_at dksX8_assemble_5 2 rfl rfl)
theorem dX8_assemble_122 : decode cX8_assemble 122 = .ok (.iload_n 1, 1) := dk_27 (dk_at dksX8_assemble_5 3 rfl rfl)
theorem dX8_assemble_123 : decode cX8_assemble 123 = .ok (.iload_n 3, 1) := dk_29 (dk_at dksX8_assemble_5 4 rfl rfl)
theorem dX8_assemble_124 : decode cX8_assemble 124 = .ok (.iadd, 1) := dk_96 (dk_at dksX8_assemble_5 5 rfl rfl)
theorem dX8_assemble_125 : decode cX8_assemble 125 = .ok (.imul, 1) := dk_104 (dk_at dksX8_assemble_5 6 rfl rfl)
theorem dX8_assemble_126 : decode cX8_assemble 126 = .ok (.iadd, 1) := dk_96 (dk_at dksX8_assemble_5 7 rfl rfl)
theorem dX8_assemble_127 : decode cX8_assemble 127 = .ok (.iconst 1, 1) := dk_4 (dk_at dksX8_assemble_5 8 rfl rfl)
theorem dX8_assemble_128 : decode cX8_assemble 128 = .ok (.iadd, 1) := dk_96 (dk_at dksX8_assemble_5 9 rfl rfl)
theorem dX8_assemble_129 : decode cX8_assemble 129 = .ok (.aload_n 0, 1) := dk_42 (dk_at dksX8_assemble_5 10 rfl rfl)
theorem dX8_assemble_130 : decode cX8_assemble 130 = .ok (.getfield 97, 3) := dk_180 0 97 (dk_at dksX8_assemble_5 11 rfl rfl)
theorem dX8_assemble_133 : decode cX8_assemble 133 = .ok (.iastore, 1) := dk_79 (dk_at dksX8_assemble_5 14 rfl rfl)
theorem dX8_assemble_134 : decode cX8_assemble 134 = .ok (.aload_n 0, 1) := dk_42 (dk_at dksX8_assemble_5 15 rfl rfl)
theorem dX8_assemble_135 : decode cX8_assemble 135 = .ok (.getfield 7, 3) := dk_180 0 7 (dk_at dksX8_assemble_5 16 rfl rfl)
theorem dX8_assemble_138 : decode cX8_assemble 138 = .ok (.bipush 56, 2) := dk_16 56 (dk_at dksX8_assemble_5 19 rfl rfl)
theorem dX8_assemble_140 : decode cX8_assemble 140 = .ok (.iconst 3, 1) := dk_6 (dk_at dksX8_assemble_5 21 rfl rfl)
theorem dX8_assemble_141 : decode cX8_assemble 141 = .ok (.iload_n 1, 1) := dk_27 (dk_at dksX8_assemble_5 22 rfl rfl)
theorem dX8_assemble_142 : decode cX8_assemble 142 = .ok (.iload_n 3, 1) := dk_29 (dk_at dksX8_assemble_5 23 rfl rfl)
theorem dX8_assemble_143 : decode cX8_assemble 143 = .ok (.iadd, 1) := dk_96 (dk_at dksX8_assemble_6 0 rfl rfl)
theorem dX8_assemble_144 : decode cX8_assemble 144 = .ok (.imul, 1) := dk_104 (dk_at dksX8_assemble_6 1 rfl rfl)
theorem dX8_assemble_145 : decode cX8_assemble 145 = .ok (.iadd, 1) := dk_96 (dk_at dksX8_assemble_6 2 rfl rfl)
theorem dX8_assemble_146 : decode cX8_assemble 146 = .ok (.iconst 2, 1) := dk_5 (dk_at dksX8_assemble_6 3 rfl rfl)
theorem dX8_assemble_147 : decode cX8_assemble 147 = .ok (.iadd, 1) := dk_96 (dk_at dksX8_assemble_6 4 rfl rfl)
theorem dX8_assemble_148 : decode cX8_assemble 148 = .ok (.aload_n 0, 1) := dk_42 (dk_at dksX8_assemble_6 5 rfl rfl)
theorem dX8_assemble_149 : decode cX8_assemble 149 = .ok (.getfield 100, 3) := dk_180 0 100 (dk_at dksX8_assemble_6 6 rfl rfl)
theorem dX8_assemble_152 : decode cX8_assemble 152 = .ok (.iastore, 1) := dk_79 (dk_at dksX8_assemble_6 9 rfl rfl)
theorem dX8_assemble_153 : decode cX8_assemble 153 = .ok (.iinc 3 1, 3) := dk_132 3 1 (dk_at dksX8_assemble_6 10 rfl rfl)
theorem dX8_assemble_156 : decode cX8_assemble 156 = .ok (.goto (-77), 3) := dk_167 255 179 (dk_at dksX8_assemble_6 13 rfl rfl)
theorem dX8_assemble_159 : decode cX8_assemble 159 = .ok (.iload_n 2, 1) := dk_28 (dk_at dksX8_assemble_6 16 rfl rfl)
theorem dX8_assemble_160 : decode cX8_assemble 160 = .ok (.ireturn, 1) := dk_172 (dk_at dksX8_assemble_6 17 rfl rfl)
abbrev cX8_isPlace : ByteArray := prog_12_method_6_code
def yX8_isPlace : MethodName := ⟨RX8, "isPlace", "(I)Z"⟩
def dkwX8_isPlace_0 : List UInt8 := [26, 3, 16, 47, 184, 0, 26, 172]
abbrev dktX8_isPlace_0 : List UInt8 := dkwX8_isPlace_0 ++ []
theorem dksX8_isPlace_0 : cX8_isPlace.data.toList.drop 0 = dktX8_isPlace_0 := by decide +kernel
theorem dX8_isPlace_0 : decode cX8_isPlace 0 = .ok (.iload_n 0, 1) := dk_26 (dk_at dksX8_isPlace_0 0 rfl rfl)
theorem dX8_isPlace_1 : decode cX8_isPlace 1 = .ok (.iconst 0, 1) := dk_3 (dk_at dksX8_isPlace_0 1 rfl rfl)
theorem dX8_isPlace_2 : decode cX8_isPlace 2 = .ok (.bipush 47, 2) := dk_16 47 (dk_at dksX8_isPlace_0 2 rfl rfl)
theorem dX8_isPlace_4 : decode cX8_isPlace 4 = .ok (.invokestatic 26, 3) := dk_184 0 26 (dk_at dksX8_isPlace_0 4 rfl rfl)
theorem dX8_isPlace_7 : decode cX8_isPlace 7 = .ok (.ireturn, 1) := dk_172 (dk_at dksX8_isPlace_0 7 rfl rfl)
abbrev cX8_in : ByteArray := prog_12_method_3_code
def yX8_in : MethodName := ⟨RX8, "in", "(III)Z"⟩
def dkwX8_in_0 : List UInt8 := [26, 27, 161, 0, 12, 26, 28, 163, 0, 7, 4, 167, 0, 4, 3, 172]
abbrev dktX8_in_0 : List UInt8 := dkwX8_in_0 ++ []
theorem dksX8_in_0 : cX8_in.data.toList.drop 0 = dktX8_in_0 := by decide +kernel
theorem dX8_in_0 : decode cX8_in 0 = .ok (.iload_n 0, 1) := dk_26 (dk_at dksX8_in_0 0 rfl rfl)
theorem dX8_in_1 : decode cX8_in 1 = .ok (.iload_n 1, 1) := dk_27 (dk_at dksX8_in_0 1 rfl rfl)
theorem dX8_in_2 : decode cX8_in 2 = .ok (.if_icmp .lt 12, 3) := dk_161 0 12 (dk_at dksX8_in_0 2 rfl rfl)
theorem dX8_in_5 : decode cX8_in 5 = .ok (.iload_n 0, 1) := dk_26 (dk_at dksX8_in_0 5 rfl rfl)
theorem dX8_in_6 : decode cX8_in 6 = .ok (.iload_n 2, 1) := dk_28 (dk_at dksX8_in_0 6 rfl rfl)
theorem dX8_in_7 : decode cX8_in 7 = .ok (.if_icmp .gt 7, 3) := dk_163 0 7 (dk_at dksX8_in_0 7 rfl rfl)
theorem dX8_in_10 : decode cX8_in 10 = .ok (.iconst 1, 1) := dk_4 (dk_at dksX8_in_0 10 rfl rfl)
theorem dX8_in_11 : decode cX8_in 11 = .ok (.goto 4, 3) := dk_167 0 4 (dk_at dksX8_in_0 11 rfl rfl)
theorem dX8_in_14 : decode cX8_in 14 = .ok (.iconst 0, 1) := dk_3 (dk_at dksX8_in_0 14 rfl rfl)
theorem dX8_in_15 : decode cX8_in 15 = .ok (.ireturn, 1) := dk_172 (dk_at dksX8_in_0 15 rfl rfl)
abbrev cX8_isFaulty : ByteArray := prog_12_method_42_code
def yX8_isFaulty : MethodName := ⟨RX8, "isFaulty", "()Z"⟩
def dkwX8_isFaulty_3 : List UInt8 := [180, 0, 125, 172]
abbrev dktX8_isFaulty_3 : List UInt8 := dkwX8_isFaulty_3 ++ []
def dkwX8_isFaulty_2 : List UInt8 := [42, 16, 59, 182, 0, 141, 42, 180, 0, 125, 154, 0, 7, 4, 167, 0, 4, 3, 60, 167, 255, 201, 42]
abbrev dktX8_isFaulty_2 : List UInt8 := dkwX8_isFaulty_2 ++ dktX8_isFaulty_3
def dkwX8_isFaulty_1 : List UInt8 := [154, 0, 18, 42, 180, 0, 88, 42, 180, 0, 81, 162, 0, 7, 4, 167, 0, 4, 3, 60, 27, 153, 255, 223]
abbrev dktX8_isFaulty_1 : List UInt8 := dkwX8_isFaulty_1 ++ dktX8_isFaulty_2
def dkwX8_isFaulty_0 : List UInt8 := [42, 3, 181, 0, 88, 42, 3, 181, 0, 125, 4, 60, 27, 153, 0, 57, 42, 182, 0, 91, 42, 180, 0, 125]
abbrev dktX8_isFaulty_0 : List UInt8 := dkwX8_isFaulty_0 ++ dktX8_isFaulty_1
theorem dksX8_isFaulty_0 : cX8_isFaulty.data.toList.drop 0 = dktX8_isFaulty_0 := by decide +kernel
theorem dksX8_isFaulty_1 : cX8_isFaulty.data.toList.drop 24 = dktX8_isFaulty_1 := dk_seg dksX8_isFaulty_0 24 rfl rfl
theorem dksX8_isFaulty_2 : cX8_isFaulty.data.toList.drop 48 = dktX8_isFaulty_2 := dk_seg dksX8_isFaulty_1 24 rfl rfl
theorem dksX8_isFaulty_3 : cX8_isFaulty.data.toList.drop 71 = dktX8_isFaulty_3 := dk_seg dksX8_isFaulty_2 23 rfl rfl
theorem dX8_isFaulty_0 : decode cX8_isFaulty 0 = .ok (.aload_n 0, 1) := dk_42 (dk_at dksX8_isFaulty_0 0 rfl rfl)
theorem dX8_isFaulty_1 : decode cX8_isFaulty 1 = .ok (.iconst 0, 1) := dk_3 (dk_at dksX8_isFaulty_0 1 rfl rfl)
theorem dX8_isFaulty_2 : decode cX8_isFaulty 2 = .ok (.putfield 88, 3) := dk_181 0 88 (dk_at dksX8_isFaulty_0 2 rfl rfl)
theorem dX8_isFaulty_5 : decode cX8_isFaulty 5 = .ok (.aload_n 0, 1) := dk_42 (dk_at dksX8_isFaulty_0 5 rfl rfl)
theorem dX8_isFaulty_6 : decode cX8_isFaulty 6 = .ok (.iconst 0, 1) := dk_3 (dk_at dksX8_isFaulty_0 6 rfl rfl)
theorem dX8_isFaulty_7 : decode cX8_isFaulty 7 = .ok (.putfield 125, 3) := dk_181 0 125 (dk_at dksX8_isFaulty_0 7 rfl rfl)
theorem dX8_isFaulty_10 : decode cX8_isFaulty 10 = .ok (.iconst 1, 1) := dk_4 (dk_at dksX8_isFaulty_0 10 rfl rfl)
theorem dX8_isFaulty_11 : decode cX8_isFaulty 11 = .ok (.istore_n 1, 1) := dk_60 (dk_at dksX8_isFaulty_0 11 rfl rfl)
theorem dX8_isFaulty_12 : decode cX8_isFaulty 12 = .ok (.iload_n 1, 1) := dk_27 (dk_at dksX8_isFaulty_0 12 rfl rfl)
theorem dX8_isFaulty_13 : decode cX8_isFaulty 13 = .ok (.ifCond .eq 57, 3) := dk_153 0 57 (dk_at dksX8_isFaulty_0 13 rfl rfl)
theorem dX8_isFaulty_16 : decode cX8_isFaulty 16 = .ok (.aload_n 0, 1) := dk_42 (dk_at dksX8_isFaulty_0 16 rfl rfl)
theorem dX8_isFaulty_17 : decode cX8_isFaulty 17 = .ok (.invokevirtual 91, 3) := dk_182 0 91 (dk_at dksX8_isFaulty_0 17 rfl rfl)
theorem dX8_isFaulty_20 : decode cX8_isFaulty 20 = .ok (.aload_n 0, 1) := dk_42 (dk_at dksX8_isFaulty_0 20 rfl rfl)
theorem dX8_isFaulty_21 : decode cX8_isFaulty 21 = .ok (.getfield 125, 3) := dk_180 0 125 (dk_at dksX8_isFaulty_0 21 rfl rfl)
theorem dX8_isFaulty_24 : decode cX8_isFaulty 24 = .ok (.ifCond .ne 18, 3) := dk_154 0 18 (dk_at dksX8_isFaulty_1 0 rfl rfl)
theorem dX8_isFaulty_27 : decode cX8_isFaulty 27 = .ok (.aload_n 0, 1) := dk_42 (dk_at dksX8_isFaulty_1 3 rfl rfl)
theorem dX8_isFaulty_28 : decode cX8_isFaulty 28 = .ok (.getfield 88, 3) := dk_180 0 88 (dk_at dksX8_isFaulty_1 4 rfl rfl)
theorem dX8_isFaulty_31 : decode cX8_isFaulty 31 = .ok (.aload_n 0, 1) := dk_42 (dk_at dksX8_isFaulty_1 7 rfl rfl)
theorem dX8_isFaulty_32 : decode cX8_isFaulty 32 = .ok (.getfield 81, 3) := dk_180 0 81 (dk_at dksX8_isFaulty_1 8 rfl rfl)
theorem dX8_isFaulty_35 : decode cX8_isFaulty 35 = .ok (.if_icmp .ge 7, 3) := dk_162 0 7 (dk_at dksX8_isFaulty_1 11 rfl rfl)
theorem dX8_isFaulty_38 : decode cX8_isFaulty 38 = .ok (.iconst 1, 1) := dk_4 (dk_at dksX8_isFaulty_1 14 rfl rfl)
theorem dX8_isFaulty_39 : decode cX8_isFaulty 39 = .ok (.goto 4, 3) := dk_167 0 4 (dk_at dksX8_isFaulty_1 15 rfl rfl)
theorem dX8_isFaulty_42 : decode cX8_isFaulty 42 = .ok (.iconst 0, 1) := dk_3 (dk_at dksX8_isFaulty_1 18 rfl rfl)
theorem dX8_isFaulty_43 : decode cX8_isFaulty 43 = .ok (.istore_n 1, 1) := dk_60 (dk_at dksX8_isFaulty_1 19 rfl rfl)
theorem dX8_isFaulty_44 : decode cX8_isFaulty 44 = .ok (.iload_n 1, 1) := dk_27 (dk_at dksX8_isFaulty_1 20 rfl rfl)
theorem dX8_isFaulty_45 : decode cX8_isFaulty 45 = .ok (.ifCond .eq (-33), 3) := dk_153 255 223 (dk_at dksX8_isFaulty_1 21 rfl rfl)
theorem dX8_isFaulty_48 : decode cX8_isFaulty 48 = .ok (.aload_n 0, 1) := dk_42 (dk_at dksX8_isFaulty_2 0 rfl rfl)
theorem dX8_isFaulty_49 : decode cX8_isFaulty 49 = .ok (.bipush 59, 2) := dk_16 59 (dk_at dksX8_isFaulty_2 1 rfl rfl)
theorem dX8_isFaulty_51 : decode cX8_isFaulty 51 = .ok (.invokevirtual 141, 3) := dk_182 0 141 (dk_at dksX8_isFaulty_2 3 rfl rfl)
theorem dX8_isFaulty_54 : decode cX8_isFaulty 54 = .ok (.aload_n 0, 1) := dk_42 (dk_at dksX8_isFaulty_2 6 rfl rfl)
theorem dX8_isFaulty_55 : decode cX8_isFaulty 55 = .ok (.getfield 125, 3) := dk_180 0 125 (dk_at dksX8_isFaulty_2 7 rfl rfl)
theorem dX8_isFaulty_58 : decode cX8_isFaulty 58 = .ok (.ifCond .ne 7, 3) := dk_154 0 7 (dk_at dksX8_isFaulty_2 10 rfl rfl)
theorem dX8_isFaulty_61 : decode cX8_isFaulty 61 = .ok (.iconst 1, 1) := dk_4 (dk_at dksX8_isFaulty_2 13 rfl rfl)
theorem dX8_isFaulty_62 : decode cX8_isFaulty 62 = .ok (.goto 4, 3) := dk_167 0 4 (dk_at dksX8_isFaulty_2 14 rfl rfl)
theorem dX8_isFaulty_65 : decode cX8_isFaulty 65 = .ok (.iconst 0, 1) := dk_3 (dk_at dksX8_isFaulty_2 17 rfl rfl)
theorem dX8_isFaulty_66 : decode cX8_isFaulty 66 = .ok (.istore_n 1, 1) := dk_60 (dk_at dksX8_isFaulty_2 18 rfl rfl)
theorem dX8_isFaulty_67 : decode cX8_isFaulty 67 = .ok (.goto (-55), 3) := dk_167 255 201 (dk_at dksX8_isFaulty_2 19 rfl rfl)
theorem dX8_isFaulty_70 : decode cX8_isFaulty 70 = .ok (.aload_n 0, 1) := dk_42 (dk_at dksX8_isFaulty_2 22 rfl rfl)
theorem dX8_isFaulty_71 : decode cX8_isFaulty 71 = .ok (.getfield 125, 3) := dk_180 0 125 (dk_at dksX8_isFaulty_3 0 rfl rfl)
theorem dX8_isFaulty_74 : decode cX8_isFaulty 74 = .ok (.ireturn, 1) := dk_172 (dk_at dksX8_isFaulty_3 3 rfl rfl)
abbrev cX8_instruction : ByteArray := prog_12_method_41_code
def yX8_instruction : MethodName := ⟨RX8, "instruction", "()V"⟩
def dkwX8_instruction_6 : List UInt8 := [42, 42, 3, 16, 47, 182, 0, 135, 181, 0, 100, 177]
abbrev dktX8_instruction_6 : List UInt8 := dkwX8_instruction_6 ++ []
def dkwX8_instruction_5 : List UInt8 := [16, 7, 162, 0, 16, 42, 42, 3, 6, 182, 0, 132, 181, 0, 100, 167, 0, 20, 42, 16, 62, 182, 0, 141]
abbrev dktX8_instruction_5 : List UInt8 := dkwX8_instruction_5 ++ dktX8_instruction_6
def dkwX8_instruction_4 : List UInt8 := [154, 0, 20, 42, 16, 61, 182, 0, 141, 42, 42, 182, 0, 144, 181, 0, 100, 167, 0, 42, 42, 180, 0, 94]
abbrev dktX8_instruction_4 : List UInt8 := dkwX8_instruction_4 ++ dktX8_instruction_5
def dkwX8_instruction_3 : List UInt8 := [180, 0, 94, 16, 10, 162, 0, 76, 42, 42, 3, 6, 182, 0, 132, 181, 0, 97, 42, 180, 0, 94]
abbrev dktX8_instruction_3 : List UInt8 := dkwX8_instruction_3 ++ dktX8_instruction_4
def dkwX8_instruction_2 : List UInt8 := [180, 0, 94, 16, 7, 160, 0, 17, 42, 42, 3, 16, 47, 182, 0, 135, 181, 0, 97, 167, 0, 85, 42]
abbrev dktX8_instruction_2 : List UInt8 := dkwX8_instruction_2 ++ dktX8_instruction_3
def dkwX8_instruction_1 : List UInt8 := [180, 0, 94, 2, 160, 0, 9, 42, 4, 181, 0, 125, 177, 42, 89, 180, 0, 88, 4, 96, 181, 0, 88, 42]
abbrev dktX8_instruction_1 : List UInt8 := dkwX8_instruction_1 ++ dktX8_instruction_2
def dkwX8_instruction_0 : List UInt8 := [42, 42, 182, 0, 129, 184, 0, 138, 181, 0, 94, 42, 3, 181, 0, 97, 42, 3, 181, 0, 100, 42]
abbrev dktX8_instruction_0 : List UInt8 := dkwX8_instruction_0 ++ dktX8_instruction_1
theorem dksX8_instruction_0 : cX8_instruction.data.toList.drop 0 = dktX8_instruction_0 := by decide +kernel
theorem dksX8_instruction_1 : cX8_instruction.data.toList.drop 22 = dktX8_instruction_1 := dk_seg dksX8_instruction_0 22 rfl rfl
theorem dksX8_instruction_2 : cX8_instruction.data.toList.drop 46 = dktX8_instruction_2 := dk_seg dksX8_instruction_1 24 rfl rfl
theorem dksX8_instruction_3 : cX8_instruction.data.toList.drop 69 = dktX8_instruction_3 := dk_seg dksX8_instruction_2 23 rfl rfl
theorem dksX8_instruction_4 : cX8_instruction.data.toList.drop 91 = dktX8_instruction_4 := dk_seg dksX8_instruction_3 22 rfl rfl
theorem dksX8_instruction_5 : cX8_instruction.data.toList.drop 115 = dktX8_instruction_5 := dk_seg dksX8_instruction_4 24 rfl rfl
theorem dksX8_instruction_6 : cX8_instruction.data.toList.drop 139 = dktX8_instruction_6 := dk_seg dksX8_instruction_5 24 rfl rfl
theorem dX8_instruction_0 : decode cX8_instruction 0 = .ok (.aload_n 0, 1) := dk_42 (dk_at dksX8_instruction_0 0 rfl rfl)
theorem dX8_instruction_1 : decode cX8_instruction 1 = .ok (.aload_n 0, 1) := dk_42 (dk_at dksX8_instruction_0 1 rfl rfl)
theorem dX8_instruction_2 : decode cX8_instruction 2 = .ok (.invokevirtual 129, 3) := dk_182 0 129 (dk_at dksX8_instruction_0 2 rfl rfl)
theorem dX8_instruction_5 : decode cX8_instruction 5 = .ok (.invokestatic 138, 3) := dk_184 0 138 (dk_at dksX8_instruction_0 5 rfl rfl)
theorem dX8_instruction_8 : decode cX8_instruction 8 = .ok (.putfield 94, 3) := dk_181 0 94 (dk_at dksX8_instruction_0 8 rfl rfl)
theorem dX8_instruction_11 : decode cX8_instruction 11 = .ok (.aload_n 0, 1) := dk_42 (dk_at dksX8_instruction_0 11 rfl rfl)
theorem dX8_instruction_12 : decode cX8_instruction 12 = .ok (.iconst 0, 1) := dk_3 (dk_at dksX8_instruction_0 12 rfl rfl)
theorem dX8_instruction_13 : decode cX8_instruction 13 = .ok (.putfield 97, 3) := dk_181 0 97 (dk_at dksX8_instruction_0 13 rfl rfl)
theorem dX8_instruction_16 : decode cX8_instruction 16 = .ok (.aload_n 0, 1) := dk_42 (dk_at dksX8_instruction_0 16 rfl rfl)
theorem dX8_instruction_17 : decode cX8_instruction 17 = .ok (.iconst 0, 1) := dk_3 (dk_at dksX8_instruction_0 17 rfl rfl)
theorem dX8_instruction_18 : decode cX8_instruction 18 = .ok (.putfield 100, 3) := dk_181 0 100 (dk_at dksX8_instruction_0 18 rfl rfl)
theorem dX8_instruction_21 : decode cX8_instruction 21 = .ok (.aload_n 0, 1) := dk_42 (dk_at dksX8_instruction_0 21 rfl rfl)
theorem dX8_instruction_22 : decode cX8_instruction 22 = .ok (.getfield 94, 3) := dk_180 0 94 (dk_at dksX8_instruction_1 0 rfl rfl)
theorem dX8_instruction_25 : decode cX8_instruction 25 = .ok (.iconst (-1), 1) := dk_2 (dk_at dksX8_instruction_1 3 rfl rfl)
theorem dX8_instruction_26 : decode cX8_instruction 26 = .ok (.if_icmp .ne 9, 3) := dk_160 0 9 (dk_at dksX8_instruction_1 4 rfl rfl)
theorem dX8_instruction_29 : decode cX8_instruction 29 = .ok (.aload_n 0, 1) := dk_42 (dk_at dksX8_instruction_1 7 rfl rfl)
theorem dX8_instruction_30 : decode cX8_instruction 30 = .ok (.iconst 1, 1) := dk_4 (dk_at dksX8_instruction_1 8 rfl rfl)
theorem dX8_instruction_31 : decode cX8_instruction 31 = .ok (.putfield 125, 3) := dk_181 0 125 (dk_at dksX8_instruction_1 9 rfl rfl)
theorem dX8_instruction_34 : decode cX8_instruction 34 = .ok (.return_, 1) := dk_177 (dk_at dksX8_instruction_1 12 rfl rfl)
theorem dX8_instruction_35 : decode cX8_instruction 35 = .ok (.aload_n 0, 1) := dk_42 (dk_at dksX8_instruction_1 13 rfl rfl)
theorem dX8_instruction_36 : decode cX8_instruction 36 = .ok (.dup, 1) := dk_89 (dk_at dksX8_instruction_1 14 rfl rfl)
theorem dX8_instruction_37 : decode cX8_instruction 37 = .ok (.getfield 88, 3) := dk_180 0 88 (dk_at dksX8_instruction_1 15 rfl rfl)
theorem dX8_instruction_40 : decode cX8_instruction 40 = .ok (.iconst 1, 1) := dk_4 (dk_at dksX8_instruction_1 18 rfl rfl)
theorem dX8_instruction_41 : decode cX8_instruction 41 = .ok (.iadd, 1) := dk_96 (dk_at dksX8_instruction_1 19 rfl rfl)
theorem dX8_instruction_42 : decode cX8_instruction 42 = .ok (.putfield 88, 3) := dk_181 0 88 (dk_at dksX8_instruction_1 20 rfl rfl)
theorem dX8_instruction_45 : decode cX8_instruction 45 = .ok (.aload_n 0, 1) := dk_42 (dk_at dksX8_instruction_1 23 rfl rfl)
theorem dX8_instruction_46 : decode cX8_instruction 46 = .ok (.getfield 94, 3) := dk_180 0 94 (dk_at dksX8_instruction_2 0 rfl rfl)
theorem dX8_instruction_49 : decode cX8_instruction 49 = .ok (.bipush 7, 2) := dk_16 7 (dk_at dksX8_instruction_2 3 rfl rfl)
theorem dX8_instruction_51 : decode cX8_instruction 51 = .ok (.if_icmp .ne 17, 3) := dk_160 0 17 (dk_at dksX8_instruction_2 5 rfl rfl)
theorem dX8_instruction_54 : decode cX8_instruction 54 = .ok (.aload_n 0, 1) := dk_42 (dk_at dksX8_instruction_2 8 rfl rfl)
theorem dX8_instruction_55 : decode cX8_instruction 55 = .ok (.aload_n 0, 1) := dk_42 (dk_at dksX8_instruction_2 9 rfl rfl)
theorem dX8_instruction_56 : decode cX8_instruction 56 = .ok (.iconst 0, 1) := dk_3 (dk_at dksX8_instruction_2 10 rfl rfl)
theorem dX8_instruction_57 : decode cX8_instruction 57 = .ok (.bipush 47, 2) := dk_16 47 (dk_at dksX8_instruction_2 11 rfl rfl)
theorem dX8_instruction_59 : decode cX8_instruction 59 = .ok (.invokevirtual 135, 3) := dk_182 0 135 (dk_at dksX8_instruction_2 13 rfl rfl)
theorem dX8_instruction_62 : decode cX8_instruction 62 = .ok (.putfield 97, 3) := dk_181 0 97 (dk_at dksX8_instruction_2 16 rfl rfl)
theorem dX8_instruction_65 : decode cX8_instruction 65 = .ok (.goto 85, 3) := dk_167 0 85 (dk_at dksX8_instruction_2 19 rfl rfl)
theorem dX8_instruction_68 : decode cX8_instruction 68 = .ok (.aload_n 0, 1) := dk_42 (dk_at dksX8_instruction_2 22 rfl rfl)
theorem dX8_instruction_69 : decode cX8_instruction 69 = .ok (.getfield 94, 3) := dk_180 0 94 (dk_at dksX8_instruction_3 0 rfl rfl)
theorem dX8_instruction_72 : decode cX8_instruction 72 = .ok (.bipush 10, 2) := dk_16 10 (dk_at dksX8_instruction_3 3 rfl rfl)
theorem dX8_instruction_74 : decode cX8_instruction 74 = .ok (.if_icmp .ge 76, 3) := dk_162 0 76 (dk_at dksX8_instruction_3 5 rfl rfl)
theorem dX8_instruction_77 : decode cX8_instruction 77 = .ok (.aload_n 0, 1) := dk_42 (dk_at dksX8_instruction_3 8 rfl rfl)
theorem dX8_instruction_78 : decode cX8_instruction 78 = .ok (.aload_n 0, 1) := dk_42 (dk_at dksX8_instruction_3 9 rfl rfl)
theorem dX8_instruction_79 : decode cX8_instruction 79 = .ok (.iconst 0, 1) := dk_3 (dk_at dksX8_instruction_3 10 rfl rfl)
theorem dX8_instruction_80 : decode cX8_instruction 80 = .ok (.iconst 3, 1) := dk_6 (dk_at dksX8_instruction_3 11 rfl rfl)
theorem dX8_instruction_81 : decode cX8_instruction 81 = .ok (.invokevirtual 132, 3) := dk_182 0 132 (dk_at dksX8_instruction_3 12 rfl rfl)
theorem dX8_instruction_84 : decode cX8_instruction 84 = .ok (.putfield 97, 3) := dk_181 0 97 (dk_at dksX8_instruction_3 15 rfl rfl)
theorem dX8_instruction_87 : decode cX8_instruction 87 = .ok (.aload_n 0, 1) := dk_42 (dk_at dksX8_instruction_3 18 rfl rfl)
theorem dX8_instruction_88 : decode cX8_instruction 88 = .ok (.getfield 94, 3) := dk_180 0 94 (dk_at dksX8_instruction_3 19 rfl rfl)
theorem dX8_instruction_91 : decode cX8_instruction 91 = .ok (.ifCond .ne 20, 3) := dk_154 0 20 (dk_at dksX8_instruction_4 0 rfl rfl)
theorem dX8_instruction_94 : decode cX8_instruction 94 = .ok (.aload_n 0, 1) := dk_42 (dk_at dksX8_instruction_4 3 rfl rfl)
theorem dX8_instruction_95 : decode cX8_instruction 95 = .ok (.bipush 61, 2) := dk_16 61 (dk_at dksX8_instruction_4 4 rfl rfl)
theorem dX8_instruction_97 : decode cX8_instruction 97 = .ok (.invokevirtual 141, 3) := dk_182 0 141 (dk_at dksX8_instruction_4 6 rfl rfl)
theorem dX8_instruction_100 : decode cX8_instruction 100 = .ok (.aload_n 0, 1) := dk_42 (dk_at dksX8_instruction_4 9 rfl rfl)
theorem dX8_instruction_101 : decode cX8_instruction 101 = .ok (.aload_n 0, 1) := dk_42 (dk_at dksX8_instruction_4 10 rfl rfl)
theorem dX8_instruction_102 : decode cX8_instruction 102 = .ok (.invokevirtual 144, 3) := dk_182 0 144 (dk_at dksX8_instruction_4 11 rfl rfl)
theorem dX8_instruction_105 : decode cX8_instruction 105 = .ok (.putfield 100, 3) := dk_181 0 100 (dk_at dksX8_instruction_4 14 rfl rfl)
theorem dX8_instruction_108 : decode cX8_instruction 108 = .ok (.goto 42, 3) := dk_167 0 42 (dk_at dksX8_instruction_4 17 rfl rfl)
theorem dX8_instruction_111 : decode cX8_instruction 111 = .ok (.aload_n 0, 1) := dk_42 (dk_at dksX8_instruction_4 20 rfl rfl)
theorem dX8_instruction_112 : decode cX8_instruction 112 = .ok (.getfield 94, 3) := dk_180 0 94 (dk_at dksX8_instruction_4 21 rfl rfl)
theorem dX8_instruction_115 : decode cX8_instruction 115 = .ok (.bipush 7, 2) := dk_16 7 (dk_at dksX8_instruction_5 0 rfl rfl)
theorem dX8_instruction_117 : decode cX8_instruction 117 = .ok (.if_icmp .ge 16, 3) := dk_162 0 16 (dk_at dksX8_instruction_5 2 rfl rfl)
theorem dX8_instruction_120 : decode cX8_instruction 120 = .ok (.aload_n 0, 1) := dk_42 (dk_at dksX8_instruction_5 5 rfl rfl)
theorem dX8_instruction_121 : decode cX8_instruction 121 = .ok (.aload_n 0, 1) := dk_42 (dk_at dksX8_instruction_5 6 rfl rfl)
theorem dX8_instruction_122 : decode cX8_instruction 122 = .ok (.iconst 0, 1) := dk_3 (dk_at dksX8_instruction_5 7 rfl rfl)
theorem dX8_instruction_123 : decode cX8_instruction 123 = .ok (.iconst 3, 1) := dk_6 (dk_at dksX8_instruction_5 8 rfl rfl)
theorem dX8_instruction_124 : decode cX8_instruction 124 = .ok (.invokevirtual 132, 3) := dk_182 0 132 (dk_at dksX8_instruction_5 9 rfl rfl)
theorem dX8_instruction_127 : decode cX8_instruction 127 = .ok (.putfield 100, 3) := dk_181 0 100 (dk_at dksX8_instruction_5 12 rfl rfl)
theorem dX8_instruction_130 : decode cX8_instruction 130 = .ok (.goto 20, 3) := dk_167 0 20 (dk_at dksX8_instruction_5 15 rfl rfl)
theorem dX8_instruction_133 : decode cX8_instruction 133 = .ok (.aload_n 0, 1) := dk_42 (dk_at dksX8_instruction_5 18 rfl rfl)
theorem dX8_instruction_134 : decode cX8_instruction 134 = .ok (.bipush 62, 2) := dk_16 62 (dk_at dksX8_instruction_5 19 rfl rfl)
theorem dX8_instruction_136 : decode cX8_instruction 136 = .ok (.invokevirtual 141, 3) := dk_182 0 141 (dk_at dksX8_instruction_5 21 rfl rfl)
theorem dX8_instruction_139 : decode cX8_instruction 139 = .ok (.aload_n 0, 1) := dk_42 (dk_at dksX8_instruction_6 0 rfl rfl)
theorem dX8_instruction_140 : decode cX8_instruction 140 = .ok (.aload_n 0, 1) := dk_42 (dk_at dksX8_instruction_6 1 rfl rfl)
theorem dX8_instruction_141 : decode cX8_instruction 141 = .ok (.iconst 0, 1) := dk_3 (dk_at dksX8_instruction_6 2 rfl rfl)
theorem dX8_instruction_142 : decode cX8_instruction 142 = .ok (.bipush 47, 2) := dk_16 47 (dk_at dksX8_instruction_6 3 rfl rfl)
theorem dX8_instruction_144 : decode cX8_instruction 144 = .ok (.invokevirtual 135, 3) := dk_182 0 135 (dk_at dksX8_instruction_6 5 rfl rfl)
theorem dX8_instruction_147 : decode cX8_instruction 147 = .ok (.putfield 100, 3) := dk_181 0 100 (dk_at dksX8_instruction_6 8 rfl rfl)
theorem dX8_instruction_150 : decode cX8_instruction 150 = .ok (.return_, 1) := dk_177 (dk_at dksX8_instruction_6 11 rfl rfl)
abbrev cX8_next : ByteArray := prog_12_method_35_code
def yX8_next : MethodName := ⟨RX8, "next", "()I"⟩
def dkwX8_next_1 : List UInt8 := [172]
abbrev dktX8_next_1 : List UInt8 := dkwX8_next_1 ++ []
def dkwX8_next_0 : List UInt8 := [42, 180, 0, 88, 42, 180, 0, 81, 162, 0, 15, 42, 180, 0, 19, 42, 180, 0, 88, 46, 167, 0, 4, 3]
abbrev dktX8_next_0 : List UInt8 := dkwX8_next_0 ++ dktX8_next_1
theorem dksX8_next_0 : cX8_next.data.toList.drop 0 = dktX8_next_0 := by decide +kernel
theorem dksX8_next_1 : cX8_next.data.toList.drop 24 = dktX8_next_1 := dk_seg dksX8_next_0 24 rfl rfl
theorem dX8_next_0 : decode cX8_next 0 = .ok (.aload_n 0, 1) := dk_42 (dk_at dksX8_next_0 0 rfl rfl)
theorem dX8_next_1 : decode cX8_next 1 = .ok (.getfield 88, 3) := dk_180 0 88 (dk_at dksX8_next_0 1 rfl rfl)
theorem dX8_next_4 : decode cX8_next 4 = .ok (.aload_n 0, 1) := dk_42 (dk_at dksX8_next_0 4 rfl rfl)
theorem dX8_next_5 : decode cX8_next 5 = .ok (.getfield 81, 3) := dk_180 0 81 (dk_at dksX8_next_0 5 rfl rfl)
theorem dX8_next_8 : decode cX8_next 8 = .ok (.if_icmp .ge 15, 3) := dk_162 0 15 (dk_at dksX8_next_0 8 rfl rfl)
theorem dX8_next_11 : decode cX8_next 11 = .ok (.aload_n 0, 1) := dk_42 (dk_at dksX8_next_0 11 rfl rfl)
theorem dX8_next_12 : decode cX8_next 12 = .ok (.getfield 19, 3) := dk_180 0 19 (dk_at dksX8_next_0 12 rfl rfl)
theorem dX8_next_15 : decode cX8_next 15 = .ok (.aload_n 0, 1) := dk_42 (dk_at dksX8_next_0 15 rfl rfl)
theorem dX8_next_16 : decode cX8_next 16 = .ok (.getfield 88, 3) := dk_180 0 88 (dk_at dksX8_next_0 16 rfl rfl)
theorem dX8_next_19 : decode cX8_next 19 = .ok (.iaload, 1) := dk_46 (dk_at dksX8_next_0 19 rfl rfl)
theorem dX8_next_20 : decode cX8_next 20 = .ok (.goto 4, 3) := dk_167 0 4 (dk_at dksX8_next_0 20 rfl rfl)
theorem dX8_next_23 : decode cX8_next 23 = .ok (.iconst 0, 1) := dk_3 (dk_at dksX8_next_0 23 rfl rfl)
theorem dX8_next_24 : decode cX8_next 24 = .ok (.ireturn, 1) := dk_172 (dk_at dksX8_next_1 0 rfl rfl)
abbrev cX8_operationOf : ByteArray := prog_12_method_40_code
def yX8_operationOf : MethodName := ⟨RX8, "operationOf", "(I)I"⟩
def dkwX8_operationOf_3 : List UInt8 := [16, 10, 172, 16, 11, 172, 2, 172]
abbrev dktX8_operationOf_3 : List UInt8 := dkwX8_operationOf_3 ++ []
def dkwX8_operationOf_2 : List UInt8 := [3, 172, 4, 172, 5, 172, 6, 172, 7, 172, 8, 172, 16, 6, 172, 16, 7, 172, 16, 8, 172, 16, 9, 172]
abbrev dktX8_operationOf_2 : List UInt8 := dkwX8_operationOf_2 ++ dktX8_operationOf_3
def dkwX8_operationOf_1 : List UInt8 := [170, 0, 0, 0, 0, 0, 149, 0, 0, 0, 97, 0, 0, 0, 122, 0, 0, 0, 121, 0, 0, 0, 143, 0, 0, 0, 149, 0, 0, 0, 123, 0, 0, 0, 149, 0, 0, 0, 149, 0, 0, 0, 149, 0, 0, 0, 146, 0, 0, 0, 149, 0, 0, 0, 134, 0, 0, 0, 149, 0, 0, 0, 127, 0, 0, 0, 125, 0, 0, 0, 140, 0, 0, 0, 149, 0, 0, 0, 149, 0, 0, 0, 149, 0, 0, 0, 149, 0, 0, 0, 119, 0, 0, 0, 149, 0, 0, 0, 149, 0, 0, 0, 149, 0, 0, 0, 129, 0, 0, 0, 131, 0, 0, 0, 149, 0, 0, 0, 137]
abbrev dktX8_operationOf_1 : List UInt8 := dkwX8_operationOf_1 ++ dktX8_operationOf_2
def dkwX8_operationOf_0 : List UInt8 := [26]
abbrev dktX8_operationOf_0 : List UInt8 := dkwX8_operationOf_0 ++ dktX8_operationOf_1
theorem dksX8_operationOf_0 : cX8_operationOf.data.toList.drop 0 = dktX8_operationOf_0 := by decide +kernel
theorem dksX8_operationOf_1 : cX8_operationOf.data.toList.drop 1 = dktX8_operationOf_1 := dk_seg dksX8_operationOf_0 1 rfl rfl
theorem dksX8_operationOf_2 : cX8_operationOf.data.toList.drop 120 = dktX8_operationOf_2 := dk_seg dksX8_operationOf_1 119 rfl rfl
theorem dksX8_operationOf_3 : cX8_operationOf.data.toList.drop 144 = dktX8_operationOf_3 := dk_seg dksX8_operationOf_2 24 rfl rfl
theorem dX8_operationOf_0 : decode cX8_operationOf 0 = .ok (.iload_n 0, 1) := dk_26 (dk_at dksX8_operationOf_0 0 rfl rfl)
theorem dX8_operationOf_1 : decode cX8_operationOf 1 = .ok (.tableswitch 149 97 122 #[121, 143, 149, 123, 149, 149, 149, 146, 149, 134, 149, 127, 125, 140, 149, 149, 149, 149, 119, 149, 149, 149, 129, 131, 149, 137], 119) := by decide +kernel
theorem dX8_operationOf_120 : decode cX8_operationOf 120 = .ok (.iconst 0, 1) := dk_3 (dk_at dksX8_operationOf_2 0 rfl rfl)
theorem dX8_operationOf_121 : decode cX8_operationOf 121 = .ok (.ireturn, 1) := dk_172 (dk_at dksX8_operationOf_2 1 rfl rfl)
theorem dX8_operationOf_122 : decode cX8_operationOf 122 = .ok (.iconst 1, 1) := dk_4 (dk_at dksX8_operationOf_2 2 rfl rfl)
theorem dX8_operationOf_123 : decode cX8_operationOf 123 = .ok (.ireturn, 1) := dk_172 (dk_at dksX8_operationOf_2 3 rfl rfl)
theorem dX8_operationOf_124 : decode cX8_operationOf 124 = .ok (.iconst 2, 1) := dk_5 (dk_at dksX8_operationOf_2 4 rfl rfl)
theorem dX8_operationOf_125 : decode cX8_operationOf 125 = .ok (.ireturn, 1) := dk_172 (dk_at dksX8_operationOf_2 5 rfl rfl)
theorem dX8_operationOf_126 : decode cX8_operationOf 126 = .ok (.iconst 3, 1) := dk_6 (dk_at dksX8_operationOf_2 6 rfl rfl)
theorem dX8_operationOf_127 : decode cX8_operationOf 127 = .ok (.ireturn, 1) := dk_172 (dk_at dksX8_operationOf_2 7 rfl rfl)
theorem dX8_operationOf_128 : decode cX8_operationOf 128 = .ok (.iconst 4, 1) := dk_7 (dk_at dksX8_operationOf_2 8 rfl rfl)
theorem dX8_operationOf_129 : decode cX8_operationOf 129 = .ok (.ireturn, 1) := dk_172 (dk_at dksX8_operationOf_2 9 rfl rfl)
theorem dX8_operationOf_130 : decode cX8_operationOf 130 = .ok (.iconst 5, 1) := dk_8 (dk_at dksX8_operationOf_2 10 rfl rfl)
theorem dX8_operationOf_131 : decode cX8_operationOf 131 = .ok (.ireturn, 1) := dk_172 (dk_at dksX8_operationOf_2 11 rfl rfl)
theorem dX8_operationOf_132 : decode cX8_operationOf 132 = .ok (.bipush 6, 2) := dk_16 6 (dk_at dksX8_operationOf_2 12 rfl rfl)
theorem dX8_operationOf_134 : decode cX8_operationOf 134 = .ok (.ireturn, 1) := dk_172 (dk_at dksX8_operationOf_2 14 rfl rfl)
theorem dX8_operationOf_135 : decode cX8_operationOf 135 = .ok (.bipush 7, 2) := dk_16 7 (dk_at dksX8_operationOf_2 15 rfl rfl)
theorem dX8_operationOf_137 : decode cX8_operationOf 137 = .ok (.ireturn, 1) := dk_172 (dk_at dksX8_operationOf_2 17 rfl rfl)
theorem dX8_operationOf_138 : decode cX8_operationOf 138 = .ok (.bipush 8, 2) := dk_16 8 (dk_at dksX8_operationOf_2 18 rfl rfl)
theorem dX8_operationOf_140 : decode cX8_operationOf 140 = .ok (.ireturn, 1) := dk_172 (dk_at dksX8_operationOf_2 20 rfl rfl)
theorem dX8_operationOf_141 : decode cX8_operationOf 141 = .ok (.bipush 9, 2) := dk_16 9 (dk_at dksX8_operationOf_2 21 rfl rfl)
theorem dX8_operationOf_143 : decode cX8_operationOf 143 = .ok (.ireturn, 1) := dk_172 (dk_at dksX8_operationOf_2 23 rfl rfl)
theorem dX8_operationOf_144 : decode cX8_operationOf 144 = .ok (.bipush 10, 2) := dk_16 10 (dk_at dksX8_operationOf_3 0 rfl rfl)
theorem dX8_operationOf_146 : decode cX8_operationOf 146 = .ok (.ireturn, 1) := dk_172 (dk_at dksX8_operationOf_3 2 rfl rfl)
theorem dX8_operationOf_147 : decode cX8_operationOf 147 = .ok (.bipush 11, 2) := dk_16 11 (dk_at dksX8_operationOf_3 3 rfl rfl)
theorem dX8_operationOf_149 : decode cX8_operationOf 149 = .ok (.ireturn, 1) := dk_172 (dk_at dksX8_operationOf_3 5 rfl rfl)
theorem dX8_operationOf_150 : decode cX8_operationOf 150 = .ok (.iconst (-1), 1) := dk_2 (dk_at dksX8_operationOf_3 6 rfl rfl)
theorem dX8_operationOf_151 : decode cX8_operationOf 151 = .ok (.ireturn, 1) := dk_172 (dk_at dksX8_operationOf_3 7 rfl rfl)
abbrev cX8_upTo : ByteArray := prog_12_method_38_code
def yX8_upTo : MethodName := ⟨RX8, "upTo", "(II)I"⟩
def dkwX8_upTo_2 : List UInt8 := [21, 4, 28, 163, 0, 16, 42, 89, 180, 0, 88, 4, 96, 181, 0, 88, 21, 4, 172, 29, 172]
abbrev dktX8_upTo_2 : List UInt8 := dkwX8_upTo_2 ++ []
def dkwX8_upTo_1 : List UInt8 := [180, 0, 125, 154, 0, 40, 29, 158, 0, 36, 42, 182, 0, 129, 16, 48, 16, 57, 184, 0, 26, 153, 0, 22]
abbrev dktX8_upTo_1 : List UInt8 := dkwX8_upTo_1 ++ dktX8_upTo_2
def dkwX8_upTo_0 : List UInt8 := [42, 27, 16, 9, 182, 0, 132, 62, 16, 10, 29, 104, 42, 182, 0, 129, 96, 16, 48, 100, 54, 4, 42]
abbrev dktX8_upTo_0 : List UInt8 := dkwX8_upTo_0 ++ dktX8_upTo_1
theorem dksX8_upTo_0 : cX8_upTo.data.toList.drop 0 = dktX8_upTo_0 := by decide +kernel
theorem dksX8_upTo_1 : cX8_upTo.data.toList.drop 23 = dktX8_upTo_1 := dk_seg dksX8_upTo_0 23 rfl rfl
theorem dksX8_upTo_2 : cX8_upTo.data.toList.drop 47 = dktX8_upTo_2 := dk_seg dksX8_upTo_1 24 rfl rfl
theorem dX8_upTo_0 : decode cX8_upTo 0 = .ok (.aload_n 0, 1) := dk_42 (dk_at dksX8_upTo_0 0 rfl rfl)
theorem dX8_upTo_1 : decode cX8_upTo 1 = .ok (.iload_n 1, 1) := dk_27 (dk_at dksX8_upTo_0 1 rfl rfl)
theorem dX8_upTo_2 : decode cX8_upTo 2 = .ok (.bipush 9, 2) := dk_16 9 (dk_at dksX8_upTo_0 2 rfl rfl)
theorem dX8_upTo_4 : decode cX8_upTo 4 = .ok (.invokevirtual 132, 3) := dk_182 0 132 (dk_at dksX8_upTo_0 4 rfl rfl)
theorem dX8_upTo_7 : decode cX8_upTo 7 = .ok (.istore_n 3, 1) := dk_62 (dk_at dksX8_upTo_0 7 rfl rfl)
theorem dX8_upTo_8 : decode cX8_upTo 8 = .ok (.bipush 10, 2) := dk_16 10 (dk_at dksX8_upTo_0 8 rfl rfl)
theorem dX8_upTo_10 : decode cX8_upTo 10 = .ok (.iload_n 3, 1) := dk_29 (dk_at dksX8_upTo_0 10 rfl rfl)
theorem dX8_upTo_11 : decode cX8_upTo 11 = .ok (.imul, 1) := dk_104 (dk_at dksX8_upTo_0 11 rfl rfl)
theorem dX8_upTo_12 : decode cX8_upTo 12 = .ok (.aload_n 0, 1) := dk_42 (dk_at dksX8_upTo_0 12 rfl rfl)
theorem dX8_upTo_13 : decode cX8_upTo 13 = .ok (.invokevirtual 129, 3) := dk_182 0 129 (dk_at dksX8_upTo_0 13 rfl rfl)
theorem dX8_upTo_16 : decode cX8_upTo 16 = .ok (.iadd, 1) := dk_96 (dk_at dksX8_upTo_0 16 rfl rfl)
theorem dX8_upTo_17 : decode cX8_upTo 17 = .ok (.bipush 48, 2) := dk_16 48 (dk_at dksX8_upTo_0 17 rfl rfl)
theorem dX8_upTo_19 : decode cX8_upTo 19 = .ok (.isub, 1) := dk_100 (dk_at dksX8_upTo_0 19 rfl rfl)
theorem dX8_upTo_20 : decode cX8_upTo 20 = .ok (.istore 4, 2) := dk_54 4 (dk_at dksX8_upTo_0 20 rfl rfl)
theorem dX8_upTo_22 : decode cX8_upTo 22 = .ok (.aload_n 0, 1) := dk_42 (dk_at dksX8_upTo_0 22 rfl rfl)
theorem dX8_upTo_23 : decode cX8_upTo 23 = .ok (.getfield 125, 3) := dk_180 0 125 (dk_at dksX8_upTo_1 0 rfl rfl)
theorem dX8_upTo_26 : decode cX8_upTo 26 = .ok (.ifCond .ne 40, 3) := dk_154 0 40 (dk_at dksX8_upTo_1 3 rfl rfl)
theorem dX8_upTo_29 : decode cX8_upTo 29 = .ok (.iload_n 3, 1) := dk_29 (dk_at dksX8_upTo_1 6 rfl rfl)
theorem dX8_upTo_30 : decode cX8_upTo 30 = .ok (.ifCond .le 36, 3) := dk_158 0 36 (dk_at dksX8_upTo_1 7 rfl rfl)
theorem dX8_upTo_33 : decode cX8_upTo 33 = .ok (.aload_n 0, 1) := dk_42 (dk_at dksX8_upTo_1 10 rfl rfl)
theorem dX8_upTo_34 : decode cX8_upTo 34 = .ok (.invokevirtual 129, 3) := dk_182 0 129 (dk_at dksX8_upTo_1 11 rfl rfl)
theorem dX8_upTo_37 : decode cX8_upTo 37 = .ok (.bipush 48, 2) := dk_16 48 (dk_at dksX8_upTo_1 14 rfl rfl)
theorem dX8_upTo_39 : decode cX8_upTo 39 = .ok (.bipush 57, 2) := dk_16 57 (dk_at dksX8_upTo_1 16 rfl rfl)
theorem dX8_upTo_41 : decode cX8_upTo 41 = .ok (.invokestatic 26, 3) := dk_184 0 26 (dk_at dksX8_upTo_1 18 rfl rfl)
theorem dX8_upTo_44 : decode cX8_upTo 44 = .ok (.ifCond .eq 22, 3) := dk_153 0 22 (dk_at dksX8_upTo_1 21 rfl rfl)
theorem dX8_upTo_47 : decode cX8_upTo 47 = .ok (.iload 4, 2) := dk_21 4 (dk_at dksX8_upTo_2 0 rfl rfl)
theorem dX8_upTo_49 : decode cX8_upTo 49 = .ok (.iload_n 2, 1) := dk_28 (dk_at dksX8_upTo_2 2 rfl rfl)
theorem dX8_upTo_50 : decode cX8_upTo 50 = .ok (.if_icmp .gt 16, 3) := dk_163 0 16 (dk_at dksX8_upTo_2 3 rfl rfl)
theorem dX8_upTo_53 : decode cX8_upTo 53 = .ok (.aload_n 0, 1) := dk_42 (dk_at dksX8_upTo_2 6 rfl rfl)
theorem dX8_upTo_54 : decode cX8_upTo 54 = .ok (.dup, 1) := dk_89 (dk_at dksX8_upTo_2 7 rfl rfl)
theorem dX8_upTo_55 : decode cX8_upTo 55 = .ok (.getfield 88, 3) := dk_180 0 88 (dk_at dksX8_upTo_2 8 rfl rfl)
theorem dX8_upTo_58 : decode cX8_upTo 58 = .ok (.iconst 1, 1) := dk_4 (dk_at dksX8_upTo_2 11 rfl rfl)
theorem dX8_upTo_59 : decode cX8_upTo 59 = .ok (.iadd, 1) := dk_96 (dk_at dksX8_upTo_2 12 rfl rfl)
theorem dX8_upTo_60 : decode cX8_upTo 60 = .ok (.putfield 88, 3) := dk_181 0 88 (dk_at dksX8_upTo_2 13 rfl rfl)
theorem dX8_upTo_63 : decode cX8_upTo 63 = .ok (.iload 4, 2) := dk_21 4 (dk_at dksX8_upTo_2 16 rfl rfl)
theorem dX8_upTo_65 : decode cX8_upTo 65 = .ok (.ireturn, 1) := dk_172 (dk_at dksX8_upTo_2 18 rfl rfl)
theorem dX8_upTo_66 : decode cX8_upTo 66 = .ok (.iload_n 3, 1) := dk_29 (dk_at dksX8_upTo_2 19 rfl rfl)
theorem dX8_upTo_67 : decode cX8_upTo 67 = .ok (.ireturn, 1) := dk_172 (dk_at dksX8_upTo_2 20 rfl rfl)
abbrev cX8_digit : ByteArray := prog_12_method_37_code
def yX8_digit : MethodName := ⟨RX8, "digit", "(II)I"⟩
def dkwX8_digit_2 : List UInt8 := [167, 0, 4, 4, 96, 181, 0, 88, 29, 172]
abbrev dktX8_digit_2 : List UInt8 := dkwX8_digit_2 ++ []
def dkwX8_digit_1 : List UInt8 := [154, 0, 7, 4, 167, 0, 4, 3, 181, 0, 125, 42, 89, 180, 0, 88, 42, 180, 0, 125, 153, 0, 7, 3]
abbrev dktX8_digit_1 : List UInt8 := dkwX8_digit_1 ++ dktX8_digit_2
def dkwX8_digit_0 : List UInt8 := [42, 182, 0, 129, 16, 48, 100, 62, 42, 42, 180, 0, 125, 154, 0, 12, 29, 27, 28, 184, 0, 26]
abbrev dktX8_digit_0 : List UInt8 := dkwX8_digit_0 ++ dktX8_digit_1
theorem dksX8_digit_0 : cX8_digit.data.toList.drop 0 = dktX8_digit_0 := by decide +kernel
theorem dksX8_digit_1 : cX8_digit.data.toList.drop 22 = dktX8_digit_1 := dk_seg dksX8_digit_0 22 rfl rfl
theorem dksX8_digit_2 : cX8_digit.data.toList.drop 46 = dktX8_digit_2 := dk_seg dksX8_digit_1 24 rfl rfl
theorem dX8_digit_0 : decode cX8_digit 0 = .ok (.aload_n 0, 1) := dk_42 (dk_at dksX8_digit_0 0 rfl rfl)
theorem dX8_digit_1 : decode cX8_digit 1 = .ok (.invokevirtual 129, 3) := dk_182 0 129 (dk_at dksX8_digit_0 1 rfl rfl)
theorem dX8_digit_4 : decode cX8_digit 4 = .ok (.bipush 48, 2) := dk_16 48 (dk_at dksX8_digit_0 4 rfl rfl)
theorem dX8_digit_6 : decode cX8_digit 6 = .ok (.isub, 1) := dk_100 (dk_at dksX8_digit_0 6 rfl rfl)
theorem dX8_digit_7 : decode cX8_digit 7 = .ok (.istore_n 3, 1) := dk_62 (dk_at dksX8_digit_0 7 rfl rfl)
theorem dX8_digit_8 : decode cX8_digit 8 = .ok (.aload_n 0, 1) := dk_42 (dk_at dksX8_digit_0 8 rfl rfl)
theorem dX8_digit_9 : decode cX8_digit 9 = .ok (.aload_n 0, 1) := dk_42 (dk_at dksX8_digit_0 9 rfl rfl)
theorem dX8_digit_10 : decode cX8_digit 10 = .ok (.getfield 125, 3) := dk_180 0 125 (dk_at dksX8_digit_0 10 rfl rfl)
theorem dX8_digit_13 : decode cX8_digit 13 = .ok (.ifCond .ne 12, 3) := dk_154 0 12 (dk_at dksX8_digit_0 13 rfl rfl)
theorem dX8_digit_16 : decode cX8_digit 16 = .ok (.iload_n 3, 1) := dk_29 (dk_at dksX8_digit_0 16 rfl rfl)
theorem dX8_digit_17 : decode cX8_digit 17 = .ok (.iload_n 1, 1) := dk_27 (dk_at dksX8_digit_0 17 rfl rfl)
theorem dX8_digit_18 : decode cX8_digit 18 = .ok (.iload_n 2, 1) := dk_28 (dk_at dksX8_digit_0 18 rfl rfl)
theorem dX8_digit_19 : decode cX8_digit 19 = .ok (.invokestatic 26, 3) := dk_184 0 26 (dk_at dksX8_digit_0 19 rfl rfl)
theorem dX8_digit_22 : decode cX8_digit 22 = .ok (.ifCond .ne 7, 3) := dk_154 0 7 (dk_at dksX8_digit_1 0 rfl rfl)
theorem dX8_digit_25 : decode cX8_digit 25 = .ok (.iconst 1, 1) := dk_4 (dk_at dksX8_digit_1 3 rfl rfl)
theorem dX8_digit_26 : decode cX8_digit 26 = .ok (.goto 4, 3) := dk_167 0 4 (dk_at dksX8_digit_1 4 rfl rfl)
theorem dX8_digit_29 : decode cX8_digit 29 = .ok (.iconst 0, 1) := dk_3 (dk_at dksX8_digit_1 7 rfl rfl)
theorem dX8_digit_30 : decode cX8_digit 30 = .ok (.putfield 125, 3) := dk_181 0 125 (dk_at dksX8_digit_1 8 rfl rfl)
theorem dX8_digit_33 : decode cX8_digit 33 = .ok (.aload_n 0, 1) := dk_42 (dk_at dksX8_digit_1 11 rfl rfl)
theorem dX8_digit_34 : decode cX8_digit 34 = .ok (.dup, 1) := dk_89 (dk_at dksX8_digit_1 12 rfl rfl)
theorem dX8_digit_35 : decode cX8_digit 35 = .ok (.getfield 88, 3) := dk_180 0 88 (dk_at dksX8_digit_1 13 rfl rfl)
theorem dX8_digit_38 : decode cX8_digit 38 = .ok (.aload_n 0, 1) := dk_42 (dk_at dksX8_digit_1 16 rfl rfl)
theorem dX8_digit_39 : decode cX8_digit 39 = .ok (.getfield 125, 3) := dk_180 0 125 (dk_at dksX8_digit_1 17 rfl rfl)
theorem dX8_digit_42 : decode cX8_digit 42 = .ok (.ifCond .eq 7, 3) := dk_153 0 7 (dk_at dksX8_digit_1 20 rfl rfl)
theorem dX8_digit_45 : decode cX8_digit 45 = .ok (.iconst 0, 1) := dk_3 (dk_at dksX8_digit_1 23 rfl rfl)
theorem dX8_digit_46 : decode cX8_digit 46 = .ok (.goto 4, 3) := dk_167 0 4 (dk_at dksX8_digit_2 0 rfl rfl)
theorem dX8_digit_49 : decode cX8_digit 49 = .ok (.iconst 1, 1) := dk_4 (dk_at dksX8_digit_2 3 rfl rfl)
theorem dX8_digit_50 : decode cX8_digit 50 = .ok (.iadd, 1) := dk_96 (dk_at dksX8_digit_2 4 rfl rfl)
theorem dX8_digit_51 : decode cX8_digit 51 = .ok (.putfield 88, 3) := dk_181 0 88 (dk_at dksX8_digit_2 5 rfl rfl)
theorem dX8_digit_54 : decode cX8_digit 54 = .ok (.iload_n 3, 1) := dk_29 (dk_at dksX8_digit_2 8 rfl rfl)
theorem dX8_digit_55 : decode cX8_digit 55 = .ok (.ireturn, 1) := dk_172 (dk_at dksX8_digit_2 9 rfl rfl)
abbrev cX8_sign : ByteArray := prog_12_method_36_code
def yX8_sign : MethodName := ⟨RX8, "sign", "(I)V"⟩
def dkwX8_sign_1 : List UInt8 := [42, 89, 180, 0, 88, 42, 180, 0, 125, 153, 0, 7, 3, 167, 0, 4, 4, 96, 181, 0, 88, 177]
abbrev dktX8_sign_1 : List UInt8 := dkwX8_sign_1 ++ []
def dkwX8_sign_0 : List UInt8 := [42, 42, 180, 0, 125, 154, 0, 11, 42, 182, 0, 129, 27, 159, 0, 7, 4, 167, 0, 4, 3, 181, 0, 125]
abbrev dktX8_sign_0 : List UInt8 := dkwX8_sign_0 ++ dktX8_sign_1
theorem dksX8_sign_0 : cX8_sign.data.toList.drop 0 = dktX8_sign_0 := by decide +kernel
theorem dksX8_sign_1 : cX8_sign.data.toList.drop 24 = dktX8_sign_1 := dk_seg dksX8_sign_0 24 rfl rfl
theorem dX8_sign_0 : decode cX8_sign 0 = .ok (.aload_n 0, 1) := dk_42 (dk_at dksX8_sign_0 0 rfl rfl)
theorem dX8_sign_1 : decode cX8_sign 1 = .ok (.aload_n 0, 1) := dk_42 (dk_at dksX8_sign_0 1 rfl rfl)
theorem dX8_sign_2 : decode cX8_sign 2 = .ok (.getfield 125, 3) := dk_180 0 125 (dk_at dksX8_sign_0 2 rfl rfl)
theorem dX8_sign_5 : decode cX8_sign 5 = .ok (.ifCond .ne 11, 3) := dk_154 0 11 (dk_at dksX8_sign_0 5 rfl rfl)
theorem dX8_sign_8 : decode cX8_sign 8 = .ok (.aload_n 0, 1) := dk_42 (dk_at dksX8_sign_0 8 rfl rfl)
theorem dX8_sign_9 : decode cX8_sign 9 = .ok (.invokevirtual 129, 3) := dk_182 0 129 (dk_at dksX8_sign_0 9 rfl rfl)
theorem dX8_sign_12 : decode cX8_sign 12 = .ok (.iload_n 1, 1) := dk_27 (dk_at dksX8_sign_0 12 rfl rfl)
theorem dX8_sign_13 : decode cX8_sign 13 = .ok (.if_icmp .eq 7, 3) := dk_159 0 7 (dk_at dksX8_sign_0 13 rfl rfl)
theorem dX8_sign_16 : decode cX8_sign 16 = .ok (.iconst 1, 1) := dk_4 (dk_at dksX8_sign_0 16 rfl rfl)
theorem dX8_sign_17 : decode cX8_sign 17 = .ok (.goto 4, 3) := dk_167 0 4 (dk_at dksX8_sign_0 17 rfl rfl)
theorem dX8_sign_20 : decode cX8_sign 20 = .ok (.iconst 0, 1) := dk_3 (dk_at dksX8_sign_0 20 rfl rfl)
theorem dX8_sign_21 : decode cX8_sign 21 = .ok (.putfield 125, 3) := dk_181 0 125 (dk_at dksX8_sign_0 21 rfl rfl)
theorem dX8_sign_24 : decode cX8_sign 24 = .ok (.aload_n 0, 1) := dk_42 (dk_at dksX8_sign_1 0 rfl rfl)
theorem dX8_sign_25 : decode cX8_sign 25 = .ok (.dup, 1) := dk_89 (dk_at dksX8_sign_1 1 rfl rfl)
theorem dX8_sign_26 : decode cX8_sign 26 = .ok (.getfield 88, 3) := dk_180 0 88 (dk_at dksX8_sign_1 2 rfl rfl)
theorem dX8_sign_29 : decode cX8_sign 29 = .ok (.aload_n 0, 1) := dk_42 (dk_at dksX8_sign_1 5 rfl rfl)
theorem dX8_sign_30 : decode cX8_sign 30 = .ok (.getfield 125, 3) := dk_180 0 125 (dk_at dksX8_sign_1 6 rfl rfl)
theorem dX8_sign_33 : decode cX8_sign 33 = .ok (.ifCond .eq 7, 3) := dk_153 0 7 (dk_at dksX8_sign_1 9 rfl rfl)
theorem dX8_sign_36 : decode cX8_sign 36 = .ok (.iconst 0, 1) := dk_3 (dk_at dksX8_sign_1 12 rfl rfl)
theorem dX8_sign_37 : decode cX8_sign 37 = .ok (.goto 4, 3) := dk_167 0 4 (dk_at dksX8_sign_1 13 rfl rfl)
theorem dX8_sign_40 : decode cX8_sign 40 = .ok (.iconst 1, 1) := dk_4 (dk_at dksX8_sign_1 16 rfl rfl)
theorem dX8_sign_41 : decode cX8_sign 41 = .ok (.iadd, 1) := dk_96 (dk_at dksX8_sign_1 17 rfl rfl)
theorem dX8_sign_42 : decode cX8_sign 42 = .ok (.putfield 88, 3) := dk_181 0 88 (dk_at dksX8_sign_1 18 rfl rfl)
theorem dX8_sign_45 : decode cX8_sign 45 = .ok (.return_, 1) := dk_177 (dk_at dksX8_sign_1 21 rfl rfl)
abbrev cX8_number : ByteArray := prog_12_method_39_code
def yX8_number : MethodName := ⟨RX8, "number", "()I"⟩
def dkwX8_number_1 : List UInt8 := [181, 0, 88, 42, 4, 16, 99, 182, 0, 135, 116, 172, 42, 3, 16, 99, 182, 0, 135, 172]
abbrev dktX8_number_1 : List UInt8 := dkwX8_number_1 ++ []
def dkwX8_number_0 : List UInt8 := [42, 180, 0, 125, 154, 0, 31, 42, 182, 0, 129, 16, 45, 160, 0, 22, 42, 89, 180, 0, 88, 4, 96]
abbrev dktX8_number_0 : List UInt8 := dkwX8_number_0 ++ dktX8_number_1
theorem dksX8_number_0 : cX8_number.data.toList.drop 0 = dktX8_number_0 := by decide +kernel
theorem dksX8_number_1 : cX8_number.data.toList.drop 23 = dktX8_number_1 := dk_seg dksX8_number_0 23 rfl rfl
theorem dX8_number_0 : decode cX8_number 0 = .ok (.aload_n 0, 1) := dk_42 (dk_at dksX8_number_0 0 rfl rfl)
theorem dX8_number_1 : decode cX8_number 1 = .ok (.getfield 125, 3) := dk_180 0 125 (dk_at dksX8_number_0 1 rfl rfl)
theorem dX8_number_4 : decode cX8_number 4 = .ok (.ifCond .ne 31, 3) := dk_154 0 31 (dk_at dksX8_number_0 4 rfl rfl)
theorem dX8_number_7 : decode cX8_number 7 = .ok (.aload_n 0, 1) := dk_42 (dk_at dksX8_number_0 7 rfl rfl)
theorem dX8_number_8 : decode cX8_number 8 = .ok (.invokevirtual 129, 3) := dk_182 0 129 (dk_at dksX8_number_0 8 rfl rfl)
theorem dX8_number_11 : decode cX8_number 11 = .ok (.bipush 45, 2) := dk_16 45 (dk_at dksX8_number_0 11 rfl rfl)
theorem dX8_number_13 : decode cX8_number 13 = .ok (.if_icmp .ne 22, 3) := dk_160 0 22 (dk_at dksX8_number_0 13 rfl rfl)
theorem dX8_number_16 : decode cX8_number 16 = .ok (.aload_n 0, 1) := dk_42 (dk_at dksX8_number_0 16 rfl rfl)
theorem dX8_number_17 : decode cX8_number 17 = .ok (.dup, 1) := dk_89 (dk_at dksX8_number_0 17 rfl rfl)
theorem dX8_number_18 : decode cX8_number 18 = .ok (.getfield 88, 3) := dk_180 0 88 (dk_at dksX8_number_0 18 rfl rfl)
theorem dX8_number_21 : decode cX8_number 21 = .ok (.iconst 1, 1) := dk_4 (dk_at dksX8_number_0 21 rfl rfl)
theorem dX8_number_22 : decode cX8_number 22 = .ok (.iadd, 1) := dk_96 (dk_at dksX8_number_0 22 rfl rfl)
theorem dX8_number_23 : decode cX8_number 23 = .ok (.putfield 88, 3) := dk_181 0 88 (dk_at dksX8_number_1 0 rfl rfl)
theorem dX8_number_26 : decode cX8_number 26 = .ok (.aload_n 0, 1) := dk_42 (dk_at dksX8_number_1 3 rfl rfl)
theorem dX8_number_27 : decode cX8_number 27 = .ok (.iconst 1, 1) := dk_4 (dk_at dksX8_number_1 4 rfl rfl)
theorem dX8_number_28 : decode cX8_number 28 = .ok (.bipush 99, 2) := dk_16 99 (dk_at dksX8_number_1 5 rfl rfl)
theorem dX8_number_30 : decode cX8_number 30 = .ok (.invokevirtual 135, 3) := dk_182 0 135 (dk_at dksX8_number_1 7 rfl rfl)
theorem dX8_number_33 : decode cX8_number 33 = .ok (.ineg, 1) := dk_116 (dk_at dksX8_number_1 10 rfl rfl)
theorem dX8_number_34 : decode cX8_number 34 = .ok (.ireturn, 1) := dk_172 (dk_at dksX8_number_1 11 rfl rfl)
theorem dX8_number_35 : decode cX8_number 35 = .ok (.aload_n 0, 1) := dk_42 (dk_at dksX8_number_1 12 rfl rfl)
theorem dX8_number_36 : decode cX8_number 36 = .ok (.iconst 0, 1) := dk_3 (dk_at dksX8_number_1 13 rfl rfl)
theorem dX8_number_37 : decode cX8_number 37 = .ok (.bipush 99, 2) := dk_16 99 (dk_at dksX8_number_1 14 rfl rfl)
theorem dX8_number_39 : decode cX8_number 39 = .ok (.invokevirtual 135, 3) := dk_182 0 135 (dk_at dksX8_number_1 16 rfl rfl)
theorem dX8_number_42 : decode cX8_number 42 = .ok (.ireturn, 1) := dk_172 (dk_at dksX8_number_1 19 rfl rfl)
abbrev cX8_records : ByteArray := prog_12_method_10_code
def yX8_records : MethodName := ⟨RX8, "records", "()V"⟩
def dkwX8_records_4 : List UInt8 := [181, 0, 30, 177]
abbrev dktX8_records_4 : List UInt8 := dkwX8_records_4 ++ []
def dkwX8_records_3 : List UInt8 := [27, 96, 42, 180, 0, 7, 27, 46, 79, 132, 1, 1, 167, 255, 225, 42, 89, 180, 0, 30, 4, 96]
abbrev dktX8_records_3 : List UInt8 := dkwX8_records_3 ++ dktX8_records_4
def dkwX8_records_2 : List UInt8 := [181, 0, 30, 3, 60, 27, 17, 1, 85, 162, 0, 30, 42, 180, 0, 16, 17, 1, 85, 42, 180, 0, 30, 104]
abbrev dktX8_records_2 : List UInt8 := dkwX8_records_2 ++ dktX8_records_3
def dkwX8_records_1 : List UInt8 := [180, 0, 16, 17, 1, 85, 27, 96, 46, 79, 132, 1, 1, 167, 255, 230, 42, 89, 180, 0, 30, 4, 100]
abbrev dktX8_records_1 : List UInt8 := dkwX8_records_1 ++ dktX8_records_2
def dkwX8_records_0 : List UInt8 := [42, 180, 0, 30, 7, 160, 0, 44, 3, 60, 27, 17, 3, 255, 162, 0, 25, 42, 180, 0, 16, 27, 42]
abbrev dktX8_records_0 : List UInt8 := dkwX8_records_0 ++ dktX8_records_1
theorem dksX8_records_0 : cX8_records.data.toList.drop 0 = dktX8_records_0 := by decide +kernel
theorem dksX8_records_1 : cX8_records.data.toList.drop 23 = dktX8_records_1 := dk_seg dksX8_records_0 23 rfl rfl
theorem dksX8_records_2 : cX8_records.data.toList.drop 46 = dktX8_records_2 := dk_seg dksX8_records_1 23 rfl rfl
theorem dksX8_records_3 : cX8_records.data.toList.drop 70 = dktX8_records_3 := dk_seg dksX8_records_2 24 rfl rfl
theorem dksX8_records_4 : cX8_records.data.toList.drop 92 = dktX8_records_4 := dk_seg dksX8_records_3 22 rfl rfl
theorem dX8_records_0 : decode cX8_records 0 = .ok (.aload_n 0, 1) := dk_42 (dk_at dksX8_records_0 0 rfl rfl)
theorem dX8_records_1 : decode cX8_records 1 = .ok (.getfield 30, 3) := dk_180 0 30 (dk_at dksX8_records_0 1 rfl rfl)
theorem dX8_records_4 : decode cX8_records 4 = .ok (.iconst 4, 1) := dk_7 (dk_at dksX8_records_0 4 rfl rfl)
theorem dX8_records_5 : decode cX8_records 5 = .ok (.if_icmp .ne 44, 3) := dk_160 0 44 (dk_at dksX8_records_0 5 rfl rfl)
theorem dX8_records_8 : decode cX8_records 8 = .ok (.iconst 0, 1) := dk_3 (dk_at dksX8_records_0 8 rfl rfl)
theorem dX8_records_9 : decode cX8_records 9 = .ok (.istore_n 1, 1) := dk_60 (dk_at dksX8_records_0 9 rfl rfl)
theorem dX8_records_10 : decode cX8_records 10 = .ok (.iload_n 1, 1) := dk_27 (dk_at dksX8_records_0 10 rfl rfl)
theorem dX8_records_11 : decode cX8_records 11 = .ok (.sipush 1023, 3) := dk_17 3 255 (dk_at dksX8_records_0 11 rfl rfl)
theorem dX8_records_14 : decode cX8_records 14 = .ok (.if_icmp .ge 25, 3) := dk_162 0 25 (dk_at dksX8_records_0 14 rfl rfl)
theorem dX8_records_17 : decode cX8_records 17 = .ok (.aload_n 0, 1) := dk_42 (dk_at dksX8_records_0 17 rfl rfl)
theorem dX8_records_18 : decode cX8_records 18 = .ok (.getfield 16, 3) := dk_180 0 16 (dk_at dksX8_records_0 18 rfl rfl)
theorem dX8_records_21 : decode cX8_records 21 = .ok (.iload_n 1, 1) := dk_27 (dk_at dksX8_records_0 21 rfl rfl)
theorem dX8_records_22 : decode cX8_records 22 = .ok (.aload_n 0, 1) := dk_42 (dk_at dksX8_records_0 22 rfl rfl)
theorem dX8_records_23 : decode cX8_records 23 = .ok (.getfield 16, 3) := dk_180 0 16 (dk_at dksX8_records_1 0 rfl rfl)
theorem dX8_records_26 : decode cX8_records 26 = .ok (.sipush 341, 3) := dk_17 1 85 (dk_at dksX8_records_1 3 rfl rfl)
theorem dX8_records_29 : decode cX8_records 29 = .ok (.iload_n 1, 1) := dk_27 (dk_at dksX8_records_1 6 rfl rfl)
theorem dX8_records_30 : decode cX8_records 30 = .ok (.iadd, 1) := dk_96 (dk_at dksX8_records_1 7 rfl rfl)
theorem dX8_records_31 : decode cX8_records 31 = .ok (.iaload, 1) := dk_46 (dk_at dksX8_records_1 8 rfl rfl)
theorem dX8_records_32 : decode cX8_records 32 = .ok (.iastore, 1) := dk_79 (dk_at dksX8_records_1 9 rfl rfl)
theorem dX8_records_33 : decode cX8_records 33 = .ok (.iinc 1 1, 3) := dk_132 1 1 (dk_at dksX8_records_1 10 rfl rfl)
theorem dX8_records_36 : decode cX8_records 36 = .ok (.goto (-26), 3) := dk_167 255 230 (dk_at dksX8_records_1 13 rfl rfl)
theorem dX8_records_39 : decode cX8_records 39 = .ok (.aload_n 0, 1) := dk_42 (dk_at dksX8_records_1 16 rfl rfl)
theorem dX8_records_40 : decode cX8_records 40 = .ok (.dup, 1) := dk_89 (dk_at dksX8_records_1 17 rfl rfl)
theorem dX8_records_41 : decode cX8_records 41 = .ok (.getfield 30, 3) := dk_180 0 30 (dk_at dksX8_records_1 18 rfl rfl)
theorem dX8_records_44 : decode cX8_records 44 = .ok (.iconst 1, 1) := dk_4 (dk_at dksX8_records_1 21 rfl rfl)
theorem dX8_records_45 : decode cX8_records 45 = .ok (.isub, 1) := dk_100 (dk_at dksX8_records_1 22 rfl rfl)
theorem dX8_records_46 : decode cX8_records 46 = .ok (.putfield 30, 3) := dk_181 0 30 (dk_at dksX8_records_2 0 rfl rfl)
theorem dX8_records_49 : decode cX8_records 49 = .ok (.iconst 0, 1) := dk_3 (dk_at dksX8_records_2 3 rfl rfl)
theorem dX8_records_50 : decode cX8_records 50 = .ok (.istore_n 1, 1) := dk_60 (dk_at dksX8_records_2 4 rfl rfl)
theorem dX8_records_51 : decode cX8_records 51 = .ok (.iload_n 1, 1) := dk_27 (dk_at dksX8_records_2 5 rfl rfl)
theorem dX8_records_52 : decode cX8_records 52 = .ok (.sipush 341, 3) := dk_17 1 85 (dk_at dksX8_records_2 6 rfl rfl)
theorem dX8_records_55 : decode cX8_records 55 = .ok (.if_icmp .ge 30, 3) := dk_162 0 30 (dk_at dksX8_records_2 9 rfl rfl)
theorem dX8_records_58 : decode cX8_records 58 = .ok (.aload_n 0, 1) := dk_42 (dk_at dksX8_records_2 12 rfl rfl)
theorem dX8_records_59 : decode cX8_records 59 = .ok (.getfield 16, 3) := dk_180 0 16 (dk_at dksX8_records_2 13 rfl rfl)
theorem dX8_records_62 : decode cX8_records 62 = .ok (.sipush 341, 3) := dk_17 1 85 (dk_at dksX8_records_2 16 rfl rfl)
theorem dX8_records_65 : decode cX8_records 65 = .ok (.aload_n 0, 1) := dk_42 (dk_at dksX8_records_2 19 rfl rfl)
theorem dX8_records_66 : decode cX8_records 66 = .ok (.getfield 30, 3) := dk_180 0 30 (dk_at dksX8_records_2 20 rfl rfl)
theorem dX8_records_69 : decode cX8_records 69 = .ok (.imul, 1) := dk_104 (dk_at dksX8_records_2 23 rfl rfl)
theorem dX8_records_70 : decode cX8_records 70 = .ok (.iload_n 1, 1) := dk_27 (dk_at dksX8_records_3 0 rfl rfl)
theorem dX8_records_71 : decode cX8_records 71 = .ok (.iadd, 1) := dk_96 (dk_at dksX8_records_3 1 rfl rfl)
theorem dX8_records_72 : decode cX8_records 72 = .ok (.aload_n 0, 1) := dk_42 (dk_at dksX8_records_3 2 rfl rfl)
theorem dX8_records_73 : decode cX8_records 73 = .ok (.getfield 7, 3) := dk_180 0 7 (dk_at dksX8_records_3 3 rfl rfl)
theorem dX8_records_76 : decode cX8_records 76 = .ok (.iload_n 1, 1) := dk_27 (dk_at dksX8_records_3 6 rfl rfl)
theorem dX8_records_77 : decode cX8_records 77 = .ok (.iaload, 1) := dk_46 (dk_at dksX8_records_3 7 rfl rfl)
theorem dX8_records_78 : decode cX8_records 78 = .ok (.iastore, 1) := dk_79 (dk_at dksX8_records_3 8 rfl rfl)
theorem dX8_records_79 : decode cX8_records 79 = .ok (.iinc 1 1, 3) := dk_132 1 1 (dk_at dksX8_records_3 9 rfl rfl)
theorem dX8_records_82 : decode cX8_records 82 = .ok (.goto (-31), 3) := dk_167 255 225 (dk_at dksX8_records_3 12 rfl rfl)
theorem dX8_records_85 : decode cX8_records 85 = .ok (.aload_n 0, 1) := dk_42 (dk_at dksX8_records_3 15 rfl rfl)
theorem dX8_records_86 : decode cX8_records 86 = .ok (.dup, 1) := dk_89 (dk_at dksX8_records_3 16 rfl rfl)
theorem dX8_records_87 : decode cX8_records 87 = .ok (.getfield 30, 3) := dk_180 0 30 (dk_at dksX8_records_3 17 rfl rfl)
theorem dX8_records_90 : decode cX8_records 90 = .ok (.iconst 1, 1) := dk_4 (dk_at dksX8_records_3 20 rfl rfl)
theorem dX8_records_91 : decode cX8_records 91 = .ok (.iadd, 1) := dk_96 (dk_at dksX8_records_3 21 rfl rfl)
theorem dX8_records_92 : decode cX8_records 92 = .ok (.putfield 30, 3) := dk_181 0 30 (dk_at dksX8_records_4 0 rfl rfl)
theorem dX8_records_95 : decode cX8_records 95 = .ok (.return_, 1) := dk_177 (dk_at dksX8_records_4 3 rfl rfl)
abbrev cX8_start : ByteArray := prog_12_method_24_code
def yX8_start : MethodName := ⟨RX8, "start", "(II)I"⟩
def dkwX8_start_4 : List UInt8 := [184, 0, 22, 2, 79, 42, 180, 0, 7, 27, 16, 10, 184, 0, 22, 3, 79, 29, 172]
abbrev dktX8_start_4 : List UInt8 := dkwX8_start_4 ++ []
def dkwX8_start_3 : List UInt8 := [5, 21, 4, 96, 184, 0, 22, 3, 79, 132, 4, 1, 167, 255, 233, 42, 180, 0, 7, 27, 16, 9]
abbrev dktX8_start_3 : List UInt8 := dkwX8_start_3 ++ dktX8_start_4
def dkwX8_start_2 : List UInt8 := [180, 0, 7, 27, 4, 184, 0, 22, 28, 79, 3, 54, 4, 21, 4, 7, 162, 0, 23, 42, 180, 0, 7, 27]
abbrev dktX8_start_2 : List UInt8 := dkwX8_start_2 ++ dktX8_start_3
def dkwX8_start_1 : List UInt8 := [180, 0, 7, 27, 3, 184, 0, 22, 46, 62, 42, 180, 0, 7, 27, 3, 184, 0, 22, 4, 79, 42]
abbrev dktX8_start_1 : List UInt8 := dkwX8_start_1 ++ dktX8_start_2
def dkwX8_start_0 : List UInt8 := [27, 184, 0, 103, 153, 0, 10, 28, 184, 0, 72, 154, 0, 6, 18, 75, 172, 42, 182, 0, 85, 42]
abbrev dktX8_start_0 : List UInt8 := dkwX8_start_0 ++ dktX8_start_1
theorem dksX8_start_0 : cX8_start.data.toList.drop 0 = dktX8_start_0 := by decide +kernel
theorem dksX8_start_1 : cX8_start.data.toList.drop 22 = dktX8_start_1 := dk_seg dksX8_start_0 22 rfl rfl
theorem dksX8_start_2 : cX8_start.data.toList.drop 44 = dktX8_start_2 := dk_seg dksX8_start_1 22 rfl rfl
theorem dksX8_start_3 : cX8_start.data.toList.drop 68 = dktX8_start_3 := dk_seg dksX8_start_2 24 rfl rfl
theorem dksX8_start_4 : cX8_start.data.toList.drop 90 = dktX8_start_4 := dk_seg dksX8_start_3 22 rfl rfl
theorem dX8_start_0 : decode cX8_start 0 = .ok (.iload_n 1, 1) := dk_27 (dk_at dksX8_start_0 0 rfl rfl)
theorem dX8_start_1 : decode cX8_start 1 = .ok (.invokestatic 103, 3) := dk_184 0 103 (dk_at dksX8_start_0 1 rfl rfl)
theorem dX8_start_4 : decode cX8_start 4 = .ok (.ifCond .eq 10, 3) := dk_153 0 10 (dk_at dksX8_start_0 4 rfl rfl)
theorem dX8_start_7 : decode cX8_start 7 = .ok (.iload_n 2, 1) := dk_28 (dk_at dksX8_start_0 7 rfl rfl)
theorem dX8_start_8 : decode cX8_start 8 = .ok (.invokestatic 72, 3) := dk_184 0 72 (dk_at dksX8_start_0 8 rfl rfl)
theorem dX8_start_11 : decode cX8_start 11 = .ok (.ifCond .ne 6, 3) := dk_154 0 6 (dk_at dksX8_start_0 11 rfl rfl)
theorem dX8_start_14 : decode cX8_start 14 = .ok (.ldc 75, 2) := dk_18 75 (dk_at dksX8_start_0 14 rfl rfl)
theorem dX8_start_16 : decode cX8_start 16 = .ok (.ireturn, 1) := dk_172 (dk_at dksX8_start_0 16 rfl rfl)
theorem dX8_start_17 : decode cX8_start 17 = .ok (.aload_n 0, 1) := dk_42 (dk_at dksX8_start_0 17 rfl rfl)
theorem dX8_start_18 : decode cX8_start 18 = .ok (.invokevirtual 85, 3) := dk_182 0 85 (dk_at dksX8_start_0 18 rfl rfl)
theorem dX8_start_21 : decode cX8_start 21 = .ok (.aload_n 0, 1) := dk_42 (dk_at dksX8_start_0 21 rfl rfl)
theorem dX8_start_22 : decode cX8_start 22 = .ok (.getfield 7, 3) := dk_180 0 7 (dk_at dksX8_start_1 0 rfl rfl)
theorem dX8_start_25 : decode cX8_start 25 = .ok (.iload_n 1, 1) := dk_27 (dk_at dksX8_start_1 3 rfl rfl)
theorem dX8_start_26 : decode cX8_start 26 = .ok (.iconst 0, 1) := dk_3 (dk_at dksX8_start_1 4 rfl rfl)
theorem dX8_start_27 : decode cX8_start 27 = .ok (.invokestatic 22, 3) := dk_184 0 22 (dk_at dksX8_start_1 5 rfl rfl)
theorem dX8_start_30 : decode cX8_start 30 = .ok (.iaload, 1) := dk_46 (dk_at dksX8_start_1 8 rfl rfl)
theorem dX8_start_31 : decode cX8_start 31 = .ok (.istore_n 3, 1) := dk_62 (dk_at dksX8_start_1 9 rfl rfl)
theorem dX8_start_32 : decode cX8_start 32 = .ok (.aload_n 0, 1) := dk_42 (dk_at dksX8_start_1 10 rfl rfl)
theorem dX8_start_33 : decode cX8_start 33 = .ok (.getfield 7, 3) := dk_180 0 7 (dk_at dksX8_start_1 11 rfl rfl)
theorem dX8_start_36 : decode cX8_start 36 = .ok (.iload_n 1, 1) := dk_27 (dk_at dksX8_start_1 14 rfl rfl)
theorem dX8_start_37 : decode cX8_start 37 = .ok (.iconst 0, 1) := dk_3 (dk_at dksX8_start_1 15 rfl rfl)
theorem dX8_start_38 : decode cX8_start 38 = .ok (.invokestatic 22, 3) := dk_184 0 22 (dk_at dksX8_start_1 16 rfl rfl)
theorem dX8_start_41 : decode cX8_start 41 = .ok (.iconst 1, 1) := dk_4 (dk_at dksX8_start_1 19 rfl rfl)
theorem dX8_start_42 : decode cX8_start 42 = .ok (.iastore, 1) := dk_79 (dk_at dksX8_start_1 20 rfl rfl)
theorem dX8_start_43 : decode cX8_start 43 = .ok (.aload_n 0, 1) := dk_42 (dk_at dksX8_start_1 21 rfl rfl)
theorem dX8_start_44 : decode cX8_start 44 = .ok (.getfield 7, 3) := dk_180 0 7 (dk_at dksX8_start_2 0 rfl rfl)
theorem dX8_start_47 : decode cX8_start 47 = .ok (.iload_n 1, 1) := dk_27 (dk_at dksX8_start_2 3 rfl rfl)
theorem dX8_start_48 : decode cX8_start 48 = .ok (.iconst 1, 1) := dk_4 (dk_at dksX8_start_2 4 rfl rfl)
theorem dX8_start_49 : decode cX8_start 49 = .ok (.invokestatic 22, 3) := dk_184 0 22 (dk_at dksX8_start_2 5 rfl rfl)
theorem dX8_start_52 : decode cX8_start 52 = .ok (.iload_n 2, 1) := dk_28 (dk_at dksX8_start_2 8 rfl rfl)
theorem dX8_start_53 : decode cX8_start 53 = .ok (.iastore, 1) := dk_79 (dk_at dksX8_start_2 9 rfl rfl)
theorem dX8_start_54 : decode cX8_start 54 = .ok (.iconst 0, 1) := dk_3 (dk_at dksX8_start_2 10 rfl rfl)
theorem dX8_start_55 : decode cX8_start 55 = .ok (.istore 4, 2) := dk_54 4 (dk_at dksX8_start_2 11 rfl rfl)
theorem dX8_start_57 : decode cX8_start 57 = .ok (.iload 4, 2) := dk_21 4 (dk_at dksX8_start_2 13 rfl rfl)
theorem dX8_start_59 : decode cX8_start 59 = .ok (.iconst 4, 1) := dk_7 (dk_at dksX8_start_2 15 rfl rfl)
theorem dX8_start_60 : decode cX8_start 60 = .ok (.if_icmp .ge 23, 3) := dk_162 0 23 (dk_at dksX8_start_2 16 rfl rfl)
theorem dX8_start_63 : decode cX8_start 63 = .ok (.aload_n 0, 1) := dk_42 (dk_at dksX8_start_2 19 rfl rfl)
theorem dX8_start_64 : decode cX8_start 64 = .ok (.getfield 7, 3) := dk_180 0 7 (dk_at dksX8_start_2 20 rfl rfl)
theorem dX8_start_67 : decode cX8_start 67 = .ok (.iload_n 1, 1) := dk_27 (dk_at dksX8_start_2 23 rfl rfl)
theorem dX8_start_68 : decode cX8_start 68 = .ok (.iconst 2, 1) := dk_5 (dk_at dksX8_start_3 0 rfl rfl)
theorem dX8_start_69 : decode cX8_start 69 = .ok (.iload 4, 2) := dk_21 4 (dk_at dksX8_start_3 1 rfl rfl)
theorem dX8_start_71 : decode cX8_start 71 = .ok (.iadd, 1) := dk_96 (dk_at dksX8_start_3 3 rfl rfl)
theorem dX8_start_72 : decode cX8_start 72 = .ok (.invokestatic 22, 3) := dk_184 0 22 (dk_at dksX8_start_3 4 rfl rfl)
theorem dX8_start_75 : decode cX8_start 75 = .ok (.iconst 0, 1) := dk_3 (dk_at dksX8_start_3 7 rfl rfl)
theorem dX8_start_76 : decode cX8_start 76 = .ok (.iastore, 1) := dk_79 (dk_at dksX8_start_3 8 rfl rfl)
theorem dX8_start_77 : decode cX8_start 77 = .ok (.iinc 4 1, 3) := dk_132 4 1 (dk_at dksX8_start_3 9 rfl rfl)
theorem dX8_start_80 : decode cX8_start 80 = .ok (.goto (-23), 3) := dk_167 255 233 (dk_at dksX8_start_3 12 rfl rfl)
theorem dX8_start_83 : decode cX8_start 83 = .ok (.aload_n 0, 1) := dk_42 (dk_at dksX8_start_3 15 rfl rfl)
theorem dX8_start_84 : decode cX8_start 84 = .ok (.getfield 7, 3) := dk_180 0 7 (dk_at dksX8_start_3 16 rfl rfl)
theorem dX8_start_87 : decode cX8_start 87 = .ok (.iload_n 1, 1) := dk_27 (dk_at dksX8_start_3 19 rfl rfl)
theorem dX8_start_88 : decode cX8_start 88 = .ok (.bipush 9, 2) := dk_16 9 (dk_at dksX8_start_3 20 rfl rfl)
theorem dX8_start_90 : decode cX8_start 90 = .ok (.invokestatic 22, 3) := dk_184 0 22 (dk_at dksX8_start_4 0 rfl rfl)
theorem dX8_start_93 : decode cX8_start 93 = .ok (.iconst (-1), 1) := dk_2 (dk_at dksX8_start_4 3 rfl rfl)
theorem dX8_start_94 : decode cX8_start 94 = .ok (.iastore, 1) := dk_79 (dk_at dksX8_start_4 4 rfl rfl)
theorem dX8_start_95 : decode cX8_start 95 = .ok (.aload_n 0, 1) := dk_42 (dk_at dksX8_start_4 5 rfl rfl)
theorem dX8_start_96 : decode cX8_start 96 = .ok (.getfield 7, 3) := dk_180 0 7 (dk_at dksX8_start_4 6 rfl rfl)
theorem dX8_start_99 : decode cX8_start 99 = .ok (.iload_n 1, 1) := dk_27 (dk_at dksX8_start_4 9 rfl rfl)
theorem dX8_start_100 : decode cX8_start 100 = .ok (.bipush 10, 2) := dk_16 10 (dk_at dksX8_start_4 10 rfl rfl)
theorem dX8_start_102 : decode cX8_start 102 = .ok (.invokestatic 22, 3) := dk_184 0 22 (dk_at dksX8_start_4 12 rfl rfl)
theorem dX8_start_105 : decode cX8_start 105 = .ok (.iconst 0, 1) := dk_3 (dk_at dksX8_start_4 15 rfl rfl)
theorem dX8_start_106 : decode cX8_start 106 = .ok (.iastore, 1) := dk_79 (dk_at dksX8_start_4 16 rfl rfl)
theorem dX8_start_107 : decode cX8_start 107 = .ok (.iload_n 3, 1) := dk_29 (dk_at dksX8_start_4 17 rfl rfl)
theorem dX8_start_108 : decode cX8_start 108 = .ok (.ireturn, 1) := dk_172 (dk_at dksX8_start_4 18 rfl rfl)
abbrev cX8_isThread : ByteArray := prog_12_method_5_code
def yX8_isThread : MethodName := ⟨RX8, "isThread", "(I)Z"⟩
def dkwX8_isThread_0 : List UInt8 := [26, 3, 6, 184, 0, 26, 172]
abbrev dktX8_isThread_0 : List UInt8 := dkwX8_isThread_0 ++ []
theorem dksX8_isThread_0 : cX8_isThread.data.toList.drop 0 = dktX8_isThread_0 := by decide +kernel
theorem dX8_isThread_0 : decode cX8_isThread 0 = .ok (.iload_n 0, 1) := dk_26 (dk_at dksX8_isThread_0 0 rfl rfl)
theorem dX8_isThread_1 : decode cX8_isThread 1 = .ok (.iconst 0, 1) := dk_3 (dk_at dksX8_isThread_0 1 rfl rfl)
theorem dX8_isThread_2 : decode cX8_isThread 2 = .ok (.iconst 3, 1) := dk_6 (dk_at dksX8_isThread_0 2 rfl rfl)
theorem dX8_isThread_3 : decode cX8_isThread 3 = .ok (.invokestatic 26, 3) := dk_184 0 26 (dk_at dksX8_isThread_0 3 rfl rfl)
theorem dX8_isThread_6 : decode cX8_isThread 6 = .ok (.ireturn, 1) := dk_172 (dk_at dksX8_isThread_0 6 rfl rfl)
abbrev cX8_halt : ByteArray := prog_12_method_25_code
def yX8_halt : MethodName := ⟨RX8, "halt", "(I)I"⟩
def dkwX8_halt_2 : List UInt8 := [28, 172]
abbrev dktX8_halt_2 : List UInt8 := dkwX8_halt_2 ++ []
def dkwX8_halt_1 : List UInt8 := [61, 42, 180, 0, 7, 27, 3, 184, 0, 22, 3, 79, 42, 180, 0, 7, 27, 16, 10, 184, 0, 22, 3, 79]
abbrev dktX8_halt_1 : List UInt8 := dkwX8_halt_1 ++ dktX8_halt_2
def dkwX8_halt_0 : List UInt8 := [27, 184, 0, 103, 154, 0, 6, 18, 75, 172, 42, 182, 0, 85, 42, 180, 0, 7, 27, 3, 184, 0, 22, 46]
abbrev dktX8_halt_0 : List UInt8 := dkwX8_halt_0 ++ dktX8_halt_1
theorem dksX8_halt_0 : cX8_halt.data.toList.drop 0 = dktX8_halt_0 := by decide +kernel
theorem dksX8_halt_1 : cX8_halt.data.toList.drop 24 = dktX8_halt_1 := dk_seg dksX8_halt_0 24 rfl rfl
theorem dksX8_halt_2 : cX8_halt.data.toList.drop 48 = dktX8_halt_2 := dk_seg dksX8_halt_1 24 rfl rfl
theorem dX8_halt_0 : decode cX8_halt 0 = .ok (.iload_n 1, 1) := dk_27 (dk_at dksX8_halt_0 0 rfl rfl)
theorem dX8_halt_1 : decode cX8_halt 1 = .ok (.invokestatic 103, 3) := dk_184 0 103 (dk_at dksX8_halt_0 1 rfl rfl)
theorem dX8_halt_4 : decode cX8_halt 4 = .ok (.ifCond .ne 6, 3) := dk_154 0 6 (dk_at dksX8_halt_0 4 rfl rfl)
theorem dX8_halt_7 : decode cX8_halt 7 = .ok (.ldc 75, 2) := dk_18 75 (dk_at dksX8_halt_0 7 rfl rfl)
theorem dX8_halt_9 : decode cX8_halt 9 = .ok (.ireturn, 1) := dk_172 (dk_at dksX8_halt_0 9 rfl rfl)
theorem dX8_halt_10 : decode cX8_halt 10 = .ok (.aload_n 0, 1) := dk_42 (dk_at dksX8_halt_0 10 rfl rfl)
theorem dX8_halt_11 : decode cX8_halt 11 = .ok (.invokevirtual 85, 3) := dk_182 0 85 (dk_at dksX8_halt_0 11 rfl rfl)
theorem dX8_halt_14 : decode cX8_halt 14 = .ok (.aload_n 0, 1) := dk_42 (dk_at dksX8_halt_0 14 rfl rfl)
theorem dX8_halt_15 : decode cX8_halt 15 = .ok (.getfield 7, 3) := dk_180 0 7 (dk_at dksX8_halt_0 15 rfl rfl)
theorem dX8_halt_18 : decode cX8_halt 18 = .ok (.iload_n 1, 1) := dk_27 (dk_at dksX8_halt_0 18 rfl rfl)
theorem dX8_halt_19 : decode cX8_halt 19 = .ok (.iconst 0, 1) := dk_3 (dk_at dksX8_halt_0 19 rfl rfl)
theorem dX8_halt_20 : decode cX8_halt 20 = .ok (.invokestatic 22, 3) := dk_184 0 22 (dk_at dksX8_halt_0 20 rfl rfl)
theorem dX8_halt_23 : decode cX8_halt 23 = .ok (.iaload, 1) := dk_46 (dk_at dksX8_halt_0 23 rfl rfl)
theorem dX8_halt_24 : decode cX8_halt 24 = .ok (.istore_n 2, 1) := dk_61 (dk_at dksX8_halt_1 0 rfl rfl)
theorem dX8_halt_25 : decode cX8_halt 25 = .ok (.aload_n 0, 1) := dk_42 (dk_at dksX8_halt_1 1 rfl rfl)
theorem dX8_halt_26 : decode cX8_halt 26 = .ok (.getfield 7, 3) := dk_180 0 7 (dk_at dksX8_halt_1 2 rfl rfl)
theorem dX8_halt_29 : decode cX8_halt 29 = .ok (.iload_n 1, 1) := dk_27 (dk_at dksX8_halt_1 5 rfl rfl)
theorem dX8_halt_30 : decode cX8_halt 30 = .ok (.iconst 0, 1) := dk_3 (dk_at dksX8_halt_1 6 rfl rfl)
theorem dX8_halt_31 : decode cX8_halt 31 = .ok (.invokestatic 22, 3) := dk_184 0 22 (dk_at dksX8_halt_1 7 rfl rfl)
theorem dX8_halt_34 : decode cX8_halt 34 = .ok (.iconst 0, 1) := dk_3 (dk_at dksX8_halt_1 10 rfl rfl)
theorem dX8_halt_35 : decode cX8_halt 35 = .ok (.iastore, 1) := dk_79 (dk_at dksX8_halt_1 11 rfl rfl)
theorem dX8_halt_36 : decode cX8_halt 36 = .ok (.aload_n 0, 1) := dk_42 (dk_at dksX8_halt_1 12 rfl rfl)
theorem dX8_halt_37 : decode cX8_halt 37 = .ok (.getfield 7, 3) := dk_180 0 7 (dk_at dksX8_halt_1 13 rfl rfl)
theorem dX8_halt_40 : decode cX8_halt 40 = .ok (.iload_n 1, 1) := dk_27 (dk_at dksX8_halt_1 16 rfl rfl)
theorem dX8_halt_41 : decode cX8_halt 41 = .ok (.bipush 10, 2) := dk_16 10 (dk_at dksX8_halt_1 17 rfl rfl)
theorem dX8_halt_43 : decode cX8_halt 43 = .ok (.invokestatic 22, 3) := dk_184 0 22 (dk_at dksX8_halt_1 19 rfl rfl)
theorem dX8_halt_46 : decode cX8_halt 46 = .ok (.iconst 0, 1) := dk_3 (dk_at dksX8_halt_1 22 rfl rfl)
theorem dX8_halt_47 : decode cX8_halt 47 = .ok (.iastore, 1) := dk_79 (dk_at dksX8_halt_1 23 rfl rfl)
theorem dX8_halt_48 : decode cX8_halt 48 = .ok (.iload_n 2, 1) := dk_28 (dk_at dksX8_halt_2 0 rfl rfl)
theorem dX8_halt_49 : decode cX8_halt 49 = .ok (.ireturn, 1) := dk_172 (dk_at dksX8_halt_2 1 rfl rfl)
abbrev cX8_setRegister : ByteArray := prog_12_method_26_code
def yX8_setRegister : MethodName := ⟨RX8, "setRegister", "(III)I"⟩
def dkwX8_setRegister_2 : List UInt8 := [182, 0, 37, 21, 4, 172]
abbrev dktX8_setRegister_2 : List UInt8 := dkwX8_setRegister_2 ++ []
def dkwX8_setRegister_1 : List UInt8 := [154, 0, 6, 18, 109, 172, 42, 182, 0, 85, 42, 27, 28, 182, 0, 34, 54, 4, 42, 27, 28, 29]
abbrev dktX8_setRegister_1 : List UInt8 := dkwX8_setRegister_1 ++ dktX8_setRegister_2
def dkwX8_setRegister_0 : List UInt8 := [27, 184, 0, 103, 153, 0, 12, 28, 3, 6, 184, 0, 26, 154, 0, 6, 18, 75, 172, 29, 184, 0, 106]
abbrev dktX8_setRegister_0 : List UInt8 := dkwX8_setRegister_0 ++ dktX8_setRegister_1
theorem dksX8_setRegister_0 : cX8_setRegister.data.toList.drop 0 = dktX8_setRegister_0 := by decide +kernel
theorem dksX8_setRegister_1 : cX8_setRegister.data.toList.drop 23 = dktX8_setRegister_1 := dk_seg dksX8_setRegister_0 23 rfl rfl
theorem dksX8_setRegister_2 : cX8_setRegister.data.toList.drop 45 = dktX8_setRegister_2 := dk_seg dksX8_setRegister_1 22 rfl rfl
theorem dX8_setRegister_0 : decode cX8_setRegister 0 = .ok (.iload_n 1, 1) := dk_27 (dk_at dksX8_setRegister_0 0 rfl rfl)
theorem dX8_setRegister_1 : decode cX8_setRegister 1 = .ok (.invokestatic 103, 3) := dk_184 0 103 (dk_at dksX8_setRegister_0 1 rfl rfl)
theorem dX8_setRegister_4 : decode cX8_setRegister 4 = .ok (.ifCond .eq 12, 3) := dk_153 0 12 (dk_at dksX8_setRegister_0 4 rfl rfl)
theorem dX8_setRegister_7 : decode cX8_setRegister 7 = .ok (.iload_n 2, 1) := dk_28 (dk_at dksX8_setRegister_0 7 rfl rfl)
theorem dX8_setRegister_8 : decode cX8_setRegister 8 = .ok (.iconst 0, 1) := dk_3 (dk_at dksX8_setRegister_0 8 rfl rfl)
theorem dX8_setRegister_9 : decode cX8_setRegister 9 = .ok (.iconst 3, 1) := dk_6 (dk_at dksX8_setRegister_0 9 rfl rfl)
theorem dX8_setRegister_10 : decode cX8_setRegister 10 = .ok (.invokestatic 26, 3) := dk_184 0 26 (dk_at dksX8_setRegister_0 10 rfl rfl)
theorem dX8_setRegister_13 : decode cX8_setRegister 13 = .ok (.ifCond .ne 6, 3) := dk_154 0 6 (dk_at dksX8_setRegister_0 13 rfl rfl)
theorem dX8_setRegister_16 : decode cX8_setRegister 16 = .ok (.ldc 75, 2) := dk_18 75 (dk_at dksX8_setRegister_0 16 rfl rfl)
theorem dX8_setRegister_18 : decode cX8_setRegister 18 = .ok (.ireturn, 1) := dk_172 (dk_at dksX8_setRegister_0 18 rfl rfl)
theorem dX8_setRegister_19 : decode cX8_setRegister 19 = .ok (.iload_n 3, 1) := dk_29 (dk_at dksX8_setRegister_0 19 rfl rfl)
theorem dX8_setRegister_20 : decode cX8_setRegister 20 = .ok (.invokestatic 106, 3) := dk_184 0 106 (dk_at dksX8_setRegister_0 20 rfl rfl)
theorem dX8_setRegister_23 : decode cX8_setRegister 23 = .ok (.ifCond .ne 6, 3) := dk_154 0 6 (dk_at dksX8_setRegister_1 0 rfl rfl)
theorem dX8_setRegister_26 : decode cX8_setRegister 26 = .ok (.ldc 109, 2) := dk_18 109 (dk_at dksX8_setRegister_1 3 rfl rfl)
theorem dX8_setRegister_28 : decode cX8_setRegister 28 = .ok (.ireturn, 1) := dk_172 (dk_at dksX8_setRegister_1 5 rfl rfl)
theorem dX8_setRegister_29 : decode cX8_setRegister 29 = .ok (.aload_n 0, 1) := dk_42 (dk_at dksX8_setRegister_1 6 rfl rfl)
theorem dX8_setRegister_30 : decode cX8_setRegister 30 = .ok (.invokevirtual 85, 3) := dk_182 0 85 (dk_at dksX8_setRegister_1 7 rfl rfl)
theorem dX8_setRegister_33 : decode cX8_setRegister 33 = .ok (.aload_n 0, 1) := dk_42 (dk_at dksX8_setRegister_1 10 rfl rfl)
theorem dX8_setRegister_34 : decode cX8_setRegister 34 = .ok (.iload_n 1, 1) := dk_27 (dk_at dksX8_setRegister_1 11 rfl rfl)
theorem dX8_setRegister_35 : decode cX8_setRegister 35 = .ok (.iload_n 2, 1) := dk_28 (dk_at dksX8_setRegister_1 12 rfl rfl)
theorem dX8_setRegister_36 : decode cX8_setRegister 36 = .ok (.invokevirtual 34, 3) := dk_182 0 34 (dk_at dksX8_setRegister_1 13 rfl rfl)
theorem dX8_setRegister_39 : decode cX8_setRegister 39 = .ok (.istore 4, 2) := dk_54 4 (dk_at dksX8_setRegister_1 16 rfl rfl)
theorem dX8_setRegister_41 : decode cX8_setRegister 41 = .ok (.aload_n 0, 1) := dk_42 (dk_at dksX8_setRegister_1 18 rfl rfl)
theorem dX8_setRegister_42 : decode cX8_setRegister 42 = .ok (.iload_n 1, 1) := dk_27 (dk_at dksX8_setRegister_1 19 rfl rfl)
theorem dX8_setRegister_43 : decode cX8_setRegister 43 = .ok (.iload_n 2, 1) := dk_28 (dk_at dksX8_setRegister_1 20 rfl rfl)
theorem dX8_setRegister_44 : decode cX8_setRegister 44 = .ok (.iload_n 3, 1) := dk_29 (dk_at dksX8_setRegister_1 21 rfl rfl)
theorem dX8_setRegister_45 : decode cX8_setRegister 45 = .ok (.invokevirtual 37, 3) := dk_182 0 37 (dk_at dksX8_setRegister_2 0 rfl rfl)
theorem dX8_setRegister_48 : decode cX8_setRegister 48 = .ok (.iload 4, 2) := dk_21 4 (dk_at dksX8_setRegister_2 3 rfl rfl)
theorem dX8_setRegister_50 : decode cX8_setRegister 50 = .ok (.ireturn, 1) := dk_172 (dk_at dksX8_setRegister_2 5 rfl rfl)
abbrev cX8_isShort : ByteArray := prog_12_method_7_code
def yX8_isShort : MethodName := ⟨RX8, "isShort", "(I)Z"⟩
def dkwX8_isShort_0 : List UInt8 := [26, 17, 128, 0, 17, 127, 255, 184, 0, 26, 172]
abbrev dktX8_isShort_0 : List UInt8 := dkwX8_isShort_0 ++ []
theorem dksX8_isShort_0 : cX8_isShort.data.toList.drop 0 = dktX8_isShort_0 := by decide +kernel
theorem dX8_isShort_0 : decode cX8_isShort 0 = .ok (.iload_n 0, 1) := dk_26 (dk_at dksX8_isShort_0 0 rfl rfl)
theorem dX8_isShort_1 : decode cX8_isShort 1 = .ok (.sipush (-32768), 3) := dk_17 128 0 (dk_at dksX8_isShort_0 1 rfl rfl)
theorem dX8_isShort_4 : decode cX8_isShort 4 = .ok (.sipush 32767, 3) := dk_17 127 255 (dk_at dksX8_isShort_0 4 rfl rfl)
theorem dX8_isShort_7 : decode cX8_isShort 7 = .ok (.invokestatic 26, 3) := dk_184 0 26 (dk_at dksX8_isShort_0 7 rfl rfl)
theorem dX8_isShort_10 : decode cX8_isShort 10 = .ok (.ireturn, 1) := dk_172 (dk_at dksX8_isShort_0 10 rfl rfl)
abbrev cX8_register0 : ByteArray := prog_12_method_11_code
def yX8_register0 : MethodName := ⟨RX8, "register0", "(II)I"⟩
def dkwX8_register0_0 : List UInt8 := [42, 180, 0, 7, 27, 5, 28, 96, 184, 0, 22, 46, 172]
abbrev dktX8_register0_0 : List UInt8 := dkwX8_register0_0 ++ []
theorem dksX8_register0_0 : cX8_register0.data.toList.drop 0 = dktX8_register0_0 := by decide +kernel
theorem dX8_register0_0 : decode cX8_register0 0 = .ok (.aload_n 0, 1) := dk_42 (dk_at dksX8_register0_0 0 rfl rfl)
theorem dX8_register0_1 : decode cX8_register0 1 = .ok (.getfield 7, 3) := dk_180 0 7 (dk_at dksX8_register0_0 1 rfl rfl)
theorem dX8_register0_4 : decode cX8_register0 4 = .ok (.iload_n 1, 1) := dk_27 (dk_at dksX8_register0_0 4 rfl rfl)
theorem dX8_register0_5 : decode cX8_register0 5 = .ok (.iconst 2, 1) := dk_5 (dk_at dksX8_register0_0 5 rfl rfl)
theorem dX8_register0_6 : decode cX8_register0 6 = .ok (.iload_n 2, 1) := dk_28 (dk_at dksX8_register0_0 6 rfl rfl)
theorem dX8_register0_7 : decode cX8_register0 7 = .ok (.iadd, 1) := dk_96 (dk_at dksX8_register0_0 7 rfl rfl)
theorem dX8_register0_8 : decode cX8_register0 8 = .ok (.invokestatic 22, 3) := dk_184 0 22 (dk_at dksX8_register0_0 8 rfl rfl)
theorem dX8_register0_11 : decode cX8_register0 11 = .ok (.iaload, 1) := dk_46 (dk_at dksX8_register0_0 11 rfl rfl)
theorem dX8_register0_12 : decode cX8_register0 12 = .ok (.ireturn, 1) := dk_172 (dk_at dksX8_register0_0 12 rfl rfl)
abbrev cX8_puts : ByteArray := prog_12_method_12_code
def yX8_puts : MethodName := ⟨RX8, "puts", "(III)V"⟩
def dkwX8_puts_0 : List UInt8 := [42, 180, 0, 7, 27, 5, 28, 96, 184, 0, 22, 29, 147, 79, 177]
abbrev dktX8_puts_0 : List UInt8 := dkwX8_puts_0 ++ []
theorem dksX8_puts_0 : cX8_puts.data.toList.drop 0 = dktX8_puts_0 := by decide +kernel
theorem dX8_puts_0 : decode cX8_puts 0 = .ok (.aload_n 0, 1) := dk_42 (dk_at dksX8_puts_0 0 rfl rfl)
theorem dX8_puts_1 : decode cX8_puts 1 = .ok (.getfield 7, 3) := dk_180 0 7 (dk_at dksX8_puts_0 1 rfl rfl)
theorem dX8_puts_4 : decode cX8_puts 4 = .ok (.iload_n 1, 1) := dk_27 (dk_at dksX8_puts_0 4 rfl rfl)
theorem dX8_puts_5 : decode cX8_puts 5 = .ok (.iconst 2, 1) := dk_5 (dk_at dksX8_puts_0 5 rfl rfl)
theorem dX8_puts_6 : decode cX8_puts 6 = .ok (.iload_n 2, 1) := dk_28 (dk_at dksX8_puts_0 6 rfl rfl)
theorem dX8_puts_7 : decode cX8_puts 7 = .ok (.iadd, 1) := dk_96 (dk_at dksX8_puts_0 7 rfl rfl)
theorem dX8_puts_8 : decode cX8_puts 8 = .ok (.invokestatic 22, 3) := dk_184 0 22 (dk_at dksX8_puts_0 8 rfl rfl)
theorem dX8_puts_11 : decode cX8_puts 11 = .ok (.iload_n 3, 1) := dk_29 (dk_at dksX8_puts_0 11 rfl rfl)
theorem dX8_puts_12 : decode cX8_puts 12 = .ok (.i2s, 1) := dk_147 (dk_at dksX8_puts_0 12 rfl rfl)
theorem dX8_puts_13 : decode cX8_puts 13 = .ok (.iastore, 1) := dk_79 (dk_at dksX8_puts_0 13 rfl rfl)
theorem dX8_puts_14 : decode cX8_puts 14 = .ok (.return_, 1) := dk_177 (dk_at dksX8_puts_0 14 rfl rfl)
abbrev cX8_setWord : ByteArray := prog_12_method_27_code
def yX8_setWord : MethodName := ⟨RX8, "setWord", "(II)I"⟩
def dkwX8_setWord_2 : List UInt8 := [79, 29, 172]
abbrev dktX8_setWord_2 : List UInt8 := dkwX8_setWord_2 ++ []
def dkwX8_setWord_1 : List UInt8 := [182, 0, 85, 42, 180, 0, 7, 17, 0, 200, 27, 96, 46, 62, 42, 180, 0, 7, 17, 0, 200, 27, 96, 28]
abbrev dktX8_setWord_1 : List UInt8 := dkwX8_setWord_1 ++ dktX8_setWord_2
def dkwX8_setWord_0 : List UInt8 := [27, 3, 16, 31, 184, 0, 26, 154, 0, 6, 18, 75, 172, 28, 184, 0, 106, 154, 0, 6, 18, 109, 172, 42]
abbrev dktX8_setWord_0 : List UInt8 := dkwX8_setWord_0 ++ dktX8_setWord_1
theorem dksX8_setWord_0 : cX8_setWord.data.toList.drop 0 = dktX8_setWord_0 := by decide +kernel
theorem dksX8_setWord_1 : cX8_setWord.data.toList.drop 24 = dktX8_setWord_1 := dk_seg dksX8_setWord_0 24 rfl rfl
theorem dksX8_setWord_2 : cX8_setWord.data.toList.drop 48 = dktX8_setWord_2 := dk_seg dksX8_setWord_1 24 rfl rfl
theorem dX8_setWord_0 : decode cX8_setWord 0 = .ok (.iload_n 1, 1) := dk_27 (dk_at dksX8_setWord_0 0 rfl rfl)
theorem dX8_setWord_1 : decode cX8_setWord 1 = .ok (.iconst 0, 1) := dk_3 (dk_at dksX8_setWord_0 1 rfl rfl)
theorem dX8_setWord_2 : decode cX8_setWord 2 = .ok (.bipush 31, 2) := dk_16 31 (dk_at dksX8_setWord_0 2 rfl rfl)
theorem dX8_setWord_4 : decode cX8_setWord 4 = .ok (.invokestatic 26, 3) := dk_184 0 26 (dk_at dksX8_setWord_0 4 rfl rfl)
theorem dX8_setWord_7 : decode cX8_setWord 7 = .ok (.ifCond .ne 6, 3) := dk_154 0 6 (dk_at dksX8_setWord_0 7 rfl rfl)
theorem dX8_setWord_10 : decode cX8_setWord 10 = .ok (.ldc 75, 2) := dk_18 75 (dk_at dksX8_setWord_0 10 rfl rfl)
theorem dX8_setWord_12 : decode cX8_setWord 12 = .ok (.ireturn, 1) := dk_172 (dk_at dksX8_setWord_0 12 rfl rfl)
theorem dX8_setWord_13 : decode cX8_setWord 13 = .ok (.iload_n 2, 1) := dk_28 (dk_at dksX8_setWord_0 13 rfl rfl)
theorem dX8_setWord_14 : decode cX8_setWord 14 = .ok (.invokestatic 106, 3) := dk_184 0 106 (dk_at dksX8_setWord_0 14 rfl rfl)
theorem dX8_setWord_17 : decode cX8_setWord 17 = .ok (.ifCond .ne 6, 3) := dk_154 0 6 (dk_at dksX8_setWord_0 17 rfl rfl)
theorem dX8_setWord_20 : decode cX8_setWord 20 = .ok (.ldc 109, 2) := dk_18 109 (dk_at dksX8_setWord_0 20 rfl rfl)
theorem dX8_setWord_22 : decode cX8_setWord 22 = .ok (.ireturn, 1) := dk_172 (dk_at dksX8_setWord_0 22 rfl rfl)
theorem dX8_setWord_23 : decode cX8_setWord 23 = .ok (.aload_n 0, 1) := dk_42 (dk_at dksX8_setWord_0 23 rfl rfl)
theorem dX8_setWord_24 : decode cX8_setWord 24 = .ok (.invokevirtual 85, 3) := dk_182 0 85 (dk_at dksX8_setWord_1 0 rfl rfl)
theorem dX8_setWord_27 : decode cX8_setWord 27 = .ok (.aload_n 0, 1) := dk_42 (dk_at dksX8_setWord_1 3 rfl rfl)
theorem dX8_setWord_28 : decode cX8_setWord 28 = .ok (.getfield 7, 3) := dk_180 0 7 (dk_at dksX8_setWord_1 4 rfl rfl)
theorem dX8_setWord_31 : decode cX8_setWord 31 = .ok (.sipush 200, 3) := dk_17 0 200 (dk_at dksX8_setWord_1 7 rfl rfl)
theorem dX8_setWord_34 : decode cX8_setWord 34 = .ok (.iload_n 1, 1) := dk_27 (dk_at dksX8_setWord_1 10 rfl rfl)
theorem dX8_setWord_35 : decode cX8_setWord 35 = .ok (.iadd, 1) := dk_96 (dk_at dksX8_setWord_1 11 rfl rfl)
theorem dX8_setWord_36 : decode cX8_setWord 36 = .ok (.iaload, 1) := dk_46 (dk_at dksX8_setWord_1 12 rfl rfl)
theorem dX8_setWord_37 : decode cX8_setWord 37 = .ok (.istore_n 3, 1) := dk_62 (dk_at dksX8_setWord_1 13 rfl rfl)
theorem dX8_setWord_38 : decode cX8_setWord 38 = .ok (.aload_n 0, 1) := dk_42 (dk_at dksX8_setWord_1 14 rfl rfl)
theorem dX8_setWord_39 : decode cX8_setWord 39 = .ok (.getfield 7, 3) := dk_180 0 7 (dk_at dksX8_setWord_1 15 rfl rfl)
theorem dX8_setWord_42 : decode cX8_setWord 42 = .ok (.sipush 200, 3) := dk_17 0 200 (dk_at dksX8_setWord_1 18 rfl rfl)
theorem dX8_setWord_45 : decode cX8_setWord 45 = .ok (.iload_n 1, 1) := dk_27 (dk_at dksX8_setWord_1 21 rfl rfl)
theorem dX8_setWord_46 : decode cX8_setWord 46 = .ok (.iadd, 1) := dk_96 (dk_at dksX8_setWord_1 22 rfl rfl)
theorem dX8_setWord_47 : decode cX8_setWord 47 = .ok (.iload_n 2, 1) := dk_28 (dk_at dksX8_setWord_1 23 rfl rfl)
theorem dX8_setWord_48 : decode cX8_setWord 48 = .ok (.iastore, 1) := dk_79 (dk_at dksX8_setWord_2 0 rfl rfl)
theorem dX8_setWord_49 : decode cX8_setWord 49 = .ok (.iload_n 3, 1) := dk_29 (dk_at dksX8_setWord_2 1 rfl rfl)
theorem dX8_setWord_50 : decode cX8_setWord 50 = .ok (.ireturn, 1) := dk_172 (dk_at dksX8_setWord_2 2 rfl rfl)
abbrev cX8_setSlot : ByteArray := prog_12_method_28_code
def yX8_setSlot : MethodName := ⟨RX8, "setSlot", "(II)I"⟩
def dkwX8_setSlot_1 : List UInt8 := [42, 180, 0, 7, 17, 0, 234, 27, 96, 46, 62, 42, 180, 0, 7, 17, 0, 234, 27, 96, 28, 79, 29, 172]
abbrev dktX8_setSlot_1 : List UInt8 := dkwX8_setSlot_1 ++ []
def dkwX8_setSlot_0 : List UInt8 := [27, 3, 16, 7, 184, 0, 26, 153, 0, 10, 28, 184, 0, 103, 154, 0, 6, 18, 75, 172, 42, 182, 0, 85]
abbrev dktX8_setSlot_0 : List UInt8 := dkwX8_setSlot_0 ++ dktX8_setSlot_1
theorem dksX8_setSlot_0 : cX8_setSlot.data.toList.drop 0 = dktX8_setSlot_0 := by decide +kernel
theorem dksX8_setSlot_1 : cX8_setSlot.data.toList.drop 24 = dktX8_setSlot_1 := dk_seg dksX8_setSlot_0 24 rfl rfl
theorem dX8_setSlot_0 : decode cX8_setSlot 0 = .ok (.iload_n 1, 1) := dk_27 (dk_at dksX8_setSlot_0 0 rfl rfl)
theorem dX8_setSlot_1 : decode cX8_setSlot 1 = .ok (.iconst 0, 1) := dk_3 (dk_at dksX8_setSlot_0 1 rfl rfl)
theorem dX8_setSlot_2 : decode cX8_setSlot 2 = .ok (.bipush 7, 2) := dk_16 7 (dk_at dksX8_setSlot_0 2 rfl rfl)
theorem dX8_setSlot_4 : decode cX8_setSlot 4 = .ok (.invokestatic 26, 3) := dk_184 0 26 (dk_at dksX8_setSlot_0 4 rfl rfl)
theorem dX8_setSlot_7 : decode cX8_setSlot 7 = .ok (.ifCond .eq 10, 3) := dk_153 0 10 (dk_at dksX8_setSlot_0 7 rfl rfl)
theorem dX8_setSlot_10 : decode cX8_setSlot 10 = .ok (.iload_n 2, 1) := dk_28 (dk_at dksX8_setSlot_0 10 rfl rfl)
theorem dX8_setSlot_11 : decode cX8_setSlot 11 = .ok (.invokestatic 103, 3) := dk_184 0 103 (dk_at dksX8_setSlot_0 11 rfl rfl)
theorem dX8_setSlot_14 : decode cX8_setSlot 14 = .ok (.ifCond .ne 6, 3) := dk_154 0 6 (dk_at dksX8_setSlot_0 14 rfl rfl)
theorem dX8_setSlot_17 : decode cX8_setSlot 17 = .ok (.ldc 75, 2) := dk_18 75 (dk_at dksX8_setSlot_0 17 rfl rfl)
theorem dX8_setSlot_19 : decode cX8_setSlot 19 = .ok (.ireturn, 1) := dk_172 (dk_at dksX8_setSlot_0 19 rfl rfl)
theorem dX8_setSlot_20 : decode cX8_setSlot 20 = .ok (.aload_n 0, 1) := dk_42 (dk_at dksX8_setSlot_0 20 rfl rfl)
theorem dX8_setSlot_21 : decode cX8_setSlot 21 = .ok (.invokevirtual 85, 3) := dk_182 0 85 (dk_at dksX8_setSlot_0 21 rfl rfl)
theorem dX8_setSlot_24 : decode cX8_setSlot 24 = .ok (.aload_n 0, 1) := dk_42 (dk_at dksX8_setSlot_1 0 rfl rfl)
theorem dX8_setSlot_25 : decode cX8_setSlot 25 = .ok (.getfield 7, 3) := dk_180 0 7 (dk_at dksX8_setSlot_1 1 rfl rfl)
theorem dX8_setSlot_28 : decode cX8_setSlot 28 = .ok (.sipush 234, 3) := dk_17 0 234 (dk_at dksX8_setSlot_1 4 rfl rfl)
theorem dX8_setSlot_31 : decode cX8_setSlot 31 = .ok (.iload_n 1, 1) := dk_27 (dk_at dksX8_setSlot_1 7 rfl rfl)
theorem dX8_setSlot_32 : decode cX8_setSlot 32 = .ok (.iadd, 1) := dk_96 (dk_at dksX8_setSlot_1 8 rfl rfl)
theorem dX8_setSlot_33 : decode cX8_setSlot 33 = .ok (.iaload, 1) := dk_46 (dk_at dksX8_setSlot_1 9 rfl rfl)
theorem dX8_setSlot_34 : decode cX8_setSlot 34 = .ok (.istore_n 3, 1) := dk_62 (dk_at dksX8_setSlot_1 10 rfl rfl)
theorem dX8_setSlot_35 : decode cX8_setSlot 35 = .ok (.aload_n 0, 1) := dk_42 (dk_at dksX8_setSlot_1 11 rfl rfl)
theorem dX8_setSlot_36 : decode cX8_setSlot 36 = .ok (.getfield 7, 3) := dk_180 0 7 (dk_at dksX8_setSlot_1 12 rfl rfl)
theorem dX8_setSlot_39 : decode cX8_setSlot 39 = .ok (.sipush 234, 3) := dk_17 0 234 (dk_at dksX8_setSlot_1 15 rfl rfl)
theorem dX8_setSlot_42 : decode cX8_setSlot 42 = .ok (.iload_n 1, 1) := dk_27 (dk_at dksX8_setSlot_1 18 rfl rfl)
theorem dX8_setSlot_43 : decode cX8_setSlot 43 = .ok (.iadd, 1) := dk_96 (dk_at dksX8_setSlot_1 19 rfl rfl)
theorem dX8_setSlot_44 : decode cX8_setSlot 44 = .ok (.iload_n 2, 1) := dk_28 (dk_at dksX8_setSlot_1 20 rfl rfl)
theorem dX8_setSlot_45 : decode cX8_setSlot 45 = .ok (.iastore, 1) := dk_79 (dk_at dksX8_setSlot_1 21 rfl rfl)
theorem dX8_setSlot_46 : decode cX8_setSlot 46 = .ok (.iload_n 3, 1) := dk_29 (dk_at dksX8_setSlot_1 22 rfl rfl)
theorem dX8_setSlot_47 : decode cX8_setSlot 47 = .ok (.ireturn, 1) := dk_172 (dk_at dksX8_setSlot_1 23 rfl rfl)
abbrev cX8_set : ByteArray := prog_12_method_29_code
def yX8_set : MethodName := ⟨RX8, "set", "(II)I"⟩
def dkwX8_set_2 : List UInt8 := [42, 180, 0, 7, 17, 0, 242, 27, 96, 28, 79, 29, 172]
abbrev dktX8_set_2 : List UInt8 := dkwX8_set_2 ++ []
def dkwX8_set_1 : List UInt8 := [184, 0, 26, 154, 0, 6, 18, 109, 172, 42, 182, 0, 85, 42, 180, 0, 7, 17, 0, 242, 27, 96, 46, 62]
abbrev dktX8_set_1 : List UInt8 := dkwX8_set_1 ++ dktX8_set_2
def dkwX8_set_0 : List UInt8 := [27, 3, 4, 184, 0, 26, 154, 0, 6, 18, 75, 172, 28, 3, 27, 154, 0, 8, 16, 20, 167, 0, 4, 5]
abbrev dktX8_set_0 : List UInt8 := dkwX8_set_0 ++ dktX8_set_1
theorem dksX8_set_0 : cX8_set.data.toList.drop 0 = dktX8_set_0 := by decide +kernel
theorem dksX8_set_1 : cX8_set.data.toList.drop 24 = dktX8_set_1 := dk_seg dksX8_set_0 24 rfl rfl
theorem dksX8_set_2 : cX8_set.data.toList.drop 48 = dktX8_set_2 := dk_seg dksX8_set_1 24 rfl rfl
theorem dX8_set_0 : decode cX8_set 0 = .ok (.iload_n 1, 1) := dk_27 (dk_at dksX8_set_0 0 rfl rfl)
theorem dX8_set_1 : decode cX8_set 1 = .ok (.iconst 0, 1) := dk_3 (dk_at dksX8_set_0 1 rfl rfl)
theorem dX8_set_2 : decode cX8_set 2 = .ok (.iconst 1, 1) := dk_4 (dk_at dksX8_set_0 2 rfl rfl)
theorem dX8_set_3 : decode cX8_set 3 = .ok (.invokestatic 26, 3) := dk_184 0 26 (dk_at dksX8_set_0 3 rfl rfl)
theorem dX8_set_6 : decode cX8_set 6 = .ok (.ifCond .ne 6, 3) := dk_154 0 6 (dk_at dksX8_set_0 6 rfl rfl)
theorem dX8_set_9 : decode cX8_set 9 = .ok (.ldc 75, 2) := dk_18 75 (dk_at dksX8_set_0 9 rfl rfl)
theorem dX8_set_11 : decode cX8_set 11 = .ok (.ireturn, 1) := dk_172 (dk_at dksX8_set_0 11 rfl rfl)
theorem dX8_set_12 : decode cX8_set 12 = .ok (.iload_n 2, 1) := dk_28 (dk_at dksX8_set_0 12 rfl rfl)
theorem dX8_set_13 : decode cX8_set 13 = .ok (.iconst 0, 1) := dk_3 (dk_at dksX8_set_0 13 rfl rfl)
theorem dX8_set_14 : decode cX8_set 14 = .ok (.iload_n 1, 1) := dk_27 (dk_at dksX8_set_0 14 rfl rfl)
theorem dX8_set_15 : decode cX8_set 15 = .ok (.ifCond .ne 8, 3) := dk_154 0 8 (dk_at dksX8_set_0 15 rfl rfl)
theorem dX8_set_18 : decode cX8_set 18 = .ok (.bipush 20, 2) := dk_16 20 (dk_at dksX8_set_0 18 rfl rfl)
theorem dX8_set_20 : decode cX8_set 20 = .ok (.goto 4, 3) := dk_167 0 4 (dk_at dksX8_set_0 20 rfl rfl)
theorem dX8_set_23 : decode cX8_set 23 = .ok (.iconst 2, 1) := dk_5 (dk_at dksX8_set_0 23 rfl rfl)
theorem dX8_set_24 : decode cX8_set 24 = .ok (.invokestatic 26, 3) := dk_184 0 26 (dk_at dksX8_set_1 0 rfl rfl)
theorem dX8_set_27 : decode cX8_set 27 = .ok (.ifCond .ne 6, 3) := dk_154 0 6 (dk_at dksX8_set_1 3 rfl rfl)
theorem dX8_set_30 : decode cX8_set 30 = .ok (.ldc 109, 2) := dk_18 109 (dk_at dksX8_set_1 6 rfl rfl)
theorem dX8_set_32 : decode cX8_set 32 = .ok (.ireturn, 1) := dk_172 (dk_at dksX8_set_1 8 rfl rfl)
theorem dX8_set_33 : decode cX8_set 33 = .ok (.aload_n 0, 1) := dk_42 (dk_at dksX8_set_1 9 rfl rfl)
theorem dX8_set_34 : decode cX8_set 34 = .ok (.invokevirtual 85, 3) := dk_182 0 85 (dk_at dksX8_set_1 10 rfl rfl)
theorem dX8_set_37 : decode cX8_set 37 = .ok (.aload_n 0, 1) := dk_42 (dk_at dksX8_set_1 13 rfl rfl)
theorem dX8_set_38 : decode cX8_set 38 = .ok (.getfield 7, 3) := dk_180 0 7 (dk_at dksX8_set_1 14 rfl rfl)
theorem dX8_set_41 : decode cX8_set 41 = .ok (.sipush 242, 3) := dk_17 0 242 (dk_at dksX8_set_1 17 rfl rfl)
theorem dX8_set_44 : decode cX8_set 44 = .ok (.iload_n 1, 1) := dk_27 (dk_at dksX8_set_1 20 rfl rfl)
theorem dX8_set_45 : decode cX8_set 45 = .ok (.iadd, 1) := dk_96 (dk_at dksX8_set_1 21 rfl rfl)
theorem dX8_set_46 : decode cX8_set 46 = .ok (.iaload, 1) := dk_46 (dk_at dksX8_set_1 22 rfl rfl)
theorem dX8_set_47 : decode cX8_set 47 = .ok (.istore_n 3, 1) := dk_62 (dk_at dksX8_set_1 23 rfl rfl)
theorem dX8_set_48 : decode cX8_set 48 = .ok (.aload_n 0, 1) := dk_42 (dk_at dksX8_set_2 0 rfl rfl)
theorem dX8_set_49 : decode cX8_set 49 = .ok (.getfield 7, 3) := dk_180 0 7 (dk_at dksX8_set_2 1 rfl rfl)
theorem dX8_set_52 : decode cX8_set 52 = .ok (.sipush 242, 3) := dk_17 0 242 (dk_at dksX8_set_2 4 rfl rfl)
theorem dX8_set_55 : decode cX8_set 55 = .ok (.iload_n 1, 1) := dk_27 (dk_at dksX8_set_2 7 rfl rfl)
theorem dX8_set_56 : decode cX8_set 56 = .ok (.iadd, 1) := dk_96 (dk_at dksX8_set_2 8 rfl rfl)
theorem dX8_set_57 : decode cX8_set 57 = .ok (.iload_n 2, 1) := dk_28 (dk_at dksX8_set_2 9 rfl rfl)
theorem dX8_set_58 : decode cX8_set 58 = .ok (.iastore, 1) := dk_79 (dk_at dksX8_set_2 10 rfl rfl)
theorem dX8_set_59 : decode cX8_set 59 = .ok (.iload_n 3, 1) := dk_29 (dk_at dksX8_set_2 11 rfl rfl)
theorem dX8_set_60 : decode cX8_set 60 = .ok (.ireturn, 1) := dk_172 (dk_at dksX8_set_2 12 rfl rfl)
abbrev cX8_setBreakpoint : ByteArray := prog_12_method_30_code
def yX8_setBreakpoint : MethodName := ⟨RX8, "setBreakpoint", "(IZ)I"⟩
def dkwX8_setBreakpoint_2 : List UInt8 := [180, 0, 7, 17, 0, 244, 21, 4, 96, 46, 96, 62, 132, 4, 1, 167, 255, 232, 29, 172]
abbrev dktX8_setBreakpoint_2 : List UInt8 := dkwX8_setBreakpoint_2 ++ []
def dkwX8_setBreakpoint_1 : List UInt8 := [153, 0, 7, 4, 167, 0, 4, 3, 79, 3, 62, 3, 54, 4, 21, 4, 16, 48, 162, 0, 23, 29, 42]
abbrev dktX8_setBreakpoint_1 : List UInt8 := dkwX8_setBreakpoint_1 ++ dktX8_setBreakpoint_2
def dkwX8_setBreakpoint_0 : List UInt8 := [27, 184, 0, 72, 154, 0, 6, 18, 75, 172, 42, 182, 0, 85, 42, 180, 0, 7, 17, 0, 244, 27, 96, 28]
abbrev dktX8_setBreakpoint_0 : List UInt8 := dkwX8_setBreakpoint_0 ++ dktX8_setBreakpoint_1
theorem dksX8_setBreakpoint_0 : cX8_setBreakpoint.data.toList.drop 0 = dktX8_setBreakpoint_0 := by decide +kernel
theorem dksX8_setBreakpoint_1 : cX8_setBreakpoint.data.toList.drop 24 = dktX8_setBreakpoint_1 := dk_seg dksX8_setBreakpoint_0 24 rfl rfl
theorem dksX8_setBreakpoint_2 : cX8_setBreakpoint.data.toList.drop 47 = dktX8_setBreakpoint_2 := dk_seg dksX8_setBreakpoint_1 23 rfl rfl
theorem dX8_setBreakpoint_0 : decode cX8_setBreakpoint 0 = .ok (.iload_n 1, 1) := dk_27 (dk_at dksX8_setBreakpoint_0 0 rfl rfl)
theorem dX8_setBreakpoint_1 : decode cX8_setBreakpoint 1 = .ok (.invokestatic 72, 3) := dk_184 0 72 (dk_at dksX8_setBreakpoint_0 1 rfl rfl)
theorem dX8_setBreakpoint_4 : decode cX8_setBreakpoint 4 = .ok (.ifCond .ne 6, 3) := dk_154 0 6 (dk_at dksX8_setBreakpoint_0 4 rfl rfl)
theorem dX8_setBreakpoint_7 : decode cX8_setBreakpoint 7 = .ok (.ldc 75, 2) := dk_18 75 (dk_at dksX8_setBreakpoint_0 7 rfl rfl)
theorem dX8_setBreakpoint_9 : decode cX8_setBreakpoint 9 = .ok (.ireturn, 1) := dk_172 (dk_at dksX8_setBreakpoint_0 9 rfl rfl)
theorem dX8_setBreakpoint_10 : decode cX8_setBreakpoint 10 = .ok (.aload_n 0, 1) := dk_42 (dk_at dksX8_setBreakpoint_0 10 rfl rfl)
theorem dX8_setBreakpoint_11 : decode cX8_setBreakpoint 11 = .ok (.invokevirtual 85, 3) := dk_182 0 85 (dk_at dksX8_setBreakpoint_0 11 rfl rfl)
theorem dX8_setBreakpoint_14 : decode cX8_setBreakpoint 14 = .ok (.aload_n 0, 1) := dk_42 (dk_at dksX8_setBreakpoint_0 14 rfl rfl)
theorem dX8_setBreakpoint_15 : decode cX8_setBreakpoint 15 = .ok (.getfield 7, 3) := dk_180 0 7 (dk_at dksX8_setBreakpoint_0 15 rfl rfl)
theorem dX8_setBreakpoint_18 : decode cX8_setBreakpoint 18 = .ok (.sipush 244, 3) := dk_17 0 244 (dk_at dksX8_setBreakpoint_0 18 rfl rfl)
theorem dX8_setBreakpoint_21 : decode cX8_setBreakpoint 21 = .ok (.iload_n 1, 1) := dk_27 (dk_at dksX8_setBreakpoint_0 21 rfl rfl)
theorem dX8_setBreakpoint_22 : decode cX8_setBreakpoint 22 = .ok (.iadd, 1) := dk_96 (dk_at dksX8_setBreakpoint_0 22 rfl rfl)
theorem dX8_setBreakpoint_23 : decode cX8_setBreakpoint 23 = .ok (.iload_n 2, 1) := dk_28 (dk_at dksX8_setBreakpoint_0 23 rfl rfl)
theorem dX8_setBreakpoint_24 : decode cX8_setBreakpoint 24 = .ok (.ifCond .eq 7, 3) := dk_153 0 7 (dk_at dksX8_setBreakpoint_1 0 rfl rfl)
theorem dX8_setBreakpoint_27 : decode cX8_setBreakpoint 27 = .ok (.iconst 1, 1) := dk_4 (dk_at dksX8_setBreakpoint_1 3 rfl rfl)
theorem dX8_setBreakpoint_28 : decode cX8_setBreakpoint 28 = .ok (.goto 4, 3) := dk_167 0 4 (dk_at dksX8_setBreakpoint_1 4 rfl rfl)
theorem dX8_setBreakpoint_31 : decode cX8_setBreakpoint 31 = .ok (.iconst 0, 1) := dk_3 (dk_at dksX8_setBreakpoint_1 7 rfl rfl)
theorem dX8_setBreakpoint_32 : decode cX8_setBreakpoint 32 = .ok (.iastore, 1) := dk_79 (dk_at dksX8_setBreakpoint_1 8 rfl rfl)
theorem dX8_setBreakpoint_33 : decode cX8_setBreakpoint 33 = .ok (.iconst 0, 1) := dk_3 (dk_at dksX8_setBreakpoint_1 9 rfl rfl)
theorem dX8_setBreakpoint_34 : decode cX8_setBreakpoint 34 = .ok (.istore_n 3, 1) := dk_62 (dk_at dksX8_setBreakpoint_1 10 rfl rfl)
theorem dX8_setBreakpoint_35 : decode cX8_setBreakpoint 35 = .ok (.iconst 0, 1) := dk_3 (dk_at dksX8_setBreakpoint_1 11 rfl rfl)
theorem dX8_setBreakpoint_36 : decode cX8_setBreakpoint 36 = .ok (.istore 4, 2) := dk_54 4 (dk_at dksX8_setBreakpoint_1 12 rfl rfl)
theorem dX8_setBreakpoint_38 : decode cX8_setBreakpoint 38 = .ok (.iload 4, 2) := dk_21 4 (dk_at dksX8_setBreakpoint_1 14 rfl rfl)
theorem dX8_setBreakpoint_40 : decode cX8_setBreakpoint 40 = .ok (.bipush 48, 2) := dk_16 48 (dk_at dksX8_setBreakpoint_1 16 rfl rfl)
theorem dX8_setBreakpoint_42 : decode cX8_setBreakpoint 42 = .ok (.if_icmp .ge 23, 3) := dk_162 0 23 (dk_at dksX8_setBreakpoint_1 18 rfl rfl)
theorem dX8_setBreakpoint_45 : decode cX8_setBreakpoint 45 = .ok (.iload_n 3, 1) := dk_29 (dk_at dksX8_setBreakpoint_1 21 rfl rfl)
theorem dX8_setBreakpoint_46 : decode cX8_setBreakpoint 46 = .ok (.aload_n 0, 1) := dk_42 (dk_at dksX8_setBreakpoint_1 22 rfl rfl)
theorem dX8_setBreakpoint_47 : decode cX8_setBreakpoint 47 = .ok (.getfield 7, 3) := dk_180 0 7 (dk_at dksX8_setBreakpoint_2 0 rfl rfl)
theorem dX8_setBreakpoint_50 : decode cX8_setBreakpoint 50 = .ok (.sipush 244, 3) := dk_17 0 244 (dk_at dksX8_setBreakpoint_2 3 rfl rfl)
theorem dX8_setBreakpoint_53 : decode cX8_setBreakpoint 53 = .ok (.iload 4, 2) := dk_21 4 (dk_at dksX8_setBreakpoint_2 6 rfl rfl)
theorem dX8_setBreakpoint_55 : decode cX8_setBreakpoint 55 = .ok (.iadd, 1) := dk_96 (dk_at dksX8_setBreakpoint_2 8 rfl rfl)
theorem dX8_setBreakpoint_56 : decode cX8_setBreakpoint 56 = .ok (.iaload, 1) := dk_46 (dk_at dksX8_setBreakpoint_2 9 rfl rfl)
theorem dX8_setBreakpoint_57 : decode cX8_setBreakpoint 57 = .ok (.iadd, 1) := dk_96 (dk_at dksX8_setBreakpoint_2 10 rfl rfl)
theorem dX8_setBreakpoint_58 : decode cX8_setBreakpoint 58 = .ok (.istore_n 3, 1) := dk_62 (dk_at dksX8_setBreakpoint_2 11 rfl rfl)
theorem dX8_setBreakpoint_59 : decode cX8_setBreakpoint 59 = .ok (.iinc 4 1, 3) := dk_132 4 1 (dk_at dksX8_setBreakpoint_2 12 rfl rfl)
theorem dX8_setBreakpoint_62 : decode cX8_setBreakpoint 62 = .ok (.goto (-24), 3) := dk_167 255 232 (dk_at dksX8_setBreakpoint_2 15 rfl rfl)
theorem dX8_setBreakpoint_65 : decode cX8_setBreakpoint 65 = .ok (.iload_n 3, 1) := dk_29 (dk_at dksX8_setBreakpoint_2 18 rfl rfl)
theorem dX8_setBreakpoint_66 : decode cX8_setBreakpoint 66 = .ok (.ireturn, 1) := dk_172 (dk_at dksX8_setBreakpoint_2 19 rfl rfl)
abbrev cX8_run : ByteArray := prog_12_method_32_code
def yX8_run : MethodName := ⟨RX8, "run", "(I)I"⟩
def dkwX8_run_2 : List UInt8 := [182, 0, 122, 132, 2, 1, 167, 255, 226, 28, 172]
abbrev dktX8_run_2 : List UInt8 := dkwX8_run_2 ++ []
def dkwX8_run_1 : List UInt8 := [162, 0, 31, 42, 182, 0, 116, 154, 0, 24, 28, 153, 0, 10, 42, 182, 0, 119, 154, 0, 13, 42]
abbrev dktX8_run_1 : List UInt8 := dkwX8_run_1 ++ dktX8_run_2
def dkwX8_run_0 : List UInt8 := [27, 4, 17, 0, 200, 184, 0, 26, 154, 0, 6, 18, 109, 172, 42, 182, 0, 85, 3, 61, 28, 27]
abbrev dktX8_run_0 : List UInt8 := dkwX8_run_0 ++ dktX8_run_1
theorem dksX8_run_0 : cX8_run.data.toList.drop 0 = dktX8_run_0 := by decide +kernel
theorem dksX8_run_1 : cX8_run.data.toList.drop 22 = dktX8_run_1 := dk_seg dksX8_run_0 22 rfl rfl
theorem dksX8_run_2 : cX8_run.data.toList.drop 44 = dktX8_run_2 := dk_seg dksX8_run_1 22 rfl rfl
theorem dX8_run_0 : decode cX8_run 0 = .ok (.iload_n 1, 1) := dk_27 (dk_at dksX8_run_0 0 rfl rfl)
theorem dX8_run_1 : decode cX8_run 1 = .ok (.iconst 1, 1) := dk_4 (dk_at dksX8_run_0 1 rfl rfl)
theorem dX8_run_2 : decode cX8_run 2 = .ok (.sipush 200, 3) := dk_17 0 200 (dk_at dksX8_run_0 2 rfl rfl)
theorem dX8_run_5 : decode cX8_run 5 = .ok (.invokestatic 26, 3) := dk_184 0 26 (dk_at dksX8_run_0 5 rfl rfl)
theorem dX8_run_8 : decode cX8_run 8 = .ok (.ifCond .ne 6, 3) := dk_154 0 6 (dk_at dksX8_run_0 8 rfl rfl)
theorem dX8_run_11 : decode cX8_run 11 = .ok (.ldc 109, 2) := dk_18 109 (dk_at dksX8_run_0 11 rfl rfl)
theorem dX8_run_13 : decode cX8_run 13 = .ok (.ireturn, 1) := dk_172 (dk_at dksX8_run_0 13 rfl rfl)
theorem dX8_run_14 : decode cX8_run 14 = .ok (.aload_n 0, 1) := dk_42 (dk_at dksX8_run_0 14 rfl rfl)
theorem dX8_run_15 : decode cX8_run 15 = .ok (.invokevirtual 85, 3) := dk_182 0 85 (dk_at dksX8_run_0 15 rfl rfl)
theorem dX8_run_18 : decode cX8_run 18 = .ok (.iconst 0, 1) := dk_3 (dk_at dksX8_run_0 18 rfl rfl)
theorem dX8_run_19 : decode cX8_run 19 = .ok (.istore_n 2, 1) := dk_61 (dk_at dksX8_run_0 19 rfl rfl)
theorem dX8_run_20 : decode cX8_run 20 = .ok (.iload_n 2, 1) := dk_28 (dk_at dksX8_run_0 20 rfl rfl)
theorem dX8_run_21 : decode cX8_run 21 = .ok (.iload_n 1, 1) := dk_27 (dk_at dksX8_run_0 21 rfl rfl)
theorem dX8_run_22 : decode cX8_run 22 = .ok (.if_icmp .ge 31, 3) := dk_162 0 31 (dk_at dksX8_run_1 0 rfl rfl)
theorem dX8_run_25 : decode cX8_run 25 = .ok (.aload_n 0, 1) := dk_42 (dk_at dksX8_run_1 3 rfl rfl)
theorem dX8_run_26 : decode cX8_run 26 = .ok (.invokevirtual 116, 3) := dk_182 0 116 (dk_at dksX8_run_1 4 rfl rfl)
theorem dX8_run_29 : decode cX8_run 29 = .ok (.ifCond .ne 24, 3) := dk_154 0 24 (dk_at dksX8_run_1 7 rfl rfl)
theorem dX8_run_32 : decode cX8_run 32 = .ok (.iload_n 2, 1) := dk_28 (dk_at dksX8_run_1 10 rfl rfl)
theorem dX8_run_33 : decode cX8_run 33 = .ok (.ifCond .eq 10, 3) := dk_153 0 10 (dk_at dksX8_run_1 11 rfl rfl)
theorem dX8_run_36 : decode cX8_run 36 = .ok (.aload_n 0, 1) := dk_42 (dk_at dksX8_run_1 14 rfl rfl)
theorem dX8_run_37 : decode cX8_run 37 = .ok (.invokevirtual 119, 3) := dk_182 0 119 (dk_at dksX8_run_1 15 rfl rfl)
theorem dX8_run_40 : decode cX8_run 40 = .ok (.ifCond .ne 13, 3) := dk_154 0 13 (dk_at dksX8_run_1 18 rfl rfl)
theorem dX8_run_43 : decode cX8_run 43 = .ok (.aload_n 0, 1) := dk_42 (dk_at dksX8_run_1 21 rfl rfl)
theorem dX8_run_44 : decode cX8_run 44 = .ok (.invokevirtual 122, 3) := dk_182 0 122 (dk_at dksX8_run_2 0 rfl rfl)
theorem dX8_run_47 : decode cX8_run 47 = .ok (.iinc 2 1, 3) := dk_132 2 1 (dk_at dksX8_run_2 3 rfl rfl)
theorem dX8_run_50 : decode cX8_run 50 = .ok (.goto (-30), 3) := dk_167 255 226 (dk_at dksX8_run_2 6 rfl rfl)
theorem dX8_run_53 : decode cX8_run 53 = .ok (.iload_n 2, 1) := dk_28 (dk_at dksX8_run_2 9 rfl rfl)
theorem dX8_run_54 : decode cX8_run 54 = .ok (.ireturn, 1) := dk_172 (dk_at dksX8_run_2 10 rfl rfl)
abbrev cX8_isOver : ByteArray := prog_12_method_22_code
def yX8_isOver : MethodName := ⟨RX8, "isOver", "()Z"⟩
def dkwX8_isOver_0 : List UInt8 := [42, 3, 182, 0, 53, 7, 160, 0, 7, 4, 167, 0, 4, 3, 172]
abbrev dktX8_isOver_0 : List UInt8 := dkwX8_isOver_0 ++ []
theorem dksX8_isOver_0 : cX8_isOver.data.toList.drop 0 = dktX8_isOver_0 := by decide +kernel
theorem dX8_isOver_0 : decode cX8_isOver 0 = .ok (.aload_n 0, 1) := dk_42 (dk_at dksX8_isOver_0 0 rfl rfl)
theorem dX8_isOver_1 : decode cX8_isOver 1 = .ok (.iconst 0, 1) := dk_3 (dk_at dksX8_isOver_0 1 rfl rfl)
theorem dX8_isOver_2 : decode cX8_isOver 2 = .ok (.invokevirtual 53, 3) := dk_182 0 53 (dk_at dksX8_isOver_0 2 rfl rfl)
theorem dX8_isOver_5 : decode cX8_isOver 5 = .ok (.iconst 4, 1) := dk_7 (dk_at dksX8_isOver_0 5 rfl rfl)
theorem dX8_isOver_6 : decode cX8_isOver 6 = .ok (.if_icmp .ne 7, 3) := dk_160 0 7 (dk_at dksX8_isOver_0 6 rfl rfl)
theorem dX8_isOver_9 : decode cX8_isOver 9 = .ok (.iconst 1, 1) := dk_4 (dk_at dksX8_isOver_0 9 rfl rfl)
theorem dX8_isOver_10 : decode cX8_isOver 10 = .ok (.goto 4, 3) := dk_167 0 4 (dk_at dksX8_isOver_0 10 rfl rfl)
theorem dX8_isOver_13 : decode cX8_isOver 13 = .ok (.iconst 0, 1) := dk_3 (dk_at dksX8_isOver_0 13 rfl rfl)
theorem dX8_isOver_14 : decode cX8_isOver 14 = .ok (.ireturn, 1) := dk_172 (dk_at dksX8_isOver_0 14 rfl rfl)
abbrev cX8_many : ByteArray := prog_12_method_17_code
def yX8_many : MethodName := ⟨RX8, "many", "(I)I"⟩
def dkwX8_many_1 : List UInt8 := [4, 167, 0, 4, 3, 96, 61, 132, 3, 1, 167, 255, 226, 28, 172]
abbrev dktX8_many_1 : List UInt8 := dkwX8_many_1 ++ []
def dkwX8_many_0 : List UInt8 := [3, 61, 3, 62, 29, 7, 162, 0, 31, 28, 42, 180, 0, 7, 29, 3, 184, 0, 22, 46, 27, 160, 0, 7]
abbrev dktX8_many_0 : List UInt8 := dkwX8_many_0 ++ dktX8_many_1
theorem dksX8_many_0 : cX8_many.data.toList.drop 0 = dktX8_many_0 := by decide +kernel
theorem dksX8_many_1 : cX8_many.data.toList.drop 24 = dktX8_many_1 := dk_seg dksX8_many_0 24 rfl rfl
theorem dX8_many_0 : decode cX8_many 0 = .ok (.iconst 0, 1) := dk_3 (dk_at dksX8_many_0 0 rfl rfl)
theorem dX8_many_1 : decode cX8_many 1 = .ok (.istore_n 2, 1) := dk_61 (dk_at dksX8_many_0 1 rfl rfl)
theorem dX8_many_2 : decode cX8_many 2 = .ok (.iconst 0, 1) := dk_3 (dk_at dksX8_many_0 2 rfl rfl)
theorem dX8_many_3 : decode cX8_many 3 = .ok (.istore_n 3, 1) := dk_62 (dk_at dksX8_many_0 3 rfl rfl)
theorem dX8_many_4 : decode cX8_many 4 = .ok (.iload_n 3, 1) := dk_29 (dk_at dksX8_many_0 4 rfl rfl)
theorem dX8_many_5 : decode cX8_many 5 = .ok (.iconst 4, 1) := dk_7 (dk_at dksX8_many_0 5 rfl rfl)
theorem dX8_many_6 : decode cX8_many 6 = .ok (.if_icmp .ge 31, 3) := dk_162 0 31 (dk_at dksX8_many_0 6 rfl rfl)
theorem dX8_many_9 : decode cX8_many 9 = .ok (.iload_n 2, 1) := dk_28 (dk_at dksX8_many_0 9 rfl rfl)
theorem dX8_many_10 : decode cX8_many 10 = .ok (.aload_n 0, 1) := dk_42 (dk_at dksX8_many_0 10 rfl rfl)
theorem dX8_many_11 : decode cX8_many 11 = .ok (.getfield 7, 3) := dk_180 0 7 (dk_at dksX8_many_0 11 rfl rfl)
theorem dX8_many_14 : decode cX8_many 14 = .ok (.iload_n 3, 1) := dk_29 (dk_at dksX8_many_0 14 rfl rfl)
theorem dX8_many_15 : decode cX8_many 15 = .ok (.iconst 0, 1) := dk_3 (dk_at dksX8_many_0 15 rfl rfl)
theorem dX8_many_16 : decode cX8_many 16 = .ok (.invokestatic 22, 3) := dk_184 0 22 (dk_at dksX8_many_0 16 rfl rfl)
theorem dX8_many_19 : decode cX8_many 19 = .ok (.iaload, 1) := dk_46 (dk_at dksX8_many_0 19 rfl rfl)
theorem dX8_many_20 : decode cX8_many 20 = .ok (.iload_n 1, 1) := dk_27 (dk_at dksX8_many_0 20 rfl rfl)
theorem dX8_many_21 : decode cX8_many 21 = .ok (.if_icmp .ne 7, 3) := dk_160 0 7 (dk_at dksX8_many_0 21 rfl rfl)
theorem dX8_many_24 : decode cX8_many 24 = .ok (.iconst 1, 1) := dk_4 (dk_at dksX8_many_1 0 rfl rfl)
theorem dX8_many_25 : decode cX8_many 25 = .ok (.goto 4, 3) := dk_167 0 4 (dk_at dksX8_many_1 1 rfl rfl)
theorem dX8_many_28 : decode cX8_many 28 = .ok (.iconst 0, 1) := dk_3 (dk_at dksX8_many_1 4 rfl rfl)
theorem dX8_many_29 : decode cX8_many 29 = .ok (.iadd, 1) := dk_96 (dk_at dksX8_many_1 5 rfl rfl)
theorem dX8_many_30 : decode cX8_many 30 = .ok (.istore_n 2, 1) := dk_61 (dk_at dksX8_many_1 6 rfl rfl)
theorem dX8_many_31 : decode cX8_many 31 = .ok (.iinc 3 1, 3) := dk_132 3 1 (dk_at dksX8_many_1 7 rfl rfl)
theorem dX8_many_34 : decode cX8_many 34 = .ok (.goto (-30), 3) := dk_167 255 226 (dk_at dksX8_many_1 10 rfl rfl)
theorem dX8_many_37 : decode cX8_many 37 = .ok (.iload_n 2, 1) := dk_28 (dk_at dksX8_many_1 13 rfl rfl)
theorem dX8_many_38 : decode cX8_many 38 = .ok (.ireturn, 1) := dk_172 (dk_at dksX8_many_1 14 rfl rfl)
abbrev cX8_isStopped : ByteArray := prog_12_method_31_code
def yX8_isStopped : MethodName := ⟨RX8, "isStopped", "()Z"⟩
def dkwX8_isStopped_2 : List UInt8 := [17, 0, 244, 28, 96, 46, 4, 160, 0, 7, 4, 167, 0, 4, 3, 172]
abbrev dktX8_isStopped_2 : List UInt8 := dkwX8_isStopped_2 ++ []
def dkwX8_isStopped_1 : List UInt8 := [180, 0, 7, 27, 4, 184, 0, 22, 46, 61, 42, 182, 0, 113, 28, 16, 48, 162, 0, 21, 42, 180, 0, 7]
abbrev dktX8_isStopped_1 : List UInt8 := dkwX8_isStopped_1 ++ dktX8_isStopped_2
def dkwX8_isStopped_0 : List UInt8 := [42, 182, 0, 110, 42, 182, 0, 61, 42, 182, 0, 64, 60, 27, 2, 160, 0, 8, 16, 48, 167, 0, 13, 42]
abbrev dktX8_isStopped_0 : List UInt8 := dkwX8_isStopped_0 ++ dktX8_isStopped_1
theorem dksX8_isStopped_0 : cX8_isStopped.data.toList.drop 0 = dktX8_isStopped_0 := by decide +kernel
theorem dksX8_isStopped_1 : cX8_isStopped.data.toList.drop 24 = dktX8_isStopped_1 := dk_seg dksX8_isStopped_0 24 rfl rfl
theorem dksX8_isStopped_2 : cX8_isStopped.data.toList.drop 48 = dktX8_isStopped_2 := dk_seg dksX8_isStopped_1 24 rfl rfl
theorem dX8_isStopped_0 : decode cX8_isStopped 0 = .ok (.aload_n 0, 1) := dk_42 (dk_at dksX8_isStopped_0 0 rfl rfl)
theorem dX8_isStopped_1 : decode cX8_isStopped 1 = .ok (.invokevirtual 110, 3) := dk_182 0 110 (dk_at dksX8_isStopped_0 1 rfl rfl)
theorem dX8_isStopped_4 : decode cX8_isStopped 4 = .ok (.aload_n 0, 1) := dk_42 (dk_at dksX8_isStopped_0 4 rfl rfl)
theorem dX8_isStopped_5 : decode cX8_isStopped 5 = .ok (.invokevirtual 61, 3) := dk_182 0 61 (dk_at dksX8_isStopped_0 5 rfl rfl)
theorem dX8_isStopped_8 : decode cX8_isStopped 8 = .ok (.aload_n 0, 1) := dk_42 (dk_at dksX8_isStopped_0 8 rfl rfl)
theorem dX8_isStopped_9 : decode cX8_isStopped 9 = .ok (.invokevirtual 64, 3) := dk_182 0 64 (dk_at dksX8_isStopped_0 9 rfl rfl)
theorem dX8_isStopped_12 : decode cX8_isStopped 12 = .ok (.istore_n 1, 1) := dk_60 (dk_at dksX8_isStopped_0 12 rfl rfl)
theorem dX8_isStopped_13 : decode cX8_isStopped 13 = .ok (.iload_n 1, 1) := dk_27 (dk_at dksX8_isStopped_0 13 rfl rfl)
theorem dX8_isStopped_14 : decode cX8_isStopped 14 = .ok (.iconst (-1), 1) := dk_2 (dk_at dksX8_isStopped_0 14 rfl rfl)
theorem dX8_isStopped_15 : decode cX8_isStopped 15 = .ok (.if_icmp .ne 8, 3) := dk_160 0 8 (dk_at dksX8_isStopped_0 15 rfl rfl)
theorem dX8_isStopped_18 : decode cX8_isStopped 18 = .ok (.bipush 48, 2) := dk_16 48 (dk_at dksX8_isStopped_0 18 rfl rfl)
theorem dX8_isStopped_20 : decode cX8_isStopped 20 = .ok (.goto 13, 3) := dk_167 0 13 (dk_at dksX8_isStopped_0 20 rfl rfl)
theorem dX8_isStopped_23 : decode cX8_isStopped 23 = .ok (.aload_n 0, 1) := dk_42 (dk_at dksX8_isStopped_0 23 rfl rfl)
theorem dX8_isStopped_24 : decode cX8_isStopped 24 = .ok (.getfield 7, 3) := dk_180 0 7 (dk_at dksX8_isStopped_1 0 rfl rfl)
theorem dX8_isStopped_27 : decode cX8_isStopped 27 = .ok (.iload_n 1, 1) := dk_27 (dk_at dksX8_isStopped_1 3 rfl rfl)
theorem dX8_isStopped_28 : decode cX8_isStopped 28 = .ok (.iconst 1, 1) := dk_4 (dk_at dksX8_isStopped_1 4 rfl rfl)
theorem dX8_isStopped_29 : decode cX8_isStopped 29 = .ok (.invokestatic 22, 3) := dk_184 0 22 (dk_at dksX8_isStopped_1 5 rfl rfl)
theorem dX8_isStopped_32 : decode cX8_isStopped 32 = .ok (.iaload, 1) := dk_46 (dk_at dksX8_isStopped_1 8 rfl rfl)
theorem dX8_isStopped_33 : decode cX8_isStopped 33 = .ok (.istore_n 2, 1) := dk_61 (dk_at dksX8_isStopped_1 9 rfl rfl)
theorem dX8_isStopped_34 : decode cX8_isStopped 34 = .ok (.aload_n 0, 1) := dk_42 (dk_at dksX8_isStopped_1 10 rfl rfl)
theorem dX8_isStopped_35 : decode cX8_isStopped 35 = .ok (.invokevirtual 113, 3) := dk_182 0 113 (dk_at dksX8_isStopped_1 11 rfl rfl)
theorem dX8_isStopped_38 : decode cX8_isStopped 38 = .ok (.iload_n 2, 1) := dk_28 (dk_at dksX8_isStopped_1 14 rfl rfl)
theorem dX8_isStopped_39 : decode cX8_isStopped 39 = .ok (.bipush 48, 2) := dk_16 48 (dk_at dksX8_isStopped_1 15 rfl rfl)
theorem dX8_isStopped_41 : decode cX8_isStopped 41 = .ok (.if_icmp .ge 21, 3) := dk_162 0 21 (dk_at dksX8_isStopped_1 17 rfl rfl)
theorem dX8_isStopped_44 : decode cX8_isStopped 44 = .ok (.aload_n 0, 1) := dk_42 (dk_at dksX8_isStopped_1 20 rfl rfl)
theorem dX8_isStopped_45 : decode cX8_isStopped 45 = .ok (.getfield 7, 3) := dk_180 0 7 (dk_at dksX8_isStopped_1 21 rfl rfl)
theorem dX8_isStopped_48 : decode cX8_isStopped 48 = .ok (.sipush 244, 3) := dk_17 0 244 (dk_at dksX8_isStopped_2 0 rfl rfl)
theorem dX8_isStopped_51 : decode cX8_isStopped 51 = .ok (.iload_n 2, 1) := dk_28 (dk_at dksX8_isStopped_2 3 rfl rfl)
theorem dX8_isStopped_52 : decode cX8_isStopped 52 = .ok (.iadd, 1) := dk_96 (dk_at dksX8_isStopped_2 4 rfl rfl)
theorem dX8_isStopped_53 : decode cX8_isStopped 53 = .ok (.iaload, 1) := dk_46 (dk_at dksX8_isStopped_2 5 rfl rfl)
theorem dX8_isStopped_54 : decode cX8_isStopped 54 = .ok (.iconst 1, 1) := dk_4 (dk_at dksX8_isStopped_2 6 rfl rfl)
theorem dX8_isStopped_55 : decode cX8_isStopped 55 = .ok (.if_icmp .ne 7, 3) := dk_160 0 7 (dk_at dksX8_isStopped_2 7 rfl rfl)
theorem dX8_isStopped_58 : decode cX8_isStopped 58 = .ok (.iconst 1, 1) := dk_4 (dk_at dksX8_isStopped_2 10 rfl rfl)
theorem dX8_isStopped_59 : decode cX8_isStopped 59 = .ok (.goto 4, 3) := dk_167 0 4 (dk_at dksX8_isStopped_2 11 rfl rfl)
theorem dX8_isStopped_62 : decode cX8_isStopped 62 = .ok (.iconst 0, 1) := dk_3 (dk_at dksX8_isStopped_2 14 rfl rfl)
theorem dX8_isStopped_63 : decode cX8_isStopped 63 = .ok (.ireturn, 1) := dk_172 (dk_at dksX8_isStopped_2 15 rfl rfl)
abbrev cX8_putAside : ByteArray := prog_12_method_8_code
def yX8_putAside : MethodName := ⟨RX8, "putAside", "()V"⟩
def dkwX8_putAside_1 : List UInt8 := [167, 255, 234, 177]
abbrev dktX8_putAside_1 : List UInt8 := dkwX8_putAside_1 ++ []
def dkwX8_putAside_0 : List UInt8 := [3, 60, 27, 17, 1, 85, 162, 0, 21, 42, 180, 0, 13, 27, 42, 180, 0, 7, 27, 46, 79, 132, 1, 1]
abbrev dktX8_putAside_0 : List UInt8 := dkwX8_putAside_0 ++ dktX8_putAside_1
theorem dksX8_putAside_0 : cX8_putAside.data.toList.drop 0 = dktX8_putAside_0 := by decide +kernel
theorem dksX8_putAside_1 : cX8_putAside.data.toList.drop 24 = dktX8_putAside_1 := dk_seg dksX8_putAside_0 24 rfl rfl
theorem dX8_putAside_0 : decode cX8_putAside 0 = .ok (.iconst 0, 1) := dk_3 (dk_at dksX8_putAside_0 0 rfl rfl)
theorem dX8_putAside_1 : decode cX8_putAside 1 = .ok (.istore_n 1, 1) := dk_60 (dk_at dksX8_putAside_0 1 rfl rfl)
theorem dX8_putAside_2 : decode cX8_putAside 2 = .ok (.iload_n 1, 1) := dk_27 (dk_at dksX8_putAside_0 2 rfl rfl)
theorem dX8_putAside_3 : decode cX8_putAside 3 = .ok (.sipush 341, 3) := dk_17 1 85 (dk_at dksX8_putAside_0 3 rfl rfl)
theorem dX8_putAside_6 : decode cX8_putAside 6 = .ok (.if_icmp .ge 21, 3) := dk_162 0 21 (dk_at dksX8_putAside_0 6 rfl rfl)
theorem dX8_putAside_9 : decode cX8_putAside 9 = .ok (.aload_n 0, 1) := dk_42 (dk_at dksX8_putAside_0 9 rfl rfl)
theorem dX8_putAside_10 : decode cX8_putAside 10 = .ok (.getfield 13, 3) := dk_180 0 13 (dk_at dksX8_putAside_0 10 rfl rfl)
theorem dX8_putAside_13 : decode cX8_putAside 13 = .ok (.iload_n 1, 1) := dk_27 (dk_at dksX8_putAside_0 13 rfl rfl)
theorem dX8_putAside_14 : decode cX8_putAside 14 = .ok (.aload_n 0, 1) := dk_42 (dk_at dksX8_putAside_0 14 rfl rfl)
theorem dX8_putAside_15 : decode cX8_putAside 15 = .ok (.getfield 7, 3) := dk_180 0 7 (dk_at dksX8_putAside_0 15 rfl rfl)
theorem dX8_putAside_18 : decode cX8_putAside 18 = .ok (.iload_n 1, 1) := dk_27 (dk_at dksX8_putAside_0 18 rfl rfl)
theorem dX8_putAside_19 : decode cX8_putAside 19 = .ok (.iaload, 1) := dk_46 (dk_at dksX8_putAside_0 19 rfl rfl)
theorem dX8_putAside_20 : decode cX8_putAside 20 = .ok (.iastore, 1) := dk_79 (dk_at dksX8_putAside_0 20 rfl rfl)
theorem dX8_putAside_21 : decode cX8_putAside 21 = .ok (.iinc 1 1, 3) := dk_132 1 1 (dk_at dksX8_putAside_0 21 rfl rfl)
theorem dX8_putAside_24 : decode cX8_putAside 24 = .ok (.goto (-22), 3) := dk_167 255 234 (dk_at dksX8_putAside_1 0 rfl rfl)
theorem dX8_putAside_27 : decode cX8_putAside 27 = .ok (.return_, 1) := dk_177 (dk_at dksX8_putAside_1 3 rfl rfl)
abbrev cX8_prepares : ByteArray := prog_12_method_18_code
def yX8_prepares : MethodName := ⟨RX8, "prepares", "()V"⟩
def dkwX8_prepares_7 : List UInt8 := [132, 2, 1, 167, 255, 206, 177]
abbrev dktX8_prepares_7 : List UInt8 := dkwX8_prepares_7 ++ []
def dkwX8_prepares_6 : List UInt8 := [184, 0, 22, 46, 6, 160, 0, 7, 4, 167, 0, 13, 42, 180, 0, 7, 28, 3, 184, 0, 22, 46, 79]
abbrev dktX8_prepares_6 : List UInt8 := dkwX8_prepares_6 ++ dktX8_prepares_7
def dkwX8_prepares_5 : List UInt8 := [162, 0, 51, 42, 180, 0, 7, 28, 3, 184, 0, 22, 27, 153, 0, 21, 42, 180, 0, 7, 28, 3]
abbrev dktX8_prepares_5 : List UInt8 := dkwX8_prepares_5 ++ dktX8_prepares_6
def dkwX8_prepares_4 : List UInt8 := [182, 0, 53, 42, 5, 182, 0, 53, 96, 154, 0, 7, 4, 167, 0, 4, 3, 60, 3, 61, 28, 7]
abbrev dktX8_prepares_4 : List UInt8 := dkwX8_prepares_4 ++ dktX8_prepares_5
def dkwX8_prepares_3 : List UInt8 := [46, 46, 182, 0, 37, 42, 180, 0, 7, 27, 3, 184, 0, 22, 4, 79, 132, 1, 1, 167, 255, 169, 42, 4]
abbrev dktX8_prepares_3 : List UInt8 := dkwX8_prepares_3 ++ dktX8_prepares_4
def dkwX8_prepares_2 : List UInt8 := [180, 0, 7, 27, 16, 6, 184, 0, 22, 46, 42, 180, 0, 7, 42, 180, 0, 7, 27, 16, 7, 184, 0, 22]
abbrev dktX8_prepares_2 : List UInt8 := dkwX8_prepares_2 ++ dktX8_prepares_3
def dkwX8_prepares_1 : List UInt8 := [180, 0, 7, 17, 0, 232, 46, 42, 180, 0, 7, 27, 16, 8, 184, 0, 22, 46, 161, 0, 46, 42, 27, 42]
abbrev dktX8_prepares_1 : List UInt8 := dkwX8_prepares_1 ++ dktX8_prepares_2
def dkwX8_prepares_0 : List UInt8 := [3, 60, 27, 7, 162, 0, 88, 42, 180, 0, 7, 27, 3, 184, 0, 22, 46, 5, 160, 0, 68, 42]
abbrev dktX8_prepares_0 : List UInt8 := dkwX8_prepares_0 ++ dktX8_prepares_1
theorem dksX8_prepares_0 : cX8_prepares.data.toList.drop 0 = dktX8_prepares_0 := by decide +kernel
theorem dksX8_prepares_1 : cX8_prepares.data.toList.drop 22 = dktX8_prepares_1 := dk_seg dksX8_prepares_0 22 rfl rfl
theorem dksX8_prepares_2 : cX8_prepares.data.toList.drop 46 = dktX8_prepares_2 := dk_seg dksX8_prepares_1 24 rfl rfl
theorem dksX8_prepares_3 : cX8_prepares.data.toList.drop 70 = dktX8_prepares_3 := dk_seg dksX8_prepares_2 24 rfl rfl
theorem dksX8_prepares_4 : cX8_prepares.data.toList.drop 94 = dktX8_prepares_4 := dk_seg dksX8_prepares_3 24 rfl rfl
theorem dksX8_prepares_5 : cX8_prepares.data.toList.drop 116 = dktX8_prepares_5 := dk_seg dksX8_prepares_4 22 rfl rfl
theorem dksX8_prepares_6 : cX8_prepares.data.toList.drop 138 = dktX8_prepares_6 := dk_seg dksX8_prepares_5 22 rfl rfl
theorem dksX8_prepares_7 : cX8_prepares.data.toList.drop 161 = dktX8_prepares_7 := dk_seg dksX8_prepares_6 23 rfl rfl
theorem dX8_prepares_0 : decode cX8_prepares 0 = .ok (.iconst 0, 1) := dk_3 (dk_at dksX8_prepares_0 0 rfl rfl)
theorem dX8_prepares_1 : decode cX8_prepares 1 = .ok (.istore_n 1, 1) := dk_60 (dk_at dksX8_prepares_0 1 rfl rfl)
theorem dX8_prepares_2 : decode cX8_prepares 2 = .ok (.iload_n 1, 1) := dk_27 (dk_at dksX8_prepares_0 2 rfl rfl)
theorem dX8_prepares_3 : decode cX8_prepares 3 = .ok (.iconst 4, 1) := dk_7 (dk_at dksX8_prepares_0 3 rfl rfl)
theorem dX8_prepares_4 : decode cX8_prepares 4 = .ok (.if_icmp .ge 88, 3) := dk_162 0 88 (dk_at dksX8_prepares_0 4 rfl rfl)
theorem dX8_prepares_7 : decode cX8_prepares 7 = .ok (.aload_n 0, 1) := dk_42 (dk_at dksX8_prepares_0 7 rfl rfl)
theorem dX8_prepares_8 : decode cX8_prepares 8 = .ok (.getfield 7, 3) := dk_180 0 7 (dk_at dksX8_prepares_0 8 rfl rfl)
theorem dX8_prepares_11 : decode cX8_prepares 11 = .ok (.iload_n 1, 1) := dk_27 (dk_at dksX8_prepares_0 11 rfl rfl)
theorem dX8_prepares_12 : decode cX8_prepares 12 = .ok (.iconst 0, 1) := dk_3 (dk_at dksX8_prepares_0 12 rfl rfl)
theorem dX8_prepares_13 : decode cX8_prepares 13 = .ok (.invokestatic 22, 3) := dk_184 0 22 (dk_at dksX8_prepares_0 13 rfl rfl)
theorem dX8_prepares_16 : decode cX8_prepares 16 = .ok (.iaload, 1) := dk_46 (dk_at dksX8_prepares_0 16 rfl rfl)
theorem dX8_prepares_17 : decode cX8_prepares 17 = .ok (.iconst 2, 1) := dk_5 (dk_at dksX8_prepares_0 17 rfl rfl)
theorem dX8_prepares_18 : decode cX8_prepares 18 = .ok (.if_icmp .ne 68, 3) := dk_160 0 68 (dk_at dksX8_prepares_0 18 rfl rfl)
theorem dX8_prepares_21 : decode cX8_prepares 21 = .ok (.aload_n 0, 1) := dk_42 (dk_at dksX8_prepares_0 21 rfl rfl)
theorem dX8_prepares_22 : decode cX8_prepares 22 = .ok (.getfield 7, 3) := dk_180 0 7 (dk_at dksX8_prepares_1 0 rfl rfl)
theorem dX8_prepares_25 : decode cX8_prepares 25 = .ok (.sipush 232, 3) := dk_17 0 232 (dk_at dksX8_prepares_1 3 rfl rfl)
theorem dX8_prepares_28 : decode cX8_prepares 28 = .ok (.iaload, 1) := dk_46 (dk_at dksX8_prepares_1 6 rfl rfl)
theorem dX8_prepares_29 : decode cX8_prepares 29 = .ok (.aload_n 0, 1) := dk_42 (dk_at dksX8_prepares_1 7 rfl rfl)
theorem dX8_prepares_30 : decode cX8_prepares 30 = .ok (.getfield 7, 3) := dk_180 0 7 (dk_at dksX8_prepares_1 8 rfl rfl)
theorem dX8_prepares_33 : decode cX8_prepares 33 = .ok (.iload_n 1, 1) := dk_27 (dk_at dksX8_prepares_1 11 rfl rfl)
theorem dX8_prepares_34 : decode cX8_prepares 34 = .ok (.bipush 8, 2) := dk_16 8 (dk_at dksX8_prepares_1 12 rfl rfl)
theorem dX8_prepares_36 : decode cX8_prepares 36 = .ok (.invokestatic 22, 3) := dk_184 0 22 (dk_at dksX8_prepares_1 14 rfl rfl)
theorem dX8_prepares_39 : decode cX8_prepares 39 = .ok (.iaload, 1) := dk_46 (dk_at dksX8_prepares_1 17 rfl rfl)
theorem dX8_prepares_40 : decode cX8_prepares 40 = .ok (.if_icmp .lt 46, 3) := dk_161 0 46 (dk_at dksX8_prepares_1 18 rfl rfl)
theorem dX8_prepares_43 : decode cX8_prepares 43 = .ok (.aload_n 0, 1) := dk_42 (dk_at dksX8_prepares_1 21 rfl rfl)
theorem dX8_prepares_44 : decode cX8_prepares 44 = .ok (.iload_n 1, 1) := dk_27 (dk_at dksX8_prepares_1 22 rfl rfl)
theorem dX8_prepares_45 : decode cX8_prepares 45 = .ok (.aload_n 0, 1) := dk_42 (dk_at dksX8_prepares_1 23 rfl rfl)
theorem dX8_prepares_46 : decode cX8_prepares 46 = .ok (.getfield 7, 3) := dk_180 0 7 (dk_at dksX8_prepares_2 0 rfl rfl)
theorem dX8_prepares_49 : decode cX8_prepares 49 = .ok (.iload_n 1, 1) := dk_27 (dk_at dksX8_prepares_2 3 rfl rfl)
theorem dX8_prepares_50 : decode cX8_prepares 50 = .ok (.bipush 6, 2) := dk_16 6 (dk_at dksX8_prepares_2 4 rfl rfl)
theorem dX8_prepares_52 : decode cX8_prepares 52 = .ok (.invokestatic 22, 3) := dk_184 0 22 (dk_at dksX8_prepares_2 6 rfl rfl)
theorem dX8_prepares_55 : decode cX8_prepares 55 = .ok (.iaload, 1) := dk_46 (dk_at dksX8_prepares_2 9 rfl rfl)
theorem dX8_prepares_56 : decode cX8_prepares 56 = .ok (.aload_n 0, 1) := dk_42 (dk_at dksX8_prepares_2 10 rfl rfl)
theorem dX8_prepares_57 : decode cX8_prepares 57 = .ok (.getfield 7, 3) := dk_180 0 7 (dk_at dksX8_prepares_2 11 rfl rfl)
theorem dX8_prepares_60 : decode cX8_prepares 60 = .ok (.aload_n 0, 1) := dk_42 (dk_at dksX8_prepares_2 14 rfl rfl)
theorem dX8_prepares_61 : decode cX8_prepares 61 = .ok (.getfield 7, 3) := dk_180 0 7 (dk_at dksX8_prepares_2 15 rfl rfl)
theorem dX8_prepares_64 : decode cX8_prepares 64 = .ok (.iload_n 1, 1) := dk_27 (dk_at dksX8_prepares_2 18 rfl rfl)
theorem dX8_prepares_65 : decode cX8_prepares 65 = .ok (.bipush 7, 2) := dk_16 7 (dk_at dksX8_prepares_2 19 rfl rfl)
theorem dX8_prepares_67 : decode cX8_prepares 67 = .ok (.invokestatic 22, 3) := dk_184 0 22 (dk_at dksX8_prepares_2 21 rfl rfl)
theorem dX8_prepares_70 : decode cX8_prepares 70 = .ok (.iaload, 1) := dk_46 (dk_at dksX8_prepares_3 0 rfl rfl)
theorem dX8_prepares_71 : decode cX8_prepares 71 = .ok (.iaload, 1) := dk_46 (dk_at dksX8_prepares_3 1 rfl rfl)
theorem dX8_prepares_72 : decode cX8_prepares 72 = .ok (.invokevirtual 37, 3) := dk_182 0 37 (dk_at dksX8_prepares_3 2 rfl rfl)
theorem dX8_prepares_75 : decode cX8_prepares 75 = .ok (.aload_n 0, 1) := dk_42 (dk_at dksX8_prepares_3 5 rfl rfl)
theorem dX8_prepares_76 : decode cX8_prepares 76 = .ok (.getfield 7, 3) := dk_180 0 7 (dk_at dksX8_prepares_3 6 rfl rfl)
theorem dX8_prepares_79 : decode cX8_prepares 79 = .ok (.iload_n 1, 1) := dk_27 (dk_at dksX8_prepares_3 9 rfl rfl)
theorem dX8_prepares_80 : decode cX8_prepares 80 = .ok (.iconst 0, 1) := dk_3 (dk_at dksX8_prepares_3 10 rfl rfl)
theorem dX8_prepares_81 : decode cX8_prepares 81 = .ok (.invokestatic 22, 3) := dk_184 0 22 (dk_at dksX8_prepares_3 11 rfl rfl)
theorem dX8_prepares_84 : decode cX8_prepares 84 = .ok (.iconst 1, 1) := dk_4 (dk_at dksX8_prepares_3 14 rfl rfl)
theorem dX8_prepares_85 : decode cX8_prepares 85 = .ok (.iastore, 1) := dk_79 (dk_at dksX8_prepares_3 15 rfl rfl)
theorem dX8_prepares_86 : decode cX8_prepares 86 = .ok (.iinc 1 1, 3) := dk_132 1 1 (dk_at dksX8_prepares_3 16 rfl rfl)
theorem dX8_prepares_89 : decode cX8_prepares 89 = .ok (.goto (-87), 3) := dk_167 255 169 (dk_at dksX8_prepares_3 19 rfl rfl)
theorem dX8_prepares_92 : decode cX8_prepares 92 = .ok (.aload_n 0, 1) := dk_42 (dk_at dksX8_prepares_3 22 rfl rfl)
theorem dX8_prepares_93 : decode cX8_prepares 93 = .ok (.iconst 1, 1) := dk_4 (dk_at dksX8_prepares_3 23 rfl rfl)
theorem dX8_prepares_94 : decode cX8_prepares 94 = .ok (.invokevirtual 53, 3) := dk_182 0 53 (dk_at dksX8_prepares_4 0 rfl rfl)
theorem dX8_prepares_97 : decode cX8_prepares 97 = .ok (.aload_n 0, 1) := dk_42 (dk_at dksX8_prepares_4 3 rfl rfl)
theorem dX8_prepares_98 : decode cX8_prepares 98 = .ok (.iconst 2, 1) := dk_5 (dk_at dksX8_prepares_4 4 rfl rfl)
theorem dX8_prepares_99 : decode cX8_prepares 99 = .ok (.invokevirtual 53, 3) := dk_182 0 53 (dk_at dksX8_prepares_4 5 rfl rfl)
theorem dX8_prepares_102 : decode cX8_prepares 102 = .ok (.iadd, 1) := dk_96 (dk_at dksX8_prepares_4 8 rfl rfl)
theorem dX8_prepares_103 : decode cX8_prepares 103 = .ok (.ifCond .ne 7, 3) := dk_154 0 7 (dk_at dksX8_prepares_4 9 rfl rfl)
theorem dX8_prepares_106 : decode cX8_prepares 106 = .ok (.iconst 1, 1) := dk_4 (dk_at dksX8_prepares_4 12 rfl rfl)
theorem dX8_prepares_107 : decode cX8_prepares 107 = .ok (.goto 4, 3) := dk_167 0 4 (dk_at dksX8_prepares_4 13 rfl rfl)
theorem dX8_prepares_110 : decode cX8_prepares 110 = .ok (.iconst 0, 1) := dk_3 (dk_at dksX8_prepares_4 16 rfl rfl)
theorem dX8_prepares_111 : decode cX8_prepares 111 = .ok (.istore_n 1, 1) := dk_60 (dk_at dksX8_prepares_4 17 rfl rfl)
theorem dX8_prepares_112 : decode cX8_prepares 112 = .ok (.iconst 0, 1) := dk_3 (dk_at dksX8_prepares_4 18 rfl rfl)
theorem dX8_prepares_113 : decode cX8_prepares 113 = .ok (.istore_n 2, 1) := dk_61 (dk_at dksX8_prepares_4 19 rfl rfl)
theorem dX8_prepares_114 : decode cX8_prepares 114 = .ok (.iload_n 2, 1) := dk_28 (dk_at dksX8_prepares_4 20 rfl rfl)
theorem dX8_prepares_115 : decode cX8_prepares 115 = .ok (.iconst 4, 1) := dk_7 (dk_at dksX8_prepares_4 21 rfl rfl)
theorem dX8_prepares_116 : decode cX8_prepares 116 = .ok (.if_icmp .ge 51, 3) := dk_162 0 51 (dk_at dksX8_prepares_5 0 rfl rfl)
theorem dX8_prepares_119 : decode cX8_prepares 119 = .ok (.aload_n 0, 1) := dk_42 (dk_at dksX8_prepares_5 3 rfl rfl)
theorem dX8_prepares_120 : decode cX8_prepares 120 = .ok (.getfield 7, 3) := dk_180 0 7 (dk_at dksX8_prepares_5 4 rfl rfl)
theorem dX8_prepares_123 : decode cX8_prepares 123 = .ok (.iload_n 2, 1) := dk_28 (dk_at dksX8_prepares_5 7 rfl rfl)
theorem dX8_prepares_124 : decode cX8_prepares 124 = .ok (.iconst 0, 1) := dk_3 (dk_at dksX8_prepares_5 8 rfl rfl)
theorem dX8_prepares_125 : decode cX8_prepares 125 = .ok (.invokestatic 22, 3) := dk_184 0 22 (dk_at dksX8_prepares_5 9 rfl rfl)
theorem dX8_prepares_128 : decode cX8_prepares 128 = .ok (.iload_n 1, 1) := dk_27 (dk_at dksX8_prepares_5 12 rfl rfl)
theorem dX8_prepares_129 : decode cX8_prepares 129 = .ok (.ifCond .eq 21, 3) := dk_153 0 21 (dk_at dksX8_prepares_5 13 rfl rfl)
theorem dX8_prepares_132 : decode cX8_prepares 132 = .ok (.aload_n 0, 1) := dk_42 (dk_at dksX8_prepares_5 16 rfl rfl)
theorem dX8_prepares_133 : decode cX8_prepares 133 = .ok (.getfield 7, 3) := dk_180 0 7 (dk_at dksX8_prepares_5 17 rfl rfl)
theorem dX8_prepares_136 : decode cX8_prepares 136 = .ok (.iload_n 2, 1) := dk_28 (dk_at dksX8_prepares_5 20 rfl rfl)
theorem dX8_prepares_137 : decode cX8_prepares 137 = .ok (.iconst 0, 1) := dk_3 (dk_at dksX8_prepares_5 21 rfl rfl)
theorem dX8_prepares_138 : decode cX8_prepares 138 = .ok (.invokestatic 22, 3) := dk_184 0 22 (dk_at dksX8_prepares_6 0 rfl rfl)
theorem dX8_prepares_141 : decode cX8_prepares 141 = .ok (.iaload, 1) := dk_46 (dk_at dksX8_prepares_6 3 rfl rfl)
theorem dX8_prepares_142 : decode cX8_prepares 142 = .ok (.iconst 3, 1) := dk_6 (dk_at dksX8_prepares_6 4 rfl rfl)
theorem dX8_prepares_143 : decode cX8_prepares 143 = .ok (.if_icmp .ne 7, 3) := dk_160 0 7 (dk_at dksX8_prepares_6 5 rfl rfl)
theorem dX8_prepares_146 : decode cX8_prepares 146 = .ok (.iconst 1, 1) := dk_4 (dk_at dksX8_prepares_6 8 rfl rfl)
theorem dX8_prepares_147 : decode cX8_prepares 147 = .ok (.goto 13, 3) := dk_167 0 13 (dk_at dksX8_prepares_6 9 rfl rfl)
theorem dX8_prepares_150 : decode cX8_prepares 150 = .ok (.aload_n 0, 1) := dk_42 (dk_at dksX8_prepares_6 12 rfl rfl)
theorem dX8_prepares_151 : decode cX8_prepares 151 = .ok (.getfield 7, 3) := dk_180 0 7 (dk_at dksX8_prepares_6 13 rfl rfl)
theorem dX8_prepares_154 : decode cX8_prepares 154 = .ok (.iload_n 2, 1) := dk_28 (dk_at dksX8_prepares_6 16 rfl rfl)
theorem dX8_prepares_155 : decode cX8_prepares 155 = .ok (.iconst 0, 1) := dk_3 (dk_at dksX8_prepares_6 17 rfl rfl)
theorem dX8_prepares_156 : decode cX8_prepares 156 = .ok (.invokestatic 22, 3) := dk_184 0 22 (dk_at dksX8_prepares_6 18 rfl rfl)
theorem dX8_prepares_159 : decode cX8_prepares 159 = .ok (.iaload, 1) := dk_46 (dk_at dksX8_prepares_6 21 rfl rfl)
theorem dX8_prepares_160 : decode cX8_prepares 160 = .ok (.iastore, 1) := dk_79 (dk_at dksX8_prepares_6 22 rfl rfl)
theorem dX8_prepares_161 : decode cX8_prepares 161 = .ok (.iinc 2 1, 3) := dk_132 2 1 (dk_at dksX8_prepares_7 0 rfl rfl)
theorem dX8_prepares_164 : decode cX8_prepares 164 = .ok (.goto (-50), 3) := dk_167 255 206 (dk_at dksX8_prepares_7 3 rfl rfl)
theorem dX8_prepares_167 : decode cX8_prepares 167 = .ok (.return_, 1) := dk_177 (dk_at dksX8_prepares_7 6 rfl rfl)
abbrev cX8_issuing : ByteArray := prog_12_method_20_code
def yX8_issuing : MethodName := ⟨RX8, "issuing", "()I"⟩
def dkwX8_issuing_8 : List UInt8 := [28, 172]
abbrev dktX8_issuing_8 : List UInt8 := dkwX8_issuing_8 ++ []
def dkwX8_issuing_7 : List UInt8 := [4, 167, 0, 4, 3, 54, 4, 21, 4, 153, 0, 7, 29, 167, 0, 4, 28, 61, 132, 3, 1, 167, 255, 180]
abbrev dktX8_issuing_7 : List UInt8 := dkwX8_issuing_7 ++ dktX8_issuing_8
def dkwX8_issuing_6 : List UInt8 := [180, 0, 7, 29, 16, 9, 184, 0, 22, 46, 42, 180, 0, 7, 28, 16, 9, 184, 0, 22, 46, 162, 0, 7]
abbrev dktX8_issuing_6 : List UInt8 := dkwX8_issuing_6 ++ dktX8_issuing_7
def dkwX8_issuing_5 : List UInt8 := [17, 0, 243, 46, 5, 160, 0, 65, 42, 29, 182, 0, 57, 153, 0, 37, 28, 2, 159, 0, 28, 42]
abbrev dktX8_issuing_5 : List UInt8 := dkwX8_issuing_5 ++ dktX8_issuing_6
def dkwX8_issuing_4 : List UInt8 := [167, 0, 4, 28, 61, 132, 3, 255, 167, 255, 214, 3, 62, 29, 7, 162, 0, 77, 42, 180, 0, 7]
abbrev dktX8_issuing_4 : List UInt8 := dkwX8_issuing_4 ++ dktX8_issuing_5
def dkwX8_issuing_3 : List UInt8 := [46, 4, 160, 0, 32, 27, 29, 96, 7, 112, 54, 4, 42, 21, 4, 182, 0, 57, 153, 0, 8, 21, 4]
abbrev dktX8_issuing_3 : List UInt8 := dkwX8_issuing_3 ++ dktX8_issuing_4
def dkwX8_issuing_2 : List UInt8 := [153, 0, 7, 27, 167, 0, 4, 2, 172, 2, 61, 6, 62, 29, 158, 0, 44, 42, 180, 0, 7, 17, 0, 243]
abbrev dktX8_issuing_2 : List UInt8 := dkwX8_issuing_2 ++ dktX8_issuing_3
def dkwX8_issuing_1 : List UInt8 := [182, 0, 57, 154, 0, 14, 42, 180, 0, 7, 17, 0, 243, 46, 154, 0, 17, 42, 27, 182, 0, 57]
abbrev dktX8_issuing_1 : List UInt8 := dkwX8_issuing_1 ++ dktX8_issuing_2
def dkwX8_issuing_0 : List UInt8 := [42, 180, 0, 7, 17, 0, 234, 42, 180, 0, 7, 17, 0, 232, 46, 16, 8, 112, 96, 46, 60, 42, 27]
abbrev dktX8_issuing_0 : List UInt8 := dkwX8_issuing_0 ++ dktX8_issuing_1
theorem dksX8_issuing_0 : cX8_issuing.data.toList.drop 0 = dktX8_issuing_0 := by decide +kernel
theorem dksX8_issuing_1 : cX8_issuing.data.toList.drop 23 = dktX8_issuing_1 := dk_seg dksX8_issuing_0 23 rfl rfl
theorem dksX8_issuing_2 : cX8_issuing.data.toList.drop 45 = dktX8_issuing_2 := dk_seg dksX8_issuing_1 22 rfl rfl
theorem dksX8_issuing_3 : cX8_issuing.data.toList.drop 69 = dktX8_issuing_3 := dk_seg dksX8_issuing_2 24 rfl rfl
theorem dksX8_issuing_4 : cX8_issuing.data.toList.drop 92 = dktX8_issuing_4 := dk_seg dksX8_issuing_3 23 rfl rfl
theorem dksX8_issuing_5 : cX8_issuing.data.toList.drop 114 = dktX8_issuing_5 := dk_seg dksX8_issuing_4 22 rfl rfl
theorem dksX8_issuing_6 : cX8_issuing.data.toList.drop 136 = dktX8_issuing_6 := dk_seg dksX8_issuing_5 22 rfl rfl
theorem dksX8_issuing_7 : cX8_issuing.data.toList.drop 160 = dktX8_issuing_7 := dk_seg dksX8_issuing_6 24 rfl rfl
theorem dksX8_issuing_8 : cX8_issuing.data.toList.drop 184 = dktX8_issuing_8 := dk_seg dksX8_issuing_7 24 rfl rfl
theorem dX8_issuing_0 : decode cX8_issuing 0 = .ok (.aload_n 0, 1) := dk_42 (dk_at dksX8_issuing_0 0 rfl rfl)
theorem dX8_issuing_1 : decode cX8_issuing 1 = .ok (.getfield 7, 3) := dk_180 0 7 (dk_at dksX8_issuing_0 1 rfl rfl)
theorem dX8_issuing_4 : decode cX8_issuing 4 = .ok (.sipush 234, 3) := dk_17 0 234 (dk_at dksX8_issuing_0 4 rfl rfl)
theorem dX8_issuing_7 : decode cX8_issuing 7 = .ok (.aload_n 0, 1) := dk_42 (dk_at dksX8_issuing_0 7 rfl rfl)
theorem dX8_issuing_8 : decode cX8_issuing 8 = .ok (.getfield 7, 3) := dk_180 0 7 (dk_at dksX8_issuing_0 8 rfl rfl)
theorem dX8_issuing_11 : decode cX8_issuing 11 = .ok (.sipush 232, 3) := dk_17 0 232 (dk_at dksX8_issuing_0 11 rfl rfl)
theorem dX8_issuing_14 : decode cX8_issuing 14 = .ok (.iaload, 1) := dk_46 (dk_at dksX8_issuing_0 14 rfl rfl)
theorem dX8_issuing_15 : decode cX8_issuing 15 = .ok (.bipush 8, 2) := dk_16 8 (dk_at dksX8_issuing_0 15 rfl rfl)
theorem dX8_issuing_17 : decode cX8_issuing 17 = .ok (.irem, 1) := dk_112 (dk_at dksX8_issuing_0 17 rfl rfl)
theorem dX8_issuing_18 : decode cX8_issuing 18 = .ok (.iadd, 1) := dk_96 (dk_at dksX8_issuing_0 18 rfl rfl)
theorem dX8_issuing_19 : decode cX8_issuing 19 = .ok (.iaload, 1) := dk_46 (dk_at dksX8_issuing_0 19 rfl rfl)
theorem dX8_issuing_20 : decode cX8_issuing 20 = .ok (.istore_n 1, 1) := dk_60 (dk_at dksX8_issuing_0 20 rfl rfl)
theorem dX8_issuing_21 : decode cX8_issuing 21 = .ok (.aload_n 0, 1) := dk_42 (dk_at dksX8_issuing_0 21 rfl rfl)
theorem dX8_issuing_22 : decode cX8_issuing 22 = .ok (.iload_n 1, 1) := dk_27 (dk_at dksX8_issuing_0 22 rfl rfl)
theorem dX8_issuing_23 : decode cX8_issuing 23 = .ok (.invokevirtual 57, 3) := dk_182 0 57 (dk_at dksX8_issuing_1 0 rfl rfl)
theorem dX8_issuing_26 : decode cX8_issuing 26 = .ok (.ifCond .ne 14, 3) := dk_154 0 14 (dk_at dksX8_issuing_1 3 rfl rfl)
theorem dX8_issuing_29 : decode cX8_issuing 29 = .ok (.aload_n 0, 1) := dk_42 (dk_at dksX8_issuing_1 6 rfl rfl)
theorem dX8_issuing_30 : decode cX8_issuing 30 = .ok (.getfield 7, 3) := dk_180 0 7 (dk_at dksX8_issuing_1 7 rfl rfl)
theorem dX8_issuing_33 : decode cX8_issuing 33 = .ok (.sipush 243, 3) := dk_17 0 243 (dk_at dksX8_issuing_1 10 rfl rfl)
theorem dX8_issuing_36 : decode cX8_issuing 36 = .ok (.iaload, 1) := dk_46 (dk_at dksX8_issuing_1 13 rfl rfl)
theorem dX8_issuing_37 : decode cX8_issuing 37 = .ok (.ifCond .ne 17, 3) := dk_154 0 17 (dk_at dksX8_issuing_1 14 rfl rfl)
theorem dX8_issuing_40 : decode cX8_issuing 40 = .ok (.aload_n 0, 1) := dk_42 (dk_at dksX8_issuing_1 17 rfl rfl)
theorem dX8_issuing_41 : decode cX8_issuing 41 = .ok (.iload_n 1, 1) := dk_27 (dk_at dksX8_issuing_1 18 rfl rfl)
theorem dX8_issuing_42 : decode cX8_issuing 42 = .ok (.invokevirtual 57, 3) := dk_182 0 57 (dk_at dksX8_issuing_1 19 rfl rfl)
theorem dX8_issuing_45 : decode cX8_issuing 45 = .ok (.ifCond .eq 7, 3) := dk_153 0 7 (dk_at dksX8_issuing_2 0 rfl rfl)
theorem dX8_issuing_48 : decode cX8_issuing 48 = .ok (.iload_n 1, 1) := dk_27 (dk_at dksX8_issuing_2 3 rfl rfl)
theorem dX8_issuing_49 : decode cX8_issuing 49 = .ok (.goto 4, 3) := dk_167 0 4 (dk_at dksX8_issuing_2 4 rfl rfl)
theorem dX8_issuing_52 : decode cX8_issuing 52 = .ok (.iconst (-1), 1) := dk_2 (dk_at dksX8_issuing_2 7 rfl rfl)
theorem dX8_issuing_53 : decode cX8_issuing 53 = .ok (.ireturn, 1) := dk_172 (dk_at dksX8_issuing_2 8 rfl rfl)
theorem dX8_issuing_54 : decode cX8_issuing 54 = .ok (.iconst (-1), 1) := dk_2 (dk_at dksX8_issuing_2 9 rfl rfl)
theorem dX8_issuing_55 : decode cX8_issuing 55 = .ok (.istore_n 2, 1) := dk_61 (dk_at dksX8_issuing_2 10 rfl rfl)
theorem dX8_issuing_56 : decode cX8_issuing 56 = .ok (.iconst 3, 1) := dk_6 (dk_at dksX8_issuing_2 11 rfl rfl)
theorem dX8_issuing_57 : decode cX8_issuing 57 = .ok (.istore_n 3, 1) := dk_62 (dk_at dksX8_issuing_2 12 rfl rfl)
theorem dX8_issuing_58 : decode cX8_issuing 58 = .ok (.iload_n 3, 1) := dk_29 (dk_at dksX8_issuing_2 13 rfl rfl)
theorem dX8_issuing_59 : decode cX8_issuing 59 = .ok (.ifCond .le 44, 3) := dk_158 0 44 (dk_at dksX8_issuing_2 14 rfl rfl)
theorem dX8_issuing_62 : decode cX8_issuing 62 = .ok (.aload_n 0, 1) := dk_42 (dk_at dksX8_issuing_2 17 rfl rfl)
theorem dX8_issuing_63 : decode cX8_issuing 63 = .ok (.getfield 7, 3) := dk_180 0 7 (dk_at dksX8_issuing_2 18 rfl rfl)
theorem dX8_issuing_66 : decode cX8_issuing 66 = .ok (.sipush 243, 3) := dk_17 0 243 (dk_at dksX8_issuing_2 21 rfl rfl)
theorem dX8_issuing_69 : decode cX8_issuing 69 = .ok (.iaload, 1) := dk_46 (dk_at dksX8_issuing_3 0 rfl rfl)
theorem dX8_issuing_70 : decode cX8_issuing 70 = .ok (.iconst 1, 1) := dk_4 (dk_at dksX8_issuing_3 1 rfl rfl)
theorem dX8_issuing_71 : decode cX8_issuing 71 = .ok (.if_icmp .ne 32, 3) := dk_160 0 32 (dk_at dksX8_issuing_3 2 rfl rfl)
theorem dX8_issuing_74 : decode cX8_issuing 74 = .ok (.iload_n 1, 1) := dk_27 (dk_at dksX8_issuing_3 5 rfl rfl)
theorem dX8_issuing_75 : decode cX8_issuing 75 = .ok (.iload_n 3, 1) := dk_29 (dk_at dksX8_issuing_3 6 rfl rfl)
theorem dX8_issuing_76 : decode cX8_issuing 76 = .ok (.iadd, 1) := dk_96 (dk_at dksX8_issuing_3 7 rfl rfl)
theorem dX8_issuing_77 : decode cX8_issuing 77 = .ok (.iconst 4, 1) := dk_7 (dk_at dksX8_issuing_3 8 rfl rfl)
theorem dX8_issuing_78 : decode cX8_issuing 78 = .ok (.irem, 1) := dk_112 (dk_at dksX8_issuing_3 9 rfl rfl)
theorem dX8_issuing_79 : decode cX8_issuing 79 = .ok (.istore 4, 2) := dk_54 4 (dk_at dksX8_issuing_3 10 rfl rfl)
theorem dX8_issuing_81 : decode cX8_issuing 81 = .ok (.aload_n 0, 1) := dk_42 (dk_at dksX8_issuing_3 12 rfl rfl)
theorem dX8_issuing_82 : decode cX8_issuing 82 = .ok (.iload 4, 2) := dk_21 4 (dk_at dksX8_issuing_3 13 rfl rfl)
theorem dX8_issuing_84 : decode cX8_issuing 84 = .ok (.invokevirtual 57, 3) := dk_182 0 57 (dk_at dksX8_issuing_3 15 rfl rfl)
theorem dX8_issuing_87 : decode cX8_issuing 87 = .ok (.ifCond .eq 8, 3) := dk_153 0 8 (dk_at dksX8_issuing_3 18 rfl rfl)
theorem dX8_issuing_90 : decode cX8_issuing 90 = .ok (.iload 4, 2) := dk_21 4 (dk_at dksX8_issuing_3 21 rfl rfl)
theorem dX8_issuing_92 : decode cX8_issuing 92 = .ok (.goto 4, 3) := dk_167 0 4 (dk_at dksX8_issuing_4 0 rfl rfl)
theorem dX8_issuing_95 : decode cX8_issuing 95 = .ok (.iload_n 2, 1) := dk_28 (dk_at dksX8_issuing_4 3 rfl rfl)
theorem dX8_issuing_96 : decode cX8_issuing 96 = .ok (.istore_n 2, 1) := dk_61 (dk_at dksX8_issuing_4 4 rfl rfl)
theorem dX8_issuing_97 : decode cX8_issuing 97 = .ok (.iinc 3 (-1), 3) := dk_132 3 255 (dk_at dksX8_issuing_4 5 rfl rfl)
theorem dX8_issuing_100 : decode cX8_issuing 100 = .ok (.goto (-42), 3) := dk_167 255 214 (dk_at dksX8_issuing_4 8 rfl rfl)
theorem dX8_issuing_103 : decode cX8_issuing 103 = .ok (.iconst 0, 1) := dk_3 (dk_at dksX8_issuing_4 11 rfl rfl)
theorem dX8_issuing_104 : decode cX8_issuing 104 = .ok (.istore_n 3, 1) := dk_62 (dk_at dksX8_issuing_4 12 rfl rfl)
theorem dX8_issuing_105 : decode cX8_issuing 105 = .ok (.iload_n 3, 1) := dk_29 (dk_at dksX8_issuing_4 13 rfl rfl)
theorem dX8_issuing_106 : decode cX8_issuing 106 = .ok (.iconst 4, 1) := dk_7 (dk_at dksX8_issuing_4 14 rfl rfl)
theorem dX8_issuing_107 : decode cX8_issuing 107 = .ok (.if_icmp .ge 77, 3) := dk_162 0 77 (dk_at dksX8_issuing_4 15 rfl rfl)
theorem dX8_issuing_110 : decode cX8_issuing 110 = .ok (.aload_n 0, 1) := dk_42 (dk_at dksX8_issuing_4 18 rfl rfl)
theorem dX8_issuing_111 : decode cX8_issuing 111 = .ok (.getfield 7, 3) := dk_180 0 7 (dk_at dksX8_issuing_4 19 rfl rfl)
theorem dX8_issuing_114 : decode cX8_issuing 114 = .ok (.sipush 243, 3) := dk_17 0 243 (dk_at dksX8_issuing_5 0 rfl rfl)
theorem dX8_issuing_117 : decode cX8_issuing 117 = .ok (.iaload, 1) := dk_46 (dk_at dksX8_issuing_5 3 rfl rfl)
theorem dX8_issuing_118 : decode cX8_issuing 118 = .ok (.iconst 2, 1) := dk_5 (dk_at dksX8_issuing_5 4 rfl rfl)
theorem dX8_issuing_119 : decode cX8_issuing 119 = .ok (.if_icmp .ne 65, 3) := dk_160 0 65 (dk_at dksX8_issuing_5 5 rfl rfl)
theorem dX8_issuing_122 : decode cX8_issuing 122 = .ok (.aload_n 0, 1) := dk_42 (dk_at dksX8_issuing_5 8 rfl rfl)
theorem dX8_issuing_123 : decode cX8_issuing 123 = .ok (.iload_n 3, 1) := dk_29 (dk_at dksX8_issuing_5 9 rfl rfl)
theorem dX8_issuing_124 : decode cX8_issuing 124 = .ok (.invokevirtual 57, 3) := dk_182 0 57 (dk_at dksX8_issuing_5 10 rfl rfl)
theorem dX8_issuing_127 : decode cX8_issuing 127 = .ok (.ifCond .eq 37, 3) := dk_153 0 37 (dk_at dksX8_issuing_5 13 rfl rfl)
theorem dX8_issuing_130 : decode cX8_issuing 130 = .ok (.iload_n 2, 1) := dk_28 (dk_at dksX8_issuing_5 16 rfl rfl)
theorem dX8_issuing_131 : decode cX8_issuing 131 = .ok (.iconst (-1), 1) := dk_2 (dk_at dksX8_issuing_5 17 rfl rfl)
theorem dX8_issuing_132 : decode cX8_issuing 132 = .ok (.if_icmp .eq 28, 3) := dk_159 0 28 (dk_at dksX8_issuing_5 18 rfl rfl)
theorem dX8_issuing_135 : decode cX8_issuing 135 = .ok (.aload_n 0, 1) := dk_42 (dk_at dksX8_issuing_5 21 rfl rfl)
theorem dX8_issuing_136 : decode cX8_issuing 136 = .ok (.getfield 7, 3) := dk_180 0 7 (dk_at dksX8_issuing_6 0 rfl rfl)
theorem dX8_issuing_139 : decode cX8_issuing 139 = .ok (.iload_n 3, 1) := dk_29 (dk_at dksX8_issuing_6 3 rfl rfl)
theorem dX8_issuing_140 : decode cX8_issuing 140 = .ok (.bipush 9, 2) := dk_16 9 (dk_at dksX8_issuing_6 4 rfl rfl)
theorem dX8_issuing_142 : decode cX8_issuing 142 = .ok (.invokestatic 22, 3) := dk_184 0 22 (dk_at dksX8_issuing_6 6 rfl rfl)
theorem dX8_issuing_145 : decode cX8_issuing 145 = .ok (.iaload, 1) := dk_46 (dk_at dksX8_issuing_6 9 rfl rfl)
theorem dX8_issuing_146 : decode cX8_issuing 146 = .ok (.aload_n 0, 1) := dk_42 (dk_at dksX8_issuing_6 10 rfl rfl)
theorem dX8_issuing_147 : decode cX8_issuing 147 = .ok (.getfield 7, 3) := dk_180 0 7 (dk_at dksX8_issuing_6 11 rfl rfl)
theorem dX8_issuing_150 : decode cX8_issuing 150 = .ok (.iload_n 2, 1) := dk_28 (dk_at dksX8_issuing_6 14 rfl rfl)
theorem dX8_issuing_151 : decode cX8_issuing 151 = .ok (.bipush 9, 2) := dk_16 9 (dk_at dksX8_issuing_6 15 rfl rfl)
theorem dX8_issuing_153 : decode cX8_issuing 153 = .ok (.invokestatic 22, 3) := dk_184 0 22 (dk_at dksX8_issuing_6 17 rfl rfl)
theorem dX8_issuing_156 : decode cX8_issuing 156 = .ok (.iaload, 1) := dk_46 (dk_at dksX8_issuing_6 20 rfl rfl)
theorem dX8_issuing_157 : decode cX8_issuing 157 = .ok (.if_icmp .ge 7, 3) := dk_162 0 7 (dk_at dksX8_issuing_6 21 rfl rfl)
theorem dX8_issuing_160 : decode cX8_issuing 160 = .ok (.iconst 1, 1) := dk_4 (dk_at dksX8_issuing_7 0 rfl rfl)
theorem dX8_issuing_161 : decode cX8_issuing 161 = .ok (.goto 4, 3) := dk_167 0 4 (dk_at dksX8_issuing_7 1 rfl rfl)
theorem dX8_issuing_164 : decode cX8_issuing 164 = .ok (.iconst 0, 1) := dk_3 (dk_at dksX8_issuing_7 4 rfl rfl)
theorem dX8_issuing_165 : decode cX8_issuing 165 = .ok (.istore 4, 2) := dk_54 4 (dk_at dksX8_issuing_7 5 rfl rfl)
theorem dX8_issuing_167 : decode cX8_issuing 167 = .ok (.iload 4, 2) := dk_21 4 (dk_at dksX8_issuing_7 7 rfl rfl)
theorem dX8_issuing_169 : decode cX8_issuing 169 = .ok (.ifCond .eq 7, 3) := dk_153 0 7 (dk_at dksX8_issuing_7 9 rfl rfl)
theorem dX8_issuing_172 : decode cX8_issuing 172 = .ok (.iload_n 3, 1) := dk_29 (dk_at dksX8_issuing_7 12 rfl rfl)
theorem dX8_issuing_173 : decode cX8_issuing 173 = .ok (.goto 4, 3) := dk_167 0 4 (dk_at dksX8_issuing_7 13 rfl rfl)
theorem dX8_issuing_176 : decode cX8_issuing 176 = .ok (.iload_n 2, 1) := dk_28 (dk_at dksX8_issuing_7 16 rfl rfl)
theorem dX8_issuing_177 : decode cX8_issuing 177 = .ok (.istore_n 2, 1) := dk_61 (dk_at dksX8_issuing_7 17 rfl rfl)
theorem dX8_issuing_178 : decode cX8_issuing 178 = .ok (.iinc 3 1, 3) := dk_132 3 1 (dk_at dksX8_issuing_7 18 rfl rfl)
theorem dX8_issuing_181 : decode cX8_issuing 181 = .ok (.goto (-76), 3) := dk_167 255 180 (dk_at dksX8_issuing_7 21 rfl rfl)
theorem dX8_issuing_184 : decode cX8_issuing 184 = .ok (.iload_n 2, 1) := dk_28 (dk_at dksX8_issuing_8 0 rfl rfl)
theorem dX8_issuing_185 : decode cX8_issuing 185 = .ok (.ireturn, 1) := dk_172 (dk_at dksX8_issuing_8 1 rfl rfl)
abbrev cX8_isReady : ByteArray := prog_12_method_19_code
def yX8_isReady : MethodName := ⟨RX8, "isReady", "(I)Z"⟩
def dkwX8_isReady_0 : List UInt8 := [42, 180, 0, 7, 27, 3, 184, 0, 22, 46, 4, 160, 0, 7, 4, 167, 0, 4, 3, 172]
abbrev dktX8_isReady_0 : List UInt8 := dkwX8_isReady_0 ++ []
theorem dksX8_isReady_0 : cX8_isReady.data.toList.drop 0 = dktX8_isReady_0 := by decide +kernel
theorem dX8_isReady_0 : decode cX8_isReady 0 = .ok (.aload_n 0, 1) := dk_42 (dk_at dksX8_isReady_0 0 rfl rfl)
theorem dX8_isReady_1 : decode cX8_isReady 1 = .ok (.getfield 7, 3) := dk_180 0 7 (dk_at dksX8_isReady_0 1 rfl rfl)
theorem dX8_isReady_4 : decode cX8_isReady 4 = .ok (.iload_n 1, 1) := dk_27 (dk_at dksX8_isReady_0 4 rfl rfl)
theorem dX8_isReady_5 : decode cX8_isReady 5 = .ok (.iconst 0, 1) := dk_3 (dk_at dksX8_isReady_0 5 rfl rfl)
theorem dX8_isReady_6 : decode cX8_isReady 6 = .ok (.invokestatic 22, 3) := dk_184 0 22 (dk_at dksX8_isReady_0 6 rfl rfl)
theorem dX8_isReady_9 : decode cX8_isReady 9 = .ok (.iaload, 1) := dk_46 (dk_at dksX8_isReady_0 9 rfl rfl)
theorem dX8_isReady_10 : decode cX8_isReady 10 = .ok (.iconst 1, 1) := dk_4 (dk_at dksX8_isReady_0 10 rfl rfl)
theorem dX8_isReady_11 : decode cX8_isReady 11 = .ok (.if_icmp .ne 7, 3) := dk_160 0 7 (dk_at dksX8_isReady_0 11 rfl rfl)
theorem dX8_isReady_14 : decode cX8_isReady 14 = .ok (.iconst 1, 1) := dk_4 (dk_at dksX8_isReady_0 14 rfl rfl)
theorem dX8_isReady_15 : decode cX8_isReady 15 = .ok (.goto 4, 3) := dk_167 0 4 (dk_at dksX8_isReady_0 15 rfl rfl)
theorem dX8_isReady_18 : decode cX8_isReady 18 = .ok (.iconst 0, 1) := dk_3 (dk_at dksX8_isReady_0 18 rfl rfl)
theorem dX8_isReady_19 : decode cX8_isReady 19 = .ok (.ireturn, 1) := dk_172 (dk_at dksX8_isReady_0 19 rfl rfl)
abbrev cX8_putBack : ByteArray := prog_12_method_9_code
def yX8_putBack : MethodName := ⟨RX8, "putBack", "()V"⟩
def dkwX8_putBack_1 : List UInt8 := [167, 255, 234, 177]
abbrev dktX8_putBack_1 : List UInt8 := dkwX8_putBack_1 ++ []
def dkwX8_putBack_0 : List UInt8 := [3, 60, 27, 17, 1, 85, 162, 0, 21, 42, 180, 0, 7, 27, 42, 180, 0, 13, 27, 46, 79, 132, 1, 1]
abbrev dktX8_putBack_0 : List UInt8 := dkwX8_putBack_0 ++ dktX8_putBack_1
theorem dksX8_putBack_0 : cX8_putBack.data.toList.drop 0 = dktX8_putBack_0 := by decide +kernel
theorem dksX8_putBack_1 : cX8_putBack.data.toList.drop 24 = dktX8_putBack_1 := dk_seg dksX8_putBack_0 24 rfl rfl
theorem dX8_putBack_0 : decode cX8_putBack 0 = .ok (.iconst 0, 1) := dk_3 (dk_at dksX8_putBack_0 0 rfl rfl)
theorem dX8_putBack_1 : decode cX8_putBack 1 = .ok (.istore_n 1, 1) := dk_60 (dk_at dksX8_putBack_0 1 rfl rfl)
theorem dX8_putBack_2 : decode cX8_putBack 2 = .ok (.iload_n 1, 1) := dk_27 (dk_at dksX8_putBack_0 2 rfl rfl)
theorem dX8_putBack_3 : decode cX8_putBack 3 = .ok (.sipush 341, 3) := dk_17 1 85 (dk_at dksX8_putBack_0 3 rfl rfl)
theorem dX8_putBack_6 : decode cX8_putBack 6 = .ok (.if_icmp .ge 21, 3) := dk_162 0 21 (dk_at dksX8_putBack_0 6 rfl rfl)
theorem dX8_putBack_9 : decode cX8_putBack 9 = .ok (.aload_n 0, 1) := dk_42 (dk_at dksX8_putBack_0 9 rfl rfl)
theorem dX8_putBack_10 : decode cX8_putBack 10 = .ok (.getfield 7, 3) := dk_180 0 7 (dk_at dksX8_putBack_0 10 rfl rfl)
theorem dX8_putBack_13 : decode cX8_putBack 13 = .ok (.iload_n 1, 1) := dk_27 (dk_at dksX8_putBack_0 13 rfl rfl)
theorem dX8_putBack_14 : decode cX8_putBack 14 = .ok (.aload_n 0, 1) := dk_42 (dk_at dksX8_putBack_0 14 rfl rfl)
theorem dX8_putBack_15 : decode cX8_putBack 15 = .ok (.getfield 13, 3) := dk_180 0 13 (dk_at dksX8_putBack_0 15 rfl rfl)
theorem dX8_putBack_18 : decode cX8_putBack 18 = .ok (.iload_n 1, 1) := dk_27 (dk_at dksX8_putBack_0 18 rfl rfl)
theorem dX8_putBack_19 : decode cX8_putBack 19 = .ok (.iaload, 1) := dk_46 (dk_at dksX8_putBack_0 19 rfl rfl)
theorem dX8_putBack_20 : decode cX8_putBack 20 = .ok (.iastore, 1) := dk_79 (dk_at dksX8_putBack_0 20 rfl rfl)
theorem dX8_putBack_21 : decode cX8_putBack 21 = .ok (.iinc 1 1, 3) := dk_132 1 1 (dk_at dksX8_putBack_0 21 rfl rfl)
theorem dX8_putBack_24 : decode cX8_putBack 24 = .ok (.goto (-22), 3) := dk_167 255 234 (dk_at dksX8_putBack_1 0 rfl rfl)
theorem dX8_putBack_27 : decode cX8_putBack 27 = .ok (.return_, 1) := dk_177 (dk_at dksX8_putBack_1 3 rfl rfl)
abbrev cX8_cycles : ByteArray := prog_12_method_21_code
def yX8_cycles : MethodName := ⟨RX8, "cycles", "()V"⟩
def dkwX8_cycles_10 : List UInt8 := [4, 96, 79, 177]
abbrev dktX8_cycles_10 : List UInt8 := dkwX8_cycles_10 ++ []
def dkwX8_cycles_9 : List UInt8 := [160, 0, 7, 3, 167, 0, 4, 4, 96, 79, 42, 28, 182, 0, 68, 42, 180, 0, 7, 17, 0, 232, 92, 46]
abbrev dktX8_cycles_9 : List UInt8 := dkwX8_cycles_9 ++ dktX8_cycles_10
def dkwX8_cycles_8 : List UInt8 := [16, 12, 184, 0, 22, 92, 46, 4, 96, 79, 42, 180, 0, 7, 28, 16, 13, 184, 0, 22, 92, 46, 28, 27]
abbrev dktX8_cycles_8 : List UInt8 := dkwX8_cycles_8 ++ dktX8_cycles_9
def dkwX8_cycles_7 : List UInt8 := [180, 0, 7, 28, 16, 9, 184, 0, 22, 42, 180, 0, 7, 17, 0, 232, 46, 79, 42, 180, 0, 7, 28]
abbrev dktX8_cycles_7 : List UInt8 := dkwX8_cycles_7 ++ dktX8_cycles_8
def dkwX8_cycles_6 : List UInt8 := [167, 255, 146, 28, 2, 160, 0, 18, 42, 180, 0, 7, 17, 0, 233, 92, 46, 4, 96, 79, 167, 0, 66, 42]
abbrev dktX8_cycles_6 : List UInt8 := dkwX8_cycles_6 ++ dktX8_cycles_7
def dkwX8_cycles_5 : List UInt8 := [16, 10, 184, 0, 22, 46, 167, 0, 14, 42, 180, 0, 7, 29, 16, 11, 184, 0, 22, 46, 79, 132, 3, 1]
abbrev dktX8_cycles_5 : List UInt8 := dkwX8_cycles_5 ++ dktX8_cycles_6
def dkwX8_cycles_4 : List UInt8 := [184, 0, 22, 46, 42, 180, 0, 7, 29, 16, 11, 184, 0, 22, 46, 164, 0, 17, 42, 180, 0, 7, 29]
abbrev dktX8_cycles_4 : List UInt8 := dkwX8_cycles_4 ++ dktX8_cycles_5
def dkwX8_cycles_3 : List UInt8 := [96, 167, 0, 4, 3, 79, 42, 180, 0, 7, 29, 16, 11, 184, 0, 22, 42, 180, 0, 7, 29, 16, 10]
abbrev dktX8_cycles_3 : List UInt8 := dkwX8_cycles_3 ++ dktX8_cycles_4
def dkwX8_cycles_2 : List UInt8 := [29, 182, 0, 57, 153, 0, 24, 29, 28, 159, 0, 19, 42, 180, 0, 7, 29, 16, 10, 184, 0, 22, 46, 4]
abbrev dktX8_cycles_2 : List UInt8 := dkwX8_cycles_2 ++ dktX8_cycles_3
def dkwX8_cycles_1 : List UInt8 := [60, 42, 182, 0, 64, 61, 3, 62, 29, 7, 162, 0, 111, 42, 180, 0, 7, 29, 16, 10, 184, 0, 22, 42]
abbrev dktX8_cycles_1 : List UInt8 := dkwX8_cycles_1 ++ dktX8_cycles_2
def dkwX8_cycles_0 : List UInt8 := [42, 182, 0, 61, 42, 180, 0, 7, 17, 0, 234, 42, 180, 0, 7, 17, 0, 232, 46, 16, 8, 112, 96, 46]
abbrev dktX8_cycles_0 : List UInt8 := dkwX8_cycles_0 ++ dktX8_cycles_1
theorem dksX8_cycles_0 : cX8_cycles.data.toList.drop 0 = dktX8_cycles_0 := by decide +kernel
theorem dksX8_cycles_1 : cX8_cycles.data.toList.drop 24 = dktX8_cycles_1 := dk_seg dksX8_cycles_0 24 rfl rfl
theorem dksX8_cycles_2 : cX8_cycles.data.toList.drop 48 = dktX8_cycles_2 := dk_seg dksX8_cycles_1 24 rfl rfl
theorem dksX8_cycles_3 : cX8_cycles.data.toList.drop 72 = dktX8_cycles_3 := dk_seg dksX8_cycles_2 24 rfl rfl
theorem dksX8_cycles_4 : cX8_cycles.data.toList.drop 95 = dktX8_cycles_4 := dk_seg dksX8_cycles_3 23 rfl rfl
theorem dksX8_cycles_5 : cX8_cycles.data.toList.drop 118 = dktX8_cycles_5 := dk_seg dksX8_cycles_4 23 rfl rfl
theorem dksX8_cycles_6 : cX8_cycles.data.toList.drop 142 = dktX8_cycles_6 := dk_seg dksX8_cycles_5 24 rfl rfl
theorem dksX8_cycles_7 : cX8_cycles.data.toList.drop 166 = dktX8_cycles_7 := dk_seg dksX8_cycles_6 24 rfl rfl
theorem dksX8_cycles_8 : cX8_cycles.data.toList.drop 189 = dktX8_cycles_8 := dk_seg dksX8_cycles_7 23 rfl rfl
theorem dksX8_cycles_9 : cX8_cycles.data.toList.drop 213 = dktX8_cycles_9 := dk_seg dksX8_cycles_8 24 rfl rfl
theorem dksX8_cycles_10 : cX8_cycles.data.toList.drop 237 = dktX8_cycles_10 := dk_seg dksX8_cycles_9 24 rfl rfl
theorem dX8_cycles_0 : decode cX8_cycles 0 = .ok (.aload_n 0, 1) := dk_42 (dk_at dksX8_cycles_0 0 rfl rfl)
theorem dX8_cycles_1 : decode cX8_cycles 1 = .ok (.invokevirtual 61, 3) := dk_182 0 61 (dk_at dksX8_cycles_0 1 rfl rfl)
theorem dX8_cycles_4 : decode cX8_cycles 4 = .ok (.aload_n 0, 1) := dk_42 (dk_at dksX8_cycles_0 4 rfl rfl)
theorem dX8_cycles_5 : decode cX8_cycles 5 = .ok (.getfield 7, 3) := dk_180 0 7 (dk_at dksX8_cycles_0 5 rfl rfl)
theorem dX8_cycles_8 : decode cX8_cycles 8 = .ok (.sipush 234, 3) := dk_17 0 234 (dk_at dksX8_cycles_0 8 rfl rfl)
theorem dX8_cycles_11 : decode cX8_cycles 11 = .ok (.aload_n 0, 1) := dk_42 (dk_at dksX8_cycles_0 11 rfl rfl)
theorem dX8_cycles_12 : decode cX8_cycles 12 = .ok (.getfield 7, 3) := dk_180 0 7 (dk_at dksX8_cycles_0 12 rfl rfl)
theorem dX8_cycles_15 : decode cX8_cycles 15 = .ok (.sipush 232, 3) := dk_17 0 232 (dk_at dksX8_cycles_0 15 rfl rfl)
theorem dX8_cycles_18 : decode cX8_cycles 18 = .ok (.iaload, 1) := dk_46 (dk_at dksX8_cycles_0 18 rfl rfl)
theorem dX8_cycles_19 : decode cX8_cycles 19 = .ok (.bipush 8, 2) := dk_16 8 (dk_at dksX8_cycles_0 19 rfl rfl)
theorem dX8_cycles_21 : decode cX8_cycles 21 = .ok (.irem, 1) := dk_112 (dk_at dksX8_cycles_0 21 rfl rfl)
theorem dX8_cycles_22 : decode cX8_cycles 22 = .ok (.iadd, 1) := dk_96 (dk_at dksX8_cycles_0 22 rfl rfl)
theorem dX8_cycles_23 : decode cX8_cycles 23 = .ok (.iaload, 1) := dk_46 (dk_at dksX8_cycles_0 23 rfl rfl)
theorem dX8_cycles_24 : decode cX8_cycles 24 = .ok (.istore_n 1, 1) := dk_60 (dk_at dksX8_cycles_1 0 rfl rfl)
theorem dX8_cycles_25 : decode cX8_cycles 25 = .ok (.aload_n 0, 1) := dk_42 (dk_at dksX8_cycles_1 1 rfl rfl)
theorem dX8_cycles_26 : decode cX8_cycles 26 = .ok (.invokevirtual 64, 3) := dk_182 0 64 (dk_at dksX8_cycles_1 2 rfl rfl)
theorem dX8_cycles_29 : decode cX8_cycles 29 = .ok (.istore_n 2, 1) := dk_61 (dk_at dksX8_cycles_1 5 rfl rfl)
theorem dX8_cycles_30 : decode cX8_cycles 30 = .ok (.iconst 0, 1) := dk_3 (dk_at dksX8_cycles_1 6 rfl rfl)
theorem dX8_cycles_31 : decode cX8_cycles 31 = .ok (.istore_n 3, 1) := dk_62 (dk_at dksX8_cycles_1 7 rfl rfl)
theorem dX8_cycles_32 : decode cX8_cycles 32 = .ok (.iload_n 3, 1) := dk_29 (dk_at dksX8_cycles_1 8 rfl rfl)
theorem dX8_cycles_33 : decode cX8_cycles 33 = .ok (.iconst 4, 1) := dk_7 (dk_at dksX8_cycles_1 9 rfl rfl)
theorem dX8_cycles_34 : decode cX8_cycles 34 = .ok (.if_icmp .ge 111, 3) := dk_162 0 111 (dk_at dksX8_cycles_1 10 rfl rfl)
theorem dX8_cycles_37 : decode cX8_cycles 37 = .ok (.aload_n 0, 1) := dk_42 (dk_at dksX8_cycles_1 13 rfl rfl)
theorem dX8_cycles_38 : decode cX8_cycles 38 = .ok (.getfield 7, 3) := dk_180 0 7 (dk_at dksX8_cycles_1 14 rfl rfl)
theorem dX8_cycles_41 : decode cX8_cycles 41 = .ok (.iload_n 3, 1) := dk_29 (dk_at dksX8_cycles_1 17 rfl rfl)
theorem dX8_cycles_42 : decode cX8_cycles 42 = .ok (.bipush 10, 2) := dk_16 10 (dk_at dksX8_cycles_1 18 rfl rfl)
theorem dX8_cycles_44 : decode cX8_cycles 44 = .ok (.invokestatic 22, 3) := dk_184 0 22 (dk_at dksX8_cycles_1 20 rfl rfl)
theorem dX8_cycles_47 : decode cX8_cycles 47 = .ok (.aload_n 0, 1) := dk_42 (dk_at dksX8_cycles_1 23 rfl rfl)
theorem dX8_cycles_48 : decode cX8_cycles 48 = .ok (.iload_n 3, 1) := dk_29 (dk_at dksX8_cycles_2 0 rfl rfl)
theorem dX8_cycles_49 : decode cX8_cycles 49 = .ok (.invokevirtual 57, 3) := dk_182 0 57 (dk_at dksX8_cycles_2 1 rfl rfl)
theorem dX8_cycles_52 : decode cX8_cycles 52 = .ok (.ifCond .eq 24, 3) := dk_153 0 24 (dk_at dksX8_cycles_2 4 rfl rfl)
theorem dX8_cycles_55 : decode cX8_cycles 55 = .ok (.iload_n 3, 1) := dk_29 (dk_at dksX8_cycles_2 7 rfl rfl)
theorem dX8_cycles_56 : decode cX8_cycles 56 = .ok (.iload_n 2, 1) := dk_28 (dk_at dksX8_cycles_2 8 rfl rfl)
theorem dX8_cycles_57 : decode cX8_cycles 57 = .ok (.if_icmp .eq 19, 3) := dk_159 0 19 (dk_at dksX8_cycles_2 9 rfl rfl)
theorem dX8_cycles_60 : decode cX8_cycles 60 = .ok (.aload_n 0, 1) := dk_42 (dk_at dksX8_cycles_2 12 rfl rfl)
theorem dX8_cycles_61 : decode cX8_cycles 61 = .ok (.getfield 7, 3) := dk_180 0 7 (dk_at dksX8_cycles_2 13 rfl rfl)
theorem dX8_cycles_64 : decode cX8_cycles 64 = .ok (.iload_n 3, 1) := dk_29 (dk_at dksX8_cycles_2 16 rfl rfl)
theorem dX8_cycles_65 : decode cX8_cycles 65 = .ok (.bipush 10, 2) := dk_16 10 (dk_at dksX8_cycles_2 17 rfl rfl)
theorem dX8_cycles_67 : decode cX8_cycles 67 = .ok (.invokestatic 22, 3) := dk_184 0 22 (dk_at dksX8_cycles_2 19 rfl rfl)
theorem dX8_cycles_70 : decode cX8_cycles 70 = .ok (.iaload, 1) := dk_46 (dk_at dksX8_cycles_2 22 rfl rfl)
theorem dX8_cycles_71 : decode cX8_cycles 71 = .ok (.iconst 1, 1) := dk_4 (dk_at dksX8_cycles_2 23 rfl rfl)
theorem dX8_cycles_72 : decode cX8_cycles 72 = .ok (.iadd, 1) := dk_96 (dk_at dksX8_cycles_3 0 rfl rfl)
theorem dX8_cycles_73 : decode cX8_cycles 73 = .ok (.goto 4, 3) := dk_167 0 4 (dk_at dksX8_cycles_3 1 rfl rfl)
theorem dX8_cycles_76 : decode cX8_cycles 76 = .ok (.iconst 0, 1) := dk_3 (dk_at dksX8_cycles_3 4 rfl rfl)
theorem dX8_cycles_77 : decode cX8_cycles 77 = .ok (.iastore, 1) := dk_79 (dk_at dksX8_cycles_3 5 rfl rfl)
theorem dX8_cycles_78 : decode cX8_cycles 78 = .ok (.aload_n 0, 1) := dk_42 (dk_at dksX8_cycles_3 6 rfl rfl)
theorem dX8_cycles_79 : decode cX8_cycles 79 = .ok (.getfield 7, 3) := dk_180 0 7 (dk_at dksX8_cycles_3 7 rfl rfl)
theorem dX8_cycles_82 : decode cX8_cycles 82 = .ok (.iload_n 3, 1) := dk_29 (dk_at dksX8_cycles_3 10 rfl rfl)
theorem dX8_cycles_83 : decode cX8_cycles 83 = .ok (.bipush 11, 2) := dk_16 11 (dk_at dksX8_cycles_3 11 rfl rfl)
theorem dX8_cycles_85 : decode cX8_cycles 85 = .ok (.invokestatic 22, 3) := dk_184 0 22 (dk_at dksX8_cycles_3 13 rfl rfl)
theorem dX8_cycles_88 : decode cX8_cycles 88 = .ok (.aload_n 0, 1) := dk_42 (dk_at dksX8_cycles_3 16 rfl rfl)
theorem dX8_cycles_89 : decode cX8_cycles 89 = .ok (.getfield 7, 3) := dk_180 0 7 (dk_at dksX8_cycles_3 17 rfl rfl)
theorem dX8_cycles_92 : decode cX8_cycles 92 = .ok (.iload_n 3, 1) := dk_29 (dk_at dksX8_cycles_3 20 rfl rfl)
theorem dX8_cycles_93 : decode cX8_cycles 93 = .ok (.bipush 10, 2) := dk_16 10 (dk_at dksX8_cycles_3 21 rfl rfl)
theorem dX8_cycles_95 : decode cX8_cycles 95 = .ok (.invokestatic 22, 3) := dk_184 0 22 (dk_at dksX8_cycles_4 0 rfl rfl)
theorem dX8_cycles_98 : decode cX8_cycles 98 = .ok (.iaload, 1) := dk_46 (dk_at dksX8_cycles_4 3 rfl rfl)
theorem dX8_cycles_99 : decode cX8_cycles 99 = .ok (.aload_n 0, 1) := dk_42 (dk_at dksX8_cycles_4 4 rfl rfl)
theorem dX8_cycles_100 : decode cX8_cycles 100 = .ok (.getfield 7, 3) := dk_180 0 7 (dk_at dksX8_cycles_4 5 rfl rfl)
theorem dX8_cycles_103 : decode cX8_cycles 103 = .ok (.iload_n 3, 1) := dk_29 (dk_at dksX8_cycles_4 8 rfl rfl)
theorem dX8_cycles_104 : decode cX8_cycles 104 = .ok (.bipush 11, 2) := dk_16 11 (dk_at dksX8_cycles_4 9 rfl rfl)
theorem dX8_cycles_106 : decode cX8_cycles 106 = .ok (.invokestatic 22, 3) := dk_184 0 22 (dk_at dksX8_cycles_4 11 rfl rfl)
theorem dX8_cycles_109 : decode cX8_cycles 109 = .ok (.iaload, 1) := dk_46 (dk_at dksX8_cycles_4 14 rfl rfl)
theorem dX8_cycles_110 : decode cX8_cycles 110 = .ok (.if_icmp .le 17, 3) := dk_164 0 17 (dk_at dksX8_cycles_4 15 rfl rfl)
theorem dX8_cycles_113 : decode cX8_cycles 113 = .ok (.aload_n 0, 1) := dk_42 (dk_at dksX8_cycles_4 18 rfl rfl)
theorem dX8_cycles_114 : decode cX8_cycles 114 = .ok (.getfield 7, 3) := dk_180 0 7 (dk_at dksX8_cycles_4 19 rfl rfl)
theorem dX8_cycles_117 : decode cX8_cycles 117 = .ok (.iload_n 3, 1) := dk_29 (dk_at dksX8_cycles_4 22 rfl rfl)
theorem dX8_cycles_118 : decode cX8_cycles 118 = .ok (.bipush 10, 2) := dk_16 10 (dk_at dksX8_cycles_5 0 rfl rfl)
theorem dX8_cycles_120 : decode cX8_cycles 120 = .ok (.invokestatic 22, 3) := dk_184 0 22 (dk_at dksX8_cycles_5 2 rfl rfl)
theorem dX8_cycles_123 : decode cX8_cycles 123 = .ok (.iaload, 1) := dk_46 (dk_at dksX8_cycles_5 5 rfl rfl)
theorem dX8_cycles_124 : decode cX8_cycles 124 = .ok (.goto 14, 3) := dk_167 0 14 (dk_at dksX8_cycles_5 6 rfl rfl)
theorem dX8_cycles_127 : decode cX8_cycles 127 = .ok (.aload_n 0, 1) := dk_42 (dk_at dksX8_cycles_5 9 rfl rfl)
theorem dX8_cycles_128 : decode cX8_cycles 128 = .ok (.getfield 7, 3) := dk_180 0 7 (dk_at dksX8_cycles_5 10 rfl rfl)
theorem dX8_cycles_131 : decode cX8_cycles 131 = .ok (.iload_n 3, 1) := dk_29 (dk_at dksX8_cycles_5 13 rfl rfl)
theorem dX8_cycles_132 : decode cX8_cycles 132 = .ok (.bipush 11, 2) := dk_16 11 (dk_at dksX8_cycles_5 14 rfl rfl)
theorem dX8_cycles_134 : decode cX8_cycles 134 = .ok (.invokestatic 22, 3) := dk_184 0 22 (dk_at dksX8_cycles_5 16 rfl rfl)
theorem dX8_cycles_137 : decode cX8_cycles 137 = .ok (.iaload, 1) := dk_46 (dk_at dksX8_cycles_5 19 rfl rfl)
theorem dX8_cycles_138 : decode cX8_cycles 138 = .ok (.iastore, 1) := dk_79 (dk_at dksX8_cycles_5 20 rfl rfl)
theorem dX8_cycles_139 : decode cX8_cycles 139 = .ok (.iinc 3 1, 3) := dk_132 3 1 (dk_at dksX8_cycles_5 21 rfl rfl)
theorem dX8_cycles_142 : decode cX8_cycles 142 = .ok (.goto (-110), 3) := dk_167 255 146 (dk_at dksX8_cycles_6 0 rfl rfl)
theorem dX8_cycles_145 : decode cX8_cycles 145 = .ok (.iload_n 2, 1) := dk_28 (dk_at dksX8_cycles_6 3 rfl rfl)
theorem dX8_cycles_146 : decode cX8_cycles 146 = .ok (.iconst (-1), 1) := dk_2 (dk_at dksX8_cycles_6 4 rfl rfl)
theorem dX8_cycles_147 : decode cX8_cycles 147 = .ok (.if_icmp .ne 18, 3) := dk_160 0 18 (dk_at dksX8_cycles_6 5 rfl rfl)
theorem dX8_cycles_150 : decode cX8_cycles 150 = .ok (.aload_n 0, 1) := dk_42 (dk_at dksX8_cycles_6 8 rfl rfl)
theorem dX8_cycles_151 : decode cX8_cycles 151 = .ok (.getfield 7, 3) := dk_180 0 7 (dk_at dksX8_cycles_6 9 rfl rfl)
theorem dX8_cycles_154 : decode cX8_cycles 154 = .ok (.sipush 233, 3) := dk_17 0 233 (dk_at dksX8_cycles_6 12 rfl rfl)
theorem dX8_cycles_157 : decode cX8_cycles 157 = .ok (.dup2, 1) := dk_92 (dk_at dksX8_cycles_6 15 rfl rfl)
theorem dX8_cycles_158 : decode cX8_cycles 158 = .ok (.iaload, 1) := dk_46 (dk_at dksX8_cycles_6 16 rfl rfl)
theorem dX8_cycles_159 : decode cX8_cycles 159 = .ok (.iconst 1, 1) := dk_4 (dk_at dksX8_cycles_6 17 rfl rfl)
theorem dX8_cycles_160 : decode cX8_cycles 160 = .ok (.iadd, 1) := dk_96 (dk_at dksX8_cycles_6 18 rfl rfl)
theorem dX8_cycles_161 : decode cX8_cycles 161 = .ok (.iastore, 1) := dk_79 (dk_at dksX8_cycles_6 19 rfl rfl)
theorem dX8_cycles_162 : decode cX8_cycles 162 = .ok (.goto 66, 3) := dk_167 0 66 (dk_at dksX8_cycles_6 20 rfl rfl)
theorem dX8_cycles_165 : decode cX8_cycles 165 = .ok (.aload_n 0, 1) := dk_42 (dk_at dksX8_cycles_6 23 rfl rfl)
theorem dX8_cycles_166 : decode cX8_cycles 166 = .ok (.getfield 7, 3) := dk_180 0 7 (dk_at dksX8_cycles_7 0 rfl rfl)
theorem dX8_cycles_169 : decode cX8_cycles 169 = .ok (.iload_n 2, 1) := dk_28 (dk_at dksX8_cycles_7 3 rfl rfl)
theorem dX8_cycles_170 : decode cX8_cycles 170 = .ok (.bipush 9, 2) := dk_16 9 (dk_at dksX8_cycles_7 4 rfl rfl)
theorem dX8_cycles_172 : decode cX8_cycles 172 = .ok (.invokestatic 22, 3) := dk_184 0 22 (dk_at dksX8_cycles_7 6 rfl rfl)
theorem dX8_cycles_175 : decode cX8_cycles 175 = .ok (.aload_n 0, 1) := dk_42 (dk_at dksX8_cycles_7 9 rfl rfl)
theorem dX8_cycles_176 : decode cX8_cycles 176 = .ok (.getfield 7, 3) := dk_180 0 7 (dk_at dksX8_cycles_7 10 rfl rfl)
theorem dX8_cycles_179 : decode cX8_cycles 179 = .ok (.sipush 232, 3) := dk_17 0 232 (dk_at dksX8_cycles_7 13 rfl rfl)
theorem dX8_cycles_182 : decode cX8_cycles 182 = .ok (.iaload, 1) := dk_46 (dk_at dksX8_cycles_7 16 rfl rfl)
theorem dX8_cycles_183 : decode cX8_cycles 183 = .ok (.iastore, 1) := dk_79 (dk_at dksX8_cycles_7 17 rfl rfl)
theorem dX8_cycles_184 : decode cX8_cycles 184 = .ok (.aload_n 0, 1) := dk_42 (dk_at dksX8_cycles_7 18 rfl rfl)
theorem dX8_cycles_185 : decode cX8_cycles 185 = .ok (.getfield 7, 3) := dk_180 0 7 (dk_at dksX8_cycles_7 19 rfl rfl)
theorem dX8_cycles_188 : decode cX8_cycles 188 = .ok (.iload_n 2, 1) := dk_28 (dk_at dksX8_cycles_7 22 rfl rfl)
theorem dX8_cycles_189 : decode cX8_cycles 189 = .ok (.bipush 12, 2) := dk_16 12 (dk_at dksX8_cycles_8 0 rfl rfl)
theorem dX8_cycles_191 : decode cX8_cycles 191 = .ok (.invokestatic 22, 3) := dk_184 0 22 (dk_at dksX8_cycles_8 2 rfl rfl)
theorem dX8_cycles_194 : decode cX8_cycles 194 = .ok (.dup2, 1) := dk_92 (dk_at dksX8_cycles_8 5 rfl rfl)
theorem dX8_cycles_195 : decode cX8_cycles 195 = .ok (.iaload, 1) := dk_46 (dk_at dksX8_cycles_8 6 rfl rfl)
theorem dX8_cycles_196 : decode cX8_cycles 196 = .ok (.iconst 1, 1) := dk_4 (dk_at dksX8_cycles_8 7 rfl rfl)
theorem dX8_cycles_197 : decode cX8_cycles 197 = .ok (.iadd, 1) := dk_96 (dk_at dksX8_cycles_8 8 rfl rfl)
theorem dX8_cycles_198 : decode cX8_cycles 198 = .ok (.iastore, 1) := dk_79 (dk_at dksX8_cycles_8 9 rfl rfl)
theorem dX8_cycles_199 : decode cX8_cycles 199 = .ok (.aload_n 0, 1) := dk_42 (dk_at dksX8_cycles_8 10 rfl rfl)
theorem dX8_cycles_200 : decode cX8_cycles 200 = .ok (.getfield 7, 3) := dk_180 0 7 (dk_at dksX8_cycles_8 11 rfl rfl)
theorem dX8_cycles_203 : decode cX8_cycles 203 = .ok (.iload_n 2, 1) := dk_28 (dk_at dksX8_cycles_8 14 rfl rfl)
theorem dX8_cycles_204 : decode cX8_cycles 204 = .ok (.bipush 13, 2) := dk_16 13 (dk_at dksX8_cycles_8 15 rfl rfl)
theorem dX8_cycles_206 : decode cX8_cycles 206 = .ok (.invokestatic 22, 3) := dk_184 0 22 (dk_at dksX8_cycles_8 17 rfl rfl)
theorem dX8_cycles_209 : decode cX8_cycles 209 = .ok (.dup2, 1) := dk_92 (dk_at dksX8_cycles_8 20 rfl rfl)
theorem dX8_cycles_210 : decode cX8_cycles 210 = .ok (.iaload, 1) := dk_46 (dk_at dksX8_cycles_8 21 rfl rfl)
theorem dX8_cycles_211 : decode cX8_cycles 211 = .ok (.iload_n 2, 1) := dk_28 (dk_at dksX8_cycles_8 22 rfl rfl)
theorem dX8_cycles_212 : decode cX8_cycles 212 = .ok (.iload_n 1, 1) := dk_27 (dk_at dksX8_cycles_8 23 rfl rfl)
theorem dX8_cycles_213 : decode cX8_cycles 213 = .ok (.if_icmp .ne 7, 3) := dk_160 0 7 (dk_at dksX8_cycles_9 0 rfl rfl)
theorem dX8_cycles_216 : decode cX8_cycles 216 = .ok (.iconst 0, 1) := dk_3 (dk_at dksX8_cycles_9 3 rfl rfl)
theorem dX8_cycles_217 : decode cX8_cycles 217 = .ok (.goto 4, 3) := dk_167 0 4 (dk_at dksX8_cycles_9 4 rfl rfl)
theorem dX8_cycles_220 : decode cX8_cycles 220 = .ok (.iconst 1, 1) := dk_4 (dk_at dksX8_cycles_9 7 rfl rfl)
theorem dX8_cycles_221 : decode cX8_cycles 221 = .ok (.iadd, 1) := dk_96 (dk_at dksX8_cycles_9 8 rfl rfl)
theorem dX8_cycles_222 : decode cX8_cycles 222 = .ok (.iastore, 1) := dk_79 (dk_at dksX8_cycles_9 9 rfl rfl)
theorem dX8_cycles_223 : decode cX8_cycles 223 = .ok (.aload_n 0, 1) := dk_42 (dk_at dksX8_cycles_9 10 rfl rfl)
theorem dX8_cycles_224 : decode cX8_cycles 224 = .ok (.iload_n 2, 1) := dk_28 (dk_at dksX8_cycles_9 11 rfl rfl)
theorem dX8_cycles_225 : decode cX8_cycles 225 = .ok (.invokevirtual 68, 3) := dk_182 0 68 (dk_at dksX8_cycles_9 12 rfl rfl)
theorem dX8_cycles_228 : decode cX8_cycles 228 = .ok (.aload_n 0, 1) := dk_42 (dk_at dksX8_cycles_9 15 rfl rfl)
theorem dX8_cycles_229 : decode cX8_cycles 229 = .ok (.getfield 7, 3) := dk_180 0 7 (dk_at dksX8_cycles_9 16 rfl rfl)
theorem dX8_cycles_232 : decode cX8_cycles 232 = .ok (.sipush 232, 3) := dk_17 0 232 (dk_at dksX8_cycles_9 19 rfl rfl)
theorem dX8_cycles_235 : decode cX8_cycles 235 = .ok (.dup2, 1) := dk_92 (dk_at dksX8_cycles_9 22 rfl rfl)
theorem dX8_cycles_236 : decode cX8_cycles 236 = .ok (.iaload, 1) := dk_46 (dk_at dksX8_cycles_9 23 rfl rfl)
theorem dX8_cycles_237 : decode cX8_cycles 237 = .ok (.iconst 1, 1) := dk_4 (dk_at dksX8_cycles_10 0 rfl rfl)
theorem dX8_cycles_238 : decode cX8_cycles 238 = .ok (.iadd, 1) := dk_96 (dk_at dksX8_cycles_10 1 rfl rfl)
theorem dX8_cycles_239 : decode cX8_cycles 239 = .ok (.iastore, 1) := dk_79 (dk_at dksX8_cycles_10 2 rfl rfl)
theorem dX8_cycles_240 : decode cX8_cycles 240 = .ok (.return_, 1) := dk_177 (dk_at dksX8_cycles_10 3 rfl rfl)
abbrev cX8_executes : ByteArray := prog_12_method_16_code
def yX8_executes : MethodName := ⟨RX8, "executes", "(I)V"⟩
def dkwX8_executes_3 : List UInt8 := [96, 46, 42, 180, 0, 7, 16, 56, 6, 28, 104, 96, 5, 96, 46, 182, 0, 49, 177]
abbrev dktX8_executes_3 : List UInt8 := dkwX8_executes_3 ++ []
def dkwX8_executes_2 : List UInt8 := [42, 27, 42, 180, 0, 7, 16, 56, 6, 28, 104, 96, 46, 42, 180, 0, 7, 16, 56, 6, 28, 104, 96, 4]
abbrev dktX8_executes_2 : List UInt8 := dkwX8_executes_2 ++ dktX8_executes_3
def dkwX8_executes_1 : List UInt8 := [180, 0, 7, 27, 3, 184, 0, 22, 3, 79, 177, 42, 180, 0, 7, 27, 4, 184, 0, 22, 28, 4, 96, 79]
abbrev dktX8_executes_1 : List UInt8 := dkwX8_executes_1 ++ dktX8_executes_2
def dkwX8_executes_0 : List UInt8 := [42, 180, 0, 7, 27, 4, 184, 0, 22, 46, 61, 42, 27, 28, 182, 0, 45, 28, 16, 48, 160, 0, 15, 42]
abbrev dktX8_executes_0 : List UInt8 := dkwX8_executes_0 ++ dktX8_executes_1
theorem dksX8_executes_0 : cX8_executes.data.toList.drop 0 = dktX8_executes_0 := by decide +kernel
theorem dksX8_executes_1 : cX8_executes.data.toList.drop 24 = dktX8_executes_1 := dk_seg dksX8_executes_0 24 rfl rfl
theorem dksX8_executes_2 : cX8_executes.data.toList.drop 48 = dktX8_executes_2 := dk_seg dksX8_executes_1 24 rfl rfl
theorem dksX8_executes_3 : cX8_executes.data.toList.drop 72 = dktX8_executes_3 := dk_seg dksX8_executes_2 24 rfl rfl
theorem dX8_executes_0 : decode cX8_executes 0 = .ok (.aload_n 0, 1) := dk_42 (dk_at dksX8_executes_0 0 rfl rfl)
theorem dX8_executes_1 : decode cX8_executes 1 = .ok (.getfield 7, 3) := dk_180 0 7 (dk_at dksX8_executes_0 1 rfl rfl)
theorem dX8_executes_4 : decode cX8_executes 4 = .ok (.iload_n 1, 1) := dk_27 (dk_at dksX8_executes_0 4 rfl rfl)
theorem dX8_executes_5 : decode cX8_executes 5 = .ok (.iconst 1, 1) := dk_4 (dk_at dksX8_executes_0 5 rfl rfl)
theorem dX8_executes_6 : decode cX8_executes 6 = .ok (.invokestatic 22, 3) := dk_184 0 22 (dk_at dksX8_executes_0 6 rfl rfl)
theorem dX8_executes_9 : decode cX8_executes 9 = .ok (.iaload, 1) := dk_46 (dk_at dksX8_executes_0 9 rfl rfl)
theorem dX8_executes_10 : decode cX8_executes 10 = .ok (.istore_n 2, 1) := dk_61 (dk_at dksX8_executes_0 10 rfl rfl)
theorem dX8_executes_11 : decode cX8_executes 11 = .ok (.aload_n 0, 1) := dk_42 (dk_at dksX8_executes_0 11 rfl rfl)
theorem dX8_executes_12 : decode cX8_executes 12 = .ok (.iload_n 1, 1) := dk_27 (dk_at dksX8_executes_0 12 rfl rfl)
theorem dX8_executes_13 : decode cX8_executes 13 = .ok (.iload_n 2, 1) := dk_28 (dk_at dksX8_executes_0 13 rfl rfl)
theorem dX8_executes_14 : decode cX8_executes 14 = .ok (.invokevirtual 45, 3) := dk_182 0 45 (dk_at dksX8_executes_0 14 rfl rfl)
theorem dX8_executes_17 : decode cX8_executes 17 = .ok (.iload_n 2, 1) := dk_28 (dk_at dksX8_executes_0 17 rfl rfl)
theorem dX8_executes_18 : decode cX8_executes 18 = .ok (.bipush 48, 2) := dk_16 48 (dk_at dksX8_executes_0 18 rfl rfl)
theorem dX8_executes_20 : decode cX8_executes 20 = .ok (.if_icmp .ne 15, 3) := dk_160 0 15 (dk_at dksX8_executes_0 20 rfl rfl)
theorem dX8_executes_23 : decode cX8_executes 23 = .ok (.aload_n 0, 1) := dk_42 (dk_at dksX8_executes_0 23 rfl rfl)
theorem dX8_executes_24 : decode cX8_executes 24 = .ok (.getfield 7, 3) := dk_180 0 7 (dk_at dksX8_executes_1 0 rfl rfl)
theorem dX8_executes_27 : decode cX8_executes 27 = .ok (.iload_n 1, 1) := dk_27 (dk_at dksX8_executes_1 3 rfl rfl)
theorem dX8_executes_28 : decode cX8_executes 28 = .ok (.iconst 0, 1) := dk_3 (dk_at dksX8_executes_1 4 rfl rfl)
theorem dX8_executes_29 : decode cX8_executes 29 = .ok (.invokestatic 22, 3) := dk_184 0 22 (dk_at dksX8_executes_1 5 rfl rfl)
theorem dX8_executes_32 : decode cX8_executes 32 = .ok (.iconst 0, 1) := dk_3 (dk_at dksX8_executes_1 8 rfl rfl)
theorem dX8_executes_33 : decode cX8_executes 33 = .ok (.iastore, 1) := dk_79 (dk_at dksX8_executes_1 9 rfl rfl)
theorem dX8_executes_34 : decode cX8_executes 34 = .ok (.return_, 1) := dk_177 (dk_at dksX8_executes_1 10 rfl rfl)
theorem dX8_executes_35 : decode cX8_executes 35 = .ok (.aload_n 0, 1) := dk_42 (dk_at dksX8_executes_1 11 rfl rfl)
theorem dX8_executes_36 : decode cX8_executes 36 = .ok (.getfield 7, 3) := dk_180 0 7 (dk_at dksX8_executes_1 12 rfl rfl)
theorem dX8_executes_39 : decode cX8_executes 39 = .ok (.iload_n 1, 1) := dk_27 (dk_at dksX8_executes_1 15 rfl rfl)
theorem dX8_executes_40 : decode cX8_executes 40 = .ok (.iconst 1, 1) := dk_4 (dk_at dksX8_executes_1 16 rfl rfl)
theorem dX8_executes_41 : decode cX8_executes 41 = .ok (.invokestatic 22, 3) := dk_184 0 22 (dk_at dksX8_executes_1 17 rfl rfl)
theorem dX8_executes_44 : decode cX8_executes 44 = .ok (.iload_n 2, 1) := dk_28 (dk_at dksX8_executes_1 20 rfl rfl)
theorem dX8_executes_45 : decode cX8_executes 45 = .ok (.iconst 1, 1) := dk_4 (dk_at dksX8_executes_1 21 rfl rfl)
theorem dX8_executes_46 : decode cX8_executes 46 = .ok (.iadd, 1) := dk_96 (dk_at dksX8_executes_1 22 rfl rfl)
theorem dX8_executes_47 : decode cX8_executes 47 = .ok (.iastore, 1) := dk_79 (dk_at dksX8_executes_1 23 rfl rfl)
theorem dX8_executes_48 : decode cX8_executes 48 = .ok (.aload_n 0, 1) := dk_42 (dk_at dksX8_executes_2 0 rfl rfl)
theorem dX8_executes_49 : decode cX8_executes 49 = .ok (.iload_n 1, 1) := dk_27 (dk_at dksX8_executes_2 1 rfl rfl)
theorem dX8_executes_50 : decode cX8_executes 50 = .ok (.aload_n 0, 1) := dk_42 (dk_at dksX8_executes_2 2 rfl rfl)
theorem dX8_executes_51 : decode cX8_executes 51 = .ok (.getfield 7, 3) := dk_180 0 7 (dk_at dksX8_executes_2 3 rfl rfl)
theorem dX8_executes_54 : decode cX8_executes 54 = .ok (.bipush 56, 2) := dk_16 56 (dk_at dksX8_executes_2 6 rfl rfl)
theorem dX8_executes_56 : decode cX8_executes 56 = .ok (.iconst 3, 1) := dk_6 (dk_at dksX8_executes_2 8 rfl rfl)
theorem dX8_executes_57 : decode cX8_executes 57 = .ok (.iload_n 2, 1) := dk_28 (dk_at dksX8_executes_2 9 rfl rfl)
theorem dX8_executes_58 : decode cX8_executes 58 = .ok (.imul, 1) := dk_104 (dk_at dksX8_executes_2 10 rfl rfl)
theorem dX8_executes_59 : decode cX8_executes 59 = .ok (.iadd, 1) := dk_96 (dk_at dksX8_executes_2 11 rfl rfl)
theorem dX8_executes_60 : decode cX8_executes 60 = .ok (.iaload, 1) := dk_46 (dk_at dksX8_executes_2 12 rfl rfl)
theorem dX8_executes_61 : decode cX8_executes 61 = .ok (.aload_n 0, 1) := dk_42 (dk_at dksX8_executes_2 13 rfl rfl)
theorem dX8_executes_62 : decode cX8_executes 62 = .ok (.getfield 7, 3) := dk_180 0 7 (dk_at dksX8_executes_2 14 rfl rfl)
theorem dX8_executes_65 : decode cX8_executes 65 = .ok (.bipush 56, 2) := dk_16 56 (dk_at dksX8_executes_2 17 rfl rfl)
theorem dX8_executes_67 : decode cX8_executes 67 = .ok (.iconst 3, 1) := dk_6 (dk_at dksX8_executes_2 19 rfl rfl)
theorem dX8_executes_68 : decode cX8_executes 68 = .ok (.iload_n 2, 1) := dk_28 (dk_at dksX8_executes_2 20 rfl rfl)
theorem dX8_executes_69 : decode cX8_executes 69 = .ok (.imul, 1) := dk_104 (dk_at dksX8_executes_2 21 rfl rfl)
theorem dX8_executes_70 : decode cX8_executes 70 = .ok (.iadd, 1) := dk_96 (dk_at dksX8_executes_2 22 rfl rfl)
theorem dX8_executes_71 : decode cX8_executes 71 = .ok (.iconst 1, 1) := dk_4 (dk_at dksX8_executes_2 23 rfl rfl)
theorem dX8_executes_72 : decode cX8_executes 72 = .ok (.iadd, 1) := dk_96 (dk_at dksX8_executes_3 0 rfl rfl)
theorem dX8_executes_73 : decode cX8_executes 73 = .ok (.iaload, 1) := dk_46 (dk_at dksX8_executes_3 1 rfl rfl)
theorem dX8_executes_74 : decode cX8_executes 74 = .ok (.aload_n 0, 1) := dk_42 (dk_at dksX8_executes_3 2 rfl rfl)
theorem dX8_executes_75 : decode cX8_executes 75 = .ok (.getfield 7, 3) := dk_180 0 7 (dk_at dksX8_executes_3 3 rfl rfl)
theorem dX8_executes_78 : decode cX8_executes 78 = .ok (.bipush 56, 2) := dk_16 56 (dk_at dksX8_executes_3 6 rfl rfl)
theorem dX8_executes_80 : decode cX8_executes 80 = .ok (.iconst 3, 1) := dk_6 (dk_at dksX8_executes_3 8 rfl rfl)
theorem dX8_executes_81 : decode cX8_executes 81 = .ok (.iload_n 2, 1) := dk_28 (dk_at dksX8_executes_3 9 rfl rfl)
theorem dX8_executes_82 : decode cX8_executes 82 = .ok (.imul, 1) := dk_104 (dk_at dksX8_executes_3 10 rfl rfl)
theorem dX8_executes_83 : decode cX8_executes 83 = .ok (.iadd, 1) := dk_96 (dk_at dksX8_executes_3 11 rfl rfl)
theorem dX8_executes_84 : decode cX8_executes 84 = .ok (.iconst 2, 1) := dk_5 (dk_at dksX8_executes_3 12 rfl rfl)
theorem dX8_executes_85 : decode cX8_executes 85 = .ok (.iadd, 1) := dk_96 (dk_at dksX8_executes_3 13 rfl rfl)
theorem dX8_executes_86 : decode cX8_executes 86 = .ok (.iaload, 1) := dk_46 (dk_at dksX8_executes_3 14 rfl rfl)
theorem dX8_executes_87 : decode cX8_executes 87 = .ok (.invokevirtual 49, 3) := dk_182 0 49 (dk_at dksX8_executes_3 15 rfl rfl)
theorem dX8_executes_90 : decode cX8_executes 90 = .ok (.return_, 1) := dk_177 (dk_at dksX8_executes_3 18 rfl rfl)
abbrev cX8_traces : ByteArray := prog_12_method_15_code
def yX8_traces : MethodName := ⟨RX8, "traces", "(II)V"⟩
def dkwX8_traces_4 : List UInt8 := [167, 0, 4, 3, 96, 79, 177]
abbrev dktX8_traces_4 : List UInt8 := dkwX8_traces_4 ++ []
def dkwX8_traces_3 : List UInt8 := [180, 0, 7, 17, 1, 36, 92, 46, 42, 180, 0, 7, 17, 1, 36, 46, 16, 16, 162, 0, 7, 4]
abbrev dktX8_traces_3 : List UInt8 := dkwX8_traces_3 ++ dktX8_traces_4
def dkwX8_traces_2 : List UInt8 := [17, 0, 232, 46, 79, 42, 180, 0, 7, 17, 1, 38, 27, 79, 42, 180, 0, 7, 17, 1, 39, 28, 79, 42]
abbrev dktX8_traces_2 : List UInt8 := dkwX8_traces_2 ++ dktX8_traces_3
def dkwX8_traces_1 : List UInt8 := [29, 96, 6, 100, 46, 79, 132, 3, 255, 167, 255, 226, 42, 180, 0, 7, 17, 1, 37, 42, 180, 0, 7]
abbrev dktX8_traces_1 : List UInt8 := dkwX8_traces_1 ++ dktX8_traces_2
def dkwX8_traces_0 : List UInt8 := [16, 47, 62, 29, 5, 164, 0, 31, 42, 180, 0, 7, 17, 1, 37, 29, 96, 42, 180, 0, 7, 17, 1, 37]
abbrev dktX8_traces_0 : List UInt8 := dkwX8_traces_0 ++ dktX8_traces_1
theorem dksX8_traces_0 : cX8_traces.data.toList.drop 0 = dktX8_traces_0 := by decide +kernel
theorem dksX8_traces_1 : cX8_traces.data.toList.drop 24 = dktX8_traces_1 := dk_seg dksX8_traces_0 24 rfl rfl
theorem dksX8_traces_2 : cX8_traces.data.toList.drop 47 = dktX8_traces_2 := dk_seg dksX8_traces_1 23 rfl rfl
theorem dksX8_traces_3 : cX8_traces.data.toList.drop 71 = dktX8_traces_3 := dk_seg dksX8_traces_2 24 rfl rfl
theorem dksX8_traces_4 : cX8_traces.data.toList.drop 93 = dktX8_traces_4 := dk_seg dksX8_traces_3 22 rfl rfl
theorem dX8_traces_0 : decode cX8_traces 0 = .ok (.bipush 47, 2) := dk_16 47 (dk_at dksX8_traces_0 0 rfl rfl)
theorem dX8_traces_2 : decode cX8_traces 2 = .ok (.istore_n 3, 1) := dk_62 (dk_at dksX8_traces_0 2 rfl rfl)
theorem dX8_traces_3 : decode cX8_traces 3 = .ok (.iload_n 3, 1) := dk_29 (dk_at dksX8_traces_0 3 rfl rfl)
theorem dX8_traces_4 : decode cX8_traces 4 = .ok (.iconst 2, 1) := dk_5 (dk_at dksX8_traces_0 4 rfl rfl)
theorem dX8_traces_5 : decode cX8_traces 5 = .ok (.if_icmp .le 31, 3) := dk_164 0 31 (dk_at dksX8_traces_0 5 rfl rfl)
theorem dX8_traces_8 : decode cX8_traces 8 = .ok (.aload_n 0, 1) := dk_42 (dk_at dksX8_traces_0 8 rfl rfl)
theorem dX8_traces_9 : decode cX8_traces 9 = .ok (.getfield 7, 3) := dk_180 0 7 (dk_at dksX8_traces_0 9 rfl rfl)
theorem dX8_traces_12 : decode cX8_traces 12 = .ok (.sipush 293, 3) := dk_17 1 37 (dk_at dksX8_traces_0 12 rfl rfl)
theorem dX8_traces_15 : decode cX8_traces 15 = .ok (.iload_n 3, 1) := dk_29 (dk_at dksX8_traces_0 15 rfl rfl)
theorem dX8_traces_16 : decode cX8_traces 16 = .ok (.iadd, 1) := dk_96 (dk_at dksX8_traces_0 16 rfl rfl)
theorem dX8_traces_17 : decode cX8_traces 17 = .ok (.aload_n 0, 1) := dk_42 (dk_at dksX8_traces_0 17 rfl rfl)
theorem dX8_traces_18 : decode cX8_traces 18 = .ok (.getfield 7, 3) := dk_180 0 7 (dk_at dksX8_traces_0 18 rfl rfl)
theorem dX8_traces_21 : decode cX8_traces 21 = .ok (.sipush 293, 3) := dk_17 1 37 (dk_at dksX8_traces_0 21 rfl rfl)
theorem dX8_traces_24 : decode cX8_traces 24 = .ok (.iload_n 3, 1) := dk_29 (dk_at dksX8_traces_1 0 rfl rfl)
theorem dX8_traces_25 : decode cX8_traces 25 = .ok (.iadd, 1) := dk_96 (dk_at dksX8_traces_1 1 rfl rfl)
theorem dX8_traces_26 : decode cX8_traces 26 = .ok (.iconst 3, 1) := dk_6 (dk_at dksX8_traces_1 2 rfl rfl)
theorem dX8_traces_27 : decode cX8_traces 27 = .ok (.isub, 1) := dk_100 (dk_at dksX8_traces_1 3 rfl rfl)
theorem dX8_traces_28 : decode cX8_traces 28 = .ok (.iaload, 1) := dk_46 (dk_at dksX8_traces_1 4 rfl rfl)
theorem dX8_traces_29 : decode cX8_traces 29 = .ok (.iastore, 1) := dk_79 (dk_at dksX8_traces_1 5 rfl rfl)
theorem dX8_traces_30 : decode cX8_traces 30 = .ok (.iinc 3 (-1), 3) := dk_132 3 255 (dk_at dksX8_traces_1 6 rfl rfl)
theorem dX8_traces_33 : decode cX8_traces 33 = .ok (.goto (-30), 3) := dk_167 255 226 (dk_at dksX8_traces_1 9 rfl rfl)
theorem dX8_traces_36 : decode cX8_traces 36 = .ok (.aload_n 0, 1) := dk_42 (dk_at dksX8_traces_1 12 rfl rfl)
theorem dX8_traces_37 : decode cX8_traces 37 = .ok (.getfield 7, 3) := dk_180 0 7 (dk_at dksX8_traces_1 13 rfl rfl)
theorem dX8_traces_40 : decode cX8_traces 40 = .ok (.sipush 293, 3) := dk_17 1 37 (dk_at dksX8_traces_1 16 rfl rfl)
theorem dX8_traces_43 : decode cX8_traces 43 = .ok (.aload_n 0, 1) := dk_42 (dk_at dksX8_traces_1 19 rfl rfl)
theorem dX8_traces_44 : decode cX8_traces 44 = .ok (.getfield 7, 3) := dk_180 0 7 (dk_at dksX8_traces_1 20 rfl rfl)
theorem dX8_traces_47 : decode cX8_traces 47 = .ok (.sipush 232, 3) := dk_17 0 232 (dk_at dksX8_traces_2 0 rfl rfl)
theorem dX8_traces_50 : decode cX8_traces 50 = .ok (.iaload, 1) := dk_46 (dk_at dksX8_traces_2 3 rfl rfl)
theorem dX8_traces_51 : decode cX8_traces 51 = .ok (.iastore, 1) := dk_79 (dk_at dksX8_traces_2 4 rfl rfl)
theorem dX8_traces_52 : decode cX8_traces 52 = .ok (.aload_n 0, 1) := dk_42 (dk_at dksX8_traces_2 5 rfl rfl)
theorem dX8_traces_53 : decode cX8_traces 53 = .ok (.getfield 7, 3) := dk_180 0 7 (dk_at dksX8_traces_2 6 rfl rfl)
theorem dX8_traces_56 : decode cX8_traces 56 = .ok (.sipush 294, 3) := dk_17 1 38 (dk_at dksX8_traces_2 9 rfl rfl)
theorem dX8_traces_59 : decode cX8_traces 59 = .ok (.iload_n 1, 1) := dk_27 (dk_at dksX8_traces_2 12 rfl rfl)
theorem dX8_traces_60 : decode cX8_traces 60 = .ok (.iastore, 1) := dk_79 (dk_at dksX8_traces_2 13 rfl rfl)
theorem dX8_traces_61 : decode cX8_traces 61 = .ok (.aload_n 0, 1) := dk_42 (dk_at dksX8_traces_2 14 rfl rfl)
theorem dX8_traces_62 : decode cX8_traces 62 = .ok (.getfield 7, 3) := dk_180 0 7 (dk_at dksX8_traces_2 15 rfl rfl)
theorem dX8_traces_65 : decode cX8_traces 65 = .ok (.sipush 295, 3) := dk_17 1 39 (dk_at dksX8_traces_2 18 rfl rfl)
theorem dX8_traces_68 : decode cX8_traces 68 = .ok (.iload_n 2, 1) := dk_28 (dk_at dksX8_traces_2 21 rfl rfl)
theorem dX8_traces_69 : decode cX8_traces 69 = .ok (.iastore, 1) := dk_79 (dk_at dksX8_traces_2 22 rfl rfl)
theorem dX8_traces_70 : decode cX8_traces 70 = .ok (.aload_n 0, 1) := dk_42 (dk_at dksX8_traces_2 23 rfl rfl)
theorem dX8_traces_71 : decode cX8_traces 71 = .ok (.getfield 7, 3) := dk_180 0 7 (dk_at dksX8_traces_3 0 rfl rfl)
theorem dX8_traces_74 : decode cX8_traces 74 = .ok (.sipush 292, 3) := dk_17 1 36 (dk_at dksX8_traces_3 3 rfl rfl)
theorem dX8_traces_77 : decode cX8_traces 77 = .ok (.dup2, 1) := dk_92 (dk_at dksX8_traces_3 6 rfl rfl)
theorem dX8_traces_78 : decode cX8_traces 78 = .ok (.iaload, 1) := dk_46 (dk_at dksX8_traces_3 7 rfl rfl)
theorem dX8_traces_79 : decode cX8_traces 79 = .ok (.aload_n 0, 1) := dk_42 (dk_at dksX8_traces_3 8 rfl rfl)
theorem dX8_traces_80 : decode cX8_traces 80 = .ok (.getfield 7, 3) := dk_180 0 7 (dk_at dksX8_traces_3 9 rfl rfl)
theorem dX8_traces_83 : decode cX8_traces 83 = .ok (.sipush 292, 3) := dk_17 1 36 (dk_at dksX8_traces_3 12 rfl rfl)
theorem dX8_traces_86 : decode cX8_traces 86 = .ok (.iaload, 1) := dk_46 (dk_at dksX8_traces_3 15 rfl rfl)
theorem dX8_traces_87 : decode cX8_traces 87 = .ok (.bipush 16, 2) := dk_16 16 (dk_at dksX8_traces_3 16 rfl rfl)
theorem dX8_traces_89 : decode cX8_traces 89 = .ok (.if_icmp .ge 7, 3) := dk_162 0 7 (dk_at dksX8_traces_3 18 rfl rfl)
theorem dX8_traces_92 : decode cX8_traces 92 = .ok (.iconst 1, 1) := dk_4 (dk_at dksX8_traces_3 21 rfl rfl)
theorem dX8_traces_93 : decode cX8_traces 93 = .ok (.goto 4, 3) := dk_167 0 4 (dk_at dksX8_traces_4 0 rfl rfl)
theorem dX8_traces_96 : decode cX8_traces 96 = .ok (.iconst 0, 1) := dk_3 (dk_at dksX8_traces_4 3 rfl rfl)
theorem dX8_traces_97 : decode cX8_traces 97 = .ok (.iadd, 1) := dk_96 (dk_at dksX8_traces_4 4 rfl rfl)
theorem dX8_traces_98 : decode cX8_traces 98 = .ok (.iastore, 1) := dk_79 (dk_at dksX8_traces_4 5 rfl rfl)
theorem dX8_traces_99 : decode cX8_traces 99 = .ok (.return_, 1) := dk_177 (dk_at dksX8_traces_4 6 rfl rfl)
abbrev cX8_does : ByteArray := prog_12_method_14_code
def yX8_does : MethodName := ⟨RX8, "does", "(IIII)V"⟩
def dkwX8_does_15 : List UInt8 := [177]
abbrev dktX8_does_15 : List UInt8 := dkwX8_does_15 ++ []
def dkwX8_does_14 : List UInt8 := [180, 0, 7, 27, 3, 184, 0, 22, 6, 79, 167, 0, 14, 42, 180, 0, 7, 27, 3, 184, 0, 22, 3, 79]
abbrev dktX8_does_14 : List UInt8 := dkwX8_does_14 ++ dktX8_does_15
def dkwX8_does_13 : List UInt8 := [21, 4, 42, 27, 29, 182, 0, 34, 156, 0, 7, 4, 167, 0, 4, 3, 182, 0, 41, 167, 0, 28, 42]
abbrev dktX8_does_13 : List UInt8 := dkwX8_does_13 ++ dktX8_does_14
def dkwX8_does_12 : List UInt8 := [21, 4, 42, 27, 29, 182, 0, 34, 154, 0, 7, 4, 167, 0, 4, 3, 182, 0, 41, 167, 0, 52, 42, 27]
abbrev dktX8_does_12 : List UInt8 := dkwX8_does_12 ++ dktX8_does_13
def dkwX8_does_11 : List UInt8 := [42, 180, 0, 7, 21, 5, 21, 6, 79, 167, 0, 86, 42, 27, 29, 4, 182, 0, 41, 167, 0, 76, 42, 27]
abbrev dktX8_does_11 : List UInt8 := dkwX8_does_11 ++ dktX8_does_12
def dkwX8_does_10 : List UInt8 := [167, 0, 119, 42, 27, 29, 182, 0, 34, 54, 6, 42, 27, 29, 42, 180, 0, 7, 21, 5, 46, 182, 0, 37]
abbrev dktX8_does_10 : List UInt8 := dkwX8_does_10 ++ dktX8_does_11
def dkwX8_does_9 : List UInt8 := [17, 0, 242, 46, 96, 79, 167, 0, 135, 42, 180, 0, 7, 21, 5, 42, 27, 29, 182, 0, 34, 79]
abbrev dktX8_does_9 : List UInt8 := dkwX8_does_9 ++ dktX8_does_10
def dkwX8_does_8 : List UInt8 := [42, 180, 0, 7, 27, 16, 8, 184, 0, 22, 42, 180, 0, 7, 17, 0, 232, 46, 4, 96, 42, 180, 0, 7]
abbrev dktX8_does_8 : List UInt8 := dkwX8_does_8 ++ dktX8_does_9
def dkwX8_does_7 : List UInt8 := [180, 0, 7, 27, 16, 6, 184, 0, 22, 29, 79, 42, 180, 0, 7, 27, 16, 7, 184, 0, 22, 21, 5, 79]
abbrev dktX8_does_7 : List UInt8 := dkwX8_does_7 ++ dktX8_does_8
def dkwX8_does_6 : List UInt8 := [182, 0, 34, 104, 182, 0, 37, 167, 0, 204, 42, 180, 0, 7, 27, 3, 184, 0, 22, 5, 79, 42]
abbrev dktX8_does_6 : List UInt8 := dkwX8_does_6 ++ dktX8_does_7
def dkwX8_does_5 : List UInt8 := [182, 0, 34, 100, 182, 0, 37, 167, 0, 227, 42, 27, 29, 42, 27, 29, 182, 0, 34, 42, 27, 21, 4]
abbrev dktX8_does_5 : List UInt8 := dkwX8_does_5 ++ dktX8_does_6
def dkwX8_does_4 : List UInt8 := [182, 0, 34, 96, 182, 0, 37, 167, 0, 250, 42, 27, 29, 42, 27, 29, 182, 0, 34, 42, 27, 21, 4]
abbrev dktX8_does_4 : List UInt8 := dkwX8_does_4 ++ dktX8_does_5
def dkwX8_does_3 : List UInt8 := [42, 27, 29, 21, 4, 182, 0, 37, 167, 1, 17, 42, 27, 29, 42, 27, 29, 182, 0, 34, 42, 27, 21, 4]
abbrev dktX8_does_3 : List UInt8 := dkwX8_does_3 ++ dktX8_does_4
def dkwX8_does_2 : List UInt8 := [170, 0, 0, 0, 0, 1, 73, 0, 0, 0, 0, 0, 0, 0, 10, 0, 0, 0, 59, 0, 0, 0, 70, 0, 0, 0, 93, 0, 0, 0, 116, 0, 0, 0, 139, 0, 0, 0, 208, 0, 0, 0, 224, 0, 0, 1, 1, 0, 0, 1, 11, 0, 0, 1, 35, 0, 0, 1, 59]
abbrev dktX8_does_2 : List UInt8 := dkwX8_does_2 ++ dktX8_does_3
def dkwX8_does_1 : List UInt8 := [167, 0, 6, 17, 0, 200, 54, 5, 28]
abbrev dktX8_does_1 : List UInt8 := dkwX8_does_1 ++ dktX8_does_2
def dkwX8_does_0 : List UInt8 := [21, 4, 3, 6, 184, 0, 26, 153, 0, 20, 17, 0, 200, 42, 27, 21, 4, 182, 0, 34, 16, 31, 126, 96]
abbrev dktX8_does_0 : List UInt8 := dkwX8_does_0 ++ dktX8_does_1
theorem dksX8_does_0 : cX8_does.data.toList.drop 0 = dktX8_does_0 := by decide +kernel
theorem dksX8_does_1 : cX8_does.data.toList.drop 24 = dktX8_does_1 := dk_seg dksX8_does_0 24 rfl rfl
theorem dksX8_does_2 : cX8_does.data.toList.drop 33 = dktX8_does_2 := dk_seg dksX8_does_1 9 rfl rfl
theorem dksX8_does_3 : cX8_does.data.toList.drop 92 = dktX8_does_3 := dk_seg dksX8_does_2 59 rfl rfl
theorem dksX8_does_4 : cX8_does.data.toList.drop 116 = dktX8_does_4 := dk_seg dksX8_does_3 24 rfl rfl
theorem dksX8_does_5 : cX8_does.data.toList.drop 139 = dktX8_does_5 := dk_seg dksX8_does_4 23 rfl rfl
theorem dksX8_does_6 : cX8_does.data.toList.drop 162 = dktX8_does_6 := dk_seg dksX8_does_5 23 rfl rfl
theorem dksX8_does_7 : cX8_does.data.toList.drop 184 = dktX8_does_7 := dk_seg dksX8_does_6 22 rfl rfl
theorem dksX8_does_8 : cX8_does.data.toList.drop 208 = dktX8_does_8 := dk_seg dksX8_does_7 24 rfl rfl
theorem dksX8_does_9 : cX8_does.data.toList.drop 232 = dktX8_does_9 := dk_seg dksX8_does_8 24 rfl rfl
theorem dksX8_does_10 : cX8_does.data.toList.drop 254 = dktX8_does_10 := dk_seg dksX8_does_9 22 rfl rfl
theorem dksX8_does_11 : cX8_does.data.toList.drop 278 = dktX8_does_11 := dk_seg dksX8_does_10 24 rfl rfl
theorem dksX8_does_12 : cX8_does.data.toList.drop 302 = dktX8_does_12 := dk_seg dksX8_does_11 24 rfl rfl
theorem dksX8_does_13 : cX8_does.data.toList.drop 326 = dktX8_does_13 := dk_seg dksX8_does_12 24 rfl rfl
theorem dksX8_does_14 : cX8_does.data.toList.drop 349 = dktX8_does_14 := dk_seg dksX8_does_13 23 rfl rfl
theorem dksX8_does_15 : cX8_does.data.toList.drop 373 = dktX8_does_15 := dk_seg dksX8_does_14 24 rfl rfl
theorem dX8_does_0 : decode cX8_does 0 = .ok (.iload 4, 2) := dk_21 4 (dk_at dksX8_does_0 0 rfl rfl)
theorem dX8_does_2 : decode cX8_does 2 = .ok (.iconst 0, 1) := dk_3 (dk_at dksX8_does_0 2 rfl rfl)
theorem dX8_does_3 : decode cX8_does 3 = .ok (.iconst 3, 1) := dk_6 (dk_at dksX8_does_0 3 rfl rfl)
theorem dX8_does_4 : decode cX8_does 4 = .ok (.invokestatic 26, 3) := dk_184 0 26 (dk_at dksX8_does_0 4 rfl rfl)
theorem dX8_does_7 : decode cX8_does 7 = .ok (.ifCond .eq 20, 3) := dk_153 0 20 (dk_at dksX8_does_0 7 rfl rfl)
theorem dX8_does_10 : decode cX8_does 10 = .ok (.sipush 200, 3) := dk_17 0 200 (dk_at dksX8_does_0 10 rfl rfl)
theorem dX8_does_13 : decode cX8_does 13 = .ok (.aload_n 0, 1) := dk_42 (dk_at dksX8_does_0 13 rfl rfl)
theorem dX8_does_14 : decode cX8_does 14 = .ok (.iload_n 1, 1) := dk_27 (dk_at dksX8_does_0 14 rfl rfl)
theorem dX8_does_15 : decode cX8_does 15 = .ok (.iload 4, 2) := dk_21 4 (dk_at dksX8_does_0 15 rfl rfl)
theorem dX8_does_17 : decode cX8_does 17 = .ok (.invokevirtual 34, 3) := dk_182 0 34 (dk_at dksX8_does_0 17 rfl rfl)
theorem dX8_does_20 : decode cX8_does 20 = .ok (.bipush 31, 2) := dk_16 31 (dk_at dksX8_does_0 20 rfl rfl)
theorem dX8_does_22 : decode cX8_does 22 = .ok (.iand, 1) := dk_126 (dk_at dksX8_does_0 22 rfl rfl)
theorem dX8_does_23 : decode cX8_does 23 = .ok (.iadd, 1) := dk_96 (dk_at dksX8_does_0 23 rfl rfl)
theorem dX8_does_24 : decode cX8_does 24 = .ok (.goto 6, 3) := dk_167 0 6 (dk_at dksX8_does_1 0 rfl rfl)
theorem dX8_does_27 : decode cX8_does 27 = .ok (.sipush 200, 3) := dk_17 0 200 (dk_at dksX8_does_1 3 rfl rfl)
theorem dX8_does_30 : decode cX8_does 30 = .ok (.istore 5, 2) := dk_54 5 (dk_at dksX8_does_1 6 rfl rfl)
theorem dX8_does_32 : decode cX8_does 32 = .ok (.iload_n 2, 1) := dk_28 (dk_at dksX8_does_1 8 rfl rfl)
theorem dX8_does_33 : decode cX8_does 33 = .ok (.tableswitch 329 0 10 #[59, 70, 93, 116, 139, 208, 224, 257, 267, 291, 315], 59) := by decide +kernel
theorem dX8_does_92 : decode cX8_does 92 = .ok (.aload_n 0, 1) := dk_42 (dk_at dksX8_does_3 0 rfl rfl)
theorem dX8_does_93 : decode cX8_does 93 = .ok (.iload_n 1, 1) := dk_27 (dk_at dksX8_does_3 1 rfl rfl)
theorem dX8_does_94 : decode cX8_does 94 = .ok (.iload_n 3, 1) := dk_29 (dk_at dksX8_does_3 2 rfl rfl)
theorem dX8_does_95 : decode cX8_does 95 = .ok (.iload 4, 2) := dk_21 4 (dk_at dksX8_does_3 3 rfl rfl)
theorem dX8_does_97 : decode cX8_does 97 = .ok (.invokevirtual 37, 3) := dk_182 0 37 (dk_at dksX8_does_3 5 rfl rfl)
theorem dX8_does_100 : decode cX8_does 100 = .ok (.goto 273, 3) := dk_167 1 17 (dk_at dksX8_does_3 8 rfl rfl)
theorem dX8_does_103 : decode cX8_does 103 = .ok (.aload_n 0, 1) := dk_42 (dk_at dksX8_does_3 11 rfl rfl)
theorem dX8_does_104 : decode cX8_does 104 = .ok (.iload_n 1, 1) := dk_27 (dk_at dksX8_does_3 12 rfl rfl)
theorem dX8_does_105 : decode cX8_does 105 = .ok (.iload_n 3, 1) := dk_29 (dk_at dksX8_does_3 13 rfl rfl)
theorem dX8_does_106 : decode cX8_does 106 = .ok (.aload_n 0, 1) := dk_42 (dk_at dksX8_does_3 14 rfl rfl)
theorem dX8_does_107 : decode cX8_does 107 = .ok (.iload_n 1, 1) := dk_27 (dk_at dksX8_does_3 15 rfl rfl)
theorem dX8_does_108 : decode cX8_does 108 = .ok (.iload_n 3, 1) := dk_29 (dk_at dksX8_does_3 16 rfl rfl)
theorem dX8_does_109 : decode cX8_does 109 = .ok (.invokevirtual 34, 3) := dk_182 0 34 (dk_at dksX8_does_3 17 rfl rfl)
theorem dX8_does_112 : decode cX8_does 112 = .ok (.aload_n 0, 1) := dk_42 (dk_at dksX8_does_3 20 rfl rfl)
theorem dX8_does_113 : decode cX8_does 113 = .ok (.iload_n 1, 1) := dk_27 (dk_at dksX8_does_3 21 rfl rfl)
theorem dX8_does_114 : decode cX8_does 114 = .ok (.iload 4, 2) := dk_21 4 (dk_at dksX8_does_3 22 rfl rfl)
theorem dX8_does_116 : decode cX8_does 116 = .ok (.invokevirtual 34, 3) := dk_182 0 34 (dk_at dksX8_does_4 0 rfl rfl)
theorem dX8_does_119 : decode cX8_does 119 = .ok (.iadd, 1) := dk_96 (dk_at dksX8_does_4 3 rfl rfl)
theorem dX8_does_120 : decode cX8_does 120 = .ok (.invokevirtual 37, 3) := dk_182 0 37 (dk_at dksX8_does_4 4 rfl rfl)
theorem dX8_does_123 : decode cX8_does 123 = .ok (.goto 250, 3) := dk_167 0 250 (dk_at dksX8_does_4 7 rfl rfl)
theorem dX8_does_126 : decode cX8_does 126 = .ok (.aload_n 0, 1) := dk_42 (dk_at dksX8_does_4 10 rfl rfl)
theorem dX8_does_127 : decode cX8_does 127 = .ok (.iload_n 1, 1) := dk_27 (dk_at dksX8_does_4 11 rfl rfl)
theorem dX8_does_128 : decode cX8_does 128 = .ok (.iload_n 3, 1) := dk_29 (dk_at dksX8_does_4 12 rfl rfl)
theorem dX8_does_129 : decode cX8_does 129 = .ok (.aload_n 0, 1) := dk_42 (dk_at dksX8_does_4 13 rfl rfl)
theorem dX8_does_130 : decode cX8_does 130 = .ok (.iload_n 1, 1) := dk_27 (dk_at dksX8_does_4 14 rfl rfl)
theorem dX8_does_131 : decode cX8_does 131 = .ok (.iload_n 3, 1) := dk_29 (dk_at dksX8_does_4 15 rfl rfl)
theorem dX8_does_132 : decode cX8_does 132 = .ok (.invokevirtual 34, 3) := dk_182 0 34 (dk_at dksX8_does_4 16 rfl rfl)
theorem dX8_does_135 : decode cX8_does 135 = .ok (.aload_n 0, 1) := dk_42 (dk_at dksX8_does_4 19 rfl rfl)
theorem dX8_does_136 : decode cX8_does 136 = .ok (.iload_n 1, 1) := dk_27 (dk_at dksX8_does_4 20 rfl rfl)
theorem dX8_does_137 : decode cX8_does 137 = .ok (.iload 4, 2) := dk_21 4 (dk_at dksX8_does_4 21 rfl rfl)
theorem dX8_does_139 : decode cX8_does 139 = .ok (.invokevirtual 34, 3) := dk_182 0 34 (dk_at dksX8_does_5 0 rfl rfl)
theorem dX8_does_142 : decode cX8_does 142 = .ok (.isub, 1) := dk_100 (dk_at dksX8_does_5 3 rfl rfl)
theorem dX8_does_143 : decode cX8_does 143 = .ok (.invokevirtual 37, 3) := dk_182 0 37 (dk_at dksX8_does_5 4 rfl rfl)
theorem dX8_does_146 : decode cX8_does 146 = .ok (.goto 227, 3) := dk_167 0 227 (dk_at dksX8_does_5 7 rfl rfl)
theorem dX8_does_149 : decode cX8_does 149 = .ok (.aload_n 0, 1) := dk_42 (dk_at dksX8_does_5 10 rfl rfl)
theorem dX8_does_150 : decode cX8_does 150 = .ok (.iload_n 1, 1) := dk_27 (dk_at dksX8_does_5 11 rfl rfl)
theorem dX8_does_151 : decode cX8_does 151 = .ok (.iload_n 3, 1) := dk_29 (dk_at dksX8_does_5 12 rfl rfl)
theorem dX8_does_152 : decode cX8_does 152 = .ok (.aload_n 0, 1) := dk_42 (dk_at dksX8_does_5 13 rfl rfl)
theorem dX8_does_153 : decode cX8_does 153 = .ok (.iload_n 1, 1) := dk_27 (dk_at dksX8_does_5 14 rfl rfl)
theorem dX8_does_154 : decode cX8_does 154 = .ok (.iload_n 3, 1) := dk_29 (dk_at dksX8_does_5 15 rfl rfl)
theorem dX8_does_155 : decode cX8_does 155 = .ok (.invokevirtual 34, 3) := dk_182 0 34 (dk_at dksX8_does_5 16 rfl rfl)
theorem dX8_does_158 : decode cX8_does 158 = .ok (.aload_n 0, 1) := dk_42 (dk_at dksX8_does_5 19 rfl rfl)
theorem dX8_does_159 : decode cX8_does 159 = .ok (.iload_n 1, 1) := dk_27 (dk_at dksX8_does_5 20 rfl rfl)
theorem dX8_does_160 : decode cX8_does 160 = .ok (.iload 4, 2) := dk_21 4 (dk_at dksX8_does_5 21 rfl rfl)
theorem dX8_does_162 : decode cX8_does 162 = .ok (.invokevirtual 34, 3) := dk_182 0 34 (dk_at dksX8_does_6 0 rfl rfl)
theorem dX8_does_165 : decode cX8_does 165 = .ok (.imul, 1) := dk_104 (dk_at dksX8_does_6 3 rfl rfl)
theorem dX8_does_166 : decode cX8_does 166 = .ok (.invokevirtual 37, 3) := dk_182 0 37 (dk_at dksX8_does_6 4 rfl rfl)
theorem dX8_does_169 : decode cX8_does 169 = .ok (.goto 204, 3) := dk_167 0 204 (dk_at dksX8_does_6 7 rfl rfl)
theorem dX8_does_172 : decode cX8_does 172 = .ok (.aload_n 0, 1) := dk_42 (dk_at dksX8_does_6 10 rfl rfl)
theorem dX8_does_173 : decode cX8_does 173 = .ok (.getfield 7, 3) := dk_180 0 7 (dk_at dksX8_does_6 11 rfl rfl)
theorem dX8_does_176 : decode cX8_does 176 = .ok (.iload_n 1, 1) := dk_27 (dk_at dksX8_does_6 14 rfl rfl)
theorem dX8_does_177 : decode cX8_does 177 = .ok (.iconst 0, 1) := dk_3 (dk_at dksX8_does_6 15 rfl rfl)
theorem dX8_does_178 : decode cX8_does 178 = .ok (.invokestatic 22, 3) := dk_184 0 22 (dk_at dksX8_does_6 16 rfl rfl)
theorem dX8_does_181 : decode cX8_does 181 = .ok (.iconst 2, 1) := dk_5 (dk_at dksX8_does_6 19 rfl rfl)
theorem dX8_does_182 : decode cX8_does 182 = .ok (.iastore, 1) := dk_79 (dk_at dksX8_does_6 20 rfl rfl)
theorem dX8_does_183 : decode cX8_does 183 = .ok (.aload_n 0, 1) := dk_42 (dk_at dksX8_does_6 21 rfl rfl)
theorem dX8_does_184 : decode cX8_does 184 = .ok (.getfield 7, 3) := dk_180 0 7 (dk_at dksX8_does_7 0 rfl rfl)
theorem dX8_does_187 : decode cX8_does 187 = .ok (.iload_n 1, 1) := dk_27 (dk_at dksX8_does_7 3 rfl rfl)
theorem dX8_does_188 : decode cX8_does 188 = .ok (.bipush 6, 2) := dk_16 6 (dk_at dksX8_does_7 4 rfl rfl)
theorem dX8_does_190 : decode cX8_does 190 = .ok (.invokestatic 22, 3) := dk_184 0 22 (dk_at dksX8_does_7 6 rfl rfl)
theorem dX8_does_193 : decode cX8_does 193 = .ok (.iload_n 3, 1) := dk_29 (dk_at dksX8_does_7 9 rfl rfl)
theorem dX8_does_194 : decode cX8_does 194 = .ok (.iastore, 1) := dk_79 (dk_at dksX8_does_7 10 rfl rfl)
theorem dX8_does_195 : decode cX8_does 195 = .ok (.aload_n 0, 1) := dk_42 (dk_at dksX8_does_7 11 rfl rfl)
theorem dX8_does_196 : decode cX8_does 196 = .ok (.getfield 7, 3) := dk_180 0 7 (dk_at dksX8_does_7 12 rfl rfl)
theorem dX8_does_199 : decode cX8_does 199 = .ok (.iload_n 1, 1) := dk_27 (dk_at dksX8_does_7 15 rfl rfl)
theorem dX8_does_200 : decode cX8_does 200 = .ok (.bipush 7, 2) := dk_16 7 (dk_at dksX8_does_7 16 rfl rfl)
theorem dX8_does_202 : decode cX8_does 202 = .ok (.invokestatic 22, 3) := dk_184 0 22 (dk_at dksX8_does_7 18 rfl rfl)
theorem dX8_does_205 : decode cX8_does 205 = .ok (.iload 5, 2) := dk_21 5 (dk_at dksX8_does_7 21 rfl rfl)
theorem dX8_does_207 : decode cX8_does 207 = .ok (.iastore, 1) := dk_79 (dk_at dksX8_does_7 23 rfl rfl)
theorem dX8_does_208 : decode cX8_does 208 = .ok (.aload_n 0, 1) := dk_42 (dk_at dksX8_does_8 0 rfl rfl)
theorem dX8_does_209 : decode cX8_does 209 = .ok (.getfield 7, 3) := dk_180 0 7 (dk_at dksX8_does_8 1 rfl rfl)
theorem dX8_does_212 : decode cX8_does 212 = .ok (.iload_n 1, 1) := dk_27 (dk_at dksX8_does_8 4 rfl rfl)
theorem dX8_does_213 : decode cX8_does 213 = .ok (.bipush 8, 2) := dk_16 8 (dk_at dksX8_does_8 5 rfl rfl)
theorem dX8_does_215 : decode cX8_does 215 = .ok (.invokestatic 22, 3) := dk_184 0 22 (dk_at dksX8_does_8 7 rfl rfl)
theorem dX8_does_218 : decode cX8_does 218 = .ok (.aload_n 0, 1) := dk_42 (dk_at dksX8_does_8 10 rfl rfl)
theorem dX8_does_219 : decode cX8_does 219 = .ok (.getfield 7, 3) := dk_180 0 7 (dk_at dksX8_does_8 11 rfl rfl)
theorem dX8_does_222 : decode cX8_does 222 = .ok (.sipush 232, 3) := dk_17 0 232 (dk_at dksX8_does_8 14 rfl rfl)
theorem dX8_does_225 : decode cX8_does 225 = .ok (.iaload, 1) := dk_46 (dk_at dksX8_does_8 17 rfl rfl)
theorem dX8_does_226 : decode cX8_does 226 = .ok (.iconst 1, 1) := dk_4 (dk_at dksX8_does_8 18 rfl rfl)
theorem dX8_does_227 : decode cX8_does 227 = .ok (.iadd, 1) := dk_96 (dk_at dksX8_does_8 19 rfl rfl)
theorem dX8_does_228 : decode cX8_does 228 = .ok (.aload_n 0, 1) := dk_42 (dk_at dksX8_does_8 20 rfl rfl)
theorem dX8_does_229 : decode cX8_does 229 = .ok (.getfield 7, 3) := dk_180 0 7 (dk_at dksX8_does_8 21 rfl rfl)
theorem dX8_does_232 : decode cX8_does 232 = .ok (.sipush 242, 3) := dk_17 0 242 (dk_at dksX8_does_9 0 rfl rfl)
theorem dX8_does_235 : decode cX8_does 235 = .ok (.iaload, 1) := dk_46 (dk_at dksX8_does_9 3 rfl rfl)
theorem dX8_does_236 : decode cX8_does 236 = .ok (.iadd, 1) := dk_96 (dk_at dksX8_does_9 4 rfl rfl)
theorem dX8_does_237 : decode cX8_does 237 = .ok (.iastore, 1) := dk_79 (dk_at dksX8_does_9 5 rfl rfl)
theorem dX8_does_238 : decode cX8_does 238 = .ok (.goto 135, 3) := dk_167 0 135 (dk_at dksX8_does_9 6 rfl rfl)
theorem dX8_does_241 : decode cX8_does 241 = .ok (.aload_n 0, 1) := dk_42 (dk_at dksX8_does_9 9 rfl rfl)
theorem dX8_does_242 : decode cX8_does 242 = .ok (.getfield 7, 3) := dk_180 0 7 (dk_at dksX8_does_9 10 rfl rfl)
theorem dX8_does_245 : decode cX8_does 245 = .ok (.iload 5, 2) := dk_21 5 (dk_at dksX8_does_9 13 rfl rfl)
theorem dX8_does_247 : decode cX8_does 247 = .ok (.aload_n 0, 1) := dk_42 (dk_at dksX8_does_9 15 rfl rfl)
theorem dX8_does_248 : decode cX8_does 248 = .ok (.iload_n 1, 1) := dk_27 (dk_at dksX8_does_9 16 rfl rfl)
theorem dX8_does_249 : decode cX8_does 249 = .ok (.iload_n 3, 1) := dk_29 (dk_at dksX8_does_9 17 rfl rfl)
theorem dX8_does_250 : decode cX8_does 250 = .ok (.invokevirtual 34, 3) := dk_182 0 34 (dk_at dksX8_does_9 18 rfl rfl)
theorem dX8_does_253 : decode cX8_does 253 = .ok (.iastore, 1) := dk_79 (dk_at dksX8_does_9 21 rfl rfl)
theorem dX8_does_254 : decode cX8_does 254 = .ok (.goto 119, 3) := dk_167 0 119 (dk_at dksX8_does_10 0 rfl rfl)
theorem dX8_does_257 : decode cX8_does 257 = .ok (.aload_n 0, 1) := dk_42 (dk_at dksX8_does_10 3 rfl rfl)
theorem dX8_does_258 : decode cX8_does 258 = .ok (.iload_n 1, 1) := dk_27 (dk_at dksX8_does_10 4 rfl rfl)
theorem dX8_does_259 : decode cX8_does 259 = .ok (.iload_n 3, 1) := dk_29 (dk_at dksX8_does_10 5 rfl rfl)
theorem dX8_does_260 : decode cX8_does 260 = .ok (.invokevirtual 34, 3) := dk_182 0 34 (dk_at dksX8_does_10 6 rfl rfl)
theorem dX8_does_263 : decode cX8_does 263 = .ok (.istore 6, 2) := dk_54 6 (dk_at dksX8_does_10 9 rfl rfl)
theorem dX8_does_265 : decode cX8_does 265 = .ok (.aload_n 0, 1) := dk_42 (dk_at dksX8_does_10 11 rfl rfl)
theorem dX8_does_266 : decode cX8_does 266 = .ok (.iload_n 1, 1) := dk_27 (dk_at dksX8_does_10 12 rfl rfl)
theorem dX8_does_267 : decode cX8_does 267 = .ok (.iload_n 3, 1) := dk_29 (dk_at dksX8_does_10 13 rfl rfl)
theorem dX8_does_268 : decode cX8_does 268 = .ok (.aload_n 0, 1) := dk_42 (dk_at dksX8_does_10 14 rfl rfl)
theorem dX8_does_269 : decode cX8_does 269 = .ok (.getfield 7, 3) := dk_180 0 7 (dk_at dksX8_does_10 15 rfl rfl)
theorem dX8_does_272 : decode cX8_does 272 = .ok (.iload 5, 2) := dk_21 5 (dk_at dksX8_does_10 18 rfl rfl)
theorem dX8_does_274 : decode cX8_does 274 = .ok (.iaload, 1) := dk_46 (dk_at dksX8_does_10 20 rfl rfl)
theorem dX8_does_275 : decode cX8_does 275 = .ok (.invokevirtual 37, 3) := dk_182 0 37 (dk_at dksX8_does_10 21 rfl rfl)
theorem dX8_does_278 : decode cX8_does 278 = .ok (.aload_n 0, 1) := dk_42 (dk_at dksX8_does_11 0 rfl rfl)
theorem dX8_does_279 : decode cX8_does 279 = .ok (.getfield 7, 3) := dk_180 0 7 (dk_at dksX8_does_11 1 rfl rfl)
theorem dX8_does_282 : decode cX8_does 282 = .ok (.iload 5, 2) := dk_21 5 (dk_at dksX8_does_11 4 rfl rfl)
theorem dX8_does_284 : decode cX8_does 284 = .ok (.iload 6, 2) := dk_21 6 (dk_at dksX8_does_11 6 rfl rfl)
theorem dX8_does_286 : decode cX8_does 286 = .ok (.iastore, 1) := dk_79 (dk_at dksX8_does_11 8 rfl rfl)
theorem dX8_does_287 : decode cX8_does 287 = .ok (.goto 86, 3) := dk_167 0 86 (dk_at dksX8_does_11 9 rfl rfl)
theorem dX8_does_290 : decode cX8_does 290 = .ok (.aload_n 0, 1) := dk_42 (dk_at dksX8_does_11 12 rfl rfl)
theorem dX8_does_291 : decode cX8_does 291 = .ok (.iload_n 1, 1) := dk_27 (dk_at dksX8_does_11 13 rfl rfl)
theorem dX8_does_292 : decode cX8_does 292 = .ok (.iload_n 3, 1) := dk_29 (dk_at dksX8_does_11 14 rfl rfl)
theorem dX8_does_293 : decode cX8_does 293 = .ok (.iconst 1, 1) := dk_4 (dk_at dksX8_does_11 15 rfl rfl)
theorem dX8_does_294 : decode cX8_does 294 = .ok (.invokevirtual 41, 3) := dk_182 0 41 (dk_at dksX8_does_11 16 rfl rfl)
theorem dX8_does_297 : decode cX8_does 297 = .ok (.goto 76, 3) := dk_167 0 76 (dk_at dksX8_does_11 19 rfl rfl)
theorem dX8_does_300 : decode cX8_does 300 = .ok (.aload_n 0, 1) := dk_42 (dk_at dksX8_does_11 22 rfl rfl)
theorem dX8_does_301 : decode cX8_does 301 = .ok (.iload_n 1, 1) := dk_27 (dk_at dksX8_does_11 23 rfl rfl)
theorem dX8_does_302 : decode cX8_does 302 = .ok (.iload 4, 2) := dk_21 4 (dk_at dksX8_does_12 0 rfl rfl)
theorem dX8_does_304 : decode cX8_does 304 = .ok (.aload_n 0, 1) := dk_42 (dk_at dksX8_does_12 2 rfl rfl)
theorem dX8_does_305 : decode cX8_does 305 = .ok (.iload_n 1, 1) := dk_27 (dk_at dksX8_does_12 3 rfl rfl)
theorem dX8_does_306 : decode cX8_does 306 = .ok (.iload_n 3, 1) := dk_29 (dk_at dksX8_does_12 4 rfl rfl)
theorem dX8_does_307 : decode cX8_does 307 = .ok (.invokevirtual 34, 3) := dk_182 0 34 (dk_at dksX8_does_12 5 rfl rfl)
theorem dX8_does_310 : decode cX8_does 310 = .ok (.ifCond .ne 7, 3) := dk_154 0 7 (dk_at dksX8_does_12 8 rfl rfl)
theorem dX8_does_313 : decode cX8_does 313 = .ok (.iconst 1, 1) := dk_4 (dk_at dksX8_does_12 11 rfl rfl)
theorem dX8_does_314 : decode cX8_does 314 = .ok (.goto 4, 3) := dk_167 0 4 (dk_at dksX8_does_12 12 rfl rfl)
theorem dX8_does_317 : decode cX8_does 317 = .ok (.iconst 0, 1) := dk_3 (dk_at dksX8_does_12 15 rfl rfl)
theorem dX8_does_318 : decode cX8_does 318 = .ok (.invokevirtual 41, 3) := dk_182 0 41 (dk_at dksX8_does_12 16 rfl rfl)
theorem dX8_does_321 : decode cX8_does 321 = .ok (.goto 52, 3) := dk_167 0 52 (dk_at dksX8_does_12 19 rfl rfl)
theorem dX8_does_324 : decode cX8_does 324 = .ok (.aload_n 0, 1) := dk_42 (dk_at dksX8_does_12 22 rfl rfl)
theorem dX8_does_325 : decode cX8_does 325 = .ok (.iload_n 1, 1) := dk_27 (dk_at dksX8_does_12 23 rfl rfl)
theorem dX8_does_326 : decode cX8_does 326 = .ok (.iload 4, 2) := dk_21 4 (dk_at dksX8_does_13 0 rfl rfl)
theorem dX8_does_328 : decode cX8_does 328 = .ok (.aload_n 0, 1) := dk_42 (dk_at dksX8_does_13 2 rfl rfl)
theorem dX8_does_329 : decode cX8_does 329 = .ok (.iload_n 1, 1) := dk_27 (dk_at dksX8_does_13 3 rfl rfl)
theorem dX8_does_330 : decode cX8_does 330 = .ok (.iload_n 3, 1) := dk_29 (dk_at dksX8_does_13 4 rfl rfl)
theorem dX8_does_331 : decode cX8_does 331 = .ok (.invokevirtual 34, 3) := dk_182 0 34 (dk_at dksX8_does_13 5 rfl rfl)
theorem dX8_does_334 : decode cX8_does 334 = .ok (.ifCond .ge 7, 3) := dk_156 0 7 (dk_at dksX8_does_13 8 rfl rfl)
theorem dX8_does_337 : decode cX8_does 337 = .ok (.iconst 1, 1) := dk_4 (dk_at dksX8_does_13 11 rfl rfl)
theorem dX8_does_338 : decode cX8_does 338 = .ok (.goto 4, 3) := dk_167 0 4 (dk_at dksX8_does_13 12 rfl rfl)
theorem dX8_does_341 : decode cX8_does 341 = .ok (.iconst 0, 1) := dk_3 (dk_at dksX8_does_13 15 rfl rfl)
theorem dX8_does_342 : decode cX8_does 342 = .ok (.invokevirtual 41, 3) := dk_182 0 41 (dk_at dksX8_does_13 16 rfl rfl)
theorem dX8_does_345 : decode cX8_does 345 = .ok (.goto 28, 3) := dk_167 0 28 (dk_at dksX8_does_13 19 rfl rfl)
theorem dX8_does_348 : decode cX8_does 348 = .ok (.aload_n 0, 1) := dk_42 (dk_at dksX8_does_13 22 rfl rfl)
theorem dX8_does_349 : decode cX8_does 349 = .ok (.getfield 7, 3) := dk_180 0 7 (dk_at dksX8_does_14 0 rfl rfl)
theorem dX8_does_352 : decode cX8_does 352 = .ok (.iload_n 1, 1) := dk_27 (dk_at dksX8_does_14 3 rfl rfl)
theorem dX8_does_353 : decode cX8_does 353 = .ok (.iconst 0, 1) := dk_3 (dk_at dksX8_does_14 4 rfl rfl)
theorem dX8_does_354 : decode cX8_does 354 = .ok (.invokestatic 22, 3) := dk_184 0 22 (dk_at dksX8_does_14 5 rfl rfl)
theorem dX8_does_357 : decode cX8_does 357 = .ok (.iconst 3, 1) := dk_6 (dk_at dksX8_does_14 8 rfl rfl)
theorem dX8_does_358 : decode cX8_does 358 = .ok (.iastore, 1) := dk_79 (dk_at dksX8_does_14 9 rfl rfl)
theorem dX8_does_359 : decode cX8_does 359 = .ok (.goto 14, 3) := dk_167 0 14 (dk_at dksX8_does_14 10 rfl rfl)
theorem dX8_does_362 : decode cX8_does 362 = .ok (.aload_n 0, 1) := dk_42 (dk_at dksX8_does_14 13 rfl rfl)
theorem dX8_does_363 : decode cX8_does 363 = .ok (.getfield 7, 3) := dk_180 0 7 (dk_at dksX8_does_14 14 rfl rfl)
theorem dX8_does_366 : decode cX8_does 366 = .ok (.iload_n 1, 1) := dk_27 (dk_at dksX8_does_14 17 rfl rfl)
theorem dX8_does_367 : decode cX8_does 367 = .ok (.iconst 0, 1) := dk_3 (dk_at dksX8_does_14 18 rfl rfl)
theorem dX8_does_368 : decode cX8_does 368 = .ok (.invokestatic 22, 3) := dk_184 0 22 (dk_at dksX8_does_14 19 rfl rfl)
theorem dX8_does_371 : decode cX8_does 371 = .ok (.iconst 0, 1) := dk_3 (dk_at dksX8_does_14 22 rfl rfl)
theorem dX8_does_372 : decode cX8_does 372 = .ok (.iastore, 1) := dk_79 (dk_at dksX8_does_14 23 rfl rfl)
theorem dX8_does_373 : decode cX8_does 373 = .ok (.return_, 1) := dk_177 (dk_at dksX8_does_15 0 rfl rfl)
abbrev cX8_jumps : ByteArray := prog_12_method_13_code
def yX8_jumps : MethodName := ⟨RX8, "jumps", "(IIZ)V"⟩
def dkwX8_jumps_1 : List UInt8 := [184, 0, 22, 46, 79, 177]
abbrev dktX8_jumps_1 : List UInt8 := dkwX8_jumps_1 ++ []
def dkwX8_jumps_0 : List UInt8 := [42, 180, 0, 7, 27, 4, 184, 0, 22, 29, 153, 0, 7, 28, 167, 0, 13, 42, 180, 0, 7, 27, 4]
abbrev dktX8_jumps_0 : List UInt8 := dkwX8_jumps_0 ++ dktX8_jumps_1
theorem dksX8_jumps_0 : cX8_jumps.data.toList.drop 0 = dktX8_jumps_0 := by decide +kernel
theorem dksX8_jumps_1 : cX8_jumps.data.toList.drop 23 = dktX8_jumps_1 := dk_seg dksX8_jumps_0 23 rfl rfl
theorem dX8_jumps_0 : decode cX8_jumps 0 = .ok (.aload_n 0, 1) := dk_42 (dk_at dksX8_jumps_0 0 rfl rfl)
theorem dX8_jumps_1 : decode cX8_jumps 1 = .ok (.getfield 7, 3) := dk_180 0 7 (dk_at dksX8_jumps_0 1 rfl rfl)
theorem dX8_jumps_4 : decode cX8_jumps 4 = .ok (.iload_n 1, 1) := dk_27 (dk_at dksX8_jumps_0 4 rfl rfl)
theorem dX8_jumps_5 : decode cX8_jumps 5 = .ok (.iconst 1, 1) := dk_4 (dk_at dksX8_jumps_0 5 rfl rfl)
theorem dX8_jumps_6 : decode cX8_jumps 6 = .ok (.invokestatic 22, 3) := dk_184 0 22 (dk_at dksX8_jumps_0 6 rfl rfl)
theorem dX8_jumps_9 : decode cX8_jumps 9 = .ok (.iload_n 3, 1) := dk_29 (dk_at dksX8_jumps_0 9 rfl rfl)
theorem dX8_jumps_10 : decode cX8_jumps 10 = .ok (.ifCond .eq 7, 3) := dk_153 0 7 (dk_at dksX8_jumps_0 10 rfl rfl)
theorem dX8_jumps_13 : decode cX8_jumps 13 = .ok (.iload_n 2, 1) := dk_28 (dk_at dksX8_jumps_0 13 rfl rfl)
theorem dX8_jumps_14 : decode cX8_jumps 14 = .ok (.goto 13, 3) := dk_167 0 13 (dk_at dksX8_jumps_0 14 rfl rfl)
theorem dX8_jumps_17 : decode cX8_jumps 17 = .ok (.aload_n 0, 1) := dk_42 (dk_at dksX8_jumps_0 17 rfl rfl)
theorem dX8_jumps_18 : decode cX8_jumps 18 = .ok (.getfield 7, 3) := dk_180 0 7 (dk_at dksX8_jumps_0 18 rfl rfl)
theorem dX8_jumps_21 : decode cX8_jumps 21 = .ok (.iload_n 1, 1) := dk_27 (dk_at dksX8_jumps_0 21 rfl rfl)
theorem dX8_jumps_22 : decode cX8_jumps 22 = .ok (.iconst 1, 1) := dk_4 (dk_at dksX8_jumps_0 22 rfl rfl)
theorem dX8_jumps_23 : decode cX8_jumps 23 = .ok (.invokestatic 22, 3) := dk_184 0 22 (dk_at dksX8_jumps_1 0 rfl rfl)
theorem dX8_jumps_26 : decode cX8_jumps 26 = .ok (.iaload, 1) := dk_46 (dk_at dksX8_jumps_1 3 rfl rfl)
theorem dX8_jumps_27 : decode cX8_jumps 27 = .ok (.iastore, 1) := dk_79 (dk_at dksX8_jumps_1 4 rfl rfl)
theorem dX8_jumps_28 : decode cX8_jumps 28 = .ok (.return_, 1) := dk_177 (dk_at dksX8_jumps_1 5 rfl rfl)
abbrev cX8_append : ByteArray := prog_12_method_33_code
def yX8_append : MethodName := ⟨RX8, "append", "(I)I"⟩
def dkwX8_append_2 : List UInt8 := [180, 0, 81, 172]
abbrev dktX8_append_2 : List UInt8 := dkwX8_append_2 ++ []
def dkwX8_append_1 : List UInt8 := [18, 84, 172, 42, 180, 0, 19, 42, 180, 0, 81, 27, 79, 42, 89, 180, 0, 81, 4, 96, 181, 0, 81, 42]
abbrev dktX8_append_1 : List UInt8 := dkwX8_append_1 ++ dktX8_append_2
def dkwX8_append_0 : List UInt8 := [27, 16, 32, 16, 126, 184, 0, 26, 154, 0, 6, 18, 109, 172, 42, 180, 0, 81, 16, 100, 160, 0, 6]
abbrev dktX8_append_0 : List UInt8 := dkwX8_append_0 ++ dktX8_append_1
theorem dksX8_append_0 : cX8_append.data.toList.drop 0 = dktX8_append_0 := by decide +kernel
theorem dksX8_append_1 : cX8_append.data.toList.drop 23 = dktX8_append_1 := dk_seg dksX8_append_0 23 rfl rfl
theorem dksX8_append_2 : cX8_append.data.toList.drop 47 = dktX8_append_2 := dk_seg dksX8_append_1 24 rfl rfl
theorem dX8_append_0 : decode cX8_append 0 = .ok (.iload_n 1, 1) := dk_27 (dk_at dksX8_append_0 0 rfl rfl)
theorem dX8_append_1 : decode cX8_append 1 = .ok (.bipush 32, 2) := dk_16 32 (dk_at dksX8_append_0 1 rfl rfl)
theorem dX8_append_3 : decode cX8_append 3 = .ok (.bipush 126, 2) := dk_16 126 (dk_at dksX8_append_0 3 rfl rfl)
theorem dX8_append_5 : decode cX8_append 5 = .ok (.invokestatic 26, 3) := dk_184 0 26 (dk_at dksX8_append_0 5 rfl rfl)
theorem dX8_append_8 : decode cX8_append 8 = .ok (.ifCond .ne 6, 3) := dk_154 0 6 (dk_at dksX8_append_0 8 rfl rfl)
theorem dX8_append_11 : decode cX8_append 11 = .ok (.ldc 109, 2) := dk_18 109 (dk_at dksX8_append_0 11 rfl rfl)
theorem dX8_append_13 : decode cX8_append 13 = .ok (.ireturn, 1) := dk_172 (dk_at dksX8_append_0 13 rfl rfl)
theorem dX8_append_14 : decode cX8_append 14 = .ok (.aload_n 0, 1) := dk_42 (dk_at dksX8_append_0 14 rfl rfl)
theorem dX8_append_15 : decode cX8_append 15 = .ok (.getfield 81, 3) := dk_180 0 81 (dk_at dksX8_append_0 15 rfl rfl)
theorem dX8_append_18 : decode cX8_append 18 = .ok (.bipush 100, 2) := dk_16 100 (dk_at dksX8_append_0 18 rfl rfl)
theorem dX8_append_20 : decode cX8_append 20 = .ok (.if_icmp .ne 6, 3) := dk_160 0 6 (dk_at dksX8_append_0 20 rfl rfl)
theorem dX8_append_23 : decode cX8_append 23 = .ok (.ldc 84, 2) := dk_18 84 (dk_at dksX8_append_1 0 rfl rfl)
theorem dX8_append_25 : decode cX8_append 25 = .ok (.ireturn, 1) := dk_172 (dk_at dksX8_append_1 2 rfl rfl)
theorem dX8_append_26 : decode cX8_append 26 = .ok (.aload_n 0, 1) := dk_42 (dk_at dksX8_append_1 3 rfl rfl)
theorem dX8_append_27 : decode cX8_append 27 = .ok (.getfield 19, 3) := dk_180 0 19 (dk_at dksX8_append_1 4 rfl rfl)
theorem dX8_append_30 : decode cX8_append 30 = .ok (.aload_n 0, 1) := dk_42 (dk_at dksX8_append_1 7 rfl rfl)
theorem dX8_append_31 : decode cX8_append 31 = .ok (.getfield 81, 3) := dk_180 0 81 (dk_at dksX8_append_1 8 rfl rfl)
theorem dX8_append_34 : decode cX8_append 34 = .ok (.iload_n 1, 1) := dk_27 (dk_at dksX8_append_1 11 rfl rfl)
theorem dX8_append_35 : decode cX8_append 35 = .ok (.iastore, 1) := dk_79 (dk_at dksX8_append_1 12 rfl rfl)
theorem dX8_append_36 : decode cX8_append 36 = .ok (.aload_n 0, 1) := dk_42 (dk_at dksX8_append_1 13 rfl rfl)
theorem dX8_append_37 : decode cX8_append 37 = .ok (.dup, 1) := dk_89 (dk_at dksX8_append_1 14 rfl rfl)
theorem dX8_append_38 : decode cX8_append 38 = .ok (.getfield 81, 3) := dk_180 0 81 (dk_at dksX8_append_1 15 rfl rfl)
theorem dX8_append_41 : decode cX8_append 41 = .ok (.iconst 1, 1) := dk_4 (dk_at dksX8_append_1 18 rfl rfl)
theorem dX8_append_42 : decode cX8_append 42 = .ok (.iadd, 1) := dk_96 (dk_at dksX8_append_1 19 rfl rfl)
theorem dX8_append_43 : decode cX8_append 43 = .ok (.putfield 81, 3) := dk_181 0 81 (dk_at dksX8_append_1 20 rfl rfl)
theorem dX8_append_46 : decode cX8_append 46 = .ok (.aload_n 0, 1) := dk_42 (dk_at dksX8_append_1 23 rfl rfl)
theorem dX8_append_47 : decode cX8_append 47 = .ok (.getfield 81, 3) := dk_180 0 81 (dk_at dksX8_append_2 0 rfl rfl)
theorem dX8_append_50 : decode cX8_append 50 = .ok (.ireturn, 1) := dk_172 (dk_at dksX8_append_2 3 rfl rfl)
abbrev cX8_clearText : ByteArray := prog_12_method_34_code
def yX8_clearText : MethodName := ⟨RX8, "clearText", "()I"⟩
def dkwX8_clearText_0 : List UInt8 := [42, 180, 0, 81, 60, 42, 3, 181, 0, 81, 27, 172]
abbrev dktX8_clearText_0 : List UInt8 := dkwX8_clearText_0 ++ []
theorem dksX8_clearText_0 : cX8_clearText.data.toList.drop 0 = dktX8_clearText_0 := by decide +kernel
theorem dX8_clearText_0 : decode cX8_clearText 0 = .ok (.aload_n 0, 1) := dk_42 (dk_at dksX8_clearText_0 0 rfl rfl)
theorem dX8_clearText_1 : decode cX8_clearText 1 = .ok (.getfield 81, 3) := dk_180 0 81 (dk_at dksX8_clearText_0 1 rfl rfl)
theorem dX8_clearText_4 : decode cX8_clearText 4 = .ok (.istore_n 1, 1) := dk_60 (dk_at dksX8_clearText_0 4 rfl rfl)
theorem dX8_clearText_5 : decode cX8_clearText 5 = .ok (.aload_n 0, 1) := dk_42 (dk_at dksX8_clearText_0 5 rfl rfl)
theorem dX8_clearText_6 : decode cX8_clearText 6 = .ok (.iconst 0, 1) := dk_3 (dk_at dksX8_clearText_0 6 rfl rfl)
theorem dX8_clearText_7 : decode cX8_clearText 7 = .ok (.putfield 81, 3) := dk_181 0 81 (dk_at dksX8_clearText_0 7 rfl rfl)
theorem dX8_clearText_10 : decode cX8_clearText 10 = .ok (.iload_n 1, 1) := dk_27 (dk_at dksX8_clearText_0 10 rfl rfl)
theorem dX8_clearText_11 : decode cX8_clearText 11 = .ok (.ireturn, 1) := dk_172 (dk_at dksX8_clearText_0 11 rfl rfl)
abbrev cX8_fault : ByteArray := prog_12_method_43_code
def yX8_fault : MethodName := ⟨RX8, "fault", "()I"⟩
def dkwX8_fault_0 : List UInt8 := [42, 182, 0, 76, 153, 0, 10, 42, 180, 0, 88, 167, 0, 5, 18, 147, 172]
abbrev dktX8_fault_0 : List UInt8 := dkwX8_fault_0 ++ []
theorem dksX8_fault_0 : cX8_fault.data.toList.drop 0 = dktX8_fault_0 := by decide +kernel
theorem dX8_fault_0 : decode cX8_fault 0 = .ok (.aload_n 0, 1) := dk_42 (dk_at dksX8_fault_0 0 rfl rfl)
theorem dX8_fault_1 : decode cX8_fault 1 = .ok (.invokevirtual 76, 3) := dk_182 0 76 (dk_at dksX8_fault_0 1 rfl rfl)
theorem dX8_fault_4 : decode cX8_fault 4 = .ok (.ifCond .eq 10, 3) := dk_153 0 10 (dk_at dksX8_fault_0 4 rfl rfl)
theorem dX8_fault_7 : decode cX8_fault 7 = .ok (.aload_n 0, 1) := dk_42 (dk_at dksX8_fault_0 7 rfl rfl)
theorem dX8_fault_8 : decode cX8_fault 8 = .ok (.getfield 88, 3) := dk_180 0 88 (dk_at dksX8_fault_0 8 rfl rfl)
theorem dX8_fault_11 : decode cX8_fault 11 = .ok (.goto 5, 3) := dk_167 0 5 (dk_at dksX8_fault_0 11 rfl rfl)
theorem dX8_fault_14 : decode cX8_fault 14 = .ok (.ldc 147, 2) := dk_18 147 (dk_at dksX8_fault_0 14 rfl rfl)
theorem dX8_fault_16 : decode cX8_fault 16 = .ok (.ireturn, 1) := dk_172 (dk_at dksX8_fault_0 16 rfl rfl)
abbrev cX8_undo : ByteArray := prog_12_method_44_code
def yX8_undo : MethodName := ⟨RX8, "undo", "()I"⟩
def dkwX8_undo_2 : List UInt8 := [96, 46, 79, 132, 1, 1, 167, 255, 225, 42, 180, 0, 30, 172]
abbrev dktX8_undo_2 : List UInt8 := dkwX8_undo_2 ++ []
def dkwX8_undo_1 : List UInt8 := [17, 1, 85, 162, 0, 30, 42, 180, 0, 7, 27, 42, 180, 0, 16, 17, 1, 85, 42, 180, 0, 30, 104, 27]
abbrev dktX8_undo_1 : List UInt8 := dkwX8_undo_1 ++ dktX8_undo_2
def dkwX8_undo_0 : List UInt8 := [42, 180, 0, 30, 154, 0, 6, 18, 147, 172, 42, 89, 180, 0, 30, 4, 100, 181, 0, 30, 3, 60, 27]
abbrev dktX8_undo_0 : List UInt8 := dkwX8_undo_0 ++ dktX8_undo_1
theorem dksX8_undo_0 : cX8_undo.data.toList.drop 0 = dktX8_undo_0 := by decide +kernel
theorem dksX8_undo_1 : cX8_undo.data.toList.drop 23 = dktX8_undo_1 := dk_seg dksX8_undo_0 23 rfl rfl
theorem dksX8_undo_2 : cX8_undo.data.toList.drop 47 = dktX8_undo_2 := dk_seg dksX8_undo_1 24 rfl rfl
theorem dX8_undo_0 : decode cX8_undo 0 = .ok (.aload_n 0, 1) := dk_42 (dk_at dksX8_undo_0 0 rfl rfl)
theorem dX8_undo_1 : decode cX8_undo 1 = .ok (.getfield 30, 3) := dk_180 0 30 (dk_at dksX8_undo_0 1 rfl rfl)
theorem dX8_undo_4 : decode cX8_undo 4 = .ok (.ifCond .ne 6, 3) := dk_154 0 6 (dk_at dksX8_undo_0 4 rfl rfl)
theorem dX8_undo_7 : decode cX8_undo 7 = .ok (.ldc 147, 2) := dk_18 147 (dk_at dksX8_undo_0 7 rfl rfl)
theorem dX8_undo_9 : decode cX8_undo 9 = .ok (.ireturn, 1) := dk_172 (dk_at dksX8_undo_0 9 rfl rfl)
theorem dX8_undo_10 : decode cX8_undo 10 = .ok (.aload_n 0, 1) := dk_42 (dk_at dksX8_undo_0 10 rfl rfl)
theorem dX8_undo_11 : decode cX8_undo 11 = .ok (.dup, 1) := dk_89 (dk_at dksX8_undo_0 11 rfl rfl)
theorem dX8_undo_12 : decode cX8_undo 12 = .ok (.getfield 30, 3) := dk_180 0 30 (dk_at dksX8_undo_0 12 rfl rfl)
theorem dX8_undo_15 : decode cX8_undo 15 = .ok (.iconst 1, 1) := dk_4 (dk_at dksX8_undo_0 15 rfl rfl)
theorem dX8_undo_16 : decode cX8_undo 16 = .ok (.isub, 1) := dk_100 (dk_at dksX8_undo_0 16 rfl rfl)
theorem dX8_undo_17 : decode cX8_undo 17 = .ok (.putfield 30, 3) := dk_181 0 30 (dk_at dksX8_undo_0 17 rfl rfl)
theorem dX8_undo_20 : decode cX8_undo 20 = .ok (.iconst 0, 1) := dk_3 (dk_at dksX8_undo_0 20 rfl rfl)
theorem dX8_undo_21 : decode cX8_undo 21 = .ok (.istore_n 1, 1) := dk_60 (dk_at dksX8_undo_0 21 rfl rfl)
theorem dX8_undo_22 : decode cX8_undo 22 = .ok (.iload_n 1, 1) := dk_27 (dk_at dksX8_undo_0 22 rfl rfl)
theorem dX8_undo_23 : decode cX8_undo 23 = .ok (.sipush 341, 3) := dk_17 1 85 (dk_at dksX8_undo_1 0 rfl rfl)
theorem dX8_undo_26 : decode cX8_undo 26 = .ok (.if_icmp .ge 30, 3) := dk_162 0 30 (dk_at dksX8_undo_1 3 rfl rfl)
theorem dX8_undo_29 : decode cX8_undo 29 = .ok (.aload_n 0, 1) := dk_42 (dk_at dksX8_undo_1 6 rfl rfl)
theorem dX8_undo_30 : decode cX8_undo 30 = .ok (.getfield 7, 3) := dk_180 0 7 (dk_at dksX8_undo_1 7 rfl rfl)
theorem dX8_undo_33 : decode cX8_undo 33 = .ok (.iload_n 1, 1) := dk_27 (dk_at dksX8_undo_1 10 rfl rfl)
theorem dX8_undo_34 : decode cX8_undo 34 = .ok (.aload_n 0, 1) := dk_42 (dk_at dksX8_undo_1 11 rfl rfl)
theorem dX8_undo_35 : decode cX8_undo 35 = .ok (.getfield 16, 3) := dk_180 0 16 (dk_at dksX8_undo_1 12 rfl rfl)
theorem dX8_undo_38 : decode cX8_undo 38 = .ok (.sipush 341, 3) := dk_17 1 85 (dk_at dksX8_undo_1 15 rfl rfl)
theorem dX8_undo_41 : decode cX8_undo 41 = .ok (.aload_n 0, 1) := dk_42 (dk_at dksX8_undo_1 18 rfl rfl)
theorem dX8_undo_42 : decode cX8_undo 42 = .ok (.getfield 30, 3) := dk_180 0 30 (dk_at dksX8_undo_1 19 rfl rfl)
theorem dX8_undo_45 : decode cX8_undo 45 = .ok (.imul, 1) := dk_104 (dk_at dksX8_undo_1 22 rfl rfl)
theorem dX8_undo_46 : decode cX8_undo 46 = .ok (.iload_n 1, 1) := dk_27 (dk_at dksX8_undo_1 23 rfl rfl)
theorem dX8_undo_47 : decode cX8_undo 47 = .ok (.iadd, 1) := dk_96 (dk_at dksX8_undo_2 0 rfl rfl)
theorem dX8_undo_48 : decode cX8_undo 48 = .ok (.iaload, 1) := dk_46 (dk_at dksX8_undo_2 1 rfl rfl)
theorem dX8_undo_49 : decode cX8_undo 49 = .ok (.iastore, 1) := dk_79 (dk_at dksX8_undo_2 2 rfl rfl)
theorem dX8_undo_50 : decode cX8_undo 50 = .ok (.iinc 1 1, 3) := dk_132 1 1 (dk_at dksX8_undo_2 3 rfl rfl)
theorem dX8_undo_53 : decode cX8_undo 53 = .ok (.goto (-31), 3) := dk_167 255 225 (dk_at dksX8_undo_2 6 rfl rfl)
theorem dX8_undo_56 : decode cX8_undo 56 = .ok (.aload_n 0, 1) := dk_42 (dk_at dksX8_undo_2 9 rfl rfl)
theorem dX8_undo_57 : decode cX8_undo 57 = .ok (.getfield 30, 3) := dk_180 0 30 (dk_at dksX8_undo_2 10 rfl rfl)
theorem dX8_undo_60 : decode cX8_undo 60 = .ok (.ireturn, 1) := dk_172 (dk_at dksX8_undo_2 13 rfl rfl)
abbrev cX8_state : ByteArray := prog_12_method_46_code
def yX8_state : MethodName := ⟨RX8, "state", "(I)I"⟩
def dkwX8_state_0 : List UInt8 := [42, 27, 3, 182, 0, 148, 172]
abbrev dktX8_state_0 : List UInt8 := dkwX8_state_0 ++ []
theorem dksX8_state_0 : cX8_state.data.toList.drop 0 = dktX8_state_0 := by decide +kernel
theorem dX8_state_0 : decode cX8_state 0 = .ok (.aload_n 0, 1) := dk_42 (dk_at dksX8_state_0 0 rfl rfl)
theorem dX8_state_1 : decode cX8_state 1 = .ok (.iload_n 1, 1) := dk_27 (dk_at dksX8_state_0 1 rfl rfl)
theorem dX8_state_2 : decode cX8_state 2 = .ok (.iconst 0, 1) := dk_3 (dk_at dksX8_state_0 2 rfl rfl)
theorem dX8_state_3 : decode cX8_state 3 = .ok (.invokevirtual 148, 3) := dk_182 0 148 (dk_at dksX8_state_0 3 rfl rfl)
theorem dX8_state_6 : decode cX8_state 6 = .ok (.ireturn, 1) := dk_172 (dk_at dksX8_state_0 6 rfl rfl)
abbrev cX8_ofThread : ByteArray := prog_12_method_45_code
def yX8_ofThread : MethodName := ⟨RX8, "ofThread", "(II)I"⟩
def dkwX8_ofThread_0 : List UInt8 := [27, 184, 0, 103, 153, 0, 16, 42, 180, 0, 7, 27, 28, 184, 0, 22, 46, 167, 0, 5, 18, 75, 172]
abbrev dktX8_ofThread_0 : List UInt8 := dkwX8_ofThread_0 ++ []
theorem dksX8_ofThread_0 : cX8_ofThread.data.toList.drop 0 = dktX8_ofThread_0 := by decide +kernel
theorem dX8_ofThread_0 : decode cX8_ofThread 0 = .ok (.iload_n 1, 1) := dk_27 (dk_at dksX8_ofThread_0 0 rfl rfl)
theorem dX8_ofThread_1 : decode cX8_ofThread 1 = .ok (.invokestatic 103, 3) := dk_184 0 103 (dk_at dksX8_ofThread_0 1 rfl rfl)
theorem dX8_ofThread_4 : decode cX8_ofThread 4 = .ok (.ifCond .eq 16, 3) := dk_153 0 16 (dk_at dksX8_ofThread_0 4 rfl rfl)
theorem dX8_ofThread_7 : decode cX8_ofThread 7 = .ok (.aload_n 0, 1) := dk_42 (dk_at dksX8_ofThread_0 7 rfl rfl)
theorem dX8_ofThread_8 : decode cX8_ofThread 8 = .ok (.getfield 7, 3) := dk_180 0 7 (dk_at dksX8_ofThread_0 8 rfl rfl)
theorem dX8_ofThread_11 : decode cX8_ofThread 11 = .ok (.iload_n 1, 1) := dk_27 (dk_at dksX8_ofThread_0 11 rfl rfl)
theorem dX8_ofThread_12 : decode cX8_ofThread 12 = .ok (.iload_n 2, 1) := dk_28 (dk_at dksX8_ofThread_0 12 rfl rfl)
theorem dX8_ofThread_13 : decode cX8_ofThread 13 = .ok (.invokestatic 22, 3) := dk_184 0 22 (dk_at dksX8_ofThread_0 13 rfl rfl)
theorem dX8_ofThread_16 : decode cX8_ofThread 16 = .ok (.iaload, 1) := dk_46 (dk_at dksX8_ofThread_0 16 rfl rfl)
theorem dX8_ofThread_17 : decode cX8_ofThread 17 = .ok (.goto 5, 3) := dk_167 0 5 (dk_at dksX8_ofThread_0 17 rfl rfl)
theorem dX8_ofThread_20 : decode cX8_ofThread 20 = .ok (.ldc 75, 2) := dk_18 75 (dk_at dksX8_ofThread_0 20 rfl rfl)
theorem dX8_ofThread_22 : decode cX8_ofThread 22 = .ok (.ireturn, 1) := dk_172 (dk_at dksX8_ofThread_0 22 rfl rfl)
abbrev cX8_programCounter : ByteArray := prog_12_method_47_code
def yX8_programCounter : MethodName := ⟨RX8, "programCounter", "(I)I"⟩
def dkwX8_programCounter_0 : List UInt8 := [42, 27, 4, 182, 0, 148, 172]
abbrev dktX8_programCounter_0 : List UInt8 := dkwX8_programCounter_0 ++ []
theorem dksX8_programCounter_0 : cX8_programCounter.data.toList.drop 0 = dktX8_programCounter_0 := by decide +kernel
theorem dX8_programCounter_0 : decode cX8_programCounter 0 = .ok (.aload_n 0, 1) := dk_42 (dk_at dksX8_programCounter_0 0 rfl rfl)
theorem dX8_programCounter_1 : decode cX8_programCounter 1 = .ok (.iload_n 1, 1) := dk_27 (dk_at dksX8_programCounter_0 1 rfl rfl)
theorem dX8_programCounter_2 : decode cX8_programCounter 2 = .ok (.iconst 1, 1) := dk_4 (dk_at dksX8_programCounter_0 2 rfl rfl)
theorem dX8_programCounter_3 : decode cX8_programCounter 3 = .ok (.invokevirtual 148, 3) := dk_182 0 148 (dk_at dksX8_programCounter_0 3 rfl rfl)
theorem dX8_programCounter_6 : decode cX8_programCounter 6 = .ok (.ireturn, 1) := dk_172 (dk_at dksX8_programCounter_0 6 rfl rfl)
abbrev cX8_register : ByteArray := prog_12_method_48_code
def yX8_register : MethodName := ⟨RX8, "register", "(II)I"⟩
def dkwX8_register_1 : List UInt8 := [167, 0, 5, 18, 75, 172]
abbrev dktX8_register_1 : List UInt8 := dkwX8_register_1 ++ []
def dkwX8_register_0 : List UInt8 := [27, 184, 0, 103, 153, 0, 21, 28, 3, 6, 184, 0, 26, 153, 0, 12, 42, 27, 28, 182, 0, 34]
abbrev dktX8_register_0 : List UInt8 := dkwX8_register_0 ++ dktX8_register_1
theorem dksX8_register_0 : cX8_register.data.toList.drop 0 = dktX8_register_0 := by decide +kernel
theorem dksX8_register_1 : cX8_register.data.toList.drop 22 = dktX8_register_1 := dk_seg dksX8_register_0 22 rfl rfl
theorem dX8_register_0 : decode cX8_register 0 = .ok (.iload_n 1, 1) := dk_27 (dk_at dksX8_register_0 0 rfl rfl)
theorem dX8_register_1 : decode cX8_register 1 = .ok (.invokestatic 103, 3) := dk_184 0 103 (dk_at dksX8_register_0 1 rfl rfl)
theorem dX8_register_4 : decode cX8_register 4 = .ok (.ifCond .eq 21, 3) := dk_153 0 21 (dk_at dksX8_register_0 4 rfl rfl)
theorem dX8_register_7 : decode cX8_register 7 = .ok (.iload_n 2, 1) := dk_28 (dk_at dksX8_register_0 7 rfl rfl)
theorem dX8_register_8 : decode cX8_register 8 = .ok (.iconst 0, 1) := dk_3 (dk_at dksX8_register_0 8 rfl rfl)
theorem dX8_register_9 : decode cX8_register 9 = .ok (.iconst 3, 1) := dk_6 (dk_at dksX8_register_0 9 rfl rfl)
theorem dX8_register_10 : decode cX8_register 10 = .ok (.invokestatic 26, 3) := dk_184 0 26 (dk_at dksX8_register_0 10 rfl rfl)
theorem dX8_register_13 : decode cX8_register 13 = .ok (.ifCond .eq 12, 3) := dk_153 0 12 (dk_at dksX8_register_0 13 rfl rfl)
theorem dX8_register_16 : decode cX8_register 16 = .ok (.aload_n 0, 1) := dk_42 (dk_at dksX8_register_0 16 rfl rfl)
theorem dX8_register_17 : decode cX8_register 17 = .ok (.iload_n 1, 1) := dk_27 (dk_at dksX8_register_0 17 rfl rfl)
theorem dX8_register_18 : decode cX8_register 18 = .ok (.iload_n 2, 1) := dk_28 (dk_at dksX8_register_0 18 rfl rfl)
theorem dX8_register_19 : decode cX8_register 19 = .ok (.invokevirtual 34, 3) := dk_182 0 34 (dk_at dksX8_register_0 19 rfl rfl)
theorem dX8_register_22 : decode cX8_register 22 = .ok (.goto 5, 3) := dk_167 0 5 (dk_at dksX8_register_1 0 rfl rfl)
theorem dX8_register_25 : decode cX8_register 25 = .ok (.ldc 75, 2) := dk_18 75 (dk_at dksX8_register_1 3 rfl rfl)
theorem dX8_register_27 : decode cX8_register 27 = .ok (.ireturn, 1) := dk_172 (dk_at dksX8_register_1 5 rfl rfl)
abbrev cX8_word : ByteArray := prog_12_method_49_code
def yX8_word : MethodName := ⟨RX8, "word", "(I)I"⟩
def dkwX8_word_1 : List UInt8 := [18, 75, 172]
abbrev dktX8_word_1 : List UInt8 := dkwX8_word_1 ++ []
def dkwX8_word_0 : List UInt8 := [27, 3, 16, 31, 184, 0, 26, 153, 0, 16, 42, 180, 0, 7, 17, 0, 200, 27, 96, 46, 167, 0, 5]
abbrev dktX8_word_0 : List UInt8 := dkwX8_word_0 ++ dktX8_word_1
theorem dksX8_word_0 : cX8_word.data.toList.drop 0 = dktX8_word_0 := by decide +kernel
theorem dksX8_word_1 : cX8_word.data.toList.drop 23 = dktX8_word_1 := dk_seg dksX8_word_0 23 rfl rfl
theorem dX8_word_0 : decode cX8_word 0 = .ok (.iload_n 1, 1) := dk_27 (dk_at dksX8_word_0 0 rfl rfl)
theorem dX8_word_1 : decode cX8_word 1 = .ok (.iconst 0, 1) := dk_3 (dk_at dksX8_word_0 1 rfl rfl)
theorem dX8_word_2 : decode cX8_word 2 = .ok (.bipush 31, 2) := dk_16 31 (dk_at dksX8_word_0 2 rfl rfl)
theorem dX8_word_4 : decode cX8_word 4 = .ok (.invokestatic 26, 3) := dk_184 0 26 (dk_at dksX8_word_0 4 rfl rfl)
theorem dX8_word_7 : decode cX8_word 7 = .ok (.ifCond .eq 16, 3) := dk_153 0 16 (dk_at dksX8_word_0 7 rfl rfl)
theorem dX8_word_10 : decode cX8_word 10 = .ok (.aload_n 0, 1) := dk_42 (dk_at dksX8_word_0 10 rfl rfl)
theorem dX8_word_11 : decode cX8_word 11 = .ok (.getfield 7, 3) := dk_180 0 7 (dk_at dksX8_word_0 11 rfl rfl)
theorem dX8_word_14 : decode cX8_word 14 = .ok (.sipush 200, 3) := dk_17 0 200 (dk_at dksX8_word_0 14 rfl rfl)
theorem dX8_word_17 : decode cX8_word 17 = .ok (.iload_n 1, 1) := dk_27 (dk_at dksX8_word_0 17 rfl rfl)
theorem dX8_word_18 : decode cX8_word 18 = .ok (.iadd, 1) := dk_96 (dk_at dksX8_word_0 18 rfl rfl)
theorem dX8_word_19 : decode cX8_word 19 = .ok (.iaload, 1) := dk_46 (dk_at dksX8_word_0 19 rfl rfl)
theorem dX8_word_20 : decode cX8_word 20 = .ok (.goto 5, 3) := dk_167 0 5 (dk_at dksX8_word_0 20 rfl rfl)
theorem dX8_word_23 : decode cX8_word 23 = .ok (.ldc 75, 2) := dk_18 75 (dk_at dksX8_word_1 0 rfl rfl)
theorem dX8_word_25 : decode cX8_word 25 = .ok (.ireturn, 1) := dk_172 (dk_at dksX8_word_1 2 rfl rfl)
abbrev cX8_operation : ByteArray := prog_12_method_50_code
def yX8_operation : MethodName := ⟨RX8, "operation", "(I)I"⟩
def dkwX8_operation_0 : List UInt8 := [27, 184, 0, 72, 153, 0, 17, 42, 180, 0, 7, 16, 56, 6, 27, 104, 96, 46, 167, 0, 5, 18, 75, 172]
abbrev dktX8_operation_0 : List UInt8 := dkwX8_operation_0 ++ []
theorem dksX8_operation_0 : cX8_operation.data.toList.drop 0 = dktX8_operation_0 := by decide +kernel
theorem dX8_operation_0 : decode cX8_operation 0 = .ok (.iload_n 1, 1) := dk_27 (dk_at dksX8_operation_0 0 rfl rfl)
theorem dX8_operation_1 : decode cX8_operation 1 = .ok (.invokestatic 72, 3) := dk_184 0 72 (dk_at dksX8_operation_0 1 rfl rfl)
theorem dX8_operation_4 : decode cX8_operation 4 = .ok (.ifCond .eq 17, 3) := dk_153 0 17 (dk_at dksX8_operation_0 4 rfl rfl)
theorem dX8_operation_7 : decode cX8_operation 7 = .ok (.aload_n 0, 1) := dk_42 (dk_at dksX8_operation_0 7 rfl rfl)
theorem dX8_operation_8 : decode cX8_operation 8 = .ok (.getfield 7, 3) := dk_180 0 7 (dk_at dksX8_operation_0 8 rfl rfl)
theorem dX8_operation_11 : decode cX8_operation 11 = .ok (.bipush 56, 2) := dk_16 56 (dk_at dksX8_operation_0 11 rfl rfl)
theorem dX8_operation_13 : decode cX8_operation 13 = .ok (.iconst 3, 1) := dk_6 (dk_at dksX8_operation_0 13 rfl rfl)
theorem dX8_operation_14 : decode cX8_operation 14 = .ok (.iload_n 1, 1) := dk_27 (dk_at dksX8_operation_0 14 rfl rfl)
theorem dX8_operation_15 : decode cX8_operation 15 = .ok (.imul, 1) := dk_104 (dk_at dksX8_operation_0 15 rfl rfl)
theorem dX8_operation_16 : decode cX8_operation 16 = .ok (.iadd, 1) := dk_96 (dk_at dksX8_operation_0 16 rfl rfl)
theorem dX8_operation_17 : decode cX8_operation 17 = .ok (.iaload, 1) := dk_46 (dk_at dksX8_operation_0 17 rfl rfl)
theorem dX8_operation_18 : decode cX8_operation 18 = .ok (.goto 5, 3) := dk_167 0 5 (dk_at dksX8_operation_0 18 rfl rfl)
theorem dX8_operation_21 : decode cX8_operation 21 = .ok (.ldc 75, 2) := dk_18 75 (dk_at dksX8_operation_0 21 rfl rfl)
theorem dX8_operation_23 : decode cX8_operation 23 = .ok (.ireturn, 1) := dk_172 (dk_at dksX8_operation_0 23 rfl rfl)
abbrev cX8_operand : ByteArray := prog_12_method_51_code
def yX8_operand : MethodName := ⟨RX8, "operand", "(II)I"⟩
def dkwX8_operand_3 : List UInt8 := [104, 96, 4, 96, 28, 96, 46, 167, 0, 5, 18, 147, 172]
abbrev dktX8_operand_3 : List UInt8 := dkwX8_operand_3 ++ []
def dkwX8_operand_2 : List UInt8 := [160, 0, 7, 4, 167, 0, 4, 5, 54, 4, 28, 21, 4, 162, 0, 21, 42, 180, 0, 7, 16, 56, 6, 27]
abbrev dktX8_operand_2 : List UInt8 := dkwX8_operand_2 ++ dktX8_operand_3
def dkwX8_operand_1 : List UInt8 := [180, 0, 7, 16, 56, 6, 27, 104, 96, 46, 62, 29, 16, 9, 164, 0, 7, 3, 167, 0, 14, 29, 16, 7]
abbrev dktX8_operand_1 : List UInt8 := dkwX8_operand_1 ++ dktX8_operand_2
def dkwX8_operand_0 : List UInt8 := [27, 184, 0, 72, 154, 0, 6, 18, 75, 172, 28, 3, 4, 184, 0, 26, 154, 0, 6, 18, 109, 172, 42]
abbrev dktX8_operand_0 : List UInt8 := dkwX8_operand_0 ++ dktX8_operand_1
theorem dksX8_operand_0 : cX8_operand.data.toList.drop 0 = dktX8_operand_0 := by decide +kernel
theorem dksX8_operand_1 : cX8_operand.data.toList.drop 23 = dktX8_operand_1 := dk_seg dksX8_operand_0 23 rfl rfl
theorem dksX8_operand_2 : cX8_operand.data.toList.drop 47 = dktX8_operand_2 := dk_seg dksX8_operand_1 24 rfl rfl
theorem dksX8_operand_3 : cX8_operand.data.toList.drop 71 = dktX8_operand_3 := dk_seg dksX8_operand_2 24 rfl rfl
theorem dX8_operand_0 : decode cX8_operand 0 = .ok (.iload_n 1, 1) := dk_27 (dk_at dksX8_operand_0 0 rfl rfl)
theorem dX8_operand_1 : decode cX8_operand 1 = .ok (.invokestatic 72, 3) := dk_184 0 72 (dk_at dksX8_operand_0 1 rfl rfl)
theorem dX8_operand_4 : decode cX8_operand 4 = .ok (.ifCond .ne 6, 3) := dk_154 0 6 (dk_at dksX8_operand_0 4 rfl rfl)
theorem dX8_operand_7 : decode cX8_operand 7 = .ok (.ldc 75, 2) := dk_18 75 (dk_at dksX8_operand_0 7 rfl rfl)
theorem dX8_operand_9 : decode cX8_operand 9 = .ok (.ireturn, 1) := dk_172 (dk_at dksX8_operand_0 9 rfl rfl)
theorem dX8_operand_10 : decode cX8_operand 10 = .ok (.iload_n 2, 1) := dk_28 (dk_at dksX8_operand_0 10 rfl rfl)
theorem dX8_operand_11 : decode cX8_operand 11 = .ok (.iconst 0, 1) := dk_3 (dk_at dksX8_operand_0 11 rfl rfl)
theorem dX8_operand_12 : decode cX8_operand 12 = .ok (.iconst 1, 1) := dk_4 (dk_at dksX8_operand_0 12 rfl rfl)
theorem dX8_operand_13 : decode cX8_operand 13 = .ok (.invokestatic 26, 3) := dk_184 0 26 (dk_at dksX8_operand_0 13 rfl rfl)
theorem dX8_operand_16 : decode cX8_operand 16 = .ok (.ifCond .ne 6, 3) := dk_154 0 6 (dk_at dksX8_operand_0 16 rfl rfl)
theorem dX8_operand_19 : decode cX8_operand 19 = .ok (.ldc 109, 2) := dk_18 109 (dk_at dksX8_operand_0 19 rfl rfl)
theorem dX8_operand_21 : decode cX8_operand 21 = .ok (.ireturn, 1) := dk_172 (dk_at dksX8_operand_0 21 rfl rfl)
theorem dX8_operand_22 : decode cX8_operand 22 = .ok (.aload_n 0, 1) := dk_42 (dk_at dksX8_operand_0 22 rfl rfl)
theorem dX8_operand_23 : decode cX8_operand 23 = .ok (.getfield 7, 3) := dk_180 0 7 (dk_at dksX8_operand_1 0 rfl rfl)
theorem dX8_operand_26 : decode cX8_operand 26 = .ok (.bipush 56, 2) := dk_16 56 (dk_at dksX8_operand_1 3 rfl rfl)
theorem dX8_operand_28 : decode cX8_operand 28 = .ok (.iconst 3, 1) := dk_6 (dk_at dksX8_operand_1 5 rfl rfl)
theorem dX8_operand_29 : decode cX8_operand 29 = .ok (.iload_n 1, 1) := dk_27 (dk_at dksX8_operand_1 6 rfl rfl)
theorem dX8_operand_30 : decode cX8_operand 30 = .ok (.imul, 1) := dk_104 (dk_at dksX8_operand_1 7 rfl rfl)
theorem dX8_operand_31 : decode cX8_operand 31 = .ok (.iadd, 1) := dk_96 (dk_at dksX8_operand_1 8 rfl rfl)
theorem dX8_operand_32 : decode cX8_operand 32 = .ok (.iaload, 1) := dk_46 (dk_at dksX8_operand_1 9 rfl rfl)
theorem dX8_operand_33 : decode cX8_operand 33 = .ok (.istore_n 3, 1) := dk_62 (dk_at dksX8_operand_1 10 rfl rfl)
theorem dX8_operand_34 : decode cX8_operand 34 = .ok (.iload_n 3, 1) := dk_29 (dk_at dksX8_operand_1 11 rfl rfl)
theorem dX8_operand_35 : decode cX8_operand 35 = .ok (.bipush 9, 2) := dk_16 9 (dk_at dksX8_operand_1 12 rfl rfl)
theorem dX8_operand_37 : decode cX8_operand 37 = .ok (.if_icmp .le 7, 3) := dk_164 0 7 (dk_at dksX8_operand_1 14 rfl rfl)
theorem dX8_operand_40 : decode cX8_operand 40 = .ok (.iconst 0, 1) := dk_3 (dk_at dksX8_operand_1 17 rfl rfl)
theorem dX8_operand_41 : decode cX8_operand 41 = .ok (.goto 14, 3) := dk_167 0 14 (dk_at dksX8_operand_1 18 rfl rfl)
theorem dX8_operand_44 : decode cX8_operand 44 = .ok (.iload_n 3, 1) := dk_29 (dk_at dksX8_operand_1 21 rfl rfl)
theorem dX8_operand_45 : decode cX8_operand 45 = .ok (.bipush 7, 2) := dk_16 7 (dk_at dksX8_operand_1 22 rfl rfl)
theorem dX8_operand_47 : decode cX8_operand 47 = .ok (.if_icmp .ne 7, 3) := dk_160 0 7 (dk_at dksX8_operand_2 0 rfl rfl)
theorem dX8_operand_50 : decode cX8_operand 50 = .ok (.iconst 1, 1) := dk_4 (dk_at dksX8_operand_2 3 rfl rfl)
theorem dX8_operand_51 : decode cX8_operand 51 = .ok (.goto 4, 3) := dk_167 0 4 (dk_at dksX8_operand_2 4 rfl rfl)
theorem dX8_operand_54 : decode cX8_operand 54 = .ok (.iconst 2, 1) := dk_5 (dk_at dksX8_operand_2 7 rfl rfl)
theorem dX8_operand_55 : decode cX8_operand 55 = .ok (.istore 4, 2) := dk_54 4 (dk_at dksX8_operand_2 8 rfl rfl)
theorem dX8_operand_57 : decode cX8_operand 57 = .ok (.iload_n 2, 1) := dk_28 (dk_at dksX8_operand_2 10 rfl rfl)
theorem dX8_operand_58 : decode cX8_operand 58 = .ok (.iload 4, 2) := dk_21 4 (dk_at dksX8_operand_2 11 rfl rfl)
theorem dX8_operand_60 : decode cX8_operand 60 = .ok (.if_icmp .ge 21, 3) := dk_162 0 21 (dk_at dksX8_operand_2 13 rfl rfl)
theorem dX8_operand_63 : decode cX8_operand 63 = .ok (.aload_n 0, 1) := dk_42 (dk_at dksX8_operand_2 16 rfl rfl)
theorem dX8_operand_64 : decode cX8_operand 64 = .ok (.getfield 7, 3) := dk_180 0 7 (dk_at dksX8_operand_2 17 rfl rfl)
theorem dX8_operand_67 : decode cX8_operand 67 = .ok (.bipush 56, 2) := dk_16 56 (dk_at dksX8_operand_2 20 rfl rfl)
theorem dX8_operand_69 : decode cX8_operand 69 = .ok (.iconst 3, 1) := dk_6 (dk_at dksX8_operand_2 22 rfl rfl)
theorem dX8_operand_70 : decode cX8_operand 70 = .ok (.iload_n 1, 1) := dk_27 (dk_at dksX8_operand_2 23 rfl rfl)
theorem dX8_operand_71 : decode cX8_operand 71 = .ok (.imul, 1) := dk_104 (dk_at dksX8_operand_3 0 rfl rfl)
theorem dX8_operand_72 : decode cX8_operand 72 = .ok (.iadd, 1) := dk_96 (dk_at dksX8_operand_3 1 rfl rfl)
theorem dX8_operand_73 : decode cX8_operand 73 = .ok (.iconst 1, 1) := dk_4 (dk_at dksX8_operand_3 2 rfl rfl)
theorem dX8_operand_74 : decode cX8_operand 74 = .ok (.iadd, 1) := dk_96 (dk_at dksX8_operand_3 3 rfl rfl)
theorem dX8_operand_75 : decode cX8_operand 75 = .ok (.iload_n 2, 1) := dk_28 (dk_at dksX8_operand_3 4 rfl rfl)
theorem dX8_operand_76 : decode cX8_operand 76 = .ok (.iadd, 1) := dk_96 (dk_at dksX8_operand_3 5 rfl rfl)
theorem dX8_operand_77 : decode cX8_operand 77 = .ok (.iaload, 1) := dk_46 (dk_at dksX8_operand_3 6 rfl rfl)
theorem dX8_operand_78 : decode cX8_operand 78 = .ok (.goto 5, 3) := dk_167 0 5 (dk_at dksX8_operand_3 7 rfl rfl)
theorem dX8_operand_81 : decode cX8_operand 81 = .ok (.ldc 147, 2) := dk_18 147 (dk_at dksX8_operand_3 10 rfl rfl)
theorem dX8_operand_83 : decode cX8_operand 83 = .ok (.ireturn, 1) := dk_172 (dk_at dksX8_operand_3 12 rfl rfl)
abbrev cX8_slot : ByteArray := prog_12_method_52_code
def yX8_slot : MethodName := ⟨RX8, "slot", "(I)I"⟩
def dkwX8_slot_1 : List UInt8 := [18, 75, 172]
abbrev dktX8_slot_1 : List UInt8 := dkwX8_slot_1 ++ []
def dkwX8_slot_0 : List UInt8 := [27, 3, 16, 7, 184, 0, 26, 153, 0, 16, 42, 180, 0, 7, 17, 0, 234, 27, 96, 46, 167, 0, 5]
abbrev dktX8_slot_0 : List UInt8 := dkwX8_slot_0 ++ dktX8_slot_1
theorem dksX8_slot_0 : cX8_slot.data.toList.drop 0 = dktX8_slot_0 := by decide +kernel
theorem dksX8_slot_1 : cX8_slot.data.toList.drop 23 = dktX8_slot_1 := dk_seg dksX8_slot_0 23 rfl rfl
theorem dX8_slot_0 : decode cX8_slot 0 = .ok (.iload_n 1, 1) := dk_27 (dk_at dksX8_slot_0 0 rfl rfl)
theorem dX8_slot_1 : decode cX8_slot 1 = .ok (.iconst 0, 1) := dk_3 (dk_at dksX8_slot_0 1 rfl rfl)
theorem dX8_slot_2 : decode cX8_slot 2 = .ok (.bipush 7, 2) := dk_16 7 (dk_at dksX8_slot_0 2 rfl rfl)
theorem dX8_slot_4 : decode cX8_slot 4 = .ok (.invokestatic 26, 3) := dk_184 0 26 (dk_at dksX8_slot_0 4 rfl rfl)
theorem dX8_slot_7 : decode cX8_slot 7 = .ok (.ifCond .eq 16, 3) := dk_153 0 16 (dk_at dksX8_slot_0 7 rfl rfl)
theorem dX8_slot_10 : decode cX8_slot 10 = .ok (.aload_n 0, 1) := dk_42 (dk_at dksX8_slot_0 10 rfl rfl)
theorem dX8_slot_11 : decode cX8_slot 11 = .ok (.getfield 7, 3) := dk_180 0 7 (dk_at dksX8_slot_0 11 rfl rfl)
theorem dX8_slot_14 : decode cX8_slot 14 = .ok (.sipush 234, 3) := dk_17 0 234 (dk_at dksX8_slot_0 14 rfl rfl)
theorem dX8_slot_17 : decode cX8_slot 17 = .ok (.iload_n 1, 1) := dk_27 (dk_at dksX8_slot_0 17 rfl rfl)
theorem dX8_slot_18 : decode cX8_slot 18 = .ok (.iadd, 1) := dk_96 (dk_at dksX8_slot_0 18 rfl rfl)
theorem dX8_slot_19 : decode cX8_slot 19 = .ok (.iaload, 1) := dk_46 (dk_at dksX8_slot_0 19 rfl rfl)
theorem dX8_slot_20 : decode cX8_slot 20 = .ok (.goto 5, 3) := dk_167 0 5 (dk_at dksX8_slot_0 20 rfl rfl)
theorem dX8_slot_23 : decode cX8_slot 23 = .ok (.ldc 75, 2) := dk_18 75 (dk_at dksX8_slot_1 0 rfl rfl)
theorem dX8_slot_25 : decode cX8_slot 25 = .ok (.ireturn, 1) := dk_172 (dk_at dksX8_slot_1 2 rfl rfl)
abbrev cX8_setting : ByteArray := prog_12_method_53_code
def yX8_setting : MethodName := ⟨RX8, "setting", "(I)I"⟩
def dkwX8_setting_1 : List UInt8 := [172]
abbrev dktX8_setting_1 : List UInt8 := dkwX8_setting_1 ++ []
def dkwX8_setting_0 : List UInt8 := [27, 3, 4, 184, 0, 26, 153, 0, 16, 42, 180, 0, 7, 17, 0, 242, 27, 96, 46, 167, 0, 5, 18, 75]
abbrev dktX8_setting_0 : List UInt8 := dkwX8_setting_0 ++ dktX8_setting_1
theorem dksX8_setting_0 : cX8_setting.data.toList.drop 0 = dktX8_setting_0 := by decide +kernel
theorem dksX8_setting_1 : cX8_setting.data.toList.drop 24 = dktX8_setting_1 := dk_seg dksX8_setting_0 24 rfl rfl
theorem dX8_setting_0 : decode cX8_setting 0 = .ok (.iload_n 1, 1) := dk_27 (dk_at dksX8_setting_0 0 rfl rfl)
theorem dX8_setting_1 : decode cX8_setting 1 = .ok (.iconst 0, 1) := dk_3 (dk_at dksX8_setting_0 1 rfl rfl)
theorem dX8_setting_2 : decode cX8_setting 2 = .ok (.iconst 1, 1) := dk_4 (dk_at dksX8_setting_0 2 rfl rfl)
theorem dX8_setting_3 : decode cX8_setting 3 = .ok (.invokestatic 26, 3) := dk_184 0 26 (dk_at dksX8_setting_0 3 rfl rfl)
theorem dX8_setting_6 : decode cX8_setting 6 = .ok (.ifCond .eq 16, 3) := dk_153 0 16 (dk_at dksX8_setting_0 6 rfl rfl)
theorem dX8_setting_9 : decode cX8_setting 9 = .ok (.aload_n 0, 1) := dk_42 (dk_at dksX8_setting_0 9 rfl rfl)
theorem dX8_setting_10 : decode cX8_setting 10 = .ok (.getfield 7, 3) := dk_180 0 7 (dk_at dksX8_setting_0 10 rfl rfl)
theorem dX8_setting_13 : decode cX8_setting 13 = .ok (.sipush 242, 3) := dk_17 0 242 (dk_at dksX8_setting_0 13 rfl rfl)
theorem dX8_setting_16 : decode cX8_setting 16 = .ok (.iload_n 1, 1) := dk_27 (dk_at dksX8_setting_0 16 rfl rfl)
theorem dX8_setting_17 : decode cX8_setting 17 = .ok (.iadd, 1) := dk_96 (dk_at dksX8_setting_0 17 rfl rfl)
theorem dX8_setting_18 : decode cX8_setting 18 = .ok (.iaload, 1) := dk_46 (dk_at dksX8_setting_0 18 rfl rfl)
theorem dX8_setting_19 : decode cX8_setting 19 = .ok (.goto 5, 3) := dk_167 0 5 (dk_at dksX8_setting_0 19 rfl rfl)
theorem dX8_setting_22 : decode cX8_setting 22 = .ok (.ldc 75, 2) := dk_18 75 (dk_at dksX8_setting_0 22 rfl rfl)
theorem dX8_setting_24 : decode cX8_setting 24 = .ok (.ireturn, 1) := dk_172 (dk_at dksX8_setting_1 0 rfl rfl)
abbrev cX8_breakpoint : ByteArray := prog_12_method_54_code
def yX8_breakpoint : MethodName := ⟨RX8, "breakpoint", "(I)I"⟩
def dkwX8_breakpoint_0 : List UInt8 := [27, 184, 0, 72, 153, 0, 16, 42, 180, 0, 7, 17, 0, 244, 27, 96, 46, 167, 0, 5, 18, 75, 172]
abbrev dktX8_breakpoint_0 : List UInt8 := dkwX8_breakpoint_0 ++ []
theorem dksX8_breakpoint_0 : cX8_breakpoint.data.toList.drop 0 = dktX8_breakpoint_0 := by decide +kernel
theorem dX8_breakpoint_0 : decode cX8_breakpoint 0 = .ok (.iload_n 1, 1) := dk_27 (dk_at dksX8_breakpoint_0 0 rfl rfl)
theorem dX8_breakpoint_1 : decode cX8_breakpoint 1 = .ok (.invokestatic 72, 3) := dk_184 0 72 (dk_at dksX8_breakpoint_0 1 rfl rfl)
theorem dX8_breakpoint_4 : decode cX8_breakpoint 4 = .ok (.ifCond .eq 16, 3) := dk_153 0 16 (dk_at dksX8_breakpoint_0 4 rfl rfl)
theorem dX8_breakpoint_7 : decode cX8_breakpoint 7 = .ok (.aload_n 0, 1) := dk_42 (dk_at dksX8_breakpoint_0 7 rfl rfl)
theorem dX8_breakpoint_8 : decode cX8_breakpoint 8 = .ok (.getfield 7, 3) := dk_180 0 7 (dk_at dksX8_breakpoint_0 8 rfl rfl)
theorem dX8_breakpoint_11 : decode cX8_breakpoint 11 = .ok (.sipush 244, 3) := dk_17 0 244 (dk_at dksX8_breakpoint_0 11 rfl rfl)
theorem dX8_breakpoint_14 : decode cX8_breakpoint 14 = .ok (.iload_n 1, 1) := dk_27 (dk_at dksX8_breakpoint_0 14 rfl rfl)
theorem dX8_breakpoint_15 : decode cX8_breakpoint 15 = .ok (.iadd, 1) := dk_96 (dk_at dksX8_breakpoint_0 15 rfl rfl)
theorem dX8_breakpoint_16 : decode cX8_breakpoint 16 = .ok (.iaload, 1) := dk_46 (dk_at dksX8_breakpoint_0 16 rfl rfl)
theorem dX8_breakpoint_17 : decode cX8_breakpoint 17 = .ok (.goto 5, 3) := dk_167 0 5 (dk_at dksX8_breakpoint_0 17 rfl rfl)
theorem dX8_breakpoint_20 : decode cX8_breakpoint 20 = .ok (.ldc 75, 2) := dk_18 75 (dk_at dksX8_breakpoint_0 20 rfl rfl)
theorem dX8_breakpoint_22 : decode cX8_breakpoint 22 = .ok (.ireturn, 1) := dk_172 (dk_at dksX8_breakpoint_0 22 rfl rfl)
abbrev cX8_cycle : ByteArray := prog_12_method_55_code
def yX8_cycle : MethodName := ⟨RX8, "cycle", "()I"⟩
def dkwX8_cycle_0 : List UInt8 := [42, 180, 0, 7, 17, 0, 232, 46, 172]
abbrev dktX8_cycle_0 : List UInt8 := dkwX8_cycle_0 ++ []
theorem dksX8_cycle_0 : cX8_cycle.data.toList.drop 0 = dktX8_cycle_0 := by decide +kernel
theorem dX8_cycle_0 : decode cX8_cycle 0 = .ok (.aload_n 0, 1) := dk_42 (dk_at dksX8_cycle_0 0 rfl rfl)
theorem dX8_cycle_1 : decode cX8_cycle 1 = .ok (.getfield 7, 3) := dk_180 0 7 (dk_at dksX8_cycle_0 1 rfl rfl)
theorem dX8_cycle_4 : decode cX8_cycle 4 = .ok (.sipush 232, 3) := dk_17 0 232 (dk_at dksX8_cycle_0 4 rfl rfl)
theorem dX8_cycle_7 : decode cX8_cycle 7 = .ok (.iaload, 1) := dk_46 (dk_at dksX8_cycle_0 7 rfl rfl)
theorem dX8_cycle_8 : decode cX8_cycle 8 = .ok (.ireturn, 1) := dk_172 (dk_at dksX8_cycle_0 8 rfl rfl)
abbrev cX8_idle : ByteArray := prog_12_method_56_code
def yX8_idle : MethodName := ⟨RX8, "idle", "()I"⟩
def dkwX8_idle_0 : List UInt8 := [42, 180, 0, 7, 17, 0, 233, 46, 172]
abbrev dktX8_idle_0 : List UInt8 := dkwX8_idle_0 ++ []
theorem dksX8_idle_0 : cX8_idle.data.toList.drop 0 = dktX8_idle_0 := by decide +kernel
theorem dX8_idle_0 : decode cX8_idle 0 = .ok (.aload_n 0, 1) := dk_42 (dk_at dksX8_idle_0 0 rfl rfl)
theorem dX8_idle_1 : decode cX8_idle 1 = .ok (.getfield 7, 3) := dk_180 0 7 (dk_at dksX8_idle_0 1 rfl rfl)
theorem dX8_idle_4 : decode cX8_idle 4 = .ok (.sipush 233, 3) := dk_17 0 233 (dk_at dksX8_idle_0 4 rfl rfl)
theorem dX8_idle_7 : decode cX8_idle 7 = .ok (.iaload, 1) := dk_46 (dk_at dksX8_idle_0 7 rfl rfl)
theorem dX8_idle_8 : decode cX8_idle 8 = .ok (.ireturn, 1) := dk_172 (dk_at dksX8_idle_0 8 rfl rfl)
abbrev cX8_executed : ByteArray := prog_12_method_57_code
def yX8_executed : MethodName := ⟨RX8, "executed", "(I)I"⟩
def dkwX8_executed_0 : List UInt8 := [42, 27, 16, 12, 182, 0, 148, 172]
abbrev dktX8_executed_0 : List UInt8 := dkwX8_executed_0 ++ []
theorem dksX8_executed_0 : cX8_executed.data.toList.drop 0 = dktX8_executed_0 := by decide +kernel
theorem dX8_executed_0 : decode cX8_executed 0 = .ok (.aload_n 0, 1) := dk_42 (dk_at dksX8_executed_0 0 rfl rfl)
theorem dX8_executed_1 : decode cX8_executed 1 = .ok (.iload_n 1, 1) := dk_27 (dk_at dksX8_executed_0 1 rfl rfl)
theorem dX8_executed_2 : decode cX8_executed 2 = .ok (.bipush 12, 2) := dk_16 12 (dk_at dksX8_executed_0 2 rfl rfl)
theorem dX8_executed_4 : decode cX8_executed 4 = .ok (.invokevirtual 148, 3) := dk_182 0 148 (dk_at dksX8_executed_0 4 rfl rfl)
theorem dX8_executed_7 : decode cX8_executed 7 = .ok (.ireturn, 1) := dk_172 (dk_at dksX8_executed_0 7 rfl rfl)
abbrev cX8_lent : ByteArray := prog_12_method_58_code
def yX8_lent : MethodName := ⟨RX8, "lent", "(I)I"⟩
def dkwX8_lent_0 : List UInt8 := [42, 27, 16, 13, 182, 0, 148, 172]
abbrev dktX8_lent_0 : List UInt8 := dkwX8_lent_0 ++ []
theorem dksX8_lent_0 : cX8_lent.data.toList.drop 0 = dktX8_lent_0 := by decide +kernel
theorem dX8_lent_0 : decode cX8_lent 0 = .ok (.aload_n 0, 1) := dk_42 (dk_at dksX8_lent_0 0 rfl rfl)
theorem dX8_lent_1 : decode cX8_lent 1 = .ok (.iload_n 1, 1) := dk_27 (dk_at dksX8_lent_0 1 rfl rfl)
theorem dX8_lent_2 : decode cX8_lent 2 = .ok (.bipush 13, 2) := dk_16 13 (dk_at dksX8_lent_0 2 rfl rfl)
theorem dX8_lent_4 : decode cX8_lent 4 = .ok (.invokevirtual 148, 3) := dk_182 0 148 (dk_at dksX8_lent_0 4 rfl rfl)
theorem dX8_lent_7 : decode cX8_lent 7 = .ok (.ireturn, 1) := dk_172 (dk_at dksX8_lent_0 7 rfl rfl)
abbrev cX8_starved : ByteArray := prog_12_method_59_code
def yX8_starved : MethodName := ⟨RX8, "starved", "(I)I"⟩
def dkwX8_starved_0 : List UInt8 := [42, 27, 16, 11, 182, 0, 148, 172]
abbrev dktX8_starved_0 : List UInt8 := dkwX8_starved_0 ++ []
theorem dksX8_starved_0 : cX8_starved.data.toList.drop 0 = dktX8_starved_0 := by decide +kernel
theorem dX8_starved_0 : decode cX8_starved 0 = .ok (.aload_n 0, 1) := dk_42 (dk_at dksX8_starved_0 0 rfl rfl)
theorem dX8_starved_1 : decode cX8_starved 1 = .ok (.iload_n 1, 1) := dk_27 (dk_at dksX8_starved_0 1 rfl rfl)
theorem dX8_starved_2 : decode cX8_starved 2 = .ok (.bipush 11, 2) := dk_16 11 (dk_at dksX8_starved_0 2 rfl rfl)
theorem dX8_starved_4 : decode cX8_starved 4 = .ok (.invokevirtual 148, 3) := dk_182 0 148 (dk_at dksX8_starved_0 4 rfl rfl)
theorem dX8_starved_7 : decode cX8_starved 7 = .ok (.ireturn, 1) := dk_172 (dk_at dksX8_starved_0 7 rfl rfl)
abbrev cX8_trace : ByteArray := prog_12_method_60_code
def yX8_trace : MethodName := ⟨RX8, "trace", "(II)I"⟩
def dkwX8_trace_1 : List UInt8 := [46, 162, 0, 20, 42, 180, 0, 7, 17, 1, 37, 6, 27, 104, 96, 28, 96, 46, 167, 0, 5, 18, 147, 172]
abbrev dktX8_trace_1 : List UInt8 := dkwX8_trace_1 ++ []
def dkwX8_trace_0 : List UInt8 := [27, 155, 0, 12, 28, 3, 5, 184, 0, 26, 154, 0, 6, 18, 109, 172, 27, 42, 180, 0, 7, 17, 1, 36]
abbrev dktX8_trace_0 : List UInt8 := dkwX8_trace_0 ++ dktX8_trace_1
theorem dksX8_trace_0 : cX8_trace.data.toList.drop 0 = dktX8_trace_0 := by decide +kernel
theorem dksX8_trace_1 : cX8_trace.data.toList.drop 24 = dktX8_trace_1 := dk_seg dksX8_trace_0 24 rfl rfl
theorem dX8_trace_0 : decode cX8_trace 0 = .ok (.iload_n 1, 1) := dk_27 (dk_at dksX8_trace_0 0 rfl rfl)
theorem dX8_trace_1 : decode cX8_trace 1 = .ok (.ifCond .lt 12, 3) := dk_155 0 12 (dk_at dksX8_trace_0 1 rfl rfl)
theorem dX8_trace_4 : decode cX8_trace 4 = .ok (.iload_n 2, 1) := dk_28 (dk_at dksX8_trace_0 4 rfl rfl)
theorem dX8_trace_5 : decode cX8_trace 5 = .ok (.iconst 0, 1) := dk_3 (dk_at dksX8_trace_0 5 rfl rfl)
theorem dX8_trace_6 : decode cX8_trace 6 = .ok (.iconst 2, 1) := dk_5 (dk_at dksX8_trace_0 6 rfl rfl)
theorem dX8_trace_7 : decode cX8_trace 7 = .ok (.invokestatic 26, 3) := dk_184 0 26 (dk_at dksX8_trace_0 7 rfl rfl)
theorem dX8_trace_10 : decode cX8_trace 10 = .ok (.ifCond .ne 6, 3) := dk_154 0 6 (dk_at dksX8_trace_0 10 rfl rfl)
theorem dX8_trace_13 : decode cX8_trace 13 = .ok (.ldc 109, 2) := dk_18 109 (dk_at dksX8_trace_0 13 rfl rfl)
theorem dX8_trace_15 : decode cX8_trace 15 = .ok (.ireturn, 1) := dk_172 (dk_at dksX8_trace_0 15 rfl rfl)
theorem dX8_trace_16 : decode cX8_trace 16 = .ok (.iload_n 1, 1) := dk_27 (dk_at dksX8_trace_0 16 rfl rfl)
theorem dX8_trace_17 : decode cX8_trace 17 = .ok (.aload_n 0, 1) := dk_42 (dk_at dksX8_trace_0 17 rfl rfl)
theorem dX8_trace_18 : decode cX8_trace 18 = .ok (.getfield 7, 3) := dk_180 0 7 (dk_at dksX8_trace_0 18 rfl rfl)
theorem dX8_trace_21 : decode cX8_trace 21 = .ok (.sipush 292, 3) := dk_17 1 36 (dk_at dksX8_trace_0 21 rfl rfl)
theorem dX8_trace_24 : decode cX8_trace 24 = .ok (.iaload, 1) := dk_46 (dk_at dksX8_trace_1 0 rfl rfl)
theorem dX8_trace_25 : decode cX8_trace 25 = .ok (.if_icmp .ge 20, 3) := dk_162 0 20 (dk_at dksX8_trace_1 1 rfl rfl)
theorem dX8_trace_28 : decode cX8_trace 28 = .ok (.aload_n 0, 1) := dk_42 (dk_at dksX8_trace_1 4 rfl rfl)
theorem dX8_trace_29 : decode cX8_trace 29 = .ok (.getfield 7, 3) := dk_180 0 7 (dk_at dksX8_trace_1 5 rfl rfl)
theorem dX8_trace_32 : decode cX8_trace 32 = .ok (.sipush 293, 3) := dk_17 1 37 (dk_at dksX8_trace_1 8 rfl rfl)
theorem dX8_trace_35 : decode cX8_trace 35 = .ok (.iconst 3, 1) := dk_6 (dk_at dksX8_trace_1 11 rfl rfl)
theorem dX8_trace_36 : decode cX8_trace 36 = .ok (.iload_n 1, 1) := dk_27 (dk_at dksX8_trace_1 12 rfl rfl)
theorem dX8_trace_37 : decode cX8_trace 37 = .ok (.imul, 1) := dk_104 (dk_at dksX8_trace_1 13 rfl rfl)
theorem dX8_trace_38 : decode cX8_trace 38 = .ok (.iadd, 1) := dk_96 (dk_at dksX8_trace_1 14 rfl rfl)
theorem dX8_trace_39 : decode cX8_trace 39 = .ok (.iload_n 2, 1) := dk_28 (dk_at dksX8_trace_1 15 rfl rfl)
theorem dX8_trace_40 : decode cX8_trace 40 = .ok (.iadd, 1) := dk_96 (dk_at dksX8_trace_1 16 rfl rfl)
theorem dX8_trace_41 : decode cX8_trace 41 = .ok (.iaload, 1) := dk_46 (dk_at dksX8_trace_1 17 rfl rfl)
theorem dX8_trace_42 : decode cX8_trace 42 = .ok (.goto 5, 3) := dk_167 0 5 (dk_at dksX8_trace_1 18 rfl rfl)
theorem dX8_trace_45 : decode cX8_trace 45 = .ok (.ldc 147, 2) := dk_18 147 (dk_at dksX8_trace_1 21 rfl rfl)
theorem dX8_trace_47 : decode cX8_trace 47 = .ok (.ireturn, 1) := dk_172 (dk_at dksX8_trace_1 23 rfl rfl)
abbrev cX8_use : ByteArray := prog_12_method_61_code
def yX8_use : MethodName := ⟨RX8, "use", "()F"⟩
def dkwX8_use_1 : List UInt8 := [180, 0, 7, 17, 0, 233, 46, 100, 134, 42, 180, 0, 7, 17, 0, 232, 46, 134, 110, 174]
abbrev dktX8_use_1 : List UInt8 := dkwX8_use_1 ++ []
def dkwX8_use_0 : List UInt8 := [42, 180, 0, 7, 17, 0, 232, 46, 154, 0, 7, 11, 167, 0, 31, 42, 180, 0, 7, 17, 0, 232, 46, 42]
abbrev dktX8_use_0 : List UInt8 := dkwX8_use_0 ++ dktX8_use_1
theorem dksX8_use_0 : cX8_use.data.toList.drop 0 = dktX8_use_0 := by decide +kernel
theorem dksX8_use_1 : cX8_use.data.toList.drop 24 = dktX8_use_1 := dk_seg dksX8_use_0 24 rfl rfl
theorem dX8_use_0 : decode cX8_use 0 = .ok (.aload_n 0, 1) := dk_42 (dk_at dksX8_use_0 0 rfl rfl)
theorem dX8_use_1 : decode cX8_use 1 = .ok (.getfield 7, 3) := dk_180 0 7 (dk_at dksX8_use_0 1 rfl rfl)
theorem dX8_use_4 : decode cX8_use 4 = .ok (.sipush 232, 3) := dk_17 0 232 (dk_at dksX8_use_0 4 rfl rfl)
theorem dX8_use_7 : decode cX8_use 7 = .ok (.iaload, 1) := dk_46 (dk_at dksX8_use_0 7 rfl rfl)
theorem dX8_use_8 : decode cX8_use 8 = .ok (.ifCond .ne 7, 3) := dk_154 0 7 (dk_at dksX8_use_0 8 rfl rfl)
theorem dX8_use_11 : decode cX8_use 11 = .ok (.fconst 0, 1) := dk_11 (dk_at dksX8_use_0 11 rfl rfl)
theorem dX8_use_12 : decode cX8_use 12 = .ok (.goto 31, 3) := dk_167 0 31 (dk_at dksX8_use_0 12 rfl rfl)
theorem dX8_use_15 : decode cX8_use 15 = .ok (.aload_n 0, 1) := dk_42 (dk_at dksX8_use_0 15 rfl rfl)
theorem dX8_use_16 : decode cX8_use 16 = .ok (.getfield 7, 3) := dk_180 0 7 (dk_at dksX8_use_0 16 rfl rfl)
theorem dX8_use_19 : decode cX8_use 19 = .ok (.sipush 232, 3) := dk_17 0 232 (dk_at dksX8_use_0 19 rfl rfl)
theorem dX8_use_22 : decode cX8_use 22 = .ok (.iaload, 1) := dk_46 (dk_at dksX8_use_0 22 rfl rfl)
theorem dX8_use_23 : decode cX8_use 23 = .ok (.aload_n 0, 1) := dk_42 (dk_at dksX8_use_0 23 rfl rfl)
theorem dX8_use_24 : decode cX8_use 24 = .ok (.getfield 7, 3) := dk_180 0 7 (dk_at dksX8_use_1 0 rfl rfl)
theorem dX8_use_27 : decode cX8_use 27 = .ok (.sipush 233, 3) := dk_17 0 233 (dk_at dksX8_use_1 3 rfl rfl)
theorem dX8_use_30 : decode cX8_use 30 = .ok (.iaload, 1) := dk_46 (dk_at dksX8_use_1 6 rfl rfl)
theorem dX8_use_31 : decode cX8_use 31 = .ok (.isub, 1) := dk_100 (dk_at dksX8_use_1 7 rfl rfl)
theorem dX8_use_32 : decode cX8_use 32 = .ok (.i2f, 1) := dk_134 (dk_at dksX8_use_1 8 rfl rfl)
theorem dX8_use_33 : decode cX8_use 33 = .ok (.aload_n 0, 1) := dk_42 (dk_at dksX8_use_1 9 rfl rfl)
theorem dX8_use_34 : decode cX8_use 34 = .ok (.getfield 7, 3) := dk_180 0 7 (dk_at dksX8_use_1 10 rfl rfl)
theorem dX8_use_37 : decode cX8_use 37 = .ok (.sipush 232, 3) := dk_17 0 232 (dk_at dksX8_use_1 13 rfl rfl)
theorem dX8_use_40 : decode cX8_use 40 = .ok (.iaload, 1) := dk_46 (dk_at dksX8_use_1 16 rfl rfl)
theorem dX8_use_41 : decode cX8_use 41 = .ok (.i2f, 1) := dk_134 (dk_at dksX8_use_1 17 rfl rfl)
theorem dX8_use_42 : decode cX8_use 42 = .ok (.fdiv, 1) := dk_110 (dk_at dksX8_use_1 18 rfl rfl)
theorem dX8_use_43 : decode cX8_use 43 = .ok (.freturn, 1) := dk_174 (dk_at dksX8_use_1 19 rfl rfl)
abbrev cX8_nextThread : ByteArray := prog_12_method_62_code
def yX8_nextThread : MethodName := ⟨RX8, "nextThread", "()I"⟩
def dkwX8_nextThread_1 : List UInt8 := [167, 0, 4, 27, 172]
abbrev dktX8_nextThread_1 : List UInt8 := dkwX8_nextThread_1 ++ []
def dkwX8_nextThread_0 : List UInt8 := [42, 182, 0, 110, 42, 182, 0, 61, 42, 182, 0, 64, 60, 42, 182, 0, 113, 27, 2, 160, 0, 8, 18, 147]
abbrev dktX8_nextThread_0 : List UInt8 := dkwX8_nextThread_0 ++ dktX8_nextThread_1
theorem dksX8_nextThread_0 : cX8_nextThread.data.toList.drop 0 = dktX8_nextThread_0 := by decide +kernel
theorem dksX8_nextThread_1 : cX8_nextThread.data.toList.drop 24 = dktX8_nextThread_1 := dk_seg dksX8_nextThread_0 24 rfl rfl
theorem dX8_nextThread_0 : decode cX8_nextThread 0 = .ok (.aload_n 0, 1) := dk_42 (dk_at dksX8_nextThread_0 0 rfl rfl)
theorem dX8_nextThread_1 : decode cX8_nextThread 1 = .ok (.invokevirtual 110, 3) := dk_182 0 110 (dk_at dksX8_nextThread_0 1 rfl rfl)
theorem dX8_nextThread_4 : decode cX8_nextThread 4 = .ok (.aload_n 0, 1) := dk_42 (dk_at dksX8_nextThread_0 4 rfl rfl)
theorem dX8_nextThread_5 : decode cX8_nextThread 5 = .ok (.invokevirtual 61, 3) := dk_182 0 61 (dk_at dksX8_nextThread_0 5 rfl rfl)
theorem dX8_nextThread_8 : decode cX8_nextThread 8 = .ok (.aload_n 0, 1) := dk_42 (dk_at dksX8_nextThread_0 8 rfl rfl)
theorem dX8_nextThread_9 : decode cX8_nextThread 9 = .ok (.invokevirtual 64, 3) := dk_182 0 64 (dk_at dksX8_nextThread_0 9 rfl rfl)
theorem dX8_nextThread_12 : decode cX8_nextThread 12 = .ok (.istore_n 1, 1) := dk_60 (dk_at dksX8_nextThread_0 12 rfl rfl)
theorem dX8_nextThread_13 : decode cX8_nextThread 13 = .ok (.aload_n 0, 1) := dk_42 (dk_at dksX8_nextThread_0 13 rfl rfl)
theorem dX8_nextThread_14 : decode cX8_nextThread 14 = .ok (.invokevirtual 113, 3) := dk_182 0 113 (dk_at dksX8_nextThread_0 14 rfl rfl)
theorem dX8_nextThread_17 : decode cX8_nextThread 17 = .ok (.iload_n 1, 1) := dk_27 (dk_at dksX8_nextThread_0 17 rfl rfl)
theorem dX8_nextThread_18 : decode cX8_nextThread 18 = .ok (.iconst (-1), 1) := dk_2 (dk_at dksX8_nextThread_0 18 rfl rfl)
theorem dX8_nextThread_19 : decode cX8_nextThread 19 = .ok (.if_icmp .ne 8, 3) := dk_160 0 8 (dk_at dksX8_nextThread_0 19 rfl rfl)
theorem dX8_nextThread_22 : decode cX8_nextThread 22 = .ok (.ldc 147, 2) := dk_18 147 (dk_at dksX8_nextThread_0 22 rfl rfl)
theorem dX8_nextThread_24 : decode cX8_nextThread 24 = .ok (.goto 4, 3) := dk_167 0 4 (dk_at dksX8_nextThread_1 0 rfl rfl)
theorem dX8_nextThread_27 : decode cX8_nextThread 27 = .ok (.iload_n 1, 1) := dk_27 (dk_at dksX8_nextThread_1 3 rfl rfl)
theorem dX8_nextThread_28 : decode cX8_nextThread 28 = .ok (.ireturn, 1) := dk_172 (dk_at dksX8_nextThread_1 4 rfl rfl)
abbrev cX8_cyclesLeft : ByteArray := prog_12_method_65_code
def yX8_cyclesLeft : MethodName := ⟨RX8, "cyclesLeft", "()I"⟩
def dkwX8_cyclesLeft_0 : List UInt8 := [42, 42, 180, 0, 7, 17, 0, 242, 46, 42, 180, 0, 7, 17, 0, 243, 46, 182, 0, 154, 172]
abbrev dktX8_cyclesLeft_0 : List UInt8 := dkwX8_cyclesLeft_0 ++ []
theorem dksX8_cyclesLeft_0 : cX8_cyclesLeft.data.toList.drop 0 = dktX8_cyclesLeft_0 := by decide +kernel
theorem dX8_cyclesLeft_0 : decode cX8_cyclesLeft 0 = .ok (.aload_n 0, 1) := dk_42 (dk_at dksX8_cyclesLeft_0 0 rfl rfl)
theorem dX8_cyclesLeft_1 : decode cX8_cyclesLeft 1 = .ok (.aload_n 0, 1) := dk_42 (dk_at dksX8_cyclesLeft_0 1 rfl rfl)
theorem dX8_cyclesLeft_2 : decode cX8_cyclesLeft 2 = .ok (.getfield 7, 3) := dk_180 0 7 (dk_at dksX8_cyclesLeft_0 2 rfl rfl)
theorem dX8_cyclesLeft_5 : decode cX8_cyclesLeft 5 = .ok (.sipush 242, 3) := dk_17 0 242 (dk_at dksX8_cyclesLeft_0 5 rfl rfl)
theorem dX8_cyclesLeft_8 : decode cX8_cyclesLeft 8 = .ok (.iaload, 1) := dk_46 (dk_at dksX8_cyclesLeft_0 8 rfl rfl)
theorem dX8_cyclesLeft_9 : decode cX8_cyclesLeft 9 = .ok (.aload_n 0, 1) := dk_42 (dk_at dksX8_cyclesLeft_0 9 rfl rfl)
theorem dX8_cyclesLeft_10 : decode cX8_cyclesLeft 10 = .ok (.getfield 7, 3) := dk_180 0 7 (dk_at dksX8_cyclesLeft_0 10 rfl rfl)
theorem dX8_cyclesLeft_13 : decode cX8_cyclesLeft 13 = .ok (.sipush 243, 3) := dk_17 0 243 (dk_at dksX8_cyclesLeft_0 13 rfl rfl)
theorem dX8_cyclesLeft_16 : decode cX8_cyclesLeft 16 = .ok (.iaload, 1) := dk_46 (dk_at dksX8_cyclesLeft_0 16 rfl rfl)
theorem dX8_cyclesLeft_17 : decode cX8_cyclesLeft 17 = .ok (.invokevirtual 154, 3) := dk_182 0 154 (dk_at dksX8_cyclesLeft_0 17 rfl rfl)
theorem dX8_cyclesLeft_20 : decode cX8_cyclesLeft 20 = .ok (.ireturn, 1) := dk_172 (dk_at dksX8_cyclesLeft_0 20 rfl rfl)
abbrev cX8_leftIf : ByteArray := prog_12_method_64_code
def yX8_leftIf : MethodName := ⟨RX8, "leftIf", "(II)I"⟩
def dkwX8_leftIf_1 : List UInt8 := [182, 0, 151, 62, 42, 182, 0, 113, 29, 172]
abbrev dktX8_leftIf_1 : List UInt8 := dkwX8_leftIf_1 ++ []
def dkwX8_leftIf_0 : List UInt8 := [42, 182, 0, 110, 42, 180, 0, 7, 17, 0, 242, 27, 79, 42, 180, 0, 7, 17, 0, 243, 28, 79, 42]
abbrev dktX8_leftIf_0 : List UInt8 := dkwX8_leftIf_0 ++ dktX8_leftIf_1
theorem dksX8_leftIf_0 : cX8_leftIf.data.toList.drop 0 = dktX8_leftIf_0 := by decide +kernel
theorem dksX8_leftIf_1 : cX8_leftIf.data.toList.drop 23 = dktX8_leftIf_1 := dk_seg dksX8_leftIf_0 23 rfl rfl
theorem dX8_leftIf_0 : decode cX8_leftIf 0 = .ok (.aload_n 0, 1) := dk_42 (dk_at dksX8_leftIf_0 0 rfl rfl)
theorem dX8_leftIf_1 : decode cX8_leftIf 1 = .ok (.invokevirtual 110, 3) := dk_182 0 110 (dk_at dksX8_leftIf_0 1 rfl rfl)
theorem dX8_leftIf_4 : decode cX8_leftIf 4 = .ok (.aload_n 0, 1) := dk_42 (dk_at dksX8_leftIf_0 4 rfl rfl)
theorem dX8_leftIf_5 : decode cX8_leftIf 5 = .ok (.getfield 7, 3) := dk_180 0 7 (dk_at dksX8_leftIf_0 5 rfl rfl)
theorem dX8_leftIf_8 : decode cX8_leftIf 8 = .ok (.sipush 242, 3) := dk_17 0 242 (dk_at dksX8_leftIf_0 8 rfl rfl)
theorem dX8_leftIf_11 : decode cX8_leftIf 11 = .ok (.iload_n 1, 1) := dk_27 (dk_at dksX8_leftIf_0 11 rfl rfl)
theorem dX8_leftIf_12 : decode cX8_leftIf 12 = .ok (.iastore, 1) := dk_79 (dk_at dksX8_leftIf_0 12 rfl rfl)
theorem dX8_leftIf_13 : decode cX8_leftIf 13 = .ok (.aload_n 0, 1) := dk_42 (dk_at dksX8_leftIf_0 13 rfl rfl)
theorem dX8_leftIf_14 : decode cX8_leftIf 14 = .ok (.getfield 7, 3) := dk_180 0 7 (dk_at dksX8_leftIf_0 14 rfl rfl)
theorem dX8_leftIf_17 : decode cX8_leftIf 17 = .ok (.sipush 243, 3) := dk_17 0 243 (dk_at dksX8_leftIf_0 17 rfl rfl)
theorem dX8_leftIf_20 : decode cX8_leftIf 20 = .ok (.iload_n 2, 1) := dk_28 (dk_at dksX8_leftIf_0 20 rfl rfl)
theorem dX8_leftIf_21 : decode cX8_leftIf 21 = .ok (.iastore, 1) := dk_79 (dk_at dksX8_leftIf_0 21 rfl rfl)
theorem dX8_leftIf_22 : decode cX8_leftIf 22 = .ok (.aload_n 0, 1) := dk_42 (dk_at dksX8_leftIf_0 22 rfl rfl)
theorem dX8_leftIf_23 : decode cX8_leftIf 23 = .ok (.invokevirtual 151, 3) := dk_182 0 151 (dk_at dksX8_leftIf_1 0 rfl rfl)
theorem dX8_leftIf_26 : decode cX8_leftIf 26 = .ok (.istore_n 3, 1) := dk_62 (dk_at dksX8_leftIf_1 3 rfl rfl)
theorem dX8_leftIf_27 : decode cX8_leftIf 27 = .ok (.aload_n 0, 1) := dk_42 (dk_at dksX8_leftIf_1 4 rfl rfl)
theorem dX8_leftIf_28 : decode cX8_leftIf 28 = .ok (.invokevirtual 113, 3) := dk_182 0 113 (dk_at dksX8_leftIf_1 5 rfl rfl)
theorem dX8_leftIf_31 : decode cX8_leftIf 31 = .ok (.iload_n 3, 1) := dk_29 (dk_at dksX8_leftIf_1 8 rfl rfl)
theorem dX8_leftIf_32 : decode cX8_leftIf 32 = .ok (.ireturn, 1) := dk_172 (dk_at dksX8_leftIf_1 9 rfl rfl)
abbrev cX8_runsOut : ByteArray := prog_12_method_63_code
def yX8_runsOut : MethodName := ⟨RX8, "runsOut", "()I"⟩
def dkwX8_runsOut_1 : List UInt8 := [167, 255, 235, 42, 182, 0, 116, 153, 0, 7, 27, 167, 0, 5, 18, 147, 172]
abbrev dktX8_runsOut_1 : List UInt8 := dkwX8_runsOut_1 ++ []
def dkwX8_runsOut_0 : List UInt8 := [3, 60, 27, 17, 1, 244, 162, 0, 20, 42, 182, 0, 116, 154, 0, 13, 42, 182, 0, 122, 132, 1, 1]
abbrev dktX8_runsOut_0 : List UInt8 := dkwX8_runsOut_0 ++ dktX8_runsOut_1
theorem dksX8_runsOut_0 : cX8_runsOut.data.toList.drop 0 = dktX8_runsOut_0 := by decide +kernel
theorem dksX8_runsOut_1 : cX8_runsOut.data.toList.drop 23 = dktX8_runsOut_1 := dk_seg dksX8_runsOut_0 23 rfl rfl
theorem dX8_runsOut_0 : decode cX8_runsOut 0 = .ok (.iconst 0, 1) := dk_3 (dk_at dksX8_runsOut_0 0 rfl rfl)
theorem dX8_runsOut_1 : decode cX8_runsOut 1 = .ok (.istore_n 1, 1) := dk_60 (dk_at dksX8_runsOut_0 1 rfl rfl)
theorem dX8_runsOut_2 : decode cX8_runsOut 2 = .ok (.iload_n 1, 1) := dk_27 (dk_at dksX8_runsOut_0 2 rfl rfl)
theorem dX8_runsOut_3 : decode cX8_runsOut 3 = .ok (.sipush 500, 3) := dk_17 1 244 (dk_at dksX8_runsOut_0 3 rfl rfl)
theorem dX8_runsOut_6 : decode cX8_runsOut 6 = .ok (.if_icmp .ge 20, 3) := dk_162 0 20 (dk_at dksX8_runsOut_0 6 rfl rfl)
theorem dX8_runsOut_9 : decode cX8_runsOut 9 = .ok (.aload_n 0, 1) := dk_42 (dk_at dksX8_runsOut_0 9 rfl rfl)
theorem dX8_runsOut_10 : decode cX8_runsOut 10 = .ok (.invokevirtual 116, 3) := dk_182 0 116 (dk_at dksX8_runsOut_0 10 rfl rfl)
theorem dX8_runsOut_13 : decode cX8_runsOut 13 = .ok (.ifCond .ne 13, 3) := dk_154 0 13 (dk_at dksX8_runsOut_0 13 rfl rfl)
theorem dX8_runsOut_16 : decode cX8_runsOut 16 = .ok (.aload_n 0, 1) := dk_42 (dk_at dksX8_runsOut_0 16 rfl rfl)
theorem dX8_runsOut_17 : decode cX8_runsOut 17 = .ok (.invokevirtual 122, 3) := dk_182 0 122 (dk_at dksX8_runsOut_0 17 rfl rfl)
theorem dX8_runsOut_20 : decode cX8_runsOut 20 = .ok (.iinc 1 1, 3) := dk_132 1 1 (dk_at dksX8_runsOut_0 20 rfl rfl)
theorem dX8_runsOut_23 : decode cX8_runsOut 23 = .ok (.goto (-21), 3) := dk_167 255 235 (dk_at dksX8_runsOut_1 0 rfl rfl)
theorem dX8_runsOut_26 : decode cX8_runsOut 26 = .ok (.aload_n 0, 1) := dk_42 (dk_at dksX8_runsOut_1 3 rfl rfl)
theorem dX8_runsOut_27 : decode cX8_runsOut 27 = .ok (.invokevirtual 116, 3) := dk_182 0 116 (dk_at dksX8_runsOut_1 4 rfl rfl)
theorem dX8_runsOut_30 : decode cX8_runsOut 30 = .ok (.ifCond .eq 7, 3) := dk_153 0 7 (dk_at dksX8_runsOut_1 7 rfl rfl)
theorem dX8_runsOut_33 : decode cX8_runsOut 33 = .ok (.iload_n 1, 1) := dk_27 (dk_at dksX8_runsOut_1 10 rfl rfl)
theorem dX8_runsOut_34 : decode cX8_runsOut 34 = .ok (.goto 5, 3) := dk_167 0 5 (dk_at dksX8_runsOut_1 11 rfl rfl)
theorem dX8_runsOut_37 : decode cX8_runsOut 37 = .ok (.ldc 147, 2) := dk_18 147 (dk_at dksX8_runsOut_1 14 rfl rfl)
theorem dX8_runsOut_39 : decode cX8_runsOut 39 = .ok (.ireturn, 1) := dk_172 (dk_at dksX8_runsOut_1 16 rfl rfl)
abbrev cX8_cyclesIf : ByteArray := prog_12_method_66_code
def yX8_cyclesIf : MethodName := ⟨RX8, "cyclesIf", "(II)I"⟩
def dkwX8_cyclesIf_1 : List UInt8 := [182, 0, 154, 167, 0, 5, 18, 109, 172]
abbrev dktX8_cyclesIf_1 : List UInt8 := dkwX8_cyclesIf_1 ++ []
def dkwX8_cyclesIf_0 : List UInt8 := [27, 3, 16, 20, 184, 0, 26, 153, 0, 21, 28, 3, 5, 184, 0, 26, 153, 0, 12, 42, 27, 28]
abbrev dktX8_cyclesIf_0 : List UInt8 := dkwX8_cyclesIf_0 ++ dktX8_cyclesIf_1
theorem dksX8_cyclesIf_0 : cX8_cyclesIf.data.toList.drop 0 = dktX8_cyclesIf_0 := by decide +kernel
theorem dksX8_cyclesIf_1 : cX8_cyclesIf.data.toList.drop 22 = dktX8_cyclesIf_1 := dk_seg dksX8_cyclesIf_0 22 rfl rfl
theorem dX8_cyclesIf_0 : decode cX8_cyclesIf 0 = .ok (.iload_n 1, 1) := dk_27 (dk_at dksX8_cyclesIf_0 0 rfl rfl)
theorem dX8_cyclesIf_1 : decode cX8_cyclesIf 1 = .ok (.iconst 0, 1) := dk_3 (dk_at dksX8_cyclesIf_0 1 rfl rfl)
theorem dX8_cyclesIf_2 : decode cX8_cyclesIf 2 = .ok (.bipush 20, 2) := dk_16 20 (dk_at dksX8_cyclesIf_0 2 rfl rfl)
theorem dX8_cyclesIf_4 : decode cX8_cyclesIf 4 = .ok (.invokestatic 26, 3) := dk_184 0 26 (dk_at dksX8_cyclesIf_0 4 rfl rfl)
theorem dX8_cyclesIf_7 : decode cX8_cyclesIf 7 = .ok (.ifCond .eq 21, 3) := dk_153 0 21 (dk_at dksX8_cyclesIf_0 7 rfl rfl)
theorem dX8_cyclesIf_10 : decode cX8_cyclesIf 10 = .ok (.iload_n 2, 1) := dk_28 (dk_at dksX8_cyclesIf_0 10 rfl rfl)
theorem dX8_cyclesIf_11 : decode cX8_cyclesIf 11 = .ok (.iconst 0, 1) := dk_3 (dk_at dksX8_cyclesIf_0 11 rfl rfl)
theorem dX8_cyclesIf_12 : decode cX8_cyclesIf 12 = .ok (.iconst 2, 1) := dk_5 (dk_at dksX8_cyclesIf_0 12 rfl rfl)
theorem dX8_cyclesIf_13 : decode cX8_cyclesIf 13 = .ok (.invokestatic 26, 3) := dk_184 0 26 (dk_at dksX8_cyclesIf_0 13 rfl rfl)
theorem dX8_cyclesIf_16 : decode cX8_cyclesIf 16 = .ok (.ifCond .eq 12, 3) := dk_153 0 12 (dk_at dksX8_cyclesIf_0 16 rfl rfl)
theorem dX8_cyclesIf_19 : decode cX8_cyclesIf 19 = .ok (.aload_n 0, 1) := dk_42 (dk_at dksX8_cyclesIf_0 19 rfl rfl)
theorem dX8_cyclesIf_20 : decode cX8_cyclesIf 20 = .ok (.iload_n 1, 1) := dk_27 (dk_at dksX8_cyclesIf_0 20 rfl rfl)
theorem dX8_cyclesIf_21 : decode cX8_cyclesIf 21 = .ok (.iload_n 2, 1) := dk_28 (dk_at dksX8_cyclesIf_0 21 rfl rfl)
theorem dX8_cyclesIf_22 : decode cX8_cyclesIf 22 = .ok (.invokevirtual 154, 3) := dk_182 0 154 (dk_at dksX8_cyclesIf_1 0 rfl rfl)
theorem dX8_cyclesIf_25 : decode cX8_cyclesIf 25 = .ok (.goto 5, 3) := dk_167 0 5 (dk_at dksX8_cyclesIf_1 3 rfl rfl)
theorem dX8_cyclesIf_28 : decode cX8_cyclesIf 28 = .ok (.ldc 109, 2) := dk_18 109 (dk_at dksX8_cyclesIf_1 6 rfl rfl)
theorem dX8_cyclesIf_30 : decode cX8_cyclesIf 30 = .ok (.ireturn, 1) := dk_172 (dk_at dksX8_cyclesIf_1 8 rfl rfl)
abbrev cX8_bestLend : ByteArray := prog_12_method_67_code
def yX8_bestLend : MethodName := ⟨RX8, "bestLend", "()I"⟩
def dkwX8_bestLend_2 : List UInt8 := [132, 3, 1, 167, 255, 215, 27, 172]
abbrev dktX8_bestLend_2 : List UInt8 := dkwX8_bestLend_2 ++ []
def dkwX8_bestLend_1 : List UInt8 := [182, 0, 154, 54, 4, 21, 4, 18, 147, 159, 0, 14, 21, 4, 28, 162, 0, 8, 29, 60, 21, 4, 61]
abbrev dktX8_bestLend_1 : List UInt8 := dkwX8_bestLend_1 ++ dktX8_bestLend_2
def dkwX8_bestLend_0 : List UInt8 := [18, 147, 60, 17, 1, 245, 61, 3, 62, 29, 6, 162, 0, 42, 42, 42, 180, 0, 7, 17, 0, 242, 46, 29]
abbrev dktX8_bestLend_0 : List UInt8 := dkwX8_bestLend_0 ++ dktX8_bestLend_1
theorem dksX8_bestLend_0 : cX8_bestLend.data.toList.drop 0 = dktX8_bestLend_0 := by decide +kernel
theorem dksX8_bestLend_1 : cX8_bestLend.data.toList.drop 24 = dktX8_bestLend_1 := dk_seg dksX8_bestLend_0 24 rfl rfl
theorem dksX8_bestLend_2 : cX8_bestLend.data.toList.drop 47 = dktX8_bestLend_2 := dk_seg dksX8_bestLend_1 23 rfl rfl
theorem dX8_bestLend_0 : decode cX8_bestLend 0 = .ok (.ldc 147, 2) := dk_18 147 (dk_at dksX8_bestLend_0 0 rfl rfl)
theorem dX8_bestLend_2 : decode cX8_bestLend 2 = .ok (.istore_n 1, 1) := dk_60 (dk_at dksX8_bestLend_0 2 rfl rfl)
theorem dX8_bestLend_3 : decode cX8_bestLend 3 = .ok (.sipush 501, 3) := dk_17 1 245 (dk_at dksX8_bestLend_0 3 rfl rfl)
theorem dX8_bestLend_6 : decode cX8_bestLend 6 = .ok (.istore_n 2, 1) := dk_61 (dk_at dksX8_bestLend_0 6 rfl rfl)
theorem dX8_bestLend_7 : decode cX8_bestLend 7 = .ok (.iconst 0, 1) := dk_3 (dk_at dksX8_bestLend_0 7 rfl rfl)
theorem dX8_bestLend_8 : decode cX8_bestLend 8 = .ok (.istore_n 3, 1) := dk_62 (dk_at dksX8_bestLend_0 8 rfl rfl)
theorem dX8_bestLend_9 : decode cX8_bestLend 9 = .ok (.iload_n 3, 1) := dk_29 (dk_at dksX8_bestLend_0 9 rfl rfl)
theorem dX8_bestLend_10 : decode cX8_bestLend 10 = .ok (.iconst 3, 1) := dk_6 (dk_at dksX8_bestLend_0 10 rfl rfl)
theorem dX8_bestLend_11 : decode cX8_bestLend 11 = .ok (.if_icmp .ge 42, 3) := dk_162 0 42 (dk_at dksX8_bestLend_0 11 rfl rfl)
theorem dX8_bestLend_14 : decode cX8_bestLend 14 = .ok (.aload_n 0, 1) := dk_42 (dk_at dksX8_bestLend_0 14 rfl rfl)
theorem dX8_bestLend_15 : decode cX8_bestLend 15 = .ok (.aload_n 0, 1) := dk_42 (dk_at dksX8_bestLend_0 15 rfl rfl)
theorem dX8_bestLend_16 : decode cX8_bestLend 16 = .ok (.getfield 7, 3) := dk_180 0 7 (dk_at dksX8_bestLend_0 16 rfl rfl)
theorem dX8_bestLend_19 : decode cX8_bestLend 19 = .ok (.sipush 242, 3) := dk_17 0 242 (dk_at dksX8_bestLend_0 19 rfl rfl)
theorem dX8_bestLend_22 : decode cX8_bestLend 22 = .ok (.iaload, 1) := dk_46 (dk_at dksX8_bestLend_0 22 rfl rfl)
theorem dX8_bestLend_23 : decode cX8_bestLend 23 = .ok (.iload_n 3, 1) := dk_29 (dk_at dksX8_bestLend_0 23 rfl rfl)
theorem dX8_bestLend_24 : decode cX8_bestLend 24 = .ok (.invokevirtual 154, 3) := dk_182 0 154 (dk_at dksX8_bestLend_1 0 rfl rfl)
theorem dX8_bestLend_27 : decode cX8_bestLend 27 = .ok (.istore 4, 2) := dk_54 4 (dk_at dksX8_bestLend_1 3 rfl rfl)
theorem dX8_bestLend_29 : decode cX8_bestLend 29 = .ok (.iload 4, 2) := dk_21 4 (dk_at dksX8_bestLend_1 5 rfl rfl)
theorem dX8_bestLend_31 : decode cX8_bestLend 31 = .ok (.ldc 147, 2) := dk_18 147 (dk_at dksX8_bestLend_1 7 rfl rfl)
theorem dX8_bestLend_33 : decode cX8_bestLend 33 = .ok (.if_icmp .eq 14, 3) := dk_159 0 14 (dk_at dksX8_bestLend_1 9 rfl rfl)
theorem dX8_bestLend_36 : decode cX8_bestLend 36 = .ok (.iload 4, 2) := dk_21 4 (dk_at dksX8_bestLend_1 12 rfl rfl)
theorem dX8_bestLend_38 : decode cX8_bestLend 38 = .ok (.iload_n 2, 1) := dk_28 (dk_at dksX8_bestLend_1 14 rfl rfl)
theorem dX8_bestLend_39 : decode cX8_bestLend 39 = .ok (.if_icmp .ge 8, 3) := dk_162 0 8 (dk_at dksX8_bestLend_1 15 rfl rfl)
theorem dX8_bestLend_42 : decode cX8_bestLend 42 = .ok (.iload_n 3, 1) := dk_29 (dk_at dksX8_bestLend_1 18 rfl rfl)
theorem dX8_bestLend_43 : decode cX8_bestLend 43 = .ok (.istore_n 1, 1) := dk_60 (dk_at dksX8_bestLend_1 19 rfl rfl)
theorem dX8_bestLend_44 : decode cX8_bestLend 44 = .ok (.iload 4, 2) := dk_21 4 (dk_at dksX8_bestLend_1 20 rfl rfl)
theorem dX8_bestLend_46 : decode cX8_bestLend 46 = .ok (.istore_n 2, 1) := dk_61 (dk_at dksX8_bestLend_1 22 rfl rfl)
theorem dX8_bestLend_47 : decode cX8_bestLend 47 = .ok (.iinc 3 1, 3) := dk_132 3 1 (dk_at dksX8_bestLend_2 0 rfl rfl)
theorem dX8_bestLend_50 : decode cX8_bestLend 50 = .ok (.goto (-41), 3) := dk_167 255 215 (dk_at dksX8_bestLend_2 3 rfl rfl)
theorem dX8_bestLend_53 : decode cX8_bestLend 53 = .ok (.iload_n 1, 1) := dk_27 (dk_at dksX8_bestLend_2 6 rfl rfl)
theorem dX8_bestLend_54 : decode cX8_bestLend 54 = .ok (.ireturn, 1) := dk_172 (dk_at dksX8_bestLend_2 7 rfl rfl)
abbrev cX8_finalWord : ByteArray := prog_12_method_68_code
def yX8_finalWord : MethodName := ⟨RX8, "finalWord", "(I)I"⟩
def dkwX8_finalWord_2 : List UInt8 := [167, 0, 4, 29, 172]
abbrev dktX8_finalWord_2 : List UInt8 := dkwX8_finalWord_2 ++ []
def dkwX8_finalWord_1 : List UInt8 := [180, 0, 7, 17, 0, 200, 27, 96, 46, 62, 42, 182, 0, 113, 28, 18, 147, 160, 0, 8, 18, 147]
abbrev dktX8_finalWord_1 : List UInt8 := dkwX8_finalWord_1 ++ dktX8_finalWord_2
def dkwX8_finalWord_0 : List UInt8 := [27, 3, 16, 31, 184, 0, 26, 154, 0, 6, 18, 75, 172, 42, 182, 0, 110, 42, 182, 0, 151, 61, 42]
abbrev dktX8_finalWord_0 : List UInt8 := dkwX8_finalWord_0 ++ dktX8_finalWord_1
theorem dksX8_finalWord_0 : cX8_finalWord.data.toList.drop 0 = dktX8_finalWord_0 := by decide +kernel
theorem dksX8_finalWord_1 : cX8_finalWord.data.toList.drop 23 = dktX8_finalWord_1 := dk_seg dksX8_finalWord_0 23 rfl rfl
theorem dksX8_finalWord_2 : cX8_finalWord.data.toList.drop 45 = dktX8_finalWord_2 := dk_seg dksX8_finalWord_1 22 rfl rfl
theorem dX8_finalWord_0 : decode cX8_finalWord 0 = .ok (.iload_n 1, 1) := dk_27 (dk_at dksX8_finalWord_0 0 rfl rfl)
theorem dX8_finalWord_1 : decode cX8_finalWord 1 = .ok (.iconst 0, 1) := dk_3 (dk_at dksX8_finalWord_0 1 rfl rfl)
theorem dX8_finalWord_2 : decode cX8_finalWord 2 = .ok (.bipush 31, 2) := dk_16 31 (dk_at dksX8_finalWord_0 2 rfl rfl)
theorem dX8_finalWord_4 : decode cX8_finalWord 4 = .ok (.invokestatic 26, 3) := dk_184 0 26 (dk_at dksX8_finalWord_0 4 rfl rfl)
theorem dX8_finalWord_7 : decode cX8_finalWord 7 = .ok (.ifCond .ne 6, 3) := dk_154 0 6 (dk_at dksX8_finalWord_0 7 rfl rfl)
theorem dX8_finalWord_10 : decode cX8_finalWord 10 = .ok (.ldc 75, 2) := dk_18 75 (dk_at dksX8_finalWord_0 10 rfl rfl)
theorem dX8_finalWord_12 : decode cX8_finalWord 12 = .ok (.ireturn, 1) := dk_172 (dk_at dksX8_finalWord_0 12 rfl rfl)
theorem dX8_finalWord_13 : decode cX8_finalWord 13 = .ok (.aload_n 0, 1) := dk_42 (dk_at dksX8_finalWord_0 13 rfl rfl)
theorem dX8_finalWord_14 : decode cX8_finalWord 14 = .ok (.invokevirtual 110, 3) := dk_182 0 110 (dk_at dksX8_finalWord_0 14 rfl rfl)
theorem dX8_finalWord_17 : decode cX8_finalWord 17 = .ok (.aload_n 0, 1) := dk_42 (dk_at dksX8_finalWord_0 17 rfl rfl)
theorem dX8_finalWord_18 : decode cX8_finalWord 18 = .ok (.invokevirtual 151, 3) := dk_182 0 151 (dk_at dksX8_finalWord_0 18 rfl rfl)
theorem dX8_finalWord_21 : decode cX8_finalWord 21 = .ok (.istore_n 2, 1) := dk_61 (dk_at dksX8_finalWord_0 21 rfl rfl)
theorem dX8_finalWord_22 : decode cX8_finalWord 22 = .ok (.aload_n 0, 1) := dk_42 (dk_at dksX8_finalWord_0 22 rfl rfl)
theorem dX8_finalWord_23 : decode cX8_finalWord 23 = .ok (.getfield 7, 3) := dk_180 0 7 (dk_at dksX8_finalWord_1 0 rfl rfl)
theorem dX8_finalWord_26 : decode cX8_finalWord 26 = .ok (.sipush 200, 3) := dk_17 0 200 (dk_at dksX8_finalWord_1 3 rfl rfl)
theorem dX8_finalWord_29 : decode cX8_finalWord 29 = .ok (.iload_n 1, 1) := dk_27 (dk_at dksX8_finalWord_1 6 rfl rfl)
theorem dX8_finalWord_30 : decode cX8_finalWord 30 = .ok (.iadd, 1) := dk_96 (dk_at dksX8_finalWord_1 7 rfl rfl)
theorem dX8_finalWord_31 : decode cX8_finalWord 31 = .ok (.iaload, 1) := dk_46 (dk_at dksX8_finalWord_1 8 rfl rfl)
theorem dX8_finalWord_32 : decode cX8_finalWord 32 = .ok (.istore_n 3, 1) := dk_62 (dk_at dksX8_finalWord_1 9 rfl rfl)
theorem dX8_finalWord_33 : decode cX8_finalWord 33 = .ok (.aload_n 0, 1) := dk_42 (dk_at dksX8_finalWord_1 10 rfl rfl)
theorem dX8_finalWord_34 : decode cX8_finalWord 34 = .ok (.invokevirtual 113, 3) := dk_182 0 113 (dk_at dksX8_finalWord_1 11 rfl rfl)
theorem dX8_finalWord_37 : decode cX8_finalWord 37 = .ok (.iload_n 2, 1) := dk_28 (dk_at dksX8_finalWord_1 14 rfl rfl)
theorem dX8_finalWord_38 : decode cX8_finalWord 38 = .ok (.ldc 147, 2) := dk_18 147 (dk_at dksX8_finalWord_1 15 rfl rfl)
theorem dX8_finalWord_40 : decode cX8_finalWord 40 = .ok (.if_icmp .ne 8, 3) := dk_160 0 8 (dk_at dksX8_finalWord_1 17 rfl rfl)
theorem dX8_finalWord_43 : decode cX8_finalWord 43 = .ok (.ldc 147, 2) := dk_18 147 (dk_at dksX8_finalWord_1 20 rfl rfl)
theorem dX8_finalWord_45 : decode cX8_finalWord 45 = .ok (.goto 4, 3) := dk_167 0 4 (dk_at dksX8_finalWord_2 0 rfl rfl)
theorem dX8_finalWord_48 : decode cX8_finalWord 48 = .ok (.iload_n 3, 1) := dk_29 (dk_at dksX8_finalWord_2 3 rfl rfl)
theorem dX8_finalWord_49 : decode cX8_finalWord 49 = .ok (.ireturn, 1) := dk_172 (dk_at dksX8_finalWord_2 4 rfl rfl)
theorem q62 : (Jvm.Cond.initialized "BarrelProcessorModel") ∈ lw_all := lw_g (lw_at lw_m1 18 rfl) rfl
theorem q816 : (Jvm.Cond.selects "BarrelProcessorModel" ({ cls := "java/lang/Object", name := "getClass", desc := "()Ljava/lang/Class;" } : Jvm.MethodName) ({ cls := "java/lang/Object", name := "getClass", desc := "()Ljava/lang/Class;" } : Jvm.MethodName)) ∈ lw_all := lw_g (lw_at lw_m4 52 rfl) rfl
theorem q1183 : (Jvm.Cond.instantiable "BarrelProcessorModel" (11 : Nat)) ∈ lw_all := lw_g (lw_at lw_m5 179 rfl) rfl
theorem q1185 : (Jvm.Cond.instanceMethod ({ cls := "BarrelProcessorModel", name := "<init>", desc := "()V" } : Jvm.MethodName)) ∈ lw_all := lw_g (lw_at lw_m5 181 rfl) rfl
theorem q1186 : (Jvm.Cond.code ({ cls := "BarrelProcessorModel", name := "<init>", desc := "()V" } : Jvm.MethodName) prog_12_method_1_code (2 : Nat) (Option.none : Option Jvm.ClassFile.FieldType)) ∈ lw_all := lw_g (lw_at lw_m5 182 rfl) rfl
theorem q1187 : (Jvm.Cond.methodLink "BarrelProcessorModel" (1 : Nat) ({ cls := "java/lang/Object", name := "<init>", desc := "()V" } : Jvm.MethodName)) ∈ lw_all := lw_g (lw_at lw_m5 183 rfl) rfl
theorem q1188 : (Jvm.Cond.methodLink "BarrelProcessorModel" (22 : Nat) ({ cls := "BarrelProcessorModel", name := "at", desc := "(II)I" } : Jvm.MethodName)) ∈ lw_all := lw_g (lw_at lw_m5 184 rfl) rfl
theorem q1189 : (Jvm.Cond.static ({ cls := "BarrelProcessorModel", name := "at", desc := "(II)I" } : Jvm.MethodName)) ∈ lw_all := lw_g (lw_at lw_m5 185 rfl) rfl
theorem q1190 : (Jvm.Cond.code ({ cls := "BarrelProcessorModel", name := "at", desc := "(II)I" } : Jvm.MethodName) prog_12_method_4_code (2 : Nat) (Option.some Jvm.ClassFile.FieldType.int)) ∈ lw_all := lw_g (lw_at lw_m5 186 rfl) rfl
theorem q1191 : (Jvm.Cond.fieldLink "BarrelProcessorModel" (7 : Nat) "BarrelProcessorModel" "s" "[I") ∈ lw_all := lw_g (lw_at lw_m5 187 rfl) rfl
theorem q1192 : (Jvm.Cond.fieldLink "BarrelProcessorModel" (13 : Nat) "BarrelProcessorModel" "aside" "[I") ∈ lw_all := lw_g (lw_at lw_m5 188 rfl) rfl
theorem q1193 : (Jvm.Cond.fieldLink "BarrelProcessorModel" (16 : Nat) "BarrelProcessorModel" "past" "[I") ∈ lw_all := lw_g (lw_at lw_m5 189 rfl) rfl
theorem q1194 : (Jvm.Cond.fieldLink "BarrelProcessorModel" (30 : Nat) "BarrelProcessorModel" "pasts" "I") ∈ lw_all := lw_g (lw_at lw_m5 190 rfl) rfl
theorem q1195 : (Jvm.Cond.fieldLink "BarrelProcessorModel" (19 : Nat) "BarrelProcessorModel" "text" "[I") ∈ lw_all := lw_g (lw_at lw_m5 191 rfl) rfl
theorem q1196 : (Jvm.Cond.fieldLink "BarrelProcessorModel" (81 : Nat) "BarrelProcessorModel" "length" "I") ∈ lw_all := lw_g (lw_at lw_m5 192 rfl) rfl
theorem q1197 : (Jvm.Cond.fieldLink "BarrelProcessorModel" (88 : Nat) "BarrelProcessorModel" "spot" "I") ∈ lw_all := lw_g (lw_at lw_m5 193 rfl) rfl
theorem q1198 : (Jvm.Cond.fieldLink "BarrelProcessorModel" (125 : Nat) "BarrelProcessorModel" "isWrong" "Z") ∈ lw_all := lw_g (lw_at lw_m5 194 rfl) rfl
theorem q1199 : (Jvm.Cond.fieldLink "BarrelProcessorModel" (94 : Nat) "BarrelProcessorModel" "operation" "I") ∈ lw_all := lw_g (lw_at lw_m5 195 rfl) rfl
theorem q1200 : (Jvm.Cond.fieldLink "BarrelProcessorModel" (97 : Nat) "BarrelProcessorModel" "first" "I") ∈ lw_all := lw_g (lw_at lw_m5 196 rfl) rfl
theorem q1201 : (Jvm.Cond.fieldLink "BarrelProcessorModel" (100 : Nat) "BarrelProcessorModel" "second" "I") ∈ lw_all := lw_g (lw_at lw_m5 197 rfl) rfl
theorem q1202 : (Jvm.Cond.laysFinal "BarrelProcessorModel" "BarrelProcessorModel" "s" "[I") ∈ lw_all := lw_g (lw_at lw_m5 198 rfl) rfl
theorem q1203 : (Jvm.Cond.soleField "BarrelProcessorModel" "s") ∈ lw_all := lw_g (lw_at lw_m5 199 rfl) rfl
theorem q1204 : (Jvm.Cond.laysFinal "BarrelProcessorModel" "BarrelProcessorModel" "aside" "[I") ∈ lw_all := lw_g (lw_at lw_m5 200 rfl) rfl
theorem q1205 : (Jvm.Cond.soleField "BarrelProcessorModel" "aside") ∈ lw_all := lw_g (lw_at lw_m5 201 rfl) rfl
theorem q1206 : (Jvm.Cond.laysFinal "BarrelProcessorModel" "BarrelProcessorModel" "past" "[I") ∈ lw_all := lw_g (lw_at lw_m5 202 rfl) rfl
theorem q1207 : (Jvm.Cond.soleField "BarrelProcessorModel" "past") ∈ lw_all := lw_g (lw_at lw_m5 203 rfl) rfl
theorem q1208 : (Jvm.Cond.lays "BarrelProcessorModel" "BarrelProcessorModel" "pasts" "I") ∈ lw_all := lw_g (lw_at lw_m5 204 rfl) rfl
theorem q1209 : (Jvm.Cond.soleField "BarrelProcessorModel" "pasts") ∈ lw_all := lw_g (lw_at lw_m5 205 rfl) rfl
theorem q1210 : (Jvm.Cond.laysFinal "BarrelProcessorModel" "BarrelProcessorModel" "text" "[I") ∈ lw_all := lw_g (lw_at lw_m5 206 rfl) rfl
theorem q1211 : (Jvm.Cond.soleField "BarrelProcessorModel" "text") ∈ lw_all := lw_g (lw_at lw_m5 207 rfl) rfl
theorem q1212 : (Jvm.Cond.lays "BarrelProcessorModel" "BarrelProcessorModel" "length" "I") ∈ lw_all := lw_g (lw_at lw_m5 208 rfl) rfl
theorem q1213 : (Jvm.Cond.soleField "BarrelProcessorModel" "length") ∈ lw_all := lw_g (lw_at lw_m5 209 rfl) rfl
theorem q1214 : (Jvm.Cond.lays "BarrelProcessorModel" "BarrelProcessorModel" "spot" "I") ∈ lw_all := lw_g (lw_at lw_m5 210 rfl) rfl
theorem q1215 : (Jvm.Cond.soleField "BarrelProcessorModel" "spot") ∈ lw_all := lw_g (lw_at lw_m5 211 rfl) rfl
theorem q1216 : (Jvm.Cond.lays "BarrelProcessorModel" "BarrelProcessorModel" "isWrong" "Z") ∈ lw_all := lw_g (lw_at lw_m5 212 rfl) rfl
theorem q1217 : (Jvm.Cond.soleField "BarrelProcessorModel" "isWrong") ∈ lw_all := lw_g (lw_at lw_m5 213 rfl) rfl
theorem q1218 : (Jvm.Cond.lays "BarrelProcessorModel" "BarrelProcessorModel" "operation" "I") ∈ lw_all := lw_g (lw_at lw_m5 214 rfl) rfl
theorem q1219 : (Jvm.Cond.soleField "BarrelProcessorModel" "operation") ∈ lw_all := lw_g (lw_at lw_m5 215 rfl) rfl
theorem q1220 : (Jvm.Cond.lays "BarrelProcessorModel" "BarrelProcessorModel" "first" "I") ∈ lw_all := lw_g (lw_at lw_m5 216 rfl) rfl
theorem q1221 : (Jvm.Cond.soleField "BarrelProcessorModel" "first") ∈ lw_all := lw_g (lw_at lw_m5 217 rfl) rfl
theorem q1222 : (Jvm.Cond.lays "BarrelProcessorModel" "BarrelProcessorModel" "second" "I") ∈ lw_all := lw_g (lw_at lw_m5 218 rfl) rfl
theorem q1223 : (Jvm.Cond.soleField "BarrelProcessorModel" "second") ∈ lw_all := lw_g (lw_at lw_m5 219 rfl) rfl
theorem q1224 : (Jvm.Cond.superclass "BarrelProcessorModel" "java/lang/Object") ∈ lw_all := lw_g (lw_at lw_m5 220 rfl) rfl
theorem q1226 : (Jvm.Cond.instanceMethod ({ cls := "BarrelProcessorModel", name := "assemble", desc := "(I)I" } : Jvm.MethodName)) ∈ lw_all := lw_g (lw_at lw_m5 222 rfl) rfl
theorem q1227 : (Jvm.Cond.selects "BarrelProcessorModel" ({ cls := "BarrelProcessorModel", name := "assemble", desc := "(I)I" } : Jvm.MethodName) ({ cls := "BarrelProcessorModel", name := "assemble", desc := "(I)I" } : Jvm.MethodName)) ∈ lw_all := lw_g (lw_at lw_m5 223 rfl) rfl
theorem q1228 : (Jvm.Cond.code ({ cls := "BarrelProcessorModel", name := "assemble", desc := "(I)I" } : Jvm.MethodName) prog_12_method_23_code (4 : Nat) (Option.some Jvm.ClassFile.FieldType.int)) ∈ lw_all := lw_g (lw_at lw_m5 224 rfl) rfl
theorem q1229 : (Jvm.Cond.methodLink "BarrelProcessorModel" (72 : Nat) ({ cls := "BarrelProcessorModel", name := "isPlace", desc := "(I)Z" } : Jvm.MethodName)) ∈ lw_all := lw_g (lw_at lw_m5 225 rfl) rfl
theorem q1230 : (Jvm.Cond.static ({ cls := "BarrelProcessorModel", name := "isPlace", desc := "(I)Z" } : Jvm.MethodName)) ∈ lw_all := lw_g (lw_at lw_m5 226 rfl) rfl
theorem q1231 : (Jvm.Cond.code ({ cls := "BarrelProcessorModel", name := "isPlace", desc := "(I)Z" } : Jvm.MethodName) prog_12_method_6_code (1 : Nat) (Option.some Jvm.ClassFile.FieldType.boolean)) ∈ lw_all := lw_g (lw_at lw_m5 227 rfl) rfl
theorem q1232 : (Jvm.Cond.methodLink "BarrelProcessorModel" (26 : Nat) ({ cls := "BarrelProcessorModel", name := "in", desc := "(III)Z" } : Jvm.MethodName)) ∈ lw_all := lw_g (lw_at lw_m5 228 rfl) rfl
theorem q1233 : (Jvm.Cond.static ({ cls := "BarrelProcessorModel", name := "in", desc := "(III)Z" } : Jvm.MethodName)) ∈ lw_all := lw_g (lw_at lw_m5 229 rfl) rfl
theorem q1234 : (Jvm.Cond.code ({ cls := "BarrelProcessorModel", name := "in", desc := "(III)Z" } : Jvm.MethodName) prog_12_method_3_code (3 : Nat) (Option.some Jvm.ClassFile.FieldType.boolean)) ∈ lw_all := lw_g (lw_at lw_m5 230 rfl) rfl
theorem q1235 : (Jvm.Cond.constant "BarrelProcessorModel" (75 : Nat) (-100001 : Int32)) ∈ lw_all := lw_g (lw_at lw_m5 231 rfl) rfl
theorem q1236 : (Jvm.Cond.methodLink "BarrelProcessorModel" (76 : Nat) ({ cls := "BarrelProcessorModel", name := "isFaulty", desc := "()Z" } : Jvm.MethodName)) ∈ lw_all := lw_g (lw_at lw_m5 232 rfl) rfl
theorem q1237 : (Jvm.Cond.privateMethod ({ cls := "BarrelProcessorModel", name := "isFaulty", desc := "()Z" } : Jvm.MethodName)) ∈ lw_tbl := lw_at lw_m5 233 rfl
theorem q1238 : (Jvm.Cond.instanceMethod ({ cls := "BarrelProcessorModel", name := "isFaulty", desc := "()Z" } : Jvm.MethodName)) ∈ lw_all := lw_g (lw_at lw_m5 234 rfl) rfl
theorem q1239 : (Jvm.Cond.code ({ cls := "BarrelProcessorModel", name := "isFaulty", desc := "()Z" } : Jvm.MethodName) prog_12_method_42_code (2 : Nat) (Option.some Jvm.ClassFile.FieldType.boolean)) ∈ lw_all := lw_g (lw_at lw_m5 235 rfl) rfl
theorem q1240 : (Jvm.Cond.methodLink "BarrelProcessorModel" (91 : Nat) ({ cls := "BarrelProcessorModel", name := "instruction", desc := "()V" } : Jvm.MethodName)) ∈ lw_all := lw_g (lw_at lw_m5 236 rfl) rfl
theorem q1241 : (Jvm.Cond.privateMethod ({ cls := "BarrelProcessorModel", name := "instruction", desc := "()V" } : Jvm.MethodName)) ∈ lw_tbl := lw_at lw_m5 237 rfl
theorem q1242 : (Jvm.Cond.instanceMethod ({ cls := "BarrelProcessorModel", name := "instruction", desc := "()V" } : Jvm.MethodName)) ∈ lw_all := lw_g (lw_at lw_m5 238 rfl) rfl
theorem q1243 : (Jvm.Cond.code ({ cls := "BarrelProcessorModel", name := "instruction", desc := "()V" } : Jvm.MethodName) prog_12_method_41_code (1 : Nat) (Option.none : Option Jvm.ClassFile.FieldType)) ∈ lw_all := lw_g (lw_at lw_m5 239 rfl) rfl
theorem q1244 : (Jvm.Cond.methodLink "BarrelProcessorModel" (129 : Nat) ({ cls := "BarrelProcessorModel", name := "next", desc := "()I" } : Jvm.MethodName)) ∈ lw_all := lw_g (lw_at lw_m6 0 rfl) rfl
theorem q1245 : (Jvm.Cond.privateMethod ({ cls := "BarrelProcessorModel", name := "next", desc := "()I" } : Jvm.MethodName)) ∈ lw_tbl := lw_at lw_m6 1 rfl
theorem q1246 : (Jvm.Cond.instanceMethod ({ cls := "BarrelProcessorModel", name := "next", desc := "()I" } : Jvm.MethodName)) ∈ lw_all := lw_g (lw_at lw_m6 2 rfl) rfl
theorem q1247 : (Jvm.Cond.code ({ cls := "BarrelProcessorModel", name := "next", desc := "()I" } : Jvm.MethodName) prog_12_method_35_code (1 : Nat) (Option.some Jvm.ClassFile.FieldType.int)) ∈ lw_all := lw_g (lw_at lw_m6 3 rfl) rfl
theorem q1248 : (Jvm.Cond.methodLink "BarrelProcessorModel" (138 : Nat) ({ cls := "BarrelProcessorModel", name := "operationOf", desc := "(I)I" } : Jvm.MethodName)) ∈ lw_all := lw_g (lw_at lw_m6 4 rfl) rfl
theorem q1249 : (Jvm.Cond.static ({ cls := "BarrelProcessorModel", name := "operationOf", desc := "(I)I" } : Jvm.MethodName)) ∈ lw_all := lw_g (lw_at lw_m6 5 rfl) rfl
theorem q1250 : (Jvm.Cond.code ({ cls := "BarrelProcessorModel", name := "operationOf", desc := "(I)I" } : Jvm.MethodName) prog_12_method_40_code (1 : Nat) (Option.some Jvm.ClassFile.FieldType.int)) ∈ lw_all := lw_g (lw_at lw_m6 6 rfl) rfl
theorem q1251 : (Jvm.Cond.methodLink "BarrelProcessorModel" (135 : Nat) ({ cls := "BarrelProcessorModel", name := "upTo", desc := "(II)I" } : Jvm.MethodName)) ∈ lw_all := lw_g (lw_at lw_m6 7 rfl) rfl
theorem q1252 : (Jvm.Cond.privateMethod ({ cls := "BarrelProcessorModel", name := "upTo", desc := "(II)I" } : Jvm.MethodName)) ∈ lw_tbl := lw_at lw_m6 8 rfl
theorem q1253 : (Jvm.Cond.instanceMethod ({ cls := "BarrelProcessorModel", name := "upTo", desc := "(II)I" } : Jvm.MethodName)) ∈ lw_all := lw_g (lw_at lw_m6 9 rfl) rfl
theorem q1254 : (Jvm.Cond.code ({ cls := "BarrelProcessorModel", name := "upTo", desc := "(II)I" } : Jvm.MethodName) prog_12_method_38_code (5 : Nat) (Option.some Jvm.ClassFile.FieldType.int)) ∈ lw_all := lw_g (lw_at lw_m6 10 rfl) rfl
theorem q1255 : (Jvm.Cond.methodLink "BarrelProcessorModel" (132 : Nat) ({ cls := "BarrelProcessorModel", name := "digit", desc := "(II)I" } : Jvm.MethodName)) ∈ lw_all := lw_g (lw_at lw_m6 11 rfl) rfl
theorem q1256 : (Jvm.Cond.privateMethod ({ cls := "BarrelProcessorModel", name := "digit", desc := "(II)I" } : Jvm.MethodName)) ∈ lw_tbl := lw_at lw_m6 12 rfl
theorem q1257 : (Jvm.Cond.instanceMethod ({ cls := "BarrelProcessorModel", name := "digit", desc := "(II)I" } : Jvm.MethodName)) ∈ lw_all := lw_g (lw_at lw_m6 13 rfl) rfl
theorem q1258 : (Jvm.Cond.code ({ cls := "BarrelProcessorModel", name := "digit", desc := "(II)I" } : Jvm.MethodName) prog_12_method_37_code (4 : Nat) (Option.some Jvm.ClassFile.FieldType.int)) ∈ lw_all := lw_g (lw_at lw_m6 14 rfl) rfl
theorem q1259 : (Jvm.Cond.methodLink "BarrelProcessorModel" (141 : Nat) ({ cls := "BarrelProcessorModel", name := "sign", desc := "(I)V" } : Jvm.MethodName)) ∈ lw_all := lw_g (lw_at lw_m6 15 rfl) rfl
theorem q1260 : (Jvm.Cond.privateMethod ({ cls := "BarrelProcessorModel", name := "sign", desc := "(I)V" } : Jvm.MethodName)) ∈ lw_tbl := lw_at lw_m6 16 rfl
theorem q1261 : (Jvm.Cond.instanceMethod ({ cls := "BarrelProcessorModel", name := "sign", desc := "(I)V" } : Jvm.MethodName)) ∈ lw_all := lw_g (lw_at lw_m6 17 rfl) rfl
theorem q1262 : (Jvm.Cond.code ({ cls := "BarrelProcessorModel", name := "sign", desc := "(I)V" } : Jvm.MethodName) prog_12_method_36_code (2 : Nat) (Option.none : Option Jvm.ClassFile.FieldType)) ∈ lw_all := lw_g (lw_at lw_m6 18 rfl) rfl
theorem q1263 : (Jvm.Cond.methodLink "BarrelProcessorModel" (144 : Nat) ({ cls := "BarrelProcessorModel", name := "number", desc := "()I" } : Jvm.MethodName)) ∈ lw_all := lw_g (lw_at lw_m6 19 rfl) rfl
theorem q1264 : (Jvm.Cond.privateMethod ({ cls := "BarrelProcessorModel", name := "number", desc := "()I" } : Jvm.MethodName)) ∈ lw_tbl := lw_at lw_m6 20 rfl
theorem q1265 : (Jvm.Cond.instanceMethod ({ cls := "BarrelProcessorModel", name := "number", desc := "()I" } : Jvm.MethodName)) ∈ lw_all := lw_g (lw_at lw_m6 21 rfl) rfl
theorem q1266 : (Jvm.Cond.code ({ cls := "BarrelProcessorModel", name := "number", desc := "()I" } : Jvm.MethodName) prog_12_method_39_code (1 : Nat) (Option.some Jvm.ClassFile.FieldType.int)) ∈ lw_all := lw_g (lw_at lw_m6 22 rfl) rfl
theorem q1267 : (Jvm.Cond.constant "BarrelProcessorModel" (80 : Nat) (-100003 : Int32)) ∈ lw_all := lw_g (lw_at lw_m6 23 rfl) rfl
theorem q1268 : (Jvm.Cond.constant "BarrelProcessorModel" (84 : Nat) (-100004 : Int32)) ∈ lw_all := lw_g (lw_at lw_m6 24 rfl) rfl
theorem q1269 : (Jvm.Cond.methodLink "BarrelProcessorModel" (85 : Nat) ({ cls := "BarrelProcessorModel", name := "records", desc := "()V" } : Jvm.MethodName)) ∈ lw_all := lw_g (lw_at lw_m6 25 rfl) rfl
theorem q1270 : (Jvm.Cond.privateMethod ({ cls := "BarrelProcessorModel", name := "records", desc := "()V" } : Jvm.MethodName)) ∈ lw_tbl := lw_at lw_m6 26 rfl
theorem q1271 : (Jvm.Cond.instanceMethod ({ cls := "BarrelProcessorModel", name := "records", desc := "()V" } : Jvm.MethodName)) ∈ lw_all := lw_g (lw_at lw_m6 27 rfl) rfl
theorem q1272 : (Jvm.Cond.code ({ cls := "BarrelProcessorModel", name := "records", desc := "()V" } : Jvm.MethodName) prog_12_method_10_code (2 : Nat) (Option.none : Option Jvm.ClassFile.FieldType)) ∈ lw_all := lw_g (lw_at lw_m6 28 rfl) rfl
theorem q1274 : (Jvm.Cond.instanceMethod ({ cls := "BarrelProcessorModel", name := "start", desc := "(II)I" } : Jvm.MethodName)) ∈ lw_all := lw_g (lw_at lw_m6 30 rfl) rfl
theorem q1275 : (Jvm.Cond.selects "BarrelProcessorModel" ({ cls := "BarrelProcessorModel", name := "start", desc := "(II)I" } : Jvm.MethodName) ({ cls := "BarrelProcessorModel", name := "start", desc := "(II)I" } : Jvm.MethodName)) ∈ lw_all := lw_g (lw_at lw_m6 31 rfl) rfl
theorem q1276 : (Jvm.Cond.code ({ cls := "BarrelProcessorModel", name := "start", desc := "(II)I" } : Jvm.MethodName) prog_12_method_24_code (5 : Nat) (Option.some Jvm.ClassFile.FieldType.int)) ∈ lw_all := lw_g (lw_at lw_m6 32 rfl) rfl
theorem q1277 : (Jvm.Cond.methodLink "BarrelProcessorModel" (103 : Nat) ({ cls := "BarrelProcessorModel", name := "isThread", desc := "(I)Z" } : Jvm.MethodName)) ∈ lw_all := lw_g (lw_at lw_m6 33 rfl) rfl
theorem q1278 : (Jvm.Cond.static ({ cls := "BarrelProcessorModel", name := "isThread", desc := "(I)Z" } : Jvm.MethodName)) ∈ lw_all := lw_g (lw_at lw_m6 34 rfl) rfl
theorem q1279 : (Jvm.Cond.code ({ cls := "BarrelProcessorModel", name := "isThread", desc := "(I)Z" } : Jvm.MethodName) prog_12_method_5_code (1 : Nat) (Option.some Jvm.ClassFile.FieldType.boolean)) ∈ lw_all := lw_g (lw_at lw_m6 35 rfl) rfl
theorem q1281 : (Jvm.Cond.instanceMethod ({ cls := "BarrelProcessorModel", name := "halt", desc := "(I)I" } : Jvm.MethodName)) ∈ lw_all := lw_g (lw_at lw_m6 37 rfl) rfl
theorem q1282 : (Jvm.Cond.selects "BarrelProcessorModel" ({ cls := "BarrelProcessorModel", name := "halt", desc := "(I)I" } : Jvm.MethodName) ({ cls := "BarrelProcessorModel", name := "halt", desc := "(I)I" } : Jvm.MethodName)) ∈ lw_all := lw_g (lw_at lw_m6 38 rfl) rfl
theorem q1283 : (Jvm.Cond.code ({ cls := "BarrelProcessorModel", name := "halt", desc := "(I)I" } : Jvm.MethodName) prog_12_method_25_code (3 : Nat) (Option.some Jvm.ClassFile.FieldType.int)) ∈ lw_all := lw_g (lw_at lw_m6 39 rfl) rfl
theorem q1285 : (Jvm.Cond.instanceMethod ({ cls := "BarrelProcessorModel", name := "setRegister", desc := "(III)I" } : Jvm.MethodName)) ∈ lw_all := lw_g (lw_at lw_m6 41 rfl) rfl
theorem q1286 : (Jvm.Cond.selects "BarrelProcessorModel" ({ cls := "BarrelProcessorModel", name := "setRegister", desc := "(III)I" } : Jvm.MethodName) ({ cls := "BarrelProcessorModel", name := "setRegister", desc := "(III)I" } : Jvm.MethodName)) ∈ lw_all := lw_g (lw_at lw_m6 42 rfl) rfl
theorem q1287 : (Jvm.Cond.code ({ cls := "BarrelProcessorModel", name := "setRegister", desc := "(III)I" } : Jvm.MethodName) prog_12_method_26_code (5 : Nat) (Option.some Jvm.ClassFile.FieldType.int)) ∈ lw_all := lw_g (lw_at lw_m6 43 rfl) rfl
theorem q1288 : (Jvm.Cond.methodLink "BarrelProcessorModel" (106 : Nat) ({ cls := "BarrelProcessorModel", name := "isShort", desc := "(I)Z" } : Jvm.MethodName)) ∈ lw_all := lw_g (lw_at lw_m6 44 rfl) rfl
theorem q1289 : (Jvm.Cond.static ({ cls := "BarrelProcessorModel", name := "isShort", desc := "(I)Z" } : Jvm.MethodName)) ∈ lw_all := lw_g (lw_at lw_m6 45 rfl) rfl
theorem q1290 : (Jvm.Cond.code ({ cls := "BarrelProcessorModel", name := "isShort", desc := "(I)Z" } : Jvm.MethodName) prog_12_method_7_code (1 : Nat) (Option.some Jvm.ClassFile.FieldType.boolean)) ∈ lw_all := lw_g (lw_at lw_m6 46 rfl) rfl
theorem q1291 : (Jvm.Cond.constant "BarrelProcessorModel" (109 : Nat) (-100002 : Int32)) ∈ lw_all := lw_g (lw_at lw_m6 47 rfl) rfl
theorem q1292 : (Jvm.Cond.methodLink "BarrelProcessorModel" (34 : Nat) ({ cls := "BarrelProcessorModel", name := "register0", desc := "(II)I" } : Jvm.MethodName)) ∈ lw_all := lw_g (lw_at lw_m6 48 rfl) rfl
theorem q1293 : (Jvm.Cond.privateMethod ({ cls := "BarrelProcessorModel", name := "register0", desc := "(II)I" } : Jvm.MethodName)) ∈ lw_tbl := lw_at lw_m6 49 rfl
theorem q1294 : (Jvm.Cond.instanceMethod ({ cls := "BarrelProcessorModel", name := "register0", desc := "(II)I" } : Jvm.MethodName)) ∈ lw_all := lw_g (lw_at lw_m6 50 rfl) rfl
theorem q1295 : (Jvm.Cond.code ({ cls := "BarrelProcessorModel", name := "register0", desc := "(II)I" } : Jvm.MethodName) prog_12_method_11_code (3 : Nat) (Option.some Jvm.ClassFile.FieldType.int)) ∈ lw_all := lw_g (lw_at lw_m6 51 rfl) rfl
theorem q1296 : (Jvm.Cond.methodLink "BarrelProcessorModel" (37 : Nat) ({ cls := "BarrelProcessorModel", name := "puts", desc := "(III)V" } : Jvm.MethodName)) ∈ lw_all := lw_g (lw_at lw_m6 52 rfl) rfl
theorem q1297 : (Jvm.Cond.privateMethod ({ cls := "BarrelProcessorModel", name := "puts", desc := "(III)V" } : Jvm.MethodName)) ∈ lw_tbl := lw_at lw_m6 53 rfl
theorem q1298 : (Jvm.Cond.instanceMethod ({ cls := "BarrelProcessorModel", name := "puts", desc := "(III)V" } : Jvm.MethodName)) ∈ lw_all := lw_g (lw_at lw_m6 54 rfl) rfl
theorem q1299 : (Jvm.Cond.code ({ cls := "BarrelProcessorModel", name := "puts", desc := "(III)V" } : Jvm.MethodName) prog_12_method_12_code (4 : Nat) (Option.none : Option Jvm.ClassFile.FieldType)) ∈ lw_all := lw_g (lw_at lw_m6 55 rfl) rfl
theorem q1301 : (Jvm.Cond.instanceMethod ({ cls := "BarrelProcessorModel", name := "setWord", desc := "(II)I" } : Jvm.MethodName)) ∈ lw_all := lw_g (lw_at lw_m6 57 rfl) rfl
theorem q1302 : (Jvm.Cond.selects "BarrelProcessorModel" ({ cls := "BarrelProcessorModel", name := "setWord", desc := "(II)I" } : Jvm.MethodName) ({ cls := "BarrelProcessorModel", name := "setWord", desc := "(II)I" } : Jvm.MethodName)) ∈ lw_all := lw_g (lw_at lw_m6 58 rfl) rfl
theorem q1303 : (Jvm.Cond.code ({ cls := "BarrelProcessorModel", name := "setWord", desc := "(II)I" } : Jvm.MethodName) prog_12_method_27_code (4 : Nat) (Option.some Jvm.ClassFile.FieldType.int)) ∈ lw_all := lw_g (lw_at lw_m6 59 rfl) rfl
theorem q1305 : (Jvm.Cond.instanceMethod ({ cls := "BarrelProcessorModel", name := "setSlot", desc := "(II)I" } : Jvm.MethodName)) ∈ lw_all := lw_g (lw_at lw_m6 61 rfl) rfl
theorem q1306 : (Jvm.Cond.selects "BarrelProcessorModel" ({ cls := "BarrelProcessorModel", name := "setSlot", desc := "(II)I" } : Jvm.MethodName) ({ cls := "BarrelProcessorModel", name := "setSlot", desc := "(II)I" } : Jvm.MethodName)) ∈ lw_all := lw_g (lw_at lw_m6 62 rfl) rfl
theorem q1307 : (Jvm.Cond.code ({ cls := "BarrelProcessorModel", name := "setSlot", desc := "(II)I" } : Jvm.MethodName) prog_12_method_28_code (4 : Nat) (Option.some Jvm.ClassFile.FieldType.int)) ∈ lw_all := lw_g (lw_at lw_m6 63 rfl) rfl
theorem q1309 : (Jvm.Cond.instanceMethod ({ cls := "BarrelProcessorModel", name := "set", desc := "(II)I" } : Jvm.MethodName)) ∈ lw_all := lw_g (lw_at lw_m6 65 rfl) rfl
theorem q1310 : (Jvm.Cond.selects "BarrelProcessorModel" ({ cls := "BarrelProcessorModel", name := "set", desc := "(II)I" } : Jvm.MethodName) ({ cls := "BarrelProcessorModel", name := "set", desc := "(II)I" } : Jvm.MethodName)) ∈ lw_all := lw_g (lw_at lw_m6 66 rfl) rfl
theorem q1311 : (Jvm.Cond.code ({ cls := "BarrelProcessorModel", name := "set", desc := "(II)I" } : Jvm.MethodName) prog_12_method_29_code (4 : Nat) (Option.some Jvm.ClassFile.FieldType.int)) ∈ lw_all := lw_g (lw_at lw_m6 67 rfl) rfl
theorem q1313 : (Jvm.Cond.instanceMethod ({ cls := "BarrelProcessorModel", name := "setBreakpoint", desc := "(IZ)I" } : Jvm.MethodName)) ∈ lw_all := lw_g (lw_at lw_m6 69 rfl) rfl
theorem q1314 : (Jvm.Cond.selects "BarrelProcessorModel" ({ cls := "BarrelProcessorModel", name := "setBreakpoint", desc := "(IZ)I" } : Jvm.MethodName) ({ cls := "BarrelProcessorModel", name := "setBreakpoint", desc := "(IZ)I" } : Jvm.MethodName)) ∈ lw_all := lw_g (lw_at lw_m6 70 rfl) rfl
theorem q1315 : (Jvm.Cond.code ({ cls := "BarrelProcessorModel", name := "setBreakpoint", desc := "(IZ)I" } : Jvm.MethodName) prog_12_method_30_code (5 : Nat) (Option.some Jvm.ClassFile.FieldType.int)) ∈ lw_all := lw_g (lw_at lw_m6 71 rfl) rfl
theorem q1317 : (Jvm.Cond.instanceMethod ({ cls := "BarrelProcessorModel", name := "run", desc := "(I)I" } : Jvm.MethodName)) ∈ lw_all := lw_g (lw_at lw_m6 73 rfl) rfl
theorem q1318 : (Jvm.Cond.selects "BarrelProcessorModel" ({ cls := "BarrelProcessorModel", name := "run", desc := "(I)I" } : Jvm.MethodName) ({ cls := "BarrelProcessorModel", name := "run", desc := "(I)I" } : Jvm.MethodName)) ∈ lw_all := lw_g (lw_at lw_m6 74 rfl) rfl
theorem q1319 : (Jvm.Cond.code ({ cls := "BarrelProcessorModel", name := "run", desc := "(I)I" } : Jvm.MethodName) prog_12_method_32_code (3 : Nat) (Option.some Jvm.ClassFile.FieldType.int)) ∈ lw_all := lw_g (lw_at lw_m6 75 rfl) rfl
theorem q1320 : (Jvm.Cond.methodLink "BarrelProcessorModel" (116 : Nat) ({ cls := "BarrelProcessorModel", name := "isOver", desc := "()Z" } : Jvm.MethodName)) ∈ lw_all := lw_g (lw_at lw_m6 76 rfl) rfl
theorem q1321 : (Jvm.Cond.privateMethod ({ cls := "BarrelProcessorModel", name := "isOver", desc := "()Z" } : Jvm.MethodName)) ∈ lw_tbl := lw_at lw_m6 77 rfl
theorem q1322 : (Jvm.Cond.instanceMethod ({ cls := "BarrelProcessorModel", name := "isOver", desc := "()Z" } : Jvm.MethodName)) ∈ lw_all := lw_g (lw_at lw_m6 78 rfl) rfl
theorem q1323 : (Jvm.Cond.code ({ cls := "BarrelProcessorModel", name := "isOver", desc := "()Z" } : Jvm.MethodName) prog_12_method_22_code (1 : Nat) (Option.some Jvm.ClassFile.FieldType.boolean)) ∈ lw_all := lw_g (lw_at lw_m6 79 rfl) rfl
theorem q1324 : (Jvm.Cond.methodLink "BarrelProcessorModel" (53 : Nat) ({ cls := "BarrelProcessorModel", name := "many", desc := "(I)I" } : Jvm.MethodName)) ∈ lw_all := lw_g (lw_at lw_m6 80 rfl) rfl
theorem q1325 : (Jvm.Cond.privateMethod ({ cls := "BarrelProcessorModel", name := "many", desc := "(I)I" } : Jvm.MethodName)) ∈ lw_tbl := lw_at lw_m6 81 rfl
theorem q1326 : (Jvm.Cond.instanceMethod ({ cls := "BarrelProcessorModel", name := "many", desc := "(I)I" } : Jvm.MethodName)) ∈ lw_all := lw_g (lw_at lw_m6 82 rfl) rfl
theorem q1327 : (Jvm.Cond.code ({ cls := "BarrelProcessorModel", name := "many", desc := "(I)I" } : Jvm.MethodName) prog_12_method_17_code (4 : Nat) (Option.some Jvm.ClassFile.FieldType.int)) ∈ lw_all := lw_g (lw_at lw_m6 83 rfl) rfl
theorem q1328 : (Jvm.Cond.methodLink "BarrelProcessorModel" (119 : Nat) ({ cls := "BarrelProcessorModel", name := "isStopped", desc := "()Z" } : Jvm.MethodName)) ∈ lw_all := lw_g (lw_at lw_m6 84 rfl) rfl
theorem q1329 : (Jvm.Cond.privateMethod ({ cls := "BarrelProcessorModel", name := "isStopped", desc := "()Z" } : Jvm.MethodName)) ∈ lw_tbl := lw_at lw_m6 85 rfl
theorem q1330 : (Jvm.Cond.instanceMethod ({ cls := "BarrelProcessorModel", name := "isStopped", desc := "()Z" } : Jvm.MethodName)) ∈ lw_all := lw_g (lw_at lw_m6 86 rfl) rfl
theorem q1331 : (Jvm.Cond.code ({ cls := "BarrelProcessorModel", name := "isStopped", desc := "()Z" } : Jvm.MethodName) prog_12_method_31_code (3 : Nat) (Option.some Jvm.ClassFile.FieldType.boolean)) ∈ lw_all := lw_g (lw_at lw_m6 87 rfl) rfl
theorem q1332 : (Jvm.Cond.methodLink "BarrelProcessorModel" (110 : Nat) ({ cls := "BarrelProcessorModel", name := "putAside", desc := "()V" } : Jvm.MethodName)) ∈ lw_all := lw_g (lw_at lw_m6 88 rfl) rfl
theorem q1333 : (Jvm.Cond.privateMethod ({ cls := "BarrelProcessorModel", name := "putAside", desc := "()V" } : Jvm.MethodName)) ∈ lw_tbl := lw_at lw_m6 89 rfl
theorem q1334 : (Jvm.Cond.instanceMethod ({ cls := "BarrelProcessorModel", name := "putAside", desc := "()V" } : Jvm.MethodName)) ∈ lw_all := lw_g (lw_at lw_m6 90 rfl) rfl
theorem q1335 : (Jvm.Cond.code ({ cls := "BarrelProcessorModel", name := "putAside", desc := "()V" } : Jvm.MethodName) prog_12_method_8_code (2 : Nat) (Option.none : Option Jvm.ClassFile.FieldType)) ∈ lw_all := lw_g (lw_at lw_m6 91 rfl) rfl
theorem q1336 : (Jvm.Cond.methodLink "BarrelProcessorModel" (61 : Nat) ({ cls := "BarrelProcessorModel", name := "prepares", desc := "()V" } : Jvm.MethodName)) ∈ lw_all := lw_g (lw_at lw_m6 92 rfl) rfl
theorem q1337 : (Jvm.Cond.privateMethod ({ cls := "BarrelProcessorModel", name := "prepares", desc := "()V" } : Jvm.MethodName)) ∈ lw_tbl := lw_at lw_m6 93 rfl
theorem q1338 : (Jvm.Cond.instanceMethod ({ cls := "BarrelProcessorModel", name := "prepares", desc := "()V" } : Jvm.MethodName)) ∈ lw_all := lw_g (lw_at lw_m6 94 rfl) rfl
theorem q1339 : (Jvm.Cond.code ({ cls := "BarrelProcessorModel", name := "prepares", desc := "()V" } : Jvm.MethodName) prog_12_method_18_code (3 : Nat) (Option.none : Option Jvm.ClassFile.FieldType)) ∈ lw_all := lw_g (lw_at lw_m6 95 rfl) rfl
theorem q1340 : (Jvm.Cond.methodLink "BarrelProcessorModel" (64 : Nat) ({ cls := "BarrelProcessorModel", name := "issuing", desc := "()I" } : Jvm.MethodName)) ∈ lw_all := lw_g (lw_at lw_m6 96 rfl) rfl
theorem q1341 : (Jvm.Cond.privateMethod ({ cls := "BarrelProcessorModel", name := "issuing", desc := "()I" } : Jvm.MethodName)) ∈ lw_tbl := lw_at lw_m6 97 rfl
theorem q1342 : (Jvm.Cond.instanceMethod ({ cls := "BarrelProcessorModel", name := "issuing", desc := "()I" } : Jvm.MethodName)) ∈ lw_all := lw_g (lw_at lw_m6 98 rfl) rfl
theorem q1343 : (Jvm.Cond.code ({ cls := "BarrelProcessorModel", name := "issuing", desc := "()I" } : Jvm.MethodName) prog_12_method_20_code (5 : Nat) (Option.some Jvm.ClassFile.FieldType.int)) ∈ lw_all := lw_g (lw_at lw_m6 99 rfl) rfl
theorem q1344 : (Jvm.Cond.methodLink "BarrelProcessorModel" (57 : Nat) ({ cls := "BarrelProcessorModel", name := "isReady", desc := "(I)Z" } : Jvm.MethodName)) ∈ lw_all := lw_g (lw_at lw_m6 100 rfl) rfl
theorem q1345 : (Jvm.Cond.privateMethod ({ cls := "BarrelProcessorModel", name := "isReady", desc := "(I)Z" } : Jvm.MethodName)) ∈ lw_tbl := lw_at lw_m6 101 rfl
theorem q1346 : (Jvm.Cond.instanceMethod ({ cls := "BarrelProcessorModel", name := "isReady", desc := "(I)Z" } : Jvm.MethodName)) ∈ lw_all := lw_g (lw_at lw_m6 102 rfl) rfl
theorem q1347 : (Jvm.Cond.code ({ cls := "BarrelProcessorModel", name := "isReady", desc := "(I)Z" } : Jvm.MethodName) prog_12_method_19_code (2 : Nat) (Option.some Jvm.ClassFile.FieldType.boolean)) ∈ lw_all := lw_g (lw_at lw_m6 103 rfl) rfl
theorem q1348 : (Jvm.Cond.methodLink "BarrelProcessorModel" (113 : Nat) ({ cls := "BarrelProcessorModel", name := "putBack", desc := "()V" } : Jvm.MethodName)) ∈ lw_all := lw_g (lw_at lw_m6 104 rfl) rfl
theorem q1349 : (Jvm.Cond.privateMethod ({ cls := "BarrelProcessorModel", name := "putBack", desc := "()V" } : Jvm.MethodName)) ∈ lw_tbl := lw_at lw_m6 105 rfl
theorem q1350 : (Jvm.Cond.instanceMethod ({ cls := "BarrelProcessorModel", name := "putBack", desc := "()V" } : Jvm.MethodName)) ∈ lw_all := lw_g (lw_at lw_m6 106 rfl) rfl
theorem q1351 : (Jvm.Cond.code ({ cls := "BarrelProcessorModel", name := "putBack", desc := "()V" } : Jvm.MethodName) prog_12_method_9_code (2 : Nat) (Option.none : Option Jvm.ClassFile.FieldType)) ∈ lw_all := lw_g (lw_at lw_m6 107 rfl) rfl
theorem q1352 : (Jvm.Cond.methodLink "BarrelProcessorModel" (122 : Nat) ({ cls := "BarrelProcessorModel", name := "cycles", desc := "()V" } : Jvm.MethodName)) ∈ lw_all := lw_g (lw_at lw_m6 108 rfl) rfl
theorem q1353 : (Jvm.Cond.privateMethod ({ cls := "BarrelProcessorModel", name := "cycles", desc := "()V" } : Jvm.MethodName)) ∈ lw_tbl := lw_at lw_m6 109 rfl
theorem q1354 : (Jvm.Cond.instanceMethod ({ cls := "BarrelProcessorModel", name := "cycles", desc := "()V" } : Jvm.MethodName)) ∈ lw_all := lw_g (lw_at lw_m6 110 rfl) rfl
theorem q1355 : (Jvm.Cond.code ({ cls := "BarrelProcessorModel", name := "cycles", desc := "()V" } : Jvm.MethodName) prog_12_method_21_code (4 : Nat) (Option.none : Option Jvm.ClassFile.FieldType)) ∈ lw_all := lw_g (lw_at lw_m6 111 rfl) rfl
theorem q1356 : (Jvm.Cond.methodLink "BarrelProcessorModel" (68 : Nat) ({ cls := "BarrelProcessorModel", name := "executes", desc := "(I)V" } : Jvm.MethodName)) ∈ lw_all := lw_g (lw_at lw_m6 112 rfl) rfl
theorem q1357 : (Jvm.Cond.privateMethod ({ cls := "BarrelProcessorModel", name := "executes", desc := "(I)V" } : Jvm.MethodName)) ∈ lw_tbl := lw_at lw_m6 113 rfl
theorem q1358 : (Jvm.Cond.instanceMethod ({ cls := "BarrelProcessorModel", name := "executes", desc := "(I)V" } : Jvm.MethodName)) ∈ lw_all := lw_g (lw_at lw_m6 114 rfl) rfl
theorem q1359 : (Jvm.Cond.code ({ cls := "BarrelProcessorModel", name := "executes", desc := "(I)V" } : Jvm.MethodName) prog_12_method_16_code (3 : Nat) (Option.none : Option Jvm.ClassFile.FieldType)) ∈ lw_all := lw_g (lw_at lw_m6 115 rfl) rfl
theorem q1360 : (Jvm.Cond.methodLink "BarrelProcessorModel" (45 : Nat) ({ cls := "BarrelProcessorModel", name := "traces", desc := "(II)V" } : Jvm.MethodName)) ∈ lw_all := lw_g (lw_at lw_m6 116 rfl) rfl
theorem q1361 : (Jvm.Cond.privateMethod ({ cls := "BarrelProcessorModel", name := "traces", desc := "(II)V" } : Jvm.MethodName)) ∈ lw_tbl := lw_at lw_m6 117 rfl
theorem q1362 : (Jvm.Cond.instanceMethod ({ cls := "BarrelProcessorModel", name := "traces", desc := "(II)V" } : Jvm.MethodName)) ∈ lw_all := lw_g (lw_at lw_m6 118 rfl) rfl
theorem q1363 : (Jvm.Cond.code ({ cls := "BarrelProcessorModel", name := "traces", desc := "(II)V" } : Jvm.MethodName) prog_12_method_15_code (4 : Nat) (Option.none : Option Jvm.ClassFile.FieldType)) ∈ lw_all := lw_g (lw_at lw_m6 119 rfl) rfl
theorem q1364 : (Jvm.Cond.methodLink "BarrelProcessorModel" (49 : Nat) ({ cls := "BarrelProcessorModel", name := "does", desc := "(IIII)V" } : Jvm.MethodName)) ∈ lw_all := lw_g (lw_at lw_m6 120 rfl) rfl
theorem q1365 : (Jvm.Cond.privateMethod ({ cls := "BarrelProcessorModel", name := "does", desc := "(IIII)V" } : Jvm.MethodName)) ∈ lw_tbl := lw_at lw_m6 121 rfl
theorem q1366 : (Jvm.Cond.instanceMethod ({ cls := "BarrelProcessorModel", name := "does", desc := "(IIII)V" } : Jvm.MethodName)) ∈ lw_all := lw_g (lw_at lw_m6 122 rfl) rfl
theorem q1367 : (Jvm.Cond.code ({ cls := "BarrelProcessorModel", name := "does", desc := "(IIII)V" } : Jvm.MethodName) prog_12_method_14_code (7 : Nat) (Option.none : Option Jvm.ClassFile.FieldType)) ∈ lw_all := lw_g (lw_at lw_m6 123 rfl) rfl
theorem q1368 : (Jvm.Cond.methodLink "BarrelProcessorModel" (41 : Nat) ({ cls := "BarrelProcessorModel", name := "jumps", desc := "(IIZ)V" } : Jvm.MethodName)) ∈ lw_all := lw_g (lw_at lw_m6 124 rfl) rfl
theorem q1369 : (Jvm.Cond.privateMethod ({ cls := "BarrelProcessorModel", name := "jumps", desc := "(IIZ)V" } : Jvm.MethodName)) ∈ lw_tbl := lw_at lw_m6 125 rfl
theorem q1370 : (Jvm.Cond.instanceMethod ({ cls := "BarrelProcessorModel", name := "jumps", desc := "(IIZ)V" } : Jvm.MethodName)) ∈ lw_all := lw_g (lw_at lw_m6 126 rfl) rfl
theorem q1371 : (Jvm.Cond.code ({ cls := "BarrelProcessorModel", name := "jumps", desc := "(IIZ)V" } : Jvm.MethodName) prog_12_method_13_code (4 : Nat) (Option.none : Option Jvm.ClassFile.FieldType)) ∈ lw_all := lw_g (lw_at lw_m6 127 rfl) rfl
theorem q1373 : (Jvm.Cond.instanceMethod ({ cls := "BarrelProcessorModel", name := "append", desc := "(I)I" } : Jvm.MethodName)) ∈ lw_all := lw_g (lw_at lw_m6 129 rfl) rfl
theorem q1374 : (Jvm.Cond.selects "BarrelProcessorModel" ({ cls := "BarrelProcessorModel", name := "append", desc := "(I)I" } : Jvm.MethodName) ({ cls := "BarrelProcessorModel", name := "append", desc := "(I)I" } : Jvm.MethodName)) ∈ lw_all := lw_g (lw_at lw_m6 130 rfl) rfl
theorem q1375 : (Jvm.Cond.code ({ cls := "BarrelProcessorModel", name := "append", desc := "(I)I" } : Jvm.MethodName) prog_12_method_33_code (2 : Nat) (Option.some Jvm.ClassFile.FieldType.int)) ∈ lw_all := lw_g (lw_at lw_m6 131 rfl) rfl
theorem q1377 : (Jvm.Cond.instanceMethod ({ cls := "BarrelProcessorModel", name := "clearText", desc := "()I" } : Jvm.MethodName)) ∈ lw_all := lw_g (lw_at lw_m6 133 rfl) rfl
theorem q1378 : (Jvm.Cond.selects "BarrelProcessorModel" ({ cls := "BarrelProcessorModel", name := "clearText", desc := "()I" } : Jvm.MethodName) ({ cls := "BarrelProcessorModel", name := "clearText", desc := "()I" } : Jvm.MethodName)) ∈ lw_all := lw_g (lw_at lw_m6 134 rfl) rfl
theorem q1379 : (Jvm.Cond.code ({ cls := "BarrelProcessorModel", name := "clearText", desc := "()I" } : Jvm.MethodName) prog_12_method_34_code (2 : Nat) (Option.some Jvm.ClassFile.FieldType.int)) ∈ lw_all := lw_g (lw_at lw_m6 135 rfl) rfl
theorem q1381 : (Jvm.Cond.instanceMethod ({ cls := "BarrelProcessorModel", name := "fault", desc := "()I" } : Jvm.MethodName)) ∈ lw_all := lw_g (lw_at lw_m6 137 rfl) rfl
theorem q1382 : (Jvm.Cond.selects "BarrelProcessorModel" ({ cls := "BarrelProcessorModel", name := "fault", desc := "()I" } : Jvm.MethodName) ({ cls := "BarrelProcessorModel", name := "fault", desc := "()I" } : Jvm.MethodName)) ∈ lw_all := lw_g (lw_at lw_m6 138 rfl) rfl
theorem q1383 : (Jvm.Cond.code ({ cls := "BarrelProcessorModel", name := "fault", desc := "()I" } : Jvm.MethodName) prog_12_method_43_code (1 : Nat) (Option.some Jvm.ClassFile.FieldType.int)) ∈ lw_all := lw_g (lw_at lw_m6 139 rfl) rfl
theorem q1384 : (Jvm.Cond.constant "BarrelProcessorModel" (147 : Nat) (-100005 : Int32)) ∈ lw_all := lw_g (lw_at lw_m6 140 rfl) rfl
theorem q1386 : (Jvm.Cond.instanceMethod ({ cls := "BarrelProcessorModel", name := "undo", desc := "()I" } : Jvm.MethodName)) ∈ lw_all := lw_g (lw_at lw_m6 142 rfl) rfl
theorem q1387 : (Jvm.Cond.selects "BarrelProcessorModel" ({ cls := "BarrelProcessorModel", name := "undo", desc := "()I" } : Jvm.MethodName) ({ cls := "BarrelProcessorModel", name := "undo", desc := "()I" } : Jvm.MethodName)) ∈ lw_all := lw_g (lw_at lw_m6 143 rfl) rfl
theorem q1388 : (Jvm.Cond.code ({ cls := "BarrelProcessorModel", name := "undo", desc := "()I" } : Jvm.MethodName) prog_12_method_44_code (2 : Nat) (Option.some Jvm.ClassFile.FieldType.int)) ∈ lw_all := lw_g (lw_at lw_m6 144 rfl) rfl
theorem q1390 : (Jvm.Cond.instanceMethod ({ cls := "BarrelProcessorModel", name := "state", desc := "(I)I" } : Jvm.MethodName)) ∈ lw_all := lw_g (lw_at lw_m6 146 rfl) rfl
theorem q1391 : (Jvm.Cond.selects "BarrelProcessorModel" ({ cls := "BarrelProcessorModel", name := "state", desc := "(I)I" } : Jvm.MethodName) ({ cls := "BarrelProcessorModel", name := "state", desc := "(I)I" } : Jvm.MethodName)) ∈ lw_all := lw_g (lw_at lw_m6 147 rfl) rfl
theorem q1392 : (Jvm.Cond.code ({ cls := "BarrelProcessorModel", name := "state", desc := "(I)I" } : Jvm.MethodName) prog_12_method_46_code (2 : Nat) (Option.some Jvm.ClassFile.FieldType.int)) ∈ lw_all := lw_g (lw_at lw_m6 148 rfl) rfl
theorem q1393 : (Jvm.Cond.methodLink "BarrelProcessorModel" (148 : Nat) ({ cls := "BarrelProcessorModel", name := "ofThread", desc := "(II)I" } : Jvm.MethodName)) ∈ lw_all := lw_g (lw_at lw_m6 149 rfl) rfl
theorem q1394 : (Jvm.Cond.privateMethod ({ cls := "BarrelProcessorModel", name := "ofThread", desc := "(II)I" } : Jvm.MethodName)) ∈ lw_tbl := lw_at lw_m6 150 rfl
theorem q1395 : (Jvm.Cond.instanceMethod ({ cls := "BarrelProcessorModel", name := "ofThread", desc := "(II)I" } : Jvm.MethodName)) ∈ lw_all := lw_g (lw_at lw_m6 151 rfl) rfl
theorem q1396 : (Jvm.Cond.code ({ cls := "BarrelProcessorModel", name := "ofThread", desc := "(II)I" } : Jvm.MethodName) prog_12_method_45_code (3 : Nat) (Option.some Jvm.ClassFile.FieldType.int)) ∈ lw_all := lw_g (lw_at lw_m6 152 rfl) rfl
theorem q1398 : (Jvm.Cond.instanceMethod ({ cls := "BarrelProcessorModel", name := "programCounter", desc := "(I)I" } : Jvm.MethodName)) ∈ lw_all := lw_g (lw_at lw_m6 154 rfl) rfl
theorem q1399 : (Jvm.Cond.selects "BarrelProcessorModel" ({ cls := "BarrelProcessorModel", name := "programCounter", desc := "(I)I" } : Jvm.MethodName) ({ cls := "BarrelProcessorModel", name := "programCounter", desc := "(I)I" } : Jvm.MethodName)) ∈ lw_all := lw_g (lw_at lw_m6 155 rfl) rfl
theorem q1400 : (Jvm.Cond.code ({ cls := "BarrelProcessorModel", name := "programCounter", desc := "(I)I" } : Jvm.MethodName) prog_12_method_47_code (2 : Nat) (Option.some Jvm.ClassFile.FieldType.int)) ∈ lw_all := lw_g (lw_at lw_m6 156 rfl) rfl
theorem q1402 : (Jvm.Cond.instanceMethod ({ cls := "BarrelProcessorModel", name := "register", desc := "(II)I" } : Jvm.MethodName)) ∈ lw_all := lw_g (lw_at lw_m6 158 rfl) rfl
theorem q1403 : (Jvm.Cond.selects "BarrelProcessorModel" ({ cls := "BarrelProcessorModel", name := "register", desc := "(II)I" } : Jvm.MethodName) ({ cls := "BarrelProcessorModel", name := "register", desc := "(II)I" } : Jvm.MethodName)) ∈ lw_all := lw_g (lw_at lw_m6 159 rfl) rfl
theorem q1404 : (Jvm.Cond.code ({ cls := "BarrelProcessorModel", name := "register", desc := "(II)I" } : Jvm.MethodName) prog_12_method_48_code (3 : Nat) (Option.some Jvm.ClassFile.FieldType.int)) ∈ lw_all := lw_g (lw_at lw_m6 160 rfl) rfl
theorem q1406 : (Jvm.Cond.instanceMethod ({ cls := "BarrelProcessorModel", name := "word", desc := "(I)I" } : Jvm.MethodName)) ∈ lw_all := lw_g (lw_at lw_m6 162 rfl) rfl
theorem q1407 : (Jvm.Cond.selects "BarrelProcessorModel" ({ cls := "BarrelProcessorModel", name := "word", desc := "(I)I" } : Jvm.MethodName) ({ cls := "BarrelProcessorModel", name := "word", desc := "(I)I" } : Jvm.MethodName)) ∈ lw_all := lw_g (lw_at lw_m6 163 rfl) rfl
theorem q1408 : (Jvm.Cond.code ({ cls := "BarrelProcessorModel", name := "word", desc := "(I)I" } : Jvm.MethodName) prog_12_method_49_code (2 : Nat) (Option.some Jvm.ClassFile.FieldType.int)) ∈ lw_all := lw_g (lw_at lw_m6 164 rfl) rfl
theorem q1410 : (Jvm.Cond.instanceMethod ({ cls := "BarrelProcessorModel", name := "operation", desc := "(I)I" } : Jvm.MethodName)) ∈ lw_all := lw_g (lw_at lw_m6 166 rfl) rfl
theorem q1411 : (Jvm.Cond.selects "BarrelProcessorModel" ({ cls := "BarrelProcessorModel", name := "operation", desc := "(I)I" } : Jvm.MethodName) ({ cls := "BarrelProcessorModel", name := "operation", desc := "(I)I" } : Jvm.MethodName)) ∈ lw_all := lw_g (lw_at lw_m6 167 rfl) rfl
theorem q1412 : (Jvm.Cond.code ({ cls := "BarrelProcessorModel", name := "operation", desc := "(I)I" } : Jvm.MethodName) prog_12_method_50_code (2 : Nat) (Option.some Jvm.ClassFile.FieldType.int)) ∈ lw_all := lw_g (lw_at lw_m6 168 rfl) rfl
theorem q1414 : (Jvm.Cond.instanceMethod ({ cls := "BarrelProcessorModel", name := "operand", desc := "(II)I" } : Jvm.MethodName)) ∈ lw_all := lw_g (lw_at lw_m6 170 rfl) rfl
theorem q1415 : (Jvm.Cond.selects "BarrelProcessorModel" ({ cls := "BarrelProcessorModel", name := "operand", desc := "(II)I" } : Jvm.MethodName) ({ cls := "BarrelProcessorModel", name := "operand", desc := "(II)I" } : Jvm.MethodName)) ∈ lw_all := lw_g (lw_at lw_m6 171 rfl) rfl
theorem q1416 : (Jvm.Cond.code ({ cls := "BarrelProcessorModel", name := "operand", desc := "(II)I" } : Jvm.MethodName) prog_12_method_51_code (5 : Nat) (Option.some Jvm.ClassFile.FieldType.int)) ∈ lw_all := lw_g (lw_at lw_m6 172 rfl) rfl
theorem q1418 : (Jvm.Cond.instanceMethod ({ cls := "BarrelProcessorModel", name := "slot", desc := "(I)I" } : Jvm.MethodName)) ∈ lw_all := lw_g (lw_at lw_m6 174 rfl) rfl
theorem q1419 : (Jvm.Cond.selects "BarrelProcessorModel" ({ cls := "BarrelProcessorModel", name := "slot", desc := "(I)I" } : Jvm.MethodName) ({ cls := "BarrelProcessorModel", name := "slot", desc := "(I)I" } : Jvm.MethodName)) ∈ lw_all := lw_g (lw_at lw_m6 175 rfl) rfl
theorem q1420 : (Jvm.Cond.code ({ cls := "BarrelProcessorModel", name := "slot", desc := "(I)I" } : Jvm.MethodName) prog_12_method_52_code (2 : Nat) (Option.some Jvm.ClassFile.FieldType.int)) ∈ lw_all := lw_g (lw_at lw_m6 176 rfl) rfl
theorem q1422 : (Jvm.Cond.instanceMethod ({ cls := "BarrelProcessorModel", name := "setting", desc := "(I)I" } : Jvm.MethodName)) ∈ lw_all := lw_g (lw_at lw_m6 178 rfl) rfl
theorem q1423 : (Jvm.Cond.selects "BarrelProcessorModel" ({ cls := "BarrelProcessorModel", name := "setting", desc := "(I)I" } : Jvm.MethodName) ({ cls := "BarrelProcessorModel", name := "setting", desc := "(I)I" } : Jvm.MethodName)) ∈ lw_all := lw_g (lw_at lw_m6 179 rfl) rfl
theorem q1424 : (Jvm.Cond.code ({ cls := "BarrelProcessorModel", name := "setting", desc := "(I)I" } : Jvm.MethodName) prog_12_method_53_code (2 : Nat) (Option.some Jvm.ClassFile.FieldType.int)) ∈ lw_all := lw_g (lw_at lw_m6 180 rfl) rfl
theorem q1426 : (Jvm.Cond.instanceMethod ({ cls := "BarrelProcessorModel", name := "breakpoint", desc := "(I)I" } : Jvm.MethodName)) ∈ lw_all := lw_g (lw_at lw_m6 182 rfl) rfl
theorem q1427 : (Jvm.Cond.selects "BarrelProcessorModel" ({ cls := "BarrelProcessorModel", name := "breakpoint", desc := "(I)I" } : Jvm.MethodName) ({ cls := "BarrelProcessorModel", name := "breakpoint", desc := "(I)I" } : Jvm.MethodName)) ∈ lw_all := lw_g (lw_at lw_m6 183 rfl) rfl
theorem q1428 : (Jvm.Cond.code ({ cls := "BarrelProcessorModel", name := "breakpoint", desc := "(I)I" } : Jvm.MethodName) prog_12_method_54_code (2 : Nat) (Option.some Jvm.ClassFile.FieldType.int)) ∈ lw_all := lw_g (lw_at lw_m6 184 rfl) rfl
theorem q1430 : (Jvm.Cond.instanceMethod ({ cls := "BarrelProcessorModel", name := "cycle", desc := "()I" } : Jvm.MethodName)) ∈ lw_all := lw_g (lw_at lw_m6 186 rfl) rfl
theorem q1431 : (Jvm.Cond.selects "BarrelProcessorModel" ({ cls := "BarrelProcessorModel", name := "cycle", desc := "()I" } : Jvm.MethodName) ({ cls := "BarrelProcessorModel", name := "cycle", desc := "()I" } : Jvm.MethodName)) ∈ lw_all := lw_g (lw_at lw_m6 187 rfl) rfl
theorem q1432 : (Jvm.Cond.code ({ cls := "BarrelProcessorModel", name := "cycle", desc := "()I" } : Jvm.MethodName) prog_12_method_55_code (1 : Nat) (Option.some Jvm.ClassFile.FieldType.int)) ∈ lw_all := lw_g (lw_at lw_m6 188 rfl) rfl
theorem q1434 : (Jvm.Cond.instanceMethod ({ cls := "BarrelProcessorModel", name := "idle", desc := "()I" } : Jvm.MethodName)) ∈ lw_all := lw_g (lw_at lw_m6 190 rfl) rfl
theorem q1435 : (Jvm.Cond.selects "BarrelProcessorModel" ({ cls := "BarrelProcessorModel", name := "idle", desc := "()I" } : Jvm.MethodName) ({ cls := "BarrelProcessorModel", name := "idle", desc := "()I" } : Jvm.MethodName)) ∈ lw_all := lw_g (lw_at lw_m6 191 rfl) rfl
theorem q1436 : (Jvm.Cond.code ({ cls := "BarrelProcessorModel", name := "idle", desc := "()I" } : Jvm.MethodName) prog_12_method_56_code (1 : Nat) (Option.some Jvm.ClassFile.FieldType.int)) ∈ lw_all := lw_g (lw_at lw_m6 192 rfl) rfl
theorem q1438 : (Jvm.Cond.instanceMethod ({ cls := "BarrelProcessorModel", name := "executed", desc := "(I)I" } : Jvm.MethodName)) ∈ lw_all := lw_g (lw_at lw_m6 194 rfl) rfl
theorem q1439 : (Jvm.Cond.selects "BarrelProcessorModel" ({ cls := "BarrelProcessorModel", name := "executed", desc := "(I)I" } : Jvm.MethodName) ({ cls := "BarrelProcessorModel", name := "executed", desc := "(I)I" } : Jvm.MethodName)) ∈ lw_all := lw_g (lw_at lw_m6 195 rfl) rfl
theorem q1440 : (Jvm.Cond.code ({ cls := "BarrelProcessorModel", name := "executed", desc := "(I)I" } : Jvm.MethodName) prog_12_method_57_code (2 : Nat) (Option.some Jvm.ClassFile.FieldType.int)) ∈ lw_all := lw_g (lw_at lw_m6 196 rfl) rfl
theorem q1442 : (Jvm.Cond.instanceMethod ({ cls := "BarrelProcessorModel", name := "lent", desc := "(I)I" } : Jvm.MethodName)) ∈ lw_all := lw_g (lw_at lw_m6 198 rfl) rfl
theorem q1443 : (Jvm.Cond.selects "BarrelProcessorModel" ({ cls := "BarrelProcessorModel", name := "lent", desc := "(I)I" } : Jvm.MethodName) ({ cls := "BarrelProcessorModel", name := "lent", desc := "(I)I" } : Jvm.MethodName)) ∈ lw_all := lw_g (lw_at lw_m6 199 rfl) rfl
theorem q1444 : (Jvm.Cond.code ({ cls := "BarrelProcessorModel", name := "lent", desc := "(I)I" } : Jvm.MethodName) prog_12_method_58_code (2 : Nat) (Option.some Jvm.ClassFile.FieldType.int)) ∈ lw_all := lw_g (lw_at lw_m6 200 rfl) rfl
theorem q1446 : (Jvm.Cond.instanceMethod ({ cls := "BarrelProcessorModel", name := "starved", desc := "(I)I" } : Jvm.MethodName)) ∈ lw_all := lw_g (lw_at lw_m6 202 rfl) rfl
theorem q1447 : (Jvm.Cond.selects "BarrelProcessorModel" ({ cls := "BarrelProcessorModel", name := "starved", desc := "(I)I" } : Jvm.MethodName) ({ cls := "BarrelProcessorModel", name := "starved", desc := "(I)I" } : Jvm.MethodName)) ∈ lw_all := lw_g (lw_at lw_m6 203 rfl) rfl
theorem q1448 : (Jvm.Cond.code ({ cls := "BarrelProcessorModel", name := "starved", desc := "(I)I" } : Jvm.MethodName) prog_12_method_59_code (2 : Nat) (Option.some Jvm.ClassFile.FieldType.int)) ∈ lw_all := lw_g (lw_at lw_m6 204 rfl) rfl
theorem q1450 : (Jvm.Cond.instanceMethod ({ cls := "BarrelProcessorModel", name := "trace", desc := "(II)I" } : Jvm.MethodName)) ∈ lw_all := lw_g (lw_at lw_m6 206 rfl) rfl
theorem q1451 : (Jvm.Cond.selects "BarrelProcessorModel" ({ cls := "BarrelProcessorModel", name := "trace", desc := "(II)I" } : Jvm.MethodName) ({ cls := "BarrelProcessorModel", name := "trace", desc := "(II)I" } : Jvm.MethodName)) ∈ lw_all := lw_g (lw_at lw_m6 207 rfl) rfl
theorem q1452 : (Jvm.Cond.code ({ cls := "BarrelProcessorModel", name := "trace", desc := "(II)I" } : Jvm.MethodName) prog_12_method_60_code (3 : Nat) (Option.some Jvm.ClassFile.FieldType.int)) ∈ lw_all := lw_g (lw_at lw_m6 208 rfl) rfl
theorem q1454 : (Jvm.Cond.instanceMethod ({ cls := "BarrelProcessorModel", name := "use", desc := "()F" } : Jvm.MethodName)) ∈ lw_all := lw_g (lw_at lw_m6 210 rfl) rfl
theorem q1455 : (Jvm.Cond.selects "BarrelProcessorModel" ({ cls := "BarrelProcessorModel", name := "use", desc := "()F" } : Jvm.MethodName) ({ cls := "BarrelProcessorModel", name := "use", desc := "()F" } : Jvm.MethodName)) ∈ lw_all := lw_g (lw_at lw_m6 211 rfl) rfl
theorem q1456 : (Jvm.Cond.code ({ cls := "BarrelProcessorModel", name := "use", desc := "()F" } : Jvm.MethodName) prog_12_method_61_code (1 : Nat) (Option.some Jvm.ClassFile.FieldType.float)) ∈ lw_all := lw_g (lw_at lw_m6 212 rfl) rfl
theorem q1458 : (Jvm.Cond.instanceMethod ({ cls := "BarrelProcessorModel", name := "nextThread", desc := "()I" } : Jvm.MethodName)) ∈ lw_all := lw_g (lw_at lw_m6 214 rfl) rfl
theorem q1459 : (Jvm.Cond.selects "BarrelProcessorModel" ({ cls := "BarrelProcessorModel", name := "nextThread", desc := "()I" } : Jvm.MethodName) ({ cls := "BarrelProcessorModel", name := "nextThread", desc := "()I" } : Jvm.MethodName)) ∈ lw_all := lw_g (lw_at lw_m6 215 rfl) rfl
theorem q1460 : (Jvm.Cond.code ({ cls := "BarrelProcessorModel", name := "nextThread", desc := "()I" } : Jvm.MethodName) prog_12_method_62_code (2 : Nat) (Option.some Jvm.ClassFile.FieldType.int)) ∈ lw_all := lw_g (lw_at lw_m6 216 rfl) rfl
theorem q1462 : (Jvm.Cond.instanceMethod ({ cls := "BarrelProcessorModel", name := "cyclesLeft", desc := "()I" } : Jvm.MethodName)) ∈ lw_all := lw_g (lw_at lw_m6 218 rfl) rfl
theorem q1463 : (Jvm.Cond.selects "BarrelProcessorModel" ({ cls := "BarrelProcessorModel", name := "cyclesLeft", desc := "()I" } : Jvm.MethodName) ({ cls := "BarrelProcessorModel", name := "cyclesLeft", desc := "()I" } : Jvm.MethodName)) ∈ lw_all := lw_g (lw_at lw_m6 219 rfl) rfl
theorem q1464 : (Jvm.Cond.code ({ cls := "BarrelProcessorModel", name := "cyclesLeft", desc := "()I" } : Jvm.MethodName) prog_12_method_65_code (1 : Nat) (Option.some Jvm.ClassFile.FieldType.int)) ∈ lw_all := lw_g (lw_at lw_m6 220 rfl) rfl
theorem q1465 : (Jvm.Cond.methodLink "BarrelProcessorModel" (154 : Nat) ({ cls := "BarrelProcessorModel", name := "leftIf", desc := "(II)I" } : Jvm.MethodName)) ∈ lw_all := lw_g (lw_at lw_m6 221 rfl) rfl
theorem q1466 : (Jvm.Cond.privateMethod ({ cls := "BarrelProcessorModel", name := "leftIf", desc := "(II)I" } : Jvm.MethodName)) ∈ lw_tbl := lw_at lw_m6 222 rfl
theorem q1467 : (Jvm.Cond.instanceMethod ({ cls := "BarrelProcessorModel", name := "leftIf", desc := "(II)I" } : Jvm.MethodName)) ∈ lw_all := lw_g (lw_at lw_m6 223 rfl) rfl
theorem q1468 : (Jvm.Cond.code ({ cls := "BarrelProcessorModel", name := "leftIf", desc := "(II)I" } : Jvm.MethodName) prog_12_method_64_code (4 : Nat) (Option.some Jvm.ClassFile.FieldType.int)) ∈ lw_all := lw_g (lw_at lw_m6 224 rfl) rfl
theorem q1469 : (Jvm.Cond.methodLink "BarrelProcessorModel" (151 : Nat) ({ cls := "BarrelProcessorModel", name := "runsOut", desc := "()I" } : Jvm.MethodName)) ∈ lw_all := lw_g (lw_at lw_m6 225 rfl) rfl
theorem q1470 : (Jvm.Cond.privateMethod ({ cls := "BarrelProcessorModel", name := "runsOut", desc := "()I" } : Jvm.MethodName)) ∈ lw_tbl := lw_at lw_m6 226 rfl
theorem q1471 : (Jvm.Cond.instanceMethod ({ cls := "BarrelProcessorModel", name := "runsOut", desc := "()I" } : Jvm.MethodName)) ∈ lw_all := lw_g (lw_at lw_m6 227 rfl) rfl
theorem q1472 : (Jvm.Cond.code ({ cls := "BarrelProcessorModel", name := "runsOut", desc := "()I" } : Jvm.MethodName) prog_12_method_63_code (2 : Nat) (Option.some Jvm.ClassFile.FieldType.int)) ∈ lw_all := lw_g (lw_at lw_m6 228 rfl) rfl
theorem q1474 : (Jvm.Cond.instanceMethod ({ cls := "BarrelProcessorModel", name := "cyclesIf", desc := "(II)I" } : Jvm.MethodName)) ∈ lw_all := lw_g (lw_at lw_m6 230 rfl) rfl
theorem q1475 : (Jvm.Cond.selects "BarrelProcessorModel" ({ cls := "BarrelProcessorModel", name := "cyclesIf", desc := "(II)I" } : Jvm.MethodName) ({ cls := "BarrelProcessorModel", name := "cyclesIf", desc := "(II)I" } : Jvm.MethodName)) ∈ lw_all := lw_g (lw_at lw_m6 231 rfl) rfl
theorem q1476 : (Jvm.Cond.code ({ cls := "BarrelProcessorModel", name := "cyclesIf", desc := "(II)I" } : Jvm.MethodName) prog_12_method_66_code (3 : Nat) (Option.some Jvm.ClassFile.FieldType.int)) ∈ lw_all := lw_g (lw_at lw_m6 232 rfl) rfl
theorem q1478 : (Jvm.Cond.instanceMethod ({ cls := "BarrelProcessorModel", name := "bestLend", desc := "()I" } : Jvm.MethodName)) ∈ lw_all := lw_g (lw_at lw_m6 234 rfl) rfl
theorem q1479 : (Jvm.Cond.selects "BarrelProcessorModel" ({ cls := "BarrelProcessorModel", name := "bestLend", desc := "()I" } : Jvm.MethodName) ({ cls := "BarrelProcessorModel", name := "bestLend", desc := "()I" } : Jvm.MethodName)) ∈ lw_all := lw_g (lw_at lw_m6 235 rfl) rfl
theorem q1480 : (Jvm.Cond.code ({ cls := "BarrelProcessorModel", name := "bestLend", desc := "()I" } : Jvm.MethodName) prog_12_method_67_code (5 : Nat) (Option.some Jvm.ClassFile.FieldType.int)) ∈ lw_all := lw_g (lw_at lw_m6 236 rfl) rfl
theorem q1482 : (Jvm.Cond.instanceMethod ({ cls := "BarrelProcessorModel", name := "finalWord", desc := "(I)I" } : Jvm.MethodName)) ∈ lw_all := lw_g (lw_at lw_m6 238 rfl) rfl
theorem q1483 : (Jvm.Cond.selects "BarrelProcessorModel" ({ cls := "BarrelProcessorModel", name := "finalWord", desc := "(I)I" } : Jvm.MethodName) ({ cls := "BarrelProcessorModel", name := "finalWord", desc := "(I)I" } : Jvm.MethodName)) ∈ lw_all := lw_g (lw_at lw_m6 239 rfl) rfl
theorem q1484 : (Jvm.Cond.code ({ cls := "BarrelProcessorModel", name := "finalWord", desc := "(I)I" } : Jvm.MethodName) prog_12_method_68_code (4 : Nat) (Option.some Jvm.ClassFile.FieldType.int)) ∈ lw_all := lw_g (lw_at lw_m7 0 rfl) rfl
theorem q1511 : (Jvm.Cond.castable "BarrelProcessorModel" "java/lang/Object") ∈ lw_tbl := lw_at lw_m7 27 rfl
theorem in_X8 : ∀ w ∈ wsX80, w ∈ lw_all := lw_in wsX80 [1202, 1204, 1206, 1208, 1210, 1212, 1214, 1216, 1218, 1220, 1222] (by decide +kernel) (by decide +kernel)
theorem q44 : (Jvm.Cond.initialized "BarrelProcessorLaw") ∈ lw_all := lw_g (lw_at lw_m1 0 rfl) rfl
set_option maxRecDepth 100000
theorem q69 : (Jvm.Cond.classLink "BarrelProcessorLaw" (7 : Nat) "BarrelProcessor") ∈ lw_all := lw_g (lw_at lw_m1 25 rfl) rfl
theorem q71 : (Jvm.Cond.methodLink "BarrelProcessorLaw" (9 : Nat) ({ cls := "BarrelProcessor", name := "<init>", desc := "()V" } : Jvm.MethodName)) ∈ lw_all := lw_g (lw_at lw_m1 27 rfl) rfl
theorem q453 : (Jvm.Cond.methodLink "BarrelProcessorLaw" (13 : Nat) ({ cls := "BarrelProcessor", name := "assemble", desc := "(I)I" } : Jvm.MethodName)) ∈ lw_all := lw_g (lw_at lw_m2 169 rfl) rfl
theorem q900 : (Jvm.Cond.methodLink "BarrelProcessorLaw" (18 : Nat) ({ cls := "BarrelProcessor", name := "start", desc := "(II)I" } : Jvm.MethodName)) ∈ lw_all := lw_g (lw_at lw_m4 136 rfl) rfl
theorem q911 : (Jvm.Cond.methodLink "BarrelProcessorLaw" (23 : Nat) ({ cls := "BarrelProcessor", name := "halt", desc := "(I)I" } : Jvm.MethodName)) ∈ lw_all := lw_g (lw_at lw_m4 147 rfl) rfl
theorem q919 : (Jvm.Cond.methodLink "BarrelProcessorLaw" (27 : Nat) ({ cls := "BarrelProcessor", name := "setRegister", desc := "(III)I" } : Jvm.MethodName)) ∈ lw_all := lw_g (lw_at lw_m4 155 rfl) rfl
theorem q930 : (Jvm.Cond.methodLink "BarrelProcessorLaw" (32 : Nat) ({ cls := "BarrelProcessor", name := "setWord", desc := "(II)I" } : Jvm.MethodName)) ∈ lw_all := lw_g (lw_at lw_m4 166 rfl) rfl
theorem q937 : (Jvm.Cond.methodLink "BarrelProcessorLaw" (36 : Nat) ({ cls := "BarrelProcessor", name := "setSlot", desc := "(II)I" } : Jvm.MethodName)) ∈ lw_all := lw_g (lw_at lw_m4 173 rfl) rfl
theorem q941 : (Jvm.Cond.methodLink "BarrelProcessorLaw" (40 : Nat) ({ cls := "BarrelProcessor", name := "set", desc := "(II)I" } : Jvm.MethodName)) ∈ lw_all := lw_g (lw_at lw_m4 177 rfl) rfl
theorem q948 : (Jvm.Cond.methodLink "BarrelProcessorLaw" (44 : Nat) ({ cls := "BarrelProcessor", name := "setBreakpoint", desc := "(IZ)I" } : Jvm.MethodName)) ∈ lw_all := lw_g (lw_at lw_m4 184 rfl) rfl
theorem q952 : (Jvm.Cond.methodLink "BarrelProcessorLaw" (49 : Nat) ({ cls := "BarrelProcessor", name := "run", desc := "(I)I" } : Jvm.MethodName)) ∈ lw_all := lw_g (lw_at lw_m4 188 rfl) rfl
theorem q1040 : (Jvm.Cond.methodLink "BarrelProcessorLaw" (53 : Nat) ({ cls := "BarrelProcessor", name := "append", desc := "(I)I" } : Jvm.MethodName)) ∈ lw_all := lw_g (lw_at lw_m5 36 rfl) rfl
theorem q1046 : (Jvm.Cond.methodLink "BarrelProcessorLaw" (57 : Nat) ({ cls := "BarrelProcessor", name := "clearText", desc := "()I" } : Jvm.MethodName)) ∈ lw_all := lw_g (lw_at lw_m5 42 rfl) rfl
theorem q1070 : (Jvm.Cond.methodLink "BarrelProcessorLaw" (62 : Nat) ({ cls := "BarrelProcessor", name := "fault", desc := "()I" } : Jvm.MethodName)) ∈ lw_all := lw_g (lw_at lw_m5 66 rfl) rfl
theorem q1074 : (Jvm.Cond.methodLink "BarrelProcessorLaw" (66 : Nat) ({ cls := "BarrelProcessor", name := "undo", desc := "()I" } : Jvm.MethodName)) ∈ lw_all := lw_g (lw_at lw_m5 70 rfl) rfl
theorem q1087 : (Jvm.Cond.methodLink "BarrelProcessorLaw" (70 : Nat) ({ cls := "BarrelProcessor", name := "state", desc := "(I)I" } : Jvm.MethodName)) ∈ lw_all := lw_g (lw_at lw_m5 83 rfl) rfl
theorem q1091 : (Jvm.Cond.methodLink "BarrelProcessorLaw" (74 : Nat) ({ cls := "BarrelProcessor", name := "programCounter", desc := "(I)I" } : Jvm.MethodName)) ∈ lw_all := lw_g (lw_at lw_m5 87 rfl) rfl
theorem q1095 : (Jvm.Cond.methodLink "BarrelProcessorLaw" (78 : Nat) ({ cls := "BarrelProcessor", name := "register", desc := "(II)I" } : Jvm.MethodName)) ∈ lw_all := lw_g (lw_at lw_m5 91 rfl) rfl
theorem q1099 : (Jvm.Cond.methodLink "BarrelProcessorLaw" (82 : Nat) ({ cls := "BarrelProcessor", name := "word", desc := "(I)I" } : Jvm.MethodName)) ∈ lw_all := lw_g (lw_at lw_m5 95 rfl) rfl
theorem q1103 : (Jvm.Cond.methodLink "BarrelProcessorLaw" (86 : Nat) ({ cls := "BarrelProcessor", name := "operation", desc := "(I)I" } : Jvm.MethodName)) ∈ lw_all := lw_g (lw_at lw_m5 99 rfl) rfl
theorem q1107 : (Jvm.Cond.methodLink "BarrelProcessorLaw" (90 : Nat) ({ cls := "BarrelProcessor", name := "operand", desc := "(II)I" } : Jvm.MethodName)) ∈ lw_all := lw_g (lw_at lw_m5 103 rfl) rfl
theorem q1111 : (Jvm.Cond.methodLink "BarrelProcessorLaw" (94 : Nat) ({ cls := "BarrelProcessor", name := "slot", desc := "(I)I" } : Jvm.MethodName)) ∈ lw_all := lw_g (lw_at lw_m5 107 rfl) rfl
theorem q1115 : (Jvm.Cond.methodLink "BarrelProcessorLaw" (98 : Nat) ({ cls := "BarrelProcessor", name := "setting", desc := "(I)I" } : Jvm.MethodName)) ∈ lw_all := lw_g (lw_at lw_m5 111 rfl) rfl
theorem q1119 : (Jvm.Cond.methodLink "BarrelProcessorLaw" (102 : Nat) ({ cls := "BarrelProcessor", name := "breakpoint", desc := "(I)I" } : Jvm.MethodName)) ∈ lw_all := lw_g (lw_at lw_m5 115 rfl) rfl
theorem q1123 : (Jvm.Cond.methodLink "BarrelProcessorLaw" (106 : Nat) ({ cls := "BarrelProcessor", name := "cycle", desc := "()I" } : Jvm.MethodName)) ∈ lw_all := lw_g (lw_at lw_m5 119 rfl) rfl
theorem q1127 : (Jvm.Cond.methodLink "BarrelProcessorLaw" (110 : Nat) ({ cls := "BarrelProcessor", name := "idle", desc := "()I" } : Jvm.MethodName)) ∈ lw_all := lw_g (lw_at lw_m5 123 rfl) rfl
theorem q1131 : (Jvm.Cond.methodLink "BarrelProcessorLaw" (114 : Nat) ({ cls := "BarrelProcessor", name := "executed", desc := "(I)I" } : Jvm.MethodName)) ∈ lw_all := lw_g (lw_at lw_m5 127 rfl) rfl
theorem q1135 : (Jvm.Cond.methodLink "BarrelProcessorLaw" (118 : Nat) ({ cls := "BarrelProcessor", name := "lent", desc := "(I)I" } : Jvm.MethodName)) ∈ lw_all := lw_g (lw_at lw_m5 131 rfl) rfl
theorem q1139 : (Jvm.Cond.methodLink "BarrelProcessorLaw" (122 : Nat) ({ cls := "BarrelProcessor", name := "starved", desc := "(I)I" } : Jvm.MethodName)) ∈ lw_all := lw_g (lw_at lw_m5 135 rfl) rfl
theorem q1143 : (Jvm.Cond.methodLink "BarrelProcessorLaw" (126 : Nat) ({ cls := "BarrelProcessor", name := "trace", desc := "(II)I" } : Jvm.MethodName)) ∈ lw_all := lw_g (lw_at lw_m5 139 rfl) rfl
theorem q1147 : (Jvm.Cond.methodLink "BarrelProcessorLaw" (130 : Nat) ({ cls := "BarrelProcessor", name := "use", desc := "()F" } : Jvm.MethodName)) ∈ lw_all := lw_g (lw_at lw_m5 143 rfl) rfl
theorem q1151 : (Jvm.Cond.methodLink "BarrelProcessorLaw" (135 : Nat) ({ cls := "BarrelProcessor", name := "nextThread", desc := "()I" } : Jvm.MethodName)) ∈ lw_all := lw_g (lw_at lw_m5 147 rfl) rfl
theorem q1156 : (Jvm.Cond.methodLink "BarrelProcessorLaw" (139 : Nat) ({ cls := "BarrelProcessor", name := "cyclesLeft", desc := "()I" } : Jvm.MethodName)) ∈ lw_all := lw_g (lw_at lw_m5 152 rfl) rfl
theorem q1166 : (Jvm.Cond.methodLink "BarrelProcessorLaw" (143 : Nat) ({ cls := "BarrelProcessor", name := "cyclesIf", desc := "(II)I" } : Jvm.MethodName)) ∈ lw_all := lw_g (lw_at lw_m5 162 rfl) rfl
theorem q1174 : (Jvm.Cond.methodLink "BarrelProcessorLaw" (147 : Nat) ({ cls := "BarrelProcessor", name := "bestLend", desc := "()I" } : Jvm.MethodName)) ∈ lw_all := lw_g (lw_at lw_m5 170 rfl) rfl
theorem q1178 : (Jvm.Cond.methodLink "BarrelProcessorLaw" (151 : Nat) ({ cls := "BarrelProcessor", name := "finalWord", desc := "(I)I" } : Jvm.MethodName)) ∈ lw_all := lw_g (lw_at lw_m5 174 rfl) rfl
theorem q1182 : (Jvm.Cond.classLink "BarrelProcessorLaw" (10 : Nat) "BarrelProcessorModel") ∈ lw_all := lw_g (lw_at lw_m5 178 rfl) rfl
theorem q1184 : (Jvm.Cond.methodLink "BarrelProcessorLaw" (12 : Nat) ({ cls := "BarrelProcessorModel", name := "<init>", desc := "()V" } : Jvm.MethodName)) ∈ lw_all := lw_g (lw_at lw_m5 180 rfl) rfl
theorem q1225 : (Jvm.Cond.methodLink "BarrelProcessorLaw" (17 : Nat) ({ cls := "BarrelProcessorModel", name := "assemble", desc := "(I)I" } : Jvm.MethodName)) ∈ lw_all := lw_g (lw_at lw_m5 221 rfl) rfl
theorem q1273 : (Jvm.Cond.methodLink "BarrelProcessorLaw" (22 : Nat) ({ cls := "BarrelProcessorModel", name := "start", desc := "(II)I" } : Jvm.MethodName)) ∈ lw_all := lw_g (lw_at lw_m6 29 rfl) rfl
theorem q1280 : (Jvm.Cond.methodLink "BarrelProcessorLaw" (26 : Nat) ({ cls := "BarrelProcessorModel", name := "halt", desc := "(I)I" } : Jvm.MethodName)) ∈ lw_all := lw_g (lw_at lw_m6 36 rfl) rfl
theorem q1284 : (Jvm.Cond.methodLink "BarrelProcessorLaw" (31 : Nat) ({ cls := "BarrelProcessorModel", name := "setRegister", desc := "(III)I" } : Jvm.MethodName)) ∈ lw_all := lw_g (lw_at lw_m6 40 rfl) rfl
theorem q1300 : (Jvm.Cond.methodLink "BarrelProcessorLaw" (35 : Nat) ({ cls := "BarrelProcessorModel", name := "setWord", desc := "(II)I" } : Jvm.MethodName)) ∈ lw_all := lw_g (lw_at lw_m6 56 rfl) rfl
theorem q1304 : (Jvm.Cond.methodLink "BarrelProcessorLaw" (39 : Nat) ({ cls := "BarrelProcessorModel", name := "setSlot", desc := "(II)I" } : Jvm.MethodName)) ∈ lw_all := lw_g (lw_at lw_m6 60 rfl) rfl
theorem q1308 : (Jvm.Cond.methodLink "BarrelProcessorLaw" (43 : Nat) ({ cls := "BarrelProcessorModel", name := "set", desc := "(II)I" } : Jvm.MethodName)) ∈ lw_all := lw_g (lw_at lw_m6 64 rfl) rfl
theorem q1312 : (Jvm.Cond.methodLink "BarrelProcessorLaw" (48 : Nat) ({ cls := "BarrelProcessorModel", name := "setBreakpoint", desc := "(IZ)I" } : Jvm.MethodName)) ∈ lw_all := lw_g (lw_at lw_m6 68 rfl) rfl
theorem q1316 : (Jvm.Cond.methodLink "BarrelProcessorLaw" (52 : Nat) ({ cls := "BarrelProcessorModel", name := "run", desc := "(I)I" } : Jvm.MethodName)) ∈ lw_all := lw_g (lw_at lw_m6 72 rfl) rfl
theorem q1372 : (Jvm.Cond.methodLink "BarrelProcessorLaw" (56 : Nat) ({ cls := "BarrelProcessorModel", name := "append", desc := "(I)I" } : Jvm.MethodName)) ∈ lw_all := lw_g (lw_at lw_m6 128 rfl) rfl
theorem q1376 : (Jvm.Cond.methodLink "BarrelProcessorLaw" (61 : Nat) ({ cls := "BarrelProcessorModel", name := "clearText", desc := "()I" } : Jvm.MethodName)) ∈ lw_all := lw_g (lw_at lw_m6 132 rfl) rfl
theorem q1380 : (Jvm.Cond.methodLink "BarrelProcessorLaw" (65 : Nat) ({ cls := "BarrelProcessorModel", name := "fault", desc := "()I" } : Jvm.MethodName)) ∈ lw_all := lw_g (lw_at lw_m6 136 rfl) rfl
theorem q1385 : (Jvm.Cond.methodLink "BarrelProcessorLaw" (69 : Nat) ({ cls := "BarrelProcessorModel", name := "undo", desc := "()I" } : Jvm.MethodName)) ∈ lw_all := lw_g (lw_at lw_m6 141 rfl) rfl
theorem q1389 : (Jvm.Cond.methodLink "BarrelProcessorLaw" (73 : Nat) ({ cls := "BarrelProcessorModel", name := "state", desc := "(I)I" } : Jvm.MethodName)) ∈ lw_all := lw_g (lw_at lw_m6 145 rfl) rfl
theorem q1397 : (Jvm.Cond.methodLink "BarrelProcessorLaw" (77 : Nat) ({ cls := "BarrelProcessorModel", name := "programCounter", desc := "(I)I" } : Jvm.MethodName)) ∈ lw_all := lw_g (lw_at lw_m6 153 rfl) rfl
theorem q1401 : (Jvm.Cond.methodLink "BarrelProcessorLaw" (81 : Nat) ({ cls := "BarrelProcessorModel", name := "register", desc := "(II)I" } : Jvm.MethodName)) ∈ lw_all := lw_g (lw_at lw_m6 157 rfl) rfl
theorem q1405 : (Jvm.Cond.methodLink "BarrelProcessorLaw" (85 : Nat) ({ cls := "BarrelProcessorModel", name := "word", desc := "(I)I" } : Jvm.MethodName)) ∈ lw_all := lw_g (lw_at lw_m6 161 rfl) rfl
theorem q1409 : (Jvm.Cond.methodLink "BarrelProcessorLaw" (89 : Nat) ({ cls := "BarrelProcessorModel", name := "operation", desc := "(I)I" } : Jvm.MethodName)) ∈ lw_all := lw_g (lw_at lw_m6 165 rfl) rfl
theorem q1413 : (Jvm.Cond.methodLink "BarrelProcessorLaw" (93 : Nat) ({ cls := "BarrelProcessorModel", name := "operand", desc := "(II)I" } : Jvm.MethodName)) ∈ lw_all := lw_g (lw_at lw_m6 169 rfl) rfl
theorem q1417 : (Jvm.Cond.methodLink "BarrelProcessorLaw" (97 : Nat) ({ cls := "BarrelProcessorModel", name := "slot", desc := "(I)I" } : Jvm.MethodName)) ∈ lw_all := lw_g (lw_at lw_m6 173 rfl) rfl
theorem q1421 : (Jvm.Cond.methodLink "BarrelProcessorLaw" (101 : Nat) ({ cls := "BarrelProcessorModel", name := "setting", desc := "(I)I" } : Jvm.MethodName)) ∈ lw_all := lw_g (lw_at lw_m6 177 rfl) rfl
theorem q1425 : (Jvm.Cond.methodLink "BarrelProcessorLaw" (105 : Nat) ({ cls := "BarrelProcessorModel", name := "breakpoint", desc := "(I)I" } : Jvm.MethodName)) ∈ lw_all := lw_g (lw_at lw_m6 181 rfl) rfl
theorem q1429 : (Jvm.Cond.methodLink "BarrelProcessorLaw" (109 : Nat) ({ cls := "BarrelProcessorModel", name := "cycle", desc := "()I" } : Jvm.MethodName)) ∈ lw_all := lw_g (lw_at lw_m6 185 rfl) rfl
theorem q1433 : (Jvm.Cond.methodLink "BarrelProcessorLaw" (113 : Nat) ({ cls := "BarrelProcessorModel", name := "idle", desc := "()I" } : Jvm.MethodName)) ∈ lw_all := lw_g (lw_at lw_m6 189 rfl) rfl
theorem q1437 : (Jvm.Cond.methodLink "BarrelProcessorLaw" (117 : Nat) ({ cls := "BarrelProcessorModel", name := "executed", desc := "(I)I" } : Jvm.MethodName)) ∈ lw_all := lw_g (lw_at lw_m6 193 rfl) rfl
theorem q1441 : (Jvm.Cond.methodLink "BarrelProcessorLaw" (121 : Nat) ({ cls := "BarrelProcessorModel", name := "lent", desc := "(I)I" } : Jvm.MethodName)) ∈ lw_all := lw_g (lw_at lw_m6 197 rfl) rfl
theorem q1445 : (Jvm.Cond.methodLink "BarrelProcessorLaw" (125 : Nat) ({ cls := "BarrelProcessorModel", name := "starved", desc := "(I)I" } : Jvm.MethodName)) ∈ lw_all := lw_g (lw_at lw_m6 201 rfl) rfl
theorem q1449 : (Jvm.Cond.methodLink "BarrelProcessorLaw" (129 : Nat) ({ cls := "BarrelProcessorModel", name := "trace", desc := "(II)I" } : Jvm.MethodName)) ∈ lw_all := lw_g (lw_at lw_m6 205 rfl) rfl
theorem q1453 : (Jvm.Cond.methodLink "BarrelProcessorLaw" (134 : Nat) ({ cls := "BarrelProcessorModel", name := "use", desc := "()F" } : Jvm.MethodName)) ∈ lw_all := lw_g (lw_at lw_m6 209 rfl) rfl
theorem q1457 : (Jvm.Cond.methodLink "BarrelProcessorLaw" (138 : Nat) ({ cls := "BarrelProcessorModel", name := "nextThread", desc := "()I" } : Jvm.MethodName)) ∈ lw_all := lw_g (lw_at lw_m6 213 rfl) rfl
theorem q1461 : (Jvm.Cond.methodLink "BarrelProcessorLaw" (142 : Nat) ({ cls := "BarrelProcessorModel", name := "cyclesLeft", desc := "()I" } : Jvm.MethodName)) ∈ lw_all := lw_g (lw_at lw_m6 217 rfl) rfl
theorem q1473 : (Jvm.Cond.methodLink "BarrelProcessorLaw" (146 : Nat) ({ cls := "BarrelProcessorModel", name := "cyclesIf", desc := "(II)I" } : Jvm.MethodName)) ∈ lw_all := lw_g (lw_at lw_m6 229 rfl) rfl
theorem q1477 : (Jvm.Cond.methodLink "BarrelProcessorLaw" (150 : Nat) ({ cls := "BarrelProcessorModel", name := "bestLend", desc := "()I" } : Jvm.MethodName)) ∈ lw_all := lw_g (lw_at lw_m6 233 rfl) rfl
theorem q1481 : (Jvm.Cond.methodLink "BarrelProcessorLaw" (154 : Nat) ({ cls := "BarrelProcessorModel", name := "finalWord", desc := "(I)I" } : Jvm.MethodName)) ∈ lw_all := lw_g (lw_at lw_m6 237 rfl) rfl
theorem q1038 : (Jvm.Cond.interfaceMethod "BarrelProcessor$Operation" "BarrelProcessor$Operation" "run" "(LBarrelProcessor$Machine;LBarrelProcessor$Lane;II)V") ∈ lw_tbl := lw_at lw_m5 34 rfl
set_option maxRecDepth 100000
theorem q1039 : (Jvm.Cond.declares ({ cls := "BarrelProcessor$Operation", name := "run", desc := "(LBarrelProcessor$Machine;LBarrelProcessor$Lane;II)V" } : Jvm.MethodName)) ∈ lw_tbl := lw_at lw_m5 35 rfl
theorem q1499 : (Jvm.Cond.castable "BarrelProcessor$Operation" "java/lang/Object") ∈ lw_tbl := lw_at lw_m7 15 rfl
theorem q535 : (Jvm.Cond.sameMethod "[B" "java/lang/Object" "clone" "()Ljava/lang/Object;") ∈ lw_all := lw_g (lw_at lw_m3 11 rfl) rfl
set_option maxRecDepth 100000
theorem q538 : (Jvm.Cond.selects "[B" ({ cls := "[B", name := "clone", desc := "()Ljava/lang/Object;" } : Jvm.MethodName) ({ cls := "java/lang/Object", name := "clone", desc := "()Ljava/lang/Object;" } : Jvm.MethodName)) ∈ lw_all := lw_g (lw_at lw_m3 14 rfl) rfl
theorem q539 : (Jvm.Cond.castable "[B" "java/lang/Cloneable") ∈ lw_tbl := lw_at lw_m3 15 rfl
theorem q1519 : (Jvm.Cond.castable "[B" "java/lang/Object") ∈ lw_tbl := lw_at lw_m7 35 rfl
theorem q873 : (Jvm.Cond.sameMethod "[I" "java/lang/Object" "clone" "()Ljava/lang/Object;") ∈ lw_all := lw_g (lw_at lw_m4 109 rfl) rfl
set_option maxRecDepth 100000
theorem q874 : (Jvm.Cond.selects "[I" ({ cls := "[I", name := "clone", desc := "()Ljava/lang/Object;" } : Jvm.MethodName) ({ cls := "java/lang/Object", name := "clone", desc := "()Ljava/lang/Object;" } : Jvm.MethodName)) ∈ lw_all := lw_g (lw_at lw_m4 110 rfl) rfl
theorem q875 : (Jvm.Cond.castable "[I" "java/lang/Cloneable") ∈ lw_tbl := lw_at lw_m4 111 rfl
theorem q1522 : (Jvm.Cond.castable "[I" "java/lang/Object") ∈ lw_tbl := lw_at lw_m7 38 rfl
theorem q1521 : (Jvm.Cond.castable "[LBarrelProcessor$Instruction;" "java/lang/Object") ∈ lw_tbl := lw_at lw_m7 37 rfl
set_option maxRecDepth 100000
theorem q1520 : (Jvm.Cond.castable "[LBarrelProcessor$Lane;" "java/lang/Object") ∈ lw_tbl := lw_at lw_m7 36 rfl
set_option maxRecDepth 100000
theorem q1517 : (Jvm.Cond.castable "[LBarrelProcessor$Operation;" "java/lang/Object") ∈ lw_tbl := lw_at lw_m7 33 rfl
set_option maxRecDepth 100000
theorem q1518 : (Jvm.Cond.castable "[LBarrelProcessor$Rule;" "java/lang/Object") ∈ lw_tbl := lw_at lw_m7 34 rfl
set_option maxRecDepth 100000
theorem q1514 : (Jvm.Cond.sameMethod "[Ljava/lang/Object;" "java/lang/Object" "getClass" "()Ljava/lang/Class;") ∈ lw_all := lw_g (lw_at lw_m7 30 rfl) rfl
set_option maxRecDepth 100000
theorem q1515 : (Jvm.Cond.selects "[Ljava/lang/Object;" ({ cls := "java/lang/Object", name := "getClass", desc := "()Ljava/lang/Class;" } : Jvm.MethodName) ({ cls := "java/lang/Object", name := "getClass", desc := "()Ljava/lang/Class;" } : Jvm.MethodName)) ∈ lw_all := lw_g (lw_at lw_m7 31 rfl) rfl
theorem q1524 : (Jvm.Cond.castable "[Ljava/lang/Object;" "java/lang/Object") ∈ lw_tbl := lw_at lw_m7 40 rfl
theorem q881 : (Jvm.Cond.sameMethod "[Z" "java/lang/Object" "clone" "()Ljava/lang/Object;") ∈ lw_all := lw_g (lw_at lw_m4 117 rfl) rfl
set_option maxRecDepth 100000
theorem q882 : (Jvm.Cond.selects "[Z" ({ cls := "[Z", name := "clone", desc := "()Ljava/lang/Object;" } : Jvm.MethodName) ({ cls := "java/lang/Object", name := "clone", desc := "()Ljava/lang/Object;" } : Jvm.MethodName)) ∈ lw_all := lw_g (lw_at lw_m4 118 rfl) rfl
theorem q883 : (Jvm.Cond.castable "[Z" "java/lang/Cloneable") ∈ lw_tbl := lw_at lw_m4 119 rfl
theorem q1523 : (Jvm.Cond.castable "[Z" "java/lang/Object") ∈ lw_tbl := lw_at lw_m7 39 rfl
theorem q617 : (Jvm.Cond.interfaceMethod "java/lang/CharSequence" "java/lang/CharSequence" "length" "()I") ∈ lw_tbl := lw_at lw_m3 93 rfl
set_option maxRecDepth 100000
theorem q618 : (Jvm.Cond.declares ({ cls := "java/lang/CharSequence", name := "length", desc := "()I" } : Jvm.MethodName)) ∈ lw_tbl := lw_at lw_m3 94 rfl
theorem q634 : (Jvm.Cond.interfaceMethod "java/lang/CharSequence" "java/lang/CharSequence" "charAt" "(I)C") ∈ lw_tbl := lw_at lw_m3 110 rfl
theorem q635 : (Jvm.Cond.declares ({ cls := "java/lang/CharSequence", name := "charAt", desc := "(I)C" } : Jvm.MethodName)) ∈ lw_tbl := lw_at lw_m3 111 rfl
theorem q66 : (Jvm.Cond.initialized "java/lang/System") ∈ lw_all := lw_g (lw_at lw_m1 22 rfl) rfl
set_option maxRecDepth 100000
theorem q545 : (Jvm.Cond.static ({ cls := "java/lang/System", name := "arraycopy", desc := "(Ljava/lang/Object;ILjava/lang/Object;II)V" } : Jvm.MethodName)) ∈ lw_all := lw_g (lw_at lw_m3 21 rfl) rfl
theorem q546 : (Jvm.Cond.native ({ cls := "java/lang/System", name := "arraycopy", desc := "(Ljava/lang/Object;ILjava/lang/Object;II)V" } : Jvm.MethodName)) ∈ lw_all := lw_g (lw_at lw_m3 22 rfl) rfl
theorem q781 : (Jvm.Cond.interfaceMethod "java/util/List" "java/util/List" "add" "(Ljava/lang/Object;)Z") ∈ lw_tbl := lw_at lw_m4 17 rfl
set_option maxRecDepth 100000
theorem q782 : (Jvm.Cond.declares ({ cls := "java/util/List", name := "add", desc := "(Ljava/lang/Object;)Z" } : Jvm.MethodName)) ∈ lw_tbl := lw_at lw_m4 18 rfl
theorem q833 : (Jvm.Cond.interfaceMethod "java/util/List" "java/util/List" "size" "()I") ∈ lw_tbl := lw_at lw_m4 69 rfl
theorem q834 : (Jvm.Cond.declares ({ cls := "java/util/List", name := "size", desc := "()I" } : Jvm.MethodName)) ∈ lw_tbl := lw_at lw_m4 70 rfl
theorem q847 : (Jvm.Cond.interfaceMethod "java/util/List" "java/util/List" "remove" "(I)Ljava/lang/Object;") ∈ lw_tbl := lw_at lw_m4 83 rfl
theorem q848 : (Jvm.Cond.declares ({ cls := "java/util/List", name := "remove", desc := "(I)Ljava/lang/Object;" } : Jvm.MethodName)) ∈ lw_tbl := lw_at lw_m4 84 rfl
theorem q889 : (Jvm.Cond.interfaceMethod "java/util/List" "java/util/List" "get" "(I)Ljava/lang/Object;") ∈ lw_tbl := lw_at lw_m4 125 rfl
theorem q890 : (Jvm.Cond.declares ({ cls := "java/util/List", name := "get", desc := "(I)Ljava/lang/Object;" } : Jvm.MethodName)) ∈ lw_tbl := lw_at lw_m4 126 rfl
theorem q1080 : (Jvm.Cond.interfaceMethod "java/util/List" "java/util/List" "isEmpty" "()Z") ∈ lw_tbl := lw_at lw_m5 76 rfl
theorem q1081 : (Jvm.Cond.declares ({ cls := "java/util/List", name := "isEmpty", desc := "()Z" } : Jvm.MethodName)) ∈ lw_tbl := lw_at lw_m5 77 rfl
theorem q156 : (Jvm.Cond.interfaceMethod "jdk/internal/access/JavaLangAccess" "jdk/internal/access/JavaLangAccess" "getUTF16Char" "([BI)C") ∈ lw_tbl := lw_at lw_m1 112 rfl
set_option maxRecDepth 100000
theorem q157 : (Jvm.Cond.declares ({ cls := "jdk/internal/access/JavaLangAccess", name := "getUTF16Char", desc := "([BI)C" } : Jvm.MethodName)) ∈ lw_tbl := lw_at lw_m1 113 rfl
theorem q78 : (Jvm.Cond.arrayOver (Jvm.ClassFile.FieldType.object "BarrelProcessor$Operation")) ∈ lw_tbl := lw_at lw_m1 34 rfl
set_option maxRecDepth 100000
theorem q124 : (Jvm.Cond.arrayOver (Jvm.ClassFile.FieldType.object "BarrelProcessor$Rule")) ∈ lw_tbl := lw_at lw_m1 80 rfl
theorem q213 : (Jvm.Cond.arrayClass Jvm.ClassFile.FieldType.byte) ∈ lw_all := lw_g (lw_at lw_m1 169 rfl) rfl
theorem q260 : (Jvm.Cond.arrayOver (Jvm.ClassFile.FieldType.object "BarrelProcessor$Lane")) ∈ lw_tbl := lw_at lw_m1 216 rfl
theorem q262 : (Jvm.Cond.arrayOver (Jvm.ClassFile.FieldType.object "BarrelProcessor$Instruction")) ∈ lw_tbl := lw_at lw_m1 218 rfl
theorem q318 : (Jvm.Cond.arrayClass Jvm.ClassFile.FieldType.int) ∈ lw_all := lw_g (lw_at lw_m2 34 rfl) rfl
theorem q319 : (Jvm.Cond.arrayClass Jvm.ClassFile.FieldType.boolean) ∈ lw_all := lw_g (lw_at lw_m2 35 rfl) rfl
theorem q826 : (Jvm.Cond.arrayOver (Jvm.ClassFile.FieldType.object "java/lang/Object")) ∈ lw_tbl := lw_at lw_m4 62 rfl
theorem q1525 : (Jvm.Cond.arrayClass Jvm.ClassFile.FieldType.char) ∈ lw_all := lw_g (lw_at lw_m7 41 rfl) rfl
theorem q1526 : (Jvm.Cond.arrayClass Jvm.ClassFile.FieldType.short) ∈ lw_all := lw_g (lw_at lw_m7 42 rfl) rfl
