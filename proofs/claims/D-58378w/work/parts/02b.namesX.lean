/-! BarrelProcessor -/
set_option maxRecDepth 100000
def RX0 : String := "BarrelProcessor"
def TX0 : u_T := fun k => match k with
  | 0 => ("BarrelProcessor", "operations", "[LBarrelProcessor$Operation;", true)
  | 1 => ("BarrelProcessor", "rules", "[LBarrelProcessor$Rule;", true)
  | 2 => ("BarrelProcessor", "halting", "LBarrelProcessor$Instruction;", true)
  | 3 => ("BarrelProcessor", "machine", "LBarrelProcessor$Machine;", false)
  | 4 => ("BarrelProcessor", "history", "Ljava/util/List;", true)
  | _ => ("BarrelProcessor", "text", "Ljava/lang/StringBuilder;", true)
def tyX0 : Nat → FieldType := fun k => match k with
  | 0 => .array (.object "BarrelProcessor$Operation")
  | 1 => .array (.object "BarrelProcessor$Rule")
  | 2 => .object "BarrelProcessor$Instruction"
  | 3 => .object "BarrelProcessor$Machine"
  | 4 => .object "java/util/List"
  | _ => .object "java/lang/StringBuilder"
abbrev wsX00 : List Cond := u_ws RX0 TX0 6
theorem nmX0 : ∀ a, a < 6 → ∀ b, b < 6 → a ≠ b → (TX0 a).2.1 ≠ (TX0 b).2.1 := by decide +kernel
theorem tyX0_ok : ∀ k, k < 6 → parseFieldDescriptor (TX0 k).2.2.1 = some (tyX0 k) := by decide +kernel
abbrev cX0_init : ByteArray := prog_1_method_5_code
def yX0_init : MethodName := ⟨RX0, "<init>", "()V"⟩
def dkwX0_init_8 : List UInt8 := [183, 0, 73, 181, 0, 74, 42, 187, 0, 78, 89, 183, 0, 80, 181, 0, 81, 177]
abbrev dktX0_init_8 : List UInt8 := dkwX0_init_8 ++ []
def dkwX0_init_7 : List UInt8 := [183, 0, 55, 181, 0, 58, 42, 187, 0, 62, 89, 42, 183, 0, 64, 181, 0, 67, 42, 187, 0, 71, 89]
abbrev dktX0_init_7 : List UInt8 := dkwX0_init_7 ++ dktX0_init_8
def dkwX0_init_6 : List UInt8 := [89, 5, 18, 46, 184, 0, 40, 83, 181, 0, 48, 42, 187, 0, 52, 89, 16, 11, 18, 54, 18, 54]
abbrev dktX0_init_6 : List UInt8 := dkwX0_init_6 ++ dktX0_init_7
def dkwX0_init_5 : List UInt8 := [181, 0, 32, 42, 6, 189, 0, 36, 89, 3, 18, 38, 184, 0, 40, 83, 89, 4, 18, 44, 184, 0, 40, 83]
abbrev dktX0_init_5 : List UInt8 := dkwX0_init_5 ++ dktX0_init_6
def dkwX0_init_4 : List UInt8 := [186, 0, 29, 0, 0, 83, 89, 16, 10, 186, 0, 30, 0, 0, 83, 89, 16, 11, 186, 0, 31, 0, 0, 83]
abbrev dktX0_init_4 : List UInt8 := dkwX0_init_4 ++ dktX0_init_5
def dkwX0_init_3 : List UInt8 := [16, 7, 186, 0, 27, 0, 0, 83, 89, 16, 8, 186, 0, 28, 0, 0, 83, 89, 16, 9]
abbrev dktX0_init_3 : List UInt8 := dkwX0_init_3 ++ dktX0_init_4
def dkwX0_init_2 : List UInt8 := [186, 0, 24, 0, 0, 83, 89, 8, 186, 0, 25, 0, 0, 83, 89, 16, 6, 186, 0, 26, 0, 0, 83, 89]
abbrev dktX0_init_2 : List UInt8 := dkwX0_init_2 ++ dktX0_init_3
def dkwX0_init_1 : List UInt8 := [186, 0, 21, 0, 0, 83, 89, 5, 186, 0, 22, 0, 0, 83, 89, 6, 186, 0, 23, 0, 0, 83, 89, 7]
abbrev dktX0_init_1 : List UInt8 := dkwX0_init_1 ++ dktX0_init_2
def dkwX0_init_0 : List UInt8 := [42, 183, 0, 9, 42, 16, 12, 189, 0, 15, 89, 3, 186, 0, 17, 0, 0, 83, 89, 4]
abbrev dktX0_init_0 : List UInt8 := dkwX0_init_0 ++ dktX0_init_1
theorem dksX0_init_0 : cX0_init.data.toList.drop 0 = dktX0_init_0 := by decide +kernel
theorem dksX0_init_1 : cX0_init.data.toList.drop 20 = dktX0_init_1 := dk_seg dksX0_init_0 20 rfl rfl
theorem dksX0_init_2 : cX0_init.data.toList.drop 44 = dktX0_init_2 := dk_seg dksX0_init_1 24 rfl rfl
theorem dksX0_init_3 : cX0_init.data.toList.drop 68 = dktX0_init_3 := dk_seg dksX0_init_2 24 rfl rfl
theorem dksX0_init_4 : cX0_init.data.toList.drop 88 = dktX0_init_4 := dk_seg dksX0_init_3 20 rfl rfl
theorem dksX0_init_5 : cX0_init.data.toList.drop 112 = dktX0_init_5 := dk_seg dksX0_init_4 24 rfl rfl
theorem dksX0_init_6 : cX0_init.data.toList.drop 136 = dktX0_init_6 := dk_seg dksX0_init_5 24 rfl rfl
theorem dksX0_init_7 : cX0_init.data.toList.drop 158 = dktX0_init_7 := dk_seg dksX0_init_6 22 rfl rfl
theorem dksX0_init_8 : cX0_init.data.toList.drop 181 = dktX0_init_8 := dk_seg dksX0_init_7 23 rfl rfl
theorem dX0_init_0 : decode cX0_init 0 = .ok (.aload_n 0, 1) := dk_42 (dk_at dksX0_init_0 0 rfl rfl)
theorem dX0_init_1 : decode cX0_init 1 = .ok (.invokespecial 9, 3) := dk_183 0 9 (dk_at dksX0_init_0 1 rfl rfl)
theorem dX0_init_4 : decode cX0_init 4 = .ok (.aload_n 0, 1) := dk_42 (dk_at dksX0_init_0 4 rfl rfl)
theorem dX0_init_5 : decode cX0_init 5 = .ok (.bipush 12, 2) := dk_16 12 (dk_at dksX0_init_0 5 rfl rfl)
theorem dX0_init_7 : decode cX0_init 7 = .ok (.anewarray 15, 3) := dk_189 0 15 (dk_at dksX0_init_0 7 rfl rfl)
theorem dX0_init_10 : decode cX0_init 10 = .ok (.dup, 1) := dk_89 (dk_at dksX0_init_0 10 rfl rfl)
theorem dX0_init_11 : decode cX0_init 11 = .ok (.iconst 0, 1) := dk_3 (dk_at dksX0_init_0 11 rfl rfl)
theorem dX0_init_12 : decode cX0_init 12 = .ok (.invokedynamic 17, 5) := by decide +kernel
theorem dX0_init_17 : decode cX0_init 17 = .ok (.aastore, 1) := dk_83 (dk_at dksX0_init_0 17 rfl rfl)
theorem dX0_init_18 : decode cX0_init 18 = .ok (.dup, 1) := dk_89 (dk_at dksX0_init_0 18 rfl rfl)
theorem dX0_init_19 : decode cX0_init 19 = .ok (.iconst 1, 1) := dk_4 (dk_at dksX0_init_0 19 rfl rfl)
theorem dX0_init_20 : decode cX0_init 20 = .ok (.invokedynamic 21, 5) := by decide +kernel
theorem dX0_init_25 : decode cX0_init 25 = .ok (.aastore, 1) := dk_83 (dk_at dksX0_init_1 5 rfl rfl)
theorem dX0_init_26 : decode cX0_init 26 = .ok (.dup, 1) := dk_89 (dk_at dksX0_init_1 6 rfl rfl)
theorem dX0_init_27 : decode cX0_init 27 = .ok (.iconst 2, 1) := dk_5 (dk_at dksX0_init_1 7 rfl rfl)
theorem dX0_init_28 : decode cX0_init 28 = .ok (.invokedynamic 22, 5) := by decide +kernel
theorem dX0_init_33 : decode cX0_init 33 = .ok (.aastore, 1) := dk_83 (dk_at dksX0_init_1 13 rfl rfl)
theorem dX0_init_34 : decode cX0_init 34 = .ok (.dup, 1) := dk_89 (dk_at dksX0_init_1 14 rfl rfl)
theorem dX0_init_35 : decode cX0_init 35 = .ok (.iconst 3, 1) := dk_6 (dk_at dksX0_init_1 15 rfl rfl)
theorem dX0_init_36 : decode cX0_init 36 = .ok (.invokedynamic 23, 5) := by decide +kernel
theorem dX0_init_41 : decode cX0_init 41 = .ok (.aastore, 1) := dk_83 (dk_at dksX0_init_1 21 rfl rfl)
theorem dX0_init_42 : decode cX0_init 42 = .ok (.dup, 1) := dk_89 (dk_at dksX0_init_1 22 rfl rfl)
theorem dX0_init_43 : decode cX0_init 43 = .ok (.iconst 4, 1) := dk_7 (dk_at dksX0_init_1 23 rfl rfl)
theorem dX0_init_44 : decode cX0_init 44 = .ok (.invokedynamic 24, 5) := by decide +kernel
theorem dX0_init_49 : decode cX0_init 49 = .ok (.aastore, 1) := dk_83 (dk_at dksX0_init_2 5 rfl rfl)
theorem dX0_init_50 : decode cX0_init 50 = .ok (.dup, 1) := dk_89 (dk_at dksX0_init_2 6 rfl rfl)
theorem dX0_init_51 : decode cX0_init 51 = .ok (.iconst 5, 1) := dk_8 (dk_at dksX0_init_2 7 rfl rfl)
theorem dX0_init_52 : decode cX0_init 52 = .ok (.invokedynamic 25, 5) := by decide +kernel
theorem dX0_init_57 : decode cX0_init 57 = .ok (.aastore, 1) := dk_83 (dk_at dksX0_init_2 13 rfl rfl)
theorem dX0_init_58 : decode cX0_init 58 = .ok (.dup, 1) := dk_89 (dk_at dksX0_init_2 14 rfl rfl)
theorem dX0_init_59 : decode cX0_init 59 = .ok (.bipush 6, 2) := dk_16 6 (dk_at dksX0_init_2 15 rfl rfl)
theorem dX0_init_61 : decode cX0_init 61 = .ok (.invokedynamic 26, 5) := by decide +kernel
theorem dX0_init_66 : decode cX0_init 66 = .ok (.aastore, 1) := dk_83 (dk_at dksX0_init_2 22 rfl rfl)
theorem dX0_init_67 : decode cX0_init 67 = .ok (.dup, 1) := dk_89 (dk_at dksX0_init_2 23 rfl rfl)
theorem dX0_init_68 : decode cX0_init 68 = .ok (.bipush 7, 2) := dk_16 7 (dk_at dksX0_init_3 0 rfl rfl)
theorem dX0_init_70 : decode cX0_init 70 = .ok (.invokedynamic 27, 5) := by decide +kernel
theorem dX0_init_75 : decode cX0_init 75 = .ok (.aastore, 1) := dk_83 (dk_at dksX0_init_3 7 rfl rfl)
theorem dX0_init_76 : decode cX0_init 76 = .ok (.dup, 1) := dk_89 (dk_at dksX0_init_3 8 rfl rfl)
theorem dX0_init_77 : decode cX0_init 77 = .ok (.bipush 8, 2) := dk_16 8 (dk_at dksX0_init_3 9 rfl rfl)
theorem dX0_init_79 : decode cX0_init 79 = .ok (.invokedynamic 28, 5) := by decide +kernel
theorem dX0_init_84 : decode cX0_init 84 = .ok (.aastore, 1) := dk_83 (dk_at dksX0_init_3 16 rfl rfl)
theorem dX0_init_85 : decode cX0_init 85 = .ok (.dup, 1) := dk_89 (dk_at dksX0_init_3 17 rfl rfl)
theorem dX0_init_86 : decode cX0_init 86 = .ok (.bipush 9, 2) := dk_16 9 (dk_at dksX0_init_3 18 rfl rfl)
theorem dX0_init_88 : decode cX0_init 88 = .ok (.invokedynamic 29, 5) := by decide +kernel
theorem dX0_init_93 : decode cX0_init 93 = .ok (.aastore, 1) := dk_83 (dk_at dksX0_init_4 5 rfl rfl)
theorem dX0_init_94 : decode cX0_init 94 = .ok (.dup, 1) := dk_89 (dk_at dksX0_init_4 6 rfl rfl)
theorem dX0_init_95 : decode cX0_init 95 = .ok (.bipush 10, 2) := dk_16 10 (dk_at dksX0_init_4 7 rfl rfl)
theorem dX0_init_97 : decode cX0_init 97 = .ok (.invokedynamic 30, 5) := by decide +kernel
theorem dX0_init_102 : decode cX0_init 102 = .ok (.aastore, 1) := dk_83 (dk_at dksX0_init_4 14 rfl rfl)
theorem dX0_init_103 : decode cX0_init 103 = .ok (.dup, 1) := dk_89 (dk_at dksX0_init_4 15 rfl rfl)
theorem dX0_init_104 : decode cX0_init 104 = .ok (.bipush 11, 2) := dk_16 11 (dk_at dksX0_init_4 16 rfl rfl)
theorem dX0_init_106 : decode cX0_init 106 = .ok (.invokedynamic 31, 5) := by decide +kernel
theorem dX0_init_111 : decode cX0_init 111 = .ok (.aastore, 1) := dk_83 (dk_at dksX0_init_4 23 rfl rfl)
theorem dX0_init_112 : decode cX0_init 112 = .ok (.putfield 32, 3) := dk_181 0 32 (dk_at dksX0_init_5 0 rfl rfl)
theorem dX0_init_115 : decode cX0_init 115 = .ok (.aload_n 0, 1) := dk_42 (dk_at dksX0_init_5 3 rfl rfl)
theorem dX0_init_116 : decode cX0_init 116 = .ok (.iconst 3, 1) := dk_6 (dk_at dksX0_init_5 4 rfl rfl)
theorem dX0_init_117 : decode cX0_init 117 = .ok (.anewarray 36, 3) := dk_189 0 36 (dk_at dksX0_init_5 5 rfl rfl)
theorem dX0_init_120 : decode cX0_init 120 = .ok (.dup, 1) := dk_89 (dk_at dksX0_init_5 8 rfl rfl)
theorem dX0_init_121 : decode cX0_init 121 = .ok (.iconst 0, 1) := dk_3 (dk_at dksX0_init_5 9 rfl rfl)
theorem dX0_init_122 : decode cX0_init 122 = .ok (.ldc 38, 2) := dk_18 38 (dk_at dksX0_init_5 10 rfl rfl)
theorem dX0_init_124 : decode cX0_init 124 = .ok (.invokestatic 40, 3) := dk_184 0 40 (dk_at dksX0_init_5 12 rfl rfl)
theorem dX0_init_127 : decode cX0_init 127 = .ok (.aastore, 1) := dk_83 (dk_at dksX0_init_5 15 rfl rfl)
theorem dX0_init_128 : decode cX0_init 128 = .ok (.dup, 1) := dk_89 (dk_at dksX0_init_5 16 rfl rfl)
theorem dX0_init_129 : decode cX0_init 129 = .ok (.iconst 1, 1) := dk_4 (dk_at dksX0_init_5 17 rfl rfl)
theorem dX0_init_130 : decode cX0_init 130 = .ok (.ldc 44, 2) := dk_18 44 (dk_at dksX0_init_5 18 rfl rfl)
theorem dX0_init_132 : decode cX0_init 132 = .ok (.invokestatic 40, 3) := dk_184 0 40 (dk_at dksX0_init_5 20 rfl rfl)
theorem dX0_init_135 : decode cX0_init 135 = .ok (.aastore, 1) := dk_83 (dk_at dksX0_init_5 23 rfl rfl)
theorem dX0_init_136 : decode cX0_init 136 = .ok (.dup, 1) := dk_89 (dk_at dksX0_init_6 0 rfl rfl)
theorem dX0_init_137 : decode cX0_init 137 = .ok (.iconst 2, 1) := dk_5 (dk_at dksX0_init_6 1 rfl rfl)
theorem dX0_init_138 : decode cX0_init 138 = .ok (.ldc 46, 2) := dk_18 46 (dk_at dksX0_init_6 2 rfl rfl)
theorem dX0_init_140 : decode cX0_init 140 = .ok (.invokestatic 40, 3) := dk_184 0 40 (dk_at dksX0_init_6 4 rfl rfl)
theorem dX0_init_143 : decode cX0_init 143 = .ok (.aastore, 1) := dk_83 (dk_at dksX0_init_6 7 rfl rfl)
theorem dX0_init_144 : decode cX0_init 144 = .ok (.putfield 48, 3) := dk_181 0 48 (dk_at dksX0_init_6 8 rfl rfl)
theorem dX0_init_147 : decode cX0_init 147 = .ok (.aload_n 0, 1) := dk_42 (dk_at dksX0_init_6 11 rfl rfl)
theorem dX0_init_148 : decode cX0_init 148 = .ok (.new 52, 3) := dk_187 0 52 (dk_at dksX0_init_6 12 rfl rfl)
theorem dX0_init_151 : decode cX0_init 151 = .ok (.dup, 1) := dk_89 (dk_at dksX0_init_6 15 rfl rfl)
theorem dX0_init_152 : decode cX0_init 152 = .ok (.bipush 11, 2) := dk_16 11 (dk_at dksX0_init_6 16 rfl rfl)
theorem dX0_init_154 : decode cX0_init 154 = .ok (.ldc 54, 2) := dk_18 54 (dk_at dksX0_init_6 18 rfl rfl)
theorem dX0_init_156 : decode cX0_init 156 = .ok (.ldc 54, 2) := dk_18 54 (dk_at dksX0_init_6 20 rfl rfl)
theorem dX0_init_158 : decode cX0_init 158 = .ok (.invokespecial 55, 3) := dk_183 0 55 (dk_at dksX0_init_7 0 rfl rfl)
theorem dX0_init_161 : decode cX0_init 161 = .ok (.putfield 58, 3) := dk_181 0 58 (dk_at dksX0_init_7 3 rfl rfl)
theorem dX0_init_164 : decode cX0_init 164 = .ok (.aload_n 0, 1) := dk_42 (dk_at dksX0_init_7 6 rfl rfl)
theorem dX0_init_165 : decode cX0_init 165 = .ok (.new 62, 3) := dk_187 0 62 (dk_at dksX0_init_7 7 rfl rfl)
theorem dX0_init_168 : decode cX0_init 168 = .ok (.dup, 1) := dk_89 (dk_at dksX0_init_7 10 rfl rfl)
theorem dX0_init_169 : decode cX0_init 169 = .ok (.aload_n 0, 1) := dk_42 (dk_at dksX0_init_7 11 rfl rfl)
theorem dX0_init_170 : decode cX0_init 170 = .ok (.invokespecial 64, 3) := dk_183 0 64 (dk_at dksX0_init_7 12 rfl rfl)
theorem dX0_init_173 : decode cX0_init 173 = .ok (.putfield 67, 3) := dk_181 0 67 (dk_at dksX0_init_7 15 rfl rfl)
theorem dX0_init_176 : decode cX0_init 176 = .ok (.aload_n 0, 1) := dk_42 (dk_at dksX0_init_7 18 rfl rfl)
theorem dX0_init_177 : decode cX0_init 177 = .ok (.new 71, 3) := dk_187 0 71 (dk_at dksX0_init_7 19 rfl rfl)
theorem dX0_init_180 : decode cX0_init 180 = .ok (.dup, 1) := dk_89 (dk_at dksX0_init_7 22 rfl rfl)
theorem dX0_init_181 : decode cX0_init 181 = .ok (.invokespecial 73, 3) := dk_183 0 73 (dk_at dksX0_init_8 0 rfl rfl)
theorem dX0_init_184 : decode cX0_init 184 = .ok (.putfield 74, 3) := dk_181 0 74 (dk_at dksX0_init_8 3 rfl rfl)
theorem dX0_init_187 : decode cX0_init 187 = .ok (.aload_n 0, 1) := dk_42 (dk_at dksX0_init_8 6 rfl rfl)
theorem dX0_init_188 : decode cX0_init 188 = .ok (.new 78, 3) := dk_187 0 78 (dk_at dksX0_init_8 7 rfl rfl)
theorem dX0_init_191 : decode cX0_init 191 = .ok (.dup, 1) := dk_89 (dk_at dksX0_init_8 10 rfl rfl)
theorem dX0_init_192 : decode cX0_init 192 = .ok (.invokespecial 80, 3) := dk_183 0 80 (dk_at dksX0_init_8 11 rfl rfl)
theorem dX0_init_195 : decode cX0_init 195 = .ok (.putfield 81, 3) := dk_181 0 81 (dk_at dksX0_init_8 14 rfl rfl)
theorem dX0_init_198 : decode cX0_init 198 = .ok (.return_, 1) := dk_177 (dk_at dksX0_init_8 17 rfl rfl)
abbrev cX0_lambda_new_0 : ByteArray := prog_1_method_56_code
def yX0_lambda_new_0 : MethodName := ⟨RX0, "lambda$new$0", "(LBarrelProcessor$Machine;LBarrelProcessor$Lane;II)V"⟩
def dkwX0_lambda_new_0_0 : List UInt8 := [43, 28, 29, 182, 1, 15, 177]
abbrev dktX0_lambda_new_0_0 : List UInt8 := dkwX0_lambda_new_0_0 ++ []
theorem dksX0_lambda_new_0_0 : cX0_lambda_new_0.data.toList.drop 0 = dktX0_lambda_new_0_0 := by decide +kernel
theorem dX0_lambda_new_0_0 : decode cX0_lambda_new_0 0 = .ok (.aload_n 1, 1) := dk_43 (dk_at dksX0_lambda_new_0_0 0 rfl rfl)
theorem dX0_lambda_new_0_1 : decode cX0_lambda_new_0 1 = .ok (.iload_n 2, 1) := dk_28 (dk_at dksX0_lambda_new_0_0 1 rfl rfl)
theorem dX0_lambda_new_0_2 : decode cX0_lambda_new_0 2 = .ok (.iload_n 3, 1) := dk_29 (dk_at dksX0_lambda_new_0_0 2 rfl rfl)
theorem dX0_lambda_new_0_3 : decode cX0_lambda_new_0 3 = .ok (.invokevirtual 271, 3) := dk_182 1 15 (dk_at dksX0_lambda_new_0_0 3 rfl rfl)
theorem dX0_lambda_new_0_6 : decode cX0_lambda_new_0 6 = .ok (.return_, 1) := dk_177 (dk_at dksX0_lambda_new_0_0 6 rfl rfl)
abbrev cX0_lambda_new_1 : ByteArray := prog_1_method_55_code
def yX0_lambda_new_1 : MethodName := ⟨RX0, "lambda$new$1", "(LBarrelProcessor$Machine;LBarrelProcessor$Lane;II)V"⟩
def dkwX0_lambda_new_1_0 : List UInt8 := [43, 28, 43, 180, 0, 159, 28, 46, 43, 180, 0, 159, 29, 46, 96, 182, 1, 15, 177]
abbrev dktX0_lambda_new_1_0 : List UInt8 := dkwX0_lambda_new_1_0 ++ []
theorem dksX0_lambda_new_1_0 : cX0_lambda_new_1.data.toList.drop 0 = dktX0_lambda_new_1_0 := by decide +kernel
theorem dX0_lambda_new_1_0 : decode cX0_lambda_new_1 0 = .ok (.aload_n 1, 1) := dk_43 (dk_at dksX0_lambda_new_1_0 0 rfl rfl)
theorem dX0_lambda_new_1_1 : decode cX0_lambda_new_1 1 = .ok (.iload_n 2, 1) := dk_28 (dk_at dksX0_lambda_new_1_0 1 rfl rfl)
theorem dX0_lambda_new_1_2 : decode cX0_lambda_new_1 2 = .ok (.aload_n 1, 1) := dk_43 (dk_at dksX0_lambda_new_1_0 2 rfl rfl)
theorem dX0_lambda_new_1_3 : decode cX0_lambda_new_1 3 = .ok (.getfield 159, 3) := dk_180 0 159 (dk_at dksX0_lambda_new_1_0 3 rfl rfl)
theorem dX0_lambda_new_1_6 : decode cX0_lambda_new_1 6 = .ok (.iload_n 2, 1) := dk_28 (dk_at dksX0_lambda_new_1_0 6 rfl rfl)
theorem dX0_lambda_new_1_7 : decode cX0_lambda_new_1 7 = .ok (.iaload, 1) := dk_46 (dk_at dksX0_lambda_new_1_0 7 rfl rfl)
theorem dX0_lambda_new_1_8 : decode cX0_lambda_new_1 8 = .ok (.aload_n 1, 1) := dk_43 (dk_at dksX0_lambda_new_1_0 8 rfl rfl)
theorem dX0_lambda_new_1_9 : decode cX0_lambda_new_1 9 = .ok (.getfield 159, 3) := dk_180 0 159 (dk_at dksX0_lambda_new_1_0 9 rfl rfl)
theorem dX0_lambda_new_1_12 : decode cX0_lambda_new_1 12 = .ok (.iload_n 3, 1) := dk_29 (dk_at dksX0_lambda_new_1_0 12 rfl rfl)
theorem dX0_lambda_new_1_13 : decode cX0_lambda_new_1 13 = .ok (.iaload, 1) := dk_46 (dk_at dksX0_lambda_new_1_0 13 rfl rfl)
theorem dX0_lambda_new_1_14 : decode cX0_lambda_new_1 14 = .ok (.iadd, 1) := dk_96 (dk_at dksX0_lambda_new_1_0 14 rfl rfl)
theorem dX0_lambda_new_1_15 : decode cX0_lambda_new_1 15 = .ok (.invokevirtual 271, 3) := dk_182 1 15 (dk_at dksX0_lambda_new_1_0 15 rfl rfl)
theorem dX0_lambda_new_1_18 : decode cX0_lambda_new_1 18 = .ok (.return_, 1) := dk_177 (dk_at dksX0_lambda_new_1_0 18 rfl rfl)
abbrev cX0_lambda_new_2 : ByteArray := prog_1_method_54_code
def yX0_lambda_new_2 : MethodName := ⟨RX0, "lambda$new$2", "(LBarrelProcessor$Machine;LBarrelProcessor$Lane;II)V"⟩
def dkwX0_lambda_new_2_0 : List UInt8 := [43, 28, 43, 180, 0, 159, 28, 46, 43, 180, 0, 159, 29, 46, 100, 182, 1, 15, 177]
abbrev dktX0_lambda_new_2_0 : List UInt8 := dkwX0_lambda_new_2_0 ++ []
theorem dksX0_lambda_new_2_0 : cX0_lambda_new_2.data.toList.drop 0 = dktX0_lambda_new_2_0 := by decide +kernel
theorem dX0_lambda_new_2_0 : decode cX0_lambda_new_2 0 = .ok (.aload_n 1, 1) := dk_43 (dk_at dksX0_lambda_new_2_0 0 rfl rfl)
theorem dX0_lambda_new_2_1 : decode cX0_lambda_new_2 1 = .ok (.iload_n 2, 1) := dk_28 (dk_at dksX0_lambda_new_2_0 1 rfl rfl)
theorem dX0_lambda_new_2_2 : decode cX0_lambda_new_2 2 = .ok (.aload_n 1, 1) := dk_43 (dk_at dksX0_lambda_new_2_0 2 rfl rfl)
theorem dX0_lambda_new_2_3 : decode cX0_lambda_new_2 3 = .ok (.getfield 159, 3) := dk_180 0 159 (dk_at dksX0_lambda_new_2_0 3 rfl rfl)
theorem dX0_lambda_new_2_6 : decode cX0_lambda_new_2 6 = .ok (.iload_n 2, 1) := dk_28 (dk_at dksX0_lambda_new_2_0 6 rfl rfl)
theorem dX0_lambda_new_2_7 : decode cX0_lambda_new_2 7 = .ok (.iaload, 1) := dk_46 (dk_at dksX0_lambda_new_2_0 7 rfl rfl)
theorem dX0_lambda_new_2_8 : decode cX0_lambda_new_2 8 = .ok (.aload_n 1, 1) := dk_43 (dk_at dksX0_lambda_new_2_0 8 rfl rfl)
theorem dX0_lambda_new_2_9 : decode cX0_lambda_new_2 9 = .ok (.getfield 159, 3) := dk_180 0 159 (dk_at dksX0_lambda_new_2_0 9 rfl rfl)
theorem dX0_lambda_new_2_12 : decode cX0_lambda_new_2 12 = .ok (.iload_n 3, 1) := dk_29 (dk_at dksX0_lambda_new_2_0 12 rfl rfl)
theorem dX0_lambda_new_2_13 : decode cX0_lambda_new_2 13 = .ok (.iaload, 1) := dk_46 (dk_at dksX0_lambda_new_2_0 13 rfl rfl)
theorem dX0_lambda_new_2_14 : decode cX0_lambda_new_2 14 = .ok (.isub, 1) := dk_100 (dk_at dksX0_lambda_new_2_0 14 rfl rfl)
theorem dX0_lambda_new_2_15 : decode cX0_lambda_new_2 15 = .ok (.invokevirtual 271, 3) := dk_182 1 15 (dk_at dksX0_lambda_new_2_0 15 rfl rfl)
theorem dX0_lambda_new_2_18 : decode cX0_lambda_new_2 18 = .ok (.return_, 1) := dk_177 (dk_at dksX0_lambda_new_2_0 18 rfl rfl)
abbrev cX0_lambda_new_3 : ByteArray := prog_1_method_53_code
def yX0_lambda_new_3 : MethodName := ⟨RX0, "lambda$new$3", "(LBarrelProcessor$Machine;LBarrelProcessor$Lane;II)V"⟩
def dkwX0_lambda_new_3_0 : List UInt8 := [43, 28, 43, 180, 0, 159, 28, 46, 43, 180, 0, 159, 29, 46, 104, 182, 1, 15, 177]
abbrev dktX0_lambda_new_3_0 : List UInt8 := dkwX0_lambda_new_3_0 ++ []
theorem dksX0_lambda_new_3_0 : cX0_lambda_new_3.data.toList.drop 0 = dktX0_lambda_new_3_0 := by decide +kernel
theorem dX0_lambda_new_3_0 : decode cX0_lambda_new_3 0 = .ok (.aload_n 1, 1) := dk_43 (dk_at dksX0_lambda_new_3_0 0 rfl rfl)
theorem dX0_lambda_new_3_1 : decode cX0_lambda_new_3 1 = .ok (.iload_n 2, 1) := dk_28 (dk_at dksX0_lambda_new_3_0 1 rfl rfl)
theorem dX0_lambda_new_3_2 : decode cX0_lambda_new_3 2 = .ok (.aload_n 1, 1) := dk_43 (dk_at dksX0_lambda_new_3_0 2 rfl rfl)
theorem dX0_lambda_new_3_3 : decode cX0_lambda_new_3 3 = .ok (.getfield 159, 3) := dk_180 0 159 (dk_at dksX0_lambda_new_3_0 3 rfl rfl)
theorem dX0_lambda_new_3_6 : decode cX0_lambda_new_3 6 = .ok (.iload_n 2, 1) := dk_28 (dk_at dksX0_lambda_new_3_0 6 rfl rfl)
theorem dX0_lambda_new_3_7 : decode cX0_lambda_new_3 7 = .ok (.iaload, 1) := dk_46 (dk_at dksX0_lambda_new_3_0 7 rfl rfl)
theorem dX0_lambda_new_3_8 : decode cX0_lambda_new_3 8 = .ok (.aload_n 1, 1) := dk_43 (dk_at dksX0_lambda_new_3_0 8 rfl rfl)
theorem dX0_lambda_new_3_9 : decode cX0_lambda_new_3 9 = .ok (.getfield 159, 3) := dk_180 0 159 (dk_at dksX0_lambda_new_3_0 9 rfl rfl)
theorem dX0_lambda_new_3_12 : decode cX0_lambda_new_3 12 = .ok (.iload_n 3, 1) := dk_29 (dk_at dksX0_lambda_new_3_0 12 rfl rfl)
theorem dX0_lambda_new_3_13 : decode cX0_lambda_new_3 13 = .ok (.iaload, 1) := dk_46 (dk_at dksX0_lambda_new_3_0 13 rfl rfl)
theorem dX0_lambda_new_3_14 : decode cX0_lambda_new_3 14 = .ok (.imul, 1) := dk_104 (dk_at dksX0_lambda_new_3_0 14 rfl rfl)
theorem dX0_lambda_new_3_15 : decode cX0_lambda_new_3 15 = .ok (.invokevirtual 271, 3) := dk_182 1 15 (dk_at dksX0_lambda_new_3_0 15 rfl rfl)
theorem dX0_lambda_new_3_18 : decode cX0_lambda_new_3 18 = .ok (.return_, 1) := dk_177 (dk_at dksX0_lambda_new_3_0 18 rfl rfl)
abbrev cX0_lambda_new_4 : ByteArray := prog_1_method_52_code
def yX0_lambda_new_4 : MethodName := ⟨RX0, "lambda$new$4", "(LBarrelProcessor$Machine;LBarrelProcessor$Lane;II)V"⟩
def dkwX0_lambda_new_4_0 : List UInt8 := [42, 43, 28, 43, 29, 182, 1, 4, 182, 1, 12, 177]
abbrev dktX0_lambda_new_4_0 : List UInt8 := dkwX0_lambda_new_4_0 ++ []
theorem dksX0_lambda_new_4_0 : cX0_lambda_new_4.data.toList.drop 0 = dktX0_lambda_new_4_0 := by decide +kernel
theorem dX0_lambda_new_4_0 : decode cX0_lambda_new_4 0 = .ok (.aload_n 0, 1) := dk_42 (dk_at dksX0_lambda_new_4_0 0 rfl rfl)
theorem dX0_lambda_new_4_1 : decode cX0_lambda_new_4 1 = .ok (.aload_n 1, 1) := dk_43 (dk_at dksX0_lambda_new_4_0 1 rfl rfl)
theorem dX0_lambda_new_4_2 : decode cX0_lambda_new_4 2 = .ok (.iload_n 2, 1) := dk_28 (dk_at dksX0_lambda_new_4_0 2 rfl rfl)
theorem dX0_lambda_new_4_3 : decode cX0_lambda_new_4 3 = .ok (.aload_n 1, 1) := dk_43 (dk_at dksX0_lambda_new_4_0 3 rfl rfl)
theorem dX0_lambda_new_4_4 : decode cX0_lambda_new_4 4 = .ok (.iload_n 3, 1) := dk_29 (dk_at dksX0_lambda_new_4_0 4 rfl rfl)
theorem dX0_lambda_new_4_5 : decode cX0_lambda_new_4 5 = .ok (.invokevirtual 260, 3) := dk_182 1 4 (dk_at dksX0_lambda_new_4_0 5 rfl rfl)
theorem dX0_lambda_new_4_8 : decode cX0_lambda_new_4 8 = .ok (.invokevirtual 268, 3) := dk_182 1 12 (dk_at dksX0_lambda_new_4_0 8 rfl rfl)
theorem dX0_lambda_new_4_11 : decode cX0_lambda_new_4 11 = .ok (.return_, 1) := dk_177 (dk_at dksX0_lambda_new_4_0 11 rfl rfl)
abbrev cX0_lambda_new_5 : ByteArray := prog_1_method_51_code
def yX0_lambda_new_5 : MethodName := ⟨RX0, "lambda$new$5", "(LBarrelProcessor$Machine;LBarrelProcessor$Lane;II)V"⟩
def dkwX0_lambda_new_5_0 : List UInt8 := [42, 180, 0, 166, 43, 29, 182, 1, 4, 43, 180, 0, 159, 28, 46, 79, 177]
abbrev dktX0_lambda_new_5_0 : List UInt8 := dkwX0_lambda_new_5_0 ++ []
theorem dksX0_lambda_new_5_0 : cX0_lambda_new_5.data.toList.drop 0 = dktX0_lambda_new_5_0 := by decide +kernel
theorem dX0_lambda_new_5_0 : decode cX0_lambda_new_5 0 = .ok (.aload_n 0, 1) := dk_42 (dk_at dksX0_lambda_new_5_0 0 rfl rfl)
theorem dX0_lambda_new_5_1 : decode cX0_lambda_new_5 1 = .ok (.getfield 166, 3) := dk_180 0 166 (dk_at dksX0_lambda_new_5_0 1 rfl rfl)
theorem dX0_lambda_new_5_4 : decode cX0_lambda_new_5 4 = .ok (.aload_n 1, 1) := dk_43 (dk_at dksX0_lambda_new_5_0 4 rfl rfl)
theorem dX0_lambda_new_5_5 : decode cX0_lambda_new_5 5 = .ok (.iload_n 3, 1) := dk_29 (dk_at dksX0_lambda_new_5_0 5 rfl rfl)
theorem dX0_lambda_new_5_6 : decode cX0_lambda_new_5 6 = .ok (.invokevirtual 260, 3) := dk_182 1 4 (dk_at dksX0_lambda_new_5_0 6 rfl rfl)
theorem dX0_lambda_new_5_9 : decode cX0_lambda_new_5 9 = .ok (.aload_n 1, 1) := dk_43 (dk_at dksX0_lambda_new_5_0 9 rfl rfl)
theorem dX0_lambda_new_5_10 : decode cX0_lambda_new_5 10 = .ok (.getfield 159, 3) := dk_180 0 159 (dk_at dksX0_lambda_new_5_0 10 rfl rfl)
theorem dX0_lambda_new_5_13 : decode cX0_lambda_new_5 13 = .ok (.iload_n 2, 1) := dk_28 (dk_at dksX0_lambda_new_5_0 13 rfl rfl)
theorem dX0_lambda_new_5_14 : decode cX0_lambda_new_5 14 = .ok (.iaload, 1) := dk_46 (dk_at dksX0_lambda_new_5_0 14 rfl rfl)
theorem dX0_lambda_new_5_15 : decode cX0_lambda_new_5 15 = .ok (.iastore, 1) := dk_79 (dk_at dksX0_lambda_new_5_0 15 rfl rfl)
theorem dX0_lambda_new_5_16 : decode cX0_lambda_new_5 16 = .ok (.return_, 1) := dk_177 (dk_at dksX0_lambda_new_5_0 16 rfl rfl)
abbrev cX0_lambda_new_6 : ByteArray := prog_1_method_50_code
def yX0_lambda_new_6 : MethodName := ⟨RX0, "lambda$new$6", "(LBarrelProcessor$Machine;LBarrelProcessor$Lane;II)V"⟩
def dkwX0_lambda_new_6_0 : List UInt8 := [42, 43, 28, 43, 29, 182, 1, 4, 182, 1, 8, 177]
abbrev dktX0_lambda_new_6_0 : List UInt8 := dkwX0_lambda_new_6_0 ++ []
theorem dksX0_lambda_new_6_0 : cX0_lambda_new_6.data.toList.drop 0 = dktX0_lambda_new_6_0 := by decide +kernel
theorem dX0_lambda_new_6_0 : decode cX0_lambda_new_6 0 = .ok (.aload_n 0, 1) := dk_42 (dk_at dksX0_lambda_new_6_0 0 rfl rfl)
theorem dX0_lambda_new_6_1 : decode cX0_lambda_new_6 1 = .ok (.aload_n 1, 1) := dk_43 (dk_at dksX0_lambda_new_6_0 1 rfl rfl)
theorem dX0_lambda_new_6_2 : decode cX0_lambda_new_6 2 = .ok (.iload_n 2, 1) := dk_28 (dk_at dksX0_lambda_new_6_0 2 rfl rfl)
theorem dX0_lambda_new_6_3 : decode cX0_lambda_new_6 3 = .ok (.aload_n 1, 1) := dk_43 (dk_at dksX0_lambda_new_6_0 3 rfl rfl)
theorem dX0_lambda_new_6_4 : decode cX0_lambda_new_6 4 = .ok (.iload_n 3, 1) := dk_29 (dk_at dksX0_lambda_new_6_0 4 rfl rfl)
theorem dX0_lambda_new_6_5 : decode cX0_lambda_new_6 5 = .ok (.invokevirtual 260, 3) := dk_182 1 4 (dk_at dksX0_lambda_new_6_0 5 rfl rfl)
theorem dX0_lambda_new_6_8 : decode cX0_lambda_new_6 8 = .ok (.invokevirtual 264, 3) := dk_182 1 8 (dk_at dksX0_lambda_new_6_0 8 rfl rfl)
theorem dX0_lambda_new_6_11 : decode cX0_lambda_new_6 11 = .ok (.return_, 1) := dk_177 (dk_at dksX0_lambda_new_6_0 11 rfl rfl)
abbrev cX0_lambda_new_7 : ByteArray := prog_1_method_49_code
def yX0_lambda_new_7 : MethodName := ⟨RX0, "lambda$new$7", "(LBarrelProcessor$Machine;LBarrelProcessor$Lane;II)V"⟩
def dkwX0_lambda_new_7_0 : List UInt8 := [43, 28, 181, 0, 207, 177]
abbrev dktX0_lambda_new_7_0 : List UInt8 := dkwX0_lambda_new_7_0 ++ []
theorem dksX0_lambda_new_7_0 : cX0_lambda_new_7.data.toList.drop 0 = dktX0_lambda_new_7_0 := by decide +kernel
theorem dX0_lambda_new_7_0 : decode cX0_lambda_new_7 0 = .ok (.aload_n 1, 1) := dk_43 (dk_at dksX0_lambda_new_7_0 0 rfl rfl)
theorem dX0_lambda_new_7_1 : decode cX0_lambda_new_7 1 = .ok (.iload_n 2, 1) := dk_28 (dk_at dksX0_lambda_new_7_0 1 rfl rfl)
theorem dX0_lambda_new_7_2 : decode cX0_lambda_new_7 2 = .ok (.putfield 207, 3) := dk_181 0 207 (dk_at dksX0_lambda_new_7_0 2 rfl rfl)
theorem dX0_lambda_new_7_5 : decode cX0_lambda_new_7 5 = .ok (.return_, 1) := dk_177 (dk_at dksX0_lambda_new_7_0 5 rfl rfl)
abbrev cX0_lambda_new_8 : ByteArray := prog_1_method_48_code
def yX0_lambda_new_8 : MethodName := ⟨RX0, "lambda$new$8", "(LBarrelProcessor$Machine;LBarrelProcessor$Lane;II)V"⟩
def dkwX0_lambda_new_8_0 : List UInt8 := [43, 43, 180, 0, 159, 28, 46, 154, 0, 7, 4, 167, 0, 4, 3, 29, 182, 1, 0, 177]
abbrev dktX0_lambda_new_8_0 : List UInt8 := dkwX0_lambda_new_8_0 ++ []
theorem dksX0_lambda_new_8_0 : cX0_lambda_new_8.data.toList.drop 0 = dktX0_lambda_new_8_0 := by decide +kernel
theorem dX0_lambda_new_8_0 : decode cX0_lambda_new_8 0 = .ok (.aload_n 1, 1) := dk_43 (dk_at dksX0_lambda_new_8_0 0 rfl rfl)
theorem dX0_lambda_new_8_1 : decode cX0_lambda_new_8 1 = .ok (.aload_n 1, 1) := dk_43 (dk_at dksX0_lambda_new_8_0 1 rfl rfl)
theorem dX0_lambda_new_8_2 : decode cX0_lambda_new_8 2 = .ok (.getfield 159, 3) := dk_180 0 159 (dk_at dksX0_lambda_new_8_0 2 rfl rfl)
theorem dX0_lambda_new_8_5 : decode cX0_lambda_new_8 5 = .ok (.iload_n 2, 1) := dk_28 (dk_at dksX0_lambda_new_8_0 5 rfl rfl)
theorem dX0_lambda_new_8_6 : decode cX0_lambda_new_8 6 = .ok (.iaload, 1) := dk_46 (dk_at dksX0_lambda_new_8_0 6 rfl rfl)
theorem dX0_lambda_new_8_7 : decode cX0_lambda_new_8 7 = .ok (.ifCond .ne 7, 3) := dk_154 0 7 (dk_at dksX0_lambda_new_8_0 7 rfl rfl)
theorem dX0_lambda_new_8_10 : decode cX0_lambda_new_8 10 = .ok (.iconst 1, 1) := dk_4 (dk_at dksX0_lambda_new_8_0 10 rfl rfl)
theorem dX0_lambda_new_8_11 : decode cX0_lambda_new_8 11 = .ok (.goto 4, 3) := dk_167 0 4 (dk_at dksX0_lambda_new_8_0 11 rfl rfl)
theorem dX0_lambda_new_8_14 : decode cX0_lambda_new_8 14 = .ok (.iconst 0, 1) := dk_3 (dk_at dksX0_lambda_new_8_0 14 rfl rfl)
theorem dX0_lambda_new_8_15 : decode cX0_lambda_new_8 15 = .ok (.iload_n 3, 1) := dk_29 (dk_at dksX0_lambda_new_8_0 15 rfl rfl)
theorem dX0_lambda_new_8_16 : decode cX0_lambda_new_8 16 = .ok (.invokevirtual 256, 3) := dk_182 1 0 (dk_at dksX0_lambda_new_8_0 16 rfl rfl)
theorem dX0_lambda_new_8_19 : decode cX0_lambda_new_8 19 = .ok (.return_, 1) := dk_177 (dk_at dksX0_lambda_new_8_0 19 rfl rfl)
abbrev cX0_lambda_new_9 : ByteArray := prog_1_method_47_code
def yX0_lambda_new_9 : MethodName := ⟨RX0, "lambda$new$9", "(LBarrelProcessor$Machine;LBarrelProcessor$Lane;II)V"⟩
def dkwX0_lambda_new_9_0 : List UInt8 := [43, 43, 180, 0, 159, 28, 46, 156, 0, 7, 4, 167, 0, 4, 3, 29, 182, 1, 0, 177]
abbrev dktX0_lambda_new_9_0 : List UInt8 := dkwX0_lambda_new_9_0 ++ []
theorem dksX0_lambda_new_9_0 : cX0_lambda_new_9.data.toList.drop 0 = dktX0_lambda_new_9_0 := by decide +kernel
theorem dX0_lambda_new_9_0 : decode cX0_lambda_new_9 0 = .ok (.aload_n 1, 1) := dk_43 (dk_at dksX0_lambda_new_9_0 0 rfl rfl)
theorem dX0_lambda_new_9_1 : decode cX0_lambda_new_9 1 = .ok (.aload_n 1, 1) := dk_43 (dk_at dksX0_lambda_new_9_0 1 rfl rfl)
theorem dX0_lambda_new_9_2 : decode cX0_lambda_new_9 2 = .ok (.getfield 159, 3) := dk_180 0 159 (dk_at dksX0_lambda_new_9_0 2 rfl rfl)
theorem dX0_lambda_new_9_5 : decode cX0_lambda_new_9 5 = .ok (.iload_n 2, 1) := dk_28 (dk_at dksX0_lambda_new_9_0 5 rfl rfl)
theorem dX0_lambda_new_9_6 : decode cX0_lambda_new_9 6 = .ok (.iaload, 1) := dk_46 (dk_at dksX0_lambda_new_9_0 6 rfl rfl)
theorem dX0_lambda_new_9_7 : decode cX0_lambda_new_9 7 = .ok (.ifCond .ge 7, 3) := dk_156 0 7 (dk_at dksX0_lambda_new_9_0 7 rfl rfl)
theorem dX0_lambda_new_9_10 : decode cX0_lambda_new_9 10 = .ok (.iconst 1, 1) := dk_4 (dk_at dksX0_lambda_new_9_0 10 rfl rfl)
theorem dX0_lambda_new_9_11 : decode cX0_lambda_new_9 11 = .ok (.goto 4, 3) := dk_167 0 4 (dk_at dksX0_lambda_new_9_0 11 rfl rfl)
theorem dX0_lambda_new_9_14 : decode cX0_lambda_new_9 14 = .ok (.iconst 0, 1) := dk_3 (dk_at dksX0_lambda_new_9_0 14 rfl rfl)
theorem dX0_lambda_new_9_15 : decode cX0_lambda_new_9 15 = .ok (.iload_n 3, 1) := dk_29 (dk_at dksX0_lambda_new_9_0 15 rfl rfl)
theorem dX0_lambda_new_9_16 : decode cX0_lambda_new_9 16 = .ok (.invokevirtual 256, 3) := dk_182 1 0 (dk_at dksX0_lambda_new_9_0 16 rfl rfl)
theorem dX0_lambda_new_9_19 : decode cX0_lambda_new_9 19 = .ok (.return_, 1) := dk_177 (dk_at dksX0_lambda_new_9_0 19 rfl rfl)
abbrev cX0_lambda_new_10 : ByteArray := prog_1_method_46_code
def yX0_lambda_new_10 : MethodName := ⟨RX0, "lambda$new$10", "(LBarrelProcessor$Machine;LBarrelProcessor$Lane;II)V"⟩
def dkwX0_lambda_new_10_0 : List UInt8 := [43, 6, 181, 0, 138, 177]
abbrev dktX0_lambda_new_10_0 : List UInt8 := dkwX0_lambda_new_10_0 ++ []
theorem dksX0_lambda_new_10_0 : cX0_lambda_new_10.data.toList.drop 0 = dktX0_lambda_new_10_0 := by decide +kernel
theorem dX0_lambda_new_10_0 : decode cX0_lambda_new_10 0 = .ok (.aload_n 1, 1) := dk_43 (dk_at dksX0_lambda_new_10_0 0 rfl rfl)
theorem dX0_lambda_new_10_1 : decode cX0_lambda_new_10 1 = .ok (.iconst 3, 1) := dk_6 (dk_at dksX0_lambda_new_10_0 1 rfl rfl)
theorem dX0_lambda_new_10_2 : decode cX0_lambda_new_10 2 = .ok (.putfield 138, 3) := dk_181 0 138 (dk_at dksX0_lambda_new_10_0 2 rfl rfl)
theorem dX0_lambda_new_10_5 : decode cX0_lambda_new_10 5 = .ok (.return_, 1) := dk_177 (dk_at dksX0_lambda_new_10_0 5 rfl rfl)
abbrev cX0_lambda_new_11 : ByteArray := prog_1_method_45_code
def yX0_lambda_new_11 : MethodName := ⟨RX0, "lambda$new$11", "(LBarrelProcessor$Machine;LBarrelProcessor$Lane;II)V"⟩
def dkwX0_lambda_new_11_0 : List UInt8 := [43, 3, 181, 0, 138, 177]
abbrev dktX0_lambda_new_11_0 : List UInt8 := dkwX0_lambda_new_11_0 ++ []
theorem dksX0_lambda_new_11_0 : cX0_lambda_new_11.data.toList.drop 0 = dktX0_lambda_new_11_0 := by decide +kernel
theorem dX0_lambda_new_11_0 : decode cX0_lambda_new_11 0 = .ok (.aload_n 1, 1) := dk_43 (dk_at dksX0_lambda_new_11_0 0 rfl rfl)
theorem dX0_lambda_new_11_1 : decode cX0_lambda_new_11 1 = .ok (.iconst 0, 1) := dk_3 (dk_at dksX0_lambda_new_11_0 1 rfl rfl)
theorem dX0_lambda_new_11_2 : decode cX0_lambda_new_11 2 = .ok (.putfield 138, 3) := dk_181 0 138 (dk_at dksX0_lambda_new_11_0 2 rfl rfl)
theorem dX0_lambda_new_11_5 : decode cX0_lambda_new_11 5 = .ok (.return_, 1) := dk_177 (dk_at dksX0_lambda_new_11_0 5 rfl rfl)
abbrev cX0_assemble : ByteArray := prog_1_method_7_code
def yX0_assemble : MethodName := ⟨RX0, "assemble", "(I)I"⟩
def dkwX0_assemble_4 : List UInt8 := [132, 4, 1, 167, 255, 221, 29, 172]
abbrev dktX0_assemble_4 : List UInt8 := dkwX0_assemble_4 ++ []
def dkwX0_assemble_3 : List UInt8 := [180, 0, 124, 27, 21, 4, 96, 44, 180, 0, 117, 21, 4, 185, 0, 128, 2, 0, 192, 0, 52, 83]
abbrev dktX0_assemble_3 : List UInt8 := dkwX0_assemble_3 ++ dktX0_assemble_4
def dkwX0_assemble_2 : List UInt8 := [164, 0, 6, 18, 120, 172, 42, 182, 0, 121, 3, 54, 4, 21, 4, 29, 162, 0, 35, 42, 180, 0, 67]
abbrev dktX0_assemble_2 : List UInt8 := dkwX0_assemble_2 ++ dktX0_assemble_3
def dkwX0_assemble_1 : List UInt8 := [182, 0, 112, 154, 0, 6, 18, 116, 172, 44, 180, 0, 117, 185, 0, 85, 1, 0, 62, 27, 29, 96, 16, 48]
abbrev dktX0_assemble_1 : List UInt8 := dkwX0_assemble_1 ++ dktX0_assemble_2
def dkwX0_assemble_0 : List UInt8 := [27, 184, 0, 102, 154, 0, 6, 18, 106, 172, 187, 0, 107, 89, 42, 42, 180, 0, 81, 183, 0, 109, 77, 44]
abbrev dktX0_assemble_0 : List UInt8 := dkwX0_assemble_0 ++ dktX0_assemble_1
theorem dksX0_assemble_0 : cX0_assemble.data.toList.drop 0 = dktX0_assemble_0 := by decide +kernel
theorem dksX0_assemble_1 : cX0_assemble.data.toList.drop 24 = dktX0_assemble_1 := dk_seg dksX0_assemble_0 24 rfl rfl
theorem dksX0_assemble_2 : cX0_assemble.data.toList.drop 48 = dktX0_assemble_2 := dk_seg dksX0_assemble_1 24 rfl rfl
theorem dksX0_assemble_3 : cX0_assemble.data.toList.drop 71 = dktX0_assemble_3 := dk_seg dksX0_assemble_2 23 rfl rfl
theorem dksX0_assemble_4 : cX0_assemble.data.toList.drop 93 = dktX0_assemble_4 := dk_seg dksX0_assemble_3 22 rfl rfl
theorem dX0_assemble_0 : decode cX0_assemble 0 = .ok (.iload_n 1, 1) := dk_27 (dk_at dksX0_assemble_0 0 rfl rfl)
theorem dX0_assemble_1 : decode cX0_assemble 1 = .ok (.invokestatic 102, 3) := dk_184 0 102 (dk_at dksX0_assemble_0 1 rfl rfl)
theorem dX0_assemble_4 : decode cX0_assemble 4 = .ok (.ifCond .ne 6, 3) := dk_154 0 6 (dk_at dksX0_assemble_0 4 rfl rfl)
theorem dX0_assemble_7 : decode cX0_assemble 7 = .ok (.ldc 106, 2) := dk_18 106 (dk_at dksX0_assemble_0 7 rfl rfl)
theorem dX0_assemble_9 : decode cX0_assemble 9 = .ok (.ireturn, 1) := dk_172 (dk_at dksX0_assemble_0 9 rfl rfl)
theorem dX0_assemble_10 : decode cX0_assemble 10 = .ok (.new 107, 3) := dk_187 0 107 (dk_at dksX0_assemble_0 10 rfl rfl)
theorem dX0_assemble_13 : decode cX0_assemble 13 = .ok (.dup, 1) := dk_89 (dk_at dksX0_assemble_0 13 rfl rfl)
theorem dX0_assemble_14 : decode cX0_assemble 14 = .ok (.aload_n 0, 1) := dk_42 (dk_at dksX0_assemble_0 14 rfl rfl)
theorem dX0_assemble_15 : decode cX0_assemble 15 = .ok (.aload_n 0, 1) := dk_42 (dk_at dksX0_assemble_0 15 rfl rfl)
theorem dX0_assemble_16 : decode cX0_assemble 16 = .ok (.getfield 81, 3) := dk_180 0 81 (dk_at dksX0_assemble_0 16 rfl rfl)
theorem dX0_assemble_19 : decode cX0_assemble 19 = .ok (.invokespecial 109, 3) := dk_183 0 109 (dk_at dksX0_assemble_0 19 rfl rfl)
theorem dX0_assemble_22 : decode cX0_assemble 22 = .ok (.astore_n 2, 1) := dk_77 (dk_at dksX0_assemble_0 22 rfl rfl)
theorem dX0_assemble_23 : decode cX0_assemble 23 = .ok (.aload_n 2, 1) := dk_44 (dk_at dksX0_assemble_0 23 rfl rfl)
theorem dX0_assemble_24 : decode cX0_assemble 24 = .ok (.invokevirtual 112, 3) := dk_182 0 112 (dk_at dksX0_assemble_1 0 rfl rfl)
theorem dX0_assemble_27 : decode cX0_assemble 27 = .ok (.ifCond .ne 6, 3) := dk_154 0 6 (dk_at dksX0_assemble_1 3 rfl rfl)
theorem dX0_assemble_30 : decode cX0_assemble 30 = .ok (.ldc 116, 2) := dk_18 116 (dk_at dksX0_assemble_1 6 rfl rfl)
theorem dX0_assemble_32 : decode cX0_assemble 32 = .ok (.ireturn, 1) := dk_172 (dk_at dksX0_assemble_1 8 rfl rfl)
theorem dX0_assemble_33 : decode cX0_assemble 33 = .ok (.aload_n 2, 1) := dk_44 (dk_at dksX0_assemble_1 9 rfl rfl)
theorem dX0_assemble_34 : decode cX0_assemble 34 = .ok (.getfield 117, 3) := dk_180 0 117 (dk_at dksX0_assemble_1 10 rfl rfl)
theorem dX0_assemble_37 : decode cX0_assemble 37 = .ok (.invokeinterface 85 1, 5) := by decide +kernel
theorem dX0_assemble_42 : decode cX0_assemble 42 = .ok (.istore_n 3, 1) := dk_62 (dk_at dksX0_assemble_1 18 rfl rfl)
theorem dX0_assemble_43 : decode cX0_assemble 43 = .ok (.iload_n 1, 1) := dk_27 (dk_at dksX0_assemble_1 19 rfl rfl)
theorem dX0_assemble_44 : decode cX0_assemble 44 = .ok (.iload_n 3, 1) := dk_29 (dk_at dksX0_assemble_1 20 rfl rfl)
theorem dX0_assemble_45 : decode cX0_assemble 45 = .ok (.iadd, 1) := dk_96 (dk_at dksX0_assemble_1 21 rfl rfl)
theorem dX0_assemble_46 : decode cX0_assemble 46 = .ok (.bipush 48, 2) := dk_16 48 (dk_at dksX0_assemble_1 22 rfl rfl)
theorem dX0_assemble_48 : decode cX0_assemble 48 = .ok (.if_icmp .le 6, 3) := dk_164 0 6 (dk_at dksX0_assemble_2 0 rfl rfl)
theorem dX0_assemble_51 : decode cX0_assemble 51 = .ok (.ldc 120, 2) := dk_18 120 (dk_at dksX0_assemble_2 3 rfl rfl)
theorem dX0_assemble_53 : decode cX0_assemble 53 = .ok (.ireturn, 1) := dk_172 (dk_at dksX0_assemble_2 5 rfl rfl)
theorem dX0_assemble_54 : decode cX0_assemble 54 = .ok (.aload_n 0, 1) := dk_42 (dk_at dksX0_assemble_2 6 rfl rfl)
theorem dX0_assemble_55 : decode cX0_assemble 55 = .ok (.invokevirtual 121, 3) := dk_182 0 121 (dk_at dksX0_assemble_2 7 rfl rfl)
theorem dX0_assemble_58 : decode cX0_assemble 58 = .ok (.iconst 0, 1) := dk_3 (dk_at dksX0_assemble_2 10 rfl rfl)
theorem dX0_assemble_59 : decode cX0_assemble 59 = .ok (.istore 4, 2) := dk_54 4 (dk_at dksX0_assemble_2 11 rfl rfl)
theorem dX0_assemble_61 : decode cX0_assemble 61 = .ok (.iload 4, 2) := dk_21 4 (dk_at dksX0_assemble_2 13 rfl rfl)
theorem dX0_assemble_63 : decode cX0_assemble 63 = .ok (.iload_n 3, 1) := dk_29 (dk_at dksX0_assemble_2 15 rfl rfl)
theorem dX0_assemble_64 : decode cX0_assemble 64 = .ok (.if_icmp .ge 35, 3) := dk_162 0 35 (dk_at dksX0_assemble_2 16 rfl rfl)
theorem dX0_assemble_67 : decode cX0_assemble 67 = .ok (.aload_n 0, 1) := dk_42 (dk_at dksX0_assemble_2 19 rfl rfl)
theorem dX0_assemble_68 : decode cX0_assemble 68 = .ok (.getfield 67, 3) := dk_180 0 67 (dk_at dksX0_assemble_2 20 rfl rfl)
theorem dX0_assemble_71 : decode cX0_assemble 71 = .ok (.getfield 124, 3) := dk_180 0 124 (dk_at dksX0_assemble_3 0 rfl rfl)
theorem dX0_assemble_74 : decode cX0_assemble 74 = .ok (.iload_n 1, 1) := dk_27 (dk_at dksX0_assemble_3 3 rfl rfl)
theorem dX0_assemble_75 : decode cX0_assemble 75 = .ok (.iload 4, 2) := dk_21 4 (dk_at dksX0_assemble_3 4 rfl rfl)
theorem dX0_assemble_77 : decode cX0_assemble 77 = .ok (.iadd, 1) := dk_96 (dk_at dksX0_assemble_3 6 rfl rfl)
theorem dX0_assemble_78 : decode cX0_assemble 78 = .ok (.aload_n 2, 1) := dk_44 (dk_at dksX0_assemble_3 7 rfl rfl)
theorem dX0_assemble_79 : decode cX0_assemble 79 = .ok (.getfield 117, 3) := dk_180 0 117 (dk_at dksX0_assemble_3 8 rfl rfl)
theorem dX0_assemble_82 : decode cX0_assemble 82 = .ok (.iload 4, 2) := dk_21 4 (dk_at dksX0_assemble_3 11 rfl rfl)
theorem dX0_assemble_84 : decode cX0_assemble 84 = .ok (.invokeinterface 128 2, 5) := by decide +kernel
theorem dX0_assemble_89 : decode cX0_assemble 89 = .ok (.checkcast 52, 3) := dk_192 0 52 (dk_at dksX0_assemble_3 18 rfl rfl)
theorem dX0_assemble_92 : decode cX0_assemble 92 = .ok (.aastore, 1) := dk_83 (dk_at dksX0_assemble_3 21 rfl rfl)
theorem dX0_assemble_93 : decode cX0_assemble 93 = .ok (.iinc 4 1, 3) := dk_132 4 1 (dk_at dksX0_assemble_4 0 rfl rfl)
theorem dX0_assemble_96 : decode cX0_assemble 96 = .ok (.goto (-35), 3) := dk_167 255 221 (dk_at dksX0_assemble_4 3 rfl rfl)
theorem dX0_assemble_99 : decode cX0_assemble 99 = .ok (.iload_n 3, 1) := dk_29 (dk_at dksX0_assemble_4 6 rfl rfl)
theorem dX0_assemble_100 : decode cX0_assemble 100 = .ok (.ireturn, 1) := dk_172 (dk_at dksX0_assemble_4 7 rfl rfl)
abbrev cX0_isPlace : ByteArray := prog_1_method_3_code
def yX0_isPlace : MethodName := ⟨RX0, "isPlace", "(I)Z"⟩
def dkwX0_isPlace_0 : List UInt8 := [26, 3, 16, 47, 184, 0, 3, 172]
abbrev dktX0_isPlace_0 : List UInt8 := dkwX0_isPlace_0 ++ []
theorem dksX0_isPlace_0 : cX0_isPlace.data.toList.drop 0 = dktX0_isPlace_0 := by decide +kernel
theorem dX0_isPlace_0 : decode cX0_isPlace 0 = .ok (.iload_n 0, 1) := dk_26 (dk_at dksX0_isPlace_0 0 rfl rfl)
theorem dX0_isPlace_1 : decode cX0_isPlace 1 = .ok (.iconst 0, 1) := dk_3 (dk_at dksX0_isPlace_0 1 rfl rfl)
theorem dX0_isPlace_2 : decode cX0_isPlace 2 = .ok (.bipush 47, 2) := dk_16 47 (dk_at dksX0_isPlace_0 2 rfl rfl)
theorem dX0_isPlace_4 : decode cX0_isPlace 4 = .ok (.invokestatic 3, 3) := dk_184 0 3 (dk_at dksX0_isPlace_0 4 rfl rfl)
theorem dX0_isPlace_7 : decode cX0_isPlace 7 = .ok (.ireturn, 1) := dk_172 (dk_at dksX0_isPlace_0 7 rfl rfl)
abbrev cX0_isIn : ByteArray := prog_1_method_1_code
def yX0_isIn : MethodName := ⟨RX0, "isIn", "(III)Z"⟩
def dkwX0_isIn_0 : List UInt8 := [26, 27, 161, 0, 12, 26, 28, 163, 0, 7, 4, 167, 0, 4, 3, 172]
abbrev dktX0_isIn_0 : List UInt8 := dkwX0_isIn_0 ++ []
theorem dksX0_isIn_0 : cX0_isIn.data.toList.drop 0 = dktX0_isIn_0 := by decide +kernel
theorem dX0_isIn_0 : decode cX0_isIn 0 = .ok (.iload_n 0, 1) := dk_26 (dk_at dksX0_isIn_0 0 rfl rfl)
theorem dX0_isIn_1 : decode cX0_isIn 1 = .ok (.iload_n 1, 1) := dk_27 (dk_at dksX0_isIn_0 1 rfl rfl)
theorem dX0_isIn_2 : decode cX0_isIn 2 = .ok (.if_icmp .lt 12, 3) := dk_161 0 12 (dk_at dksX0_isIn_0 2 rfl rfl)
theorem dX0_isIn_5 : decode cX0_isIn 5 = .ok (.iload_n 0, 1) := dk_26 (dk_at dksX0_isIn_0 5 rfl rfl)
theorem dX0_isIn_6 : decode cX0_isIn 6 = .ok (.iload_n 2, 1) := dk_28 (dk_at dksX0_isIn_0 6 rfl rfl)
theorem dX0_isIn_7 : decode cX0_isIn 7 = .ok (.if_icmp .gt 7, 3) := dk_163 0 7 (dk_at dksX0_isIn_0 7 rfl rfl)
theorem dX0_isIn_10 : decode cX0_isIn 10 = .ok (.iconst 1, 1) := dk_4 (dk_at dksX0_isIn_0 10 rfl rfl)
theorem dX0_isIn_11 : decode cX0_isIn 11 = .ok (.goto 4, 3) := dk_167 0 4 (dk_at dksX0_isIn_0 11 rfl rfl)
theorem dX0_isIn_14 : decode cX0_isIn 14 = .ok (.iconst 0, 1) := dk_3 (dk_at dksX0_isIn_0 14 rfl rfl)
theorem dX0_isIn_15 : decode cX0_isIn 15 = .ok (.ireturn, 1) := dk_172 (dk_at dksX0_isIn_0 15 rfl rfl)
abbrev cX0_record : ByteArray := prog_1_method_6_code
def yX0_record : MethodName := ⟨RX0, "record", "()V"⟩
def dkwX0_record_1 : List UInt8 := [42, 180, 0, 74, 187, 0, 62, 89, 42, 42, 180, 0, 67, 183, 0, 95, 185, 0, 98, 2, 0, 87, 177]
abbrev dktX0_record_1 : List UInt8 := dkwX0_record_1 ++ []
def dkwX0_record_0 : List UInt8 := [42, 180, 0, 74, 185, 0, 85, 1, 0, 7, 160, 0, 14, 42, 180, 0, 74, 3, 185, 0, 91, 2, 0, 87]
abbrev dktX0_record_0 : List UInt8 := dkwX0_record_0 ++ dktX0_record_1
theorem dksX0_record_0 : cX0_record.data.toList.drop 0 = dktX0_record_0 := by decide +kernel
theorem dksX0_record_1 : cX0_record.data.toList.drop 24 = dktX0_record_1 := dk_seg dksX0_record_0 24 rfl rfl
theorem dX0_record_0 : decode cX0_record 0 = .ok (.aload_n 0, 1) := dk_42 (dk_at dksX0_record_0 0 rfl rfl)
theorem dX0_record_1 : decode cX0_record 1 = .ok (.getfield 74, 3) := dk_180 0 74 (dk_at dksX0_record_0 1 rfl rfl)
theorem dX0_record_4 : decode cX0_record 4 = .ok (.invokeinterface 85 1, 5) := by decide +kernel
theorem dX0_record_9 : decode cX0_record 9 = .ok (.iconst 4, 1) := dk_7 (dk_at dksX0_record_0 9 rfl rfl)
theorem dX0_record_10 : decode cX0_record 10 = .ok (.if_icmp .ne 14, 3) := dk_160 0 14 (dk_at dksX0_record_0 10 rfl rfl)
theorem dX0_record_13 : decode cX0_record 13 = .ok (.aload_n 0, 1) := dk_42 (dk_at dksX0_record_0 13 rfl rfl)
theorem dX0_record_14 : decode cX0_record 14 = .ok (.getfield 74, 3) := dk_180 0 74 (dk_at dksX0_record_0 14 rfl rfl)
theorem dX0_record_17 : decode cX0_record 17 = .ok (.iconst 0, 1) := dk_3 (dk_at dksX0_record_0 17 rfl rfl)
theorem dX0_record_18 : decode cX0_record 18 = .ok (.invokeinterface 91 2, 5) := by decide +kernel
theorem dX0_record_23 : decode cX0_record 23 = .ok (.pop, 1) := dk_87 (dk_at dksX0_record_0 23 rfl rfl)
theorem dX0_record_24 : decode cX0_record 24 = .ok (.aload_n 0, 1) := dk_42 (dk_at dksX0_record_1 0 rfl rfl)
theorem dX0_record_25 : decode cX0_record 25 = .ok (.getfield 74, 3) := dk_180 0 74 (dk_at dksX0_record_1 1 rfl rfl)
theorem dX0_record_28 : decode cX0_record 28 = .ok (.new 62, 3) := dk_187 0 62 (dk_at dksX0_record_1 4 rfl rfl)
theorem dX0_record_31 : decode cX0_record 31 = .ok (.dup, 1) := dk_89 (dk_at dksX0_record_1 7 rfl rfl)
theorem dX0_record_32 : decode cX0_record 32 = .ok (.aload_n 0, 1) := dk_42 (dk_at dksX0_record_1 8 rfl rfl)
theorem dX0_record_33 : decode cX0_record 33 = .ok (.aload_n 0, 1) := dk_42 (dk_at dksX0_record_1 9 rfl rfl)
theorem dX0_record_34 : decode cX0_record 34 = .ok (.getfield 67, 3) := dk_180 0 67 (dk_at dksX0_record_1 10 rfl rfl)
theorem dX0_record_37 : decode cX0_record 37 = .ok (.invokespecial 95, 3) := dk_183 0 95 (dk_at dksX0_record_1 13 rfl rfl)
theorem dX0_record_40 : decode cX0_record 40 = .ok (.invokeinterface 98 2, 5) := by decide +kernel
theorem dX0_record_45 : decode cX0_record 45 = .ok (.pop, 1) := dk_87 (dk_at dksX0_record_1 21 rfl rfl)
theorem dX0_record_46 : decode cX0_record 46 = .ok (.return_, 1) := dk_177 (dk_at dksX0_record_1 22 rfl rfl)
abbrev cX0_start : ByteArray := prog_1_method_8_code
def yX0_start : MethodName := ⟨RX0, "start", "(II)I"⟩
def dkwX0_start_2 : List UInt8 := [182, 0, 144, 29, 172]
abbrev dktX0_start_2 : List UInt8 := dkwX0_start_2 ++ []
def dkwX0_start_1 : List UInt8 := [180, 0, 67, 180, 0, 134, 27, 50, 180, 0, 138, 62, 42, 180, 0, 67, 180, 0, 134, 27, 50, 28]
abbrev dktX0_start_1 : List UInt8 := dkwX0_start_1 ++ dktX0_start_2
def dkwX0_start_0 : List UInt8 := [27, 184, 0, 131, 153, 0, 10, 28, 184, 0, 102, 154, 0, 6, 18, 106, 172, 42, 182, 0, 121, 42]
abbrev dktX0_start_0 : List UInt8 := dkwX0_start_0 ++ dktX0_start_1
theorem dksX0_start_0 : cX0_start.data.toList.drop 0 = dktX0_start_0 := by decide +kernel
theorem dksX0_start_1 : cX0_start.data.toList.drop 22 = dktX0_start_1 := dk_seg dksX0_start_0 22 rfl rfl
theorem dksX0_start_2 : cX0_start.data.toList.drop 44 = dktX0_start_2 := dk_seg dksX0_start_1 22 rfl rfl
theorem dX0_start_0 : decode cX0_start 0 = .ok (.iload_n 1, 1) := dk_27 (dk_at dksX0_start_0 0 rfl rfl)
theorem dX0_start_1 : decode cX0_start 1 = .ok (.invokestatic 131, 3) := dk_184 0 131 (dk_at dksX0_start_0 1 rfl rfl)
theorem dX0_start_4 : decode cX0_start 4 = .ok (.ifCond .eq 10, 3) := dk_153 0 10 (dk_at dksX0_start_0 4 rfl rfl)
theorem dX0_start_7 : decode cX0_start 7 = .ok (.iload_n 2, 1) := dk_28 (dk_at dksX0_start_0 7 rfl rfl)
theorem dX0_start_8 : decode cX0_start 8 = .ok (.invokestatic 102, 3) := dk_184 0 102 (dk_at dksX0_start_0 8 rfl rfl)
theorem dX0_start_11 : decode cX0_start 11 = .ok (.ifCond .ne 6, 3) := dk_154 0 6 (dk_at dksX0_start_0 11 rfl rfl)
theorem dX0_start_14 : decode cX0_start 14 = .ok (.ldc 106, 2) := dk_18 106 (dk_at dksX0_start_0 14 rfl rfl)
theorem dX0_start_16 : decode cX0_start 16 = .ok (.ireturn, 1) := dk_172 (dk_at dksX0_start_0 16 rfl rfl)
theorem dX0_start_17 : decode cX0_start 17 = .ok (.aload_n 0, 1) := dk_42 (dk_at dksX0_start_0 17 rfl rfl)
theorem dX0_start_18 : decode cX0_start 18 = .ok (.invokevirtual 121, 3) := dk_182 0 121 (dk_at dksX0_start_0 18 rfl rfl)
theorem dX0_start_21 : decode cX0_start 21 = .ok (.aload_n 0, 1) := dk_42 (dk_at dksX0_start_0 21 rfl rfl)
theorem dX0_start_22 : decode cX0_start 22 = .ok (.getfield 67, 3) := dk_180 0 67 (dk_at dksX0_start_1 0 rfl rfl)
theorem dX0_start_25 : decode cX0_start 25 = .ok (.getfield 134, 3) := dk_180 0 134 (dk_at dksX0_start_1 3 rfl rfl)
theorem dX0_start_28 : decode cX0_start 28 = .ok (.iload_n 1, 1) := dk_27 (dk_at dksX0_start_1 6 rfl rfl)
theorem dX0_start_29 : decode cX0_start 29 = .ok (.aaload, 1) := dk_50 (dk_at dksX0_start_1 7 rfl rfl)
theorem dX0_start_30 : decode cX0_start 30 = .ok (.getfield 138, 3) := dk_180 0 138 (dk_at dksX0_start_1 8 rfl rfl)
theorem dX0_start_33 : decode cX0_start 33 = .ok (.istore_n 3, 1) := dk_62 (dk_at dksX0_start_1 11 rfl rfl)
theorem dX0_start_34 : decode cX0_start 34 = .ok (.aload_n 0, 1) := dk_42 (dk_at dksX0_start_1 12 rfl rfl)
theorem dX0_start_35 : decode cX0_start 35 = .ok (.getfield 67, 3) := dk_180 0 67 (dk_at dksX0_start_1 13 rfl rfl)
theorem dX0_start_38 : decode cX0_start 38 = .ok (.getfield 134, 3) := dk_180 0 134 (dk_at dksX0_start_1 16 rfl rfl)
theorem dX0_start_41 : decode cX0_start 41 = .ok (.iload_n 1, 1) := dk_27 (dk_at dksX0_start_1 19 rfl rfl)
theorem dX0_start_42 : decode cX0_start 42 = .ok (.aaload, 1) := dk_50 (dk_at dksX0_start_1 20 rfl rfl)
theorem dX0_start_43 : decode cX0_start 43 = .ok (.iload_n 2, 1) := dk_28 (dk_at dksX0_start_1 21 rfl rfl)
theorem dX0_start_44 : decode cX0_start 44 = .ok (.invokevirtual 144, 3) := dk_182 0 144 (dk_at dksX0_start_2 0 rfl rfl)
theorem dX0_start_47 : decode cX0_start 47 = .ok (.iload_n 3, 1) := dk_29 (dk_at dksX0_start_2 3 rfl rfl)
theorem dX0_start_48 : decode cX0_start 48 = .ok (.ireturn, 1) := dk_172 (dk_at dksX0_start_2 4 rfl rfl)
abbrev cX0_isThread : ByteArray := prog_1_method_2_code
def yX0_isThread : MethodName := ⟨RX0, "isThread", "(I)Z"⟩
def dkwX0_isThread_0 : List UInt8 := [26, 3, 6, 184, 0, 3, 172]
abbrev dktX0_isThread_0 : List UInt8 := dkwX0_isThread_0 ++ []
theorem dksX0_isThread_0 : cX0_isThread.data.toList.drop 0 = dktX0_isThread_0 := by decide +kernel
theorem dX0_isThread_0 : decode cX0_isThread 0 = .ok (.iload_n 0, 1) := dk_26 (dk_at dksX0_isThread_0 0 rfl rfl)
theorem dX0_isThread_1 : decode cX0_isThread 1 = .ok (.iconst 0, 1) := dk_3 (dk_at dksX0_isThread_0 1 rfl rfl)
theorem dX0_isThread_2 : decode cX0_isThread 2 = .ok (.iconst 3, 1) := dk_6 (dk_at dksX0_isThread_0 2 rfl rfl)
theorem dX0_isThread_3 : decode cX0_isThread 3 = .ok (.invokestatic 3, 3) := dk_184 0 3 (dk_at dksX0_isThread_0 3 rfl rfl)
theorem dX0_isThread_6 : decode cX0_isThread 6 = .ok (.ireturn, 1) := dk_172 (dk_at dksX0_isThread_0 6 rfl rfl)
abbrev cX0_halt : ByteArray := prog_1_method_9_code
def yX0_halt : MethodName := ⟨RX0, "halt", "(I)I"⟩
def dkwX0_halt_1 : List UInt8 := [180, 0, 138, 61, 42, 180, 0, 67, 180, 0, 134, 27, 50, 182, 0, 148, 28, 172]
abbrev dktX0_halt_1 : List UInt8 := dkwX0_halt_1 ++ []
def dkwX0_halt_0 : List UInt8 := [27, 184, 0, 131, 154, 0, 6, 18, 106, 172, 42, 182, 0, 121, 42, 180, 0, 67, 180, 0, 134, 27, 50]
abbrev dktX0_halt_0 : List UInt8 := dkwX0_halt_0 ++ dktX0_halt_1
theorem dksX0_halt_0 : cX0_halt.data.toList.drop 0 = dktX0_halt_0 := by decide +kernel
theorem dksX0_halt_1 : cX0_halt.data.toList.drop 23 = dktX0_halt_1 := dk_seg dksX0_halt_0 23 rfl rfl
theorem dX0_halt_0 : decode cX0_halt 0 = .ok (.iload_n 1, 1) := dk_27 (dk_at dksX0_halt_0 0 rfl rfl)
theorem dX0_halt_1 : decode cX0_halt 1 = .ok (.invokestatic 131, 3) := dk_184 0 131 (dk_at dksX0_halt_0 1 rfl rfl)
theorem dX0_halt_4 : decode cX0_halt 4 = .ok (.ifCond .ne 6, 3) := dk_154 0 6 (dk_at dksX0_halt_0 4 rfl rfl)
theorem dX0_halt_7 : decode cX0_halt 7 = .ok (.ldc 106, 2) := dk_18 106 (dk_at dksX0_halt_0 7 rfl rfl)
theorem dX0_halt_9 : decode cX0_halt 9 = .ok (.ireturn, 1) := dk_172 (dk_at dksX0_halt_0 9 rfl rfl)
theorem dX0_halt_10 : decode cX0_halt 10 = .ok (.aload_n 0, 1) := dk_42 (dk_at dksX0_halt_0 10 rfl rfl)
theorem dX0_halt_11 : decode cX0_halt 11 = .ok (.invokevirtual 121, 3) := dk_182 0 121 (dk_at dksX0_halt_0 11 rfl rfl)
theorem dX0_halt_14 : decode cX0_halt 14 = .ok (.aload_n 0, 1) := dk_42 (dk_at dksX0_halt_0 14 rfl rfl)
theorem dX0_halt_15 : decode cX0_halt 15 = .ok (.getfield 67, 3) := dk_180 0 67 (dk_at dksX0_halt_0 15 rfl rfl)
theorem dX0_halt_18 : decode cX0_halt 18 = .ok (.getfield 134, 3) := dk_180 0 134 (dk_at dksX0_halt_0 18 rfl rfl)
theorem dX0_halt_21 : decode cX0_halt 21 = .ok (.iload_n 1, 1) := dk_27 (dk_at dksX0_halt_0 21 rfl rfl)
theorem dX0_halt_22 : decode cX0_halt 22 = .ok (.aaload, 1) := dk_50 (dk_at dksX0_halt_0 22 rfl rfl)
theorem dX0_halt_23 : decode cX0_halt 23 = .ok (.getfield 138, 3) := dk_180 0 138 (dk_at dksX0_halt_1 0 rfl rfl)
theorem dX0_halt_26 : decode cX0_halt 26 = .ok (.istore_n 2, 1) := dk_61 (dk_at dksX0_halt_1 3 rfl rfl)
theorem dX0_halt_27 : decode cX0_halt 27 = .ok (.aload_n 0, 1) := dk_42 (dk_at dksX0_halt_1 4 rfl rfl)
theorem dX0_halt_28 : decode cX0_halt 28 = .ok (.getfield 67, 3) := dk_180 0 67 (dk_at dksX0_halt_1 5 rfl rfl)
theorem dX0_halt_31 : decode cX0_halt 31 = .ok (.getfield 134, 3) := dk_180 0 134 (dk_at dksX0_halt_1 8 rfl rfl)
theorem dX0_halt_34 : decode cX0_halt 34 = .ok (.iload_n 1, 1) := dk_27 (dk_at dksX0_halt_1 11 rfl rfl)
theorem dX0_halt_35 : decode cX0_halt 35 = .ok (.aaload, 1) := dk_50 (dk_at dksX0_halt_1 12 rfl rfl)
theorem dX0_halt_36 : decode cX0_halt 36 = .ok (.invokevirtual 148, 3) := dk_182 0 148 (dk_at dksX0_halt_1 13 rfl rfl)
theorem dX0_halt_39 : decode cX0_halt 39 = .ok (.iload_n 2, 1) := dk_28 (dk_at dksX0_halt_1 16 rfl rfl)
theorem dX0_halt_40 : decode cX0_halt 40 = .ok (.ireturn, 1) := dk_172 (dk_at dksX0_halt_1 17 rfl rfl)
abbrev cX0_setRegister : ByteArray := prog_1_method_11_code
def yX0_setRegister : MethodName := ⟨RX0, "setRegister", "(III)I"⟩
def dkwX0_setRegister_2 : List UInt8 := [180, 0, 134, 27, 50, 180, 0, 159, 28, 29, 79, 21, 4, 172]
abbrev dktX0_setRegister_2 : List UInt8 := dkwX0_setRegister_2 ++ []
def dkwX0_setRegister_1 : List UInt8 := [182, 0, 121, 42, 180, 0, 67, 180, 0, 134, 27, 50, 180, 0, 159, 28, 46, 54, 4, 42, 180, 0, 67]
abbrev dktX0_setRegister_1 : List UInt8 := dkwX0_setRegister_1 ++ dktX0_setRegister_2
def dkwX0_setRegister_0 : List UInt8 := [27, 28, 184, 0, 151, 154, 0, 6, 18, 106, 172, 29, 184, 0, 155, 154, 0, 6, 18, 158, 172, 42]
abbrev dktX0_setRegister_0 : List UInt8 := dkwX0_setRegister_0 ++ dktX0_setRegister_1
theorem dksX0_setRegister_0 : cX0_setRegister.data.toList.drop 0 = dktX0_setRegister_0 := by decide +kernel
theorem dksX0_setRegister_1 : cX0_setRegister.data.toList.drop 22 = dktX0_setRegister_1 := dk_seg dksX0_setRegister_0 22 rfl rfl
theorem dksX0_setRegister_2 : cX0_setRegister.data.toList.drop 45 = dktX0_setRegister_2 := dk_seg dksX0_setRegister_1 23 rfl rfl
theorem dX0_setRegister_0 : decode cX0_setRegister 0 = .ok (.iload_n 1, 1) := dk_27 (dk_at dksX0_setRegister_0 0 rfl rfl)
theorem dX0_setRegister_1 : decode cX0_setRegister 1 = .ok (.iload_n 2, 1) := dk_28 (dk_at dksX0_setRegister_0 1 rfl rfl)
theorem dX0_setRegister_2 : decode cX0_setRegister 2 = .ok (.invokestatic 151, 3) := dk_184 0 151 (dk_at dksX0_setRegister_0 2 rfl rfl)
theorem dX0_setRegister_5 : decode cX0_setRegister 5 = .ok (.ifCond .ne 6, 3) := dk_154 0 6 (dk_at dksX0_setRegister_0 5 rfl rfl)
theorem dX0_setRegister_8 : decode cX0_setRegister 8 = .ok (.ldc 106, 2) := dk_18 106 (dk_at dksX0_setRegister_0 8 rfl rfl)
theorem dX0_setRegister_10 : decode cX0_setRegister 10 = .ok (.ireturn, 1) := dk_172 (dk_at dksX0_setRegister_0 10 rfl rfl)
theorem dX0_setRegister_11 : decode cX0_setRegister 11 = .ok (.iload_n 3, 1) := dk_29 (dk_at dksX0_setRegister_0 11 rfl rfl)
theorem dX0_setRegister_12 : decode cX0_setRegister 12 = .ok (.invokestatic 155, 3) := dk_184 0 155 (dk_at dksX0_setRegister_0 12 rfl rfl)
theorem dX0_setRegister_15 : decode cX0_setRegister 15 = .ok (.ifCond .ne 6, 3) := dk_154 0 6 (dk_at dksX0_setRegister_0 15 rfl rfl)
theorem dX0_setRegister_18 : decode cX0_setRegister 18 = .ok (.ldc 158, 2) := dk_18 158 (dk_at dksX0_setRegister_0 18 rfl rfl)
theorem dX0_setRegister_20 : decode cX0_setRegister 20 = .ok (.ireturn, 1) := dk_172 (dk_at dksX0_setRegister_0 20 rfl rfl)
theorem dX0_setRegister_21 : decode cX0_setRegister 21 = .ok (.aload_n 0, 1) := dk_42 (dk_at dksX0_setRegister_0 21 rfl rfl)
theorem dX0_setRegister_22 : decode cX0_setRegister 22 = .ok (.invokevirtual 121, 3) := dk_182 0 121 (dk_at dksX0_setRegister_1 0 rfl rfl)
theorem dX0_setRegister_25 : decode cX0_setRegister 25 = .ok (.aload_n 0, 1) := dk_42 (dk_at dksX0_setRegister_1 3 rfl rfl)
theorem dX0_setRegister_26 : decode cX0_setRegister 26 = .ok (.getfield 67, 3) := dk_180 0 67 (dk_at dksX0_setRegister_1 4 rfl rfl)
theorem dX0_setRegister_29 : decode cX0_setRegister 29 = .ok (.getfield 134, 3) := dk_180 0 134 (dk_at dksX0_setRegister_1 7 rfl rfl)
theorem dX0_setRegister_32 : decode cX0_setRegister 32 = .ok (.iload_n 1, 1) := dk_27 (dk_at dksX0_setRegister_1 10 rfl rfl)
theorem dX0_setRegister_33 : decode cX0_setRegister 33 = .ok (.aaload, 1) := dk_50 (dk_at dksX0_setRegister_1 11 rfl rfl)
theorem dX0_setRegister_34 : decode cX0_setRegister 34 = .ok (.getfield 159, 3) := dk_180 0 159 (dk_at dksX0_setRegister_1 12 rfl rfl)
theorem dX0_setRegister_37 : decode cX0_setRegister 37 = .ok (.iload_n 2, 1) := dk_28 (dk_at dksX0_setRegister_1 15 rfl rfl)
theorem dX0_setRegister_38 : decode cX0_setRegister 38 = .ok (.iaload, 1) := dk_46 (dk_at dksX0_setRegister_1 16 rfl rfl)
theorem dX0_setRegister_39 : decode cX0_setRegister 39 = .ok (.istore 4, 2) := dk_54 4 (dk_at dksX0_setRegister_1 17 rfl rfl)
theorem dX0_setRegister_41 : decode cX0_setRegister 41 = .ok (.aload_n 0, 1) := dk_42 (dk_at dksX0_setRegister_1 19 rfl rfl)
theorem dX0_setRegister_42 : decode cX0_setRegister 42 = .ok (.getfield 67, 3) := dk_180 0 67 (dk_at dksX0_setRegister_1 20 rfl rfl)
theorem dX0_setRegister_45 : decode cX0_setRegister 45 = .ok (.getfield 134, 3) := dk_180 0 134 (dk_at dksX0_setRegister_2 0 rfl rfl)
theorem dX0_setRegister_48 : decode cX0_setRegister 48 = .ok (.iload_n 1, 1) := dk_27 (dk_at dksX0_setRegister_2 3 rfl rfl)
theorem dX0_setRegister_49 : decode cX0_setRegister 49 = .ok (.aaload, 1) := dk_50 (dk_at dksX0_setRegister_2 4 rfl rfl)
theorem dX0_setRegister_50 : decode cX0_setRegister 50 = .ok (.getfield 159, 3) := dk_180 0 159 (dk_at dksX0_setRegister_2 5 rfl rfl)
theorem dX0_setRegister_53 : decode cX0_setRegister 53 = .ok (.iload_n 2, 1) := dk_28 (dk_at dksX0_setRegister_2 8 rfl rfl)
theorem dX0_setRegister_54 : decode cX0_setRegister 54 = .ok (.iload_n 3, 1) := dk_29 (dk_at dksX0_setRegister_2 9 rfl rfl)
theorem dX0_setRegister_55 : decode cX0_setRegister 55 = .ok (.iastore, 1) := dk_79 (dk_at dksX0_setRegister_2 10 rfl rfl)
theorem dX0_setRegister_56 : decode cX0_setRegister 56 = .ok (.iload 4, 2) := dk_21 4 (dk_at dksX0_setRegister_2 11 rfl rfl)
theorem dX0_setRegister_58 : decode cX0_setRegister 58 = .ok (.ireturn, 1) := dk_172 (dk_at dksX0_setRegister_2 13 rfl rfl)
abbrev cX0_isRegister : ByteArray := prog_1_method_10_code
def yX0_isRegister : MethodName := ⟨RX0, "isRegister", "(II)Z"⟩
def dkwX0_isRegister_0 : List UInt8 := [26, 184, 0, 131, 153, 0, 16, 27, 3, 6, 184, 0, 3, 153, 0, 7, 4, 167, 0, 4, 3, 172]
abbrev dktX0_isRegister_0 : List UInt8 := dkwX0_isRegister_0 ++ []
theorem dksX0_isRegister_0 : cX0_isRegister.data.toList.drop 0 = dktX0_isRegister_0 := by decide +kernel
theorem dX0_isRegister_0 : decode cX0_isRegister 0 = .ok (.iload_n 0, 1) := dk_26 (dk_at dksX0_isRegister_0 0 rfl rfl)
theorem dX0_isRegister_1 : decode cX0_isRegister 1 = .ok (.invokestatic 131, 3) := dk_184 0 131 (dk_at dksX0_isRegister_0 1 rfl rfl)
theorem dX0_isRegister_4 : decode cX0_isRegister 4 = .ok (.ifCond .eq 16, 3) := dk_153 0 16 (dk_at dksX0_isRegister_0 4 rfl rfl)
theorem dX0_isRegister_7 : decode cX0_isRegister 7 = .ok (.iload_n 1, 1) := dk_27 (dk_at dksX0_isRegister_0 7 rfl rfl)
theorem dX0_isRegister_8 : decode cX0_isRegister 8 = .ok (.iconst 0, 1) := dk_3 (dk_at dksX0_isRegister_0 8 rfl rfl)
theorem dX0_isRegister_9 : decode cX0_isRegister 9 = .ok (.iconst 3, 1) := dk_6 (dk_at dksX0_isRegister_0 9 rfl rfl)
theorem dX0_isRegister_10 : decode cX0_isRegister 10 = .ok (.invokestatic 3, 3) := dk_184 0 3 (dk_at dksX0_isRegister_0 10 rfl rfl)
theorem dX0_isRegister_13 : decode cX0_isRegister 13 = .ok (.ifCond .eq 7, 3) := dk_153 0 7 (dk_at dksX0_isRegister_0 13 rfl rfl)
theorem dX0_isRegister_16 : decode cX0_isRegister 16 = .ok (.iconst 1, 1) := dk_4 (dk_at dksX0_isRegister_0 16 rfl rfl)
theorem dX0_isRegister_17 : decode cX0_isRegister 17 = .ok (.goto 4, 3) := dk_167 0 4 (dk_at dksX0_isRegister_0 17 rfl rfl)
theorem dX0_isRegister_20 : decode cX0_isRegister 20 = .ok (.iconst 0, 1) := dk_3 (dk_at dksX0_isRegister_0 20 rfl rfl)
theorem dX0_isRegister_21 : decode cX0_isRegister 21 = .ok (.ireturn, 1) := dk_172 (dk_at dksX0_isRegister_0 21 rfl rfl)
abbrev cX0_isValue : ByteArray := prog_1_method_4_code
def yX0_isValue : MethodName := ⟨RX0, "isValue", "(I)Z"⟩
def dkwX0_isValue_0 : List UInt8 := [26, 17, 128, 0, 17, 127, 255, 184, 0, 3, 172]
abbrev dktX0_isValue_0 : List UInt8 := dkwX0_isValue_0 ++ []
theorem dksX0_isValue_0 : cX0_isValue.data.toList.drop 0 = dktX0_isValue_0 := by decide +kernel
theorem dX0_isValue_0 : decode cX0_isValue 0 = .ok (.iload_n 0, 1) := dk_26 (dk_at dksX0_isValue_0 0 rfl rfl)
theorem dX0_isValue_1 : decode cX0_isValue 1 = .ok (.sipush (-32768), 3) := dk_17 128 0 (dk_at dksX0_isValue_0 1 rfl rfl)
theorem dX0_isValue_4 : decode cX0_isValue 4 = .ok (.sipush 32767, 3) := dk_17 127 255 (dk_at dksX0_isValue_0 4 rfl rfl)
theorem dX0_isValue_7 : decode cX0_isValue 7 = .ok (.invokestatic 3, 3) := dk_184 0 3 (dk_at dksX0_isValue_0 7 rfl rfl)
theorem dX0_isValue_10 : decode cX0_isValue 10 = .ok (.ireturn, 1) := dk_172 (dk_at dksX0_isValue_0 10 rfl rfl)
abbrev cX0_setWord : ByteArray := prog_1_method_13_code
def yX0_setWord : MethodName := ⟨RX0, "setWord", "(II)I"⟩
def dkwX0_setWord_1 : List UInt8 := [42, 180, 0, 67, 180, 0, 166, 27, 46, 62, 42, 180, 0, 67, 180, 0, 166, 27, 28, 79, 29, 172]
abbrev dktX0_setWord_1 : List UInt8 := dkwX0_setWord_1 ++ []
def dkwX0_setWord_0 : List UInt8 := [27, 184, 0, 163, 154, 0, 6, 18, 106, 172, 28, 184, 0, 155, 154, 0, 6, 18, 158, 172, 42, 182, 0, 121]
abbrev dktX0_setWord_0 : List UInt8 := dkwX0_setWord_0 ++ dktX0_setWord_1
theorem dksX0_setWord_0 : cX0_setWord.data.toList.drop 0 = dktX0_setWord_0 := by decide +kernel
theorem dksX0_setWord_1 : cX0_setWord.data.toList.drop 24 = dktX0_setWord_1 := dk_seg dksX0_setWord_0 24 rfl rfl
theorem dX0_setWord_0 : decode cX0_setWord 0 = .ok (.iload_n 1, 1) := dk_27 (dk_at dksX0_setWord_0 0 rfl rfl)
theorem dX0_setWord_1 : decode cX0_setWord 1 = .ok (.invokestatic 163, 3) := dk_184 0 163 (dk_at dksX0_setWord_0 1 rfl rfl)
theorem dX0_setWord_4 : decode cX0_setWord 4 = .ok (.ifCond .ne 6, 3) := dk_154 0 6 (dk_at dksX0_setWord_0 4 rfl rfl)
theorem dX0_setWord_7 : decode cX0_setWord 7 = .ok (.ldc 106, 2) := dk_18 106 (dk_at dksX0_setWord_0 7 rfl rfl)
theorem dX0_setWord_9 : decode cX0_setWord 9 = .ok (.ireturn, 1) := dk_172 (dk_at dksX0_setWord_0 9 rfl rfl)
theorem dX0_setWord_10 : decode cX0_setWord 10 = .ok (.iload_n 2, 1) := dk_28 (dk_at dksX0_setWord_0 10 rfl rfl)
theorem dX0_setWord_11 : decode cX0_setWord 11 = .ok (.invokestatic 155, 3) := dk_184 0 155 (dk_at dksX0_setWord_0 11 rfl rfl)
theorem dX0_setWord_14 : decode cX0_setWord 14 = .ok (.ifCond .ne 6, 3) := dk_154 0 6 (dk_at dksX0_setWord_0 14 rfl rfl)
theorem dX0_setWord_17 : decode cX0_setWord 17 = .ok (.ldc 158, 2) := dk_18 158 (dk_at dksX0_setWord_0 17 rfl rfl)
theorem dX0_setWord_19 : decode cX0_setWord 19 = .ok (.ireturn, 1) := dk_172 (dk_at dksX0_setWord_0 19 rfl rfl)
theorem dX0_setWord_20 : decode cX0_setWord 20 = .ok (.aload_n 0, 1) := dk_42 (dk_at dksX0_setWord_0 20 rfl rfl)
theorem dX0_setWord_21 : decode cX0_setWord 21 = .ok (.invokevirtual 121, 3) := dk_182 0 121 (dk_at dksX0_setWord_0 21 rfl rfl)
theorem dX0_setWord_24 : decode cX0_setWord 24 = .ok (.aload_n 0, 1) := dk_42 (dk_at dksX0_setWord_1 0 rfl rfl)
theorem dX0_setWord_25 : decode cX0_setWord 25 = .ok (.getfield 67, 3) := dk_180 0 67 (dk_at dksX0_setWord_1 1 rfl rfl)
theorem dX0_setWord_28 : decode cX0_setWord 28 = .ok (.getfield 166, 3) := dk_180 0 166 (dk_at dksX0_setWord_1 4 rfl rfl)
theorem dX0_setWord_31 : decode cX0_setWord 31 = .ok (.iload_n 1, 1) := dk_27 (dk_at dksX0_setWord_1 7 rfl rfl)
theorem dX0_setWord_32 : decode cX0_setWord 32 = .ok (.iaload, 1) := dk_46 (dk_at dksX0_setWord_1 8 rfl rfl)
theorem dX0_setWord_33 : decode cX0_setWord 33 = .ok (.istore_n 3, 1) := dk_62 (dk_at dksX0_setWord_1 9 rfl rfl)
theorem dX0_setWord_34 : decode cX0_setWord 34 = .ok (.aload_n 0, 1) := dk_42 (dk_at dksX0_setWord_1 10 rfl rfl)
theorem dX0_setWord_35 : decode cX0_setWord 35 = .ok (.getfield 67, 3) := dk_180 0 67 (dk_at dksX0_setWord_1 11 rfl rfl)
theorem dX0_setWord_38 : decode cX0_setWord 38 = .ok (.getfield 166, 3) := dk_180 0 166 (dk_at dksX0_setWord_1 14 rfl rfl)
theorem dX0_setWord_41 : decode cX0_setWord 41 = .ok (.iload_n 1, 1) := dk_27 (dk_at dksX0_setWord_1 17 rfl rfl)
theorem dX0_setWord_42 : decode cX0_setWord 42 = .ok (.iload_n 2, 1) := dk_28 (dk_at dksX0_setWord_1 18 rfl rfl)
theorem dX0_setWord_43 : decode cX0_setWord 43 = .ok (.iastore, 1) := dk_79 (dk_at dksX0_setWord_1 19 rfl rfl)
theorem dX0_setWord_44 : decode cX0_setWord 44 = .ok (.iload_n 3, 1) := dk_29 (dk_at dksX0_setWord_1 20 rfl rfl)
theorem dX0_setWord_45 : decode cX0_setWord 45 = .ok (.ireturn, 1) := dk_172 (dk_at dksX0_setWord_1 21 rfl rfl)
abbrev cX0_isWord : ByteArray := prog_1_method_12_code
def yX0_isWord : MethodName := ⟨RX0, "isWord", "(I)Z"⟩
def dkwX0_isWord_0 : List UInt8 := [26, 3, 16, 31, 184, 0, 3, 172]
abbrev dktX0_isWord_0 : List UInt8 := dkwX0_isWord_0 ++ []
theorem dksX0_isWord_0 : cX0_isWord.data.toList.drop 0 = dktX0_isWord_0 := by decide +kernel
theorem dX0_isWord_0 : decode cX0_isWord 0 = .ok (.iload_n 0, 1) := dk_26 (dk_at dksX0_isWord_0 0 rfl rfl)
theorem dX0_isWord_1 : decode cX0_isWord 1 = .ok (.iconst 0, 1) := dk_3 (dk_at dksX0_isWord_0 1 rfl rfl)
theorem dX0_isWord_2 : decode cX0_isWord 2 = .ok (.bipush 31, 2) := dk_16 31 (dk_at dksX0_isWord_0 2 rfl rfl)
theorem dX0_isWord_4 : decode cX0_isWord 4 = .ok (.invokestatic 3, 3) := dk_184 0 3 (dk_at dksX0_isWord_0 4 rfl rfl)
theorem dX0_isWord_7 : decode cX0_isWord 7 = .ok (.ireturn, 1) := dk_172 (dk_at dksX0_isWord_0 7 rfl rfl)
abbrev cX0_setSlot : ByteArray := prog_1_method_14_code
def yX0_setSlot : MethodName := ⟨RX0, "setSlot", "(II)I"⟩
def dkwX0_setSlot_1 : List UInt8 := [42, 180, 0, 67, 180, 0, 169, 27, 46, 62, 42, 180, 0, 67, 180, 0, 169, 27, 28, 79, 29, 172]
abbrev dktX0_setSlot_1 : List UInt8 := dkwX0_setSlot_1 ++ []
def dkwX0_setSlot_0 : List UInt8 := [27, 3, 16, 7, 184, 0, 3, 153, 0, 10, 28, 184, 0, 131, 154, 0, 6, 18, 106, 172, 42, 182, 0, 121]
abbrev dktX0_setSlot_0 : List UInt8 := dkwX0_setSlot_0 ++ dktX0_setSlot_1
theorem dksX0_setSlot_0 : cX0_setSlot.data.toList.drop 0 = dktX0_setSlot_0 := by decide +kernel
theorem dksX0_setSlot_1 : cX0_setSlot.data.toList.drop 24 = dktX0_setSlot_1 := dk_seg dksX0_setSlot_0 24 rfl rfl
theorem dX0_setSlot_0 : decode cX0_setSlot 0 = .ok (.iload_n 1, 1) := dk_27 (dk_at dksX0_setSlot_0 0 rfl rfl)
theorem dX0_setSlot_1 : decode cX0_setSlot 1 = .ok (.iconst 0, 1) := dk_3 (dk_at dksX0_setSlot_0 1 rfl rfl)
theorem dX0_setSlot_2 : decode cX0_setSlot 2 = .ok (.bipush 7, 2) := dk_16 7 (dk_at dksX0_setSlot_0 2 rfl rfl)
theorem dX0_setSlot_4 : decode cX0_setSlot 4 = .ok (.invokestatic 3, 3) := dk_184 0 3 (dk_at dksX0_setSlot_0 4 rfl rfl)
theorem dX0_setSlot_7 : decode cX0_setSlot 7 = .ok (.ifCond .eq 10, 3) := dk_153 0 10 (dk_at dksX0_setSlot_0 7 rfl rfl)
theorem dX0_setSlot_10 : decode cX0_setSlot 10 = .ok (.iload_n 2, 1) := dk_28 (dk_at dksX0_setSlot_0 10 rfl rfl)
theorem dX0_setSlot_11 : decode cX0_setSlot 11 = .ok (.invokestatic 131, 3) := dk_184 0 131 (dk_at dksX0_setSlot_0 11 rfl rfl)
theorem dX0_setSlot_14 : decode cX0_setSlot 14 = .ok (.ifCond .ne 6, 3) := dk_154 0 6 (dk_at dksX0_setSlot_0 14 rfl rfl)
theorem dX0_setSlot_17 : decode cX0_setSlot 17 = .ok (.ldc 106, 2) := dk_18 106 (dk_at dksX0_setSlot_0 17 rfl rfl)
theorem dX0_setSlot_19 : decode cX0_setSlot 19 = .ok (.ireturn, 1) := dk_172 (dk_at dksX0_setSlot_0 19 rfl rfl)
theorem dX0_setSlot_20 : decode cX0_setSlot 20 = .ok (.aload_n 0, 1) := dk_42 (dk_at dksX0_setSlot_0 20 rfl rfl)
theorem dX0_setSlot_21 : decode cX0_setSlot 21 = .ok (.invokevirtual 121, 3) := dk_182 0 121 (dk_at dksX0_setSlot_0 21 rfl rfl)
theorem dX0_setSlot_24 : decode cX0_setSlot 24 = .ok (.aload_n 0, 1) := dk_42 (dk_at dksX0_setSlot_1 0 rfl rfl)
theorem dX0_setSlot_25 : decode cX0_setSlot 25 = .ok (.getfield 67, 3) := dk_180 0 67 (dk_at dksX0_setSlot_1 1 rfl rfl)
theorem dX0_setSlot_28 : decode cX0_setSlot 28 = .ok (.getfield 169, 3) := dk_180 0 169 (dk_at dksX0_setSlot_1 4 rfl rfl)
theorem dX0_setSlot_31 : decode cX0_setSlot 31 = .ok (.iload_n 1, 1) := dk_27 (dk_at dksX0_setSlot_1 7 rfl rfl)
theorem dX0_setSlot_32 : decode cX0_setSlot 32 = .ok (.iaload, 1) := dk_46 (dk_at dksX0_setSlot_1 8 rfl rfl)
theorem dX0_setSlot_33 : decode cX0_setSlot 33 = .ok (.istore_n 3, 1) := dk_62 (dk_at dksX0_setSlot_1 9 rfl rfl)
theorem dX0_setSlot_34 : decode cX0_setSlot 34 = .ok (.aload_n 0, 1) := dk_42 (dk_at dksX0_setSlot_1 10 rfl rfl)
theorem dX0_setSlot_35 : decode cX0_setSlot 35 = .ok (.getfield 67, 3) := dk_180 0 67 (dk_at dksX0_setSlot_1 11 rfl rfl)
theorem dX0_setSlot_38 : decode cX0_setSlot 38 = .ok (.getfield 169, 3) := dk_180 0 169 (dk_at dksX0_setSlot_1 14 rfl rfl)
theorem dX0_setSlot_41 : decode cX0_setSlot 41 = .ok (.iload_n 1, 1) := dk_27 (dk_at dksX0_setSlot_1 17 rfl rfl)
theorem dX0_setSlot_42 : decode cX0_setSlot 42 = .ok (.iload_n 2, 1) := dk_28 (dk_at dksX0_setSlot_1 18 rfl rfl)
theorem dX0_setSlot_43 : decode cX0_setSlot 43 = .ok (.iastore, 1) := dk_79 (dk_at dksX0_setSlot_1 19 rfl rfl)
theorem dX0_setSlot_44 : decode cX0_setSlot 44 = .ok (.iload_n 3, 1) := dk_29 (dk_at dksX0_setSlot_1 20 rfl rfl)
theorem dX0_setSlot_45 : decode cX0_setSlot 45 = .ok (.ireturn, 1) := dk_172 (dk_at dksX0_setSlot_1 21 rfl rfl)
abbrev cX0_set : ByteArray := prog_1_method_16_code
def yX0_set : MethodName := ⟨RX0, "set", "(II)I"⟩
def dkwX0_set_2 : List UInt8 := [180, 0, 67, 180, 0, 175, 27, 28, 79, 29, 172]
abbrev dktX0_set_2 : List UInt8 := dkwX0_set_2 ++ []
def dkwX0_set_1 : List UInt8 := [184, 0, 3, 154, 0, 6, 18, 158, 172, 42, 182, 0, 121, 42, 180, 0, 67, 180, 0, 175, 27, 46, 62, 42]
abbrev dktX0_set_1 : List UInt8 := dkwX0_set_1 ++ dktX0_set_2
def dkwX0_set_0 : List UInt8 := [27, 184, 0, 172, 154, 0, 6, 18, 106, 172, 28, 3, 27, 154, 0, 8, 16, 20, 167, 0, 4, 5]
abbrev dktX0_set_0 : List UInt8 := dkwX0_set_0 ++ dktX0_set_1
theorem dksX0_set_0 : cX0_set.data.toList.drop 0 = dktX0_set_0 := by decide +kernel
theorem dksX0_set_1 : cX0_set.data.toList.drop 22 = dktX0_set_1 := dk_seg dksX0_set_0 22 rfl rfl
theorem dksX0_set_2 : cX0_set.data.toList.drop 46 = dktX0_set_2 := dk_seg dksX0_set_1 24 rfl rfl
theorem dX0_set_0 : decode cX0_set 0 = .ok (.iload_n 1, 1) := dk_27 (dk_at dksX0_set_0 0 rfl rfl)
theorem dX0_set_1 : decode cX0_set 1 = .ok (.invokestatic 172, 3) := dk_184 0 172 (dk_at dksX0_set_0 1 rfl rfl)
theorem dX0_set_4 : decode cX0_set 4 = .ok (.ifCond .ne 6, 3) := dk_154 0 6 (dk_at dksX0_set_0 4 rfl rfl)
theorem dX0_set_7 : decode cX0_set 7 = .ok (.ldc 106, 2) := dk_18 106 (dk_at dksX0_set_0 7 rfl rfl)
theorem dX0_set_9 : decode cX0_set 9 = .ok (.ireturn, 1) := dk_172 (dk_at dksX0_set_0 9 rfl rfl)
theorem dX0_set_10 : decode cX0_set 10 = .ok (.iload_n 2, 1) := dk_28 (dk_at dksX0_set_0 10 rfl rfl)
theorem dX0_set_11 : decode cX0_set 11 = .ok (.iconst 0, 1) := dk_3 (dk_at dksX0_set_0 11 rfl rfl)
theorem dX0_set_12 : decode cX0_set 12 = .ok (.iload_n 1, 1) := dk_27 (dk_at dksX0_set_0 12 rfl rfl)
theorem dX0_set_13 : decode cX0_set 13 = .ok (.ifCond .ne 8, 3) := dk_154 0 8 (dk_at dksX0_set_0 13 rfl rfl)
theorem dX0_set_16 : decode cX0_set 16 = .ok (.bipush 20, 2) := dk_16 20 (dk_at dksX0_set_0 16 rfl rfl)
theorem dX0_set_18 : decode cX0_set 18 = .ok (.goto 4, 3) := dk_167 0 4 (dk_at dksX0_set_0 18 rfl rfl)
theorem dX0_set_21 : decode cX0_set 21 = .ok (.iconst 2, 1) := dk_5 (dk_at dksX0_set_0 21 rfl rfl)
theorem dX0_set_22 : decode cX0_set 22 = .ok (.invokestatic 3, 3) := dk_184 0 3 (dk_at dksX0_set_1 0 rfl rfl)
theorem dX0_set_25 : decode cX0_set 25 = .ok (.ifCond .ne 6, 3) := dk_154 0 6 (dk_at dksX0_set_1 3 rfl rfl)
theorem dX0_set_28 : decode cX0_set 28 = .ok (.ldc 158, 2) := dk_18 158 (dk_at dksX0_set_1 6 rfl rfl)
theorem dX0_set_30 : decode cX0_set 30 = .ok (.ireturn, 1) := dk_172 (dk_at dksX0_set_1 8 rfl rfl)
theorem dX0_set_31 : decode cX0_set 31 = .ok (.aload_n 0, 1) := dk_42 (dk_at dksX0_set_1 9 rfl rfl)
theorem dX0_set_32 : decode cX0_set 32 = .ok (.invokevirtual 121, 3) := dk_182 0 121 (dk_at dksX0_set_1 10 rfl rfl)
theorem dX0_set_35 : decode cX0_set 35 = .ok (.aload_n 0, 1) := dk_42 (dk_at dksX0_set_1 13 rfl rfl)
theorem dX0_set_36 : decode cX0_set 36 = .ok (.getfield 67, 3) := dk_180 0 67 (dk_at dksX0_set_1 14 rfl rfl)
theorem dX0_set_39 : decode cX0_set 39 = .ok (.getfield 175, 3) := dk_180 0 175 (dk_at dksX0_set_1 17 rfl rfl)
theorem dX0_set_42 : decode cX0_set 42 = .ok (.iload_n 1, 1) := dk_27 (dk_at dksX0_set_1 20 rfl rfl)
theorem dX0_set_43 : decode cX0_set 43 = .ok (.iaload, 1) := dk_46 (dk_at dksX0_set_1 21 rfl rfl)
theorem dX0_set_44 : decode cX0_set 44 = .ok (.istore_n 3, 1) := dk_62 (dk_at dksX0_set_1 22 rfl rfl)
theorem dX0_set_45 : decode cX0_set 45 = .ok (.aload_n 0, 1) := dk_42 (dk_at dksX0_set_1 23 rfl rfl)
theorem dX0_set_46 : decode cX0_set 46 = .ok (.getfield 67, 3) := dk_180 0 67 (dk_at dksX0_set_2 0 rfl rfl)
theorem dX0_set_49 : decode cX0_set 49 = .ok (.getfield 175, 3) := dk_180 0 175 (dk_at dksX0_set_2 3 rfl rfl)
theorem dX0_set_52 : decode cX0_set 52 = .ok (.iload_n 1, 1) := dk_27 (dk_at dksX0_set_2 6 rfl rfl)
theorem dX0_set_53 : decode cX0_set 53 = .ok (.iload_n 2, 1) := dk_28 (dk_at dksX0_set_2 7 rfl rfl)
theorem dX0_set_54 : decode cX0_set 54 = .ok (.iastore, 1) := dk_79 (dk_at dksX0_set_2 8 rfl rfl)
theorem dX0_set_55 : decode cX0_set 55 = .ok (.iload_n 3, 1) := dk_29 (dk_at dksX0_set_2 9 rfl rfl)
theorem dX0_set_56 : decode cX0_set 56 = .ok (.ireturn, 1) := dk_172 (dk_at dksX0_set_2 10 rfl rfl)
abbrev cX0_isSetting : ByteArray := prog_1_method_15_code
def yX0_isSetting : MethodName := ⟨RX0, "isSetting", "(I)Z"⟩
def dkwX0_isSetting_0 : List UInt8 := [26, 3, 4, 184, 0, 3, 172]
abbrev dktX0_isSetting_0 : List UInt8 := dkwX0_isSetting_0 ++ []
theorem dksX0_isSetting_0 : cX0_isSetting.data.toList.drop 0 = dktX0_isSetting_0 := by decide +kernel
theorem dX0_isSetting_0 : decode cX0_isSetting 0 = .ok (.iload_n 0, 1) := dk_26 (dk_at dksX0_isSetting_0 0 rfl rfl)
theorem dX0_isSetting_1 : decode cX0_isSetting 1 = .ok (.iconst 0, 1) := dk_3 (dk_at dksX0_isSetting_0 1 rfl rfl)
theorem dX0_isSetting_2 : decode cX0_isSetting 2 = .ok (.iconst 1, 1) := dk_4 (dk_at dksX0_isSetting_0 2 rfl rfl)
theorem dX0_isSetting_3 : decode cX0_isSetting 3 = .ok (.invokestatic 3, 3) := dk_184 0 3 (dk_at dksX0_isSetting_0 3 rfl rfl)
theorem dX0_isSetting_6 : decode cX0_isSetting 6 = .ok (.ireturn, 1) := dk_172 (dk_at dksX0_isSetting_0 6 rfl rfl)
abbrev cX0_setBreakpoint : ByteArray := prog_1_method_17_code
def yX0_setBreakpoint : MethodName := ⟨RX0, "setBreakpoint", "(IZ)I"⟩
def dkwX0_setBreakpoint_3 : List UInt8 := [132, 6, 1, 167, 255, 226, 29, 172]
abbrev dktX0_setBreakpoint_3 : List UInt8 := dkwX0_setBreakpoint_3 ++ []
def dkwX0_setBreakpoint_2 : List UInt8 := [162, 0, 29, 25, 4, 21, 6, 51, 54, 7, 29, 21, 7, 153, 0, 7, 4, 167, 0, 4, 3, 96, 62]
abbrev dktX0_setBreakpoint_2 : List UInt8 := dkwX0_setBreakpoint_2 ++ dktX0_setBreakpoint_3
def dkwX0_setBreakpoint_1 : List UInt8 := [3, 62, 42, 180, 0, 67, 180, 0, 178, 58, 4, 25, 4, 190, 54, 5, 3, 54, 6, 21, 6, 21, 5]
abbrev dktX0_setBreakpoint_1 : List UInt8 := dkwX0_setBreakpoint_1 ++ dktX0_setBreakpoint_2
def dkwX0_setBreakpoint_0 : List UInt8 := [27, 184, 0, 102, 154, 0, 6, 18, 106, 172, 42, 182, 0, 121, 42, 180, 0, 67, 180, 0, 178, 27, 28, 84]
abbrev dktX0_setBreakpoint_0 : List UInt8 := dkwX0_setBreakpoint_0 ++ dktX0_setBreakpoint_1
theorem dksX0_setBreakpoint_0 : cX0_setBreakpoint.data.toList.drop 0 = dktX0_setBreakpoint_0 := by decide +kernel
theorem dksX0_setBreakpoint_1 : cX0_setBreakpoint.data.toList.drop 24 = dktX0_setBreakpoint_1 := dk_seg dksX0_setBreakpoint_0 24 rfl rfl
theorem dksX0_setBreakpoint_2 : cX0_setBreakpoint.data.toList.drop 47 = dktX0_setBreakpoint_2 := dk_seg dksX0_setBreakpoint_1 23 rfl rfl
theorem dksX0_setBreakpoint_3 : cX0_setBreakpoint.data.toList.drop 70 = dktX0_setBreakpoint_3 := dk_seg dksX0_setBreakpoint_2 23 rfl rfl
theorem dX0_setBreakpoint_0 : decode cX0_setBreakpoint 0 = .ok (.iload_n 1, 1) := dk_27 (dk_at dksX0_setBreakpoint_0 0 rfl rfl)
theorem dX0_setBreakpoint_1 : decode cX0_setBreakpoint 1 = .ok (.invokestatic 102, 3) := dk_184 0 102 (dk_at dksX0_setBreakpoint_0 1 rfl rfl)
theorem dX0_setBreakpoint_4 : decode cX0_setBreakpoint 4 = .ok (.ifCond .ne 6, 3) := dk_154 0 6 (dk_at dksX0_setBreakpoint_0 4 rfl rfl)
theorem dX0_setBreakpoint_7 : decode cX0_setBreakpoint 7 = .ok (.ldc 106, 2) := dk_18 106 (dk_at dksX0_setBreakpoint_0 7 rfl rfl)
theorem dX0_setBreakpoint_9 : decode cX0_setBreakpoint 9 = .ok (.ireturn, 1) := dk_172 (dk_at dksX0_setBreakpoint_0 9 rfl rfl)
theorem dX0_setBreakpoint_10 : decode cX0_setBreakpoint 10 = .ok (.aload_n 0, 1) := dk_42 (dk_at dksX0_setBreakpoint_0 10 rfl rfl)
theorem dX0_setBreakpoint_11 : decode cX0_setBreakpoint 11 = .ok (.invokevirtual 121, 3) := dk_182 0 121 (dk_at dksX0_setBreakpoint_0 11 rfl rfl)
theorem dX0_setBreakpoint_14 : decode cX0_setBreakpoint 14 = .ok (.aload_n 0, 1) := dk_42 (dk_at dksX0_setBreakpoint_0 14 rfl rfl)
theorem dX0_setBreakpoint_15 : decode cX0_setBreakpoint 15 = .ok (.getfield 67, 3) := dk_180 0 67 (dk_at dksX0_setBreakpoint_0 15 rfl rfl)
theorem dX0_setBreakpoint_18 : decode cX0_setBreakpoint 18 = .ok (.getfield 178, 3) := dk_180 0 178 (dk_at dksX0_setBreakpoint_0 18 rfl rfl)
theorem dX0_setBreakpoint_21 : decode cX0_setBreakpoint 21 = .ok (.iload_n 1, 1) := dk_27 (dk_at dksX0_setBreakpoint_0 21 rfl rfl)
theorem dX0_setBreakpoint_22 : decode cX0_setBreakpoint 22 = .ok (.iload_n 2, 1) := dk_28 (dk_at dksX0_setBreakpoint_0 22 rfl rfl)
theorem dX0_setBreakpoint_23 : decode cX0_setBreakpoint 23 = .ok (.bastore, 1) := dk_84 (dk_at dksX0_setBreakpoint_0 23 rfl rfl)
theorem dX0_setBreakpoint_24 : decode cX0_setBreakpoint 24 = .ok (.iconst 0, 1) := dk_3 (dk_at dksX0_setBreakpoint_1 0 rfl rfl)
theorem dX0_setBreakpoint_25 : decode cX0_setBreakpoint 25 = .ok (.istore_n 3, 1) := dk_62 (dk_at dksX0_setBreakpoint_1 1 rfl rfl)
theorem dX0_setBreakpoint_26 : decode cX0_setBreakpoint 26 = .ok (.aload_n 0, 1) := dk_42 (dk_at dksX0_setBreakpoint_1 2 rfl rfl)
theorem dX0_setBreakpoint_27 : decode cX0_setBreakpoint 27 = .ok (.getfield 67, 3) := dk_180 0 67 (dk_at dksX0_setBreakpoint_1 3 rfl rfl)
theorem dX0_setBreakpoint_30 : decode cX0_setBreakpoint 30 = .ok (.getfield 178, 3) := dk_180 0 178 (dk_at dksX0_setBreakpoint_1 6 rfl rfl)
theorem dX0_setBreakpoint_33 : decode cX0_setBreakpoint 33 = .ok (.astore 4, 2) := dk_58 4 (dk_at dksX0_setBreakpoint_1 9 rfl rfl)
theorem dX0_setBreakpoint_35 : decode cX0_setBreakpoint 35 = .ok (.aload 4, 2) := dk_25 4 (dk_at dksX0_setBreakpoint_1 11 rfl rfl)
theorem dX0_setBreakpoint_37 : decode cX0_setBreakpoint 37 = .ok (.arraylength, 1) := dk_190 (dk_at dksX0_setBreakpoint_1 13 rfl rfl)
theorem dX0_setBreakpoint_38 : decode cX0_setBreakpoint 38 = .ok (.istore 5, 2) := dk_54 5 (dk_at dksX0_setBreakpoint_1 14 rfl rfl)
theorem dX0_setBreakpoint_40 : decode cX0_setBreakpoint 40 = .ok (.iconst 0, 1) := dk_3 (dk_at dksX0_setBreakpoint_1 16 rfl rfl)
theorem dX0_setBreakpoint_41 : decode cX0_setBreakpoint 41 = .ok (.istore 6, 2) := dk_54 6 (dk_at dksX0_setBreakpoint_1 17 rfl rfl)
theorem dX0_setBreakpoint_43 : decode cX0_setBreakpoint 43 = .ok (.iload 6, 2) := dk_21 6 (dk_at dksX0_setBreakpoint_1 19 rfl rfl)
theorem dX0_setBreakpoint_45 : decode cX0_setBreakpoint 45 = .ok (.iload 5, 2) := dk_21 5 (dk_at dksX0_setBreakpoint_1 21 rfl rfl)
theorem dX0_setBreakpoint_47 : decode cX0_setBreakpoint 47 = .ok (.if_icmp .ge 29, 3) := dk_162 0 29 (dk_at dksX0_setBreakpoint_2 0 rfl rfl)
theorem dX0_setBreakpoint_50 : decode cX0_setBreakpoint 50 = .ok (.aload 4, 2) := dk_25 4 (dk_at dksX0_setBreakpoint_2 3 rfl rfl)
theorem dX0_setBreakpoint_52 : decode cX0_setBreakpoint 52 = .ok (.iload 6, 2) := dk_21 6 (dk_at dksX0_setBreakpoint_2 5 rfl rfl)
theorem dX0_setBreakpoint_54 : decode cX0_setBreakpoint 54 = .ok (.baload, 1) := dk_51 (dk_at dksX0_setBreakpoint_2 7 rfl rfl)
theorem dX0_setBreakpoint_55 : decode cX0_setBreakpoint 55 = .ok (.istore 7, 2) := dk_54 7 (dk_at dksX0_setBreakpoint_2 8 rfl rfl)
theorem dX0_setBreakpoint_57 : decode cX0_setBreakpoint 57 = .ok (.iload_n 3, 1) := dk_29 (dk_at dksX0_setBreakpoint_2 10 rfl rfl)
theorem dX0_setBreakpoint_58 : decode cX0_setBreakpoint 58 = .ok (.iload 7, 2) := dk_21 7 (dk_at dksX0_setBreakpoint_2 11 rfl rfl)
theorem dX0_setBreakpoint_60 : decode cX0_setBreakpoint 60 = .ok (.ifCond .eq 7, 3) := dk_153 0 7 (dk_at dksX0_setBreakpoint_2 13 rfl rfl)
theorem dX0_setBreakpoint_63 : decode cX0_setBreakpoint 63 = .ok (.iconst 1, 1) := dk_4 (dk_at dksX0_setBreakpoint_2 16 rfl rfl)
theorem dX0_setBreakpoint_64 : decode cX0_setBreakpoint 64 = .ok (.goto 4, 3) := dk_167 0 4 (dk_at dksX0_setBreakpoint_2 17 rfl rfl)
theorem dX0_setBreakpoint_67 : decode cX0_setBreakpoint 67 = .ok (.iconst 0, 1) := dk_3 (dk_at dksX0_setBreakpoint_2 20 rfl rfl)
theorem dX0_setBreakpoint_68 : decode cX0_setBreakpoint 68 = .ok (.iadd, 1) := dk_96 (dk_at dksX0_setBreakpoint_2 21 rfl rfl)
theorem dX0_setBreakpoint_69 : decode cX0_setBreakpoint 69 = .ok (.istore_n 3, 1) := dk_62 (dk_at dksX0_setBreakpoint_2 22 rfl rfl)
theorem dX0_setBreakpoint_70 : decode cX0_setBreakpoint 70 = .ok (.iinc 6 1, 3) := dk_132 6 1 (dk_at dksX0_setBreakpoint_3 0 rfl rfl)
theorem dX0_setBreakpoint_73 : decode cX0_setBreakpoint 73 = .ok (.goto (-30), 3) := dk_167 255 226 (dk_at dksX0_setBreakpoint_3 3 rfl rfl)
theorem dX0_setBreakpoint_76 : decode cX0_setBreakpoint 76 = .ok (.iload_n 3, 1) := dk_29 (dk_at dksX0_setBreakpoint_3 6 rfl rfl)
theorem dX0_setBreakpoint_77 : decode cX0_setBreakpoint 77 = .ok (.ireturn, 1) := dk_172 (dk_at dksX0_setBreakpoint_3 7 rfl rfl)
abbrev cX0_run : ByteArray := prog_1_method_18_code
def yX0_run : MethodName := ⟨RX0, "run", "(I)I"⟩
def dkwX0_run_2 : List UInt8 := [154, 0, 16, 42, 180, 0, 67, 182, 0, 188, 132, 2, 1, 167, 255, 217, 28, 172]
abbrev dktX0_run_2 : List UInt8 := dkwX0_run_2 ++ []
def dkwX0_run_1 : List UInt8 := [162, 0, 40, 42, 180, 0, 67, 182, 0, 182, 154, 0, 30, 28, 153, 0, 13, 42, 180, 0, 67, 182, 0, 185]
abbrev dktX0_run_1 : List UInt8 := dkwX0_run_1 ++ dktX0_run_2
def dkwX0_run_0 : List UInt8 := [27, 4, 17, 0, 200, 184, 0, 3, 154, 0, 6, 18, 158, 172, 42, 182, 0, 121, 3, 61, 28, 27]
abbrev dktX0_run_0 : List UInt8 := dkwX0_run_0 ++ dktX0_run_1
theorem dksX0_run_0 : cX0_run.data.toList.drop 0 = dktX0_run_0 := by decide +kernel
theorem dksX0_run_1 : cX0_run.data.toList.drop 22 = dktX0_run_1 := dk_seg dksX0_run_0 22 rfl rfl
theorem dksX0_run_2 : cX0_run.data.toList.drop 46 = dktX0_run_2 := dk_seg dksX0_run_1 24 rfl rfl
theorem dX0_run_0 : decode cX0_run 0 = .ok (.iload_n 1, 1) := dk_27 (dk_at dksX0_run_0 0 rfl rfl)
theorem dX0_run_1 : decode cX0_run 1 = .ok (.iconst 1, 1) := dk_4 (dk_at dksX0_run_0 1 rfl rfl)
theorem dX0_run_2 : decode cX0_run 2 = .ok (.sipush 200, 3) := dk_17 0 200 (dk_at dksX0_run_0 2 rfl rfl)
theorem dX0_run_5 : decode cX0_run 5 = .ok (.invokestatic 3, 3) := dk_184 0 3 (dk_at dksX0_run_0 5 rfl rfl)
theorem dX0_run_8 : decode cX0_run 8 = .ok (.ifCond .ne 6, 3) := dk_154 0 6 (dk_at dksX0_run_0 8 rfl rfl)
theorem dX0_run_11 : decode cX0_run 11 = .ok (.ldc 158, 2) := dk_18 158 (dk_at dksX0_run_0 11 rfl rfl)
theorem dX0_run_13 : decode cX0_run 13 = .ok (.ireturn, 1) := dk_172 (dk_at dksX0_run_0 13 rfl rfl)
theorem dX0_run_14 : decode cX0_run 14 = .ok (.aload_n 0, 1) := dk_42 (dk_at dksX0_run_0 14 rfl rfl)
theorem dX0_run_15 : decode cX0_run 15 = .ok (.invokevirtual 121, 3) := dk_182 0 121 (dk_at dksX0_run_0 15 rfl rfl)
theorem dX0_run_18 : decode cX0_run 18 = .ok (.iconst 0, 1) := dk_3 (dk_at dksX0_run_0 18 rfl rfl)
theorem dX0_run_19 : decode cX0_run 19 = .ok (.istore_n 2, 1) := dk_61 (dk_at dksX0_run_0 19 rfl rfl)
theorem dX0_run_20 : decode cX0_run 20 = .ok (.iload_n 2, 1) := dk_28 (dk_at dksX0_run_0 20 rfl rfl)
theorem dX0_run_21 : decode cX0_run 21 = .ok (.iload_n 1, 1) := dk_27 (dk_at dksX0_run_0 21 rfl rfl)
theorem dX0_run_22 : decode cX0_run 22 = .ok (.if_icmp .ge 40, 3) := dk_162 0 40 (dk_at dksX0_run_1 0 rfl rfl)
theorem dX0_run_25 : decode cX0_run 25 = .ok (.aload_n 0, 1) := dk_42 (dk_at dksX0_run_1 3 rfl rfl)
theorem dX0_run_26 : decode cX0_run 26 = .ok (.getfield 67, 3) := dk_180 0 67 (dk_at dksX0_run_1 4 rfl rfl)
theorem dX0_run_29 : decode cX0_run 29 = .ok (.invokevirtual 182, 3) := dk_182 0 182 (dk_at dksX0_run_1 7 rfl rfl)
theorem dX0_run_32 : decode cX0_run 32 = .ok (.ifCond .ne 30, 3) := dk_154 0 30 (dk_at dksX0_run_1 10 rfl rfl)
theorem dX0_run_35 : decode cX0_run 35 = .ok (.iload_n 2, 1) := dk_28 (dk_at dksX0_run_1 13 rfl rfl)
theorem dX0_run_36 : decode cX0_run 36 = .ok (.ifCond .eq 13, 3) := dk_153 0 13 (dk_at dksX0_run_1 14 rfl rfl)
theorem dX0_run_39 : decode cX0_run 39 = .ok (.aload_n 0, 1) := dk_42 (dk_at dksX0_run_1 17 rfl rfl)
theorem dX0_run_40 : decode cX0_run 40 = .ok (.getfield 67, 3) := dk_180 0 67 (dk_at dksX0_run_1 18 rfl rfl)
theorem dX0_run_43 : decode cX0_run 43 = .ok (.invokevirtual 185, 3) := dk_182 0 185 (dk_at dksX0_run_1 21 rfl rfl)
theorem dX0_run_46 : decode cX0_run 46 = .ok (.ifCond .ne 16, 3) := dk_154 0 16 (dk_at dksX0_run_2 0 rfl rfl)
theorem dX0_run_49 : decode cX0_run 49 = .ok (.aload_n 0, 1) := dk_42 (dk_at dksX0_run_2 3 rfl rfl)
theorem dX0_run_50 : decode cX0_run 50 = .ok (.getfield 67, 3) := dk_180 0 67 (dk_at dksX0_run_2 4 rfl rfl)
theorem dX0_run_53 : decode cX0_run 53 = .ok (.invokevirtual 188, 3) := dk_182 0 188 (dk_at dksX0_run_2 7 rfl rfl)
theorem dX0_run_56 : decode cX0_run 56 = .ok (.iinc 2 1, 3) := dk_132 2 1 (dk_at dksX0_run_2 10 rfl rfl)
theorem dX0_run_59 : decode cX0_run 59 = .ok (.goto (-39), 3) := dk_167 255 217 (dk_at dksX0_run_2 13 rfl rfl)
theorem dX0_run_62 : decode cX0_run 62 = .ok (.iload_n 2, 1) := dk_28 (dk_at dksX0_run_2 16 rfl rfl)
theorem dX0_run_63 : decode cX0_run 63 = .ok (.ireturn, 1) := dk_172 (dk_at dksX0_run_2 17 rfl rfl)
abbrev cX0_append : ByteArray := prog_1_method_19_code
def yX0_append : MethodName := ⟨RX0, "append", "(I)I"⟩
def dkwX0_append_1 : List UInt8 := [160, 0, 6, 18, 120, 172, 42, 180, 0, 81, 27, 146, 182, 0, 194, 87, 42, 180, 0, 81, 182, 0, 191, 172]
abbrev dktX0_append_1 : List UInt8 := dkwX0_append_1 ++ []
def dkwX0_append_0 : List UInt8 := [27, 16, 32, 16, 126, 184, 0, 3, 154, 0, 6, 18, 158, 172, 42, 180, 0, 81, 182, 0, 191, 16, 100]
abbrev dktX0_append_0 : List UInt8 := dkwX0_append_0 ++ dktX0_append_1
theorem dksX0_append_0 : cX0_append.data.toList.drop 0 = dktX0_append_0 := by decide +kernel
theorem dksX0_append_1 : cX0_append.data.toList.drop 23 = dktX0_append_1 := dk_seg dksX0_append_0 23 rfl rfl
theorem dX0_append_0 : decode cX0_append 0 = .ok (.iload_n 1, 1) := dk_27 (dk_at dksX0_append_0 0 rfl rfl)
theorem dX0_append_1 : decode cX0_append 1 = .ok (.bipush 32, 2) := dk_16 32 (dk_at dksX0_append_0 1 rfl rfl)
theorem dX0_append_3 : decode cX0_append 3 = .ok (.bipush 126, 2) := dk_16 126 (dk_at dksX0_append_0 3 rfl rfl)
theorem dX0_append_5 : decode cX0_append 5 = .ok (.invokestatic 3, 3) := dk_184 0 3 (dk_at dksX0_append_0 5 rfl rfl)
theorem dX0_append_8 : decode cX0_append 8 = .ok (.ifCond .ne 6, 3) := dk_154 0 6 (dk_at dksX0_append_0 8 rfl rfl)
theorem dX0_append_11 : decode cX0_append 11 = .ok (.ldc 158, 2) := dk_18 158 (dk_at dksX0_append_0 11 rfl rfl)
theorem dX0_append_13 : decode cX0_append 13 = .ok (.ireturn, 1) := dk_172 (dk_at dksX0_append_0 13 rfl rfl)
theorem dX0_append_14 : decode cX0_append 14 = .ok (.aload_n 0, 1) := dk_42 (dk_at dksX0_append_0 14 rfl rfl)
theorem dX0_append_15 : decode cX0_append 15 = .ok (.getfield 81, 3) := dk_180 0 81 (dk_at dksX0_append_0 15 rfl rfl)
theorem dX0_append_18 : decode cX0_append 18 = .ok (.invokevirtual 191, 3) := dk_182 0 191 (dk_at dksX0_append_0 18 rfl rfl)
theorem dX0_append_21 : decode cX0_append 21 = .ok (.bipush 100, 2) := dk_16 100 (dk_at dksX0_append_0 21 rfl rfl)
theorem dX0_append_23 : decode cX0_append 23 = .ok (.if_icmp .ne 6, 3) := dk_160 0 6 (dk_at dksX0_append_1 0 rfl rfl)
theorem dX0_append_26 : decode cX0_append 26 = .ok (.ldc 120, 2) := dk_18 120 (dk_at dksX0_append_1 3 rfl rfl)
theorem dX0_append_28 : decode cX0_append 28 = .ok (.ireturn, 1) := dk_172 (dk_at dksX0_append_1 5 rfl rfl)
theorem dX0_append_29 : decode cX0_append 29 = .ok (.aload_n 0, 1) := dk_42 (dk_at dksX0_append_1 6 rfl rfl)
theorem dX0_append_30 : decode cX0_append 30 = .ok (.getfield 81, 3) := dk_180 0 81 (dk_at dksX0_append_1 7 rfl rfl)
theorem dX0_append_33 : decode cX0_append 33 = .ok (.iload_n 1, 1) := dk_27 (dk_at dksX0_append_1 10 rfl rfl)
theorem dX0_append_34 : decode cX0_append 34 = .ok (.i2c, 1) := dk_146 (dk_at dksX0_append_1 11 rfl rfl)
theorem dX0_append_35 : decode cX0_append 35 = .ok (.invokevirtual 194, 3) := dk_182 0 194 (dk_at dksX0_append_1 12 rfl rfl)
theorem dX0_append_38 : decode cX0_append 38 = .ok (.pop, 1) := dk_87 (dk_at dksX0_append_1 15 rfl rfl)
theorem dX0_append_39 : decode cX0_append 39 = .ok (.aload_n 0, 1) := dk_42 (dk_at dksX0_append_1 16 rfl rfl)
theorem dX0_append_40 : decode cX0_append 40 = .ok (.getfield 81, 3) := dk_180 0 81 (dk_at dksX0_append_1 17 rfl rfl)
theorem dX0_append_43 : decode cX0_append 43 = .ok (.invokevirtual 191, 3) := dk_182 0 191 (dk_at dksX0_append_1 20 rfl rfl)
theorem dX0_append_46 : decode cX0_append 46 = .ok (.ireturn, 1) := dk_172 (dk_at dksX0_append_1 23 rfl rfl)
abbrev cX0_clearText : ByteArray := prog_1_method_20_code
def yX0_clearText : MethodName := ⟨RX0, "clearText", "()I"⟩
def dkwX0_clearText_0 : List UInt8 := [42, 180, 0, 81, 182, 0, 191, 60, 42, 180, 0, 81, 3, 182, 0, 198, 27, 172]
abbrev dktX0_clearText_0 : List UInt8 := dkwX0_clearText_0 ++ []
theorem dksX0_clearText_0 : cX0_clearText.data.toList.drop 0 = dktX0_clearText_0 := by decide +kernel
theorem dX0_clearText_0 : decode cX0_clearText 0 = .ok (.aload_n 0, 1) := dk_42 (dk_at dksX0_clearText_0 0 rfl rfl)
theorem dX0_clearText_1 : decode cX0_clearText 1 = .ok (.getfield 81, 3) := dk_180 0 81 (dk_at dksX0_clearText_0 1 rfl rfl)
theorem dX0_clearText_4 : decode cX0_clearText 4 = .ok (.invokevirtual 191, 3) := dk_182 0 191 (dk_at dksX0_clearText_0 4 rfl rfl)
theorem dX0_clearText_7 : decode cX0_clearText 7 = .ok (.istore_n 1, 1) := dk_60 (dk_at dksX0_clearText_0 7 rfl rfl)
theorem dX0_clearText_8 : decode cX0_clearText 8 = .ok (.aload_n 0, 1) := dk_42 (dk_at dksX0_clearText_0 8 rfl rfl)
theorem dX0_clearText_9 : decode cX0_clearText 9 = .ok (.getfield 81, 3) := dk_180 0 81 (dk_at dksX0_clearText_0 9 rfl rfl)
theorem dX0_clearText_12 : decode cX0_clearText 12 = .ok (.iconst 0, 1) := dk_3 (dk_at dksX0_clearText_0 12 rfl rfl)
theorem dX0_clearText_13 : decode cX0_clearText 13 = .ok (.invokevirtual 198, 3) := dk_182 0 198 (dk_at dksX0_clearText_0 13 rfl rfl)
theorem dX0_clearText_16 : decode cX0_clearText 16 = .ok (.iload_n 1, 1) := dk_27 (dk_at dksX0_clearText_0 16 rfl rfl)
theorem dX0_clearText_17 : decode cX0_clearText 17 = .ok (.ireturn, 1) := dk_172 (dk_at dksX0_clearText_0 17 rfl rfl)
abbrev cX0_fault : ByteArray := prog_1_method_21_code
def yX0_fault : MethodName := ⟨RX0, "fault", "()I"⟩
def dkwX0_fault_1 : List UInt8 := [167, 0, 7, 43, 180, 0, 201, 172]
abbrev dktX0_fault_1 : List UInt8 := dkwX0_fault_1 ++ []
def dkwX0_fault_0 : List UInt8 := [187, 0, 107, 89, 42, 42, 180, 0, 81, 183, 0, 109, 76, 43, 182, 0, 112, 153, 0, 8, 18, 54]
abbrev dktX0_fault_0 : List UInt8 := dkwX0_fault_0 ++ dktX0_fault_1
theorem dksX0_fault_0 : cX0_fault.data.toList.drop 0 = dktX0_fault_0 := by decide +kernel
theorem dksX0_fault_1 : cX0_fault.data.toList.drop 22 = dktX0_fault_1 := dk_seg dksX0_fault_0 22 rfl rfl
theorem dX0_fault_0 : decode cX0_fault 0 = .ok (.new 107, 3) := dk_187 0 107 (dk_at dksX0_fault_0 0 rfl rfl)
theorem dX0_fault_3 : decode cX0_fault 3 = .ok (.dup, 1) := dk_89 (dk_at dksX0_fault_0 3 rfl rfl)
theorem dX0_fault_4 : decode cX0_fault 4 = .ok (.aload_n 0, 1) := dk_42 (dk_at dksX0_fault_0 4 rfl rfl)
theorem dX0_fault_5 : decode cX0_fault 5 = .ok (.aload_n 0, 1) := dk_42 (dk_at dksX0_fault_0 5 rfl rfl)
theorem dX0_fault_6 : decode cX0_fault 6 = .ok (.getfield 81, 3) := dk_180 0 81 (dk_at dksX0_fault_0 6 rfl rfl)
theorem dX0_fault_9 : decode cX0_fault 9 = .ok (.invokespecial 109, 3) := dk_183 0 109 (dk_at dksX0_fault_0 9 rfl rfl)
theorem dX0_fault_12 : decode cX0_fault 12 = .ok (.astore_n 1, 1) := dk_76 (dk_at dksX0_fault_0 12 rfl rfl)
theorem dX0_fault_13 : decode cX0_fault 13 = .ok (.aload_n 1, 1) := dk_43 (dk_at dksX0_fault_0 13 rfl rfl)
theorem dX0_fault_14 : decode cX0_fault 14 = .ok (.invokevirtual 112, 3) := dk_182 0 112 (dk_at dksX0_fault_0 14 rfl rfl)
theorem dX0_fault_17 : decode cX0_fault 17 = .ok (.ifCond .eq 8, 3) := dk_153 0 8 (dk_at dksX0_fault_0 17 rfl rfl)
theorem dX0_fault_20 : decode cX0_fault 20 = .ok (.ldc 54, 2) := dk_18 54 (dk_at dksX0_fault_0 20 rfl rfl)
theorem dX0_fault_22 : decode cX0_fault 22 = .ok (.goto 7, 3) := dk_167 0 7 (dk_at dksX0_fault_1 0 rfl rfl)
theorem dX0_fault_25 : decode cX0_fault 25 = .ok (.aload_n 1, 1) := dk_43 (dk_at dksX0_fault_1 3 rfl rfl)
theorem dX0_fault_26 : decode cX0_fault 26 = .ok (.getfield 201, 3) := dk_180 0 201 (dk_at dksX0_fault_1 4 rfl rfl)
theorem dX0_fault_29 : decode cX0_fault 29 = .ok (.ireturn, 1) := dk_172 (dk_at dksX0_fault_1 7 rfl rfl)
abbrev cX0_undo : ByteArray := prog_1_method_22_code
def yX0_undo : MethodName := ⟨RX0, "undo", "()I"⟩
def dkwX0_undo_2 : List UInt8 := [185, 0, 85, 1, 0, 172]
abbrev dktX0_undo_2 : List UInt8 := dkwX0_undo_2 ++ []
def dkwX0_undo_1 : List UInt8 := [185, 0, 85, 1, 0, 4, 100, 185, 0, 91, 2, 0, 192, 0, 62, 181, 0, 67, 42, 180, 0, 74]
abbrev dktX0_undo_1 : List UInt8 := dkwX0_undo_1 ++ dktX0_undo_2
def dkwX0_undo_0 : List UInt8 := [42, 180, 0, 74, 185, 0, 204, 1, 0, 153, 0, 6, 18, 54, 172, 42, 42, 180, 0, 74, 42, 180, 0, 74]
abbrev dktX0_undo_0 : List UInt8 := dkwX0_undo_0 ++ dktX0_undo_1
theorem dksX0_undo_0 : cX0_undo.data.toList.drop 0 = dktX0_undo_0 := by decide +kernel
theorem dksX0_undo_1 : cX0_undo.data.toList.drop 24 = dktX0_undo_1 := dk_seg dksX0_undo_0 24 rfl rfl
theorem dksX0_undo_2 : cX0_undo.data.toList.drop 46 = dktX0_undo_2 := dk_seg dksX0_undo_1 22 rfl rfl
theorem dX0_undo_0 : decode cX0_undo 0 = .ok (.aload_n 0, 1) := dk_42 (dk_at dksX0_undo_0 0 rfl rfl)
theorem dX0_undo_1 : decode cX0_undo 1 = .ok (.getfield 74, 3) := dk_180 0 74 (dk_at dksX0_undo_0 1 rfl rfl)
theorem dX0_undo_4 : decode cX0_undo 4 = .ok (.invokeinterface 204 1, 5) := by decide +kernel
theorem dX0_undo_9 : decode cX0_undo 9 = .ok (.ifCond .eq 6, 3) := dk_153 0 6 (dk_at dksX0_undo_0 9 rfl rfl)
theorem dX0_undo_12 : decode cX0_undo 12 = .ok (.ldc 54, 2) := dk_18 54 (dk_at dksX0_undo_0 12 rfl rfl)
theorem dX0_undo_14 : decode cX0_undo 14 = .ok (.ireturn, 1) := dk_172 (dk_at dksX0_undo_0 14 rfl rfl)
theorem dX0_undo_15 : decode cX0_undo 15 = .ok (.aload_n 0, 1) := dk_42 (dk_at dksX0_undo_0 15 rfl rfl)
theorem dX0_undo_16 : decode cX0_undo 16 = .ok (.aload_n 0, 1) := dk_42 (dk_at dksX0_undo_0 16 rfl rfl)
theorem dX0_undo_17 : decode cX0_undo 17 = .ok (.getfield 74, 3) := dk_180 0 74 (dk_at dksX0_undo_0 17 rfl rfl)
theorem dX0_undo_20 : decode cX0_undo 20 = .ok (.aload_n 0, 1) := dk_42 (dk_at dksX0_undo_0 20 rfl rfl)
theorem dX0_undo_21 : decode cX0_undo 21 = .ok (.getfield 74, 3) := dk_180 0 74 (dk_at dksX0_undo_0 21 rfl rfl)
theorem dX0_undo_24 : decode cX0_undo 24 = .ok (.invokeinterface 85 1, 5) := by decide +kernel
theorem dX0_undo_29 : decode cX0_undo 29 = .ok (.iconst 1, 1) := dk_4 (dk_at dksX0_undo_1 5 rfl rfl)
theorem dX0_undo_30 : decode cX0_undo 30 = .ok (.isub, 1) := dk_100 (dk_at dksX0_undo_1 6 rfl rfl)
theorem dX0_undo_31 : decode cX0_undo 31 = .ok (.invokeinterface 91 2, 5) := by decide +kernel
theorem dX0_undo_36 : decode cX0_undo 36 = .ok (.checkcast 62, 3) := dk_192 0 62 (dk_at dksX0_undo_1 12 rfl rfl)
theorem dX0_undo_39 : decode cX0_undo 39 = .ok (.putfield 67, 3) := dk_181 0 67 (dk_at dksX0_undo_1 15 rfl rfl)
theorem dX0_undo_42 : decode cX0_undo 42 = .ok (.aload_n 0, 1) := dk_42 (dk_at dksX0_undo_1 18 rfl rfl)
theorem dX0_undo_43 : decode cX0_undo 43 = .ok (.getfield 74, 3) := dk_180 0 74 (dk_at dksX0_undo_1 19 rfl rfl)
theorem dX0_undo_46 : decode cX0_undo 46 = .ok (.invokeinterface 85 1, 5) := by decide +kernel
theorem dX0_undo_51 : decode cX0_undo 51 = .ok (.ireturn, 1) := dk_172 (dk_at dksX0_undo_2 5 rfl rfl)
abbrev cX0_state : ByteArray := prog_1_method_23_code
def yX0_state : MethodName := ⟨RX0, "state", "(I)I"⟩
def dkwX0_state_1 : List UInt8 := [172]
abbrev dktX0_state_1 : List UInt8 := dkwX0_state_1 ++ []
def dkwX0_state_0 : List UInt8 := [27, 184, 0, 131, 153, 0, 18, 42, 180, 0, 67, 180, 0, 134, 27, 50, 180, 0, 138, 167, 0, 5, 18, 106]
abbrev dktX0_state_0 : List UInt8 := dkwX0_state_0 ++ dktX0_state_1
theorem dksX0_state_0 : cX0_state.data.toList.drop 0 = dktX0_state_0 := by decide +kernel
theorem dksX0_state_1 : cX0_state.data.toList.drop 24 = dktX0_state_1 := dk_seg dksX0_state_0 24 rfl rfl
theorem dX0_state_0 : decode cX0_state 0 = .ok (.iload_n 1, 1) := dk_27 (dk_at dksX0_state_0 0 rfl rfl)
theorem dX0_state_1 : decode cX0_state 1 = .ok (.invokestatic 131, 3) := dk_184 0 131 (dk_at dksX0_state_0 1 rfl rfl)
theorem dX0_state_4 : decode cX0_state 4 = .ok (.ifCond .eq 18, 3) := dk_153 0 18 (dk_at dksX0_state_0 4 rfl rfl)
theorem dX0_state_7 : decode cX0_state 7 = .ok (.aload_n 0, 1) := dk_42 (dk_at dksX0_state_0 7 rfl rfl)
theorem dX0_state_8 : decode cX0_state 8 = .ok (.getfield 67, 3) := dk_180 0 67 (dk_at dksX0_state_0 8 rfl rfl)
theorem dX0_state_11 : decode cX0_state 11 = .ok (.getfield 134, 3) := dk_180 0 134 (dk_at dksX0_state_0 11 rfl rfl)
theorem dX0_state_14 : decode cX0_state 14 = .ok (.iload_n 1, 1) := dk_27 (dk_at dksX0_state_0 14 rfl rfl)
theorem dX0_state_15 : decode cX0_state 15 = .ok (.aaload, 1) := dk_50 (dk_at dksX0_state_0 15 rfl rfl)
theorem dX0_state_16 : decode cX0_state 16 = .ok (.getfield 138, 3) := dk_180 0 138 (dk_at dksX0_state_0 16 rfl rfl)
theorem dX0_state_19 : decode cX0_state 19 = .ok (.goto 5, 3) := dk_167 0 5 (dk_at dksX0_state_0 19 rfl rfl)
theorem dX0_state_22 : decode cX0_state 22 = .ok (.ldc 106, 2) := dk_18 106 (dk_at dksX0_state_0 22 rfl rfl)
theorem dX0_state_24 : decode cX0_state 24 = .ok (.ireturn, 1) := dk_172 (dk_at dksX0_state_1 0 rfl rfl)
abbrev cX0_programCounter : ByteArray := prog_1_method_24_code
def yX0_programCounter : MethodName := ⟨RX0, "programCounter", "(I)I"⟩
def dkwX0_programCounter_1 : List UInt8 := [172]
abbrev dktX0_programCounter_1 : List UInt8 := dkwX0_programCounter_1 ++ []
def dkwX0_programCounter_0 : List UInt8 := [27, 184, 0, 131, 153, 0, 18, 42, 180, 0, 67, 180, 0, 134, 27, 50, 180, 0, 207, 167, 0, 5, 18, 106]
abbrev dktX0_programCounter_0 : List UInt8 := dkwX0_programCounter_0 ++ dktX0_programCounter_1
theorem dksX0_programCounter_0 : cX0_programCounter.data.toList.drop 0 = dktX0_programCounter_0 := by decide +kernel
theorem dksX0_programCounter_1 : cX0_programCounter.data.toList.drop 24 = dktX0_programCounter_1 := dk_seg dksX0_programCounter_0 24 rfl rfl
theorem dX0_programCounter_0 : decode cX0_programCounter 0 = .ok (.iload_n 1, 1) := dk_27 (dk_at dksX0_programCounter_0 0 rfl rfl)
theorem dX0_programCounter_1 : decode cX0_programCounter 1 = .ok (.invokestatic 131, 3) := dk_184 0 131 (dk_at dksX0_programCounter_0 1 rfl rfl)
theorem dX0_programCounter_4 : decode cX0_programCounter 4 = .ok (.ifCond .eq 18, 3) := dk_153 0 18 (dk_at dksX0_programCounter_0 4 rfl rfl)
theorem dX0_programCounter_7 : decode cX0_programCounter 7 = .ok (.aload_n 0, 1) := dk_42 (dk_at dksX0_programCounter_0 7 rfl rfl)
theorem dX0_programCounter_8 : decode cX0_programCounter 8 = .ok (.getfield 67, 3) := dk_180 0 67 (dk_at dksX0_programCounter_0 8 rfl rfl)
theorem dX0_programCounter_11 : decode cX0_programCounter 11 = .ok (.getfield 134, 3) := dk_180 0 134 (dk_at dksX0_programCounter_0 11 rfl rfl)
theorem dX0_programCounter_14 : decode cX0_programCounter 14 = .ok (.iload_n 1, 1) := dk_27 (dk_at dksX0_programCounter_0 14 rfl rfl)
theorem dX0_programCounter_15 : decode cX0_programCounter 15 = .ok (.aaload, 1) := dk_50 (dk_at dksX0_programCounter_0 15 rfl rfl)
theorem dX0_programCounter_16 : decode cX0_programCounter 16 = .ok (.getfield 207, 3) := dk_180 0 207 (dk_at dksX0_programCounter_0 16 rfl rfl)
theorem dX0_programCounter_19 : decode cX0_programCounter 19 = .ok (.goto 5, 3) := dk_167 0 5 (dk_at dksX0_programCounter_0 19 rfl rfl)
theorem dX0_programCounter_22 : decode cX0_programCounter 22 = .ok (.ldc 106, 2) := dk_18 106 (dk_at dksX0_programCounter_0 22 rfl rfl)
theorem dX0_programCounter_24 : decode cX0_programCounter 24 = .ok (.ireturn, 1) := dk_172 (dk_at dksX0_programCounter_1 0 rfl rfl)
abbrev cX0_register : ByteArray := prog_1_method_25_code
def yX0_register : MethodName := ⟨RX0, "register", "(II)I"⟩
def dkwX0_register_1 : List UInt8 := [167, 0, 5, 18, 106, 172]
abbrev dktX0_register_1 : List UInt8 := dkwX0_register_1 ++ []
def dkwX0_register_0 : List UInt8 := [27, 28, 184, 0, 151, 153, 0, 20, 42, 180, 0, 67, 180, 0, 134, 27, 50, 180, 0, 159, 28, 46]
abbrev dktX0_register_0 : List UInt8 := dkwX0_register_0 ++ dktX0_register_1
theorem dksX0_register_0 : cX0_register.data.toList.drop 0 = dktX0_register_0 := by decide +kernel
theorem dksX0_register_1 : cX0_register.data.toList.drop 22 = dktX0_register_1 := dk_seg dksX0_register_0 22 rfl rfl
theorem dX0_register_0 : decode cX0_register 0 = .ok (.iload_n 1, 1) := dk_27 (dk_at dksX0_register_0 0 rfl rfl)
theorem dX0_register_1 : decode cX0_register 1 = .ok (.iload_n 2, 1) := dk_28 (dk_at dksX0_register_0 1 rfl rfl)
theorem dX0_register_2 : decode cX0_register 2 = .ok (.invokestatic 151, 3) := dk_184 0 151 (dk_at dksX0_register_0 2 rfl rfl)
theorem dX0_register_5 : decode cX0_register 5 = .ok (.ifCond .eq 20, 3) := dk_153 0 20 (dk_at dksX0_register_0 5 rfl rfl)
theorem dX0_register_8 : decode cX0_register 8 = .ok (.aload_n 0, 1) := dk_42 (dk_at dksX0_register_0 8 rfl rfl)
theorem dX0_register_9 : decode cX0_register 9 = .ok (.getfield 67, 3) := dk_180 0 67 (dk_at dksX0_register_0 9 rfl rfl)
theorem dX0_register_12 : decode cX0_register 12 = .ok (.getfield 134, 3) := dk_180 0 134 (dk_at dksX0_register_0 12 rfl rfl)
theorem dX0_register_15 : decode cX0_register 15 = .ok (.iload_n 1, 1) := dk_27 (dk_at dksX0_register_0 15 rfl rfl)
theorem dX0_register_16 : decode cX0_register 16 = .ok (.aaload, 1) := dk_50 (dk_at dksX0_register_0 16 rfl rfl)
theorem dX0_register_17 : decode cX0_register 17 = .ok (.getfield 159, 3) := dk_180 0 159 (dk_at dksX0_register_0 17 rfl rfl)
theorem dX0_register_20 : decode cX0_register 20 = .ok (.iload_n 2, 1) := dk_28 (dk_at dksX0_register_0 20 rfl rfl)
theorem dX0_register_21 : decode cX0_register 21 = .ok (.iaload, 1) := dk_46 (dk_at dksX0_register_0 21 rfl rfl)
theorem dX0_register_22 : decode cX0_register 22 = .ok (.goto 5, 3) := dk_167 0 5 (dk_at dksX0_register_1 0 rfl rfl)
theorem dX0_register_25 : decode cX0_register 25 = .ok (.ldc 106, 2) := dk_18 106 (dk_at dksX0_register_1 3 rfl rfl)
theorem dX0_register_27 : decode cX0_register 27 = .ok (.ireturn, 1) := dk_172 (dk_at dksX0_register_1 5 rfl rfl)
abbrev cX0_word : ByteArray := prog_1_method_26_code
def yX0_word : MethodName := ⟨RX0, "word", "(I)I"⟩
def dkwX0_word_0 : List UInt8 := [27, 184, 0, 163, 153, 0, 15, 42, 180, 0, 67, 180, 0, 166, 27, 46, 167, 0, 5, 18, 106, 172]
abbrev dktX0_word_0 : List UInt8 := dkwX0_word_0 ++ []
theorem dksX0_word_0 : cX0_word.data.toList.drop 0 = dktX0_word_0 := by decide +kernel
theorem dX0_word_0 : decode cX0_word 0 = .ok (.iload_n 1, 1) := dk_27 (dk_at dksX0_word_0 0 rfl rfl)
theorem dX0_word_1 : decode cX0_word 1 = .ok (.invokestatic 163, 3) := dk_184 0 163 (dk_at dksX0_word_0 1 rfl rfl)
theorem dX0_word_4 : decode cX0_word 4 = .ok (.ifCond .eq 15, 3) := dk_153 0 15 (dk_at dksX0_word_0 4 rfl rfl)
theorem dX0_word_7 : decode cX0_word 7 = .ok (.aload_n 0, 1) := dk_42 (dk_at dksX0_word_0 7 rfl rfl)
theorem dX0_word_8 : decode cX0_word 8 = .ok (.getfield 67, 3) := dk_180 0 67 (dk_at dksX0_word_0 8 rfl rfl)
theorem dX0_word_11 : decode cX0_word 11 = .ok (.getfield 166, 3) := dk_180 0 166 (dk_at dksX0_word_0 11 rfl rfl)
theorem dX0_word_14 : decode cX0_word 14 = .ok (.iload_n 1, 1) := dk_27 (dk_at dksX0_word_0 14 rfl rfl)
theorem dX0_word_15 : decode cX0_word 15 = .ok (.iaload, 1) := dk_46 (dk_at dksX0_word_0 15 rfl rfl)
theorem dX0_word_16 : decode cX0_word 16 = .ok (.goto 5, 3) := dk_167 0 5 (dk_at dksX0_word_0 16 rfl rfl)
theorem dX0_word_19 : decode cX0_word 19 = .ok (.ldc 106, 2) := dk_18 106 (dk_at dksX0_word_0 19 rfl rfl)
theorem dX0_word_21 : decode cX0_word 21 = .ok (.ireturn, 1) := dk_172 (dk_at dksX0_word_0 21 rfl rfl)
abbrev cX0_operation : ByteArray := prog_1_method_27_code
def yX0_operation : MethodName := ⟨RX0, "operation", "(I)I"⟩
def dkwX0_operation_1 : List UInt8 := [172]
abbrev dktX0_operation_1 : List UInt8 := dkwX0_operation_1 ++ []
def dkwX0_operation_0 : List UInt8 := [27, 184, 0, 102, 153, 0, 18, 42, 180, 0, 67, 180, 0, 124, 27, 50, 180, 0, 210, 167, 0, 5, 18, 106]
abbrev dktX0_operation_0 : List UInt8 := dkwX0_operation_0 ++ dktX0_operation_1
theorem dksX0_operation_0 : cX0_operation.data.toList.drop 0 = dktX0_operation_0 := by decide +kernel
theorem dksX0_operation_1 : cX0_operation.data.toList.drop 24 = dktX0_operation_1 := dk_seg dksX0_operation_0 24 rfl rfl
theorem dX0_operation_0 : decode cX0_operation 0 = .ok (.iload_n 1, 1) := dk_27 (dk_at dksX0_operation_0 0 rfl rfl)
theorem dX0_operation_1 : decode cX0_operation 1 = .ok (.invokestatic 102, 3) := dk_184 0 102 (dk_at dksX0_operation_0 1 rfl rfl)
theorem dX0_operation_4 : decode cX0_operation 4 = .ok (.ifCond .eq 18, 3) := dk_153 0 18 (dk_at dksX0_operation_0 4 rfl rfl)
theorem dX0_operation_7 : decode cX0_operation 7 = .ok (.aload_n 0, 1) := dk_42 (dk_at dksX0_operation_0 7 rfl rfl)
theorem dX0_operation_8 : decode cX0_operation 8 = .ok (.getfield 67, 3) := dk_180 0 67 (dk_at dksX0_operation_0 8 rfl rfl)
theorem dX0_operation_11 : decode cX0_operation 11 = .ok (.getfield 124, 3) := dk_180 0 124 (dk_at dksX0_operation_0 11 rfl rfl)
theorem dX0_operation_14 : decode cX0_operation 14 = .ok (.iload_n 1, 1) := dk_27 (dk_at dksX0_operation_0 14 rfl rfl)
theorem dX0_operation_15 : decode cX0_operation 15 = .ok (.aaload, 1) := dk_50 (dk_at dksX0_operation_0 15 rfl rfl)
theorem dX0_operation_16 : decode cX0_operation 16 = .ok (.getfield 210, 3) := dk_180 0 210 (dk_at dksX0_operation_0 16 rfl rfl)
theorem dX0_operation_19 : decode cX0_operation 19 = .ok (.goto 5, 3) := dk_167 0 5 (dk_at dksX0_operation_0 19 rfl rfl)
theorem dX0_operation_22 : decode cX0_operation 22 = .ok (.ldc 106, 2) := dk_18 106 (dk_at dksX0_operation_0 22 rfl rfl)
theorem dX0_operation_24 : decode cX0_operation 24 = .ok (.ireturn, 1) := dk_172 (dk_at dksX0_operation_1 0 rfl rfl)
abbrev cX0_operand : ByteArray := prog_1_method_28_code
def yX0_operand : MethodName := ⟨RX0, "operand", "(II)I"⟩
def dkwX0_operand_2 : List UInt8 := [167, 0, 5, 18, 158, 172]
abbrev dktX0_operand_2 : List UInt8 := dkwX0_operand_2 ++ []
def dkwX0_operand_1 : List UInt8 := [180, 0, 213, 167, 0, 25, 28, 4, 160, 0, 18, 42, 180, 0, 67, 180, 0, 124, 27, 50, 180, 0, 216]
abbrev dktX0_operand_1 : List UInt8 := dkwX0_operand_1 ++ dktX0_operand_2
def dkwX0_operand_0 : List UInt8 := [27, 184, 0, 102, 154, 0, 6, 18, 106, 172, 28, 154, 0, 18, 42, 180, 0, 67, 180, 0, 124, 27, 50]
abbrev dktX0_operand_0 : List UInt8 := dkwX0_operand_0 ++ dktX0_operand_1
theorem dksX0_operand_0 : cX0_operand.data.toList.drop 0 = dktX0_operand_0 := by decide +kernel
theorem dksX0_operand_1 : cX0_operand.data.toList.drop 23 = dktX0_operand_1 := dk_seg dksX0_operand_0 23 rfl rfl
theorem dksX0_operand_2 : cX0_operand.data.toList.drop 46 = dktX0_operand_2 := dk_seg dksX0_operand_1 23 rfl rfl
theorem dX0_operand_0 : decode cX0_operand 0 = .ok (.iload_n 1, 1) := dk_27 (dk_at dksX0_operand_0 0 rfl rfl)
theorem dX0_operand_1 : decode cX0_operand 1 = .ok (.invokestatic 102, 3) := dk_184 0 102 (dk_at dksX0_operand_0 1 rfl rfl)
theorem dX0_operand_4 : decode cX0_operand 4 = .ok (.ifCond .ne 6, 3) := dk_154 0 6 (dk_at dksX0_operand_0 4 rfl rfl)
theorem dX0_operand_7 : decode cX0_operand 7 = .ok (.ldc 106, 2) := dk_18 106 (dk_at dksX0_operand_0 7 rfl rfl)
theorem dX0_operand_9 : decode cX0_operand 9 = .ok (.ireturn, 1) := dk_172 (dk_at dksX0_operand_0 9 rfl rfl)
theorem dX0_operand_10 : decode cX0_operand 10 = .ok (.iload_n 2, 1) := dk_28 (dk_at dksX0_operand_0 10 rfl rfl)
theorem dX0_operand_11 : decode cX0_operand 11 = .ok (.ifCond .ne 18, 3) := dk_154 0 18 (dk_at dksX0_operand_0 11 rfl rfl)
theorem dX0_operand_14 : decode cX0_operand 14 = .ok (.aload_n 0, 1) := dk_42 (dk_at dksX0_operand_0 14 rfl rfl)
theorem dX0_operand_15 : decode cX0_operand 15 = .ok (.getfield 67, 3) := dk_180 0 67 (dk_at dksX0_operand_0 15 rfl rfl)
theorem dX0_operand_18 : decode cX0_operand 18 = .ok (.getfield 124, 3) := dk_180 0 124 (dk_at dksX0_operand_0 18 rfl rfl)
theorem dX0_operand_21 : decode cX0_operand 21 = .ok (.iload_n 1, 1) := dk_27 (dk_at dksX0_operand_0 21 rfl rfl)
theorem dX0_operand_22 : decode cX0_operand 22 = .ok (.aaload, 1) := dk_50 (dk_at dksX0_operand_0 22 rfl rfl)
theorem dX0_operand_23 : decode cX0_operand 23 = .ok (.getfield 213, 3) := dk_180 0 213 (dk_at dksX0_operand_1 0 rfl rfl)
theorem dX0_operand_26 : decode cX0_operand 26 = .ok (.goto 25, 3) := dk_167 0 25 (dk_at dksX0_operand_1 3 rfl rfl)
theorem dX0_operand_29 : decode cX0_operand 29 = .ok (.iload_n 2, 1) := dk_28 (dk_at dksX0_operand_1 6 rfl rfl)
theorem dX0_operand_30 : decode cX0_operand 30 = .ok (.iconst 1, 1) := dk_4 (dk_at dksX0_operand_1 7 rfl rfl)
theorem dX0_operand_31 : decode cX0_operand 31 = .ok (.if_icmp .ne 18, 3) := dk_160 0 18 (dk_at dksX0_operand_1 8 rfl rfl)
theorem dX0_operand_34 : decode cX0_operand 34 = .ok (.aload_n 0, 1) := dk_42 (dk_at dksX0_operand_1 11 rfl rfl)
theorem dX0_operand_35 : decode cX0_operand 35 = .ok (.getfield 67, 3) := dk_180 0 67 (dk_at dksX0_operand_1 12 rfl rfl)
theorem dX0_operand_38 : decode cX0_operand 38 = .ok (.getfield 124, 3) := dk_180 0 124 (dk_at dksX0_operand_1 15 rfl rfl)
theorem dX0_operand_41 : decode cX0_operand 41 = .ok (.iload_n 1, 1) := dk_27 (dk_at dksX0_operand_1 18 rfl rfl)
theorem dX0_operand_42 : decode cX0_operand 42 = .ok (.aaload, 1) := dk_50 (dk_at dksX0_operand_1 19 rfl rfl)
theorem dX0_operand_43 : decode cX0_operand 43 = .ok (.getfield 216, 3) := dk_180 0 216 (dk_at dksX0_operand_1 20 rfl rfl)
theorem dX0_operand_46 : decode cX0_operand 46 = .ok (.goto 5, 3) := dk_167 0 5 (dk_at dksX0_operand_2 0 rfl rfl)
theorem dX0_operand_49 : decode cX0_operand 49 = .ok (.ldc 158, 2) := dk_18 158 (dk_at dksX0_operand_2 3 rfl rfl)
theorem dX0_operand_51 : decode cX0_operand 51 = .ok (.ireturn, 1) := dk_172 (dk_at dksX0_operand_2 5 rfl rfl)
abbrev cX0_slot : ByteArray := prog_1_method_29_code
def yX0_slot : MethodName := ⟨RX0, "slot", "(I)I"⟩
def dkwX0_slot_1 : List UInt8 := [172]
abbrev dktX0_slot_1 : List UInt8 := dkwX0_slot_1 ++ []
def dkwX0_slot_0 : List UInt8 := [27, 3, 16, 7, 184, 0, 3, 153, 0, 15, 42, 180, 0, 67, 180, 0, 169, 27, 46, 167, 0, 5, 18, 106]
abbrev dktX0_slot_0 : List UInt8 := dkwX0_slot_0 ++ dktX0_slot_1
theorem dksX0_slot_0 : cX0_slot.data.toList.drop 0 = dktX0_slot_0 := by decide +kernel
theorem dksX0_slot_1 : cX0_slot.data.toList.drop 24 = dktX0_slot_1 := dk_seg dksX0_slot_0 24 rfl rfl
theorem dX0_slot_0 : decode cX0_slot 0 = .ok (.iload_n 1, 1) := dk_27 (dk_at dksX0_slot_0 0 rfl rfl)
theorem dX0_slot_1 : decode cX0_slot 1 = .ok (.iconst 0, 1) := dk_3 (dk_at dksX0_slot_0 1 rfl rfl)
theorem dX0_slot_2 : decode cX0_slot 2 = .ok (.bipush 7, 2) := dk_16 7 (dk_at dksX0_slot_0 2 rfl rfl)
theorem dX0_slot_4 : decode cX0_slot 4 = .ok (.invokestatic 3, 3) := dk_184 0 3 (dk_at dksX0_slot_0 4 rfl rfl)
theorem dX0_slot_7 : decode cX0_slot 7 = .ok (.ifCond .eq 15, 3) := dk_153 0 15 (dk_at dksX0_slot_0 7 rfl rfl)
theorem dX0_slot_10 : decode cX0_slot 10 = .ok (.aload_n 0, 1) := dk_42 (dk_at dksX0_slot_0 10 rfl rfl)
theorem dX0_slot_11 : decode cX0_slot 11 = .ok (.getfield 67, 3) := dk_180 0 67 (dk_at dksX0_slot_0 11 rfl rfl)
theorem dX0_slot_14 : decode cX0_slot 14 = .ok (.getfield 169, 3) := dk_180 0 169 (dk_at dksX0_slot_0 14 rfl rfl)
theorem dX0_slot_17 : decode cX0_slot 17 = .ok (.iload_n 1, 1) := dk_27 (dk_at dksX0_slot_0 17 rfl rfl)
theorem dX0_slot_18 : decode cX0_slot 18 = .ok (.iaload, 1) := dk_46 (dk_at dksX0_slot_0 18 rfl rfl)
theorem dX0_slot_19 : decode cX0_slot 19 = .ok (.goto 5, 3) := dk_167 0 5 (dk_at dksX0_slot_0 19 rfl rfl)
theorem dX0_slot_22 : decode cX0_slot 22 = .ok (.ldc 106, 2) := dk_18 106 (dk_at dksX0_slot_0 22 rfl rfl)
theorem dX0_slot_24 : decode cX0_slot 24 = .ok (.ireturn, 1) := dk_172 (dk_at dksX0_slot_1 0 rfl rfl)
abbrev cX0_setting : ByteArray := prog_1_method_30_code
def yX0_setting : MethodName := ⟨RX0, "setting", "(I)I"⟩
def dkwX0_setting_0 : List UInt8 := [27, 184, 0, 172, 153, 0, 15, 42, 180, 0, 67, 180, 0, 175, 27, 46, 167, 0, 5, 18, 106, 172]
abbrev dktX0_setting_0 : List UInt8 := dkwX0_setting_0 ++ []
theorem dksX0_setting_0 : cX0_setting.data.toList.drop 0 = dktX0_setting_0 := by decide +kernel
theorem dX0_setting_0 : decode cX0_setting 0 = .ok (.iload_n 1, 1) := dk_27 (dk_at dksX0_setting_0 0 rfl rfl)
theorem dX0_setting_1 : decode cX0_setting 1 = .ok (.invokestatic 172, 3) := dk_184 0 172 (dk_at dksX0_setting_0 1 rfl rfl)
theorem dX0_setting_4 : decode cX0_setting 4 = .ok (.ifCond .eq 15, 3) := dk_153 0 15 (dk_at dksX0_setting_0 4 rfl rfl)
theorem dX0_setting_7 : decode cX0_setting 7 = .ok (.aload_n 0, 1) := dk_42 (dk_at dksX0_setting_0 7 rfl rfl)
theorem dX0_setting_8 : decode cX0_setting 8 = .ok (.getfield 67, 3) := dk_180 0 67 (dk_at dksX0_setting_0 8 rfl rfl)
theorem dX0_setting_11 : decode cX0_setting 11 = .ok (.getfield 175, 3) := dk_180 0 175 (dk_at dksX0_setting_0 11 rfl rfl)
theorem dX0_setting_14 : decode cX0_setting 14 = .ok (.iload_n 1, 1) := dk_27 (dk_at dksX0_setting_0 14 rfl rfl)
theorem dX0_setting_15 : decode cX0_setting 15 = .ok (.iaload, 1) := dk_46 (dk_at dksX0_setting_0 15 rfl rfl)
theorem dX0_setting_16 : decode cX0_setting 16 = .ok (.goto 5, 3) := dk_167 0 5 (dk_at dksX0_setting_0 16 rfl rfl)
theorem dX0_setting_19 : decode cX0_setting 19 = .ok (.ldc 106, 2) := dk_18 106 (dk_at dksX0_setting_0 19 rfl rfl)
theorem dX0_setting_21 : decode cX0_setting 21 = .ok (.ireturn, 1) := dk_172 (dk_at dksX0_setting_0 21 rfl rfl)
abbrev cX0_breakpoint : ByteArray := prog_1_method_31_code
def yX0_breakpoint : MethodName := ⟨RX0, "breakpoint", "(I)I"⟩
def dkwX0_breakpoint_1 : List UInt8 := [167, 0, 4, 3, 172]
abbrev dktX0_breakpoint_1 : List UInt8 := dkwX0_breakpoint_1 ++ []
def dkwX0_breakpoint_0 : List UInt8 := [27, 184, 0, 102, 154, 0, 6, 18, 106, 172, 42, 180, 0, 67, 180, 0, 178, 27, 51, 153, 0, 7, 4]
abbrev dktX0_breakpoint_0 : List UInt8 := dkwX0_breakpoint_0 ++ dktX0_breakpoint_1
theorem dksX0_breakpoint_0 : cX0_breakpoint.data.toList.drop 0 = dktX0_breakpoint_0 := by decide +kernel
theorem dksX0_breakpoint_1 : cX0_breakpoint.data.toList.drop 23 = dktX0_breakpoint_1 := dk_seg dksX0_breakpoint_0 23 rfl rfl
theorem dX0_breakpoint_0 : decode cX0_breakpoint 0 = .ok (.iload_n 1, 1) := dk_27 (dk_at dksX0_breakpoint_0 0 rfl rfl)
theorem dX0_breakpoint_1 : decode cX0_breakpoint 1 = .ok (.invokestatic 102, 3) := dk_184 0 102 (dk_at dksX0_breakpoint_0 1 rfl rfl)
theorem dX0_breakpoint_4 : decode cX0_breakpoint 4 = .ok (.ifCond .ne 6, 3) := dk_154 0 6 (dk_at dksX0_breakpoint_0 4 rfl rfl)
theorem dX0_breakpoint_7 : decode cX0_breakpoint 7 = .ok (.ldc 106, 2) := dk_18 106 (dk_at dksX0_breakpoint_0 7 rfl rfl)
theorem dX0_breakpoint_9 : decode cX0_breakpoint 9 = .ok (.ireturn, 1) := dk_172 (dk_at dksX0_breakpoint_0 9 rfl rfl)
theorem dX0_breakpoint_10 : decode cX0_breakpoint 10 = .ok (.aload_n 0, 1) := dk_42 (dk_at dksX0_breakpoint_0 10 rfl rfl)
theorem dX0_breakpoint_11 : decode cX0_breakpoint 11 = .ok (.getfield 67, 3) := dk_180 0 67 (dk_at dksX0_breakpoint_0 11 rfl rfl)
theorem dX0_breakpoint_14 : decode cX0_breakpoint 14 = .ok (.getfield 178, 3) := dk_180 0 178 (dk_at dksX0_breakpoint_0 14 rfl rfl)
theorem dX0_breakpoint_17 : decode cX0_breakpoint 17 = .ok (.iload_n 1, 1) := dk_27 (dk_at dksX0_breakpoint_0 17 rfl rfl)
theorem dX0_breakpoint_18 : decode cX0_breakpoint 18 = .ok (.baload, 1) := dk_51 (dk_at dksX0_breakpoint_0 18 rfl rfl)
theorem dX0_breakpoint_19 : decode cX0_breakpoint 19 = .ok (.ifCond .eq 7, 3) := dk_153 0 7 (dk_at dksX0_breakpoint_0 19 rfl rfl)
theorem dX0_breakpoint_22 : decode cX0_breakpoint 22 = .ok (.iconst 1, 1) := dk_4 (dk_at dksX0_breakpoint_0 22 rfl rfl)
theorem dX0_breakpoint_23 : decode cX0_breakpoint 23 = .ok (.goto 4, 3) := dk_167 0 4 (dk_at dksX0_breakpoint_1 0 rfl rfl)
theorem dX0_breakpoint_26 : decode cX0_breakpoint 26 = .ok (.iconst 0, 1) := dk_3 (dk_at dksX0_breakpoint_1 3 rfl rfl)
theorem dX0_breakpoint_27 : decode cX0_breakpoint 27 = .ok (.ireturn, 1) := dk_172 (dk_at dksX0_breakpoint_1 4 rfl rfl)
abbrev cX0_cycle : ByteArray := prog_1_method_32_code
def yX0_cycle : MethodName := ⟨RX0, "cycle", "()I"⟩
def dkwX0_cycle_0 : List UInt8 := [42, 180, 0, 67, 180, 0, 219, 172]
abbrev dktX0_cycle_0 : List UInt8 := dkwX0_cycle_0 ++ []
theorem dksX0_cycle_0 : cX0_cycle.data.toList.drop 0 = dktX0_cycle_0 := by decide +kernel
theorem dX0_cycle_0 : decode cX0_cycle 0 = .ok (.aload_n 0, 1) := dk_42 (dk_at dksX0_cycle_0 0 rfl rfl)
theorem dX0_cycle_1 : decode cX0_cycle 1 = .ok (.getfield 67, 3) := dk_180 0 67 (dk_at dksX0_cycle_0 1 rfl rfl)
theorem dX0_cycle_4 : decode cX0_cycle 4 = .ok (.getfield 219, 3) := dk_180 0 219 (dk_at dksX0_cycle_0 4 rfl rfl)
theorem dX0_cycle_7 : decode cX0_cycle 7 = .ok (.ireturn, 1) := dk_172 (dk_at dksX0_cycle_0 7 rfl rfl)
abbrev cX0_idle : ByteArray := prog_1_method_33_code
def yX0_idle : MethodName := ⟨RX0, "idle", "()I"⟩
def dkwX0_idle_0 : List UInt8 := [42, 180, 0, 67, 180, 0, 222, 172]
abbrev dktX0_idle_0 : List UInt8 := dkwX0_idle_0 ++ []
theorem dksX0_idle_0 : cX0_idle.data.toList.drop 0 = dktX0_idle_0 := by decide +kernel
theorem dX0_idle_0 : decode cX0_idle 0 = .ok (.aload_n 0, 1) := dk_42 (dk_at dksX0_idle_0 0 rfl rfl)
theorem dX0_idle_1 : decode cX0_idle 1 = .ok (.getfield 67, 3) := dk_180 0 67 (dk_at dksX0_idle_0 1 rfl rfl)
theorem dX0_idle_4 : decode cX0_idle 4 = .ok (.getfield 222, 3) := dk_180 0 222 (dk_at dksX0_idle_0 4 rfl rfl)
theorem dX0_idle_7 : decode cX0_idle 7 = .ok (.ireturn, 1) := dk_172 (dk_at dksX0_idle_0 7 rfl rfl)
abbrev cX0_executed : ByteArray := prog_1_method_34_code
def yX0_executed : MethodName := ⟨RX0, "executed", "(I)I"⟩
def dkwX0_executed_1 : List UInt8 := [172]
abbrev dktX0_executed_1 : List UInt8 := dkwX0_executed_1 ++ []
def dkwX0_executed_0 : List UInt8 := [27, 184, 0, 131, 153, 0, 18, 42, 180, 0, 67, 180, 0, 134, 27, 50, 180, 0, 225, 167, 0, 5, 18, 106]
abbrev dktX0_executed_0 : List UInt8 := dkwX0_executed_0 ++ dktX0_executed_1
theorem dksX0_executed_0 : cX0_executed.data.toList.drop 0 = dktX0_executed_0 := by decide +kernel
theorem dksX0_executed_1 : cX0_executed.data.toList.drop 24 = dktX0_executed_1 := dk_seg dksX0_executed_0 24 rfl rfl
theorem dX0_executed_0 : decode cX0_executed 0 = .ok (.iload_n 1, 1) := dk_27 (dk_at dksX0_executed_0 0 rfl rfl)
theorem dX0_executed_1 : decode cX0_executed 1 = .ok (.invokestatic 131, 3) := dk_184 0 131 (dk_at dksX0_executed_0 1 rfl rfl)
theorem dX0_executed_4 : decode cX0_executed 4 = .ok (.ifCond .eq 18, 3) := dk_153 0 18 (dk_at dksX0_executed_0 4 rfl rfl)
theorem dX0_executed_7 : decode cX0_executed 7 = .ok (.aload_n 0, 1) := dk_42 (dk_at dksX0_executed_0 7 rfl rfl)
theorem dX0_executed_8 : decode cX0_executed 8 = .ok (.getfield 67, 3) := dk_180 0 67 (dk_at dksX0_executed_0 8 rfl rfl)
theorem dX0_executed_11 : decode cX0_executed 11 = .ok (.getfield 134, 3) := dk_180 0 134 (dk_at dksX0_executed_0 11 rfl rfl)
theorem dX0_executed_14 : decode cX0_executed 14 = .ok (.iload_n 1, 1) := dk_27 (dk_at dksX0_executed_0 14 rfl rfl)
theorem dX0_executed_15 : decode cX0_executed 15 = .ok (.aaload, 1) := dk_50 (dk_at dksX0_executed_0 15 rfl rfl)
theorem dX0_executed_16 : decode cX0_executed 16 = .ok (.getfield 225, 3) := dk_180 0 225 (dk_at dksX0_executed_0 16 rfl rfl)
theorem dX0_executed_19 : decode cX0_executed 19 = .ok (.goto 5, 3) := dk_167 0 5 (dk_at dksX0_executed_0 19 rfl rfl)
theorem dX0_executed_22 : decode cX0_executed 22 = .ok (.ldc 106, 2) := dk_18 106 (dk_at dksX0_executed_0 22 rfl rfl)
theorem dX0_executed_24 : decode cX0_executed 24 = .ok (.ireturn, 1) := dk_172 (dk_at dksX0_executed_1 0 rfl rfl)
abbrev cX0_lent : ByteArray := prog_1_method_35_code
def yX0_lent : MethodName := ⟨RX0, "lent", "(I)I"⟩
def dkwX0_lent_1 : List UInt8 := [172]
abbrev dktX0_lent_1 : List UInt8 := dkwX0_lent_1 ++ []
def dkwX0_lent_0 : List UInt8 := [27, 184, 0, 131, 153, 0, 18, 42, 180, 0, 67, 180, 0, 134, 27, 50, 180, 0, 228, 167, 0, 5, 18, 106]
abbrev dktX0_lent_0 : List UInt8 := dkwX0_lent_0 ++ dktX0_lent_1
theorem dksX0_lent_0 : cX0_lent.data.toList.drop 0 = dktX0_lent_0 := by decide +kernel
theorem dksX0_lent_1 : cX0_lent.data.toList.drop 24 = dktX0_lent_1 := dk_seg dksX0_lent_0 24 rfl rfl
theorem dX0_lent_0 : decode cX0_lent 0 = .ok (.iload_n 1, 1) := dk_27 (dk_at dksX0_lent_0 0 rfl rfl)
theorem dX0_lent_1 : decode cX0_lent 1 = .ok (.invokestatic 131, 3) := dk_184 0 131 (dk_at dksX0_lent_0 1 rfl rfl)
theorem dX0_lent_4 : decode cX0_lent 4 = .ok (.ifCond .eq 18, 3) := dk_153 0 18 (dk_at dksX0_lent_0 4 rfl rfl)
theorem dX0_lent_7 : decode cX0_lent 7 = .ok (.aload_n 0, 1) := dk_42 (dk_at dksX0_lent_0 7 rfl rfl)
theorem dX0_lent_8 : decode cX0_lent 8 = .ok (.getfield 67, 3) := dk_180 0 67 (dk_at dksX0_lent_0 8 rfl rfl)
theorem dX0_lent_11 : decode cX0_lent 11 = .ok (.getfield 134, 3) := dk_180 0 134 (dk_at dksX0_lent_0 11 rfl rfl)
theorem dX0_lent_14 : decode cX0_lent 14 = .ok (.iload_n 1, 1) := dk_27 (dk_at dksX0_lent_0 14 rfl rfl)
theorem dX0_lent_15 : decode cX0_lent 15 = .ok (.aaload, 1) := dk_50 (dk_at dksX0_lent_0 15 rfl rfl)
theorem dX0_lent_16 : decode cX0_lent 16 = .ok (.getfield 228, 3) := dk_180 0 228 (dk_at dksX0_lent_0 16 rfl rfl)
theorem dX0_lent_19 : decode cX0_lent 19 = .ok (.goto 5, 3) := dk_167 0 5 (dk_at dksX0_lent_0 19 rfl rfl)
theorem dX0_lent_22 : decode cX0_lent 22 = .ok (.ldc 106, 2) := dk_18 106 (dk_at dksX0_lent_0 22 rfl rfl)
theorem dX0_lent_24 : decode cX0_lent 24 = .ok (.ireturn, 1) := dk_172 (dk_at dksX0_lent_1 0 rfl rfl)
abbrev cX0_starved : ByteArray := prog_1_method_36_code
def yX0_starved : MethodName := ⟨RX0, "starved", "(I)I"⟩
def dkwX0_starved_1 : List UInt8 := [172]
abbrev dktX0_starved_1 : List UInt8 := dkwX0_starved_1 ++ []
def dkwX0_starved_0 : List UInt8 := [27, 184, 0, 131, 153, 0, 18, 42, 180, 0, 67, 180, 0, 134, 27, 50, 180, 0, 231, 167, 0, 5, 18, 106]
abbrev dktX0_starved_0 : List UInt8 := dkwX0_starved_0 ++ dktX0_starved_1
theorem dksX0_starved_0 : cX0_starved.data.toList.drop 0 = dktX0_starved_0 := by decide +kernel
theorem dksX0_starved_1 : cX0_starved.data.toList.drop 24 = dktX0_starved_1 := dk_seg dksX0_starved_0 24 rfl rfl
theorem dX0_starved_0 : decode cX0_starved 0 = .ok (.iload_n 1, 1) := dk_27 (dk_at dksX0_starved_0 0 rfl rfl)
theorem dX0_starved_1 : decode cX0_starved 1 = .ok (.invokestatic 131, 3) := dk_184 0 131 (dk_at dksX0_starved_0 1 rfl rfl)
theorem dX0_starved_4 : decode cX0_starved 4 = .ok (.ifCond .eq 18, 3) := dk_153 0 18 (dk_at dksX0_starved_0 4 rfl rfl)
theorem dX0_starved_7 : decode cX0_starved 7 = .ok (.aload_n 0, 1) := dk_42 (dk_at dksX0_starved_0 7 rfl rfl)
theorem dX0_starved_8 : decode cX0_starved 8 = .ok (.getfield 67, 3) := dk_180 0 67 (dk_at dksX0_starved_0 8 rfl rfl)
theorem dX0_starved_11 : decode cX0_starved 11 = .ok (.getfield 134, 3) := dk_180 0 134 (dk_at dksX0_starved_0 11 rfl rfl)
theorem dX0_starved_14 : decode cX0_starved 14 = .ok (.iload_n 1, 1) := dk_27 (dk_at dksX0_starved_0 14 rfl rfl)
theorem dX0_starved_15 : decode cX0_starved 15 = .ok (.aaload, 1) := dk_50 (dk_at dksX0_starved_0 15 rfl rfl)
theorem dX0_starved_16 : decode cX0_starved 16 = .ok (.getfield 231, 3) := dk_180 0 231 (dk_at dksX0_starved_0 16 rfl rfl)
theorem dX0_starved_19 : decode cX0_starved 19 = .ok (.goto 5, 3) := dk_167 0 5 (dk_at dksX0_starved_0 19 rfl rfl)
theorem dX0_starved_22 : decode cX0_starved 22 = .ok (.ldc 106, 2) := dk_18 106 (dk_at dksX0_starved_0 22 rfl rfl)
theorem dX0_starved_24 : decode cX0_starved 24 = .ok (.ireturn, 1) := dk_172 (dk_at dksX0_starved_1 0 rfl rfl)
abbrev cX0_trace : ByteArray := prog_1_method_37_code
def yX0_trace : MethodName := ⟨RX0, "trace", "(II)I"⟩
def dkwX0_trace_4 : List UInt8 := [172]
abbrev dktX0_trace_4 : List UInt8 := dkwX0_trace_4 ++ []
def dkwX0_trace_3 : List UInt8 := [160, 0, 15, 42, 180, 0, 67, 180, 0, 240, 29, 46, 167, 0, 12, 42, 180, 0, 67, 180, 0, 243, 29, 46]
abbrev dktX0_trace_3 : List UInt8 := dkwX0_trace_3 ++ dktX0_trace_4
def dkwX0_trace_2 : List UInt8 := [16, 16, 112, 62, 28, 154, 0, 15, 42, 180, 0, 67, 180, 0, 237, 29, 46, 167, 0, 29, 28, 4]
abbrev dktX0_trace_2 : List UInt8 := dkwX0_trace_2 ++ dktX0_trace_3
def dkwX0_trace_1 : List UInt8 := [180, 0, 67, 180, 0, 234, 161, 0, 6, 18, 54, 172, 42, 180, 0, 67, 180, 0, 234, 4, 100, 27, 100]
abbrev dktX0_trace_1 : List UInt8 := dkwX0_trace_1 ++ dktX0_trace_2
def dkwX0_trace_0 : List UInt8 := [27, 155, 0, 12, 28, 3, 5, 184, 0, 3, 154, 0, 6, 18, 158, 172, 27, 16, 16, 162, 0, 14, 27, 42]
abbrev dktX0_trace_0 : List UInt8 := dkwX0_trace_0 ++ dktX0_trace_1
theorem dksX0_trace_0 : cX0_trace.data.toList.drop 0 = dktX0_trace_0 := by decide +kernel
theorem dksX0_trace_1 : cX0_trace.data.toList.drop 24 = dktX0_trace_1 := dk_seg dksX0_trace_0 24 rfl rfl
theorem dksX0_trace_2 : cX0_trace.data.toList.drop 47 = dktX0_trace_2 := dk_seg dksX0_trace_1 23 rfl rfl
theorem dksX0_trace_3 : cX0_trace.data.toList.drop 69 = dktX0_trace_3 := dk_seg dksX0_trace_2 22 rfl rfl
theorem dksX0_trace_4 : cX0_trace.data.toList.drop 93 = dktX0_trace_4 := dk_seg dksX0_trace_3 24 rfl rfl
theorem dX0_trace_0 : decode cX0_trace 0 = .ok (.iload_n 1, 1) := dk_27 (dk_at dksX0_trace_0 0 rfl rfl)
theorem dX0_trace_1 : decode cX0_trace 1 = .ok (.ifCond .lt 12, 3) := dk_155 0 12 (dk_at dksX0_trace_0 1 rfl rfl)
theorem dX0_trace_4 : decode cX0_trace 4 = .ok (.iload_n 2, 1) := dk_28 (dk_at dksX0_trace_0 4 rfl rfl)
theorem dX0_trace_5 : decode cX0_trace 5 = .ok (.iconst 0, 1) := dk_3 (dk_at dksX0_trace_0 5 rfl rfl)
theorem dX0_trace_6 : decode cX0_trace 6 = .ok (.iconst 2, 1) := dk_5 (dk_at dksX0_trace_0 6 rfl rfl)
theorem dX0_trace_7 : decode cX0_trace 7 = .ok (.invokestatic 3, 3) := dk_184 0 3 (dk_at dksX0_trace_0 7 rfl rfl)
theorem dX0_trace_10 : decode cX0_trace 10 = .ok (.ifCond .ne 6, 3) := dk_154 0 6 (dk_at dksX0_trace_0 10 rfl rfl)
theorem dX0_trace_13 : decode cX0_trace 13 = .ok (.ldc 158, 2) := dk_18 158 (dk_at dksX0_trace_0 13 rfl rfl)
theorem dX0_trace_15 : decode cX0_trace 15 = .ok (.ireturn, 1) := dk_172 (dk_at dksX0_trace_0 15 rfl rfl)
theorem dX0_trace_16 : decode cX0_trace 16 = .ok (.iload_n 1, 1) := dk_27 (dk_at dksX0_trace_0 16 rfl rfl)
theorem dX0_trace_17 : decode cX0_trace 17 = .ok (.bipush 16, 2) := dk_16 16 (dk_at dksX0_trace_0 17 rfl rfl)
theorem dX0_trace_19 : decode cX0_trace 19 = .ok (.if_icmp .ge 14, 3) := dk_162 0 14 (dk_at dksX0_trace_0 19 rfl rfl)
theorem dX0_trace_22 : decode cX0_trace 22 = .ok (.iload_n 1, 1) := dk_27 (dk_at dksX0_trace_0 22 rfl rfl)
theorem dX0_trace_23 : decode cX0_trace 23 = .ok (.aload_n 0, 1) := dk_42 (dk_at dksX0_trace_0 23 rfl rfl)
theorem dX0_trace_24 : decode cX0_trace 24 = .ok (.getfield 67, 3) := dk_180 0 67 (dk_at dksX0_trace_1 0 rfl rfl)
theorem dX0_trace_27 : decode cX0_trace 27 = .ok (.getfield 234, 3) := dk_180 0 234 (dk_at dksX0_trace_1 3 rfl rfl)
theorem dX0_trace_30 : decode cX0_trace 30 = .ok (.if_icmp .lt 6, 3) := dk_161 0 6 (dk_at dksX0_trace_1 6 rfl rfl)
theorem dX0_trace_33 : decode cX0_trace 33 = .ok (.ldc 54, 2) := dk_18 54 (dk_at dksX0_trace_1 9 rfl rfl)
theorem dX0_trace_35 : decode cX0_trace 35 = .ok (.ireturn, 1) := dk_172 (dk_at dksX0_trace_1 11 rfl rfl)
theorem dX0_trace_36 : decode cX0_trace 36 = .ok (.aload_n 0, 1) := dk_42 (dk_at dksX0_trace_1 12 rfl rfl)
theorem dX0_trace_37 : decode cX0_trace 37 = .ok (.getfield 67, 3) := dk_180 0 67 (dk_at dksX0_trace_1 13 rfl rfl)
theorem dX0_trace_40 : decode cX0_trace 40 = .ok (.getfield 234, 3) := dk_180 0 234 (dk_at dksX0_trace_1 16 rfl rfl)
theorem dX0_trace_43 : decode cX0_trace 43 = .ok (.iconst 1, 1) := dk_4 (dk_at dksX0_trace_1 19 rfl rfl)
theorem dX0_trace_44 : decode cX0_trace 44 = .ok (.isub, 1) := dk_100 (dk_at dksX0_trace_1 20 rfl rfl)
theorem dX0_trace_45 : decode cX0_trace 45 = .ok (.iload_n 1, 1) := dk_27 (dk_at dksX0_trace_1 21 rfl rfl)
theorem dX0_trace_46 : decode cX0_trace 46 = .ok (.isub, 1) := dk_100 (dk_at dksX0_trace_1 22 rfl rfl)
theorem dX0_trace_47 : decode cX0_trace 47 = .ok (.bipush 16, 2) := dk_16 16 (dk_at dksX0_trace_2 0 rfl rfl)
theorem dX0_trace_49 : decode cX0_trace 49 = .ok (.irem, 1) := dk_112 (dk_at dksX0_trace_2 2 rfl rfl)
theorem dX0_trace_50 : decode cX0_trace 50 = .ok (.istore_n 3, 1) := dk_62 (dk_at dksX0_trace_2 3 rfl rfl)
theorem dX0_trace_51 : decode cX0_trace 51 = .ok (.iload_n 2, 1) := dk_28 (dk_at dksX0_trace_2 4 rfl rfl)
theorem dX0_trace_52 : decode cX0_trace 52 = .ok (.ifCond .ne 15, 3) := dk_154 0 15 (dk_at dksX0_trace_2 5 rfl rfl)
theorem dX0_trace_55 : decode cX0_trace 55 = .ok (.aload_n 0, 1) := dk_42 (dk_at dksX0_trace_2 8 rfl rfl)
theorem dX0_trace_56 : decode cX0_trace 56 = .ok (.getfield 67, 3) := dk_180 0 67 (dk_at dksX0_trace_2 9 rfl rfl)
theorem dX0_trace_59 : decode cX0_trace 59 = .ok (.getfield 237, 3) := dk_180 0 237 (dk_at dksX0_trace_2 12 rfl rfl)
theorem dX0_trace_62 : decode cX0_trace 62 = .ok (.iload_n 3, 1) := dk_29 (dk_at dksX0_trace_2 15 rfl rfl)
theorem dX0_trace_63 : decode cX0_trace 63 = .ok (.iaload, 1) := dk_46 (dk_at dksX0_trace_2 16 rfl rfl)
theorem dX0_trace_64 : decode cX0_trace 64 = .ok (.goto 29, 3) := dk_167 0 29 (dk_at dksX0_trace_2 17 rfl rfl)
theorem dX0_trace_67 : decode cX0_trace 67 = .ok (.iload_n 2, 1) := dk_28 (dk_at dksX0_trace_2 20 rfl rfl)
theorem dX0_trace_68 : decode cX0_trace 68 = .ok (.iconst 1, 1) := dk_4 (dk_at dksX0_trace_2 21 rfl rfl)
theorem dX0_trace_69 : decode cX0_trace 69 = .ok (.if_icmp .ne 15, 3) := dk_160 0 15 (dk_at dksX0_trace_3 0 rfl rfl)
theorem dX0_trace_72 : decode cX0_trace 72 = .ok (.aload_n 0, 1) := dk_42 (dk_at dksX0_trace_3 3 rfl rfl)
theorem dX0_trace_73 : decode cX0_trace 73 = .ok (.getfield 67, 3) := dk_180 0 67 (dk_at dksX0_trace_3 4 rfl rfl)
theorem dX0_trace_76 : decode cX0_trace 76 = .ok (.getfield 240, 3) := dk_180 0 240 (dk_at dksX0_trace_3 7 rfl rfl)
theorem dX0_trace_79 : decode cX0_trace 79 = .ok (.iload_n 3, 1) := dk_29 (dk_at dksX0_trace_3 10 rfl rfl)
theorem dX0_trace_80 : decode cX0_trace 80 = .ok (.iaload, 1) := dk_46 (dk_at dksX0_trace_3 11 rfl rfl)
theorem dX0_trace_81 : decode cX0_trace 81 = .ok (.goto 12, 3) := dk_167 0 12 (dk_at dksX0_trace_3 12 rfl rfl)
theorem dX0_trace_84 : decode cX0_trace 84 = .ok (.aload_n 0, 1) := dk_42 (dk_at dksX0_trace_3 15 rfl rfl)
theorem dX0_trace_85 : decode cX0_trace 85 = .ok (.getfield 67, 3) := dk_180 0 67 (dk_at dksX0_trace_3 16 rfl rfl)
theorem dX0_trace_88 : decode cX0_trace 88 = .ok (.getfield 243, 3) := dk_180 0 243 (dk_at dksX0_trace_3 19 rfl rfl)
theorem dX0_trace_91 : decode cX0_trace 91 = .ok (.iload_n 3, 1) := dk_29 (dk_at dksX0_trace_3 22 rfl rfl)
theorem dX0_trace_92 : decode cX0_trace 92 = .ok (.iaload, 1) := dk_46 (dk_at dksX0_trace_3 23 rfl rfl)
theorem dX0_trace_93 : decode cX0_trace 93 = .ok (.ireturn, 1) := dk_172 (dk_at dksX0_trace_4 0 rfl rfl)
abbrev cX0_use : ByteArray := prog_1_method_38_code
def yX0_use : MethodName := ⟨RX0, "use", "()F"⟩
def dkwX0_use_1 : List UInt8 := [180, 0, 67, 180, 0, 222, 100, 134, 42, 180, 0, 67, 180, 0, 219, 134, 110, 174]
abbrev dktX0_use_1 : List UInt8 := dkwX0_use_1 ++ []
def dkwX0_use_0 : List UInt8 := [42, 180, 0, 67, 180, 0, 219, 154, 0, 7, 11, 167, 0, 28, 42, 180, 0, 67, 180, 0, 219, 42]
abbrev dktX0_use_0 : List UInt8 := dkwX0_use_0 ++ dktX0_use_1
theorem dksX0_use_0 : cX0_use.data.toList.drop 0 = dktX0_use_0 := by decide +kernel
theorem dksX0_use_1 : cX0_use.data.toList.drop 22 = dktX0_use_1 := dk_seg dksX0_use_0 22 rfl rfl
theorem dX0_use_0 : decode cX0_use 0 = .ok (.aload_n 0, 1) := dk_42 (dk_at dksX0_use_0 0 rfl rfl)
theorem dX0_use_1 : decode cX0_use 1 = .ok (.getfield 67, 3) := dk_180 0 67 (dk_at dksX0_use_0 1 rfl rfl)
theorem dX0_use_4 : decode cX0_use 4 = .ok (.getfield 219, 3) := dk_180 0 219 (dk_at dksX0_use_0 4 rfl rfl)
theorem dX0_use_7 : decode cX0_use 7 = .ok (.ifCond .ne 7, 3) := dk_154 0 7 (dk_at dksX0_use_0 7 rfl rfl)
theorem dX0_use_10 : decode cX0_use 10 = .ok (.fconst 0, 1) := dk_11 (dk_at dksX0_use_0 10 rfl rfl)
theorem dX0_use_11 : decode cX0_use 11 = .ok (.goto 28, 3) := dk_167 0 28 (dk_at dksX0_use_0 11 rfl rfl)
theorem dX0_use_14 : decode cX0_use 14 = .ok (.aload_n 0, 1) := dk_42 (dk_at dksX0_use_0 14 rfl rfl)
theorem dX0_use_15 : decode cX0_use 15 = .ok (.getfield 67, 3) := dk_180 0 67 (dk_at dksX0_use_0 15 rfl rfl)
theorem dX0_use_18 : decode cX0_use 18 = .ok (.getfield 219, 3) := dk_180 0 219 (dk_at dksX0_use_0 18 rfl rfl)
theorem dX0_use_21 : decode cX0_use 21 = .ok (.aload_n 0, 1) := dk_42 (dk_at dksX0_use_0 21 rfl rfl)
theorem dX0_use_22 : decode cX0_use 22 = .ok (.getfield 67, 3) := dk_180 0 67 (dk_at dksX0_use_1 0 rfl rfl)
theorem dX0_use_25 : decode cX0_use 25 = .ok (.getfield 222, 3) := dk_180 0 222 (dk_at dksX0_use_1 3 rfl rfl)
theorem dX0_use_28 : decode cX0_use 28 = .ok (.isub, 1) := dk_100 (dk_at dksX0_use_1 6 rfl rfl)
theorem dX0_use_29 : decode cX0_use 29 = .ok (.i2f, 1) := dk_134 (dk_at dksX0_use_1 7 rfl rfl)
theorem dX0_use_30 : decode cX0_use 30 = .ok (.aload_n 0, 1) := dk_42 (dk_at dksX0_use_1 8 rfl rfl)
theorem dX0_use_31 : decode cX0_use 31 = .ok (.getfield 67, 3) := dk_180 0 67 (dk_at dksX0_use_1 9 rfl rfl)
theorem dX0_use_34 : decode cX0_use 34 = .ok (.getfield 219, 3) := dk_180 0 219 (dk_at dksX0_use_1 12 rfl rfl)
theorem dX0_use_37 : decode cX0_use 37 = .ok (.i2f, 1) := dk_134 (dk_at dksX0_use_1 15 rfl rfl)
theorem dX0_use_38 : decode cX0_use 38 = .ok (.fdiv, 1) := dk_110 (dk_at dksX0_use_1 16 rfl rfl)
theorem dX0_use_39 : decode cX0_use 39 = .ok (.freturn, 1) := dk_174 (dk_at dksX0_use_1 17 rfl rfl)
abbrev cX0_nextThread : ByteArray := prog_1_method_39_code
def yX0_nextThread : MethodName := ⟨RX0, "nextThread", "()I"⟩
def dkwX0_nextThread_0 : List UInt8 := [42, 180, 0, 67, 182, 0, 246, 172]
abbrev dktX0_nextThread_0 : List UInt8 := dkwX0_nextThread_0 ++ []
theorem dksX0_nextThread_0 : cX0_nextThread.data.toList.drop 0 = dktX0_nextThread_0 := by decide +kernel
theorem dX0_nextThread_0 : decode cX0_nextThread 0 = .ok (.aload_n 0, 1) := dk_42 (dk_at dksX0_nextThread_0 0 rfl rfl)
theorem dX0_nextThread_1 : decode cX0_nextThread 1 = .ok (.getfield 67, 3) := dk_180 0 67 (dk_at dksX0_nextThread_0 1 rfl rfl)
theorem dX0_nextThread_4 : decode cX0_nextThread 4 = .ok (.invokevirtual 246, 3) := dk_182 0 246 (dk_at dksX0_nextThread_0 4 rfl rfl)
theorem dX0_nextThread_7 : decode cX0_nextThread 7 = .ok (.ireturn, 1) := dk_172 (dk_at dksX0_nextThread_0 7 rfl rfl)
abbrev cX0_cyclesLeft : ByteArray := prog_1_method_40_code
def yX0_cyclesLeft : MethodName := ⟨RX0, "cyclesLeft", "()I"⟩
def dkwX0_cyclesLeft_0 : List UInt8 := [187, 0, 62, 89, 42, 42, 180, 0, 67, 183, 0, 95, 182, 0, 249, 172]
abbrev dktX0_cyclesLeft_0 : List UInt8 := dkwX0_cyclesLeft_0 ++ []
theorem dksX0_cyclesLeft_0 : cX0_cyclesLeft.data.toList.drop 0 = dktX0_cyclesLeft_0 := by decide +kernel
theorem dX0_cyclesLeft_0 : decode cX0_cyclesLeft 0 = .ok (.new 62, 3) := dk_187 0 62 (dk_at dksX0_cyclesLeft_0 0 rfl rfl)
theorem dX0_cyclesLeft_3 : decode cX0_cyclesLeft 3 = .ok (.dup, 1) := dk_89 (dk_at dksX0_cyclesLeft_0 3 rfl rfl)
theorem dX0_cyclesLeft_4 : decode cX0_cyclesLeft 4 = .ok (.aload_n 0, 1) := dk_42 (dk_at dksX0_cyclesLeft_0 4 rfl rfl)
theorem dX0_cyclesLeft_5 : decode cX0_cyclesLeft 5 = .ok (.aload_n 0, 1) := dk_42 (dk_at dksX0_cyclesLeft_0 5 rfl rfl)
theorem dX0_cyclesLeft_6 : decode cX0_cyclesLeft 6 = .ok (.getfield 67, 3) := dk_180 0 67 (dk_at dksX0_cyclesLeft_0 6 rfl rfl)
theorem dX0_cyclesLeft_9 : decode cX0_cyclesLeft 9 = .ok (.invokespecial 95, 3) := dk_183 0 95 (dk_at dksX0_cyclesLeft_0 9 rfl rfl)
theorem dX0_cyclesLeft_12 : decode cX0_cyclesLeft 12 = .ok (.invokevirtual 249, 3) := dk_182 0 249 (dk_at dksX0_cyclesLeft_0 12 rfl rfl)
theorem dX0_cyclesLeft_15 : decode cX0_cyclesLeft 15 = .ok (.ireturn, 1) := dk_172 (dk_at dksX0_cyclesLeft_0 15 rfl rfl)
abbrev cX0_cyclesIf : ByteArray := prog_1_method_42_code
def yX0_cyclesIf : MethodName := ⟨RX0, "cyclesIf", "(II)I"⟩
def dkwX0_cyclesIf_1 : List UInt8 := [182, 0, 252, 167, 0, 5, 18, 158, 172]
abbrev dktX0_cyclesIf_1 : List UInt8 := dkwX0_cyclesIf_1 ++ []
def dkwX0_cyclesIf_0 : List UInt8 := [27, 3, 16, 20, 184, 0, 3, 153, 0, 21, 28, 3, 5, 184, 0, 3, 153, 0, 12, 42, 27, 28]
abbrev dktX0_cyclesIf_0 : List UInt8 := dkwX0_cyclesIf_0 ++ dktX0_cyclesIf_1
theorem dksX0_cyclesIf_0 : cX0_cyclesIf.data.toList.drop 0 = dktX0_cyclesIf_0 := by decide +kernel
theorem dksX0_cyclesIf_1 : cX0_cyclesIf.data.toList.drop 22 = dktX0_cyclesIf_1 := dk_seg dksX0_cyclesIf_0 22 rfl rfl
theorem dX0_cyclesIf_0 : decode cX0_cyclesIf 0 = .ok (.iload_n 1, 1) := dk_27 (dk_at dksX0_cyclesIf_0 0 rfl rfl)
theorem dX0_cyclesIf_1 : decode cX0_cyclesIf 1 = .ok (.iconst 0, 1) := dk_3 (dk_at dksX0_cyclesIf_0 1 rfl rfl)
theorem dX0_cyclesIf_2 : decode cX0_cyclesIf 2 = .ok (.bipush 20, 2) := dk_16 20 (dk_at dksX0_cyclesIf_0 2 rfl rfl)
theorem dX0_cyclesIf_4 : decode cX0_cyclesIf 4 = .ok (.invokestatic 3, 3) := dk_184 0 3 (dk_at dksX0_cyclesIf_0 4 rfl rfl)
theorem dX0_cyclesIf_7 : decode cX0_cyclesIf 7 = .ok (.ifCond .eq 21, 3) := dk_153 0 21 (dk_at dksX0_cyclesIf_0 7 rfl rfl)
theorem dX0_cyclesIf_10 : decode cX0_cyclesIf 10 = .ok (.iload_n 2, 1) := dk_28 (dk_at dksX0_cyclesIf_0 10 rfl rfl)
theorem dX0_cyclesIf_11 : decode cX0_cyclesIf 11 = .ok (.iconst 0, 1) := dk_3 (dk_at dksX0_cyclesIf_0 11 rfl rfl)
theorem dX0_cyclesIf_12 : decode cX0_cyclesIf 12 = .ok (.iconst 2, 1) := dk_5 (dk_at dksX0_cyclesIf_0 12 rfl rfl)
theorem dX0_cyclesIf_13 : decode cX0_cyclesIf 13 = .ok (.invokestatic 3, 3) := dk_184 0 3 (dk_at dksX0_cyclesIf_0 13 rfl rfl)
theorem dX0_cyclesIf_16 : decode cX0_cyclesIf 16 = .ok (.ifCond .eq 12, 3) := dk_153 0 12 (dk_at dksX0_cyclesIf_0 16 rfl rfl)
theorem dX0_cyclesIf_19 : decode cX0_cyclesIf 19 = .ok (.aload_n 0, 1) := dk_42 (dk_at dksX0_cyclesIf_0 19 rfl rfl)
theorem dX0_cyclesIf_20 : decode cX0_cyclesIf 20 = .ok (.iload_n 1, 1) := dk_27 (dk_at dksX0_cyclesIf_0 20 rfl rfl)
theorem dX0_cyclesIf_21 : decode cX0_cyclesIf 21 = .ok (.iload_n 2, 1) := dk_28 (dk_at dksX0_cyclesIf_0 21 rfl rfl)
theorem dX0_cyclesIf_22 : decode cX0_cyclesIf 22 = .ok (.invokevirtual 252, 3) := dk_182 0 252 (dk_at dksX0_cyclesIf_1 0 rfl rfl)
theorem dX0_cyclesIf_25 : decode cX0_cyclesIf 25 = .ok (.goto 5, 3) := dk_167 0 5 (dk_at dksX0_cyclesIf_1 3 rfl rfl)
theorem dX0_cyclesIf_28 : decode cX0_cyclesIf 28 = .ok (.ldc 158, 2) := dk_18 158 (dk_at dksX0_cyclesIf_1 6 rfl rfl)
theorem dX0_cyclesIf_30 : decode cX0_cyclesIf 30 = .ok (.ireturn, 1) := dk_172 (dk_at dksX0_cyclesIf_1 8 rfl rfl)
abbrev cX0_tried : ByteArray := prog_1_method_41_code
def yX0_tried : MethodName := ⟨RX0, "tried", "(II)I"⟩
def dkwX0_tried_1 : List UInt8 := [4, 28, 79, 45, 182, 0, 249, 172]
abbrev dktX0_tried_1 : List UInt8 := dkwX0_tried_1 ++ []
def dkwX0_tried_0 : List UInt8 := [187, 0, 62, 89, 42, 42, 180, 0, 67, 183, 0, 95, 78, 45, 180, 0, 175, 3, 27, 79, 45, 180, 0, 175]
abbrev dktX0_tried_0 : List UInt8 := dkwX0_tried_0 ++ dktX0_tried_1
theorem dksX0_tried_0 : cX0_tried.data.toList.drop 0 = dktX0_tried_0 := by decide +kernel
theorem dksX0_tried_1 : cX0_tried.data.toList.drop 24 = dktX0_tried_1 := dk_seg dksX0_tried_0 24 rfl rfl
theorem dX0_tried_0 : decode cX0_tried 0 = .ok (.new 62, 3) := dk_187 0 62 (dk_at dksX0_tried_0 0 rfl rfl)
theorem dX0_tried_3 : decode cX0_tried 3 = .ok (.dup, 1) := dk_89 (dk_at dksX0_tried_0 3 rfl rfl)
theorem dX0_tried_4 : decode cX0_tried 4 = .ok (.aload_n 0, 1) := dk_42 (dk_at dksX0_tried_0 4 rfl rfl)
theorem dX0_tried_5 : decode cX0_tried 5 = .ok (.aload_n 0, 1) := dk_42 (dk_at dksX0_tried_0 5 rfl rfl)
theorem dX0_tried_6 : decode cX0_tried 6 = .ok (.getfield 67, 3) := dk_180 0 67 (dk_at dksX0_tried_0 6 rfl rfl)
theorem dX0_tried_9 : decode cX0_tried 9 = .ok (.invokespecial 95, 3) := dk_183 0 95 (dk_at dksX0_tried_0 9 rfl rfl)
theorem dX0_tried_12 : decode cX0_tried 12 = .ok (.astore_n 3, 1) := dk_78 (dk_at dksX0_tried_0 12 rfl rfl)
theorem dX0_tried_13 : decode cX0_tried 13 = .ok (.aload_n 3, 1) := dk_45 (dk_at dksX0_tried_0 13 rfl rfl)
theorem dX0_tried_14 : decode cX0_tried 14 = .ok (.getfield 175, 3) := dk_180 0 175 (dk_at dksX0_tried_0 14 rfl rfl)
theorem dX0_tried_17 : decode cX0_tried 17 = .ok (.iconst 0, 1) := dk_3 (dk_at dksX0_tried_0 17 rfl rfl)
theorem dX0_tried_18 : decode cX0_tried 18 = .ok (.iload_n 1, 1) := dk_27 (dk_at dksX0_tried_0 18 rfl rfl)
theorem dX0_tried_19 : decode cX0_tried 19 = .ok (.iastore, 1) := dk_79 (dk_at dksX0_tried_0 19 rfl rfl)
theorem dX0_tried_20 : decode cX0_tried 20 = .ok (.aload_n 3, 1) := dk_45 (dk_at dksX0_tried_0 20 rfl rfl)
theorem dX0_tried_21 : decode cX0_tried 21 = .ok (.getfield 175, 3) := dk_180 0 175 (dk_at dksX0_tried_0 21 rfl rfl)
theorem dX0_tried_24 : decode cX0_tried 24 = .ok (.iconst 1, 1) := dk_4 (dk_at dksX0_tried_1 0 rfl rfl)
theorem dX0_tried_25 : decode cX0_tried 25 = .ok (.iload_n 2, 1) := dk_28 (dk_at dksX0_tried_1 1 rfl rfl)
theorem dX0_tried_26 : decode cX0_tried 26 = .ok (.iastore, 1) := dk_79 (dk_at dksX0_tried_1 2 rfl rfl)
theorem dX0_tried_27 : decode cX0_tried 27 = .ok (.aload_n 3, 1) := dk_45 (dk_at dksX0_tried_1 3 rfl rfl)
theorem dX0_tried_28 : decode cX0_tried 28 = .ok (.invokevirtual 249, 3) := dk_182 0 249 (dk_at dksX0_tried_1 4 rfl rfl)
theorem dX0_tried_31 : decode cX0_tried 31 = .ok (.ireturn, 1) := dk_172 (dk_at dksX0_tried_1 7 rfl rfl)
abbrev cX0_bestLend : ByteArray := prog_1_method_43_code
def yX0_bestLend : MethodName := ⟨RX0, "bestLend", "()I"⟩
def dkwX0_bestLend_2 : List UInt8 := [29, 60, 21, 4, 61, 132, 3, 1, 167, 255, 208, 27, 172]
abbrev dktX0_bestLend_2 : List UInt8 := dkwX0_bestLend_2 ++ []
def dkwX0_bestLend_1 : List UInt8 := [182, 0, 252, 54, 4, 21, 4, 18, 54, 159, 0, 20, 27, 18, 54, 159, 0, 9, 21, 4, 28, 162, 0, 8]
abbrev dktX0_bestLend_1 : List UInt8 := dkwX0_bestLend_1 ++ dktX0_bestLend_2
def dkwX0_bestLend_0 : List UInt8 := [18, 54, 60, 3, 61, 3, 62, 29, 5, 163, 0, 49, 42, 42, 180, 0, 67, 180, 0, 175, 3, 46, 29]
abbrev dktX0_bestLend_0 : List UInt8 := dkwX0_bestLend_0 ++ dktX0_bestLend_1
theorem dksX0_bestLend_0 : cX0_bestLend.data.toList.drop 0 = dktX0_bestLend_0 := by decide +kernel
theorem dksX0_bestLend_1 : cX0_bestLend.data.toList.drop 23 = dktX0_bestLend_1 := dk_seg dksX0_bestLend_0 23 rfl rfl
theorem dksX0_bestLend_2 : cX0_bestLend.data.toList.drop 47 = dktX0_bestLend_2 := dk_seg dksX0_bestLend_1 24 rfl rfl
theorem dX0_bestLend_0 : decode cX0_bestLend 0 = .ok (.ldc 54, 2) := dk_18 54 (dk_at dksX0_bestLend_0 0 rfl rfl)
theorem dX0_bestLend_2 : decode cX0_bestLend 2 = .ok (.istore_n 1, 1) := dk_60 (dk_at dksX0_bestLend_0 2 rfl rfl)
theorem dX0_bestLend_3 : decode cX0_bestLend 3 = .ok (.iconst 0, 1) := dk_3 (dk_at dksX0_bestLend_0 3 rfl rfl)
theorem dX0_bestLend_4 : decode cX0_bestLend 4 = .ok (.istore_n 2, 1) := dk_61 (dk_at dksX0_bestLend_0 4 rfl rfl)
theorem dX0_bestLend_5 : decode cX0_bestLend 5 = .ok (.iconst 0, 1) := dk_3 (dk_at dksX0_bestLend_0 5 rfl rfl)
theorem dX0_bestLend_6 : decode cX0_bestLend 6 = .ok (.istore_n 3, 1) := dk_62 (dk_at dksX0_bestLend_0 6 rfl rfl)
theorem dX0_bestLend_7 : decode cX0_bestLend 7 = .ok (.iload_n 3, 1) := dk_29 (dk_at dksX0_bestLend_0 7 rfl rfl)
theorem dX0_bestLend_8 : decode cX0_bestLend 8 = .ok (.iconst 2, 1) := dk_5 (dk_at dksX0_bestLend_0 8 rfl rfl)
theorem dX0_bestLend_9 : decode cX0_bestLend 9 = .ok (.if_icmp .gt 49, 3) := dk_163 0 49 (dk_at dksX0_bestLend_0 9 rfl rfl)
theorem dX0_bestLend_12 : decode cX0_bestLend 12 = .ok (.aload_n 0, 1) := dk_42 (dk_at dksX0_bestLend_0 12 rfl rfl)
theorem dX0_bestLend_13 : decode cX0_bestLend 13 = .ok (.aload_n 0, 1) := dk_42 (dk_at dksX0_bestLend_0 13 rfl rfl)
theorem dX0_bestLend_14 : decode cX0_bestLend 14 = .ok (.getfield 67, 3) := dk_180 0 67 (dk_at dksX0_bestLend_0 14 rfl rfl)
theorem dX0_bestLend_17 : decode cX0_bestLend 17 = .ok (.getfield 175, 3) := dk_180 0 175 (dk_at dksX0_bestLend_0 17 rfl rfl)
theorem dX0_bestLend_20 : decode cX0_bestLend 20 = .ok (.iconst 0, 1) := dk_3 (dk_at dksX0_bestLend_0 20 rfl rfl)
theorem dX0_bestLend_21 : decode cX0_bestLend 21 = .ok (.iaload, 1) := dk_46 (dk_at dksX0_bestLend_0 21 rfl rfl)
theorem dX0_bestLend_22 : decode cX0_bestLend 22 = .ok (.iload_n 3, 1) := dk_29 (dk_at dksX0_bestLend_0 22 rfl rfl)
theorem dX0_bestLend_23 : decode cX0_bestLend 23 = .ok (.invokevirtual 252, 3) := dk_182 0 252 (dk_at dksX0_bestLend_1 0 rfl rfl)
theorem dX0_bestLend_26 : decode cX0_bestLend 26 = .ok (.istore 4, 2) := dk_54 4 (dk_at dksX0_bestLend_1 3 rfl rfl)
theorem dX0_bestLend_28 : decode cX0_bestLend 28 = .ok (.iload 4, 2) := dk_21 4 (dk_at dksX0_bestLend_1 5 rfl rfl)
theorem dX0_bestLend_30 : decode cX0_bestLend 30 = .ok (.ldc 54, 2) := dk_18 54 (dk_at dksX0_bestLend_1 7 rfl rfl)
theorem dX0_bestLend_32 : decode cX0_bestLend 32 = .ok (.if_icmp .eq 20, 3) := dk_159 0 20 (dk_at dksX0_bestLend_1 9 rfl rfl)
theorem dX0_bestLend_35 : decode cX0_bestLend 35 = .ok (.iload_n 1, 1) := dk_27 (dk_at dksX0_bestLend_1 12 rfl rfl)
theorem dX0_bestLend_36 : decode cX0_bestLend 36 = .ok (.ldc 54, 2) := dk_18 54 (dk_at dksX0_bestLend_1 13 rfl rfl)
theorem dX0_bestLend_38 : decode cX0_bestLend 38 = .ok (.if_icmp .eq 9, 3) := dk_159 0 9 (dk_at dksX0_bestLend_1 15 rfl rfl)
theorem dX0_bestLend_41 : decode cX0_bestLend 41 = .ok (.iload 4, 2) := dk_21 4 (dk_at dksX0_bestLend_1 18 rfl rfl)
theorem dX0_bestLend_43 : decode cX0_bestLend 43 = .ok (.iload_n 2, 1) := dk_28 (dk_at dksX0_bestLend_1 20 rfl rfl)
theorem dX0_bestLend_44 : decode cX0_bestLend 44 = .ok (.if_icmp .ge 8, 3) := dk_162 0 8 (dk_at dksX0_bestLend_1 21 rfl rfl)
theorem dX0_bestLend_47 : decode cX0_bestLend 47 = .ok (.iload_n 3, 1) := dk_29 (dk_at dksX0_bestLend_2 0 rfl rfl)
theorem dX0_bestLend_48 : decode cX0_bestLend 48 = .ok (.istore_n 1, 1) := dk_60 (dk_at dksX0_bestLend_2 1 rfl rfl)
theorem dX0_bestLend_49 : decode cX0_bestLend 49 = .ok (.iload 4, 2) := dk_21 4 (dk_at dksX0_bestLend_2 2 rfl rfl)
theorem dX0_bestLend_51 : decode cX0_bestLend 51 = .ok (.istore_n 2, 1) := dk_61 (dk_at dksX0_bestLend_2 4 rfl rfl)
theorem dX0_bestLend_52 : decode cX0_bestLend 52 = .ok (.iinc 3 1, 3) := dk_132 3 1 (dk_at dksX0_bestLend_2 5 rfl rfl)
theorem dX0_bestLend_55 : decode cX0_bestLend 55 = .ok (.goto (-48), 3) := dk_167 255 208 (dk_at dksX0_bestLend_2 8 rfl rfl)
theorem dX0_bestLend_58 : decode cX0_bestLend 58 = .ok (.iload_n 1, 1) := dk_27 (dk_at dksX0_bestLend_2 11 rfl rfl)
theorem dX0_bestLend_59 : decode cX0_bestLend 59 = .ok (.ireturn, 1) := dk_172 (dk_at dksX0_bestLend_2 12 rfl rfl)
abbrev cX0_finalWord : ByteArray := prog_1_method_44_code
def yX0_finalWord : MethodName := ⟨RX0, "finalWord", "(I)I"⟩
def dkwX0_finalWord_1 : List UInt8 := [182, 0, 249, 18, 54, 160, 0, 8, 18, 54, 167, 0, 9, 44, 180, 0, 166, 27, 46, 172]
abbrev dktX0_finalWord_1 : List UInt8 := dkwX0_finalWord_1 ++ []
def dkwX0_finalWord_0 : List UInt8 := [27, 184, 0, 163, 154, 0, 6, 18, 106, 172, 187, 0, 62, 89, 42, 42, 180, 0, 67, 183, 0, 95, 77, 44]
abbrev dktX0_finalWord_0 : List UInt8 := dkwX0_finalWord_0 ++ dktX0_finalWord_1
theorem dksX0_finalWord_0 : cX0_finalWord.data.toList.drop 0 = dktX0_finalWord_0 := by decide +kernel
theorem dksX0_finalWord_1 : cX0_finalWord.data.toList.drop 24 = dktX0_finalWord_1 := dk_seg dksX0_finalWord_0 24 rfl rfl
theorem dX0_finalWord_0 : decode cX0_finalWord 0 = .ok (.iload_n 1, 1) := dk_27 (dk_at dksX0_finalWord_0 0 rfl rfl)
theorem dX0_finalWord_1 : decode cX0_finalWord 1 = .ok (.invokestatic 163, 3) := dk_184 0 163 (dk_at dksX0_finalWord_0 1 rfl rfl)
theorem dX0_finalWord_4 : decode cX0_finalWord 4 = .ok (.ifCond .ne 6, 3) := dk_154 0 6 (dk_at dksX0_finalWord_0 4 rfl rfl)
theorem dX0_finalWord_7 : decode cX0_finalWord 7 = .ok (.ldc 106, 2) := dk_18 106 (dk_at dksX0_finalWord_0 7 rfl rfl)
theorem dX0_finalWord_9 : decode cX0_finalWord 9 = .ok (.ireturn, 1) := dk_172 (dk_at dksX0_finalWord_0 9 rfl rfl)
theorem dX0_finalWord_10 : decode cX0_finalWord 10 = .ok (.new 62, 3) := dk_187 0 62 (dk_at dksX0_finalWord_0 10 rfl rfl)
theorem dX0_finalWord_13 : decode cX0_finalWord 13 = .ok (.dup, 1) := dk_89 (dk_at dksX0_finalWord_0 13 rfl rfl)
theorem dX0_finalWord_14 : decode cX0_finalWord 14 = .ok (.aload_n 0, 1) := dk_42 (dk_at dksX0_finalWord_0 14 rfl rfl)
theorem dX0_finalWord_15 : decode cX0_finalWord 15 = .ok (.aload_n 0, 1) := dk_42 (dk_at dksX0_finalWord_0 15 rfl rfl)
theorem dX0_finalWord_16 : decode cX0_finalWord 16 = .ok (.getfield 67, 3) := dk_180 0 67 (dk_at dksX0_finalWord_0 16 rfl rfl)
theorem dX0_finalWord_19 : decode cX0_finalWord 19 = .ok (.invokespecial 95, 3) := dk_183 0 95 (dk_at dksX0_finalWord_0 19 rfl rfl)
theorem dX0_finalWord_22 : decode cX0_finalWord 22 = .ok (.astore_n 2, 1) := dk_77 (dk_at dksX0_finalWord_0 22 rfl rfl)
theorem dX0_finalWord_23 : decode cX0_finalWord 23 = .ok (.aload_n 2, 1) := dk_44 (dk_at dksX0_finalWord_0 23 rfl rfl)
theorem dX0_finalWord_24 : decode cX0_finalWord 24 = .ok (.invokevirtual 249, 3) := dk_182 0 249 (dk_at dksX0_finalWord_1 0 rfl rfl)
theorem dX0_finalWord_27 : decode cX0_finalWord 27 = .ok (.ldc 54, 2) := dk_18 54 (dk_at dksX0_finalWord_1 3 rfl rfl)
theorem dX0_finalWord_29 : decode cX0_finalWord 29 = .ok (.if_icmp .ne 8, 3) := dk_160 0 8 (dk_at dksX0_finalWord_1 5 rfl rfl)
theorem dX0_finalWord_32 : decode cX0_finalWord 32 = .ok (.ldc 54, 2) := dk_18 54 (dk_at dksX0_finalWord_1 8 rfl rfl)
theorem dX0_finalWord_34 : decode cX0_finalWord 34 = .ok (.goto 9, 3) := dk_167 0 9 (dk_at dksX0_finalWord_1 10 rfl rfl)
theorem dX0_finalWord_37 : decode cX0_finalWord 37 = .ok (.aload_n 2, 1) := dk_44 (dk_at dksX0_finalWord_1 13 rfl rfl)
theorem dX0_finalWord_38 : decode cX0_finalWord 38 = .ok (.getfield 166, 3) := dk_180 0 166 (dk_at dksX0_finalWord_1 14 rfl rfl)
theorem dX0_finalWord_41 : decode cX0_finalWord 41 = .ok (.iload_n 1, 1) := dk_27 (dk_at dksX0_finalWord_1 17 rfl rfl)
theorem dX0_finalWord_42 : decode cX0_finalWord 42 = .ok (.iaload, 1) := dk_46 (dk_at dksX0_finalWord_1 18 rfl rfl)
theorem dX0_finalWord_43 : decode cX0_finalWord 43 = .ok (.ireturn, 1) := dk_172 (dk_at dksX0_finalWord_1 19 rfl rfl)
theorem q45 : (Jvm.Cond.initialized "BarrelProcessor") ∈ lw_all := lw_g (lw_at lw_m1 1 rfl) rfl
theorem q70 : (Jvm.Cond.instantiable "BarrelProcessor" (6 : Nat)) ∈ lw_all := lw_g (lw_at lw_m1 26 rfl) rfl
theorem q72 : (Jvm.Cond.instanceMethod ({ cls := "BarrelProcessor", name := "<init>", desc := "()V" } : Jvm.MethodName)) ∈ lw_all := lw_g (lw_at lw_m1 28 rfl) rfl
theorem q73 : (Jvm.Cond.code ({ cls := "BarrelProcessor", name := "<init>", desc := "()V" } : Jvm.MethodName) prog_1_method_5_code (1 : Nat) (Option.none : Option Jvm.ClassFile.FieldType)) ∈ lw_all := lw_g (lw_at lw_m1 29 rfl) rfl
theorem q74 : (Jvm.Cond.methodLink "BarrelProcessor" (9 : Nat) ({ cls := "java/lang/Object", name := "<init>", desc := "()V" } : Jvm.MethodName)) ∈ lw_all := lw_g (lw_at lw_m1 30 rfl) rfl
theorem q77 : (Jvm.Cond.classLink "BarrelProcessor" (15 : Nat) "BarrelProcessor$Operation") ∈ lw_all := lw_g (lw_at lw_m1 33 rfl) rfl
theorem q79 : (Jvm.Cond.static ({ cls := "BarrelProcessor", name := "lambda$new$0", desc := "(LBarrelProcessor$Machine;LBarrelProcessor$Lane;II)V" } : Jvm.MethodName)) ∈ lw_all := lw_g (lw_at lw_m1 35 rfl) rfl
theorem q80 : (Jvm.Cond.code ({ cls := "BarrelProcessor", name := "lambda$new$0", desc := "(LBarrelProcessor$Machine;LBarrelProcessor$Lane;II)V" } : Jvm.MethodName) prog_1_method_56_code (4 : Nat) (Option.none : Option Jvm.ClassFile.FieldType)) ∈ lw_all := lw_g (lw_at lw_m1 36 rfl) rfl
theorem q81 : (Jvm.Cond.methodLink "BarrelProcessor" (271 : Nat) ({ cls := "BarrelProcessor$Lane", name := "set", desc := "(II)V" } : Jvm.MethodName)) ∈ lw_all := lw_g (lw_at lw_m1 37 rfl) rfl
theorem q85 : (Jvm.Cond.static ({ cls := "BarrelProcessor", name := "lambda$new$1", desc := "(LBarrelProcessor$Machine;LBarrelProcessor$Lane;II)V" } : Jvm.MethodName)) ∈ lw_all := lw_g (lw_at lw_m1 41 rfl) rfl
theorem q86 : (Jvm.Cond.code ({ cls := "BarrelProcessor", name := "lambda$new$1", desc := "(LBarrelProcessor$Machine;LBarrelProcessor$Lane;II)V" } : Jvm.MethodName) prog_1_method_55_code (4 : Nat) (Option.none : Option Jvm.ClassFile.FieldType)) ∈ lw_all := lw_g (lw_at lw_m1 42 rfl) rfl
theorem q87 : (Jvm.Cond.static ({ cls := "BarrelProcessor", name := "lambda$new$2", desc := "(LBarrelProcessor$Machine;LBarrelProcessor$Lane;II)V" } : Jvm.MethodName)) ∈ lw_all := lw_g (lw_at lw_m1 43 rfl) rfl
theorem q88 : (Jvm.Cond.code ({ cls := "BarrelProcessor", name := "lambda$new$2", desc := "(LBarrelProcessor$Machine;LBarrelProcessor$Lane;II)V" } : Jvm.MethodName) prog_1_method_54_code (4 : Nat) (Option.none : Option Jvm.ClassFile.FieldType)) ∈ lw_all := lw_g (lw_at lw_m1 44 rfl) rfl
theorem q89 : (Jvm.Cond.static ({ cls := "BarrelProcessor", name := "lambda$new$3", desc := "(LBarrelProcessor$Machine;LBarrelProcessor$Lane;II)V" } : Jvm.MethodName)) ∈ lw_all := lw_g (lw_at lw_m1 45 rfl) rfl
theorem q90 : (Jvm.Cond.code ({ cls := "BarrelProcessor", name := "lambda$new$3", desc := "(LBarrelProcessor$Machine;LBarrelProcessor$Lane;II)V" } : Jvm.MethodName) prog_1_method_53_code (4 : Nat) (Option.none : Option Jvm.ClassFile.FieldType)) ∈ lw_all := lw_g (lw_at lw_m1 46 rfl) rfl
theorem q91 : (Jvm.Cond.static ({ cls := "BarrelProcessor", name := "lambda$new$4", desc := "(LBarrelProcessor$Machine;LBarrelProcessor$Lane;II)V" } : Jvm.MethodName)) ∈ lw_all := lw_g (lw_at lw_m1 47 rfl) rfl
theorem q92 : (Jvm.Cond.code ({ cls := "BarrelProcessor", name := "lambda$new$4", desc := "(LBarrelProcessor$Machine;LBarrelProcessor$Lane;II)V" } : Jvm.MethodName) prog_1_method_52_code (4 : Nat) (Option.none : Option Jvm.ClassFile.FieldType)) ∈ lw_all := lw_g (lw_at lw_m1 48 rfl) rfl
theorem q93 : (Jvm.Cond.methodLink "BarrelProcessor" (260 : Nat) ({ cls := "BarrelProcessor$Lane", name := "address", desc := "(I)I" } : Jvm.MethodName)) ∈ lw_all := lw_g (lw_at lw_m1 49 rfl) rfl
theorem q97 : (Jvm.Cond.methodLink "BarrelProcessor" (268 : Nat) ({ cls := "BarrelProcessor$Machine", name := "beginLoad", desc := "(LBarrelProcessor$Lane;II)V" } : Jvm.MethodName)) ∈ lw_all := lw_g (lw_at lw_m1 53 rfl) rfl
theorem q101 : (Jvm.Cond.static ({ cls := "BarrelProcessor", name := "lambda$new$5", desc := "(LBarrelProcessor$Machine;LBarrelProcessor$Lane;II)V" } : Jvm.MethodName)) ∈ lw_all := lw_g (lw_at lw_m1 57 rfl) rfl
theorem q102 : (Jvm.Cond.code ({ cls := "BarrelProcessor", name := "lambda$new$5", desc := "(LBarrelProcessor$Machine;LBarrelProcessor$Lane;II)V" } : Jvm.MethodName) prog_1_method_51_code (4 : Nat) (Option.none : Option Jvm.ClassFile.FieldType)) ∈ lw_all := lw_g (lw_at lw_m1 58 rfl) rfl
theorem q103 : (Jvm.Cond.static ({ cls := "BarrelProcessor", name := "lambda$new$6", desc := "(LBarrelProcessor$Machine;LBarrelProcessor$Lane;II)V" } : Jvm.MethodName)) ∈ lw_all := lw_g (lw_at lw_m1 59 rfl) rfl
theorem q104 : (Jvm.Cond.code ({ cls := "BarrelProcessor", name := "lambda$new$6", desc := "(LBarrelProcessor$Machine;LBarrelProcessor$Lane;II)V" } : Jvm.MethodName) prog_1_method_50_code (4 : Nat) (Option.none : Option Jvm.ClassFile.FieldType)) ∈ lw_all := lw_g (lw_at lw_m1 60 rfl) rfl
theorem q105 : (Jvm.Cond.methodLink "BarrelProcessor" (264 : Nat) ({ cls := "BarrelProcessor$Machine", name := "swap", desc := "(LBarrelProcessor$Lane;II)V" } : Jvm.MethodName)) ∈ lw_all := lw_g (lw_at lw_m1 61 rfl) rfl
theorem q109 : (Jvm.Cond.static ({ cls := "BarrelProcessor", name := "lambda$new$7", desc := "(LBarrelProcessor$Machine;LBarrelProcessor$Lane;II)V" } : Jvm.MethodName)) ∈ lw_all := lw_g (lw_at lw_m1 65 rfl) rfl
theorem q110 : (Jvm.Cond.code ({ cls := "BarrelProcessor", name := "lambda$new$7", desc := "(LBarrelProcessor$Machine;LBarrelProcessor$Lane;II)V" } : Jvm.MethodName) prog_1_method_49_code (4 : Nat) (Option.none : Option Jvm.ClassFile.FieldType)) ∈ lw_all := lw_g (lw_at lw_m1 66 rfl) rfl
theorem q111 : (Jvm.Cond.static ({ cls := "BarrelProcessor", name := "lambda$new$8", desc := "(LBarrelProcessor$Machine;LBarrelProcessor$Lane;II)V" } : Jvm.MethodName)) ∈ lw_all := lw_g (lw_at lw_m1 67 rfl) rfl
theorem q112 : (Jvm.Cond.code ({ cls := "BarrelProcessor", name := "lambda$new$8", desc := "(LBarrelProcessor$Machine;LBarrelProcessor$Lane;II)V" } : Jvm.MethodName) prog_1_method_48_code (4 : Nat) (Option.none : Option Jvm.ClassFile.FieldType)) ∈ lw_all := lw_g (lw_at lw_m1 68 rfl) rfl
theorem q113 : (Jvm.Cond.methodLink "BarrelProcessor" (256 : Nat) ({ cls := "BarrelProcessor$Lane", name := "jumpIf", desc := "(ZI)V" } : Jvm.MethodName)) ∈ lw_all := lw_g (lw_at lw_m1 69 rfl) rfl
theorem q117 : (Jvm.Cond.static ({ cls := "BarrelProcessor", name := "lambda$new$9", desc := "(LBarrelProcessor$Machine;LBarrelProcessor$Lane;II)V" } : Jvm.MethodName)) ∈ lw_all := lw_g (lw_at lw_m1 73 rfl) rfl
theorem q118 : (Jvm.Cond.code ({ cls := "BarrelProcessor", name := "lambda$new$9", desc := "(LBarrelProcessor$Machine;LBarrelProcessor$Lane;II)V" } : Jvm.MethodName) prog_1_method_47_code (4 : Nat) (Option.none : Option Jvm.ClassFile.FieldType)) ∈ lw_all := lw_g (lw_at lw_m1 74 rfl) rfl
theorem q119 : (Jvm.Cond.static ({ cls := "BarrelProcessor", name := "lambda$new$10", desc := "(LBarrelProcessor$Machine;LBarrelProcessor$Lane;II)V" } : Jvm.MethodName)) ∈ lw_all := lw_g (lw_at lw_m1 75 rfl) rfl
theorem q120 : (Jvm.Cond.code ({ cls := "BarrelProcessor", name := "lambda$new$10", desc := "(LBarrelProcessor$Machine;LBarrelProcessor$Lane;II)V" } : Jvm.MethodName) prog_1_method_46_code (4 : Nat) (Option.none : Option Jvm.ClassFile.FieldType)) ∈ lw_all := lw_g (lw_at lw_m1 76 rfl) rfl
theorem q121 : (Jvm.Cond.static ({ cls := "BarrelProcessor", name := "lambda$new$11", desc := "(LBarrelProcessor$Machine;LBarrelProcessor$Lane;II)V" } : Jvm.MethodName)) ∈ lw_all := lw_g (lw_at lw_m1 77 rfl) rfl
theorem q122 : (Jvm.Cond.code ({ cls := "BarrelProcessor", name := "lambda$new$11", desc := "(LBarrelProcessor$Machine;LBarrelProcessor$Lane;II)V" } : Jvm.MethodName) prog_1_method_45_code (4 : Nat) (Option.none : Option Jvm.ClassFile.FieldType)) ∈ lw_all := lw_g (lw_at lw_m1 78 rfl) rfl
theorem q123 : (Jvm.Cond.classLink "BarrelProcessor" (36 : Nat) "BarrelProcessor$Rule") ∈ lw_all := lw_g (lw_at lw_m1 79 rfl) rfl
theorem q125 : (Jvm.Cond.stringRef "BarrelProcessor" (38 : Nat) "none") ∈ lw_tbl := lw_at lw_m1 81 rfl
theorem q126 : (Jvm.Cond.methodLink "BarrelProcessor" (40 : Nat) ({ cls := "BarrelProcessor$Rule", name := "of", desc := "(Ljava/lang/String;)LBarrelProcessor$Rule;" } : Jvm.MethodName)) ∈ lw_all := lw_g (lw_at lw_m1 82 rfl) rfl
theorem q228 : (Jvm.Cond.stringRef "BarrelProcessor" (44 : Nat) "next") ∈ lw_tbl := lw_at lw_m1 184 rfl
theorem q229 : (Jvm.Cond.stringRef "BarrelProcessor" (46 : Nat) "longest") ∈ lw_tbl := lw_at lw_m1 185 rfl
theorem q230 : (Jvm.Cond.classLink "BarrelProcessor" (52 : Nat) "BarrelProcessor$Instruction") ∈ lw_all := lw_g (lw_at lw_m1 186 rfl) rfl
theorem q232 : (Jvm.Cond.constant "BarrelProcessor" (54 : Nat) (-100005 : Int32)) ∈ lw_all := lw_g (lw_at lw_m1 188 rfl) rfl
theorem q233 : (Jvm.Cond.methodLink "BarrelProcessor" (55 : Nat) ({ cls := "BarrelProcessor$Instruction", name := "<init>", desc := "(III)V" } : Jvm.MethodName)) ∈ lw_all := lw_g (lw_at lw_m1 189 rfl) rfl
theorem q239 : (Jvm.Cond.fieldLinkNest "BarrelProcessor" (210 : Nat) "BarrelProcessor$Instruction" "operation" "I" "BarrelProcessor") ∈ lw_tbl := lw_at lw_m1 195 rfl
theorem q242 : (Jvm.Cond.fieldLinkNest "BarrelProcessor" (213 : Nat) "BarrelProcessor$Instruction" "first" "I" "BarrelProcessor") ∈ lw_tbl := lw_at lw_m1 198 rfl
theorem q245 : (Jvm.Cond.fieldLinkNest "BarrelProcessor" (216 : Nat) "BarrelProcessor$Instruction" "second" "I" "BarrelProcessor") ∈ lw_tbl := lw_at lw_m1 201 rfl
theorem q253 : (Jvm.Cond.classLink "BarrelProcessor" (62 : Nat) "BarrelProcessor$Machine") ∈ lw_all := lw_g (lw_at lw_m1 209 rfl) rfl
theorem q255 : (Jvm.Cond.methodLink "BarrelProcessor" (64 : Nat) ({ cls := "BarrelProcessor$Machine", name := "<init>", desc := "(LBarrelProcessor;)V" } : Jvm.MethodName)) ∈ lw_all := lw_g (lw_at lw_m1 211 rfl) rfl
theorem q270 : (Jvm.Cond.fieldLinkNest "BarrelProcessor" (159 : Nat) "BarrelProcessor$Lane" "registers" "[I" "BarrelProcessor") ∈ lw_tbl := lw_at lw_m1 226 rfl
theorem q273 : (Jvm.Cond.fieldLinkNest "BarrelProcessor" (207 : Nat) "BarrelProcessor$Lane" "counter" "I" "BarrelProcessor") ∈ lw_tbl := lw_at lw_m1 229 rfl
theorem q276 : (Jvm.Cond.fieldLinkNest "BarrelProcessor" (138 : Nat) "BarrelProcessor$Lane" "state" "I" "BarrelProcessor") ∈ lw_tbl := lw_at lw_m1 232 rfl
theorem q288 : (Jvm.Cond.fieldLinkNest "BarrelProcessor" (225 : Nat) "BarrelProcessor$Lane" "executed" "I" "BarrelProcessor") ∈ lw_tbl := lw_at lw_m2 4 rfl
theorem q291 : (Jvm.Cond.fieldLinkNest "BarrelProcessor" (228 : Nat) "BarrelProcessor$Lane" "lent" "I" "BarrelProcessor") ∈ lw_tbl := lw_at lw_m2 7 rfl
theorem q294 : (Jvm.Cond.fieldLinkNest "BarrelProcessor" (231 : Nat) "BarrelProcessor$Lane" "mostStarved" "I" "BarrelProcessor") ∈ lw_tbl := lw_at lw_m2 10 rfl
theorem q322 : (Jvm.Cond.fieldLinkNest "BarrelProcessor" (134 : Nat) "BarrelProcessor$Machine" "lanes" "[LBarrelProcessor$Lane;" "BarrelProcessor") ∈ lw_tbl := lw_at lw_m2 38 rfl
theorem q324 : (Jvm.Cond.fieldLinkNest "BarrelProcessor" (124 : Nat) "BarrelProcessor$Machine" "program" "[LBarrelProcessor$Instruction;" "BarrelProcessor") ∈ lw_tbl := lw_at lw_m2 40 rfl
theorem q326 : (Jvm.Cond.fieldLinkNest "BarrelProcessor" (166 : Nat) "BarrelProcessor$Machine" "words" "[I" "BarrelProcessor") ∈ lw_tbl := lw_at lw_m2 42 rfl
theorem q328 : (Jvm.Cond.fieldLinkNest "BarrelProcessor" (169 : Nat) "BarrelProcessor$Machine" "table" "[I" "BarrelProcessor") ∈ lw_tbl := lw_at lw_m2 44 rfl
theorem q330 : (Jvm.Cond.fieldLinkNest "BarrelProcessor" (175 : Nat) "BarrelProcessor$Machine" "settings" "[I" "BarrelProcessor") ∈ lw_tbl := lw_at lw_m2 46 rfl
theorem q332 : (Jvm.Cond.fieldLinkNest "BarrelProcessor" (178 : Nat) "BarrelProcessor$Machine" "breakpoints" "[Z" "BarrelProcessor") ∈ lw_tbl := lw_at lw_m2 48 rfl
theorem q334 : (Jvm.Cond.fieldLinkNest "BarrelProcessor" (219 : Nat) "BarrelProcessor$Machine" "cycle" "I" "BarrelProcessor") ∈ lw_tbl := lw_at lw_m2 50 rfl
theorem q336 : (Jvm.Cond.fieldLinkNest "BarrelProcessor" (222 : Nat) "BarrelProcessor$Machine" "idle" "I" "BarrelProcessor") ∈ lw_tbl := lw_at lw_m2 52 rfl
theorem q338 : (Jvm.Cond.fieldLinkNest "BarrelProcessor" (237 : Nat) "BarrelProcessor$Machine" "traceCycles" "[I" "BarrelProcessor") ∈ lw_tbl := lw_at lw_m2 54 rfl
theorem q340 : (Jvm.Cond.fieldLinkNest "BarrelProcessor" (240 : Nat) "BarrelProcessor$Machine" "traceThreads" "[I" "BarrelProcessor") ∈ lw_tbl := lw_at lw_m2 56 rfl
theorem q342 : (Jvm.Cond.fieldLinkNest "BarrelProcessor" (243 : Nat) "BarrelProcessor$Machine" "tracePlaces" "[I" "BarrelProcessor") ∈ lw_tbl := lw_at lw_m2 58 rfl
theorem q344 : (Jvm.Cond.fieldLinkNest "BarrelProcessor" (234 : Nat) "BarrelProcessor$Machine" "traced" "I" "BarrelProcessor") ∈ lw_tbl := lw_at lw_m2 60 rfl
theorem q373 : (Jvm.Cond.classLink "BarrelProcessor" (71 : Nat) "java/util/ArrayList") ∈ lw_all := lw_g (lw_at lw_m2 89 rfl) rfl
theorem q375 : (Jvm.Cond.methodLink "BarrelProcessor" (73 : Nat) ({ cls := "java/util/ArrayList", name := "<init>", desc := "()V" } : Jvm.MethodName)) ∈ lw_all := lw_g (lw_at lw_m2 91 rfl) rfl
theorem q399 : (Jvm.Cond.classLink "BarrelProcessor" (78 : Nat) "java/lang/StringBuilder") ∈ lw_all := lw_g (lw_at lw_m2 115 rfl) rfl
theorem q401 : (Jvm.Cond.methodLink "BarrelProcessor" (80 : Nat) ({ cls := "java/lang/StringBuilder", name := "<init>", desc := "()V" } : Jvm.MethodName)) ∈ lw_all := lw_g (lw_at lw_m2 117 rfl) rfl
theorem q430 : (Jvm.Cond.fieldLink "BarrelProcessor" (32 : Nat) "BarrelProcessor" "operations" "[LBarrelProcessor$Operation;") ∈ lw_all := lw_g (lw_at lw_m2 146 rfl) rfl
theorem q432 : (Jvm.Cond.fieldLink "BarrelProcessor" (48 : Nat) "BarrelProcessor" "rules" "[LBarrelProcessor$Rule;") ∈ lw_all := lw_g (lw_at lw_m2 148 rfl) rfl
theorem q435 : (Jvm.Cond.fieldLink "BarrelProcessor" (58 : Nat) "BarrelProcessor" "halting" "LBarrelProcessor$Instruction;") ∈ lw_all := lw_g (lw_at lw_m2 151 rfl) rfl
theorem q437 : (Jvm.Cond.fieldLink "BarrelProcessor" (67 : Nat) "BarrelProcessor" "machine" "LBarrelProcessor$Machine;") ∈ lw_all := lw_g (lw_at lw_m2 153 rfl) rfl
theorem q438 : (Jvm.Cond.fieldLink "BarrelProcessor" (74 : Nat) "BarrelProcessor" "history" "Ljava/util/List;") ∈ lw_all := lw_g (lw_at lw_m2 154 rfl) rfl
theorem q439 : (Jvm.Cond.fieldLink "BarrelProcessor" (81 : Nat) "BarrelProcessor" "text" "Ljava/lang/StringBuilder;") ∈ lw_all := lw_g (lw_at lw_m2 155 rfl) rfl
theorem q440 : (Jvm.Cond.laysFinal "BarrelProcessor" "BarrelProcessor" "operations" "[LBarrelProcessor$Operation;") ∈ lw_all := lw_g (lw_at lw_m2 156 rfl) rfl
theorem q441 : (Jvm.Cond.soleField "BarrelProcessor" "operations") ∈ lw_all := lw_g (lw_at lw_m2 157 rfl) rfl
theorem q442 : (Jvm.Cond.laysFinal "BarrelProcessor" "BarrelProcessor" "rules" "[LBarrelProcessor$Rule;") ∈ lw_all := lw_g (lw_at lw_m2 158 rfl) rfl
theorem q443 : (Jvm.Cond.soleField "BarrelProcessor" "rules") ∈ lw_all := lw_g (lw_at lw_m2 159 rfl) rfl
theorem q444 : (Jvm.Cond.laysFinal "BarrelProcessor" "BarrelProcessor" "halting" "LBarrelProcessor$Instruction;") ∈ lw_all := lw_g (lw_at lw_m2 160 rfl) rfl
theorem q445 : (Jvm.Cond.soleField "BarrelProcessor" "halting") ∈ lw_all := lw_g (lw_at lw_m2 161 rfl) rfl
theorem q446 : (Jvm.Cond.lays "BarrelProcessor" "BarrelProcessor" "machine" "LBarrelProcessor$Machine;") ∈ lw_all := lw_g (lw_at lw_m2 162 rfl) rfl
theorem q447 : (Jvm.Cond.soleField "BarrelProcessor" "machine") ∈ lw_all := lw_g (lw_at lw_m2 163 rfl) rfl
theorem q448 : (Jvm.Cond.laysFinal "BarrelProcessor" "BarrelProcessor" "history" "Ljava/util/List;") ∈ lw_all := lw_g (lw_at lw_m2 164 rfl) rfl
theorem q449 : (Jvm.Cond.soleField "BarrelProcessor" "history") ∈ lw_all := lw_g (lw_at lw_m2 165 rfl) rfl
theorem q450 : (Jvm.Cond.laysFinal "BarrelProcessor" "BarrelProcessor" "text" "Ljava/lang/StringBuilder;") ∈ lw_all := lw_g (lw_at lw_m2 166 rfl) rfl
theorem q451 : (Jvm.Cond.soleField "BarrelProcessor" "text") ∈ lw_all := lw_g (lw_at lw_m2 167 rfl) rfl
theorem q452 : (Jvm.Cond.superclass "BarrelProcessor" "java/lang/Object") ∈ lw_all := lw_g (lw_at lw_m2 168 rfl) rfl
theorem q454 : (Jvm.Cond.instanceMethod ({ cls := "BarrelProcessor", name := "assemble", desc := "(I)I" } : Jvm.MethodName)) ∈ lw_all := lw_g (lw_at lw_m2 170 rfl) rfl
theorem q455 : (Jvm.Cond.selects "BarrelProcessor" ({ cls := "BarrelProcessor", name := "assemble", desc := "(I)I" } : Jvm.MethodName) ({ cls := "BarrelProcessor", name := "assemble", desc := "(I)I" } : Jvm.MethodName)) ∈ lw_all := lw_g (lw_at lw_m2 171 rfl) rfl
theorem q456 : (Jvm.Cond.code ({ cls := "BarrelProcessor", name := "assemble", desc := "(I)I" } : Jvm.MethodName) prog_1_method_7_code (5 : Nat) (Option.some Jvm.ClassFile.FieldType.int)) ∈ lw_all := lw_g (lw_at lw_m2 172 rfl) rfl
theorem q457 : (Jvm.Cond.methodLink "BarrelProcessor" (102 : Nat) ({ cls := "BarrelProcessor", name := "isPlace", desc := "(I)Z" } : Jvm.MethodName)) ∈ lw_all := lw_g (lw_at lw_m2 173 rfl) rfl
theorem q458 : (Jvm.Cond.static ({ cls := "BarrelProcessor", name := "isPlace", desc := "(I)Z" } : Jvm.MethodName)) ∈ lw_all := lw_g (lw_at lw_m2 174 rfl) rfl
theorem q459 : (Jvm.Cond.code ({ cls := "BarrelProcessor", name := "isPlace", desc := "(I)Z" } : Jvm.MethodName) prog_1_method_3_code (1 : Nat) (Option.some Jvm.ClassFile.FieldType.boolean)) ∈ lw_all := lw_g (lw_at lw_m2 175 rfl) rfl
theorem q460 : (Jvm.Cond.methodLink "BarrelProcessor" (3 : Nat) ({ cls := "BarrelProcessor", name := "isIn", desc := "(III)Z" } : Jvm.MethodName)) ∈ lw_all := lw_g (lw_at lw_m2 176 rfl) rfl
theorem q461 : (Jvm.Cond.static ({ cls := "BarrelProcessor", name := "isIn", desc := "(III)Z" } : Jvm.MethodName)) ∈ lw_all := lw_g (lw_at lw_m2 177 rfl) rfl
theorem q462 : (Jvm.Cond.code ({ cls := "BarrelProcessor", name := "isIn", desc := "(III)Z" } : Jvm.MethodName) prog_1_method_1_code (3 : Nat) (Option.some Jvm.ClassFile.FieldType.boolean)) ∈ lw_all := lw_g (lw_at lw_m2 178 rfl) rfl
theorem q463 : (Jvm.Cond.constant "BarrelProcessor" (106 : Nat) (-100001 : Int32)) ∈ lw_all := lw_g (lw_at lw_m2 179 rfl) rfl
theorem q464 : (Jvm.Cond.classLink "BarrelProcessor" (107 : Nat) "BarrelProcessor$Reader") ∈ lw_all := lw_g (lw_at lw_m2 180 rfl) rfl
theorem q466 : (Jvm.Cond.methodLink "BarrelProcessor" (109 : Nat) ({ cls := "BarrelProcessor$Reader", name := "<init>", desc := "(LBarrelProcessor;Ljava/lang/CharSequence;)V" } : Jvm.MethodName)) ∈ lw_all := lw_g (lw_at lw_m2 182 rfl) rfl
theorem q474 : (Jvm.Cond.fieldLinkNest "BarrelProcessor" (117 : Nat) "BarrelProcessor$Reader" "instructions" "Ljava/util/List;" "BarrelProcessor") ∈ lw_tbl := lw_at lw_m2 190 rfl
theorem q476 : (Jvm.Cond.fieldLinkNest "BarrelProcessor" (201 : Nat) "BarrelProcessor$Reader" "place" "I" "BarrelProcessor") ∈ lw_tbl := lw_at lw_m2 192 rfl
theorem q490 : (Jvm.Cond.methodLink "BarrelProcessor" (112 : Nat) ({ cls := "BarrelProcessor$Reader", name := "isText", desc := "()Z" } : Jvm.MethodName)) ∈ lw_all := lw_g (lw_at lw_m2 206 rfl) rfl
theorem q808 : (Jvm.Cond.selects "BarrelProcessor" ({ cls := "java/lang/Object", name := "getClass", desc := "()Ljava/lang/Class;" } : Jvm.MethodName) ({ cls := "java/lang/Object", name := "getClass", desc := "()Ljava/lang/Class;" } : Jvm.MethodName)) ∈ lw_all := lw_g (lw_at lw_m4 44 rfl) rfl
theorem q830 : (Jvm.Cond.constant "BarrelProcessor" (116 : Nat) (-100003 : Int32)) ∈ lw_all := lw_g (lw_at lw_m4 66 rfl) rfl
theorem q831 : (Jvm.Cond.interfaceEntry "BarrelProcessor" (85 : Nat)) ∈ lw_tbl := lw_at lw_m4 67 rfl
theorem q832 : (Jvm.Cond.methodLink "BarrelProcessor" (85 : Nat) ({ cls := "java/util/List", name := "size", desc := "()I" } : Jvm.MethodName)) ∈ lw_all := lw_g (lw_at lw_m4 68 rfl) rfl
theorem q840 : (Jvm.Cond.constant "BarrelProcessor" (120 : Nat) (-100004 : Int32)) ∈ lw_all := lw_g (lw_at lw_m4 76 rfl) rfl
theorem q841 : (Jvm.Cond.methodLink "BarrelProcessor" (121 : Nat) ({ cls := "BarrelProcessor", name := "record", desc := "()V" } : Jvm.MethodName)) ∈ lw_all := lw_g (lw_at lw_m4 77 rfl) rfl
theorem q842 : (Jvm.Cond.privateMethod ({ cls := "BarrelProcessor", name := "record", desc := "()V" } : Jvm.MethodName)) ∈ lw_tbl := lw_at lw_m4 78 rfl
theorem q843 : (Jvm.Cond.instanceMethod ({ cls := "BarrelProcessor", name := "record", desc := "()V" } : Jvm.MethodName)) ∈ lw_all := lw_g (lw_at lw_m4 79 rfl) rfl
theorem q844 : (Jvm.Cond.code ({ cls := "BarrelProcessor", name := "record", desc := "()V" } : Jvm.MethodName) prog_1_method_6_code (1 : Nat) (Option.none : Option Jvm.ClassFile.FieldType)) ∈ lw_all := lw_g (lw_at lw_m4 80 rfl) rfl
theorem q845 : (Jvm.Cond.interfaceEntry "BarrelProcessor" (91 : Nat)) ∈ lw_tbl := lw_at lw_m4 81 rfl
theorem q846 : (Jvm.Cond.methodLink "BarrelProcessor" (91 : Nat) ({ cls := "java/util/List", name := "remove", desc := "(I)Ljava/lang/Object;" } : Jvm.MethodName)) ∈ lw_all := lw_g (lw_at lw_m4 82 rfl) rfl
theorem q863 : (Jvm.Cond.methodLink "BarrelProcessor" (95 : Nat) ({ cls := "BarrelProcessor$Machine", name := "<init>", desc := "(LBarrelProcessor;LBarrelProcessor$Machine;)V" } : Jvm.MethodName)) ∈ lw_all := lw_g (lw_at lw_m4 99 rfl) rfl
theorem q885 : (Jvm.Cond.interfaceEntry "BarrelProcessor" (98 : Nat)) ∈ lw_tbl := lw_at lw_m4 121 rfl
theorem q886 : (Jvm.Cond.methodLink "BarrelProcessor" (98 : Nat) ({ cls := "java/util/List", name := "add", desc := "(Ljava/lang/Object;)Z" } : Jvm.MethodName)) ∈ lw_all := lw_g (lw_at lw_m4 122 rfl) rfl
theorem q887 : (Jvm.Cond.interfaceEntry "BarrelProcessor" (128 : Nat)) ∈ lw_tbl := lw_at lw_m4 123 rfl
theorem q888 : (Jvm.Cond.methodLink "BarrelProcessor" (128 : Nat) ({ cls := "java/util/List", name := "get", desc := "(I)Ljava/lang/Object;" } : Jvm.MethodName)) ∈ lw_all := lw_g (lw_at lw_m4 124 rfl) rfl
theorem q901 : (Jvm.Cond.instanceMethod ({ cls := "BarrelProcessor", name := "start", desc := "(II)I" } : Jvm.MethodName)) ∈ lw_all := lw_g (lw_at lw_m4 137 rfl) rfl
theorem q902 : (Jvm.Cond.selects "BarrelProcessor" ({ cls := "BarrelProcessor", name := "start", desc := "(II)I" } : Jvm.MethodName) ({ cls := "BarrelProcessor", name := "start", desc := "(II)I" } : Jvm.MethodName)) ∈ lw_all := lw_g (lw_at lw_m4 138 rfl) rfl
theorem q903 : (Jvm.Cond.code ({ cls := "BarrelProcessor", name := "start", desc := "(II)I" } : Jvm.MethodName) prog_1_method_8_code (4 : Nat) (Option.some Jvm.ClassFile.FieldType.int)) ∈ lw_all := lw_g (lw_at lw_m4 139 rfl) rfl
theorem q904 : (Jvm.Cond.methodLink "BarrelProcessor" (131 : Nat) ({ cls := "BarrelProcessor", name := "isThread", desc := "(I)Z" } : Jvm.MethodName)) ∈ lw_all := lw_g (lw_at lw_m4 140 rfl) rfl
theorem q905 : (Jvm.Cond.static ({ cls := "BarrelProcessor", name := "isThread", desc := "(I)Z" } : Jvm.MethodName)) ∈ lw_all := lw_g (lw_at lw_m4 141 rfl) rfl
theorem q906 : (Jvm.Cond.code ({ cls := "BarrelProcessor", name := "isThread", desc := "(I)Z" } : Jvm.MethodName) prog_1_method_2_code (1 : Nat) (Option.some Jvm.ClassFile.FieldType.boolean)) ∈ lw_all := lw_g (lw_at lw_m4 142 rfl) rfl
theorem q907 : (Jvm.Cond.methodLink "BarrelProcessor" (144 : Nat) ({ cls := "BarrelProcessor$Lane", name := "start", desc := "(I)V" } : Jvm.MethodName)) ∈ lw_all := lw_g (lw_at lw_m4 143 rfl) rfl
theorem q912 : (Jvm.Cond.instanceMethod ({ cls := "BarrelProcessor", name := "halt", desc := "(I)I" } : Jvm.MethodName)) ∈ lw_all := lw_g (lw_at lw_m4 148 rfl) rfl
theorem q913 : (Jvm.Cond.selects "BarrelProcessor" ({ cls := "BarrelProcessor", name := "halt", desc := "(I)I" } : Jvm.MethodName) ({ cls := "BarrelProcessor", name := "halt", desc := "(I)I" } : Jvm.MethodName)) ∈ lw_all := lw_g (lw_at lw_m4 149 rfl) rfl
theorem q914 : (Jvm.Cond.code ({ cls := "BarrelProcessor", name := "halt", desc := "(I)I" } : Jvm.MethodName) prog_1_method_9_code (3 : Nat) (Option.some Jvm.ClassFile.FieldType.int)) ∈ lw_all := lw_g (lw_at lw_m4 150 rfl) rfl
theorem q915 : (Jvm.Cond.methodLink "BarrelProcessor" (148 : Nat) ({ cls := "BarrelProcessor$Lane", name := "halt", desc := "()V" } : Jvm.MethodName)) ∈ lw_all := lw_g (lw_at lw_m4 151 rfl) rfl
theorem q920 : (Jvm.Cond.instanceMethod ({ cls := "BarrelProcessor", name := "setRegister", desc := "(III)I" } : Jvm.MethodName)) ∈ lw_all := lw_g (lw_at lw_m4 156 rfl) rfl
theorem q921 : (Jvm.Cond.selects "BarrelProcessor" ({ cls := "BarrelProcessor", name := "setRegister", desc := "(III)I" } : Jvm.MethodName) ({ cls := "BarrelProcessor", name := "setRegister", desc := "(III)I" } : Jvm.MethodName)) ∈ lw_all := lw_g (lw_at lw_m4 157 rfl) rfl
theorem q922 : (Jvm.Cond.code ({ cls := "BarrelProcessor", name := "setRegister", desc := "(III)I" } : Jvm.MethodName) prog_1_method_11_code (5 : Nat) (Option.some Jvm.ClassFile.FieldType.int)) ∈ lw_all := lw_g (lw_at lw_m4 158 rfl) rfl
theorem q923 : (Jvm.Cond.methodLink "BarrelProcessor" (151 : Nat) ({ cls := "BarrelProcessor", name := "isRegister", desc := "(II)Z" } : Jvm.MethodName)) ∈ lw_all := lw_g (lw_at lw_m4 159 rfl) rfl
theorem q924 : (Jvm.Cond.static ({ cls := "BarrelProcessor", name := "isRegister", desc := "(II)Z" } : Jvm.MethodName)) ∈ lw_all := lw_g (lw_at lw_m4 160 rfl) rfl
theorem q925 : (Jvm.Cond.code ({ cls := "BarrelProcessor", name := "isRegister", desc := "(II)Z" } : Jvm.MethodName) prog_1_method_10_code (2 : Nat) (Option.some Jvm.ClassFile.FieldType.boolean)) ∈ lw_all := lw_g (lw_at lw_m4 161 rfl) rfl
theorem q926 : (Jvm.Cond.methodLink "BarrelProcessor" (155 : Nat) ({ cls := "BarrelProcessor", name := "isValue", desc := "(I)Z" } : Jvm.MethodName)) ∈ lw_all := lw_g (lw_at lw_m4 162 rfl) rfl
theorem q927 : (Jvm.Cond.static ({ cls := "BarrelProcessor", name := "isValue", desc := "(I)Z" } : Jvm.MethodName)) ∈ lw_all := lw_g (lw_at lw_m4 163 rfl) rfl
theorem q928 : (Jvm.Cond.code ({ cls := "BarrelProcessor", name := "isValue", desc := "(I)Z" } : Jvm.MethodName) prog_1_method_4_code (1 : Nat) (Option.some Jvm.ClassFile.FieldType.boolean)) ∈ lw_all := lw_g (lw_at lw_m4 164 rfl) rfl
theorem q929 : (Jvm.Cond.constant "BarrelProcessor" (158 : Nat) (-100002 : Int32)) ∈ lw_all := lw_g (lw_at lw_m4 165 rfl) rfl
theorem q931 : (Jvm.Cond.instanceMethod ({ cls := "BarrelProcessor", name := "setWord", desc := "(II)I" } : Jvm.MethodName)) ∈ lw_all := lw_g (lw_at lw_m4 167 rfl) rfl
theorem q932 : (Jvm.Cond.selects "BarrelProcessor" ({ cls := "BarrelProcessor", name := "setWord", desc := "(II)I" } : Jvm.MethodName) ({ cls := "BarrelProcessor", name := "setWord", desc := "(II)I" } : Jvm.MethodName)) ∈ lw_all := lw_g (lw_at lw_m4 168 rfl) rfl
theorem q933 : (Jvm.Cond.code ({ cls := "BarrelProcessor", name := "setWord", desc := "(II)I" } : Jvm.MethodName) prog_1_method_13_code (4 : Nat) (Option.some Jvm.ClassFile.FieldType.int)) ∈ lw_all := lw_g (lw_at lw_m4 169 rfl) rfl
theorem q934 : (Jvm.Cond.methodLink "BarrelProcessor" (163 : Nat) ({ cls := "BarrelProcessor", name := "isWord", desc := "(I)Z" } : Jvm.MethodName)) ∈ lw_all := lw_g (lw_at lw_m4 170 rfl) rfl
theorem q935 : (Jvm.Cond.static ({ cls := "BarrelProcessor", name := "isWord", desc := "(I)Z" } : Jvm.MethodName)) ∈ lw_all := lw_g (lw_at lw_m4 171 rfl) rfl
theorem q936 : (Jvm.Cond.code ({ cls := "BarrelProcessor", name := "isWord", desc := "(I)Z" } : Jvm.MethodName) prog_1_method_12_code (1 : Nat) (Option.some Jvm.ClassFile.FieldType.boolean)) ∈ lw_all := lw_g (lw_at lw_m4 172 rfl) rfl
theorem q938 : (Jvm.Cond.instanceMethod ({ cls := "BarrelProcessor", name := "setSlot", desc := "(II)I" } : Jvm.MethodName)) ∈ lw_all := lw_g (lw_at lw_m4 174 rfl) rfl
theorem q939 : (Jvm.Cond.selects "BarrelProcessor" ({ cls := "BarrelProcessor", name := "setSlot", desc := "(II)I" } : Jvm.MethodName) ({ cls := "BarrelProcessor", name := "setSlot", desc := "(II)I" } : Jvm.MethodName)) ∈ lw_all := lw_g (lw_at lw_m4 175 rfl) rfl
theorem q940 : (Jvm.Cond.code ({ cls := "BarrelProcessor", name := "setSlot", desc := "(II)I" } : Jvm.MethodName) prog_1_method_14_code (4 : Nat) (Option.some Jvm.ClassFile.FieldType.int)) ∈ lw_all := lw_g (lw_at lw_m4 176 rfl) rfl
theorem q942 : (Jvm.Cond.instanceMethod ({ cls := "BarrelProcessor", name := "set", desc := "(II)I" } : Jvm.MethodName)) ∈ lw_all := lw_g (lw_at lw_m4 178 rfl) rfl
theorem q943 : (Jvm.Cond.selects "BarrelProcessor" ({ cls := "BarrelProcessor", name := "set", desc := "(II)I" } : Jvm.MethodName) ({ cls := "BarrelProcessor", name := "set", desc := "(II)I" } : Jvm.MethodName)) ∈ lw_all := lw_g (lw_at lw_m4 179 rfl) rfl
theorem q944 : (Jvm.Cond.code ({ cls := "BarrelProcessor", name := "set", desc := "(II)I" } : Jvm.MethodName) prog_1_method_16_code (4 : Nat) (Option.some Jvm.ClassFile.FieldType.int)) ∈ lw_all := lw_g (lw_at lw_m4 180 rfl) rfl
theorem q945 : (Jvm.Cond.methodLink "BarrelProcessor" (172 : Nat) ({ cls := "BarrelProcessor", name := "isSetting", desc := "(I)Z" } : Jvm.MethodName)) ∈ lw_all := lw_g (lw_at lw_m4 181 rfl) rfl
theorem q946 : (Jvm.Cond.static ({ cls := "BarrelProcessor", name := "isSetting", desc := "(I)Z" } : Jvm.MethodName)) ∈ lw_all := lw_g (lw_at lw_m4 182 rfl) rfl
theorem q947 : (Jvm.Cond.code ({ cls := "BarrelProcessor", name := "isSetting", desc := "(I)Z" } : Jvm.MethodName) prog_1_method_15_code (1 : Nat) (Option.some Jvm.ClassFile.FieldType.boolean)) ∈ lw_all := lw_g (lw_at lw_m4 183 rfl) rfl
theorem q949 : (Jvm.Cond.instanceMethod ({ cls := "BarrelProcessor", name := "setBreakpoint", desc := "(IZ)I" } : Jvm.MethodName)) ∈ lw_all := lw_g (lw_at lw_m4 185 rfl) rfl
theorem q950 : (Jvm.Cond.selects "BarrelProcessor" ({ cls := "BarrelProcessor", name := "setBreakpoint", desc := "(IZ)I" } : Jvm.MethodName) ({ cls := "BarrelProcessor", name := "setBreakpoint", desc := "(IZ)I" } : Jvm.MethodName)) ∈ lw_all := lw_g (lw_at lw_m4 186 rfl) rfl
theorem q951 : (Jvm.Cond.code ({ cls := "BarrelProcessor", name := "setBreakpoint", desc := "(IZ)I" } : Jvm.MethodName) prog_1_method_17_code (8 : Nat) (Option.some Jvm.ClassFile.FieldType.int)) ∈ lw_all := lw_g (lw_at lw_m4 187 rfl) rfl
theorem q953 : (Jvm.Cond.instanceMethod ({ cls := "BarrelProcessor", name := "run", desc := "(I)I" } : Jvm.MethodName)) ∈ lw_all := lw_g (lw_at lw_m4 189 rfl) rfl
theorem q954 : (Jvm.Cond.selects "BarrelProcessor" ({ cls := "BarrelProcessor", name := "run", desc := "(I)I" } : Jvm.MethodName) ({ cls := "BarrelProcessor", name := "run", desc := "(I)I" } : Jvm.MethodName)) ∈ lw_all := lw_g (lw_at lw_m4 190 rfl) rfl
theorem q955 : (Jvm.Cond.code ({ cls := "BarrelProcessor", name := "run", desc := "(I)I" } : Jvm.MethodName) prog_1_method_18_code (3 : Nat) (Option.some Jvm.ClassFile.FieldType.int)) ∈ lw_all := lw_g (lw_at lw_m4 191 rfl) rfl
theorem q956 : (Jvm.Cond.methodLink "BarrelProcessor" (182 : Nat) ({ cls := "BarrelProcessor$Machine", name := "isOver", desc := "()Z" } : Jvm.MethodName)) ∈ lw_all := lw_g (lw_at lw_m4 192 rfl) rfl
theorem q960 : (Jvm.Cond.methodLink "BarrelProcessor" (185 : Nat) ({ cls := "BarrelProcessor$Machine", name := "isAtBreakpoint", desc := "()Z" } : Jvm.MethodName)) ∈ lw_all := lw_g (lw_at lw_m4 196 rfl) rfl
theorem q1018 : (Jvm.Cond.methodLink "BarrelProcessor" (188 : Nat) ({ cls := "BarrelProcessor$Machine", name := "step", desc := "()V" } : Jvm.MethodName)) ∈ lw_all := lw_g (lw_at lw_m5 14 rfl) rfl
theorem q1041 : (Jvm.Cond.instanceMethod ({ cls := "BarrelProcessor", name := "append", desc := "(I)I" } : Jvm.MethodName)) ∈ lw_all := lw_g (lw_at lw_m5 37 rfl) rfl
theorem q1042 : (Jvm.Cond.selects "BarrelProcessor" ({ cls := "BarrelProcessor", name := "append", desc := "(I)I" } : Jvm.MethodName) ({ cls := "BarrelProcessor", name := "append", desc := "(I)I" } : Jvm.MethodName)) ∈ lw_all := lw_g (lw_at lw_m5 38 rfl) rfl
theorem q1043 : (Jvm.Cond.code ({ cls := "BarrelProcessor", name := "append", desc := "(I)I" } : Jvm.MethodName) prog_1_method_19_code (2 : Nat) (Option.some Jvm.ClassFile.FieldType.int)) ∈ lw_all := lw_g (lw_at lw_m5 39 rfl) rfl
theorem q1044 : (Jvm.Cond.methodLink "BarrelProcessor" (191 : Nat) ({ cls := "java/lang/StringBuilder", name := "length", desc := "()I" } : Jvm.MethodName)) ∈ lw_all := lw_g (lw_at lw_m5 40 rfl) rfl
theorem q1045 : (Jvm.Cond.methodLink "BarrelProcessor" (194 : Nat) ({ cls := "java/lang/StringBuilder", name := "append", desc := "(C)Ljava/lang/StringBuilder;" } : Jvm.MethodName)) ∈ lw_all := lw_g (lw_at lw_m5 41 rfl) rfl
theorem q1047 : (Jvm.Cond.instanceMethod ({ cls := "BarrelProcessor", name := "clearText", desc := "()I" } : Jvm.MethodName)) ∈ lw_all := lw_g (lw_at lw_m5 43 rfl) rfl
theorem q1048 : (Jvm.Cond.selects "BarrelProcessor" ({ cls := "BarrelProcessor", name := "clearText", desc := "()I" } : Jvm.MethodName) ({ cls := "BarrelProcessor", name := "clearText", desc := "()I" } : Jvm.MethodName)) ∈ lw_all := lw_g (lw_at lw_m5 44 rfl) rfl
theorem q1049 : (Jvm.Cond.code ({ cls := "BarrelProcessor", name := "clearText", desc := "()I" } : Jvm.MethodName) prog_1_method_20_code (2 : Nat) (Option.some Jvm.ClassFile.FieldType.int)) ∈ lw_all := lw_g (lw_at lw_m5 45 rfl) rfl
theorem q1050 : (Jvm.Cond.methodLink "BarrelProcessor" (198 : Nat) ({ cls := "java/lang/StringBuilder", name := "setLength", desc := "(I)V" } : Jvm.MethodName)) ∈ lw_all := lw_g (lw_at lw_m5 46 rfl) rfl
theorem q1071 : (Jvm.Cond.instanceMethod ({ cls := "BarrelProcessor", name := "fault", desc := "()I" } : Jvm.MethodName)) ∈ lw_all := lw_g (lw_at lw_m5 67 rfl) rfl
theorem q1072 : (Jvm.Cond.selects "BarrelProcessor" ({ cls := "BarrelProcessor", name := "fault", desc := "()I" } : Jvm.MethodName) ({ cls := "BarrelProcessor", name := "fault", desc := "()I" } : Jvm.MethodName)) ∈ lw_all := lw_g (lw_at lw_m5 68 rfl) rfl
theorem q1073 : (Jvm.Cond.code ({ cls := "BarrelProcessor", name := "fault", desc := "()I" } : Jvm.MethodName) prog_1_method_21_code (2 : Nat) (Option.some Jvm.ClassFile.FieldType.int)) ∈ lw_all := lw_g (lw_at lw_m5 69 rfl) rfl
theorem q1075 : (Jvm.Cond.instanceMethod ({ cls := "BarrelProcessor", name := "undo", desc := "()I" } : Jvm.MethodName)) ∈ lw_all := lw_g (lw_at lw_m5 71 rfl) rfl
theorem q1076 : (Jvm.Cond.selects "BarrelProcessor" ({ cls := "BarrelProcessor", name := "undo", desc := "()I" } : Jvm.MethodName) ({ cls := "BarrelProcessor", name := "undo", desc := "()I" } : Jvm.MethodName)) ∈ lw_all := lw_g (lw_at lw_m5 72 rfl) rfl
theorem q1077 : (Jvm.Cond.code ({ cls := "BarrelProcessor", name := "undo", desc := "()I" } : Jvm.MethodName) prog_1_method_22_code (1 : Nat) (Option.some Jvm.ClassFile.FieldType.int)) ∈ lw_all := lw_g (lw_at lw_m5 73 rfl) rfl
theorem q1078 : (Jvm.Cond.interfaceEntry "BarrelProcessor" (204 : Nat)) ∈ lw_tbl := lw_at lw_m5 74 rfl
theorem q1079 : (Jvm.Cond.methodLink "BarrelProcessor" (204 : Nat) ({ cls := "java/util/List", name := "isEmpty", desc := "()Z" } : Jvm.MethodName)) ∈ lw_all := lw_g (lw_at lw_m5 75 rfl) rfl
theorem q1088 : (Jvm.Cond.instanceMethod ({ cls := "BarrelProcessor", name := "state", desc := "(I)I" } : Jvm.MethodName)) ∈ lw_all := lw_g (lw_at lw_m5 84 rfl) rfl
theorem q1089 : (Jvm.Cond.selects "BarrelProcessor" ({ cls := "BarrelProcessor", name := "state", desc := "(I)I" } : Jvm.MethodName) ({ cls := "BarrelProcessor", name := "state", desc := "(I)I" } : Jvm.MethodName)) ∈ lw_all := lw_g (lw_at lw_m5 85 rfl) rfl
theorem q1090 : (Jvm.Cond.code ({ cls := "BarrelProcessor", name := "state", desc := "(I)I" } : Jvm.MethodName) prog_1_method_23_code (2 : Nat) (Option.some Jvm.ClassFile.FieldType.int)) ∈ lw_all := lw_g (lw_at lw_m5 86 rfl) rfl
theorem q1092 : (Jvm.Cond.instanceMethod ({ cls := "BarrelProcessor", name := "programCounter", desc := "(I)I" } : Jvm.MethodName)) ∈ lw_all := lw_g (lw_at lw_m5 88 rfl) rfl
theorem q1093 : (Jvm.Cond.selects "BarrelProcessor" ({ cls := "BarrelProcessor", name := "programCounter", desc := "(I)I" } : Jvm.MethodName) ({ cls := "BarrelProcessor", name := "programCounter", desc := "(I)I" } : Jvm.MethodName)) ∈ lw_all := lw_g (lw_at lw_m5 89 rfl) rfl
theorem q1094 : (Jvm.Cond.code ({ cls := "BarrelProcessor", name := "programCounter", desc := "(I)I" } : Jvm.MethodName) prog_1_method_24_code (2 : Nat) (Option.some Jvm.ClassFile.FieldType.int)) ∈ lw_all := lw_g (lw_at lw_m5 90 rfl) rfl
theorem q1096 : (Jvm.Cond.instanceMethod ({ cls := "BarrelProcessor", name := "register", desc := "(II)I" } : Jvm.MethodName)) ∈ lw_all := lw_g (lw_at lw_m5 92 rfl) rfl
theorem q1097 : (Jvm.Cond.selects "BarrelProcessor" ({ cls := "BarrelProcessor", name := "register", desc := "(II)I" } : Jvm.MethodName) ({ cls := "BarrelProcessor", name := "register", desc := "(II)I" } : Jvm.MethodName)) ∈ lw_all := lw_g (lw_at lw_m5 93 rfl) rfl
theorem q1098 : (Jvm.Cond.code ({ cls := "BarrelProcessor", name := "register", desc := "(II)I" } : Jvm.MethodName) prog_1_method_25_code (3 : Nat) (Option.some Jvm.ClassFile.FieldType.int)) ∈ lw_all := lw_g (lw_at lw_m5 94 rfl) rfl
theorem q1100 : (Jvm.Cond.instanceMethod ({ cls := "BarrelProcessor", name := "word", desc := "(I)I" } : Jvm.MethodName)) ∈ lw_all := lw_g (lw_at lw_m5 96 rfl) rfl
theorem q1101 : (Jvm.Cond.selects "BarrelProcessor" ({ cls := "BarrelProcessor", name := "word", desc := "(I)I" } : Jvm.MethodName) ({ cls := "BarrelProcessor", name := "word", desc := "(I)I" } : Jvm.MethodName)) ∈ lw_all := lw_g (lw_at lw_m5 97 rfl) rfl
theorem q1102 : (Jvm.Cond.code ({ cls := "BarrelProcessor", name := "word", desc := "(I)I" } : Jvm.MethodName) prog_1_method_26_code (2 : Nat) (Option.some Jvm.ClassFile.FieldType.int)) ∈ lw_all := lw_g (lw_at lw_m5 98 rfl) rfl
theorem q1104 : (Jvm.Cond.instanceMethod ({ cls := "BarrelProcessor", name := "operation", desc := "(I)I" } : Jvm.MethodName)) ∈ lw_all := lw_g (lw_at lw_m5 100 rfl) rfl
theorem q1105 : (Jvm.Cond.selects "BarrelProcessor" ({ cls := "BarrelProcessor", name := "operation", desc := "(I)I" } : Jvm.MethodName) ({ cls := "BarrelProcessor", name := "operation", desc := "(I)I" } : Jvm.MethodName)) ∈ lw_all := lw_g (lw_at lw_m5 101 rfl) rfl
theorem q1106 : (Jvm.Cond.code ({ cls := "BarrelProcessor", name := "operation", desc := "(I)I" } : Jvm.MethodName) prog_1_method_27_code (2 : Nat) (Option.some Jvm.ClassFile.FieldType.int)) ∈ lw_all := lw_g (lw_at lw_m5 102 rfl) rfl
theorem q1108 : (Jvm.Cond.instanceMethod ({ cls := "BarrelProcessor", name := "operand", desc := "(II)I" } : Jvm.MethodName)) ∈ lw_all := lw_g (lw_at lw_m5 104 rfl) rfl
theorem q1109 : (Jvm.Cond.selects "BarrelProcessor" ({ cls := "BarrelProcessor", name := "operand", desc := "(II)I" } : Jvm.MethodName) ({ cls := "BarrelProcessor", name := "operand", desc := "(II)I" } : Jvm.MethodName)) ∈ lw_all := lw_g (lw_at lw_m5 105 rfl) rfl
theorem q1110 : (Jvm.Cond.code ({ cls := "BarrelProcessor", name := "operand", desc := "(II)I" } : Jvm.MethodName) prog_1_method_28_code (3 : Nat) (Option.some Jvm.ClassFile.FieldType.int)) ∈ lw_all := lw_g (lw_at lw_m5 106 rfl) rfl
theorem q1112 : (Jvm.Cond.instanceMethod ({ cls := "BarrelProcessor", name := "slot", desc := "(I)I" } : Jvm.MethodName)) ∈ lw_all := lw_g (lw_at lw_m5 108 rfl) rfl
theorem q1113 : (Jvm.Cond.selects "BarrelProcessor" ({ cls := "BarrelProcessor", name := "slot", desc := "(I)I" } : Jvm.MethodName) ({ cls := "BarrelProcessor", name := "slot", desc := "(I)I" } : Jvm.MethodName)) ∈ lw_all := lw_g (lw_at lw_m5 109 rfl) rfl
theorem q1114 : (Jvm.Cond.code ({ cls := "BarrelProcessor", name := "slot", desc := "(I)I" } : Jvm.MethodName) prog_1_method_29_code (2 : Nat) (Option.some Jvm.ClassFile.FieldType.int)) ∈ lw_all := lw_g (lw_at lw_m5 110 rfl) rfl
theorem q1116 : (Jvm.Cond.instanceMethod ({ cls := "BarrelProcessor", name := "setting", desc := "(I)I" } : Jvm.MethodName)) ∈ lw_all := lw_g (lw_at lw_m5 112 rfl) rfl
theorem q1117 : (Jvm.Cond.selects "BarrelProcessor" ({ cls := "BarrelProcessor", name := "setting", desc := "(I)I" } : Jvm.MethodName) ({ cls := "BarrelProcessor", name := "setting", desc := "(I)I" } : Jvm.MethodName)) ∈ lw_all := lw_g (lw_at lw_m5 113 rfl) rfl
theorem q1118 : (Jvm.Cond.code ({ cls := "BarrelProcessor", name := "setting", desc := "(I)I" } : Jvm.MethodName) prog_1_method_30_code (2 : Nat) (Option.some Jvm.ClassFile.FieldType.int)) ∈ lw_all := lw_g (lw_at lw_m5 114 rfl) rfl
theorem q1120 : (Jvm.Cond.instanceMethod ({ cls := "BarrelProcessor", name := "breakpoint", desc := "(I)I" } : Jvm.MethodName)) ∈ lw_all := lw_g (lw_at lw_m5 116 rfl) rfl
theorem q1121 : (Jvm.Cond.selects "BarrelProcessor" ({ cls := "BarrelProcessor", name := "breakpoint", desc := "(I)I" } : Jvm.MethodName) ({ cls := "BarrelProcessor", name := "breakpoint", desc := "(I)I" } : Jvm.MethodName)) ∈ lw_all := lw_g (lw_at lw_m5 117 rfl) rfl
theorem q1122 : (Jvm.Cond.code ({ cls := "BarrelProcessor", name := "breakpoint", desc := "(I)I" } : Jvm.MethodName) prog_1_method_31_code (2 : Nat) (Option.some Jvm.ClassFile.FieldType.int)) ∈ lw_all := lw_g (lw_at lw_m5 118 rfl) rfl
theorem q1124 : (Jvm.Cond.instanceMethod ({ cls := "BarrelProcessor", name := "cycle", desc := "()I" } : Jvm.MethodName)) ∈ lw_all := lw_g (lw_at lw_m5 120 rfl) rfl
theorem q1125 : (Jvm.Cond.selects "BarrelProcessor" ({ cls := "BarrelProcessor", name := "cycle", desc := "()I" } : Jvm.MethodName) ({ cls := "BarrelProcessor", name := "cycle", desc := "()I" } : Jvm.MethodName)) ∈ lw_all := lw_g (lw_at lw_m5 121 rfl) rfl
theorem q1126 : (Jvm.Cond.code ({ cls := "BarrelProcessor", name := "cycle", desc := "()I" } : Jvm.MethodName) prog_1_method_32_code (1 : Nat) (Option.some Jvm.ClassFile.FieldType.int)) ∈ lw_all := lw_g (lw_at lw_m5 122 rfl) rfl
theorem q1128 : (Jvm.Cond.instanceMethod ({ cls := "BarrelProcessor", name := "idle", desc := "()I" } : Jvm.MethodName)) ∈ lw_all := lw_g (lw_at lw_m5 124 rfl) rfl
theorem q1129 : (Jvm.Cond.selects "BarrelProcessor" ({ cls := "BarrelProcessor", name := "idle", desc := "()I" } : Jvm.MethodName) ({ cls := "BarrelProcessor", name := "idle", desc := "()I" } : Jvm.MethodName)) ∈ lw_all := lw_g (lw_at lw_m5 125 rfl) rfl
theorem q1130 : (Jvm.Cond.code ({ cls := "BarrelProcessor", name := "idle", desc := "()I" } : Jvm.MethodName) prog_1_method_33_code (1 : Nat) (Option.some Jvm.ClassFile.FieldType.int)) ∈ lw_all := lw_g (lw_at lw_m5 126 rfl) rfl
theorem q1132 : (Jvm.Cond.instanceMethod ({ cls := "BarrelProcessor", name := "executed", desc := "(I)I" } : Jvm.MethodName)) ∈ lw_all := lw_g (lw_at lw_m5 128 rfl) rfl
theorem q1133 : (Jvm.Cond.selects "BarrelProcessor" ({ cls := "BarrelProcessor", name := "executed", desc := "(I)I" } : Jvm.MethodName) ({ cls := "BarrelProcessor", name := "executed", desc := "(I)I" } : Jvm.MethodName)) ∈ lw_all := lw_g (lw_at lw_m5 129 rfl) rfl
theorem q1134 : (Jvm.Cond.code ({ cls := "BarrelProcessor", name := "executed", desc := "(I)I" } : Jvm.MethodName) prog_1_method_34_code (2 : Nat) (Option.some Jvm.ClassFile.FieldType.int)) ∈ lw_all := lw_g (lw_at lw_m5 130 rfl) rfl
theorem q1136 : (Jvm.Cond.instanceMethod ({ cls := "BarrelProcessor", name := "lent", desc := "(I)I" } : Jvm.MethodName)) ∈ lw_all := lw_g (lw_at lw_m5 132 rfl) rfl
theorem q1137 : (Jvm.Cond.selects "BarrelProcessor" ({ cls := "BarrelProcessor", name := "lent", desc := "(I)I" } : Jvm.MethodName) ({ cls := "BarrelProcessor", name := "lent", desc := "(I)I" } : Jvm.MethodName)) ∈ lw_all := lw_g (lw_at lw_m5 133 rfl) rfl
theorem q1138 : (Jvm.Cond.code ({ cls := "BarrelProcessor", name := "lent", desc := "(I)I" } : Jvm.MethodName) prog_1_method_35_code (2 : Nat) (Option.some Jvm.ClassFile.FieldType.int)) ∈ lw_all := lw_g (lw_at lw_m5 134 rfl) rfl
theorem q1140 : (Jvm.Cond.instanceMethod ({ cls := "BarrelProcessor", name := "starved", desc := "(I)I" } : Jvm.MethodName)) ∈ lw_all := lw_g (lw_at lw_m5 136 rfl) rfl
theorem q1141 : (Jvm.Cond.selects "BarrelProcessor" ({ cls := "BarrelProcessor", name := "starved", desc := "(I)I" } : Jvm.MethodName) ({ cls := "BarrelProcessor", name := "starved", desc := "(I)I" } : Jvm.MethodName)) ∈ lw_all := lw_g (lw_at lw_m5 137 rfl) rfl
theorem q1142 : (Jvm.Cond.code ({ cls := "BarrelProcessor", name := "starved", desc := "(I)I" } : Jvm.MethodName) prog_1_method_36_code (2 : Nat) (Option.some Jvm.ClassFile.FieldType.int)) ∈ lw_all := lw_g (lw_at lw_m5 138 rfl) rfl
theorem q1144 : (Jvm.Cond.instanceMethod ({ cls := "BarrelProcessor", name := "trace", desc := "(II)I" } : Jvm.MethodName)) ∈ lw_all := lw_g (lw_at lw_m5 140 rfl) rfl
theorem q1145 : (Jvm.Cond.selects "BarrelProcessor" ({ cls := "BarrelProcessor", name := "trace", desc := "(II)I" } : Jvm.MethodName) ({ cls := "BarrelProcessor", name := "trace", desc := "(II)I" } : Jvm.MethodName)) ∈ lw_all := lw_g (lw_at lw_m5 141 rfl) rfl
theorem q1146 : (Jvm.Cond.code ({ cls := "BarrelProcessor", name := "trace", desc := "(II)I" } : Jvm.MethodName) prog_1_method_37_code (4 : Nat) (Option.some Jvm.ClassFile.FieldType.int)) ∈ lw_all := lw_g (lw_at lw_m5 142 rfl) rfl
theorem q1148 : (Jvm.Cond.instanceMethod ({ cls := "BarrelProcessor", name := "use", desc := "()F" } : Jvm.MethodName)) ∈ lw_all := lw_g (lw_at lw_m5 144 rfl) rfl
theorem q1149 : (Jvm.Cond.selects "BarrelProcessor" ({ cls := "BarrelProcessor", name := "use", desc := "()F" } : Jvm.MethodName) ({ cls := "BarrelProcessor", name := "use", desc := "()F" } : Jvm.MethodName)) ∈ lw_all := lw_g (lw_at lw_m5 145 rfl) rfl
theorem q1150 : (Jvm.Cond.code ({ cls := "BarrelProcessor", name := "use", desc := "()F" } : Jvm.MethodName) prog_1_method_38_code (1 : Nat) (Option.some Jvm.ClassFile.FieldType.float)) ∈ lw_all := lw_g (lw_at lw_m5 146 rfl) rfl
theorem q1152 : (Jvm.Cond.instanceMethod ({ cls := "BarrelProcessor", name := "nextThread", desc := "()I" } : Jvm.MethodName)) ∈ lw_all := lw_g (lw_at lw_m5 148 rfl) rfl
theorem q1153 : (Jvm.Cond.selects "BarrelProcessor" ({ cls := "BarrelProcessor", name := "nextThread", desc := "()I" } : Jvm.MethodName) ({ cls := "BarrelProcessor", name := "nextThread", desc := "()I" } : Jvm.MethodName)) ∈ lw_all := lw_g (lw_at lw_m5 149 rfl) rfl
theorem q1154 : (Jvm.Cond.code ({ cls := "BarrelProcessor", name := "nextThread", desc := "()I" } : Jvm.MethodName) prog_1_method_39_code (1 : Nat) (Option.some Jvm.ClassFile.FieldType.int)) ∈ lw_all := lw_g (lw_at lw_m5 150 rfl) rfl
theorem q1155 : (Jvm.Cond.methodLink "BarrelProcessor" (246 : Nat) ({ cls := "BarrelProcessor$Machine", name := "issuer", desc := "()I" } : Jvm.MethodName)) ∈ lw_all := lw_g (lw_at lw_m5 151 rfl) rfl
theorem q1157 : (Jvm.Cond.instanceMethod ({ cls := "BarrelProcessor", name := "cyclesLeft", desc := "()I" } : Jvm.MethodName)) ∈ lw_all := lw_g (lw_at lw_m5 153 rfl) rfl
theorem q1158 : (Jvm.Cond.selects "BarrelProcessor" ({ cls := "BarrelProcessor", name := "cyclesLeft", desc := "()I" } : Jvm.MethodName) ({ cls := "BarrelProcessor", name := "cyclesLeft", desc := "()I" } : Jvm.MethodName)) ∈ lw_all := lw_g (lw_at lw_m5 154 rfl) rfl
theorem q1159 : (Jvm.Cond.code ({ cls := "BarrelProcessor", name := "cyclesLeft", desc := "()I" } : Jvm.MethodName) prog_1_method_40_code (1 : Nat) (Option.some Jvm.ClassFile.FieldType.int)) ∈ lw_all := lw_g (lw_at lw_m5 155 rfl) rfl
theorem q1160 : (Jvm.Cond.methodLink "BarrelProcessor" (249 : Nat) ({ cls := "BarrelProcessor$Machine", name := "runOut", desc := "()I" } : Jvm.MethodName)) ∈ lw_all := lw_g (lw_at lw_m5 156 rfl) rfl
theorem q1167 : (Jvm.Cond.instanceMethod ({ cls := "BarrelProcessor", name := "cyclesIf", desc := "(II)I" } : Jvm.MethodName)) ∈ lw_all := lw_g (lw_at lw_m5 163 rfl) rfl
theorem q1168 : (Jvm.Cond.selects "BarrelProcessor" ({ cls := "BarrelProcessor", name := "cyclesIf", desc := "(II)I" } : Jvm.MethodName) ({ cls := "BarrelProcessor", name := "cyclesIf", desc := "(II)I" } : Jvm.MethodName)) ∈ lw_all := lw_g (lw_at lw_m5 164 rfl) rfl
theorem q1169 : (Jvm.Cond.code ({ cls := "BarrelProcessor", name := "cyclesIf", desc := "(II)I" } : Jvm.MethodName) prog_1_method_42_code (3 : Nat) (Option.some Jvm.ClassFile.FieldType.int)) ∈ lw_all := lw_g (lw_at lw_m5 165 rfl) rfl
theorem q1170 : (Jvm.Cond.methodLink "BarrelProcessor" (252 : Nat) ({ cls := "BarrelProcessor", name := "tried", desc := "(II)I" } : Jvm.MethodName)) ∈ lw_all := lw_g (lw_at lw_m5 166 rfl) rfl
theorem q1171 : (Jvm.Cond.privateMethod ({ cls := "BarrelProcessor", name := "tried", desc := "(II)I" } : Jvm.MethodName)) ∈ lw_tbl := lw_at lw_m5 167 rfl
theorem q1172 : (Jvm.Cond.instanceMethod ({ cls := "BarrelProcessor", name := "tried", desc := "(II)I" } : Jvm.MethodName)) ∈ lw_all := lw_g (lw_at lw_m5 168 rfl) rfl
theorem q1173 : (Jvm.Cond.code ({ cls := "BarrelProcessor", name := "tried", desc := "(II)I" } : Jvm.MethodName) prog_1_method_41_code (4 : Nat) (Option.some Jvm.ClassFile.FieldType.int)) ∈ lw_all := lw_g (lw_at lw_m5 169 rfl) rfl
theorem q1175 : (Jvm.Cond.instanceMethod ({ cls := "BarrelProcessor", name := "bestLend", desc := "()I" } : Jvm.MethodName)) ∈ lw_all := lw_g (lw_at lw_m5 171 rfl) rfl
theorem q1176 : (Jvm.Cond.selects "BarrelProcessor" ({ cls := "BarrelProcessor", name := "bestLend", desc := "()I" } : Jvm.MethodName) ({ cls := "BarrelProcessor", name := "bestLend", desc := "()I" } : Jvm.MethodName)) ∈ lw_all := lw_g (lw_at lw_m5 172 rfl) rfl
theorem q1177 : (Jvm.Cond.code ({ cls := "BarrelProcessor", name := "bestLend", desc := "()I" } : Jvm.MethodName) prog_1_method_43_code (5 : Nat) (Option.some Jvm.ClassFile.FieldType.int)) ∈ lw_all := lw_g (lw_at lw_m5 173 rfl) rfl
theorem q1179 : (Jvm.Cond.instanceMethod ({ cls := "BarrelProcessor", name := "finalWord", desc := "(I)I" } : Jvm.MethodName)) ∈ lw_all := lw_g (lw_at lw_m5 175 rfl) rfl
theorem q1180 : (Jvm.Cond.selects "BarrelProcessor" ({ cls := "BarrelProcessor", name := "finalWord", desc := "(I)I" } : Jvm.MethodName) ({ cls := "BarrelProcessor", name := "finalWord", desc := "(I)I" } : Jvm.MethodName)) ∈ lw_all := lw_g (lw_at lw_m5 176 rfl) rfl
theorem q1181 : (Jvm.Cond.code ({ cls := "BarrelProcessor", name := "finalWord", desc := "(I)I" } : Jvm.MethodName) prog_1_method_44_code (3 : Nat) (Option.some Jvm.ClassFile.FieldType.int)) ∈ lw_all := lw_g (lw_at lw_m5 177 rfl) rfl
theorem q1503 : (Jvm.Cond.castable "BarrelProcessor" "java/lang/Object") ∈ lw_tbl := lw_at lw_m7 19 rfl
theorem in_X0 : ∀ w ∈ wsX00, w ∈ lw_all := lw_in wsX00 [440, 442, 444, 446, 448, 450] (by decide +kernel) (by decide +kernel)
/-! BarrelProcessor$Rule -/
set_option maxRecDepth 100000
def RX1 : String := "BarrelProcessor$Rule"
abbrev cX1_of : ByteArray := prog_10_method_3_code
def yX1_of : MethodName := ⟨RX1, "of", "(Ljava/lang/String;)LBarrelProcessor$Rule;"⟩
def dkwX1_of_6 : List UInt8 := [183, 0, 38, 176]
abbrev dktX1_of_6 : List UInt8 := dkwX1_of_6 ++ []
def dkwX1_of_5 : List UInt8 := [187, 0, 27, 89, 183, 0, 29, 167, 0, 20, 187, 0, 33, 89, 183, 0, 35, 167, 0, 10, 187, 0, 36, 89]
abbrev dktX1_of_5 : List UInt8 := dkwX1_of_5 ++ dktX1_of_6
def dkwX1_of_4 : List UInt8 := [171, 0, 0, 0, 0, 46, 0, 0, 0, 2, 0, 0, 0, 0, 0, 0, 0, 26, 0, 0, 0, 1, 0, 0, 0, 36]
abbrev dktX1_of_4 : List UInt8 := dkwX1_of_4 ++ dktX1_of_5
def dkwX1_of_3 : List UInt8 := [61, 28]
abbrev dktX1_of_3 : List UInt8 := dkwX1_of_3 ++ dktX1_of_4
def dkwX1_of_2 : List UInt8 := [43, 18, 19, 182, 0, 21, 153, 0, 19, 3, 61, 167, 0, 14, 43, 18, 25, 182, 0, 21, 153, 0, 5, 4]
abbrev dktX1_of_2 : List UInt8 := dkwX1_of_2 ++ dktX1_of_3
def dkwX1_of_1 : List UInt8 := [171, 0, 0, 0, 0, 0, 0, 53, 0, 0, 0, 2, 0, 51, 138, 243, 0, 0, 0, 28, 20, 201, 97, 138, 0, 0, 0, 42]
abbrev dktX1_of_1 : List UInt8 := dkwX1_of_1 ++ dktX1_of_2
def dkwX1_of_0 : List UInt8 := [42, 76, 2, 61, 43, 182, 0, 13]
abbrev dktX1_of_0 : List UInt8 := dkwX1_of_0 ++ dktX1_of_1
theorem dksX1_of_0 : cX1_of.data.toList.drop 0 = dktX1_of_0 := by decide +kernel
theorem dksX1_of_1 : cX1_of.data.toList.drop 8 = dktX1_of_1 := dk_seg dksX1_of_0 8 rfl rfl
theorem dksX1_of_2 : cX1_of.data.toList.drop 36 = dktX1_of_2 := dk_seg dksX1_of_1 28 rfl rfl
theorem dksX1_of_3 : cX1_of.data.toList.drop 60 = dktX1_of_3 := dk_seg dksX1_of_2 24 rfl rfl
theorem dksX1_of_4 : cX1_of.data.toList.drop 62 = dktX1_of_4 := dk_seg dksX1_of_3 2 rfl rfl
theorem dksX1_of_5 : cX1_of.data.toList.drop 88 = dktX1_of_5 := dk_seg dksX1_of_4 26 rfl rfl
theorem dksX1_of_6 : cX1_of.data.toList.drop 112 = dktX1_of_6 := dk_seg dksX1_of_5 24 rfl rfl
theorem dX1_of_0 : decode cX1_of 0 = .ok (.aload_n 0, 1) := dk_42 (dk_at dksX1_of_0 0 rfl rfl)
theorem dX1_of_1 : decode cX1_of 1 = .ok (.astore_n 1, 1) := dk_76 (dk_at dksX1_of_0 1 rfl rfl)
theorem dX1_of_2 : decode cX1_of 2 = .ok (.iconst (-1), 1) := dk_2 (dk_at dksX1_of_0 2 rfl rfl)
theorem dX1_of_3 : decode cX1_of 3 = .ok (.istore_n 2, 1) := dk_61 (dk_at dksX1_of_0 3 rfl rfl)
theorem dX1_of_4 : decode cX1_of 4 = .ok (.aload_n 1, 1) := dk_43 (dk_at dksX1_of_0 4 rfl rfl)
theorem dX1_of_5 : decode cX1_of 5 = .ok (.invokevirtual 13, 3) := dk_182 0 13 (dk_at dksX1_of_0 5 rfl rfl)
theorem dX1_of_8 : decode cX1_of 8 = .ok (.lookupswitch 53 #[(3377907, 28), (348742026, 42)], 28) := by decide +kernel
theorem dX1_of_36 : decode cX1_of 36 = .ok (.aload_n 1, 1) := dk_43 (dk_at dksX1_of_2 0 rfl rfl)
theorem dX1_of_37 : decode cX1_of 37 = .ok (.ldc 19, 2) := dk_18 19 (dk_at dksX1_of_2 1 rfl rfl)
theorem dX1_of_39 : decode cX1_of 39 = .ok (.invokevirtual 21, 3) := dk_182 0 21 (dk_at dksX1_of_2 3 rfl rfl)
theorem dX1_of_42 : decode cX1_of 42 = .ok (.ifCond .eq 19, 3) := dk_153 0 19 (dk_at dksX1_of_2 6 rfl rfl)
theorem dX1_of_45 : decode cX1_of 45 = .ok (.iconst 0, 1) := dk_3 (dk_at dksX1_of_2 9 rfl rfl)
theorem dX1_of_46 : decode cX1_of 46 = .ok (.istore_n 2, 1) := dk_61 (dk_at dksX1_of_2 10 rfl rfl)
theorem dX1_of_47 : decode cX1_of 47 = .ok (.goto 14, 3) := dk_167 0 14 (dk_at dksX1_of_2 11 rfl rfl)
theorem dX1_of_50 : decode cX1_of 50 = .ok (.aload_n 1, 1) := dk_43 (dk_at dksX1_of_2 14 rfl rfl)
theorem dX1_of_51 : decode cX1_of 51 = .ok (.ldc 25, 2) := dk_18 25 (dk_at dksX1_of_2 15 rfl rfl)
theorem dX1_of_53 : decode cX1_of 53 = .ok (.invokevirtual 21, 3) := dk_182 0 21 (dk_at dksX1_of_2 17 rfl rfl)
theorem dX1_of_56 : decode cX1_of 56 = .ok (.ifCond .eq 5, 3) := dk_153 0 5 (dk_at dksX1_of_2 20 rfl rfl)
theorem dX1_of_59 : decode cX1_of 59 = .ok (.iconst 1, 1) := dk_4 (dk_at dksX1_of_2 23 rfl rfl)
theorem dX1_of_60 : decode cX1_of 60 = .ok (.istore_n 2, 1) := dk_61 (dk_at dksX1_of_3 0 rfl rfl)
theorem dX1_of_61 : decode cX1_of 61 = .ok (.iload_n 2, 1) := dk_28 (dk_at dksX1_of_3 1 rfl rfl)
theorem dX1_of_62 : decode cX1_of 62 = .ok (.lookupswitch 46 #[(0, 26), (1, 36)], 26) := by decide +kernel
theorem dX1_of_88 : decode cX1_of 88 = .ok (.new 27, 3) := dk_187 0 27 (dk_at dksX1_of_5 0 rfl rfl)
theorem dX1_of_91 : decode cX1_of 91 = .ok (.dup, 1) := dk_89 (dk_at dksX1_of_5 3 rfl rfl)
theorem dX1_of_92 : decode cX1_of 92 = .ok (.invokespecial 29, 3) := dk_183 0 29 (dk_at dksX1_of_5 4 rfl rfl)
theorem dX1_of_95 : decode cX1_of 95 = .ok (.goto 20, 3) := dk_167 0 20 (dk_at dksX1_of_5 7 rfl rfl)
theorem dX1_of_98 : decode cX1_of 98 = .ok (.new 33, 3) := dk_187 0 33 (dk_at dksX1_of_5 10 rfl rfl)
theorem dX1_of_101 : decode cX1_of 101 = .ok (.dup, 1) := dk_89 (dk_at dksX1_of_5 13 rfl rfl)
theorem dX1_of_102 : decode cX1_of 102 = .ok (.invokespecial 35, 3) := dk_183 0 35 (dk_at dksX1_of_5 14 rfl rfl)
theorem dX1_of_105 : decode cX1_of 105 = .ok (.goto 10, 3) := dk_167 0 10 (dk_at dksX1_of_5 17 rfl rfl)
theorem dX1_of_108 : decode cX1_of 108 = .ok (.new 36, 3) := dk_187 0 36 (dk_at dksX1_of_5 20 rfl rfl)
theorem dX1_of_111 : decode cX1_of 111 = .ok (.dup, 1) := dk_89 (dk_at dksX1_of_5 23 rfl rfl)
theorem dX1_of_112 : decode cX1_of 112 = .ok (.invokespecial 38, 3) := dk_183 0 38 (dk_at dksX1_of_6 0 rfl rfl)
theorem dX1_of_115 : decode cX1_of 115 = .ok (.areturn, 1) := dk_176 (dk_at dksX1_of_6 3 rfl rfl)
abbrev cX1_issuer : ByteArray := prog_10_method_2_code
def yX1_issuer : MethodName := ⟨RX1, "issuer", "(LBarrelProcessor$Machine;I)I"⟩
def dkwX1_issuer_0 : List UInt8 := [43, 28, 182, 0, 1, 153, 0, 7, 28, 167, 0, 11, 42, 43, 28, 185, 0, 7, 3, 0, 172]
abbrev dktX1_issuer_0 : List UInt8 := dkwX1_issuer_0 ++ []
theorem dksX1_issuer_0 : cX1_issuer.data.toList.drop 0 = dktX1_issuer_0 := by decide +kernel
theorem dX1_issuer_0 : decode cX1_issuer 0 = .ok (.aload_n 1, 1) := dk_43 (dk_at dksX1_issuer_0 0 rfl rfl)
theorem dX1_issuer_1 : decode cX1_issuer 1 = .ok (.iload_n 2, 1) := dk_28 (dk_at dksX1_issuer_0 1 rfl rfl)
theorem dX1_issuer_2 : decode cX1_issuer 2 = .ok (.invokevirtual 1, 3) := dk_182 0 1 (dk_at dksX1_issuer_0 2 rfl rfl)
theorem dX1_issuer_5 : decode cX1_issuer 5 = .ok (.ifCond .eq 7, 3) := dk_153 0 7 (dk_at dksX1_issuer_0 5 rfl rfl)
theorem dX1_issuer_8 : decode cX1_issuer 8 = .ok (.iload_n 2, 1) := dk_28 (dk_at dksX1_issuer_0 8 rfl rfl)
theorem dX1_issuer_9 : decode cX1_issuer 9 = .ok (.goto 11, 3) := dk_167 0 11 (dk_at dksX1_issuer_0 9 rfl rfl)
theorem dX1_issuer_12 : decode cX1_issuer 12 = .ok (.aload_n 0, 1) := dk_42 (dk_at dksX1_issuer_0 12 rfl rfl)
theorem dX1_issuer_13 : decode cX1_issuer 13 = .ok (.aload_n 1, 1) := dk_43 (dk_at dksX1_issuer_0 13 rfl rfl)
theorem dX1_issuer_14 : decode cX1_issuer 14 = .ok (.iload_n 2, 1) := dk_28 (dk_at dksX1_issuer_0 14 rfl rfl)
theorem dX1_issuer_15 : decode cX1_issuer 15 = .ok (.invokeinterface 7 3, 5) := by decide +kernel
theorem dX1_issuer_20 : decode cX1_issuer 20 = .ok (.ireturn, 1) := dk_172 (dk_at dksX1_issuer_0 20 rfl rfl)
theorem q46 : (Jvm.Cond.initialized "BarrelProcessor$Rule") ∈ lw_all := lw_g (lw_at lw_m1 2 rfl) rfl
theorem q127 : (Jvm.Cond.static ({ cls := "BarrelProcessor$Rule", name := "of", desc := "(Ljava/lang/String;)LBarrelProcessor$Rule;" } : Jvm.MethodName)) ∈ lw_all := lw_g (lw_at lw_m1 83 rfl) rfl
theorem q128 : (Jvm.Cond.code ({ cls := "BarrelProcessor$Rule", name := "of", desc := "(Ljava/lang/String;)LBarrelProcessor$Rule;" } : Jvm.MethodName) prog_10_method_3_code (3 : Nat) (Option.some (Jvm.ClassFile.FieldType.object "BarrelProcessor$Rule"))) ∈ lw_all := lw_g (lw_at lw_m1 84 rfl) rfl
theorem q129 : (Jvm.Cond.methodLink "BarrelProcessor$Rule" (13 : Nat) ({ cls := "java/lang/String", name := "hashCode", desc := "()I" } : Jvm.MethodName)) ∈ lw_all := lw_g (lw_at lw_m1 85 rfl) rfl
theorem q196 : (Jvm.Cond.stringRef "BarrelProcessor$Rule" (19 : Nat) "next") ∈ lw_tbl := lw_at lw_m1 152 rfl
theorem q197 : (Jvm.Cond.methodLink "BarrelProcessor$Rule" (21 : Nat) ({ cls := "java/lang/String", name := "equals", desc := "(Ljava/lang/Object;)Z" } : Jvm.MethodName)) ∈ lw_all := lw_g (lw_at lw_m1 153 rfl) rfl
theorem q205 : (Jvm.Cond.stringRef "BarrelProcessor$Rule" (25 : Nat) "longest") ∈ lw_tbl := lw_at lw_m1 161 rfl
theorem q206 : (Jvm.Cond.classLink "BarrelProcessor$Rule" (27 : Nat) "BarrelProcessor$NextReady") ∈ lw_all := lw_g (lw_at lw_m1 162 rfl) rfl
theorem q208 : (Jvm.Cond.methodLinkNest "BarrelProcessor$Rule" (29 : Nat) ({ cls := "BarrelProcessor$NextReady", name := "<init>", desc := "()V" } : Jvm.MethodName) "BarrelProcessor") ∈ lw_tbl := lw_at lw_m1 164 rfl
theorem q214 : (Jvm.Cond.classLink "BarrelProcessor$Rule" (33 : Nat) "BarrelProcessor$LongestWaiting") ∈ lw_all := lw_g (lw_at lw_m1 170 rfl) rfl
theorem q216 : (Jvm.Cond.methodLinkNest "BarrelProcessor$Rule" (35 : Nat) ({ cls := "BarrelProcessor$LongestWaiting", name := "<init>", desc := "()V" } : Jvm.MethodName) "BarrelProcessor") ∈ lw_tbl := lw_at lw_m1 172 rfl
theorem q221 : (Jvm.Cond.classLink "BarrelProcessor$Rule" (36 : Nat) "BarrelProcessor$NoLending") ∈ lw_all := lw_g (lw_at lw_m1 177 rfl) rfl
theorem q223 : (Jvm.Cond.methodLinkNest "BarrelProcessor$Rule" (38 : Nat) ({ cls := "BarrelProcessor$NoLending", name := "<init>", desc := "()V" } : Jvm.MethodName) "BarrelProcessor") ∈ lw_tbl := lw_at lw_m1 179 rfl
theorem q974 : (Jvm.Cond.interfaceMethod "BarrelProcessor$Rule" "BarrelProcessor$Rule" "issuer" "(LBarrelProcessor$Machine;I)I") ∈ lw_tbl := lw_at lw_m4 210 rfl
theorem q975 : (Jvm.Cond.declares ({ cls := "BarrelProcessor$Rule", name := "issuer", desc := "(LBarrelProcessor$Machine;I)I" } : Jvm.MethodName)) ∈ lw_tbl := lw_at lw_m4 211 rfl
theorem q978 : (Jvm.Cond.instanceMethod ({ cls := "BarrelProcessor$Rule", name := "issuer", desc := "(LBarrelProcessor$Machine;I)I" } : Jvm.MethodName)) ∈ lw_all := lw_g (lw_at lw_m4 214 rfl) rfl
theorem q979 : (Jvm.Cond.publicMethod ({ cls := "BarrelProcessor$Rule", name := "issuer", desc := "(LBarrelProcessor$Machine;I)I" } : Jvm.MethodName)) ∈ lw_tbl := lw_at lw_m4 215 rfl
theorem q980 : (Jvm.Cond.code ({ cls := "BarrelProcessor$Rule", name := "issuer", desc := "(LBarrelProcessor$Machine;I)I" } : Jvm.MethodName) prog_10_method_2_code (3 : Nat) (Option.some Jvm.ClassFile.FieldType.int)) ∈ lw_all := lw_g (lw_at lw_m4 216 rfl) rfl
theorem q981 : (Jvm.Cond.methodLink "BarrelProcessor$Rule" (1 : Nat) ({ cls := "BarrelProcessor$Machine", name := "isReady", desc := "(I)Z" } : Jvm.MethodName)) ∈ lw_all := lw_g (lw_at lw_m4 217 rfl) rfl
theorem q989 : (Jvm.Cond.interfaceEntry "BarrelProcessor$Rule" (7 : Nat)) ∈ lw_tbl := lw_at lw_m4 225 rfl
theorem q990 : (Jvm.Cond.methodLink "BarrelProcessor$Rule" (7 : Nat) ({ cls := "BarrelProcessor$Rule", name := "borrower", desc := "(LBarrelProcessor$Machine;I)I" } : Jvm.MethodName)) ∈ lw_all := lw_g (lw_at lw_m4 226 rfl) rfl
theorem q991 : (Jvm.Cond.interfaceMethod "BarrelProcessor$Rule" "BarrelProcessor$Rule" "borrower" "(LBarrelProcessor$Machine;I)I") ∈ lw_tbl := lw_at lw_m4 227 rfl
theorem q992 : (Jvm.Cond.declares ({ cls := "BarrelProcessor$Rule", name := "borrower", desc := "(LBarrelProcessor$Machine;I)I" } : Jvm.MethodName)) ∈ lw_tbl := lw_at lw_m4 228 rfl
theorem q1500 : (Jvm.Cond.castable "BarrelProcessor$Rule" "java/lang/Object") ∈ lw_tbl := lw_at lw_m7 16 rfl
/-! BarrelProcessor$NextReady -/
set_option maxRecDepth 100000
def RX2 : String := "BarrelProcessor$NextReady"
abbrev cX2_init : ByteArray := prog_6_method_1_code
def yX2_init : MethodName := ⟨RX2, "<init>", "()V"⟩
theorem dX2_init_0 : decode cX2_init 0 = .ok (.aload_n 0, 1) := by decide +kernel
theorem dX2_init_1 : decode cX2_init 1 = .ok (.invokespecial 3, 3) := by decide +kernel
theorem dX2_init_4 : decode cX2_init 4 = .ok (.return_, 1) := by decide +kernel
abbrev cX2_borrower : ByteArray := prog_6_method_2_code
def yX2_borrower : MethodName := ⟨RX2, "borrower", "(LBarrelProcessor$Machine;I)I"⟩
def dkwX2_borrower_1 : List UInt8 := [172, 132, 3, 1, 167, 255, 230, 18, 15, 172]
abbrev dktX2_borrower_1 : List UInt8 := dkwX2_borrower_1 ++ []
def dkwX2_borrower_0 : List UInt8 := [4, 62, 29, 7, 162, 0, 27, 43, 28, 29, 96, 7, 112, 182, 0, 9, 153, 0, 9, 28, 29, 96, 7, 112]
abbrev dktX2_borrower_0 : List UInt8 := dkwX2_borrower_0 ++ dktX2_borrower_1
theorem dksX2_borrower_0 : cX2_borrower.data.toList.drop 0 = dktX2_borrower_0 := by decide +kernel
theorem dksX2_borrower_1 : cX2_borrower.data.toList.drop 24 = dktX2_borrower_1 := dk_seg dksX2_borrower_0 24 rfl rfl
theorem dX2_borrower_0 : decode cX2_borrower 0 = .ok (.iconst 1, 1) := dk_4 (dk_at dksX2_borrower_0 0 rfl rfl)
theorem dX2_borrower_1 : decode cX2_borrower 1 = .ok (.istore_n 3, 1) := dk_62 (dk_at dksX2_borrower_0 1 rfl rfl)
theorem dX2_borrower_2 : decode cX2_borrower 2 = .ok (.iload_n 3, 1) := dk_29 (dk_at dksX2_borrower_0 2 rfl rfl)
theorem dX2_borrower_3 : decode cX2_borrower 3 = .ok (.iconst 4, 1) := dk_7 (dk_at dksX2_borrower_0 3 rfl rfl)
theorem dX2_borrower_4 : decode cX2_borrower 4 = .ok (.if_icmp .ge 27, 3) := dk_162 0 27 (dk_at dksX2_borrower_0 4 rfl rfl)
theorem dX2_borrower_7 : decode cX2_borrower 7 = .ok (.aload_n 1, 1) := dk_43 (dk_at dksX2_borrower_0 7 rfl rfl)
theorem dX2_borrower_8 : decode cX2_borrower 8 = .ok (.iload_n 2, 1) := dk_28 (dk_at dksX2_borrower_0 8 rfl rfl)
theorem dX2_borrower_9 : decode cX2_borrower 9 = .ok (.iload_n 3, 1) := dk_29 (dk_at dksX2_borrower_0 9 rfl rfl)
theorem dX2_borrower_10 : decode cX2_borrower 10 = .ok (.iadd, 1) := dk_96 (dk_at dksX2_borrower_0 10 rfl rfl)
theorem dX2_borrower_11 : decode cX2_borrower 11 = .ok (.iconst 4, 1) := dk_7 (dk_at dksX2_borrower_0 11 rfl rfl)
theorem dX2_borrower_12 : decode cX2_borrower 12 = .ok (.irem, 1) := dk_112 (dk_at dksX2_borrower_0 12 rfl rfl)
theorem dX2_borrower_13 : decode cX2_borrower 13 = .ok (.invokevirtual 9, 3) := dk_182 0 9 (dk_at dksX2_borrower_0 13 rfl rfl)
theorem dX2_borrower_16 : decode cX2_borrower 16 = .ok (.ifCond .eq 9, 3) := dk_153 0 9 (dk_at dksX2_borrower_0 16 rfl rfl)
theorem dX2_borrower_19 : decode cX2_borrower 19 = .ok (.iload_n 2, 1) := dk_28 (dk_at dksX2_borrower_0 19 rfl rfl)
theorem dX2_borrower_20 : decode cX2_borrower 20 = .ok (.iload_n 3, 1) := dk_29 (dk_at dksX2_borrower_0 20 rfl rfl)
theorem dX2_borrower_21 : decode cX2_borrower 21 = .ok (.iadd, 1) := dk_96 (dk_at dksX2_borrower_0 21 rfl rfl)
theorem dX2_borrower_22 : decode cX2_borrower 22 = .ok (.iconst 4, 1) := dk_7 (dk_at dksX2_borrower_0 22 rfl rfl)
theorem dX2_borrower_23 : decode cX2_borrower 23 = .ok (.irem, 1) := dk_112 (dk_at dksX2_borrower_0 23 rfl rfl)
theorem dX2_borrower_24 : decode cX2_borrower 24 = .ok (.ireturn, 1) := dk_172 (dk_at dksX2_borrower_1 0 rfl rfl)
theorem dX2_borrower_25 : decode cX2_borrower 25 = .ok (.iinc 3 1, 3) := dk_132 3 1 (dk_at dksX2_borrower_1 1 rfl rfl)
theorem dX2_borrower_28 : decode cX2_borrower 28 = .ok (.goto (-26), 3) := dk_167 255 230 (dk_at dksX2_borrower_1 4 rfl rfl)
theorem dX2_borrower_31 : decode cX2_borrower 31 = .ok (.ldc 15, 2) := dk_18 15 (dk_at dksX2_borrower_1 7 rfl rfl)
theorem dX2_borrower_33 : decode cX2_borrower 33 = .ok (.ireturn, 1) := dk_172 (dk_at dksX2_borrower_1 9 rfl rfl)
theorem q51 : (Jvm.Cond.initialized "BarrelProcessor$NextReady") ∈ lw_all := lw_g (lw_at lw_m1 7 rfl) rfl
theorem q207 : (Jvm.Cond.instantiable "BarrelProcessor$NextReady" (0 : Nat)) ∈ lw_all := lw_g (lw_at lw_m1 163 rfl) rfl
theorem q209 : (Jvm.Cond.instanceMethod ({ cls := "BarrelProcessor$NextReady", name := "<init>", desc := "()V" } : Jvm.MethodName)) ∈ lw_all := lw_g (lw_at lw_m1 165 rfl) rfl
theorem q210 : (Jvm.Cond.code ({ cls := "BarrelProcessor$NextReady", name := "<init>", desc := "()V" } : Jvm.MethodName) prog_6_method_1_code (1 : Nat) (Option.none : Option Jvm.ClassFile.FieldType)) ∈ lw_all := lw_g (lw_at lw_m1 166 rfl) rfl
theorem q211 : (Jvm.Cond.methodLink "BarrelProcessor$NextReady" (3 : Nat) ({ cls := "java/lang/Object", name := "<init>", desc := "()V" } : Jvm.MethodName)) ∈ lw_all := lw_g (lw_at lw_m1 167 rfl) rfl
theorem q212 : (Jvm.Cond.superclass "BarrelProcessor$NextReady" "java/lang/Object") ∈ lw_all := lw_g (lw_at lw_m1 168 rfl) rfl
theorem q813 : (Jvm.Cond.selects "BarrelProcessor$NextReady" ({ cls := "java/lang/Object", name := "getClass", desc := "()Ljava/lang/Class;" } : Jvm.MethodName) ({ cls := "java/lang/Object", name := "getClass", desc := "()Ljava/lang/Class;" } : Jvm.MethodName)) ∈ lw_all := lw_g (lw_at lw_m4 49 rfl) rfl
theorem q1000 : (Jvm.Cond.castable "BarrelProcessor$NextReady" "BarrelProcessor$Rule") ∈ lw_tbl := lw_at lw_m4 236 rfl
theorem q1001 : (Jvm.Cond.selects "BarrelProcessor$NextReady" ({ cls := "BarrelProcessor$Rule", name := "borrower", desc := "(LBarrelProcessor$Machine;I)I" } : Jvm.MethodName) ({ cls := "BarrelProcessor$NextReady", name := "borrower", desc := "(LBarrelProcessor$Machine;I)I" } : Jvm.MethodName)) ∈ lw_all := lw_g (lw_at lw_m4 237 rfl) rfl
theorem q1002 : (Jvm.Cond.unhidden "BarrelProcessor$NextReady" "borrower" "(LBarrelProcessor$Machine;I)I") ∈ lw_tbl := lw_at lw_m4 238 rfl
theorem q1003 : (Jvm.Cond.instanceMethod ({ cls := "BarrelProcessor$NextReady", name := "borrower", desc := "(LBarrelProcessor$Machine;I)I" } : Jvm.MethodName)) ∈ lw_all := lw_g (lw_at lw_m4 239 rfl) rfl
theorem q1004 : (Jvm.Cond.publicMethod ({ cls := "BarrelProcessor$NextReady", name := "borrower", desc := "(LBarrelProcessor$Machine;I)I" } : Jvm.MethodName)) ∈ lw_tbl := lw_at lw_m5 0 rfl
theorem q1005 : (Jvm.Cond.code ({ cls := "BarrelProcessor$NextReady", name := "borrower", desc := "(LBarrelProcessor$Machine;I)I" } : Jvm.MethodName) prog_6_method_2_code (4 : Nat) (Option.some Jvm.ClassFile.FieldType.int)) ∈ lw_all := lw_g (lw_at lw_m5 1 rfl) rfl
theorem q1006 : (Jvm.Cond.methodLink "BarrelProcessor$NextReady" (9 : Nat) ({ cls := "BarrelProcessor$Machine", name := "isReady", desc := "(I)Z" } : Jvm.MethodName)) ∈ lw_all := lw_g (lw_at lw_m5 2 rfl) rfl
theorem q1007 : (Jvm.Cond.constant "BarrelProcessor$NextReady" (15 : Nat) (-100005 : Int32)) ∈ lw_all := lw_g (lw_at lw_m5 3 rfl) rfl
theorem q1015 : (Jvm.Cond.unhidden "BarrelProcessor$NextReady" "issuer" "(LBarrelProcessor$Machine;I)I") ∈ lw_tbl := lw_at lw_m5 11 rfl
theorem q1505 : (Jvm.Cond.castable "BarrelProcessor$NextReady" "java/lang/Object") ∈ lw_tbl := lw_at lw_m7 21 rfl
/-! BarrelProcessor$LongestWaiting -/
set_option maxRecDepth 100000
def RX3 : String := "BarrelProcessor$LongestWaiting"
abbrev cX3_init : ByteArray := prog_4_method_1_code
def yX3_init : MethodName := ⟨RX3, "<init>", "()V"⟩
theorem dX3_init_0 : decode cX3_init 0 = .ok (.aload_n 0, 1) := by decide +kernel
theorem dX3_init_1 : decode cX3_init 1 = .ok (.invokespecial 3, 3) := by decide +kernel
theorem dX3_init_4 : decode cX3_init 4 = .ok (.return_, 1) := by decide +kernel
abbrev cX3_borrower : ByteArray := prog_4_method_2_code
def yX3_borrower : MethodName := ⟨RX3, "borrower", "(LBarrelProcessor$Machine;I)I"⟩
def dkwX3_borrower_2 : List UInt8 := [162, 0, 6, 21, 4, 62, 132, 4, 1, 167, 255, 207, 29, 172]
abbrev dktX3_borrower_2 : List UInt8 := dkwX3_borrower_2 ++ []
def dkwX3_borrower_1 : List UInt8 := [159, 0, 25, 43, 180, 0, 16, 21, 4, 50, 180, 0, 20, 43, 180, 0, 16, 29, 50, 180, 0, 20]
abbrev dktX3_borrower_1 : List UInt8 := dkwX3_borrower_1 ++ dktX3_borrower_2
def dkwX3_borrower_0 : List UInt8 := [18, 9, 62, 3, 54, 4, 21, 4, 7, 162, 0, 49, 43, 21, 4, 182, 0, 10, 153, 0, 34, 29, 18, 9]
abbrev dktX3_borrower_0 : List UInt8 := dkwX3_borrower_0 ++ dktX3_borrower_1
theorem dksX3_borrower_0 : cX3_borrower.data.toList.drop 0 = dktX3_borrower_0 := by decide +kernel
theorem dksX3_borrower_1 : cX3_borrower.data.toList.drop 24 = dktX3_borrower_1 := dk_seg dksX3_borrower_0 24 rfl rfl
theorem dksX3_borrower_2 : cX3_borrower.data.toList.drop 46 = dktX3_borrower_2 := dk_seg dksX3_borrower_1 22 rfl rfl
theorem dX3_borrower_0 : decode cX3_borrower 0 = .ok (.ldc 9, 2) := dk_18 9 (dk_at dksX3_borrower_0 0 rfl rfl)
theorem dX3_borrower_2 : decode cX3_borrower 2 = .ok (.istore_n 3, 1) := dk_62 (dk_at dksX3_borrower_0 2 rfl rfl)
theorem dX3_borrower_3 : decode cX3_borrower 3 = .ok (.iconst 0, 1) := dk_3 (dk_at dksX3_borrower_0 3 rfl rfl)
theorem dX3_borrower_4 : decode cX3_borrower 4 = .ok (.istore 4, 2) := dk_54 4 (dk_at dksX3_borrower_0 4 rfl rfl)
theorem dX3_borrower_6 : decode cX3_borrower 6 = .ok (.iload 4, 2) := dk_21 4 (dk_at dksX3_borrower_0 6 rfl rfl)
theorem dX3_borrower_8 : decode cX3_borrower 8 = .ok (.iconst 4, 1) := dk_7 (dk_at dksX3_borrower_0 8 rfl rfl)
theorem dX3_borrower_9 : decode cX3_borrower 9 = .ok (.if_icmp .ge 49, 3) := dk_162 0 49 (dk_at dksX3_borrower_0 9 rfl rfl)
theorem dX3_borrower_12 : decode cX3_borrower 12 = .ok (.aload_n 1, 1) := dk_43 (dk_at dksX3_borrower_0 12 rfl rfl)
theorem dX3_borrower_13 : decode cX3_borrower 13 = .ok (.iload 4, 2) := dk_21 4 (dk_at dksX3_borrower_0 13 rfl rfl)
theorem dX3_borrower_15 : decode cX3_borrower 15 = .ok (.invokevirtual 10, 3) := dk_182 0 10 (dk_at dksX3_borrower_0 15 rfl rfl)
theorem dX3_borrower_18 : decode cX3_borrower 18 = .ok (.ifCond .eq 34, 3) := dk_153 0 34 (dk_at dksX3_borrower_0 18 rfl rfl)
theorem dX3_borrower_21 : decode cX3_borrower 21 = .ok (.iload_n 3, 1) := dk_29 (dk_at dksX3_borrower_0 21 rfl rfl)
theorem dX3_borrower_22 : decode cX3_borrower 22 = .ok (.ldc 9, 2) := dk_18 9 (dk_at dksX3_borrower_0 22 rfl rfl)
theorem dX3_borrower_24 : decode cX3_borrower 24 = .ok (.if_icmp .eq 25, 3) := dk_159 0 25 (dk_at dksX3_borrower_1 0 rfl rfl)
theorem dX3_borrower_27 : decode cX3_borrower 27 = .ok (.aload_n 1, 1) := dk_43 (dk_at dksX3_borrower_1 3 rfl rfl)
theorem dX3_borrower_28 : decode cX3_borrower 28 = .ok (.getfield 16, 3) := dk_180 0 16 (dk_at dksX3_borrower_1 4 rfl rfl)
theorem dX3_borrower_31 : decode cX3_borrower 31 = .ok (.iload 4, 2) := dk_21 4 (dk_at dksX3_borrower_1 7 rfl rfl)
theorem dX3_borrower_33 : decode cX3_borrower 33 = .ok (.aaload, 1) := dk_50 (dk_at dksX3_borrower_1 9 rfl rfl)
theorem dX3_borrower_34 : decode cX3_borrower 34 = .ok (.getfield 20, 3) := dk_180 0 20 (dk_at dksX3_borrower_1 10 rfl rfl)
theorem dX3_borrower_37 : decode cX3_borrower 37 = .ok (.aload_n 1, 1) := dk_43 (dk_at dksX3_borrower_1 13 rfl rfl)
theorem dX3_borrower_38 : decode cX3_borrower 38 = .ok (.getfield 16, 3) := dk_180 0 16 (dk_at dksX3_borrower_1 14 rfl rfl)
theorem dX3_borrower_41 : decode cX3_borrower 41 = .ok (.iload_n 3, 1) := dk_29 (dk_at dksX3_borrower_1 17 rfl rfl)
theorem dX3_borrower_42 : decode cX3_borrower 42 = .ok (.aaload, 1) := dk_50 (dk_at dksX3_borrower_1 18 rfl rfl)
theorem dX3_borrower_43 : decode cX3_borrower 43 = .ok (.getfield 20, 3) := dk_180 0 20 (dk_at dksX3_borrower_1 19 rfl rfl)
theorem dX3_borrower_46 : decode cX3_borrower 46 = .ok (.if_icmp .ge 6, 3) := dk_162 0 6 (dk_at dksX3_borrower_2 0 rfl rfl)
theorem dX3_borrower_49 : decode cX3_borrower 49 = .ok (.iload 4, 2) := dk_21 4 (dk_at dksX3_borrower_2 3 rfl rfl)
theorem dX3_borrower_51 : decode cX3_borrower 51 = .ok (.istore_n 3, 1) := dk_62 (dk_at dksX3_borrower_2 5 rfl rfl)
theorem dX3_borrower_52 : decode cX3_borrower 52 = .ok (.iinc 4 1, 3) := dk_132 4 1 (dk_at dksX3_borrower_2 6 rfl rfl)
theorem dX3_borrower_55 : decode cX3_borrower 55 = .ok (.goto (-49), 3) := dk_167 255 207 (dk_at dksX3_borrower_2 9 rfl rfl)
theorem dX3_borrower_58 : decode cX3_borrower 58 = .ok (.iload_n 3, 1) := dk_29 (dk_at dksX3_borrower_2 12 rfl rfl)
theorem dX3_borrower_59 : decode cX3_borrower 59 = .ok (.ireturn, 1) := dk_172 (dk_at dksX3_borrower_2 13 rfl rfl)
theorem q52 : (Jvm.Cond.initialized "BarrelProcessor$LongestWaiting") ∈ lw_all := lw_g (lw_at lw_m1 8 rfl) rfl
theorem q215 : (Jvm.Cond.instantiable "BarrelProcessor$LongestWaiting" (0 : Nat)) ∈ lw_all := lw_g (lw_at lw_m1 171 rfl) rfl
theorem q217 : (Jvm.Cond.instanceMethod ({ cls := "BarrelProcessor$LongestWaiting", name := "<init>", desc := "()V" } : Jvm.MethodName)) ∈ lw_all := lw_g (lw_at lw_m1 173 rfl) rfl
theorem q218 : (Jvm.Cond.code ({ cls := "BarrelProcessor$LongestWaiting", name := "<init>", desc := "()V" } : Jvm.MethodName) prog_4_method_1_code (1 : Nat) (Option.none : Option Jvm.ClassFile.FieldType)) ∈ lw_all := lw_g (lw_at lw_m1 174 rfl) rfl
theorem q219 : (Jvm.Cond.methodLink "BarrelProcessor$LongestWaiting" (3 : Nat) ({ cls := "java/lang/Object", name := "<init>", desc := "()V" } : Jvm.MethodName)) ∈ lw_all := lw_g (lw_at lw_m1 175 rfl) rfl
theorem q220 : (Jvm.Cond.superclass "BarrelProcessor$LongestWaiting" "java/lang/Object") ∈ lw_all := lw_g (lw_at lw_m1 176 rfl) rfl
theorem q284 : (Jvm.Cond.fieldLinkNest "BarrelProcessor$LongestWaiting" (20 : Nat) "BarrelProcessor$Lane" "latestIssue" "I" "BarrelProcessor") ∈ lw_tbl := lw_at lw_m2 0 rfl
theorem q321 : (Jvm.Cond.fieldLinkNest "BarrelProcessor$LongestWaiting" (16 : Nat) "BarrelProcessor$Machine" "lanes" "[LBarrelProcessor$Lane;" "BarrelProcessor") ∈ lw_tbl := lw_at lw_m2 37 rfl
theorem q811 : (Jvm.Cond.selects "BarrelProcessor$LongestWaiting" ({ cls := "java/lang/Object", name := "getClass", desc := "()Ljava/lang/Class;" } : Jvm.MethodName) ({ cls := "java/lang/Object", name := "getClass", desc := "()Ljava/lang/Class;" } : Jvm.MethodName)) ∈ lw_all := lw_g (lw_at lw_m4 47 rfl) rfl
theorem q976 : (Jvm.Cond.castable "BarrelProcessor$LongestWaiting" "BarrelProcessor$Rule") ∈ lw_tbl := lw_at lw_m4 212 rfl
theorem q977 : (Jvm.Cond.unhidden "BarrelProcessor$LongestWaiting" "issuer" "(LBarrelProcessor$Machine;I)I") ∈ lw_tbl := lw_at lw_m4 213 rfl
theorem q993 : (Jvm.Cond.selects "BarrelProcessor$LongestWaiting" ({ cls := "BarrelProcessor$Rule", name := "borrower", desc := "(LBarrelProcessor$Machine;I)I" } : Jvm.MethodName) ({ cls := "BarrelProcessor$LongestWaiting", name := "borrower", desc := "(LBarrelProcessor$Machine;I)I" } : Jvm.MethodName)) ∈ lw_all := lw_g (lw_at lw_m4 229 rfl) rfl
theorem q994 : (Jvm.Cond.unhidden "BarrelProcessor$LongestWaiting" "borrower" "(LBarrelProcessor$Machine;I)I") ∈ lw_tbl := lw_at lw_m4 230 rfl
theorem q995 : (Jvm.Cond.instanceMethod ({ cls := "BarrelProcessor$LongestWaiting", name := "borrower", desc := "(LBarrelProcessor$Machine;I)I" } : Jvm.MethodName)) ∈ lw_all := lw_g (lw_at lw_m4 231 rfl) rfl
theorem q996 : (Jvm.Cond.publicMethod ({ cls := "BarrelProcessor$LongestWaiting", name := "borrower", desc := "(LBarrelProcessor$Machine;I)I" } : Jvm.MethodName)) ∈ lw_tbl := lw_at lw_m4 232 rfl
theorem q997 : (Jvm.Cond.code ({ cls := "BarrelProcessor$LongestWaiting", name := "borrower", desc := "(LBarrelProcessor$Machine;I)I" } : Jvm.MethodName) prog_4_method_2_code (5 : Nat) (Option.some Jvm.ClassFile.FieldType.int)) ∈ lw_all := lw_g (lw_at lw_m4 233 rfl) rfl
theorem q998 : (Jvm.Cond.constant "BarrelProcessor$LongestWaiting" (9 : Nat) (-100005 : Int32)) ∈ lw_all := lw_g (lw_at lw_m4 234 rfl) rfl
theorem q999 : (Jvm.Cond.methodLink "BarrelProcessor$LongestWaiting" (10 : Nat) ({ cls := "BarrelProcessor$Machine", name := "isReady", desc := "(I)Z" } : Jvm.MethodName)) ∈ lw_all := lw_g (lw_at lw_m4 235 rfl) rfl
theorem q1506 : (Jvm.Cond.castable "BarrelProcessor$LongestWaiting" "java/lang/Object") ∈ lw_tbl := lw_at lw_m7 22 rfl
/-! BarrelProcessor$NoLending -/
set_option maxRecDepth 100000
def RX4 : String := "BarrelProcessor$NoLending"
abbrev cX4_init : ByteArray := prog_7_method_1_code
def yX4_init : MethodName := ⟨RX4, "<init>", "()V"⟩
theorem dX4_init_0 : decode cX4_init 0 = .ok (.aload_n 0, 1) := by decide +kernel
theorem dX4_init_1 : decode cX4_init 1 = .ok (.invokespecial 3, 3) := by decide +kernel
theorem dX4_init_4 : decode cX4_init 4 = .ok (.return_, 1) := by decide +kernel
abbrev cX4_borrower : ByteArray := prog_7_method_2_code
def yX4_borrower : MethodName := ⟨RX4, "borrower", "(LBarrelProcessor$Machine;I)I"⟩
theorem dX4_borrower_0 : decode cX4_borrower 0 = .ok (.ldc 9, 2) := by decide +kernel
theorem dX4_borrower_2 : decode cX4_borrower 2 = .ok (.ireturn, 1) := by decide +kernel
theorem q53 : (Jvm.Cond.initialized "BarrelProcessor$NoLending") ∈ lw_all := lw_g (lw_at lw_m1 9 rfl) rfl
theorem q222 : (Jvm.Cond.instantiable "BarrelProcessor$NoLending" (0 : Nat)) ∈ lw_all := lw_g (lw_at lw_m1 178 rfl) rfl
theorem q224 : (Jvm.Cond.instanceMethod ({ cls := "BarrelProcessor$NoLending", name := "<init>", desc := "()V" } : Jvm.MethodName)) ∈ lw_all := lw_g (lw_at lw_m1 180 rfl) rfl
theorem q225 : (Jvm.Cond.code ({ cls := "BarrelProcessor$NoLending", name := "<init>", desc := "()V" } : Jvm.MethodName) prog_7_method_1_code (1 : Nat) (Option.none : Option Jvm.ClassFile.FieldType)) ∈ lw_all := lw_g (lw_at lw_m1 181 rfl) rfl
theorem q226 : (Jvm.Cond.methodLink "BarrelProcessor$NoLending" (3 : Nat) ({ cls := "java/lang/Object", name := "<init>", desc := "()V" } : Jvm.MethodName)) ∈ lw_all := lw_g (lw_at lw_m1 182 rfl) rfl
theorem q227 : (Jvm.Cond.superclass "BarrelProcessor$NoLending" "java/lang/Object") ∈ lw_all := lw_g (lw_at lw_m1 183 rfl) rfl
theorem q814 : (Jvm.Cond.selects "BarrelProcessor$NoLending" ({ cls := "java/lang/Object", name := "getClass", desc := "()Ljava/lang/Class;" } : Jvm.MethodName) ({ cls := "java/lang/Object", name := "getClass", desc := "()Ljava/lang/Class;" } : Jvm.MethodName)) ∈ lw_all := lw_g (lw_at lw_m4 50 rfl) rfl
theorem q1008 : (Jvm.Cond.castable "BarrelProcessor$NoLending" "BarrelProcessor$Rule") ∈ lw_tbl := lw_at lw_m5 4 rfl
theorem q1009 : (Jvm.Cond.selects "BarrelProcessor$NoLending" ({ cls := "BarrelProcessor$Rule", name := "borrower", desc := "(LBarrelProcessor$Machine;I)I" } : Jvm.MethodName) ({ cls := "BarrelProcessor$NoLending", name := "borrower", desc := "(LBarrelProcessor$Machine;I)I" } : Jvm.MethodName)) ∈ lw_all := lw_g (lw_at lw_m5 5 rfl) rfl
theorem q1010 : (Jvm.Cond.unhidden "BarrelProcessor$NoLending" "borrower" "(LBarrelProcessor$Machine;I)I") ∈ lw_tbl := lw_at lw_m5 6 rfl
theorem q1011 : (Jvm.Cond.instanceMethod ({ cls := "BarrelProcessor$NoLending", name := "borrower", desc := "(LBarrelProcessor$Machine;I)I" } : Jvm.MethodName)) ∈ lw_all := lw_g (lw_at lw_m5 7 rfl) rfl
theorem q1012 : (Jvm.Cond.publicMethod ({ cls := "BarrelProcessor$NoLending", name := "borrower", desc := "(LBarrelProcessor$Machine;I)I" } : Jvm.MethodName)) ∈ lw_tbl := lw_at lw_m5 8 rfl
theorem q1013 : (Jvm.Cond.code ({ cls := "BarrelProcessor$NoLending", name := "borrower", desc := "(LBarrelProcessor$Machine;I)I" } : Jvm.MethodName) prog_7_method_2_code (3 : Nat) (Option.some Jvm.ClassFile.FieldType.int)) ∈ lw_all := lw_g (lw_at lw_m5 9 rfl) rfl
theorem q1014 : (Jvm.Cond.constant "BarrelProcessor$NoLending" (9 : Nat) (-100005 : Int32)) ∈ lw_all := lw_g (lw_at lw_m5 10 rfl) rfl
theorem q1016 : (Jvm.Cond.unhidden "BarrelProcessor$NoLending" "issuer" "(LBarrelProcessor$Machine;I)I") ∈ lw_tbl := lw_at lw_m5 12 rfl
theorem q1507 : (Jvm.Cond.castable "BarrelProcessor$NoLending" "java/lang/Object") ∈ lw_tbl := lw_at lw_m7 23 rfl
/-! BarrelProcessor$Instruction -/
set_option maxRecDepth 100000
def RX5 : String := "BarrelProcessor$Instruction"
def TX5 : u_T := fun k => match k with
  | 0 => ("BarrelProcessor$Instruction", "operation", "I", true)
  | 1 => ("BarrelProcessor$Instruction", "first", "I", true)
  | _ => ("BarrelProcessor$Instruction", "second", "I", true)
def tyX5 : Nat → FieldType := fun k => match k with
  | 0 => .int
  | 1 => .int
  | _ => .int
abbrev wsX50 : List Cond := u_ws RX5 TX5 3
theorem nmX5 : ∀ a, a < 3 → ∀ b, b < 3 → a ≠ b → (TX5 a).2.1 ≠ (TX5 b).2.1 := by decide +kernel
theorem tyX5_ok : ∀ k, k < 3 → parseFieldDescriptor (TX5 k).2.2.1 = some (tyX5 k) := by decide +kernel
abbrev cX5_init : ByteArray := prog_2_method_1_code
def yX5_init : MethodName := ⟨RX5, "<init>", "(III)V"⟩
def dkwX5_init_0 : List UInt8 := [42, 183, 0, 1, 42, 27, 181, 0, 7, 42, 28, 181, 0, 13, 42, 29, 181, 0, 16, 177]
abbrev dktX5_init_0 : List UInt8 := dkwX5_init_0 ++ []
theorem dksX5_init_0 : cX5_init.data.toList.drop 0 = dktX5_init_0 := by decide +kernel
theorem dX5_init_0 : decode cX5_init 0 = .ok (.aload_n 0, 1) := dk_42 (dk_at dksX5_init_0 0 rfl rfl)
theorem dX5_init_1 : decode cX5_init 1 = .ok (.invokespecial 1, 3) := dk_183 0 1 (dk_at dksX5_init_0 1 rfl rfl)
theorem dX5_init_4 : decode cX5_init 4 = .ok (.aload_n 0, 1) := dk_42 (dk_at dksX5_init_0 4 rfl rfl)
theorem dX5_init_5 : decode cX5_init 5 = .ok (.iload_n 1, 1) := dk_27 (dk_at dksX5_init_0 5 rfl rfl)
theorem dX5_init_6 : decode cX5_init 6 = .ok (.putfield 7, 3) := dk_181 0 7 (dk_at dksX5_init_0 6 rfl rfl)
theorem dX5_init_9 : decode cX5_init 9 = .ok (.aload_n 0, 1) := dk_42 (dk_at dksX5_init_0 9 rfl rfl)
theorem dX5_init_10 : decode cX5_init 10 = .ok (.iload_n 2, 1) := dk_28 (dk_at dksX5_init_0 10 rfl rfl)
theorem dX5_init_11 : decode cX5_init 11 = .ok (.putfield 13, 3) := dk_181 0 13 (dk_at dksX5_init_0 11 rfl rfl)
theorem dX5_init_14 : decode cX5_init 14 = .ok (.aload_n 0, 1) := dk_42 (dk_at dksX5_init_0 14 rfl rfl)
theorem dX5_init_15 : decode cX5_init 15 = .ok (.iload_n 3, 1) := dk_29 (dk_at dksX5_init_0 15 rfl rfl)
theorem dX5_init_16 : decode cX5_init 16 = .ok (.putfield 16, 3) := dk_181 0 16 (dk_at dksX5_init_0 16 rfl rfl)
theorem dX5_init_19 : decode cX5_init 19 = .ok (.return_, 1) := dk_177 (dk_at dksX5_init_0 19 rfl rfl)
theorem q54 : (Jvm.Cond.initialized "BarrelProcessor$Instruction") ∈ lw_all := lw_g (lw_at lw_m1 10 rfl) rfl
theorem q231 : (Jvm.Cond.instantiable "BarrelProcessor$Instruction" (3 : Nat)) ∈ lw_all := lw_g (lw_at lw_m1 187 rfl) rfl
theorem q234 : (Jvm.Cond.instanceMethod ({ cls := "BarrelProcessor$Instruction", name := "<init>", desc := "(III)V" } : Jvm.MethodName)) ∈ lw_all := lw_g (lw_at lw_m1 190 rfl) rfl
theorem q235 : (Jvm.Cond.code ({ cls := "BarrelProcessor$Instruction", name := "<init>", desc := "(III)V" } : Jvm.MethodName) prog_2_method_1_code (4 : Nat) (Option.none : Option Jvm.ClassFile.FieldType)) ∈ lw_all := lw_g (lw_at lw_m1 191 rfl) rfl
theorem q236 : (Jvm.Cond.methodLink "BarrelProcessor$Instruction" (1 : Nat) ({ cls := "java/lang/Object", name := "<init>", desc := "()V" } : Jvm.MethodName)) ∈ lw_all := lw_g (lw_at lw_m1 192 rfl) rfl
theorem q237 : (Jvm.Cond.fieldLink "BarrelProcessor$Instruction" (7 : Nat) "BarrelProcessor$Instruction" "operation" "I") ∈ lw_all := lw_g (lw_at lw_m1 193 rfl) rfl
theorem q240 : (Jvm.Cond.fieldLink "BarrelProcessor$Instruction" (13 : Nat) "BarrelProcessor$Instruction" "first" "I") ∈ lw_all := lw_g (lw_at lw_m1 196 rfl) rfl
theorem q243 : (Jvm.Cond.fieldLink "BarrelProcessor$Instruction" (16 : Nat) "BarrelProcessor$Instruction" "second" "I") ∈ lw_all := lw_g (lw_at lw_m1 199 rfl) rfl
theorem q246 : (Jvm.Cond.laysFinal "BarrelProcessor$Instruction" "BarrelProcessor$Instruction" "operation" "I") ∈ lw_all := lw_g (lw_at lw_m1 202 rfl) rfl
theorem q247 : (Jvm.Cond.soleField "BarrelProcessor$Instruction" "operation") ∈ lw_all := lw_g (lw_at lw_m1 203 rfl) rfl
theorem q248 : (Jvm.Cond.laysFinal "BarrelProcessor$Instruction" "BarrelProcessor$Instruction" "first" "I") ∈ lw_all := lw_g (lw_at lw_m1 204 rfl) rfl
theorem q249 : (Jvm.Cond.soleField "BarrelProcessor$Instruction" "first") ∈ lw_all := lw_g (lw_at lw_m1 205 rfl) rfl
theorem q250 : (Jvm.Cond.laysFinal "BarrelProcessor$Instruction" "BarrelProcessor$Instruction" "second" "I") ∈ lw_all := lw_g (lw_at lw_m1 206 rfl) rfl
theorem q251 : (Jvm.Cond.soleField "BarrelProcessor$Instruction" "second") ∈ lw_all := lw_g (lw_at lw_m1 207 rfl) rfl
theorem q252 : (Jvm.Cond.superclass "BarrelProcessor$Instruction" "java/lang/Object") ∈ lw_all := lw_g (lw_at lw_m1 208 rfl) rfl
theorem q809 : (Jvm.Cond.selects "BarrelProcessor$Instruction" ({ cls := "java/lang/Object", name := "getClass", desc := "()Ljava/lang/Class;" } : Jvm.MethodName) ({ cls := "java/lang/Object", name := "getClass", desc := "()Ljava/lang/Class;" } : Jvm.MethodName)) ∈ lw_all := lw_g (lw_at lw_m4 45 rfl) rfl
theorem q1502 : (Jvm.Cond.castable "BarrelProcessor$Instruction" "java/lang/Object") ∈ lw_tbl := lw_at lw_m7 18 rfl
theorem in_X5 : ∀ w ∈ wsX50, w ∈ lw_all := lw_in wsX50 [246, 248, 250] (by decide +kernel) (by decide +kernel)
/-! BarrelProcessor$Machine -/
set_option maxRecDepth 100000
def RX6 : String := "BarrelProcessor$Machine"
def TX6 : u_T := fun k => match k with
  | 0 => ("BarrelProcessor$Machine", "lanes", "[LBarrelProcessor$Lane;", false)
  | 1 => ("BarrelProcessor$Machine", "program", "[LBarrelProcessor$Instruction;", false)
  | 2 => ("BarrelProcessor$Machine", "words", "[I", false)
  | 3 => ("BarrelProcessor$Machine", "table", "[I", false)
  | 4 => ("BarrelProcessor$Machine", "settings", "[I", false)
  | 5 => ("BarrelProcessor$Machine", "breakpoints", "[Z", false)
  | 6 => ("BarrelProcessor$Machine", "cycle", "I", false)
  | 7 => ("BarrelProcessor$Machine", "idle", "I", false)
  | 8 => ("BarrelProcessor$Machine", "traceCycles", "[I", false)
  | 9 => ("BarrelProcessor$Machine", "traceThreads", "[I", false)
  | 10 => ("BarrelProcessor$Machine", "tracePlaces", "[I", false)
  | 11 => ("BarrelProcessor$Machine", "traced", "I", false)
  | _ => ("BarrelProcessor$Machine", "this$0", "LBarrelProcessor;", true)
def tyX6 : Nat → FieldType := fun k => match k with
  | 0 => .array (.object "BarrelProcessor$Lane")
  | 1 => .array (.object "BarrelProcessor$Instruction")
  | 2 => .array .int
  | 3 => .array .int
  | 4 => .array .int
  | 5 => .array .boolean
  | 6 => .int
  | 7 => .int
  | 8 => .array .int
  | 9 => .array .int
  | 10 => .array .int
  | 11 => .int
  | _ => .object "BarrelProcessor"
abbrev wsX60 : List Cond := u_ws RX6 TX6 13
set_option maxRecDepth 100000 in
theorem nmX6 : ∀ a, a < 13 → ∀ b, b < 13 → a ≠ b → (TX6 a).2.1 ≠ (TX6 b).2.1 := by decide +kernel
set_option maxRecDepth 100000 in
theorem tyX6_ok : ∀ k, k < 13 → parseFieldDescriptor (TX6 k).2.2.1 = some (tyX6 k) := by decide +kernel
abbrev cX6_beginLoad : ByteArray := prog_5_method_9_code
def yX6_beginLoad : MethodName := ⟨RX6, "beginLoad", "(LBarrelProcessor$Lane;II)V"⟩
def dkwX6_beginLoad_1 : List UInt8 := [180, 0, 34, 3, 46, 96, 181, 0, 85, 177]
abbrev dktX6_beginLoad_1 : List UInt8 := dkwX6_beginLoad_1 ++ []
def dkwX6_beginLoad_0 : List UInt8 := [43, 5, 181, 0, 82, 43, 28, 181, 0, 112, 43, 29, 181, 0, 115, 43, 42, 180, 0, 72, 4, 96, 42]
abbrev dktX6_beginLoad_0 : List UInt8 := dkwX6_beginLoad_0 ++ dktX6_beginLoad_1
theorem dksX6_beginLoad_0 : cX6_beginLoad.data.toList.drop 0 = dktX6_beginLoad_0 := by decide +kernel
theorem dksX6_beginLoad_1 : cX6_beginLoad.data.toList.drop 23 = dktX6_beginLoad_1 := dk_seg dksX6_beginLoad_0 23 rfl rfl
theorem dX6_beginLoad_0 : decode cX6_beginLoad 0 = .ok (.aload_n 1, 1) := dk_43 (dk_at dksX6_beginLoad_0 0 rfl rfl)
theorem dX6_beginLoad_1 : decode cX6_beginLoad 1 = .ok (.iconst 2, 1) := dk_5 (dk_at dksX6_beginLoad_0 1 rfl rfl)
theorem dX6_beginLoad_2 : decode cX6_beginLoad 2 = .ok (.putfield 82, 3) := dk_181 0 82 (dk_at dksX6_beginLoad_0 2 rfl rfl)
theorem dX6_beginLoad_5 : decode cX6_beginLoad 5 = .ok (.aload_n 1, 1) := dk_43 (dk_at dksX6_beginLoad_0 5 rfl rfl)
theorem dX6_beginLoad_6 : decode cX6_beginLoad 6 = .ok (.iload_n 2, 1) := dk_28 (dk_at dksX6_beginLoad_0 6 rfl rfl)
theorem dX6_beginLoad_7 : decode cX6_beginLoad 7 = .ok (.putfield 112, 3) := dk_181 0 112 (dk_at dksX6_beginLoad_0 7 rfl rfl)
theorem dX6_beginLoad_10 : decode cX6_beginLoad 10 = .ok (.aload_n 1, 1) := dk_43 (dk_at dksX6_beginLoad_0 10 rfl rfl)
theorem dX6_beginLoad_11 : decode cX6_beginLoad 11 = .ok (.iload_n 3, 1) := dk_29 (dk_at dksX6_beginLoad_0 11 rfl rfl)
theorem dX6_beginLoad_12 : decode cX6_beginLoad 12 = .ok (.putfield 115, 3) := dk_181 0 115 (dk_at dksX6_beginLoad_0 12 rfl rfl)
theorem dX6_beginLoad_15 : decode cX6_beginLoad 15 = .ok (.aload_n 1, 1) := dk_43 (dk_at dksX6_beginLoad_0 15 rfl rfl)
theorem dX6_beginLoad_16 : decode cX6_beginLoad 16 = .ok (.aload_n 0, 1) := dk_42 (dk_at dksX6_beginLoad_0 16 rfl rfl)
theorem dX6_beginLoad_17 : decode cX6_beginLoad 17 = .ok (.getfield 72, 3) := dk_180 0 72 (dk_at dksX6_beginLoad_0 17 rfl rfl)
theorem dX6_beginLoad_20 : decode cX6_beginLoad 20 = .ok (.iconst 1, 1) := dk_4 (dk_at dksX6_beginLoad_0 20 rfl rfl)
theorem dX6_beginLoad_21 : decode cX6_beginLoad 21 = .ok (.iadd, 1) := dk_96 (dk_at dksX6_beginLoad_0 21 rfl rfl)
theorem dX6_beginLoad_22 : decode cX6_beginLoad 22 = .ok (.aload_n 0, 1) := dk_42 (dk_at dksX6_beginLoad_0 22 rfl rfl)
theorem dX6_beginLoad_23 : decode cX6_beginLoad 23 = .ok (.getfield 34, 3) := dk_180 0 34 (dk_at dksX6_beginLoad_1 0 rfl rfl)
theorem dX6_beginLoad_26 : decode cX6_beginLoad 26 = .ok (.iconst 0, 1) := dk_3 (dk_at dksX6_beginLoad_1 3 rfl rfl)
theorem dX6_beginLoad_27 : decode cX6_beginLoad 27 = .ok (.iaload, 1) := dk_46 (dk_at dksX6_beginLoad_1 4 rfl rfl)
theorem dX6_beginLoad_28 : decode cX6_beginLoad 28 = .ok (.iadd, 1) := dk_96 (dk_at dksX6_beginLoad_1 5 rfl rfl)
theorem dX6_beginLoad_29 : decode cX6_beginLoad 29 = .ok (.putfield 85, 3) := dk_181 0 85 (dk_at dksX6_beginLoad_1 6 rfl rfl)
theorem dX6_beginLoad_32 : decode cX6_beginLoad 32 = .ok (.return_, 1) := dk_177 (dk_at dksX6_beginLoad_1 9 rfl rfl)
abbrev cX6_swap : ByteArray := prog_5_method_10_code
def yX6_swap : MethodName := ⟨RX6, "swap", "(LBarrelProcessor$Lane;II)V"⟩
def dkwX6_swap_1 : List UInt8 := [28, 21, 4, 79, 177]
abbrev dktX6_swap_1 : List UInt8 := dkwX6_swap_1 ++ []
def dkwX6_swap_0 : List UInt8 := [42, 180, 0, 27, 29, 46, 54, 4, 42, 180, 0, 27, 29, 43, 180, 0, 118, 28, 46, 79, 43, 180, 0, 118]
abbrev dktX6_swap_0 : List UInt8 := dkwX6_swap_0 ++ dktX6_swap_1
theorem dksX6_swap_0 : cX6_swap.data.toList.drop 0 = dktX6_swap_0 := by decide +kernel
theorem dksX6_swap_1 : cX6_swap.data.toList.drop 24 = dktX6_swap_1 := dk_seg dksX6_swap_0 24 rfl rfl
theorem dX6_swap_0 : decode cX6_swap 0 = .ok (.aload_n 0, 1) := dk_42 (dk_at dksX6_swap_0 0 rfl rfl)
theorem dX6_swap_1 : decode cX6_swap 1 = .ok (.getfield 27, 3) := dk_180 0 27 (dk_at dksX6_swap_0 1 rfl rfl)
theorem dX6_swap_4 : decode cX6_swap 4 = .ok (.iload_n 3, 1) := dk_29 (dk_at dksX6_swap_0 4 rfl rfl)
theorem dX6_swap_5 : decode cX6_swap 5 = .ok (.iaload, 1) := dk_46 (dk_at dksX6_swap_0 5 rfl rfl)
theorem dX6_swap_6 : decode cX6_swap 6 = .ok (.istore 4, 2) := dk_54 4 (dk_at dksX6_swap_0 6 rfl rfl)
theorem dX6_swap_8 : decode cX6_swap 8 = .ok (.aload_n 0, 1) := dk_42 (dk_at dksX6_swap_0 8 rfl rfl)
theorem dX6_swap_9 : decode cX6_swap 9 = .ok (.getfield 27, 3) := dk_180 0 27 (dk_at dksX6_swap_0 9 rfl rfl)
theorem dX6_swap_12 : decode cX6_swap 12 = .ok (.iload_n 3, 1) := dk_29 (dk_at dksX6_swap_0 12 rfl rfl)
theorem dX6_swap_13 : decode cX6_swap 13 = .ok (.aload_n 1, 1) := dk_43 (dk_at dksX6_swap_0 13 rfl rfl)
theorem dX6_swap_14 : decode cX6_swap 14 = .ok (.getfield 118, 3) := dk_180 0 118 (dk_at dksX6_swap_0 14 rfl rfl)
theorem dX6_swap_17 : decode cX6_swap 17 = .ok (.iload_n 2, 1) := dk_28 (dk_at dksX6_swap_0 17 rfl rfl)
theorem dX6_swap_18 : decode cX6_swap 18 = .ok (.iaload, 1) := dk_46 (dk_at dksX6_swap_0 18 rfl rfl)
theorem dX6_swap_19 : decode cX6_swap 19 = .ok (.iastore, 1) := dk_79 (dk_at dksX6_swap_0 19 rfl rfl)
theorem dX6_swap_20 : decode cX6_swap 20 = .ok (.aload_n 1, 1) := dk_43 (dk_at dksX6_swap_0 20 rfl rfl)
theorem dX6_swap_21 : decode cX6_swap 21 = .ok (.getfield 118, 3) := dk_180 0 118 (dk_at dksX6_swap_0 21 rfl rfl)
theorem dX6_swap_24 : decode cX6_swap 24 = .ok (.iload_n 2, 1) := dk_28 (dk_at dksX6_swap_1 0 rfl rfl)
theorem dX6_swap_25 : decode cX6_swap 25 = .ok (.iload 4, 2) := dk_21 4 (dk_at dksX6_swap_1 1 rfl rfl)
theorem dX6_swap_27 : decode cX6_swap 27 = .ok (.iastore, 1) := dk_79 (dk_at dksX6_swap_1 3 rfl rfl)
theorem dX6_swap_28 : decode cX6_swap 28 = .ok (.return_, 1) := dk_177 (dk_at dksX6_swap_1 4 rfl rfl)
abbrev cX6_init : ByteArray := prog_5_method_1_code
def yX6_init : MethodName := ⟨RX6, "<init>", "(LBarrelProcessor;)V"⟩
def dkwX6_init_6 : List UInt8 := [28, 16, 8, 162, 0, 18, 42, 180, 0, 31, 28, 28, 7, 112, 79, 132, 2, 1, 167, 255, 238, 177]
abbrev dktX6_init_6 : List UInt8 := dkwX6_init_6 ++ []
def dkwX6_init_5 : List UInt8 := [28, 16, 48, 162, 0, 19, 42, 180, 0, 23, 28, 43, 180, 0, 51, 83, 132, 2, 1, 167, 255, 237, 3, 61]
abbrev dktX6_init_5 : List UInt8 := dkwX6_init_5 ++ dktX6_init_6
def dkwX6_init_4 : List UInt8 := [162, 0, 22, 42, 180, 0, 17, 28, 187, 0, 15, 89, 183, 0, 50, 83, 132, 2, 1, 167, 255, 235, 3, 61]
abbrev dktX6_init_4 : List UInt8 := dkwX6_init_4 ++ dktX6_init_5
def dkwX6_init_3 : List UInt8 := [181, 0, 41, 42, 16, 16, 188, 10, 181, 0, 44, 42, 16, 16, 188, 10, 181, 0, 47, 3, 61, 28, 7]
abbrev dktX6_init_3 : List UInt8 := dkwX6_init_3 ++ dktX6_init_4
def dkwX6_init_2 : List UInt8 := [3, 6, 79, 89, 4, 3, 79, 181, 0, 34, 42, 16, 48, 188, 4, 181, 0, 37, 42, 16, 16, 188, 10]
abbrev dktX6_init_2 : List UInt8 := dkwX6_init_2 ++ dktX6_init_3
def dkwX6_init_1 : List UInt8 := [181, 0, 23, 42, 16, 32, 188, 10, 181, 0, 27, 42, 16, 8, 188, 10, 181, 0, 31, 42, 5, 188, 10, 89]
abbrev dktX6_init_1 : List UInt8 := dkwX6_init_1 ++ dktX6_init_2
def dkwX6_init_0 : List UInt8 := [42, 43, 181, 0, 3, 42, 183, 0, 9, 42, 7, 189, 0, 15, 181, 0, 17, 42, 16, 48, 189, 0, 21]
abbrev dktX6_init_0 : List UInt8 := dkwX6_init_0 ++ dktX6_init_1
theorem dksX6_init_0 : cX6_init.data.toList.drop 0 = dktX6_init_0 := by decide +kernel
theorem dksX6_init_1 : cX6_init.data.toList.drop 23 = dktX6_init_1 := dk_seg dksX6_init_0 23 rfl rfl
theorem dksX6_init_2 : cX6_init.data.toList.drop 47 = dktX6_init_2 := dk_seg dksX6_init_1 24 rfl rfl
theorem dksX6_init_3 : cX6_init.data.toList.drop 70 = dktX6_init_3 := dk_seg dksX6_init_2 23 rfl rfl
theorem dksX6_init_4 : cX6_init.data.toList.drop 93 = dktX6_init_4 := dk_seg dksX6_init_3 23 rfl rfl
theorem dksX6_init_5 : cX6_init.data.toList.drop 117 = dktX6_init_5 := dk_seg dksX6_init_4 24 rfl rfl
theorem dksX6_init_6 : cX6_init.data.toList.drop 141 = dktX6_init_6 := dk_seg dksX6_init_5 24 rfl rfl
theorem dX6_init_0 : decode cX6_init 0 = .ok (.aload_n 0, 1) := dk_42 (dk_at dksX6_init_0 0 rfl rfl)
theorem dX6_init_1 : decode cX6_init 1 = .ok (.aload_n 1, 1) := dk_43 (dk_at dksX6_init_0 1 rfl rfl)
theorem dX6_init_2 : decode cX6_init 2 = .ok (.putfield 3, 3) := dk_181 0 3 (dk_at dksX6_init_0 2 rfl rfl)
theorem dX6_init_5 : decode cX6_init 5 = .ok (.aload_n 0, 1) := dk_42 (dk_at dksX6_init_0 5 rfl rfl)
theorem dX6_init_6 : decode cX6_init 6 = .ok (.invokespecial 9, 3) := dk_183 0 9 (dk_at dksX6_init_0 6 rfl rfl)
theorem dX6_init_9 : decode cX6_init 9 = .ok (.aload_n 0, 1) := dk_42 (dk_at dksX6_init_0 9 rfl rfl)
theorem dX6_init_10 : decode cX6_init 10 = .ok (.iconst 4, 1) := dk_7 (dk_at dksX6_init_0 10 rfl rfl)
theorem dX6_init_11 : decode cX6_init 11 = .ok (.anewarray 15, 3) := dk_189 0 15 (dk_at dksX6_init_0 11 rfl rfl)
theorem dX6_init_14 : decode cX6_init 14 = .ok (.putfield 17, 3) := dk_181 0 17 (dk_at dksX6_init_0 14 rfl rfl)
theorem dX6_init_17 : decode cX6_init 17 = .ok (.aload_n 0, 1) := dk_42 (dk_at dksX6_init_0 17 rfl rfl)
theorem dX6_init_18 : decode cX6_init 18 = .ok (.bipush 48, 2) := dk_16 48 (dk_at dksX6_init_0 18 rfl rfl)
theorem dX6_init_20 : decode cX6_init 20 = .ok (.anewarray 21, 3) := dk_189 0 21 (dk_at dksX6_init_0 20 rfl rfl)
theorem dX6_init_23 : decode cX6_init 23 = .ok (.putfield 23, 3) := dk_181 0 23 (dk_at dksX6_init_1 0 rfl rfl)
theorem dX6_init_26 : decode cX6_init 26 = .ok (.aload_n 0, 1) := dk_42 (dk_at dksX6_init_1 3 rfl rfl)
theorem dX6_init_27 : decode cX6_init 27 = .ok (.bipush 32, 2) := dk_16 32 (dk_at dksX6_init_1 4 rfl rfl)
theorem dX6_init_29 : decode cX6_init 29 = .ok (.newarray .int, 2) := dk_188_10 (dk_at dksX6_init_1 6 rfl rfl)
theorem dX6_init_31 : decode cX6_init 31 = .ok (.putfield 27, 3) := dk_181 0 27 (dk_at dksX6_init_1 8 rfl rfl)
theorem dX6_init_34 : decode cX6_init 34 = .ok (.aload_n 0, 1) := dk_42 (dk_at dksX6_init_1 11 rfl rfl)
theorem dX6_init_35 : decode cX6_init 35 = .ok (.bipush 8, 2) := dk_16 8 (dk_at dksX6_init_1 12 rfl rfl)
theorem dX6_init_37 : decode cX6_init 37 = .ok (.newarray .int, 2) := dk_188_10 (dk_at dksX6_init_1 14 rfl rfl)
theorem dX6_init_39 : decode cX6_init 39 = .ok (.putfield 31, 3) := dk_181 0 31 (dk_at dksX6_init_1 16 rfl rfl)
theorem dX6_init_42 : decode cX6_init 42 = .ok (.aload_n 0, 1) := dk_42 (dk_at dksX6_init_1 19 rfl rfl)
theorem dX6_init_43 : decode cX6_init 43 = .ok (.iconst 2, 1) := dk_5 (dk_at dksX6_init_1 20 rfl rfl)
theorem dX6_init_44 : decode cX6_init 44 = .ok (.newarray .int, 2) := dk_188_10 (dk_at dksX6_init_1 21 rfl rfl)
theorem dX6_init_46 : decode cX6_init 46 = .ok (.dup, 1) := dk_89 (dk_at dksX6_init_1 23 rfl rfl)
theorem dX6_init_47 : decode cX6_init 47 = .ok (.iconst 0, 1) := dk_3 (dk_at dksX6_init_2 0 rfl rfl)
theorem dX6_init_48 : decode cX6_init 48 = .ok (.iconst 3, 1) := dk_6 (dk_at dksX6_init_2 1 rfl rfl)
theorem dX6_init_49 : decode cX6_init 49 = .ok (.iastore, 1) := dk_79 (dk_at dksX6_init_2 2 rfl rfl)
theorem dX6_init_50 : decode cX6_init 50 = .ok (.dup, 1) := dk_89 (dk_at dksX6_init_2 3 rfl rfl)
theorem dX6_init_51 : decode cX6_init 51 = .ok (.iconst 1, 1) := dk_4 (dk_at dksX6_init_2 4 rfl rfl)
theorem dX6_init_52 : decode cX6_init 52 = .ok (.iconst 0, 1) := dk_3 (dk_at dksX6_init_2 5 rfl rfl)
theorem dX6_init_53 : decode cX6_init 53 = .ok (.iastore, 1) := dk_79 (dk_at dksX6_init_2 6 rfl rfl)
theorem dX6_init_54 : decode cX6_init 54 = .ok (.putfield 34, 3) := dk_181 0 34 (dk_at dksX6_init_2 7 rfl rfl)
theorem dX6_init_57 : decode cX6_init 57 = .ok (.aload_n 0, 1) := dk_42 (dk_at dksX6_init_2 10 rfl rfl)
theorem dX6_init_58 : decode cX6_init 58 = .ok (.bipush 48, 2) := dk_16 48 (dk_at dksX6_init_2 11 rfl rfl)
theorem dX6_init_60 : decode cX6_init 60 = .ok (.newarray .boolean, 2) := dk_188_4 (dk_at dksX6_init_2 13 rfl rfl)
theorem dX6_init_62 : decode cX6_init 62 = .ok (.putfield 37, 3) := dk_181 0 37 (dk_at dksX6_init_2 15 rfl rfl)
theorem dX6_init_65 : decode cX6_init 65 = .ok (.aload_n 0, 1) := dk_42 (dk_at dksX6_init_2 18 rfl rfl)
theorem dX6_init_66 : decode cX6_init 66 = .ok (.bipush 16, 2) := dk_16 16 (dk_at dksX6_init_2 19 rfl rfl)
theorem dX6_init_68 : decode cX6_init 68 = .ok (.newarray .int, 2) := dk_188_10 (dk_at dksX6_init_2 21 rfl rfl)
theorem dX6_init_70 : decode cX6_init 70 = .ok (.putfield 41, 3) := dk_181 0 41 (dk_at dksX6_init_3 0 rfl rfl)
theorem dX6_init_73 : decode cX6_init 73 = .ok (.aload_n 0, 1) := dk_42 (dk_at dksX6_init_3 3 rfl rfl)
theorem dX6_init_74 : decode cX6_init 74 = .ok (.bipush 16, 2) := dk_16 16 (dk_at dksX6_init_3 4 rfl rfl)
theorem dX6_init_76 : decode cX6_init 76 = .ok (.newarray .int, 2) := dk_188_10 (dk_at dksX6_init_3 6 rfl rfl)
theorem dX6_init_78 : decode cX6_init 78 = .ok (.putfield 44, 3) := dk_181 0 44 (dk_at dksX6_init_3 8 rfl rfl)
theorem dX6_init_81 : decode cX6_init 81 = .ok (.aload_n 0, 1) := dk_42 (dk_at dksX6_init_3 11 rfl rfl)
theorem dX6_init_82 : decode cX6_init 82 = .ok (.bipush 16, 2) := dk_16 16 (dk_at dksX6_init_3 12 rfl rfl)
theorem dX6_init_84 : decode cX6_init 84 = .ok (.newarray .int, 2) := dk_188_10 (dk_at dksX6_init_3 14 rfl rfl)
theorem dX6_init_86 : decode cX6_init 86 = .ok (.putfield 47, 3) := dk_181 0 47 (dk_at dksX6_init_3 16 rfl rfl)
theorem dX6_init_89 : decode cX6_init 89 = .ok (.iconst 0, 1) := dk_3 (dk_at dksX6_init_3 19 rfl rfl)
theorem dX6_init_90 : decode cX6_init 90 = .ok (.istore_n 2, 1) := dk_61 (dk_at dksX6_init_3 20 rfl rfl)
theorem dX6_init_91 : decode cX6_init 91 = .ok (.iload_n 2, 1) := dk_28 (dk_at dksX6_init_3 21 rfl rfl)
theorem dX6_init_92 : decode cX6_init 92 = .ok (.iconst 4, 1) := dk_7 (dk_at dksX6_init_3 22 rfl rfl)
theorem dX6_init_93 : decode cX6_init 93 = .ok (.if_icmp .ge 22, 3) := dk_162 0 22 (dk_at dksX6_init_4 0 rfl rfl)
theorem dX6_init_96 : decode cX6_init 96 = .ok (.aload_n 0, 1) := dk_42 (dk_at dksX6_init_4 3 rfl rfl)
theorem dX6_init_97 : decode cX6_init 97 = .ok (.getfield 17, 3) := dk_180 0 17 (dk_at dksX6_init_4 4 rfl rfl)
theorem dX6_init_100 : decode cX6_init 100 = .ok (.iload_n 2, 1) := dk_28 (dk_at dksX6_init_4 7 rfl rfl)
theorem dX6_init_101 : decode cX6_init 101 = .ok (.new 15, 3) := dk_187 0 15 (dk_at dksX6_init_4 8 rfl rfl)
theorem dX6_init_104 : decode cX6_init 104 = .ok (.dup, 1) := dk_89 (dk_at dksX6_init_4 11 rfl rfl)
theorem dX6_init_105 : decode cX6_init 105 = .ok (.invokespecial 50, 3) := dk_183 0 50 (dk_at dksX6_init_4 12 rfl rfl)
theorem dX6_init_108 : decode cX6_init 108 = .ok (.aastore, 1) := dk_83 (dk_at dksX6_init_4 15 rfl rfl)
theorem dX6_init_109 : decode cX6_init 109 = .ok (.iinc 2 1, 3) := dk_132 2 1 (dk_at dksX6_init_4 16 rfl rfl)
theorem dX6_init_112 : decode cX6_init 112 = .ok (.goto (-21), 3) := dk_167 255 235 (dk_at dksX6_init_4 19 rfl rfl)
theorem dX6_init_115 : decode cX6_init 115 = .ok (.iconst 0, 1) := dk_3 (dk_at dksX6_init_4 22 rfl rfl)
theorem dX6_init_116 : decode cX6_init 116 = .ok (.istore_n 2, 1) := dk_61 (dk_at dksX6_init_4 23 rfl rfl)
theorem dX6_init_117 : decode cX6_init 117 = .ok (.iload_n 2, 1) := dk_28 (dk_at dksX6_init_5 0 rfl rfl)
theorem dX6_init_118 : decode cX6_init 118 = .ok (.bipush 48, 2) := dk_16 48 (dk_at dksX6_init_5 1 rfl rfl)
theorem dX6_init_120 : decode cX6_init 120 = .ok (.if_icmp .ge 19, 3) := dk_162 0 19 (dk_at dksX6_init_5 3 rfl rfl)
theorem dX6_init_123 : decode cX6_init 123 = .ok (.aload_n 0, 1) := dk_42 (dk_at dksX6_init_5 6 rfl rfl)
theorem dX6_init_124 : decode cX6_init 124 = .ok (.getfield 23, 3) := dk_180 0 23 (dk_at dksX6_init_5 7 rfl rfl)
theorem dX6_init_127 : decode cX6_init 127 = .ok (.iload_n 2, 1) := dk_28 (dk_at dksX6_init_5 10 rfl rfl)
theorem dX6_init_128 : decode cX6_init 128 = .ok (.aload_n 1, 1) := dk_43 (dk_at dksX6_init_5 11 rfl rfl)
theorem dX6_init_129 : decode cX6_init 129 = .ok (.getfield 51, 3) := dk_180 0 51 (dk_at dksX6_init_5 12 rfl rfl)
theorem dX6_init_132 : decode cX6_init 132 = .ok (.aastore, 1) := dk_83 (dk_at dksX6_init_5 15 rfl rfl)
theorem dX6_init_133 : decode cX6_init 133 = .ok (.iinc 2 1, 3) := dk_132 2 1 (dk_at dksX6_init_5 16 rfl rfl)
theorem dX6_init_136 : decode cX6_init 136 = .ok (.goto (-19), 3) := dk_167 255 237 (dk_at dksX6_init_5 19 rfl rfl)
theorem dX6_init_139 : decode cX6_init 139 = .ok (.iconst 0, 1) := dk_3 (dk_at dksX6_init_5 22 rfl rfl)
theorem dX6_init_140 : decode cX6_init 140 = .ok (.istore_n 2, 1) := dk_61 (dk_at dksX6_init_5 23 rfl rfl)
theorem dX6_init_141 : decode cX6_init 141 = .ok (.iload_n 2, 1) := dk_28 (dk_at dksX6_init_6 0 rfl rfl)
theorem dX6_init_142 : decode cX6_init 142 = .ok (.bipush 8, 2) := dk_16 8 (dk_at dksX6_init_6 1 rfl rfl)
theorem dX6_init_144 : decode cX6_init 144 = .ok (.if_icmp .ge 18, 3) := dk_162 0 18 (dk_at dksX6_init_6 3 rfl rfl)
theorem dX6_init_147 : decode cX6_init 147 = .ok (.aload_n 0, 1) := dk_42 (dk_at dksX6_init_6 6 rfl rfl)
theorem dX6_init_148 : decode cX6_init 148 = .ok (.getfield 31, 3) := dk_180 0 31 (dk_at dksX6_init_6 7 rfl rfl)
theorem dX6_init_151 : decode cX6_init 151 = .ok (.iload_n 2, 1) := dk_28 (dk_at dksX6_init_6 10 rfl rfl)
theorem dX6_init_152 : decode cX6_init 152 = .ok (.iload_n 2, 1) := dk_28 (dk_at dksX6_init_6 11 rfl rfl)
theorem dX6_init_153 : decode cX6_init 153 = .ok (.iconst 4, 1) := dk_7 (dk_at dksX6_init_6 12 rfl rfl)
theorem dX6_init_154 : decode cX6_init 154 = .ok (.irem, 1) := dk_112 (dk_at dksX6_init_6 13 rfl rfl)
theorem dX6_init_155 : decode cX6_init 155 = .ok (.iastore, 1) := dk_79 (dk_at dksX6_init_6 14 rfl rfl)
theorem dX6_init_156 : decode cX6_init 156 = .ok (.iinc 2 1, 3) := dk_132 2 1 (dk_at dksX6_init_6 15 rfl rfl)
theorem dX6_init_159 : decode cX6_init 159 = .ok (.goto (-18), 3) := dk_167 255 238 (dk_at dksX6_init_6 18 rfl rfl)
theorem dX6_init_162 : decode cX6_init 162 = .ok (.return_, 1) := dk_177 (dk_at dksX6_init_6 21 rfl rfl)
abbrev cX6_init_2 : ByteArray := prog_5_method_2_code
def yX6_init_2 : MethodName := ⟨RX6, "<init>", "(LBarrelProcessor;LBarrelProcessor$Machine;)V"⟩
def dkwX6_init_2_10 : List UInt8 := [44, 180, 0, 47, 182, 0, 65, 192, 0, 66, 181, 0, 47, 42, 44, 180, 0, 79, 181, 0, 79, 177]
abbrev dktX6_init_2_10 : List UInt8 := dkwX6_init_2_10 ++ []
def dkwX6_init_2_9 : List UInt8 := [182, 0, 65, 192, 0, 66, 181, 0, 41, 42, 44, 180, 0, 44, 182, 0, 65, 192, 0, 66, 181, 0, 44, 42]
abbrev dktX6_init_2_9 : List UInt8 := dkwX6_init_2_9 ++ dktX6_init_2_10
def dkwX6_init_2_8 : List UInt8 := [181, 0, 37, 42, 44, 180, 0, 72, 181, 0, 72, 42, 44, 180, 0, 76, 181, 0, 76, 42, 44, 180, 0, 41]
abbrev dktX6_init_2_8 : List UInt8 := dkwX6_init_2_8 ++ dktX6_init_2_9
def dkwX6_init_2_7 : List UInt8 := [180, 0, 34, 182, 0, 65, 192, 0, 66, 181, 0, 34, 42, 44, 180, 0, 37, 182, 0, 70, 192, 0, 71]
abbrev dktX6_init_2_7 : List UInt8 := dkwX6_init_2_7 ++ dktX6_init_2_8
def dkwX6_init_2_6 : List UInt8 := [192, 0, 66, 181, 0, 27, 42, 44, 180, 0, 31, 182, 0, 65, 192, 0, 66, 181, 0, 31, 42, 44]
abbrev dktX6_init_2_6 : List UInt8 := dkwX6_init_2_6 ++ dktX6_init_2_7
def dkwX6_init_2_5 : List UInt8 := [44, 180, 0, 23, 3, 42, 180, 0, 23, 3, 16, 48, 184, 0, 59, 42, 44, 180, 0, 27, 182, 0, 65]
abbrev dktX6_init_2_5 : List UInt8 := dkwX6_init_2_5 ++ dktX6_init_2_6
def dkwX6_init_2_4 : List UInt8 := [162, 0, 24, 42, 180, 0, 17, 29, 44, 180, 0, 17, 29, 50, 182, 0, 55, 83, 132, 3, 1, 167, 255, 233]
abbrev dktX6_init_2_4 : List UInt8 := dkwX6_init_2_4 ++ dktX6_init_2_5
def dkwX6_init_2_3 : List UInt8 := [181, 0, 41, 42, 16, 16, 188, 10, 181, 0, 44, 42, 16, 16, 188, 10, 181, 0, 47, 3, 62, 29, 7]
abbrev dktX6_init_2_3 : List UInt8 := dkwX6_init_2_3 ++ dktX6_init_2_4
def dkwX6_init_2_2 : List UInt8 := [3, 6, 79, 89, 4, 3, 79, 181, 0, 34, 42, 16, 48, 188, 4, 181, 0, 37, 42, 16, 16, 188, 10]
abbrev dktX6_init_2_2 : List UInt8 := dkwX6_init_2_2 ++ dktX6_init_2_3
def dkwX6_init_2_1 : List UInt8 := [181, 0, 23, 42, 16, 32, 188, 10, 181, 0, 27, 42, 16, 8, 188, 10, 181, 0, 31, 42, 5, 188, 10, 89]
abbrev dktX6_init_2_1 : List UInt8 := dkwX6_init_2_1 ++ dktX6_init_2_2
def dkwX6_init_2_0 : List UInt8 := [42, 43, 181, 0, 3, 42, 183, 0, 9, 42, 7, 189, 0, 15, 181, 0, 17, 42, 16, 48, 189, 0, 21]
abbrev dktX6_init_2_0 : List UInt8 := dkwX6_init_2_0 ++ dktX6_init_2_1
theorem dksX6_init_2_0 : cX6_init_2.data.toList.drop 0 = dktX6_init_2_0 := by decide +kernel
theorem dksX6_init_2_1 : cX6_init_2.data.toList.drop 23 = dktX6_init_2_1 := dk_seg dksX6_init_2_0 23 rfl rfl
theorem dksX6_init_2_2 : cX6_init_2.data.toList.drop 47 = dktX6_init_2_2 := dk_seg dksX6_init_2_1 24 rfl rfl
theorem dksX6_init_2_3 : cX6_init_2.data.toList.drop 70 = dktX6_init_2_3 := dk_seg dksX6_init_2_2 23 rfl rfl
theorem dksX6_init_2_4 : cX6_init_2.data.toList.drop 93 = dktX6_init_2_4 := dk_seg dksX6_init_2_3 23 rfl rfl
theorem dksX6_init_2_5 : cX6_init_2.data.toList.drop 117 = dktX6_init_2_5 := dk_seg dksX6_init_2_4 24 rfl rfl
theorem dksX6_init_2_6 : cX6_init_2.data.toList.drop 140 = dktX6_init_2_6 := dk_seg dksX6_init_2_5 23 rfl rfl
theorem dksX6_init_2_7 : cX6_init_2.data.toList.drop 162 = dktX6_init_2_7 := dk_seg dksX6_init_2_6 22 rfl rfl
theorem dksX6_init_2_8 : cX6_init_2.data.toList.drop 185 = dktX6_init_2_8 := dk_seg dksX6_init_2_7 23 rfl rfl
theorem dksX6_init_2_9 : cX6_init_2.data.toList.drop 209 = dktX6_init_2_9 := dk_seg dksX6_init_2_8 24 rfl rfl
theorem dksX6_init_2_10 : cX6_init_2.data.toList.drop 233 = dktX6_init_2_10 := dk_seg dksX6_init_2_9 24 rfl rfl
theorem dX6_init_2_0 : decode cX6_init_2 0 = .ok (.aload_n 0, 1) := dk_42 (dk_at dksX6_init_2_0 0 rfl rfl)
theorem dX6_init_2_1 : decode cX6_init_2 1 = .ok (.aload_n 1, 1) := dk_43 (dk_at dksX6_init_2_0 1 rfl rfl)
theorem dX6_init_2_2 : decode cX6_init_2 2 = .ok (.putfield 3, 3) := dk_181 0 3 (dk_at dksX6_init_2_0 2 rfl rfl)
theorem dX6_init_2_5 : decode cX6_init_2 5 = .ok (.aload_n 0, 1) := dk_42 (dk_at dksX6_init_2_0 5 rfl rfl)
theorem dX6_init_2_6 : decode cX6_init_2 6 = .ok (.invokespecial 9, 3) := dk_183 0 9 (dk_at dksX6_init_2_0 6 rfl rfl)
theorem dX6_init_2_9 : decode cX6_init_2 9 = .ok (.aload_n 0, 1) := dk_42 (dk_at dksX6_init_2_0 9 rfl rfl)
theorem dX6_init_2_10 : decode cX6_init_2 10 = .ok (.iconst 4, 1) := dk_7 (dk_at dksX6_init_2_0 10 rfl rfl)
theorem dX6_init_2_11 : decode cX6_init_2 11 = .ok (.anewarray 15, 3) := dk_189 0 15 (dk_at dksX6_init_2_0 11 rfl rfl)
theorem dX6_init_2_14 : decode cX6_init_2 14 = .ok (.putfield 17, 3) := dk_181 0 17 (dk_at dksX6_init_2_0 14 rfl rfl)
theorem dX6_init_2_17 : decode cX6_init_2 17 = .ok (.aload_n 0, 1) := dk_42 (dk_at dksX6_init_2_0 17 rfl rfl)
theorem dX6_init_2_18 : decode cX6_init_2 18 = .ok (.bipush 48, 2) := dk_16 48 (dk_at dksX6_init_2_0 18 rfl rfl)
theorem dX6_init_2_20 : decode cX6_init_2 20 = .ok (.anewarray 21, 3) := dk_189 0 21 (dk_at dksX6_init_2_0 20 rfl rfl)
theorem dX6_init_2_23 : decode cX6_init_2 23 = .ok (.putfield 23, 3) := dk_181 0 23 (dk_at dksX6_init_2_1 0 rfl rfl)
theorem dX6_init_2_26 : decode cX6_init_2 26 = .ok (.aload_n 0, 1) := dk_42 (dk_at dksX6_init_2_1 3 rfl rfl)
theorem dX6_init_2_27 : decode cX6_init_2 27 = .ok (.bipush 32, 2) := dk_16 32 (dk_at dksX6_init_2_1 4 rfl rfl)
theorem dX6_init_2_29 : decode cX6_init_2 29 = .ok (.newarray .int, 2) := dk_188_10 (dk_at dksX6_init_2_1 6 rfl rfl)
theorem dX6_init_2_31 : decode cX6_init_2 31 = .ok (.putfield 27, 3) := dk_181 0 27 (dk_at dksX6_init_2_1 8 rfl rfl)
theorem dX6_init_2_34 : decode cX6_init_2 34 = .ok (.aload_n 0, 1) := dk_42 (dk_at dksX6_init_2_1 11 rfl rfl)
theorem dX6_init_2_35 : decode cX6_init_2 35 = .ok (.bipush 8, 2) := dk_16 8 (dk_at dksX6_init_2_1 12 rfl rfl)
theorem dX6_init_2_37 : decode cX6_init_2 37 = .ok (.newarray .int, 2) := dk_188_10 (dk_at dksX6_init_2_1 14 rfl rfl)
theorem dX6_init_2_39 : decode cX6_init_2 39 = .ok (.putfield 31, 3) := dk_181 0 31 (dk_at dksX6_init_2_1 16 rfl rfl)
theorem dX6_init_2_42 : decode cX6_init_2 42 = .ok (.aload_n 0, 1) := dk_42 (dk_at dksX6_init_2_1 19 rfl rfl)
theorem dX6_init_2_43 : decode cX6_init_2 43 = .ok (.iconst 2, 1) := dk_5 (dk_at dksX6_init_2_1 20 rfl rfl)
theorem dX6_init_2_44 : decode cX6_init_2 44 = .ok (.newarray .int, 2) := dk_188_10 (dk_at dksX6_init_2_1 21 rfl rfl)
theorem dX6_init_2_46 : decode cX6_init_2 46 = .ok (.dup, 1) := dk_89 (dk_at dksX6_init_2_1 23 rfl rfl)
theorem dX6_init_2_47 : decode cX6_init_2 47 = .ok (.iconst 0, 1) := dk_3 (dk_at dksX6_init_2_2 0 rfl rfl)
theorem dX6_init_2_48 : decode cX6_init_2 48 = .ok (.iconst 3, 1) := dk_6 (dk_at dksX6_init_2_2 1 rfl rfl)
theorem dX6_init_2_49 : decode cX6_init_2 49 = .ok (.iastore, 1) := dk_79 (dk_at dksX6_init_2_2 2 rfl rfl)
theorem dX6_init_2_50 : decode cX6_init_2 50 = .ok (.dup, 1) := dk_89 (dk_at dksX6_init_2_2 3 rfl rfl)
theorem dX6_init_2_51 : decode cX6_init_2 51 = .ok (.iconst 1, 1) := dk_4 (dk_at dksX6_init_2_2 4 rfl rfl)
theorem dX6_init_2_52 : decode cX6_init_2 52 = .ok (.iconst 0, 1) := dk_3 (dk_at dksX6_init_2_2 5 rfl rfl)
theorem dX6_init_2_53 : decode cX6_init_2 53 = .ok (.iastore, 1) := dk_79 (dk_at dksX6_init_2_2 6 rfl rfl)
theorem dX6_init_2_54 : decode cX6_init_2 54 = .ok (.putfield 34, 3) := dk_181 0 34 (dk_at dksX6_init_2_2 7 rfl rfl)
theorem dX6_init_2_57 : decode cX6_init_2 57 = .ok (.aload_n 0, 1) := dk_42 (dk_at dksX6_init_2_2 10 rfl rfl)
theorem dX6_init_2_58 : decode cX6_init_2 58 = .ok (.bipush 48, 2) := dk_16 48 (dk_at dksX6_init_2_2 11 rfl rfl)
theorem dX6_init_2_60 : decode cX6_init_2 60 = .ok (.newarray .boolean, 2) := dk_188_4 (dk_at dksX6_init_2_2 13 rfl rfl)
theorem dX6_init_2_62 : decode cX6_init_2 62 = .ok (.putfield 37, 3) := dk_181 0 37 (dk_at dksX6_init_2_2 15 rfl rfl)
theorem dX6_init_2_65 : decode cX6_init_2 65 = .ok (.aload_n 0, 1) := dk_42 (dk_at dksX6_init_2_2 18 rfl rfl)
theorem dX6_init_2_66 : decode cX6_init_2 66 = .ok (.bipush 16, 2) := dk_16 16 (dk_at dksX6_init_2_2 19 rfl rfl)
theorem dX6_init_2_68 : decode cX6_init_2 68 = .ok (.newarray .int, 2) := dk_188_10 (dk_at dksX6_init_2_2 21 rfl rfl)
theorem dX6_init_2_70 : decode cX6_init_2 70 = .ok (.putfield 41, 3) := dk_181 0 41 (dk_at dksX6_init_2_3 0 rfl rfl)
theorem dX6_init_2_73 : decode cX6_init_2 73 = .ok (.aload_n 0, 1) := dk_42 (dk_at dksX6_init_2_3 3 rfl rfl)
theorem dX6_init_2_74 : decode cX6_init_2 74 = .ok (.bipush 16, 2) := dk_16 16 (dk_at dksX6_init_2_3 4 rfl rfl)
theorem dX6_init_2_76 : decode cX6_init_2 76 = .ok (.newarray .int, 2) := dk_188_10 (dk_at dksX6_init_2_3 6 rfl rfl)
theorem dX6_init_2_78 : decode cX6_init_2 78 = .ok (.putfield 44, 3) := dk_181 0 44 (dk_at dksX6_init_2_3 8 rfl rfl)
theorem dX6_init_2_81 : decode cX6_init_2 81 = .ok (.aload_n 0, 1) := dk_42 (dk_at dksX6_init_2_3 11 rfl rfl)
theorem dX6_init_2_82 : decode cX6_init_2 82 = .ok (.bipush 16, 2) := dk_16 16 (dk_at dksX6_init_2_3 12 rfl rfl)
theorem dX6_init_2_84 : decode cX6_init_2 84 = .ok (.newarray .int, 2) := dk_188_10 (dk_at dksX6_init_2_3 14 rfl rfl)
theorem dX6_init_2_86 : decode cX6_init_2 86 = .ok (.putfield 47, 3) := dk_181 0 47 (dk_at dksX6_init_2_3 16 rfl rfl)
theorem dX6_init_2_89 : decode cX6_init_2 89 = .ok (.iconst 0, 1) := dk_3 (dk_at dksX6_init_2_3 19 rfl rfl)
theorem dX6_init_2_90 : decode cX6_init_2 90 = .ok (.istore_n 3, 1) := dk_62 (dk_at dksX6_init_2_3 20 rfl rfl)
theorem dX6_init_2_91 : decode cX6_init_2 91 = .ok (.iload_n 3, 1) := dk_29 (dk_at dksX6_init_2_3 21 rfl rfl)
theorem dX6_init_2_92 : decode cX6_init_2 92 = .ok (.iconst 4, 1) := dk_7 (dk_at dksX6_init_2_3 22 rfl rfl)
theorem dX6_init_2_93 : decode cX6_init_2 93 = .ok (.if_icmp .ge 24, 3) := dk_162 0 24 (dk_at dksX6_init_2_4 0 rfl rfl)
theorem dX6_init_2_96 : decode cX6_init_2 96 = .ok (.aload_n 0, 1) := dk_42 (dk_at dksX6_init_2_4 3 rfl rfl)
theorem dX6_init_2_97 : decode cX6_init_2 97 = .ok (.getfield 17, 3) := dk_180 0 17 (dk_at dksX6_init_2_4 4 rfl rfl)
theorem dX6_init_2_100 : decode cX6_init_2 100 = .ok (.iload_n 3, 1) := dk_29 (dk_at dksX6_init_2_4 7 rfl rfl)
theorem dX6_init_2_101 : decode cX6_init_2 101 = .ok (.aload_n 2, 1) := dk_44 (dk_at dksX6_init_2_4 8 rfl rfl)
theorem dX6_init_2_102 : decode cX6_init_2 102 = .ok (.getfield 17, 3) := dk_180 0 17 (dk_at dksX6_init_2_4 9 rfl rfl)
theorem dX6_init_2_105 : decode cX6_init_2 105 = .ok (.iload_n 3, 1) := dk_29 (dk_at dksX6_init_2_4 12 rfl rfl)
theorem dX6_init_2_106 : decode cX6_init_2 106 = .ok (.aaload, 1) := dk_50 (dk_at dksX6_init_2_4 13 rfl rfl)
theorem dX6_init_2_107 : decode cX6_init_2 107 = .ok (.invokevirtual 55, 3) := dk_182 0 55 (dk_at dksX6_init_2_4 14 rfl rfl)
theorem dX6_init_2_110 : decode cX6_init_2 110 = .ok (.aastore, 1) := dk_83 (dk_at dksX6_init_2_4 17 rfl rfl)
theorem dX6_init_2_111 : decode cX6_init_2 111 = .ok (.iinc 3 1, 3) := dk_132 3 1 (dk_at dksX6_init_2_4 18 rfl rfl)
theorem dX6_init_2_114 : decode cX6_init_2 114 = .ok (.goto (-23), 3) := dk_167 255 233 (dk_at dksX6_init_2_4 21 rfl rfl)
theorem dX6_init_2_117 : decode cX6_init_2 117 = .ok (.aload_n 2, 1) := dk_44 (dk_at dksX6_init_2_5 0 rfl rfl)
theorem dX6_init_2_118 : decode cX6_init_2 118 = .ok (.getfield 23, 3) := dk_180 0 23 (dk_at dksX6_init_2_5 1 rfl rfl)
theorem dX6_init_2_121 : decode cX6_init_2 121 = .ok (.iconst 0, 1) := dk_3 (dk_at dksX6_init_2_5 4 rfl rfl)
theorem dX6_init_2_122 : decode cX6_init_2 122 = .ok (.aload_n 0, 1) := dk_42 (dk_at dksX6_init_2_5 5 rfl rfl)
theorem dX6_init_2_123 : decode cX6_init_2 123 = .ok (.getfield 23, 3) := dk_180 0 23 (dk_at dksX6_init_2_5 6 rfl rfl)
theorem dX6_init_2_126 : decode cX6_init_2 126 = .ok (.iconst 0, 1) := dk_3 (dk_at dksX6_init_2_5 9 rfl rfl)
theorem dX6_init_2_127 : decode cX6_init_2 127 = .ok (.bipush 48, 2) := dk_16 48 (dk_at dksX6_init_2_5 10 rfl rfl)
theorem dX6_init_2_129 : decode cX6_init_2 129 = .ok (.invokestatic 59, 3) := dk_184 0 59 (dk_at dksX6_init_2_5 12 rfl rfl)
theorem dX6_init_2_132 : decode cX6_init_2 132 = .ok (.aload_n 0, 1) := dk_42 (dk_at dksX6_init_2_5 15 rfl rfl)
theorem dX6_init_2_133 : decode cX6_init_2 133 = .ok (.aload_n 2, 1) := dk_44 (dk_at dksX6_init_2_5 16 rfl rfl)
theorem dX6_init_2_134 : decode cX6_init_2 134 = .ok (.getfield 27, 3) := dk_180 0 27 (dk_at dksX6_init_2_5 17 rfl rfl)
theorem dX6_init_2_137 : decode cX6_init_2 137 = .ok (.invokevirtual 65, 3) := dk_182 0 65 (dk_at dksX6_init_2_5 20 rfl rfl)
theorem dX6_init_2_140 : decode cX6_init_2 140 = .ok (.checkcast 66, 3) := dk_192 0 66 (dk_at dksX6_init_2_6 0 rfl rfl)
theorem dX6_init_2_143 : decode cX6_init_2 143 = .ok (.putfield 27, 3) := dk_181 0 27 (dk_at dksX6_init_2_6 3 rfl rfl)
theorem dX6_init_2_146 : decode cX6_init_2 146 = .ok (.aload_n 0, 1) := dk_42 (dk_at dksX6_init_2_6 6 rfl rfl)
theorem dX6_init_2_147 : decode cX6_init_2 147 = .ok (.aload_n 2, 1) := dk_44 (dk_at dksX6_init_2_6 7 rfl rfl)
theorem dX6_init_2_148 : decode cX6_init_2 148 = .ok (.getfield 31, 3) := dk_180 0 31 (dk_at dksX6_init_2_6 8 rfl rfl)
theorem dX6_init_2_151 : decode cX6_init_2 151 = .ok (.invokevirtual 65, 3) := dk_182 0 65 (dk_at dksX6_init_2_6 11 rfl rfl)
theorem dX6_init_2_154 : decode cX6_init_2 154 = .ok (.checkcast 66, 3) := dk_192 0 66 (dk_at dksX6_init_2_6 14 rfl rfl)
theorem dX6_init_2_157 : decode cX6_init_2 157 = .ok (.putfield 31, 3) := dk_181 0 31 (dk_at dksX6_init_2_6 17 rfl rfl)
theorem dX6_init_2_160 : decode cX6_init_2 160 = .ok (.aload_n 0, 1) := dk_42 (dk_at dksX6_init_2_6 20 rfl rfl)
theorem dX6_init_2_161 : decode cX6_init_2 161 = .ok (.aload_n 2, 1) := dk_44 (dk_at dksX6_init_2_6 21 rfl rfl)
theorem dX6_init_2_162 : decode cX6_init_2 162 = .ok (.getfield 34, 3) := dk_180 0 34 (dk_at dksX6_init_2_7 0 rfl rfl)
theorem dX6_init_2_165 : decode cX6_init_2 165 = .ok (.invokevirtual 65, 3) := dk_182 0 65 (dk_at dksX6_init_2_7 3 rfl rfl)
theorem dX6_init_2_168 : decode cX6_init_2 168 = .ok (.checkcast 66, 3) := dk_192 0 66 (dk_at dksX6_init_2_7 6 rfl rfl)
theorem dX6_init_2_171 : decode cX6_init_2 171 = .ok (.putfield 34, 3) := dk_181 0 34 (dk_at dksX6_init_2_7 9 rfl rfl)
theorem dX6_init_2_174 : decode cX6_init_2 174 = .ok (.aload_n 0, 1) := dk_42 (dk_at dksX6_init_2_7 12 rfl rfl)
theorem dX6_init_2_175 : decode cX6_init_2 175 = .ok (.aload_n 2, 1) := dk_44 (dk_at dksX6_init_2_7 13 rfl rfl)
theorem dX6_init_2_176 : decode cX6_init_2 176 = .ok (.getfield 37, 3) := dk_180 0 37 (dk_at dksX6_init_2_7 14 rfl rfl)
theorem dX6_init_2_179 : decode cX6_init_2 179 = .ok (.invokevirtual 70, 3) := dk_182 0 70 (dk_at dksX6_init_2_7 17 rfl rfl)
theorem dX6_init_2_182 : decode cX6_init_2 182 = .ok (.checkcast 71, 3) := dk_192 0 71 (dk_at dksX6_init_2_7 20 rfl rfl)
theorem dX6_init_2_185 : decode cX6_init_2 185 = .ok (.putfield 37, 3) := dk_181 0 37 (dk_at dksX6_init_2_8 0 rfl rfl)
theorem dX6_init_2_188 : decode cX6_init_2 188 = .ok (.aload_n 0, 1) := dk_42 (dk_at dksX6_init_2_8 3 rfl rfl)
theorem dX6_init_2_189 : decode cX6_init_2 189 = .ok (.aload_n 2, 1) := dk_44 (dk_at dksX6_init_2_8 4 rfl rfl)
theorem dX6_init_2_190 : decode cX6_init_2 190 = .ok (.getfield 72, 3) := dk_180 0 72 (dk_at dksX6_init_2_8 5 rfl rfl)
theorem dX6_init_2_193 : decode cX6_init_2 193 = .ok (.putfield 72, 3) := dk_181 0 72 (dk_at dksX6_init_2_8 8 rfl rfl)
theorem dX6_init_2_196 : decode cX6_init_2 196 = .ok (.aload_n 0, 1) := dk_42 (dk_at dksX6_init_2_8 11 rfl rfl)
theorem dX6_init_2_197 : decode cX6_init_2 197 = .ok (.aload_n 2, 1) := dk_44 (dk_at dksX6_init_2_8 12 rfl rfl)
theorem dX6_init_2_198 : decode cX6_init_2 198 = .ok (.getfield 76, 3) := dk_180 0 76 (dk_at dksX6_init_2_8 13 rfl rfl)
theorem dX6_init_2_201 : decode cX6_init_2 201 = .ok (.putfield 76, 3) := dk_181 0 76 (dk_at dksX6_init_2_8 16 rfl rfl)
theorem dX6_init_2_204 : decode cX6_init_2 204 = .ok (.aload_n 0, 1) := dk_42 (dk_at dksX6_init_2_8 19 rfl rfl)
theorem dX6_init_2_205 : decode cX6_init_2 205 = .ok (.aload_n 2, 1) := dk_44 (dk_at dksX6_init_2_8 20 rfl rfl)
theorem dX6_init_2_206 : decode cX6_init_2 206 = .ok (.getfield 41, 3) := dk_180 0 41 (dk_at dksX6_init_2_8 21 rfl rfl)
theorem dX6_init_2_209 : decode cX6_init_2 209 = .ok (.invokevirtual 65, 3) := dk_182 0 65 (dk_at dksX6_init_2_9 0 rfl rfl)
theorem dX6_init_2_212 : decode cX6_init_2 212 = .ok (.checkcast 66, 3) := dk_192 0 66 (dk_at dksX6_init_2_9 3 rfl rfl)
theorem dX6_init_2_215 : decode cX6_init_2 215 = .ok (.putfield 41, 3) := dk_181 0 41 (dk_at dksX6_init_2_9 6 rfl rfl)
theorem dX6_init_2_218 : decode cX6_init_2 218 = .ok (.aload_n 0, 1) := dk_42 (dk_at dksX6_init_2_9 9 rfl rfl)
theorem dX6_init_2_219 : decode cX6_init_2 219 = .ok (.aload_n 2, 1) := dk_44 (dk_at dksX6_init_2_9 10 rfl rfl)
theorem dX6_init_2_220 : decode cX6_init_2 220 = .ok (.getfield 44, 3) := dk_180 0 44 (dk_at dksX6_init_2_9 11 rfl rfl)
theorem dX6_init_2_223 : decode cX6_init_2 223 = .ok (.invokevirtual 65, 3) := dk_182 0 65 (dk_at dksX6_init_2_9 14 rfl rfl)
theorem dX6_init_2_226 : decode cX6_init_2 226 = .ok (.checkcast 66, 3) := dk_192 0 66 (dk_at dksX6_init_2_9 17 rfl rfl)
theorem dX6_init_2_229 : decode cX6_init_2 229 = .ok (.putfield 44, 3) := dk_181 0 44 (dk_at dksX6_init_2_9 20 rfl rfl)
theorem dX6_init_2_232 : decode cX6_init_2 232 = .ok (.aload_n 0, 1) := dk_42 (dk_at dksX6_init_2_9 23 rfl rfl)
theorem dX6_init_2_233 : decode cX6_init_2 233 = .ok (.aload_n 2, 1) := dk_44 (dk_at dksX6_init_2_10 0 rfl rfl)
theorem dX6_init_2_234 : decode cX6_init_2 234 = .ok (.getfield 47, 3) := dk_180 0 47 (dk_at dksX6_init_2_10 1 rfl rfl)
theorem dX6_init_2_237 : decode cX6_init_2 237 = .ok (.invokevirtual 65, 3) := dk_182 0 65 (dk_at dksX6_init_2_10 4 rfl rfl)
theorem dX6_init_2_240 : decode cX6_init_2 240 = .ok (.checkcast 66, 3) := dk_192 0 66 (dk_at dksX6_init_2_10 7 rfl rfl)
theorem dX6_init_2_243 : decode cX6_init_2 243 = .ok (.putfield 47, 3) := dk_181 0 47 (dk_at dksX6_init_2_10 10 rfl rfl)
theorem dX6_init_2_246 : decode cX6_init_2 246 = .ok (.aload_n 0, 1) := dk_42 (dk_at dksX6_init_2_10 13 rfl rfl)
theorem dX6_init_2_247 : decode cX6_init_2 247 = .ok (.aload_n 2, 1) := dk_44 (dk_at dksX6_init_2_10 14 rfl rfl)
theorem dX6_init_2_248 : decode cX6_init_2 248 = .ok (.getfield 79, 3) := dk_180 0 79 (dk_at dksX6_init_2_10 15 rfl rfl)
theorem dX6_init_2_251 : decode cX6_init_2 251 = .ok (.putfield 79, 3) := dk_181 0 79 (dk_at dksX6_init_2_10 18 rfl rfl)
theorem dX6_init_2_254 : decode cX6_init_2 254 = .ok (.return_, 1) := dk_177 (dk_at dksX6_init_2_10 21 rfl rfl)
abbrev cX6_isOver : ByteArray := prog_5_method_5_code
def yX6_isOver : MethodName := ⟨RX6, "isOver", "()Z"⟩
def dkwX6_isOver_1 : List UInt8 := [180, 0, 82, 153, 0, 5, 3, 172, 132, 3, 1, 167, 255, 233, 4, 172]
abbrev dktX6_isOver_1 : List UInt8 := dkwX6_isOver_1 ++ []
def dkwX6_isOver_0 : List UInt8 := [42, 180, 0, 17, 76, 43, 190, 61, 3, 62, 29, 28, 162, 0, 24, 43, 29, 50, 58, 4, 25, 4]
abbrev dktX6_isOver_0 : List UInt8 := dkwX6_isOver_0 ++ dktX6_isOver_1
theorem dksX6_isOver_0 : cX6_isOver.data.toList.drop 0 = dktX6_isOver_0 := by decide +kernel
theorem dksX6_isOver_1 : cX6_isOver.data.toList.drop 22 = dktX6_isOver_1 := dk_seg dksX6_isOver_0 22 rfl rfl
theorem dX6_isOver_0 : decode cX6_isOver 0 = .ok (.aload_n 0, 1) := dk_42 (dk_at dksX6_isOver_0 0 rfl rfl)
theorem dX6_isOver_1 : decode cX6_isOver 1 = .ok (.getfield 17, 3) := dk_180 0 17 (dk_at dksX6_isOver_0 1 rfl rfl)
theorem dX6_isOver_4 : decode cX6_isOver 4 = .ok (.astore_n 1, 1) := dk_76 (dk_at dksX6_isOver_0 4 rfl rfl)
theorem dX6_isOver_5 : decode cX6_isOver 5 = .ok (.aload_n 1, 1) := dk_43 (dk_at dksX6_isOver_0 5 rfl rfl)
theorem dX6_isOver_6 : decode cX6_isOver 6 = .ok (.arraylength, 1) := dk_190 (dk_at dksX6_isOver_0 6 rfl rfl)
theorem dX6_isOver_7 : decode cX6_isOver 7 = .ok (.istore_n 2, 1) := dk_61 (dk_at dksX6_isOver_0 7 rfl rfl)
theorem dX6_isOver_8 : decode cX6_isOver 8 = .ok (.iconst 0, 1) := dk_3 (dk_at dksX6_isOver_0 8 rfl rfl)
theorem dX6_isOver_9 : decode cX6_isOver 9 = .ok (.istore_n 3, 1) := dk_62 (dk_at dksX6_isOver_0 9 rfl rfl)
theorem dX6_isOver_10 : decode cX6_isOver 10 = .ok (.iload_n 3, 1) := dk_29 (dk_at dksX6_isOver_0 10 rfl rfl)
theorem dX6_isOver_11 : decode cX6_isOver 11 = .ok (.iload_n 2, 1) := dk_28 (dk_at dksX6_isOver_0 11 rfl rfl)
theorem dX6_isOver_12 : decode cX6_isOver 12 = .ok (.if_icmp .ge 24, 3) := dk_162 0 24 (dk_at dksX6_isOver_0 12 rfl rfl)
theorem dX6_isOver_15 : decode cX6_isOver 15 = .ok (.aload_n 1, 1) := dk_43 (dk_at dksX6_isOver_0 15 rfl rfl)
theorem dX6_isOver_16 : decode cX6_isOver 16 = .ok (.iload_n 3, 1) := dk_29 (dk_at dksX6_isOver_0 16 rfl rfl)
theorem dX6_isOver_17 : decode cX6_isOver 17 = .ok (.aaload, 1) := dk_50 (dk_at dksX6_isOver_0 17 rfl rfl)
theorem dX6_isOver_18 : decode cX6_isOver 18 = .ok (.astore 4, 2) := dk_58 4 (dk_at dksX6_isOver_0 18 rfl rfl)
theorem dX6_isOver_20 : decode cX6_isOver 20 = .ok (.aload 4, 2) := dk_25 4 (dk_at dksX6_isOver_0 20 rfl rfl)
theorem dX6_isOver_22 : decode cX6_isOver 22 = .ok (.getfield 82, 3) := dk_180 0 82 (dk_at dksX6_isOver_1 0 rfl rfl)
theorem dX6_isOver_25 : decode cX6_isOver 25 = .ok (.ifCond .eq 5, 3) := dk_153 0 5 (dk_at dksX6_isOver_1 3 rfl rfl)
theorem dX6_isOver_28 : decode cX6_isOver 28 = .ok (.iconst 0, 1) := dk_3 (dk_at dksX6_isOver_1 6 rfl rfl)
theorem dX6_isOver_29 : decode cX6_isOver 29 = .ok (.ireturn, 1) := dk_172 (dk_at dksX6_isOver_1 7 rfl rfl)
theorem dX6_isOver_30 : decode cX6_isOver 30 = .ok (.iinc 3 1, 3) := dk_132 3 1 (dk_at dksX6_isOver_1 8 rfl rfl)
theorem dX6_isOver_33 : decode cX6_isOver 33 = .ok (.goto (-23), 3) := dk_167 255 233 (dk_at dksX6_isOver_1 11 rfl rfl)
theorem dX6_isOver_36 : decode cX6_isOver 36 = .ok (.iconst 1, 1) := dk_4 (dk_at dksX6_isOver_1 14 rfl rfl)
theorem dX6_isOver_37 : decode cX6_isOver 37 = .ok (.ireturn, 1) := dk_172 (dk_at dksX6_isOver_1 15 rfl rfl)
abbrev cX6_isAtBreakpoint : ByteArray := prog_5_method_8_code
def yX6_isAtBreakpoint : MethodName := ⟨RX6, "isAtBreakpoint", "()Z"⟩
def dkwX6_isAtBreakpoint_2 : List UInt8 := [3, 172]
abbrev dktX6_isAtBreakpoint_2 : List UInt8 := dkwX6_isAtBreakpoint_2 ++ []
def dkwX6_isAtBreakpoint_1 : List UInt8 := [162, 0, 24, 42, 180, 0, 37, 42, 180, 0, 17, 27, 50, 180, 0, 109, 51, 153, 0, 7, 4, 167, 0, 4]
abbrev dktX6_isAtBreakpoint_1 : List UInt8 := dkwX6_isAtBreakpoint_1 ++ dktX6_isAtBreakpoint_2
def dkwX6_isAtBreakpoint_0 : List UInt8 := [42, 182, 0, 106, 60, 27, 18, 108, 159, 0, 38, 42, 180, 0, 17, 27, 50, 180, 0, 109, 16, 48]
abbrev dktX6_isAtBreakpoint_0 : List UInt8 := dkwX6_isAtBreakpoint_0 ++ dktX6_isAtBreakpoint_1
theorem dksX6_isAtBreakpoint_0 : cX6_isAtBreakpoint.data.toList.drop 0 = dktX6_isAtBreakpoint_0 := by decide +kernel
theorem dksX6_isAtBreakpoint_1 : cX6_isAtBreakpoint.data.toList.drop 22 = dktX6_isAtBreakpoint_1 := dk_seg dksX6_isAtBreakpoint_0 22 rfl rfl
theorem dksX6_isAtBreakpoint_2 : cX6_isAtBreakpoint.data.toList.drop 46 = dktX6_isAtBreakpoint_2 := dk_seg dksX6_isAtBreakpoint_1 24 rfl rfl
theorem dX6_isAtBreakpoint_0 : decode cX6_isAtBreakpoint 0 = .ok (.aload_n 0, 1) := dk_42 (dk_at dksX6_isAtBreakpoint_0 0 rfl rfl)
theorem dX6_isAtBreakpoint_1 : decode cX6_isAtBreakpoint 1 = .ok (.invokevirtual 106, 3) := dk_182 0 106 (dk_at dksX6_isAtBreakpoint_0 1 rfl rfl)
theorem dX6_isAtBreakpoint_4 : decode cX6_isAtBreakpoint 4 = .ok (.istore_n 1, 1) := dk_60 (dk_at dksX6_isAtBreakpoint_0 4 rfl rfl)
theorem dX6_isAtBreakpoint_5 : decode cX6_isAtBreakpoint 5 = .ok (.iload_n 1, 1) := dk_27 (dk_at dksX6_isAtBreakpoint_0 5 rfl rfl)
theorem dX6_isAtBreakpoint_6 : decode cX6_isAtBreakpoint 6 = .ok (.ldc 108, 2) := dk_18 108 (dk_at dksX6_isAtBreakpoint_0 6 rfl rfl)
theorem dX6_isAtBreakpoint_8 : decode cX6_isAtBreakpoint 8 = .ok (.if_icmp .eq 38, 3) := dk_159 0 38 (dk_at dksX6_isAtBreakpoint_0 8 rfl rfl)
theorem dX6_isAtBreakpoint_11 : decode cX6_isAtBreakpoint 11 = .ok (.aload_n 0, 1) := dk_42 (dk_at dksX6_isAtBreakpoint_0 11 rfl rfl)
theorem dX6_isAtBreakpoint_12 : decode cX6_isAtBreakpoint 12 = .ok (.getfield 17, 3) := dk_180 0 17 (dk_at dksX6_isAtBreakpoint_0 12 rfl rfl)
theorem dX6_isAtBreakpoint_15 : decode cX6_isAtBreakpoint 15 = .ok (.iload_n 1, 1) := dk_27 (dk_at dksX6_isAtBreakpoint_0 15 rfl rfl)
theorem dX6_isAtBreakpoint_16 : decode cX6_isAtBreakpoint 16 = .ok (.aaload, 1) := dk_50 (dk_at dksX6_isAtBreakpoint_0 16 rfl rfl)
theorem dX6_isAtBreakpoint_17 : decode cX6_isAtBreakpoint 17 = .ok (.getfield 109, 3) := dk_180 0 109 (dk_at dksX6_isAtBreakpoint_0 17 rfl rfl)
theorem dX6_isAtBreakpoint_20 : decode cX6_isAtBreakpoint 20 = .ok (.bipush 48, 2) := dk_16 48 (dk_at dksX6_isAtBreakpoint_0 20 rfl rfl)
theorem dX6_isAtBreakpoint_22 : decode cX6_isAtBreakpoint 22 = .ok (.if_icmp .ge 24, 3) := dk_162 0 24 (dk_at dksX6_isAtBreakpoint_1 0 rfl rfl)
theorem dX6_isAtBreakpoint_25 : decode cX6_isAtBreakpoint 25 = .ok (.aload_n 0, 1) := dk_42 (dk_at dksX6_isAtBreakpoint_1 3 rfl rfl)
theorem dX6_isAtBreakpoint_26 : decode cX6_isAtBreakpoint 26 = .ok (.getfield 37, 3) := dk_180 0 37 (dk_at dksX6_isAtBreakpoint_1 4 rfl rfl)
theorem dX6_isAtBreakpoint_29 : decode cX6_isAtBreakpoint 29 = .ok (.aload_n 0, 1) := dk_42 (dk_at dksX6_isAtBreakpoint_1 7 rfl rfl)
theorem dX6_isAtBreakpoint_30 : decode cX6_isAtBreakpoint 30 = .ok (.getfield 17, 3) := dk_180 0 17 (dk_at dksX6_isAtBreakpoint_1 8 rfl rfl)
theorem dX6_isAtBreakpoint_33 : decode cX6_isAtBreakpoint 33 = .ok (.iload_n 1, 1) := dk_27 (dk_at dksX6_isAtBreakpoint_1 11 rfl rfl)
theorem dX6_isAtBreakpoint_34 : decode cX6_isAtBreakpoint 34 = .ok (.aaload, 1) := dk_50 (dk_at dksX6_isAtBreakpoint_1 12 rfl rfl)
theorem dX6_isAtBreakpoint_35 : decode cX6_isAtBreakpoint 35 = .ok (.getfield 109, 3) := dk_180 0 109 (dk_at dksX6_isAtBreakpoint_1 13 rfl rfl)
theorem dX6_isAtBreakpoint_38 : decode cX6_isAtBreakpoint 38 = .ok (.baload, 1) := dk_51 (dk_at dksX6_isAtBreakpoint_1 16 rfl rfl)
theorem dX6_isAtBreakpoint_39 : decode cX6_isAtBreakpoint 39 = .ok (.ifCond .eq 7, 3) := dk_153 0 7 (dk_at dksX6_isAtBreakpoint_1 17 rfl rfl)
theorem dX6_isAtBreakpoint_42 : decode cX6_isAtBreakpoint 42 = .ok (.iconst 1, 1) := dk_4 (dk_at dksX6_isAtBreakpoint_1 20 rfl rfl)
theorem dX6_isAtBreakpoint_43 : decode cX6_isAtBreakpoint 43 = .ok (.goto 4, 3) := dk_167 0 4 (dk_at dksX6_isAtBreakpoint_1 21 rfl rfl)
theorem dX6_isAtBreakpoint_46 : decode cX6_isAtBreakpoint 46 = .ok (.iconst 0, 1) := dk_3 (dk_at dksX6_isAtBreakpoint_2 0 rfl rfl)
theorem dX6_isAtBreakpoint_47 : decode cX6_isAtBreakpoint 47 = .ok (.ireturn, 1) := dk_172 (dk_at dksX6_isAtBreakpoint_2 1 rfl rfl)
abbrev cX6_issuer : ByteArray := prog_5_method_7_code
def yX6_issuer : MethodName := ⟨RX6, "issuer", "()I"⟩
def dkwX6_issuer_1 : List UInt8 := [172]
abbrev dktX6_issuer_1 : List UInt8 := dkwX6_issuer_1 ++ []
def dkwX6_issuer_0 : List UInt8 := [42, 180, 0, 3, 180, 0, 92, 42, 180, 0, 34, 4, 46, 50, 42, 42, 182, 0, 96, 185, 0, 100, 3, 0]
abbrev dktX6_issuer_0 : List UInt8 := dkwX6_issuer_0 ++ dktX6_issuer_1
theorem dksX6_issuer_0 : cX6_issuer.data.toList.drop 0 = dktX6_issuer_0 := by decide +kernel
theorem dksX6_issuer_1 : cX6_issuer.data.toList.drop 24 = dktX6_issuer_1 := dk_seg dksX6_issuer_0 24 rfl rfl
theorem dX6_issuer_0 : decode cX6_issuer 0 = .ok (.aload_n 0, 1) := dk_42 (dk_at dksX6_issuer_0 0 rfl rfl)
theorem dX6_issuer_1 : decode cX6_issuer 1 = .ok (.getfield 3, 3) := dk_180 0 3 (dk_at dksX6_issuer_0 1 rfl rfl)
theorem dX6_issuer_4 : decode cX6_issuer 4 = .ok (.getfield 92, 3) := dk_180 0 92 (dk_at dksX6_issuer_0 4 rfl rfl)
theorem dX6_issuer_7 : decode cX6_issuer 7 = .ok (.aload_n 0, 1) := dk_42 (dk_at dksX6_issuer_0 7 rfl rfl)
theorem dX6_issuer_8 : decode cX6_issuer 8 = .ok (.getfield 34, 3) := dk_180 0 34 (dk_at dksX6_issuer_0 8 rfl rfl)
theorem dX6_issuer_11 : decode cX6_issuer 11 = .ok (.iconst 1, 1) := dk_4 (dk_at dksX6_issuer_0 11 rfl rfl)
theorem dX6_issuer_12 : decode cX6_issuer 12 = .ok (.iaload, 1) := dk_46 (dk_at dksX6_issuer_0 12 rfl rfl)
theorem dX6_issuer_13 : decode cX6_issuer 13 = .ok (.aaload, 1) := dk_50 (dk_at dksX6_issuer_0 13 rfl rfl)
theorem dX6_issuer_14 : decode cX6_issuer 14 = .ok (.aload_n 0, 1) := dk_42 (dk_at dksX6_issuer_0 14 rfl rfl)
theorem dX6_issuer_15 : decode cX6_issuer 15 = .ok (.aload_n 0, 1) := dk_42 (dk_at dksX6_issuer_0 15 rfl rfl)
theorem dX6_issuer_16 : decode cX6_issuer 16 = .ok (.invokevirtual 96, 3) := dk_182 0 96 (dk_at dksX6_issuer_0 16 rfl rfl)
theorem dX6_issuer_19 : decode cX6_issuer 19 = .ok (.invokeinterface 100 3, 5) := by decide +kernel
theorem dX6_issuer_24 : decode cX6_issuer 24 = .ok (.ireturn, 1) := dk_172 (dk_at dksX6_issuer_1 0 rfl rfl)
abbrev cX6_owner : ByteArray := prog_5_method_6_code
def yX6_owner : MethodName := ⟨RX6, "owner", "()I"⟩
def dkwX6_owner_0 : List UInt8 := [42, 180, 0, 31, 42, 180, 0, 72, 16, 8, 112, 46, 172]
abbrev dktX6_owner_0 : List UInt8 := dkwX6_owner_0 ++ []
theorem dksX6_owner_0 : cX6_owner.data.toList.drop 0 = dktX6_owner_0 := by decide +kernel
theorem dX6_owner_0 : decode cX6_owner 0 = .ok (.aload_n 0, 1) := dk_42 (dk_at dksX6_owner_0 0 rfl rfl)
theorem dX6_owner_1 : decode cX6_owner 1 = .ok (.getfield 31, 3) := dk_180 0 31 (dk_at dksX6_owner_0 1 rfl rfl)
theorem dX6_owner_4 : decode cX6_owner 4 = .ok (.aload_n 0, 1) := dk_42 (dk_at dksX6_owner_0 4 rfl rfl)
theorem dX6_owner_5 : decode cX6_owner 5 = .ok (.getfield 72, 3) := dk_180 0 72 (dk_at dksX6_owner_0 5 rfl rfl)
theorem dX6_owner_8 : decode cX6_owner 8 = .ok (.bipush 8, 2) := dk_16 8 (dk_at dksX6_owner_0 8 rfl rfl)
theorem dX6_owner_10 : decode cX6_owner 10 = .ok (.irem, 1) := dk_112 (dk_at dksX6_owner_0 10 rfl rfl)
theorem dX6_owner_11 : decode cX6_owner 11 = .ok (.iaload, 1) := dk_46 (dk_at dksX6_owner_0 11 rfl rfl)
theorem dX6_owner_12 : decode cX6_owner 12 = .ok (.ireturn, 1) := dk_172 (dk_at dksX6_owner_0 12 rfl rfl)
abbrev cX6_isReady : ByteArray := prog_5_method_4_code
def yX6_isReady : MethodName := ⟨RX6, "isReady", "(I)Z"⟩
def dkwX6_isReady_3 : List UInt8 := [182, 0, 88, 167, 0, 4, 3, 172]
abbrev dktX6_isReady_3 : List UInt8 := dkwX6_isReady_3 ++ []
def dkwX6_isReady_2 : List UInt8 := [4, 167, 0, 30, 42, 180, 0, 72, 44, 180, 0, 85, 161, 0, 7, 4, 167, 0, 15, 3, 167, 0, 11, 42]
abbrev dktX6_isReady_2 : List UInt8 := dkwX6_isReady_2 ++ dktX6_isReady_3
def dkwX6_isReady_1 : List UInt8 := [170, 0, 0, 0, 55, 0, 0, 0, 1, 0, 0, 0, 3, 0, 0, 0, 25, 0, 0, 0, 29, 0, 0, 0, 48]
abbrev dktX6_isReady_1 : List UInt8 := dkwX6_isReady_1 ++ dktX6_isReady_2
def dkwX6_isReady_0 : List UInt8 := [42, 180, 0, 17, 27, 50, 77, 44, 180, 0, 82]
abbrev dktX6_isReady_0 : List UInt8 := dkwX6_isReady_0 ++ dktX6_isReady_1
theorem dksX6_isReady_0 : cX6_isReady.data.toList.drop 0 = dktX6_isReady_0 := by decide +kernel
theorem dksX6_isReady_1 : cX6_isReady.data.toList.drop 11 = dktX6_isReady_1 := dk_seg dksX6_isReady_0 11 rfl rfl
theorem dksX6_isReady_2 : cX6_isReady.data.toList.drop 36 = dktX6_isReady_2 := dk_seg dksX6_isReady_1 25 rfl rfl
theorem dksX6_isReady_3 : cX6_isReady.data.toList.drop 60 = dktX6_isReady_3 := dk_seg dksX6_isReady_2 24 rfl rfl
theorem dX6_isReady_0 : decode cX6_isReady 0 = .ok (.aload_n 0, 1) := dk_42 (dk_at dksX6_isReady_0 0 rfl rfl)
theorem dX6_isReady_1 : decode cX6_isReady 1 = .ok (.getfield 17, 3) := dk_180 0 17 (dk_at dksX6_isReady_0 1 rfl rfl)
theorem dX6_isReady_4 : decode cX6_isReady 4 = .ok (.iload_n 1, 1) := dk_27 (dk_at dksX6_isReady_0 4 rfl rfl)
theorem dX6_isReady_5 : decode cX6_isReady 5 = .ok (.aaload, 1) := dk_50 (dk_at dksX6_isReady_0 5 rfl rfl)
theorem dX6_isReady_6 : decode cX6_isReady 6 = .ok (.astore_n 2, 1) := dk_77 (dk_at dksX6_isReady_0 6 rfl rfl)
theorem dX6_isReady_7 : decode cX6_isReady 7 = .ok (.aload_n 2, 1) := dk_44 (dk_at dksX6_isReady_0 7 rfl rfl)
theorem dX6_isReady_8 : decode cX6_isReady 8 = .ok (.getfield 82, 3) := dk_180 0 82 (dk_at dksX6_isReady_0 8 rfl rfl)
theorem dX6_isReady_11 : decode cX6_isReady 11 = .ok (.tableswitch 55 1 3 #[25, 29, 48], 25) := by decide +kernel
theorem dX6_isReady_36 : decode cX6_isReady 36 = .ok (.iconst 1, 1) := dk_4 (dk_at dksX6_isReady_2 0 rfl rfl)
theorem dX6_isReady_37 : decode cX6_isReady 37 = .ok (.goto 30, 3) := dk_167 0 30 (dk_at dksX6_isReady_2 1 rfl rfl)
theorem dX6_isReady_40 : decode cX6_isReady 40 = .ok (.aload_n 0, 1) := dk_42 (dk_at dksX6_isReady_2 4 rfl rfl)
theorem dX6_isReady_41 : decode cX6_isReady 41 = .ok (.getfield 72, 3) := dk_180 0 72 (dk_at dksX6_isReady_2 5 rfl rfl)
theorem dX6_isReady_44 : decode cX6_isReady 44 = .ok (.aload_n 2, 1) := dk_44 (dk_at dksX6_isReady_2 8 rfl rfl)
theorem dX6_isReady_45 : decode cX6_isReady 45 = .ok (.getfield 85, 3) := dk_180 0 85 (dk_at dksX6_isReady_2 9 rfl rfl)
theorem dX6_isReady_48 : decode cX6_isReady 48 = .ok (.if_icmp .lt 7, 3) := dk_161 0 7 (dk_at dksX6_isReady_2 12 rfl rfl)
theorem dX6_isReady_51 : decode cX6_isReady 51 = .ok (.iconst 1, 1) := dk_4 (dk_at dksX6_isReady_2 15 rfl rfl)
theorem dX6_isReady_52 : decode cX6_isReady 52 = .ok (.goto 15, 3) := dk_167 0 15 (dk_at dksX6_isReady_2 16 rfl rfl)
theorem dX6_isReady_55 : decode cX6_isReady 55 = .ok (.iconst 0, 1) := dk_3 (dk_at dksX6_isReady_2 19 rfl rfl)
theorem dX6_isReady_56 : decode cX6_isReady 56 = .ok (.goto 11, 3) := dk_167 0 11 (dk_at dksX6_isReady_2 20 rfl rfl)
theorem dX6_isReady_59 : decode cX6_isReady 59 = .ok (.aload_n 0, 1) := dk_42 (dk_at dksX6_isReady_2 23 rfl rfl)
theorem dX6_isReady_60 : decode cX6_isReady 60 = .ok (.invokevirtual 88, 3) := dk_182 0 88 (dk_at dksX6_isReady_3 0 rfl rfl)
theorem dX6_isReady_63 : decode cX6_isReady 63 = .ok (.goto 4, 3) := dk_167 0 4 (dk_at dksX6_isReady_3 3 rfl rfl)
theorem dX6_isReady_66 : decode cX6_isReady 66 = .ok (.iconst 0, 1) := dk_3 (dk_at dksX6_isReady_3 6 rfl rfl)
theorem dX6_isReady_67 : decode cX6_isReady 67 = .ok (.ireturn, 1) := dk_172 (dk_at dksX6_isReady_3 7 rfl rfl)
abbrev cX6_isBarrierOpen : ByteArray := prog_5_method_3_code
def yX6_isBarrierOpen : MethodName := ⟨RX6, "isBarrierOpen", "()Z"⟩
def dkwX6_isBarrierOpen_2 : List UInt8 := [4, 172]
abbrev dktX6_isBarrierOpen_2 : List UInt8 := dkwX6_isBarrierOpen_2 ++ []
def dkwX6_isBarrierOpen_1 : List UInt8 := [180, 0, 82, 4, 159, 0, 12, 25, 4, 180, 0, 82, 5, 160, 0, 5, 3, 172, 132, 3, 1, 167, 255, 223]
abbrev dktX6_isBarrierOpen_1 : List UInt8 := dkwX6_isBarrierOpen_1 ++ dktX6_isBarrierOpen_2
def dkwX6_isBarrierOpen_0 : List UInt8 := [42, 180, 0, 17, 76, 43, 190, 61, 3, 62, 29, 28, 162, 0, 34, 43, 29, 50, 58, 4, 25, 4]
abbrev dktX6_isBarrierOpen_0 : List UInt8 := dkwX6_isBarrierOpen_0 ++ dktX6_isBarrierOpen_1
theorem dksX6_isBarrierOpen_0 : cX6_isBarrierOpen.data.toList.drop 0 = dktX6_isBarrierOpen_0 := by decide +kernel
theorem dksX6_isBarrierOpen_1 : cX6_isBarrierOpen.data.toList.drop 22 = dktX6_isBarrierOpen_1 := dk_seg dksX6_isBarrierOpen_0 22 rfl rfl
theorem dksX6_isBarrierOpen_2 : cX6_isBarrierOpen.data.toList.drop 46 = dktX6_isBarrierOpen_2 := dk_seg dksX6_isBarrierOpen_1 24 rfl rfl
theorem dX6_isBarrierOpen_0 : decode cX6_isBarrierOpen 0 = .ok (.aload_n 0, 1) := dk_42 (dk_at dksX6_isBarrierOpen_0 0 rfl rfl)
theorem dX6_isBarrierOpen_1 : decode cX6_isBarrierOpen 1 = .ok (.getfield 17, 3) := dk_180 0 17 (dk_at dksX6_isBarrierOpen_0 1 rfl rfl)
theorem dX6_isBarrierOpen_4 : decode cX6_isBarrierOpen 4 = .ok (.astore_n 1, 1) := dk_76 (dk_at dksX6_isBarrierOpen_0 4 rfl rfl)
theorem dX6_isBarrierOpen_5 : decode cX6_isBarrierOpen 5 = .ok (.aload_n 1, 1) := dk_43 (dk_at dksX6_isBarrierOpen_0 5 rfl rfl)
theorem dX6_isBarrierOpen_6 : decode cX6_isBarrierOpen 6 = .ok (.arraylength, 1) := dk_190 (dk_at dksX6_isBarrierOpen_0 6 rfl rfl)
theorem dX6_isBarrierOpen_7 : decode cX6_isBarrierOpen 7 = .ok (.istore_n 2, 1) := dk_61 (dk_at dksX6_isBarrierOpen_0 7 rfl rfl)
theorem dX6_isBarrierOpen_8 : decode cX6_isBarrierOpen 8 = .ok (.iconst 0, 1) := dk_3 (dk_at dksX6_isBarrierOpen_0 8 rfl rfl)
theorem dX6_isBarrierOpen_9 : decode cX6_isBarrierOpen 9 = .ok (.istore_n 3, 1) := dk_62 (dk_at dksX6_isBarrierOpen_0 9 rfl rfl)
theorem dX6_isBarrierOpen_10 : decode cX6_isBarrierOpen 10 = .ok (.iload_n 3, 1) := dk_29 (dk_at dksX6_isBarrierOpen_0 10 rfl rfl)
theorem dX6_isBarrierOpen_11 : decode cX6_isBarrierOpen 11 = .ok (.iload_n 2, 1) := dk_28 (dk_at dksX6_isBarrierOpen_0 11 rfl rfl)
theorem dX6_isBarrierOpen_12 : decode cX6_isBarrierOpen 12 = .ok (.if_icmp .ge 34, 3) := dk_162 0 34 (dk_at dksX6_isBarrierOpen_0 12 rfl rfl)
theorem dX6_isBarrierOpen_15 : decode cX6_isBarrierOpen 15 = .ok (.aload_n 1, 1) := dk_43 (dk_at dksX6_isBarrierOpen_0 15 rfl rfl)
theorem dX6_isBarrierOpen_16 : decode cX6_isBarrierOpen 16 = .ok (.iload_n 3, 1) := dk_29 (dk_at dksX6_isBarrierOpen_0 16 rfl rfl)
theorem dX6_isBarrierOpen_17 : decode cX6_isBarrierOpen 17 = .ok (.aaload, 1) := dk_50 (dk_at dksX6_isBarrierOpen_0 17 rfl rfl)
theorem dX6_isBarrierOpen_18 : decode cX6_isBarrierOpen 18 = .ok (.astore 4, 2) := dk_58 4 (dk_at dksX6_isBarrierOpen_0 18 rfl rfl)
theorem dX6_isBarrierOpen_20 : decode cX6_isBarrierOpen 20 = .ok (.aload 4, 2) := dk_25 4 (dk_at dksX6_isBarrierOpen_0 20 rfl rfl)
theorem dX6_isBarrierOpen_22 : decode cX6_isBarrierOpen 22 = .ok (.getfield 82, 3) := dk_180 0 82 (dk_at dksX6_isBarrierOpen_1 0 rfl rfl)
theorem dX6_isBarrierOpen_25 : decode cX6_isBarrierOpen 25 = .ok (.iconst 1, 1) := dk_4 (dk_at dksX6_isBarrierOpen_1 3 rfl rfl)
theorem dX6_isBarrierOpen_26 : decode cX6_isBarrierOpen 26 = .ok (.if_icmp .eq 12, 3) := dk_159 0 12 (dk_at dksX6_isBarrierOpen_1 4 rfl rfl)
theorem dX6_isBarrierOpen_29 : decode cX6_isBarrierOpen 29 = .ok (.aload 4, 2) := dk_25 4 (dk_at dksX6_isBarrierOpen_1 7 rfl rfl)
theorem dX6_isBarrierOpen_31 : decode cX6_isBarrierOpen 31 = .ok (.getfield 82, 3) := dk_180 0 82 (dk_at dksX6_isBarrierOpen_1 9 rfl rfl)
theorem dX6_isBarrierOpen_34 : decode cX6_isBarrierOpen 34 = .ok (.iconst 2, 1) := dk_5 (dk_at dksX6_isBarrierOpen_1 12 rfl rfl)
theorem dX6_isBarrierOpen_35 : decode cX6_isBarrierOpen 35 = .ok (.if_icmp .ne 5, 3) := dk_160 0 5 (dk_at dksX6_isBarrierOpen_1 13 rfl rfl)
theorem dX6_isBarrierOpen_38 : decode cX6_isBarrierOpen 38 = .ok (.iconst 0, 1) := dk_3 (dk_at dksX6_isBarrierOpen_1 16 rfl rfl)
theorem dX6_isBarrierOpen_39 : decode cX6_isBarrierOpen 39 = .ok (.ireturn, 1) := dk_172 (dk_at dksX6_isBarrierOpen_1 17 rfl rfl)
theorem dX6_isBarrierOpen_40 : decode cX6_isBarrierOpen 40 = .ok (.iinc 3 1, 3) := dk_132 3 1 (dk_at dksX6_isBarrierOpen_1 18 rfl rfl)
theorem dX6_isBarrierOpen_43 : decode cX6_isBarrierOpen 43 = .ok (.goto (-33), 3) := dk_167 255 223 (dk_at dksX6_isBarrierOpen_1 21 rfl rfl)
theorem dX6_isBarrierOpen_46 : decode cX6_isBarrierOpen 46 = .ok (.iconst 1, 1) := dk_4 (dk_at dksX6_isBarrierOpen_2 0 rfl rfl)
theorem dX6_isBarrierOpen_47 : decode cX6_isBarrierOpen 47 = .ok (.ireturn, 1) := dk_172 (dk_at dksX6_isBarrierOpen_2 1 rfl rfl)
abbrev cX6_step : ByteArray := prog_5_method_13_code
def yX6_step : MethodName := ⟨RX6, "step", "()V"⟩
def dkwX6_step_3 : List UInt8 := [181, 0, 76, 167, 0, 8, 42, 27, 182, 0, 162, 42, 89, 180, 0, 72, 4, 96, 181, 0, 72, 177]
abbrev dktX6_step_3 : List UInt8 := dkwX6_step_3 ++ []
def dkwX6_step_2 : List UInt8 := [182, 0, 158, 132, 2, 1, 167, 255, 216, 27, 18, 108, 160, 0, 16, 42, 89, 180, 0, 76, 4, 96]
abbrev dktX6_step_2 : List UInt8 := dkwX6_step_2 ++ dktX6_step_3
def dkwX6_step_1 : List UInt8 := [180, 0, 17, 28, 50, 180, 0, 82, 4, 160, 0, 12, 28, 27, 159, 0, 7, 4, 167, 0, 4, 3]
abbrev dktX6_step_1 : List UInt8 := dkwX6_step_1 ++ dktX6_step_2
def dkwX6_step_0 : List UInt8 := [42, 182, 0, 155, 42, 182, 0, 106, 60, 3, 61, 28, 7, 162, 0, 41, 42, 180, 0, 17, 28, 50, 42]
abbrev dktX6_step_0 : List UInt8 := dkwX6_step_0 ++ dktX6_step_1
theorem dksX6_step_0 : cX6_step.data.toList.drop 0 = dktX6_step_0 := by decide +kernel
theorem dksX6_step_1 : cX6_step.data.toList.drop 23 = dktX6_step_1 := dk_seg dksX6_step_0 23 rfl rfl
theorem dksX6_step_2 : cX6_step.data.toList.drop 45 = dktX6_step_2 := dk_seg dksX6_step_1 22 rfl rfl
theorem dksX6_step_3 : cX6_step.data.toList.drop 67 = dktX6_step_3 := dk_seg dksX6_step_2 22 rfl rfl
theorem dX6_step_0 : decode cX6_step 0 = .ok (.aload_n 0, 1) := dk_42 (dk_at dksX6_step_0 0 rfl rfl)
theorem dX6_step_1 : decode cX6_step 1 = .ok (.invokevirtual 155, 3) := dk_182 0 155 (dk_at dksX6_step_0 1 rfl rfl)
theorem dX6_step_4 : decode cX6_step 4 = .ok (.aload_n 0, 1) := dk_42 (dk_at dksX6_step_0 4 rfl rfl)
theorem dX6_step_5 : decode cX6_step 5 = .ok (.invokevirtual 106, 3) := dk_182 0 106 (dk_at dksX6_step_0 5 rfl rfl)
theorem dX6_step_8 : decode cX6_step 8 = .ok (.istore_n 1, 1) := dk_60 (dk_at dksX6_step_0 8 rfl rfl)
theorem dX6_step_9 : decode cX6_step 9 = .ok (.iconst 0, 1) := dk_3 (dk_at dksX6_step_0 9 rfl rfl)
theorem dX6_step_10 : decode cX6_step 10 = .ok (.istore_n 2, 1) := dk_61 (dk_at dksX6_step_0 10 rfl rfl)
theorem dX6_step_11 : decode cX6_step 11 = .ok (.iload_n 2, 1) := dk_28 (dk_at dksX6_step_0 11 rfl rfl)
theorem dX6_step_12 : decode cX6_step 12 = .ok (.iconst 4, 1) := dk_7 (dk_at dksX6_step_0 12 rfl rfl)
theorem dX6_step_13 : decode cX6_step 13 = .ok (.if_icmp .ge 41, 3) := dk_162 0 41 (dk_at dksX6_step_0 13 rfl rfl)
theorem dX6_step_16 : decode cX6_step 16 = .ok (.aload_n 0, 1) := dk_42 (dk_at dksX6_step_0 16 rfl rfl)
theorem dX6_step_17 : decode cX6_step 17 = .ok (.getfield 17, 3) := dk_180 0 17 (dk_at dksX6_step_0 17 rfl rfl)
theorem dX6_step_20 : decode cX6_step 20 = .ok (.iload_n 2, 1) := dk_28 (dk_at dksX6_step_0 20 rfl rfl)
theorem dX6_step_21 : decode cX6_step 21 = .ok (.aaload, 1) := dk_50 (dk_at dksX6_step_0 21 rfl rfl)
theorem dX6_step_22 : decode cX6_step 22 = .ok (.aload_n 0, 1) := dk_42 (dk_at dksX6_step_0 22 rfl rfl)
theorem dX6_step_23 : decode cX6_step 23 = .ok (.getfield 17, 3) := dk_180 0 17 (dk_at dksX6_step_1 0 rfl rfl)
theorem dX6_step_26 : decode cX6_step 26 = .ok (.iload_n 2, 1) := dk_28 (dk_at dksX6_step_1 3 rfl rfl)
theorem dX6_step_27 : decode cX6_step 27 = .ok (.aaload, 1) := dk_50 (dk_at dksX6_step_1 4 rfl rfl)
theorem dX6_step_28 : decode cX6_step 28 = .ok (.getfield 82, 3) := dk_180 0 82 (dk_at dksX6_step_1 5 rfl rfl)
theorem dX6_step_31 : decode cX6_step 31 = .ok (.iconst 1, 1) := dk_4 (dk_at dksX6_step_1 8 rfl rfl)
theorem dX6_step_32 : decode cX6_step 32 = .ok (.if_icmp .ne 12, 3) := dk_160 0 12 (dk_at dksX6_step_1 9 rfl rfl)
theorem dX6_step_35 : decode cX6_step 35 = .ok (.iload_n 2, 1) := dk_28 (dk_at dksX6_step_1 12 rfl rfl)
theorem dX6_step_36 : decode cX6_step 36 = .ok (.iload_n 1, 1) := dk_27 (dk_at dksX6_step_1 13 rfl rfl)
theorem dX6_step_37 : decode cX6_step 37 = .ok (.if_icmp .eq 7, 3) := dk_159 0 7 (dk_at dksX6_step_1 14 rfl rfl)
theorem dX6_step_40 : decode cX6_step 40 = .ok (.iconst 1, 1) := dk_4 (dk_at dksX6_step_1 17 rfl rfl)
theorem dX6_step_41 : decode cX6_step 41 = .ok (.goto 4, 3) := dk_167 0 4 (dk_at dksX6_step_1 18 rfl rfl)
theorem dX6_step_44 : decode cX6_step 44 = .ok (.iconst 0, 1) := dk_3 (dk_at dksX6_step_1 21 rfl rfl)
theorem dX6_step_45 : decode cX6_step 45 = .ok (.invokevirtual 158, 3) := dk_182 0 158 (dk_at dksX6_step_2 0 rfl rfl)
theorem dX6_step_48 : decode cX6_step 48 = .ok (.iinc 2 1, 3) := dk_132 2 1 (dk_at dksX6_step_2 3 rfl rfl)
theorem dX6_step_51 : decode cX6_step 51 = .ok (.goto (-40), 3) := dk_167 255 216 (dk_at dksX6_step_2 6 rfl rfl)
theorem dX6_step_54 : decode cX6_step 54 = .ok (.iload_n 1, 1) := dk_27 (dk_at dksX6_step_2 9 rfl rfl)
theorem dX6_step_55 : decode cX6_step 55 = .ok (.ldc 108, 2) := dk_18 108 (dk_at dksX6_step_2 10 rfl rfl)
theorem dX6_step_57 : decode cX6_step 57 = .ok (.if_icmp .ne 16, 3) := dk_160 0 16 (dk_at dksX6_step_2 12 rfl rfl)
theorem dX6_step_60 : decode cX6_step 60 = .ok (.aload_n 0, 1) := dk_42 (dk_at dksX6_step_2 15 rfl rfl)
theorem dX6_step_61 : decode cX6_step 61 = .ok (.dup, 1) := dk_89 (dk_at dksX6_step_2 16 rfl rfl)
theorem dX6_step_62 : decode cX6_step 62 = .ok (.getfield 76, 3) := dk_180 0 76 (dk_at dksX6_step_2 17 rfl rfl)
theorem dX6_step_65 : decode cX6_step 65 = .ok (.iconst 1, 1) := dk_4 (dk_at dksX6_step_2 20 rfl rfl)
theorem dX6_step_66 : decode cX6_step 66 = .ok (.iadd, 1) := dk_96 (dk_at dksX6_step_2 21 rfl rfl)
theorem dX6_step_67 : decode cX6_step 67 = .ok (.putfield 76, 3) := dk_181 0 76 (dk_at dksX6_step_3 0 rfl rfl)
theorem dX6_step_70 : decode cX6_step 70 = .ok (.goto 8, 3) := dk_167 0 8 (dk_at dksX6_step_3 3 rfl rfl)
theorem dX6_step_73 : decode cX6_step 73 = .ok (.aload_n 0, 1) := dk_42 (dk_at dksX6_step_3 6 rfl rfl)
theorem dX6_step_74 : decode cX6_step 74 = .ok (.iload_n 1, 1) := dk_27 (dk_at dksX6_step_3 7 rfl rfl)
theorem dX6_step_75 : decode cX6_step 75 = .ok (.invokevirtual 162, 3) := dk_182 0 162 (dk_at dksX6_step_3 8 rfl rfl)
theorem dX6_step_78 : decode cX6_step 78 = .ok (.aload_n 0, 1) := dk_42 (dk_at dksX6_step_3 11 rfl rfl)
theorem dX6_step_79 : decode cX6_step 79 = .ok (.dup, 1) := dk_89 (dk_at dksX6_step_3 12 rfl rfl)
theorem dX6_step_80 : decode cX6_step 80 = .ok (.getfield 72, 3) := dk_180 0 72 (dk_at dksX6_step_3 13 rfl rfl)
theorem dX6_step_83 : decode cX6_step 83 = .ok (.iconst 1, 1) := dk_4 (dk_at dksX6_step_3 16 rfl rfl)
theorem dX6_step_84 : decode cX6_step 84 = .ok (.iadd, 1) := dk_96 (dk_at dksX6_step_3 17 rfl rfl)
theorem dX6_step_85 : decode cX6_step 85 = .ok (.putfield 72, 3) := dk_181 0 72 (dk_at dksX6_step_3 18 rfl rfl)
theorem dX6_step_88 : decode cX6_step 88 = .ok (.return_, 1) := dk_177 (dk_at dksX6_step_3 21 rfl rfl)
abbrev cX6_makeReady : ByteArray := prog_5_method_11_code
def yX6_makeReady : MethodName := ⟨RX6, "makeReady", "()V"⟩
def dkwX6_makeReady_4 : List UInt8 := [181, 0, 82, 132, 4, 1, 167, 255, 174, 177]
abbrev dktX6_makeReady_4 : List UInt8 := dkwX6_makeReady_4 ++ []
def dkwX6_makeReady_3 : List UInt8 := [25, 5, 4, 181, 0, 82, 25, 5, 180, 0, 82, 6, 160, 0, 13, 27, 153, 0, 9, 25, 5, 4]
abbrev dktX6_makeReady_3 : List UInt8 := dkwX6_makeReady_3 ++ dktX6_makeReady_4
def dkwX6_makeReady_2 : List UInt8 := [161, 0, 30, 25, 5, 180, 0, 118, 25, 5, 180, 0, 112, 42, 180, 0, 27, 25, 5, 180, 0, 115, 46, 79]
abbrev dktX6_makeReady_2 : List UInt8 := dkwX6_makeReady_2 ++ dktX6_makeReady_3
def dkwX6_makeReady_1 : List UInt8 := [21, 4, 50, 58, 5, 25, 5, 180, 0, 82, 5, 160, 0, 42, 42, 180, 0, 72, 25, 5, 180, 0, 85]
abbrev dktX6_makeReady_1 : List UInt8 := dkwX6_makeReady_1 ++ dktX6_makeReady_2
def dkwX6_makeReady_0 : List UInt8 := [42, 182, 0, 88, 60, 42, 180, 0, 17, 77, 44, 190, 62, 3, 54, 4, 21, 4, 29, 162, 0, 82, 44]
abbrev dktX6_makeReady_0 : List UInt8 := dkwX6_makeReady_0 ++ dktX6_makeReady_1
theorem dksX6_makeReady_0 : cX6_makeReady.data.toList.drop 0 = dktX6_makeReady_0 := by decide +kernel
theorem dksX6_makeReady_1 : cX6_makeReady.data.toList.drop 23 = dktX6_makeReady_1 := dk_seg dksX6_makeReady_0 23 rfl rfl
theorem dksX6_makeReady_2 : cX6_makeReady.data.toList.drop 46 = dktX6_makeReady_2 := dk_seg dksX6_makeReady_1 23 rfl rfl
theorem dksX6_makeReady_3 : cX6_makeReady.data.toList.drop 70 = dktX6_makeReady_3 := dk_seg dksX6_makeReady_2 24 rfl rfl
theorem dksX6_makeReady_4 : cX6_makeReady.data.toList.drop 92 = dktX6_makeReady_4 := dk_seg dksX6_makeReady_3 22 rfl rfl
theorem dX6_makeReady_0 : decode cX6_makeReady 0 = .ok (.aload_n 0, 1) := dk_42 (dk_at dksX6_makeReady_0 0 rfl rfl)
theorem dX6_makeReady_1 : decode cX6_makeReady 1 = .ok (.invokevirtual 88, 3) := dk_182 0 88 (dk_at dksX6_makeReady_0 1 rfl rfl)
theorem dX6_makeReady_4 : decode cX6_makeReady 4 = .ok (.istore_n 1, 1) := dk_60 (dk_at dksX6_makeReady_0 4 rfl rfl)
theorem dX6_makeReady_5 : decode cX6_makeReady 5 = .ok (.aload_n 0, 1) := dk_42 (dk_at dksX6_makeReady_0 5 rfl rfl)
theorem dX6_makeReady_6 : decode cX6_makeReady 6 = .ok (.getfield 17, 3) := dk_180 0 17 (dk_at dksX6_makeReady_0 6 rfl rfl)
theorem dX6_makeReady_9 : decode cX6_makeReady 9 = .ok (.astore_n 2, 1) := dk_77 (dk_at dksX6_makeReady_0 9 rfl rfl)
theorem dX6_makeReady_10 : decode cX6_makeReady 10 = .ok (.aload_n 2, 1) := dk_44 (dk_at dksX6_makeReady_0 10 rfl rfl)
theorem dX6_makeReady_11 : decode cX6_makeReady 11 = .ok (.arraylength, 1) := dk_190 (dk_at dksX6_makeReady_0 11 rfl rfl)
theorem dX6_makeReady_12 : decode cX6_makeReady 12 = .ok (.istore_n 3, 1) := dk_62 (dk_at dksX6_makeReady_0 12 rfl rfl)
theorem dX6_makeReady_13 : decode cX6_makeReady 13 = .ok (.iconst 0, 1) := dk_3 (dk_at dksX6_makeReady_0 13 rfl rfl)
theorem dX6_makeReady_14 : decode cX6_makeReady 14 = .ok (.istore 4, 2) := dk_54 4 (dk_at dksX6_makeReady_0 14 rfl rfl)
theorem dX6_makeReady_16 : decode cX6_makeReady 16 = .ok (.iload 4, 2) := dk_21 4 (dk_at dksX6_makeReady_0 16 rfl rfl)
theorem dX6_makeReady_18 : decode cX6_makeReady 18 = .ok (.iload_n 3, 1) := dk_29 (dk_at dksX6_makeReady_0 18 rfl rfl)
theorem dX6_makeReady_19 : decode cX6_makeReady 19 = .ok (.if_icmp .ge 82, 3) := dk_162 0 82 (dk_at dksX6_makeReady_0 19 rfl rfl)
theorem dX6_makeReady_22 : decode cX6_makeReady 22 = .ok (.aload_n 2, 1) := dk_44 (dk_at dksX6_makeReady_0 22 rfl rfl)
theorem dX6_makeReady_23 : decode cX6_makeReady 23 = .ok (.iload 4, 2) := dk_21 4 (dk_at dksX6_makeReady_1 0 rfl rfl)
theorem dX6_makeReady_25 : decode cX6_makeReady 25 = .ok (.aaload, 1) := dk_50 (dk_at dksX6_makeReady_1 2 rfl rfl)
theorem dX6_makeReady_26 : decode cX6_makeReady 26 = .ok (.astore 5, 2) := dk_58 5 (dk_at dksX6_makeReady_1 3 rfl rfl)
theorem dX6_makeReady_28 : decode cX6_makeReady 28 = .ok (.aload 5, 2) := dk_25 5 (dk_at dksX6_makeReady_1 5 rfl rfl)
theorem dX6_makeReady_30 : decode cX6_makeReady 30 = .ok (.getfield 82, 3) := dk_180 0 82 (dk_at dksX6_makeReady_1 7 rfl rfl)
theorem dX6_makeReady_33 : decode cX6_makeReady 33 = .ok (.iconst 2, 1) := dk_5 (dk_at dksX6_makeReady_1 10 rfl rfl)
theorem dX6_makeReady_34 : decode cX6_makeReady 34 = .ok (.if_icmp .ne 42, 3) := dk_160 0 42 (dk_at dksX6_makeReady_1 11 rfl rfl)
theorem dX6_makeReady_37 : decode cX6_makeReady 37 = .ok (.aload_n 0, 1) := dk_42 (dk_at dksX6_makeReady_1 14 rfl rfl)
theorem dX6_makeReady_38 : decode cX6_makeReady 38 = .ok (.getfield 72, 3) := dk_180 0 72 (dk_at dksX6_makeReady_1 15 rfl rfl)
theorem dX6_makeReady_41 : decode cX6_makeReady 41 = .ok (.aload 5, 2) := dk_25 5 (dk_at dksX6_makeReady_1 18 rfl rfl)
theorem dX6_makeReady_43 : decode cX6_makeReady 43 = .ok (.getfield 85, 3) := dk_180 0 85 (dk_at dksX6_makeReady_1 20 rfl rfl)
theorem dX6_makeReady_46 : decode cX6_makeReady 46 = .ok (.if_icmp .lt 30, 3) := dk_161 0 30 (dk_at dksX6_makeReady_2 0 rfl rfl)
theorem dX6_makeReady_49 : decode cX6_makeReady 49 = .ok (.aload 5, 2) := dk_25 5 (dk_at dksX6_makeReady_2 3 rfl rfl)
theorem dX6_makeReady_51 : decode cX6_makeReady 51 = .ok (.getfield 118, 3) := dk_180 0 118 (dk_at dksX6_makeReady_2 5 rfl rfl)
theorem dX6_makeReady_54 : decode cX6_makeReady 54 = .ok (.aload 5, 2) := dk_25 5 (dk_at dksX6_makeReady_2 8 rfl rfl)
theorem dX6_makeReady_56 : decode cX6_makeReady 56 = .ok (.getfield 112, 3) := dk_180 0 112 (dk_at dksX6_makeReady_2 10 rfl rfl)
theorem dX6_makeReady_59 : decode cX6_makeReady 59 = .ok (.aload_n 0, 1) := dk_42 (dk_at dksX6_makeReady_2 13 rfl rfl)
theorem dX6_makeReady_60 : decode cX6_makeReady 60 = .ok (.getfield 27, 3) := dk_180 0 27 (dk_at dksX6_makeReady_2 14 rfl rfl)
theorem dX6_makeReady_63 : decode cX6_makeReady 63 = .ok (.aload 5, 2) := dk_25 5 (dk_at dksX6_makeReady_2 17 rfl rfl)
theorem dX6_makeReady_65 : decode cX6_makeReady 65 = .ok (.getfield 115, 3) := dk_180 0 115 (dk_at dksX6_makeReady_2 19 rfl rfl)
theorem dX6_makeReady_68 : decode cX6_makeReady 68 = .ok (.iaload, 1) := dk_46 (dk_at dksX6_makeReady_2 22 rfl rfl)
theorem dX6_makeReady_69 : decode cX6_makeReady 69 = .ok (.iastore, 1) := dk_79 (dk_at dksX6_makeReady_2 23 rfl rfl)
theorem dX6_makeReady_70 : decode cX6_makeReady 70 = .ok (.aload 5, 2) := dk_25 5 (dk_at dksX6_makeReady_3 0 rfl rfl)
theorem dX6_makeReady_72 : decode cX6_makeReady 72 = .ok (.iconst 1, 1) := dk_4 (dk_at dksX6_makeReady_3 2 rfl rfl)
theorem dX6_makeReady_73 : decode cX6_makeReady 73 = .ok (.putfield 82, 3) := dk_181 0 82 (dk_at dksX6_makeReady_3 3 rfl rfl)
theorem dX6_makeReady_76 : decode cX6_makeReady 76 = .ok (.aload 5, 2) := dk_25 5 (dk_at dksX6_makeReady_3 6 rfl rfl)
theorem dX6_makeReady_78 : decode cX6_makeReady 78 = .ok (.getfield 82, 3) := dk_180 0 82 (dk_at dksX6_makeReady_3 8 rfl rfl)
theorem dX6_makeReady_81 : decode cX6_makeReady 81 = .ok (.iconst 3, 1) := dk_6 (dk_at dksX6_makeReady_3 11 rfl rfl)
theorem dX6_makeReady_82 : decode cX6_makeReady 82 = .ok (.if_icmp .ne 13, 3) := dk_160 0 13 (dk_at dksX6_makeReady_3 12 rfl rfl)
theorem dX6_makeReady_85 : decode cX6_makeReady 85 = .ok (.iload_n 1, 1) := dk_27 (dk_at dksX6_makeReady_3 15 rfl rfl)
theorem dX6_makeReady_86 : decode cX6_makeReady 86 = .ok (.ifCond .eq 9, 3) := dk_153 0 9 (dk_at dksX6_makeReady_3 16 rfl rfl)
theorem dX6_makeReady_89 : decode cX6_makeReady 89 = .ok (.aload 5, 2) := dk_25 5 (dk_at dksX6_makeReady_3 19 rfl rfl)
theorem dX6_makeReady_91 : decode cX6_makeReady 91 = .ok (.iconst 1, 1) := dk_4 (dk_at dksX6_makeReady_3 21 rfl rfl)
theorem dX6_makeReady_92 : decode cX6_makeReady 92 = .ok (.putfield 82, 3) := dk_181 0 82 (dk_at dksX6_makeReady_4 0 rfl rfl)
theorem dX6_makeReady_95 : decode cX6_makeReady 95 = .ok (.iinc 4 1, 3) := dk_132 4 1 (dk_at dksX6_makeReady_4 3 rfl rfl)
theorem dX6_makeReady_98 : decode cX6_makeReady 98 = .ok (.goto (-82), 3) := dk_167 255 174 (dk_at dksX6_makeReady_4 6 rfl rfl)
theorem dX6_makeReady_101 : decode cX6_makeReady 101 = .ok (.return_, 1) := dk_177 (dk_at dksX6_makeReady_4 9 rfl rfl)
abbrev cX6_execute : ByteArray := prog_5_method_12_code
def yX6_execute : MethodName := ⟨RX6, "execute", "(I)V"⟩
def dkwX6_execute_7 : List UInt8 := [185, 0, 149, 5, 0, 177]
abbrev dktX6_execute_7 : List UInt8 := dkwX6_execute_7 ++ []
def dkwX6_execute_6 : List UInt8 := [180, 0, 136, 25, 5, 180, 0, 140, 50, 42, 44, 25, 5, 180, 0, 143, 25, 5, 180, 0, 146]
abbrev dktX6_execute_6 : List UInt8 := dkwX6_execute_6 ++ dktX6_execute_7
def dkwX6_execute_5 : List UInt8 := [42, 180, 0, 23, 29, 50, 58, 5, 44, 29, 4, 96, 16, 48, 184, 0, 130, 181, 0, 109, 42, 180, 0, 3]
abbrev dktX6_execute_5 : List UInt8 := dkwX6_execute_5 ++ dktX6_execute_6
def dkwX6_execute_4 : List UInt8 := [167, 0, 4, 4, 96, 181, 0, 127, 29, 16, 48, 160, 0, 13, 42, 180, 0, 3, 180, 0, 51, 167, 0, 9]
abbrev dktX6_execute_4 : List UInt8 := dkwX6_execute_4 ++ dktX6_execute_5
def dkwX6_execute_3 : List UInt8 := [180, 0, 124, 4, 96, 181, 0, 124, 44, 89, 180, 0, 127, 27, 42, 182, 0, 96, 160, 0, 7, 3]
abbrev dktX6_execute_3 : List UInt8 := dkwX6_execute_3 ++ dktX6_execute_4
def dkwX6_execute_2 : List UInt8 := [29, 79, 42, 89, 180, 0, 79, 4, 96, 181, 0, 79, 44, 42, 180, 0, 72, 181, 0, 121, 44, 89]
abbrev dktX6_execute_2 : List UInt8 := dkwX6_execute_2 ++ dktX6_execute_3
def dkwX6_execute_1 : List UInt8 := [180, 0, 41, 21, 4, 42, 180, 0, 72, 79, 42, 180, 0, 44, 21, 4, 27, 79, 42, 180, 0, 47, 21, 4]
abbrev dktX6_execute_1 : List UInt8 := dkwX6_execute_1 ++ dktX6_execute_2
def dkwX6_execute_0 : List UInt8 := [42, 180, 0, 17, 27, 50, 77, 44, 180, 0, 109, 62, 42, 180, 0, 79, 16, 16, 112, 54, 4, 42]
abbrev dktX6_execute_0 : List UInt8 := dkwX6_execute_0 ++ dktX6_execute_1
theorem dksX6_execute_0 : cX6_execute.data.toList.drop 0 = dktX6_execute_0 := by decide +kernel
theorem dksX6_execute_1 : cX6_execute.data.toList.drop 22 = dktX6_execute_1 := dk_seg dksX6_execute_0 22 rfl rfl
theorem dksX6_execute_2 : cX6_execute.data.toList.drop 46 = dktX6_execute_2 := dk_seg dksX6_execute_1 24 rfl rfl
theorem dksX6_execute_3 : cX6_execute.data.toList.drop 68 = dktX6_execute_3 := dk_seg dksX6_execute_2 22 rfl rfl
theorem dksX6_execute_4 : cX6_execute.data.toList.drop 90 = dktX6_execute_4 := dk_seg dksX6_execute_3 22 rfl rfl
theorem dksX6_execute_5 : cX6_execute.data.toList.drop 114 = dktX6_execute_5 := dk_seg dksX6_execute_4 24 rfl rfl
theorem dksX6_execute_6 : cX6_execute.data.toList.drop 138 = dktX6_execute_6 := dk_seg dksX6_execute_5 24 rfl rfl
theorem dksX6_execute_7 : cX6_execute.data.toList.drop 159 = dktX6_execute_7 := dk_seg dksX6_execute_6 21 rfl rfl
theorem dX6_execute_0 : decode cX6_execute 0 = .ok (.aload_n 0, 1) := dk_42 (dk_at dksX6_execute_0 0 rfl rfl)
theorem dX6_execute_1 : decode cX6_execute 1 = .ok (.getfield 17, 3) := dk_180 0 17 (dk_at dksX6_execute_0 1 rfl rfl)
theorem dX6_execute_4 : decode cX6_execute 4 = .ok (.iload_n 1, 1) := dk_27 (dk_at dksX6_execute_0 4 rfl rfl)
theorem dX6_execute_5 : decode cX6_execute 5 = .ok (.aaload, 1) := dk_50 (dk_at dksX6_execute_0 5 rfl rfl)
theorem dX6_execute_6 : decode cX6_execute 6 = .ok (.astore_n 2, 1) := dk_77 (dk_at dksX6_execute_0 6 rfl rfl)
theorem dX6_execute_7 : decode cX6_execute 7 = .ok (.aload_n 2, 1) := dk_44 (dk_at dksX6_execute_0 7 rfl rfl)
theorem dX6_execute_8 : decode cX6_execute 8 = .ok (.getfield 109, 3) := dk_180 0 109 (dk_at dksX6_execute_0 8 rfl rfl)
theorem dX6_execute_11 : decode cX6_execute 11 = .ok (.istore_n 3, 1) := dk_62 (dk_at dksX6_execute_0 11 rfl rfl)
theorem dX6_execute_12 : decode cX6_execute 12 = .ok (.aload_n 0, 1) := dk_42 (dk_at dksX6_execute_0 12 rfl rfl)
theorem dX6_execute_13 : decode cX6_execute 13 = .ok (.getfield 79, 3) := dk_180 0 79 (dk_at dksX6_execute_0 13 rfl rfl)
theorem dX6_execute_16 : decode cX6_execute 16 = .ok (.bipush 16, 2) := dk_16 16 (dk_at dksX6_execute_0 16 rfl rfl)
theorem dX6_execute_18 : decode cX6_execute 18 = .ok (.irem, 1) := dk_112 (dk_at dksX6_execute_0 18 rfl rfl)
theorem dX6_execute_19 : decode cX6_execute 19 = .ok (.istore 4, 2) := dk_54 4 (dk_at dksX6_execute_0 19 rfl rfl)
theorem dX6_execute_21 : decode cX6_execute 21 = .ok (.aload_n 0, 1) := dk_42 (dk_at dksX6_execute_0 21 rfl rfl)
theorem dX6_execute_22 : decode cX6_execute 22 = .ok (.getfield 41, 3) := dk_180 0 41 (dk_at dksX6_execute_1 0 rfl rfl)
theorem dX6_execute_25 : decode cX6_execute 25 = .ok (.iload 4, 2) := dk_21 4 (dk_at dksX6_execute_1 3 rfl rfl)
theorem dX6_execute_27 : decode cX6_execute 27 = .ok (.aload_n 0, 1) := dk_42 (dk_at dksX6_execute_1 5 rfl rfl)
theorem dX6_execute_28 : decode cX6_execute 28 = .ok (.getfield 72, 3) := dk_180 0 72 (dk_at dksX6_execute_1 6 rfl rfl)
theorem dX6_execute_31 : decode cX6_execute 31 = .ok (.iastore, 1) := dk_79 (dk_at dksX6_execute_1 9 rfl rfl)
theorem dX6_execute_32 : decode cX6_execute 32 = .ok (.aload_n 0, 1) := dk_42 (dk_at dksX6_execute_1 10 rfl rfl)
theorem dX6_execute_33 : decode cX6_execute 33 = .ok (.getfield 44, 3) := dk_180 0 44 (dk_at dksX6_execute_1 11 rfl rfl)
theorem dX6_execute_36 : decode cX6_execute 36 = .ok (.iload 4, 2) := dk_21 4 (dk_at dksX6_execute_1 14 rfl rfl)
theorem dX6_execute_38 : decode cX6_execute 38 = .ok (.iload_n 1, 1) := dk_27 (dk_at dksX6_execute_1 16 rfl rfl)
theorem dX6_execute_39 : decode cX6_execute 39 = .ok (.iastore, 1) := dk_79 (dk_at dksX6_execute_1 17 rfl rfl)
theorem dX6_execute_40 : decode cX6_execute 40 = .ok (.aload_n 0, 1) := dk_42 (dk_at dksX6_execute_1 18 rfl rfl)
theorem dX6_execute_41 : decode cX6_execute 41 = .ok (.getfield 47, 3) := dk_180 0 47 (dk_at dksX6_execute_1 19 rfl rfl)
theorem dX6_execute_44 : decode cX6_execute 44 = .ok (.iload 4, 2) := dk_21 4 (dk_at dksX6_execute_1 22 rfl rfl)
theorem dX6_execute_46 : decode cX6_execute 46 = .ok (.iload_n 3, 1) := dk_29 (dk_at dksX6_execute_2 0 rfl rfl)
theorem dX6_execute_47 : decode cX6_execute 47 = .ok (.iastore, 1) := dk_79 (dk_at dksX6_execute_2 1 rfl rfl)
theorem dX6_execute_48 : decode cX6_execute 48 = .ok (.aload_n 0, 1) := dk_42 (dk_at dksX6_execute_2 2 rfl rfl)
theorem dX6_execute_49 : decode cX6_execute 49 = .ok (.dup, 1) := dk_89 (dk_at dksX6_execute_2 3 rfl rfl)
theorem dX6_execute_50 : decode cX6_execute 50 = .ok (.getfield 79, 3) := dk_180 0 79 (dk_at dksX6_execute_2 4 rfl rfl)
theorem dX6_execute_53 : decode cX6_execute 53 = .ok (.iconst 1, 1) := dk_4 (dk_at dksX6_execute_2 7 rfl rfl)
theorem dX6_execute_54 : decode cX6_execute 54 = .ok (.iadd, 1) := dk_96 (dk_at dksX6_execute_2 8 rfl rfl)
theorem dX6_execute_55 : decode cX6_execute 55 = .ok (.putfield 79, 3) := dk_181 0 79 (dk_at dksX6_execute_2 9 rfl rfl)
theorem dX6_execute_58 : decode cX6_execute 58 = .ok (.aload_n 2, 1) := dk_44 (dk_at dksX6_execute_2 12 rfl rfl)
theorem dX6_execute_59 : decode cX6_execute 59 = .ok (.aload_n 0, 1) := dk_42 (dk_at dksX6_execute_2 13 rfl rfl)
theorem dX6_execute_60 : decode cX6_execute 60 = .ok (.getfield 72, 3) := dk_180 0 72 (dk_at dksX6_execute_2 14 rfl rfl)
theorem dX6_execute_63 : decode cX6_execute 63 = .ok (.putfield 121, 3) := dk_181 0 121 (dk_at dksX6_execute_2 17 rfl rfl)
theorem dX6_execute_66 : decode cX6_execute 66 = .ok (.aload_n 2, 1) := dk_44 (dk_at dksX6_execute_2 20 rfl rfl)
theorem dX6_execute_67 : decode cX6_execute 67 = .ok (.dup, 1) := dk_89 (dk_at dksX6_execute_2 21 rfl rfl)
theorem dX6_execute_68 : decode cX6_execute 68 = .ok (.getfield 124, 3) := dk_180 0 124 (dk_at dksX6_execute_3 0 rfl rfl)
theorem dX6_execute_71 : decode cX6_execute 71 = .ok (.iconst 1, 1) := dk_4 (dk_at dksX6_execute_3 3 rfl rfl)
theorem dX6_execute_72 : decode cX6_execute 72 = .ok (.iadd, 1) := dk_96 (dk_at dksX6_execute_3 4 rfl rfl)
theorem dX6_execute_73 : decode cX6_execute 73 = .ok (.putfield 124, 3) := dk_181 0 124 (dk_at dksX6_execute_3 5 rfl rfl)
theorem dX6_execute_76 : decode cX6_execute 76 = .ok (.aload_n 2, 1) := dk_44 (dk_at dksX6_execute_3 8 rfl rfl)
theorem dX6_execute_77 : decode cX6_execute 77 = .ok (.dup, 1) := dk_89 (dk_at dksX6_execute_3 9 rfl rfl)
theorem dX6_execute_78 : decode cX6_execute 78 = .ok (.getfield 127, 3) := dk_180 0 127 (dk_at dksX6_execute_3 10 rfl rfl)
theorem dX6_execute_81 : decode cX6_execute 81 = .ok (.iload_n 1, 1) := dk_27 (dk_at dksX6_execute_3 13 rfl rfl)
theorem dX6_execute_82 : decode cX6_execute 82 = .ok (.aload_n 0, 1) := dk_42 (dk_at dksX6_execute_3 14 rfl rfl)
theorem dX6_execute_83 : decode cX6_execute 83 = .ok (.invokevirtual 96, 3) := dk_182 0 96 (dk_at dksX6_execute_3 15 rfl rfl)
theorem dX6_execute_86 : decode cX6_execute 86 = .ok (.if_icmp .ne 7, 3) := dk_160 0 7 (dk_at dksX6_execute_3 18 rfl rfl)
theorem dX6_execute_89 : decode cX6_execute 89 = .ok (.iconst 0, 1) := dk_3 (dk_at dksX6_execute_3 21 rfl rfl)
theorem dX6_execute_90 : decode cX6_execute 90 = .ok (.goto 4, 3) := dk_167 0 4 (dk_at dksX6_execute_4 0 rfl rfl)
theorem dX6_execute_93 : decode cX6_execute 93 = .ok (.iconst 1, 1) := dk_4 (dk_at dksX6_execute_4 3 rfl rfl)
theorem dX6_execute_94 : decode cX6_execute 94 = .ok (.iadd, 1) := dk_96 (dk_at dksX6_execute_4 4 rfl rfl)
theorem dX6_execute_95 : decode cX6_execute 95 = .ok (.putfield 127, 3) := dk_181 0 127 (dk_at dksX6_execute_4 5 rfl rfl)
theorem dX6_execute_98 : decode cX6_execute 98 = .ok (.iload_n 3, 1) := dk_29 (dk_at dksX6_execute_4 8 rfl rfl)
theorem dX6_execute_99 : decode cX6_execute 99 = .ok (.bipush 48, 2) := dk_16 48 (dk_at dksX6_execute_4 9 rfl rfl)
theorem dX6_execute_101 : decode cX6_execute 101 = .ok (.if_icmp .ne 13, 3) := dk_160 0 13 (dk_at dksX6_execute_4 11 rfl rfl)
theorem dX6_execute_104 : decode cX6_execute 104 = .ok (.aload_n 0, 1) := dk_42 (dk_at dksX6_execute_4 14 rfl rfl)
theorem dX6_execute_105 : decode cX6_execute 105 = .ok (.getfield 3, 3) := dk_180 0 3 (dk_at dksX6_execute_4 15 rfl rfl)
theorem dX6_execute_108 : decode cX6_execute 108 = .ok (.getfield 51, 3) := dk_180 0 51 (dk_at dksX6_execute_4 18 rfl rfl)
theorem dX6_execute_111 : decode cX6_execute 111 = .ok (.goto 9, 3) := dk_167 0 9 (dk_at dksX6_execute_4 21 rfl rfl)
theorem dX6_execute_114 : decode cX6_execute 114 = .ok (.aload_n 0, 1) := dk_42 (dk_at dksX6_execute_5 0 rfl rfl)
theorem dX6_execute_115 : decode cX6_execute 115 = .ok (.getfield 23, 3) := dk_180 0 23 (dk_at dksX6_execute_5 1 rfl rfl)
theorem dX6_execute_118 : decode cX6_execute 118 = .ok (.iload_n 3, 1) := dk_29 (dk_at dksX6_execute_5 4 rfl rfl)
theorem dX6_execute_119 : decode cX6_execute 119 = .ok (.aaload, 1) := dk_50 (dk_at dksX6_execute_5 5 rfl rfl)
theorem dX6_execute_120 : decode cX6_execute 120 = .ok (.astore 5, 2) := dk_58 5 (dk_at dksX6_execute_5 6 rfl rfl)
theorem dX6_execute_122 : decode cX6_execute 122 = .ok (.aload_n 2, 1) := dk_44 (dk_at dksX6_execute_5 8 rfl rfl)
theorem dX6_execute_123 : decode cX6_execute 123 = .ok (.iload_n 3, 1) := dk_29 (dk_at dksX6_execute_5 9 rfl rfl)
theorem dX6_execute_124 : decode cX6_execute 124 = .ok (.iconst 1, 1) := dk_4 (dk_at dksX6_execute_5 10 rfl rfl)
theorem dX6_execute_125 : decode cX6_execute 125 = .ok (.iadd, 1) := dk_96 (dk_at dksX6_execute_5 11 rfl rfl)
theorem dX6_execute_126 : decode cX6_execute 126 = .ok (.bipush 48, 2) := dk_16 48 (dk_at dksX6_execute_5 12 rfl rfl)
theorem dX6_execute_128 : decode cX6_execute 128 = .ok (.invokestatic 130, 3) := dk_184 0 130 (dk_at dksX6_execute_5 14 rfl rfl)
theorem dX6_execute_131 : decode cX6_execute 131 = .ok (.putfield 109, 3) := dk_181 0 109 (dk_at dksX6_execute_5 17 rfl rfl)
theorem dX6_execute_134 : decode cX6_execute 134 = .ok (.aload_n 0, 1) := dk_42 (dk_at dksX6_execute_5 20 rfl rfl)
theorem dX6_execute_135 : decode cX6_execute 135 = .ok (.getfield 3, 3) := dk_180 0 3 (dk_at dksX6_execute_5 21 rfl rfl)
theorem dX6_execute_138 : decode cX6_execute 138 = .ok (.getfield 136, 3) := dk_180 0 136 (dk_at dksX6_execute_6 0 rfl rfl)
theorem dX6_execute_141 : decode cX6_execute 141 = .ok (.aload 5, 2) := dk_25 5 (dk_at dksX6_execute_6 3 rfl rfl)
theorem dX6_execute_143 : decode cX6_execute 143 = .ok (.getfield 140, 3) := dk_180 0 140 (dk_at dksX6_execute_6 5 rfl rfl)
theorem dX6_execute_146 : decode cX6_execute 146 = .ok (.aaload, 1) := dk_50 (dk_at dksX6_execute_6 8 rfl rfl)
theorem dX6_execute_147 : decode cX6_execute 147 = .ok (.aload_n 0, 1) := dk_42 (dk_at dksX6_execute_6 9 rfl rfl)
theorem dX6_execute_148 : decode cX6_execute 148 = .ok (.aload_n 2, 1) := dk_44 (dk_at dksX6_execute_6 10 rfl rfl)
theorem dX6_execute_149 : decode cX6_execute 149 = .ok (.aload 5, 2) := dk_25 5 (dk_at dksX6_execute_6 11 rfl rfl)
theorem dX6_execute_151 : decode cX6_execute 151 = .ok (.getfield 143, 3) := dk_180 0 143 (dk_at dksX6_execute_6 13 rfl rfl)
theorem dX6_execute_154 : decode cX6_execute 154 = .ok (.aload 5, 2) := dk_25 5 (dk_at dksX6_execute_6 16 rfl rfl)
theorem dX6_execute_156 : decode cX6_execute 156 = .ok (.getfield 146, 3) := dk_180 0 146 (dk_at dksX6_execute_6 18 rfl rfl)
theorem dX6_execute_159 : decode cX6_execute 159 = .ok (.invokeinterface 149 5, 5) := by decide +kernel
theorem dX6_execute_164 : decode cX6_execute 164 = .ok (.return_, 1) := dk_177 (dk_at dksX6_execute_7 5 rfl rfl)
abbrev cX6_runOut : ByteArray := prog_5_method_14_code
def yX6_runOut : MethodName := ⟨RX6, "runOut", "()I"⟩
def dkwX6_runOut_1 : List UInt8 := [132, 1, 1, 167, 255, 232, 27, 172]
abbrev dktX6_runOut_1 : List UInt8 := dkwX6_runOut_1 ++ []
def dkwX6_runOut_0 : List UInt8 := [3, 60, 42, 182, 0, 166, 154, 0, 23, 27, 17, 1, 244, 160, 0, 6, 18, 108, 172, 42, 182, 0, 169]
abbrev dktX6_runOut_0 : List UInt8 := dkwX6_runOut_0 ++ dktX6_runOut_1
theorem dksX6_runOut_0 : cX6_runOut.data.toList.drop 0 = dktX6_runOut_0 := by decide +kernel
theorem dksX6_runOut_1 : cX6_runOut.data.toList.drop 23 = dktX6_runOut_1 := dk_seg dksX6_runOut_0 23 rfl rfl
theorem dX6_runOut_0 : decode cX6_runOut 0 = .ok (.iconst 0, 1) := dk_3 (dk_at dksX6_runOut_0 0 rfl rfl)
theorem dX6_runOut_1 : decode cX6_runOut 1 = .ok (.istore_n 1, 1) := dk_60 (dk_at dksX6_runOut_0 1 rfl rfl)
theorem dX6_runOut_2 : decode cX6_runOut 2 = .ok (.aload_n 0, 1) := dk_42 (dk_at dksX6_runOut_0 2 rfl rfl)
theorem dX6_runOut_3 : decode cX6_runOut 3 = .ok (.invokevirtual 166, 3) := dk_182 0 166 (dk_at dksX6_runOut_0 3 rfl rfl)
theorem dX6_runOut_6 : decode cX6_runOut 6 = .ok (.ifCond .ne 23, 3) := dk_154 0 23 (dk_at dksX6_runOut_0 6 rfl rfl)
theorem dX6_runOut_9 : decode cX6_runOut 9 = .ok (.iload_n 1, 1) := dk_27 (dk_at dksX6_runOut_0 9 rfl rfl)
theorem dX6_runOut_10 : decode cX6_runOut 10 = .ok (.sipush 500, 3) := dk_17 1 244 (dk_at dksX6_runOut_0 10 rfl rfl)
theorem dX6_runOut_13 : decode cX6_runOut 13 = .ok (.if_icmp .ne 6, 3) := dk_160 0 6 (dk_at dksX6_runOut_0 13 rfl rfl)
theorem dX6_runOut_16 : decode cX6_runOut 16 = .ok (.ldc 108, 2) := dk_18 108 (dk_at dksX6_runOut_0 16 rfl rfl)
theorem dX6_runOut_18 : decode cX6_runOut 18 = .ok (.ireturn, 1) := dk_172 (dk_at dksX6_runOut_0 18 rfl rfl)
theorem dX6_runOut_19 : decode cX6_runOut 19 = .ok (.aload_n 0, 1) := dk_42 (dk_at dksX6_runOut_0 19 rfl rfl)
theorem dX6_runOut_20 : decode cX6_runOut 20 = .ok (.invokevirtual 169, 3) := dk_182 0 169 (dk_at dksX6_runOut_0 20 rfl rfl)
theorem dX6_runOut_23 : decode cX6_runOut 23 = .ok (.iinc 1 1, 3) := dk_132 1 1 (dk_at dksX6_runOut_1 0 rfl rfl)
theorem dX6_runOut_26 : decode cX6_runOut 26 = .ok (.goto (-24), 3) := dk_167 255 232 (dk_at dksX6_runOut_1 3 rfl rfl)
theorem dX6_runOut_29 : decode cX6_runOut 29 = .ok (.iload_n 1, 1) := dk_27 (dk_at dksX6_runOut_1 6 rfl rfl)
theorem dX6_runOut_30 : decode cX6_runOut 30 = .ok (.ireturn, 1) := dk_172 (dk_at dksX6_runOut_1 7 rfl rfl)
theorem q55 : (Jvm.Cond.initialized "BarrelProcessor$Machine") ∈ lw_all := lw_g (lw_at lw_m1 11 rfl) rfl
theorem q98 : (Jvm.Cond.instanceMethod ({ cls := "BarrelProcessor$Machine", name := "beginLoad", desc := "(LBarrelProcessor$Lane;II)V" } : Jvm.MethodName)) ∈ lw_all := lw_g (lw_at lw_m1 54 rfl) rfl
theorem q99 : (Jvm.Cond.selects "BarrelProcessor$Machine" ({ cls := "BarrelProcessor$Machine", name := "beginLoad", desc := "(LBarrelProcessor$Lane;II)V" } : Jvm.MethodName) ({ cls := "BarrelProcessor$Machine", name := "beginLoad", desc := "(LBarrelProcessor$Lane;II)V" } : Jvm.MethodName)) ∈ lw_all := lw_g (lw_at lw_m1 55 rfl) rfl
theorem q100 : (Jvm.Cond.code ({ cls := "BarrelProcessor$Machine", name := "beginLoad", desc := "(LBarrelProcessor$Lane;II)V" } : Jvm.MethodName) prog_5_method_9_code (4 : Nat) (Option.none : Option Jvm.ClassFile.FieldType)) ∈ lw_all := lw_g (lw_at lw_m1 56 rfl) rfl
theorem q106 : (Jvm.Cond.instanceMethod ({ cls := "BarrelProcessor$Machine", name := "swap", desc := "(LBarrelProcessor$Lane;II)V" } : Jvm.MethodName)) ∈ lw_all := lw_g (lw_at lw_m1 62 rfl) rfl
theorem q107 : (Jvm.Cond.selects "BarrelProcessor$Machine" ({ cls := "BarrelProcessor$Machine", name := "swap", desc := "(LBarrelProcessor$Lane;II)V" } : Jvm.MethodName) ({ cls := "BarrelProcessor$Machine", name := "swap", desc := "(LBarrelProcessor$Lane;II)V" } : Jvm.MethodName)) ∈ lw_all := lw_g (lw_at lw_m1 63 rfl) rfl
theorem q108 : (Jvm.Cond.code ({ cls := "BarrelProcessor$Machine", name := "swap", desc := "(LBarrelProcessor$Lane;II)V" } : Jvm.MethodName) prog_5_method_10_code (5 : Nat) (Option.none : Option Jvm.ClassFile.FieldType)) ∈ lw_all := lw_g (lw_at lw_m1 64 rfl) rfl
theorem q238 : (Jvm.Cond.fieldLinkNest "BarrelProcessor$Machine" (140 : Nat) "BarrelProcessor$Instruction" "operation" "I" "BarrelProcessor") ∈ lw_tbl := lw_at lw_m1 194 rfl
theorem q241 : (Jvm.Cond.fieldLinkNest "BarrelProcessor$Machine" (143 : Nat) "BarrelProcessor$Instruction" "first" "I" "BarrelProcessor") ∈ lw_tbl := lw_at lw_m1 197 rfl
theorem q244 : (Jvm.Cond.fieldLinkNest "BarrelProcessor$Machine" (146 : Nat) "BarrelProcessor$Instruction" "second" "I" "BarrelProcessor") ∈ lw_tbl := lw_at lw_m1 200 rfl
theorem q254 : (Jvm.Cond.instantiable "BarrelProcessor$Machine" (13 : Nat)) ∈ lw_all := lw_g (lw_at lw_m1 210 rfl) rfl
theorem q256 : (Jvm.Cond.instanceMethod ({ cls := "BarrelProcessor$Machine", name := "<init>", desc := "(LBarrelProcessor;)V" } : Jvm.MethodName)) ∈ lw_all := lw_g (lw_at lw_m1 212 rfl) rfl
theorem q257 : (Jvm.Cond.code ({ cls := "BarrelProcessor$Machine", name := "<init>", desc := "(LBarrelProcessor;)V" } : Jvm.MethodName) prog_5_method_1_code (3 : Nat) (Option.none : Option Jvm.ClassFile.FieldType)) ∈ lw_all := lw_g (lw_at lw_m1 213 rfl) rfl
theorem q258 : (Jvm.Cond.methodLink "BarrelProcessor$Machine" (9 : Nat) ({ cls := "java/lang/Object", name := "<init>", desc := "()V" } : Jvm.MethodName)) ∈ lw_all := lw_g (lw_at lw_m1 214 rfl) rfl
theorem q259 : (Jvm.Cond.classLink "BarrelProcessor$Machine" (15 : Nat) "BarrelProcessor$Lane") ∈ lw_all := lw_g (lw_at lw_m1 215 rfl) rfl
theorem q261 : (Jvm.Cond.classLink "BarrelProcessor$Machine" (21 : Nat) "BarrelProcessor$Instruction") ∈ lw_all := lw_g (lw_at lw_m1 217 rfl) rfl
theorem q264 : (Jvm.Cond.methodLinkNest "BarrelProcessor$Machine" (50 : Nat) ({ cls := "BarrelProcessor$Lane", name := "<init>", desc := "()V" } : Jvm.MethodName) "BarrelProcessor") ∈ lw_tbl := lw_at lw_m1 220 rfl
theorem q269 : (Jvm.Cond.fieldLinkNest "BarrelProcessor$Machine" (118 : Nat) "BarrelProcessor$Lane" "registers" "[I" "BarrelProcessor") ∈ lw_tbl := lw_at lw_m1 225 rfl
theorem q272 : (Jvm.Cond.fieldLinkNest "BarrelProcessor$Machine" (109 : Nat) "BarrelProcessor$Lane" "counter" "I" "BarrelProcessor") ∈ lw_tbl := lw_at lw_m1 228 rfl
theorem q275 : (Jvm.Cond.fieldLinkNest "BarrelProcessor$Machine" (82 : Nat) "BarrelProcessor$Lane" "state" "I" "BarrelProcessor") ∈ lw_tbl := lw_at lw_m1 231 rfl
theorem q278 : (Jvm.Cond.fieldLinkNest "BarrelProcessor$Machine" (112 : Nat) "BarrelProcessor$Lane" "loadRegister" "I" "BarrelProcessor") ∈ lw_tbl := lw_at lw_m1 234 rfl
theorem q280 : (Jvm.Cond.fieldLinkNest "BarrelProcessor$Machine" (115 : Nat) "BarrelProcessor$Lane" "loadWord" "I" "BarrelProcessor") ∈ lw_tbl := lw_at lw_m1 236 rfl
theorem q282 : (Jvm.Cond.fieldLinkNest "BarrelProcessor$Machine" (85 : Nat) "BarrelProcessor$Lane" "loadCycle" "I" "BarrelProcessor") ∈ lw_tbl := lw_at lw_m1 238 rfl
theorem q285 : (Jvm.Cond.fieldLinkNest "BarrelProcessor$Machine" (121 : Nat) "BarrelProcessor$Lane" "latestIssue" "I" "BarrelProcessor") ∈ lw_tbl := lw_at lw_m2 1 rfl
theorem q287 : (Jvm.Cond.fieldLinkNest "BarrelProcessor$Machine" (124 : Nat) "BarrelProcessor$Lane" "executed" "I" "BarrelProcessor") ∈ lw_tbl := lw_at lw_m2 3 rfl
theorem q290 : (Jvm.Cond.fieldLinkNest "BarrelProcessor$Machine" (127 : Nat) "BarrelProcessor$Lane" "lent" "I" "BarrelProcessor") ∈ lw_tbl := lw_at lw_m2 6 rfl
theorem q320 : (Jvm.Cond.fieldLink "BarrelProcessor$Machine" (17 : Nat) "BarrelProcessor$Machine" "lanes" "[LBarrelProcessor$Lane;") ∈ lw_all := lw_g (lw_at lw_m2 36 rfl) rfl
theorem q323 : (Jvm.Cond.fieldLink "BarrelProcessor$Machine" (23 : Nat) "BarrelProcessor$Machine" "program" "[LBarrelProcessor$Instruction;") ∈ lw_all := lw_g (lw_at lw_m2 39 rfl) rfl
theorem q325 : (Jvm.Cond.fieldLink "BarrelProcessor$Machine" (27 : Nat) "BarrelProcessor$Machine" "words" "[I") ∈ lw_all := lw_g (lw_at lw_m2 41 rfl) rfl
theorem q327 : (Jvm.Cond.fieldLink "BarrelProcessor$Machine" (31 : Nat) "BarrelProcessor$Machine" "table" "[I") ∈ lw_all := lw_g (lw_at lw_m2 43 rfl) rfl
theorem q329 : (Jvm.Cond.fieldLink "BarrelProcessor$Machine" (34 : Nat) "BarrelProcessor$Machine" "settings" "[I") ∈ lw_all := lw_g (lw_at lw_m2 45 rfl) rfl
theorem q331 : (Jvm.Cond.fieldLink "BarrelProcessor$Machine" (37 : Nat) "BarrelProcessor$Machine" "breakpoints" "[Z") ∈ lw_all := lw_g (lw_at lw_m2 47 rfl) rfl
theorem q333 : (Jvm.Cond.fieldLink "BarrelProcessor$Machine" (72 : Nat) "BarrelProcessor$Machine" "cycle" "I") ∈ lw_all := lw_g (lw_at lw_m2 49 rfl) rfl
theorem q335 : (Jvm.Cond.fieldLink "BarrelProcessor$Machine" (76 : Nat) "BarrelProcessor$Machine" "idle" "I") ∈ lw_all := lw_g (lw_at lw_m2 51 rfl) rfl
theorem q337 : (Jvm.Cond.fieldLink "BarrelProcessor$Machine" (41 : Nat) "BarrelProcessor$Machine" "traceCycles" "[I") ∈ lw_all := lw_g (lw_at lw_m2 53 rfl) rfl
theorem q339 : (Jvm.Cond.fieldLink "BarrelProcessor$Machine" (44 : Nat) "BarrelProcessor$Machine" "traceThreads" "[I") ∈ lw_all := lw_g (lw_at lw_m2 55 rfl) rfl
theorem q341 : (Jvm.Cond.fieldLink "BarrelProcessor$Machine" (47 : Nat) "BarrelProcessor$Machine" "tracePlaces" "[I") ∈ lw_all := lw_g (lw_at lw_m2 57 rfl) rfl
theorem q343 : (Jvm.Cond.fieldLink "BarrelProcessor$Machine" (79 : Nat) "BarrelProcessor$Machine" "traced" "I") ∈ lw_all := lw_g (lw_at lw_m2 59 rfl) rfl
theorem q345 : (Jvm.Cond.fieldLink "BarrelProcessor$Machine" (3 : Nat) "BarrelProcessor$Machine" "this$0" "LBarrelProcessor;") ∈ lw_all := lw_g (lw_at lw_m2 61 rfl) rfl
theorem q346 : (Jvm.Cond.lays "BarrelProcessor$Machine" "BarrelProcessor$Machine" "lanes" "[LBarrelProcessor$Lane;") ∈ lw_all := lw_g (lw_at lw_m2 62 rfl) rfl
theorem q347 : (Jvm.Cond.soleField "BarrelProcessor$Machine" "lanes") ∈ lw_all := lw_g (lw_at lw_m2 63 rfl) rfl
theorem q348 : (Jvm.Cond.lays "BarrelProcessor$Machine" "BarrelProcessor$Machine" "program" "[LBarrelProcessor$Instruction;") ∈ lw_all := lw_g (lw_at lw_m2 64 rfl) rfl
theorem q349 : (Jvm.Cond.soleField "BarrelProcessor$Machine" "program") ∈ lw_all := lw_g (lw_at lw_m2 65 rfl) rfl
theorem q350 : (Jvm.Cond.lays "BarrelProcessor$Machine" "BarrelProcessor$Machine" "words" "[I") ∈ lw_all := lw_g (lw_at lw_m2 66 rfl) rfl
theorem q351 : (Jvm.Cond.soleField "BarrelProcessor$Machine" "words") ∈ lw_all := lw_g (lw_at lw_m2 67 rfl) rfl
theorem q352 : (Jvm.Cond.lays "BarrelProcessor$Machine" "BarrelProcessor$Machine" "table" "[I") ∈ lw_all := lw_g (lw_at lw_m2 68 rfl) rfl
theorem q353 : (Jvm.Cond.soleField "BarrelProcessor$Machine" "table") ∈ lw_all := lw_g (lw_at lw_m2 69 rfl) rfl
theorem q354 : (Jvm.Cond.lays "BarrelProcessor$Machine" "BarrelProcessor$Machine" "settings" "[I") ∈ lw_all := lw_g (lw_at lw_m2 70 rfl) rfl
theorem q355 : (Jvm.Cond.soleField "BarrelProcessor$Machine" "settings") ∈ lw_all := lw_g (lw_at lw_m2 71 rfl) rfl
theorem q356 : (Jvm.Cond.lays "BarrelProcessor$Machine" "BarrelProcessor$Machine" "breakpoints" "[Z") ∈ lw_all := lw_g (lw_at lw_m2 72 rfl) rfl
theorem q357 : (Jvm.Cond.soleField "BarrelProcessor$Machine" "breakpoints") ∈ lw_all := lw_g (lw_at lw_m2 73 rfl) rfl
theorem q358 : (Jvm.Cond.lays "BarrelProcessor$Machine" "BarrelProcessor$Machine" "cycle" "I") ∈ lw_all := lw_g (lw_at lw_m2 74 rfl) rfl
theorem q359 : (Jvm.Cond.soleField "BarrelProcessor$Machine" "cycle") ∈ lw_all := lw_g (lw_at lw_m2 75 rfl) rfl
theorem q360 : (Jvm.Cond.lays "BarrelProcessor$Machine" "BarrelProcessor$Machine" "idle" "I") ∈ lw_all := lw_g (lw_at lw_m2 76 rfl) rfl
theorem q361 : (Jvm.Cond.soleField "BarrelProcessor$Machine" "idle") ∈ lw_all := lw_g (lw_at lw_m2 77 rfl) rfl
theorem q362 : (Jvm.Cond.lays "BarrelProcessor$Machine" "BarrelProcessor$Machine" "traceCycles" "[I") ∈ lw_all := lw_g (lw_at lw_m2 78 rfl) rfl
theorem q363 : (Jvm.Cond.soleField "BarrelProcessor$Machine" "traceCycles") ∈ lw_all := lw_g (lw_at lw_m2 79 rfl) rfl
theorem q364 : (Jvm.Cond.lays "BarrelProcessor$Machine" "BarrelProcessor$Machine" "traceThreads" "[I") ∈ lw_all := lw_g (lw_at lw_m2 80 rfl) rfl
theorem q365 : (Jvm.Cond.soleField "BarrelProcessor$Machine" "traceThreads") ∈ lw_all := lw_g (lw_at lw_m2 81 rfl) rfl
theorem q366 : (Jvm.Cond.lays "BarrelProcessor$Machine" "BarrelProcessor$Machine" "tracePlaces" "[I") ∈ lw_all := lw_g (lw_at lw_m2 82 rfl) rfl
theorem q367 : (Jvm.Cond.soleField "BarrelProcessor$Machine" "tracePlaces") ∈ lw_all := lw_g (lw_at lw_m2 83 rfl) rfl
theorem q368 : (Jvm.Cond.lays "BarrelProcessor$Machine" "BarrelProcessor$Machine" "traced" "I") ∈ lw_all := lw_g (lw_at lw_m2 84 rfl) rfl
theorem q369 : (Jvm.Cond.soleField "BarrelProcessor$Machine" "traced") ∈ lw_all := lw_g (lw_at lw_m2 85 rfl) rfl
theorem q370 : (Jvm.Cond.laysFinal "BarrelProcessor$Machine" "BarrelProcessor$Machine" "this$0" "LBarrelProcessor;") ∈ lw_all := lw_g (lw_at lw_m2 86 rfl) rfl
theorem q371 : (Jvm.Cond.soleField "BarrelProcessor$Machine" "this$0") ∈ lw_all := lw_g (lw_at lw_m2 87 rfl) rfl
theorem q372 : (Jvm.Cond.superclass "BarrelProcessor$Machine" "java/lang/Object") ∈ lw_all := lw_g (lw_at lw_m2 88 rfl) rfl
theorem q431 : (Jvm.Cond.fieldLinkNest "BarrelProcessor$Machine" (136 : Nat) "BarrelProcessor" "operations" "[LBarrelProcessor$Operation;" "BarrelProcessor") ∈ lw_tbl := lw_at lw_m2 147 rfl
theorem q433 : (Jvm.Cond.fieldLinkNest "BarrelProcessor$Machine" (92 : Nat) "BarrelProcessor" "rules" "[LBarrelProcessor$Rule;" "BarrelProcessor") ∈ lw_tbl := lw_at lw_m2 149 rfl
theorem q434 : (Jvm.Cond.fieldLinkNest "BarrelProcessor$Machine" (51 : Nat) "BarrelProcessor" "halting" "LBarrelProcessor$Instruction;" "BarrelProcessor") ∈ lw_tbl := lw_at lw_m2 150 rfl
theorem q812 : (Jvm.Cond.selects "BarrelProcessor$Machine" ({ cls := "java/lang/Object", name := "getClass", desc := "()Ljava/lang/Class;" } : Jvm.MethodName) ({ cls := "java/lang/Object", name := "getClass", desc := "()Ljava/lang/Class;" } : Jvm.MethodName)) ∈ lw_all := lw_g (lw_at lw_m4 48 rfl) rfl
theorem q864 : (Jvm.Cond.instanceMethod ({ cls := "BarrelProcessor$Machine", name := "<init>", desc := "(LBarrelProcessor;LBarrelProcessor$Machine;)V" } : Jvm.MethodName)) ∈ lw_all := lw_g (lw_at lw_m4 100 rfl) rfl
theorem q865 : (Jvm.Cond.code ({ cls := "BarrelProcessor$Machine", name := "<init>", desc := "(LBarrelProcessor;LBarrelProcessor$Machine;)V" } : Jvm.MethodName) prog_5_method_2_code (4 : Nat) (Option.none : Option Jvm.ClassFile.FieldType)) ∈ lw_all := lw_g (lw_at lw_m4 101 rfl) rfl
theorem q866 : (Jvm.Cond.methodLink "BarrelProcessor$Machine" (55 : Nat) ({ cls := "BarrelProcessor$Lane", name := "copy", desc := "()LBarrelProcessor$Lane;" } : Jvm.MethodName)) ∈ lw_all := lw_g (lw_at lw_m4 102 rfl) rfl
theorem q877 : (Jvm.Cond.methodLink "BarrelProcessor$Machine" (59 : Nat) ({ cls := "java/lang/System", name := "arraycopy", desc := "(Ljava/lang/Object;ILjava/lang/Object;II)V" } : Jvm.MethodName)) ∈ lw_all := lw_g (lw_at lw_m4 113 rfl) rfl
theorem q878 : (Jvm.Cond.methodLink "BarrelProcessor$Machine" (65 : Nat) ({ cls := "[I", name := "clone", desc := "()Ljava/lang/Object;" } : Jvm.MethodName)) ∈ lw_all := lw_g (lw_at lw_m4 114 rfl) rfl
theorem q879 : (Jvm.Cond.classLink "BarrelProcessor$Machine" (66 : Nat) "[I") ∈ lw_all := lw_g (lw_at lw_m4 115 rfl) rfl
theorem q880 : (Jvm.Cond.methodLink "BarrelProcessor$Machine" (70 : Nat) ({ cls := "[Z", name := "clone", desc := "()Ljava/lang/Object;" } : Jvm.MethodName)) ∈ lw_all := lw_g (lw_at lw_m4 116 rfl) rfl
theorem q884 : (Jvm.Cond.classLink "BarrelProcessor$Machine" (71 : Nat) "[Z") ∈ lw_all := lw_g (lw_at lw_m4 120 rfl) rfl
theorem q957 : (Jvm.Cond.instanceMethod ({ cls := "BarrelProcessor$Machine", name := "isOver", desc := "()Z" } : Jvm.MethodName)) ∈ lw_all := lw_g (lw_at lw_m4 193 rfl) rfl
theorem q958 : (Jvm.Cond.selects "BarrelProcessor$Machine" ({ cls := "BarrelProcessor$Machine", name := "isOver", desc := "()Z" } : Jvm.MethodName) ({ cls := "BarrelProcessor$Machine", name := "isOver", desc := "()Z" } : Jvm.MethodName)) ∈ lw_all := lw_g (lw_at lw_m4 194 rfl) rfl
theorem q959 : (Jvm.Cond.code ({ cls := "BarrelProcessor$Machine", name := "isOver", desc := "()Z" } : Jvm.MethodName) prog_5_method_5_code (5 : Nat) (Option.some Jvm.ClassFile.FieldType.boolean)) ∈ lw_all := lw_g (lw_at lw_m4 195 rfl) rfl
theorem q961 : (Jvm.Cond.instanceMethod ({ cls := "BarrelProcessor$Machine", name := "isAtBreakpoint", desc := "()Z" } : Jvm.MethodName)) ∈ lw_all := lw_g (lw_at lw_m4 197 rfl) rfl
theorem q962 : (Jvm.Cond.selects "BarrelProcessor$Machine" ({ cls := "BarrelProcessor$Machine", name := "isAtBreakpoint", desc := "()Z" } : Jvm.MethodName) ({ cls := "BarrelProcessor$Machine", name := "isAtBreakpoint", desc := "()Z" } : Jvm.MethodName)) ∈ lw_all := lw_g (lw_at lw_m4 198 rfl) rfl
theorem q963 : (Jvm.Cond.code ({ cls := "BarrelProcessor$Machine", name := "isAtBreakpoint", desc := "()Z" } : Jvm.MethodName) prog_5_method_8_code (2 : Nat) (Option.some Jvm.ClassFile.FieldType.boolean)) ∈ lw_all := lw_g (lw_at lw_m4 199 rfl) rfl
theorem q964 : (Jvm.Cond.methodLink "BarrelProcessor$Machine" (106 : Nat) ({ cls := "BarrelProcessor$Machine", name := "issuer", desc := "()I" } : Jvm.MethodName)) ∈ lw_all := lw_g (lw_at lw_m4 200 rfl) rfl
theorem q965 : (Jvm.Cond.instanceMethod ({ cls := "BarrelProcessor$Machine", name := "issuer", desc := "()I" } : Jvm.MethodName)) ∈ lw_all := lw_g (lw_at lw_m4 201 rfl) rfl
theorem q966 : (Jvm.Cond.selects "BarrelProcessor$Machine" ({ cls := "BarrelProcessor$Machine", name := "issuer", desc := "()I" } : Jvm.MethodName) ({ cls := "BarrelProcessor$Machine", name := "issuer", desc := "()I" } : Jvm.MethodName)) ∈ lw_all := lw_g (lw_at lw_m4 202 rfl) rfl
theorem q967 : (Jvm.Cond.code ({ cls := "BarrelProcessor$Machine", name := "issuer", desc := "()I" } : Jvm.MethodName) prog_5_method_7_code (1 : Nat) (Option.some Jvm.ClassFile.FieldType.int)) ∈ lw_all := lw_g (lw_at lw_m4 203 rfl) rfl
theorem q968 : (Jvm.Cond.methodLink "BarrelProcessor$Machine" (96 : Nat) ({ cls := "BarrelProcessor$Machine", name := "owner", desc := "()I" } : Jvm.MethodName)) ∈ lw_all := lw_g (lw_at lw_m4 204 rfl) rfl
theorem q969 : (Jvm.Cond.instanceMethod ({ cls := "BarrelProcessor$Machine", name := "owner", desc := "()I" } : Jvm.MethodName)) ∈ lw_all := lw_g (lw_at lw_m4 205 rfl) rfl
theorem q970 : (Jvm.Cond.selects "BarrelProcessor$Machine" ({ cls := "BarrelProcessor$Machine", name := "owner", desc := "()I" } : Jvm.MethodName) ({ cls := "BarrelProcessor$Machine", name := "owner", desc := "()I" } : Jvm.MethodName)) ∈ lw_all := lw_g (lw_at lw_m4 206 rfl) rfl
theorem q971 : (Jvm.Cond.code ({ cls := "BarrelProcessor$Machine", name := "owner", desc := "()I" } : Jvm.MethodName) prog_5_method_6_code (1 : Nat) (Option.some Jvm.ClassFile.FieldType.int)) ∈ lw_all := lw_g (lw_at lw_m4 207 rfl) rfl
theorem q972 : (Jvm.Cond.interfaceEntry "BarrelProcessor$Machine" (100 : Nat)) ∈ lw_tbl := lw_at lw_m4 208 rfl
theorem q973 : (Jvm.Cond.methodLink "BarrelProcessor$Machine" (100 : Nat) ({ cls := "BarrelProcessor$Rule", name := "issuer", desc := "(LBarrelProcessor$Machine;I)I" } : Jvm.MethodName)) ∈ lw_all := lw_g (lw_at lw_m4 209 rfl) rfl
theorem q982 : (Jvm.Cond.instanceMethod ({ cls := "BarrelProcessor$Machine", name := "isReady", desc := "(I)Z" } : Jvm.MethodName)) ∈ lw_all := lw_g (lw_at lw_m4 218 rfl) rfl
theorem q983 : (Jvm.Cond.selects "BarrelProcessor$Machine" ({ cls := "BarrelProcessor$Machine", name := "isReady", desc := "(I)Z" } : Jvm.MethodName) ({ cls := "BarrelProcessor$Machine", name := "isReady", desc := "(I)Z" } : Jvm.MethodName)) ∈ lw_all := lw_g (lw_at lw_m4 219 rfl) rfl
theorem q984 : (Jvm.Cond.code ({ cls := "BarrelProcessor$Machine", name := "isReady", desc := "(I)Z" } : Jvm.MethodName) prog_5_method_4_code (3 : Nat) (Option.some Jvm.ClassFile.FieldType.boolean)) ∈ lw_all := lw_g (lw_at lw_m4 220 rfl) rfl
theorem q985 : (Jvm.Cond.methodLink "BarrelProcessor$Machine" (88 : Nat) ({ cls := "BarrelProcessor$Machine", name := "isBarrierOpen", desc := "()Z" } : Jvm.MethodName)) ∈ lw_all := lw_g (lw_at lw_m4 221 rfl) rfl
theorem q986 : (Jvm.Cond.privateMethod ({ cls := "BarrelProcessor$Machine", name := "isBarrierOpen", desc := "()Z" } : Jvm.MethodName)) ∈ lw_tbl := lw_at lw_m4 222 rfl
theorem q987 : (Jvm.Cond.instanceMethod ({ cls := "BarrelProcessor$Machine", name := "isBarrierOpen", desc := "()Z" } : Jvm.MethodName)) ∈ lw_all := lw_g (lw_at lw_m4 223 rfl) rfl
theorem q988 : (Jvm.Cond.code ({ cls := "BarrelProcessor$Machine", name := "isBarrierOpen", desc := "()Z" } : Jvm.MethodName) prog_5_method_3_code (5 : Nat) (Option.some Jvm.ClassFile.FieldType.boolean)) ∈ lw_all := lw_g (lw_at lw_m4 224 rfl) rfl
theorem q1017 : (Jvm.Cond.constant "BarrelProcessor$Machine" (108 : Nat) (-100005 : Int32)) ∈ lw_all := lw_g (lw_at lw_m5 13 rfl) rfl
theorem q1019 : (Jvm.Cond.instanceMethod ({ cls := "BarrelProcessor$Machine", name := "step", desc := "()V" } : Jvm.MethodName)) ∈ lw_all := lw_g (lw_at lw_m5 15 rfl) rfl
theorem q1020 : (Jvm.Cond.selects "BarrelProcessor$Machine" ({ cls := "BarrelProcessor$Machine", name := "step", desc := "()V" } : Jvm.MethodName) ({ cls := "BarrelProcessor$Machine", name := "step", desc := "()V" } : Jvm.MethodName)) ∈ lw_all := lw_g (lw_at lw_m5 16 rfl) rfl
theorem q1021 : (Jvm.Cond.code ({ cls := "BarrelProcessor$Machine", name := "step", desc := "()V" } : Jvm.MethodName) prog_5_method_13_code (3 : Nat) (Option.none : Option Jvm.ClassFile.FieldType)) ∈ lw_all := lw_g (lw_at lw_m5 17 rfl) rfl
theorem q1022 : (Jvm.Cond.methodLink "BarrelProcessor$Machine" (155 : Nat) ({ cls := "BarrelProcessor$Machine", name := "makeReady", desc := "()V" } : Jvm.MethodName)) ∈ lw_all := lw_g (lw_at lw_m5 18 rfl) rfl
theorem q1023 : (Jvm.Cond.privateMethod ({ cls := "BarrelProcessor$Machine", name := "makeReady", desc := "()V" } : Jvm.MethodName)) ∈ lw_tbl := lw_at lw_m5 19 rfl
theorem q1024 : (Jvm.Cond.instanceMethod ({ cls := "BarrelProcessor$Machine", name := "makeReady", desc := "()V" } : Jvm.MethodName)) ∈ lw_all := lw_g (lw_at lw_m5 20 rfl) rfl
theorem q1025 : (Jvm.Cond.code ({ cls := "BarrelProcessor$Machine", name := "makeReady", desc := "()V" } : Jvm.MethodName) prog_5_method_11_code (6 : Nat) (Option.none : Option Jvm.ClassFile.FieldType)) ∈ lw_all := lw_g (lw_at lw_m5 21 rfl) rfl
theorem q1026 : (Jvm.Cond.methodLink "BarrelProcessor$Machine" (158 : Nat) ({ cls := "BarrelProcessor$Lane", name := "starve", desc := "(Z)V" } : Jvm.MethodName)) ∈ lw_all := lw_g (lw_at lw_m5 22 rfl) rfl
theorem q1031 : (Jvm.Cond.methodLink "BarrelProcessor$Machine" (162 : Nat) ({ cls := "BarrelProcessor$Machine", name := "execute", desc := "(I)V" } : Jvm.MethodName)) ∈ lw_all := lw_g (lw_at lw_m5 27 rfl) rfl
theorem q1032 : (Jvm.Cond.privateMethod ({ cls := "BarrelProcessor$Machine", name := "execute", desc := "(I)V" } : Jvm.MethodName)) ∈ lw_tbl := lw_at lw_m5 28 rfl
theorem q1033 : (Jvm.Cond.instanceMethod ({ cls := "BarrelProcessor$Machine", name := "execute", desc := "(I)V" } : Jvm.MethodName)) ∈ lw_all := lw_g (lw_at lw_m5 29 rfl) rfl
theorem q1034 : (Jvm.Cond.code ({ cls := "BarrelProcessor$Machine", name := "execute", desc := "(I)V" } : Jvm.MethodName) prog_5_method_12_code (6 : Nat) (Option.none : Option Jvm.ClassFile.FieldType)) ∈ lw_all := lw_g (lw_at lw_m5 30 rfl) rfl
theorem q1035 : (Jvm.Cond.methodLink "BarrelProcessor$Machine" (130 : Nat) ({ cls := "java/lang/Math", name := "min", desc := "(II)I" } : Jvm.MethodName)) ∈ lw_all := lw_g (lw_at lw_m5 31 rfl) rfl
theorem q1036 : (Jvm.Cond.interfaceEntry "BarrelProcessor$Machine" (149 : Nat)) ∈ lw_tbl := lw_at lw_m5 32 rfl
theorem q1037 : (Jvm.Cond.methodLink "BarrelProcessor$Machine" (149 : Nat) ({ cls := "BarrelProcessor$Operation", name := "run", desc := "(LBarrelProcessor$Machine;LBarrelProcessor$Lane;II)V" } : Jvm.MethodName)) ∈ lw_all := lw_g (lw_at lw_m5 33 rfl) rfl
theorem q1161 : (Jvm.Cond.instanceMethod ({ cls := "BarrelProcessor$Machine", name := "runOut", desc := "()I" } : Jvm.MethodName)) ∈ lw_all := lw_g (lw_at lw_m5 157 rfl) rfl
theorem q1162 : (Jvm.Cond.selects "BarrelProcessor$Machine" ({ cls := "BarrelProcessor$Machine", name := "runOut", desc := "()I" } : Jvm.MethodName) ({ cls := "BarrelProcessor$Machine", name := "runOut", desc := "()I" } : Jvm.MethodName)) ∈ lw_all := lw_g (lw_at lw_m5 158 rfl) rfl
theorem q1163 : (Jvm.Cond.code ({ cls := "BarrelProcessor$Machine", name := "runOut", desc := "()I" } : Jvm.MethodName) prog_5_method_14_code (2 : Nat) (Option.some Jvm.ClassFile.FieldType.int)) ∈ lw_all := lw_g (lw_at lw_m5 159 rfl) rfl
theorem q1164 : (Jvm.Cond.methodLink "BarrelProcessor$Machine" (166 : Nat) ({ cls := "BarrelProcessor$Machine", name := "isOver", desc := "()Z" } : Jvm.MethodName)) ∈ lw_all := lw_g (lw_at lw_m5 160 rfl) rfl
theorem q1165 : (Jvm.Cond.methodLink "BarrelProcessor$Machine" (169 : Nat) ({ cls := "BarrelProcessor$Machine", name := "step", desc := "()V" } : Jvm.MethodName)) ∈ lw_all := lw_g (lw_at lw_m5 161 rfl) rfl
theorem q1508 : (Jvm.Cond.castable "BarrelProcessor$Machine" "java/lang/Object") ∈ lw_tbl := lw_at lw_m7 24 rfl
theorem in_X6 : ∀ w ∈ wsX60, w ∈ lw_all := lw_in wsX60 [346, 348, 350, 352, 354, 356, 358, 360, 362, 364, 366, 368, 370] (by decide +kernel) (by decide +kernel)
/-! BarrelProcessor$Lane -/
set_option maxRecDepth 100000
def RX7 : String := "BarrelProcessor$Lane"
def TX7 : u_T := fun k => match k with
  | 0 => ("BarrelProcessor$Lane", "registers", "[I", false)
  | 1 => ("BarrelProcessor$Lane", "counter", "I", false)
  | 2 => ("BarrelProcessor$Lane", "state", "I", false)
  | 3 => ("BarrelProcessor$Lane", "loadRegister", "I", false)
  | 4 => ("BarrelProcessor$Lane", "loadWord", "I", false)
  | 5 => ("BarrelProcessor$Lane", "loadCycle", "I", false)
  | 6 => ("BarrelProcessor$Lane", "latestIssue", "I", false)
  | 7 => ("BarrelProcessor$Lane", "executed", "I", false)
  | 8 => ("BarrelProcessor$Lane", "lent", "I", false)
  | 9 => ("BarrelProcessor$Lane", "starvedNow", "I", false)
  | _ => ("BarrelProcessor$Lane", "mostStarved", "I", false)
def tyX7 : Nat → FieldType := fun k => match k with
  | 0 => .array .int
  | 1 => .int
  | 2 => .int
  | 3 => .int
  | 4 => .int
  | 5 => .int
  | 6 => .int
  | 7 => .int
  | 8 => .int
  | 9 => .int
  | _ => .int
abbrev wsX70 : List Cond := u_ws RX7 TX7 11
theorem nmX7 : ∀ a, a < 11 → ∀ b, b < 11 → a ≠ b → (TX7 a).2.1 ≠ (TX7 b).2.1 := by decide +kernel
theorem tyX7_ok : ∀ k, k < 11 → parseFieldDescriptor (TX7 k).2.2.1 = some (tyX7 k) := by decide +kernel
abbrev cX7_set : ByteArray := prog_3_method_3_code
def yX7_set : MethodName := ⟨RX7, "set", "(II)V"⟩
def dkwX7_set_0 : List UInt8 := [42, 180, 0, 9, 27, 28, 147, 79, 177]
abbrev dktX7_set_0 : List UInt8 := dkwX7_set_0 ++ []
theorem dksX7_set_0 : cX7_set.data.toList.drop 0 = dktX7_set_0 := by decide +kernel
theorem dX7_set_0 : decode cX7_set 0 = .ok (.aload_n 0, 1) := dk_42 (dk_at dksX7_set_0 0 rfl rfl)
theorem dX7_set_1 : decode cX7_set 1 = .ok (.getfield 9, 3) := dk_180 0 9 (dk_at dksX7_set_0 1 rfl rfl)
theorem dX7_set_4 : decode cX7_set 4 = .ok (.iload_n 1, 1) := dk_27 (dk_at dksX7_set_0 4 rfl rfl)
theorem dX7_set_5 : decode cX7_set 5 = .ok (.iload_n 2, 1) := dk_28 (dk_at dksX7_set_0 5 rfl rfl)
theorem dX7_set_6 : decode cX7_set 6 = .ok (.i2s, 1) := dk_147 (dk_at dksX7_set_0 6 rfl rfl)
theorem dX7_set_7 : decode cX7_set 7 = .ok (.iastore, 1) := dk_79 (dk_at dksX7_set_0 7 rfl rfl)
theorem dX7_set_8 : decode cX7_set 8 = .ok (.return_, 1) := dk_177 (dk_at dksX7_set_0 8 rfl rfl)
abbrev cX7_address : ByteArray := prog_3_method_4_code
def yX7_address : MethodName := ⟨RX7, "address", "(I)I"⟩
def dkwX7_address_0 : List UInt8 := [42, 180, 0, 9, 27, 46, 16, 31, 126, 172]
abbrev dktX7_address_0 : List UInt8 := dkwX7_address_0 ++ []
theorem dksX7_address_0 : cX7_address.data.toList.drop 0 = dktX7_address_0 := by decide +kernel
theorem dX7_address_0 : decode cX7_address 0 = .ok (.aload_n 0, 1) := dk_42 (dk_at dksX7_address_0 0 rfl rfl)
theorem dX7_address_1 : decode cX7_address 1 = .ok (.getfield 9, 3) := dk_180 0 9 (dk_at dksX7_address_0 1 rfl rfl)
theorem dX7_address_4 : decode cX7_address 4 = .ok (.iload_n 1, 1) := dk_27 (dk_at dksX7_address_0 4 rfl rfl)
theorem dX7_address_5 : decode cX7_address 5 = .ok (.iaload, 1) := dk_46 (dk_at dksX7_address_0 5 rfl rfl)
theorem dX7_address_6 : decode cX7_address 6 = .ok (.bipush 31, 2) := dk_16 31 (dk_at dksX7_address_0 6 rfl rfl)
theorem dX7_address_8 : decode cX7_address 8 = .ok (.iand, 1) := dk_126 (dk_at dksX7_address_0 8 rfl rfl)
theorem dX7_address_9 : decode cX7_address 9 = .ok (.ireturn, 1) := dk_172 (dk_at dksX7_address_0 9 rfl rfl)
abbrev cX7_jumpIf : ByteArray := prog_3_method_5_code
def yX7_jumpIf : MethodName := ⟨RX7, "jumpIf", "(ZI)V"⟩
def dkwX7_jumpIf_0 : List UInt8 := [42, 27, 153, 0, 7, 28, 167, 0, 7, 42, 180, 0, 28, 181, 0, 28, 177]
abbrev dktX7_jumpIf_0 : List UInt8 := dkwX7_jumpIf_0 ++ []
theorem dksX7_jumpIf_0 : cX7_jumpIf.data.toList.drop 0 = dktX7_jumpIf_0 := by decide +kernel
theorem dX7_jumpIf_0 : decode cX7_jumpIf 0 = .ok (.aload_n 0, 1) := dk_42 (dk_at dksX7_jumpIf_0 0 rfl rfl)
theorem dX7_jumpIf_1 : decode cX7_jumpIf 1 = .ok (.iload_n 1, 1) := dk_27 (dk_at dksX7_jumpIf_0 1 rfl rfl)
theorem dX7_jumpIf_2 : decode cX7_jumpIf 2 = .ok (.ifCond .eq 7, 3) := dk_153 0 7 (dk_at dksX7_jumpIf_0 2 rfl rfl)
theorem dX7_jumpIf_5 : decode cX7_jumpIf 5 = .ok (.iload_n 2, 1) := dk_28 (dk_at dksX7_jumpIf_0 5 rfl rfl)
theorem dX7_jumpIf_6 : decode cX7_jumpIf 6 = .ok (.goto 7, 3) := dk_167 0 7 (dk_at dksX7_jumpIf_0 6 rfl rfl)
theorem dX7_jumpIf_9 : decode cX7_jumpIf 9 = .ok (.aload_n 0, 1) := dk_42 (dk_at dksX7_jumpIf_0 9 rfl rfl)
theorem dX7_jumpIf_10 : decode cX7_jumpIf 10 = .ok (.getfield 28, 3) := dk_180 0 28 (dk_at dksX7_jumpIf_0 10 rfl rfl)
theorem dX7_jumpIf_13 : decode cX7_jumpIf 13 = .ok (.putfield 28, 3) := dk_181 0 28 (dk_at dksX7_jumpIf_0 13 rfl rfl)
theorem dX7_jumpIf_16 : decode cX7_jumpIf 16 = .ok (.return_, 1) := dk_177 (dk_at dksX7_jumpIf_0 16 rfl rfl)
abbrev cX7_init : ByteArray := prog_3_method_1_code
def yX7_init : MethodName := ⟨RX7, "<init>", "()V"⟩
def dkwX7_init_0 : List UInt8 := [42, 183, 0, 3, 42, 7, 188, 10, 181, 0, 9, 42, 3, 181, 0, 15, 42, 2, 181, 0, 19, 177]
abbrev dktX7_init_0 : List UInt8 := dkwX7_init_0 ++ []
theorem dksX7_init_0 : cX7_init.data.toList.drop 0 = dktX7_init_0 := by decide +kernel
theorem dX7_init_0 : decode cX7_init 0 = .ok (.aload_n 0, 1) := dk_42 (dk_at dksX7_init_0 0 rfl rfl)
theorem dX7_init_1 : decode cX7_init 1 = .ok (.invokespecial 3, 3) := dk_183 0 3 (dk_at dksX7_init_0 1 rfl rfl)
theorem dX7_init_4 : decode cX7_init 4 = .ok (.aload_n 0, 1) := dk_42 (dk_at dksX7_init_0 4 rfl rfl)
theorem dX7_init_5 : decode cX7_init 5 = .ok (.iconst 4, 1) := dk_7 (dk_at dksX7_init_0 5 rfl rfl)
theorem dX7_init_6 : decode cX7_init 6 = .ok (.newarray .int, 2) := dk_188_10 (dk_at dksX7_init_0 6 rfl rfl)
theorem dX7_init_8 : decode cX7_init 8 = .ok (.putfield 9, 3) := dk_181 0 9 (dk_at dksX7_init_0 8 rfl rfl)
theorem dX7_init_11 : decode cX7_init 11 = .ok (.aload_n 0, 1) := dk_42 (dk_at dksX7_init_0 11 rfl rfl)
theorem dX7_init_12 : decode cX7_init 12 = .ok (.iconst 0, 1) := dk_3 (dk_at dksX7_init_0 12 rfl rfl)
theorem dX7_init_13 : decode cX7_init 13 = .ok (.putfield 15, 3) := dk_181 0 15 (dk_at dksX7_init_0 13 rfl rfl)
theorem dX7_init_16 : decode cX7_init 16 = .ok (.aload_n 0, 1) := dk_42 (dk_at dksX7_init_0 16 rfl rfl)
theorem dX7_init_17 : decode cX7_init 17 = .ok (.iconst (-1), 1) := dk_2 (dk_at dksX7_init_0 17 rfl rfl)
theorem dX7_init_18 : decode cX7_init 18 = .ok (.putfield 19, 3) := dk_181 0 19 (dk_at dksX7_init_0 18 rfl rfl)
theorem dX7_init_21 : decode cX7_init 21 = .ok (.return_, 1) := dk_177 (dk_at dksX7_init_0 21 rfl rfl)
abbrev cX7_copy : ByteArray := prog_3_method_2_code
def yX7_copy : MethodName := ⟨RX7, "copy", "()LBarrelProcessor$Lane;"⟩
def dkwX7_copy_4 : List UInt8 := [180, 0, 49, 181, 0, 49, 43, 176]
abbrev dktX7_copy_4 : List UInt8 := dkwX7_copy_4 ++ []
def dkwX7_copy_3 : List UInt8 := [180, 0, 40, 181, 0, 40, 43, 42, 180, 0, 43, 181, 0, 43, 43, 42, 180, 0, 46, 181, 0, 46, 43, 42]
abbrev dktX7_copy_3 : List UInt8 := dkwX7_copy_3 ++ dktX7_copy_4
def dkwX7_copy_2 : List UInt8 := [180, 0, 34, 181, 0, 34, 43, 42, 180, 0, 37, 181, 0, 37, 43, 42, 180, 0, 19, 181, 0, 19, 43, 42]
abbrev dktX7_copy_2 : List UInt8 := dkwX7_copy_2 ++ dktX7_copy_3
def dkwX7_copy_1 : List UInt8 := [180, 0, 28, 181, 0, 28, 43, 42, 180, 0, 15, 181, 0, 15, 43, 42, 180, 0, 31, 181, 0, 31, 43, 42]
abbrev dktX7_copy_1 : List UInt8 := dkwX7_copy_1 ++ dktX7_copy_2
def dkwX7_copy_0 : List UInt8 := [187, 0, 10, 89, 183, 0, 22, 76, 43, 42, 180, 0, 9, 182, 0, 23, 192, 0, 24, 181, 0, 9, 43, 42]
abbrev dktX7_copy_0 : List UInt8 := dkwX7_copy_0 ++ dktX7_copy_1
theorem dksX7_copy_0 : cX7_copy.data.toList.drop 0 = dktX7_copy_0 := by decide +kernel
theorem dksX7_copy_1 : cX7_copy.data.toList.drop 24 = dktX7_copy_1 := dk_seg dksX7_copy_0 24 rfl rfl
theorem dksX7_copy_2 : cX7_copy.data.toList.drop 48 = dktX7_copy_2 := dk_seg dksX7_copy_1 24 rfl rfl
theorem dksX7_copy_3 : cX7_copy.data.toList.drop 72 = dktX7_copy_3 := dk_seg dksX7_copy_2 24 rfl rfl
theorem dksX7_copy_4 : cX7_copy.data.toList.drop 96 = dktX7_copy_4 := dk_seg dksX7_copy_3 24 rfl rfl
theorem dX7_copy_0 : decode cX7_copy 0 = .ok (.new 10, 3) := dk_187 0 10 (dk_at dksX7_copy_0 0 rfl rfl)
theorem dX7_copy_3 : decode cX7_copy 3 = .ok (.dup, 1) := dk_89 (dk_at dksX7_copy_0 3 rfl rfl)
theorem dX7_copy_4 : decode cX7_copy 4 = .ok (.invokespecial 22, 3) := dk_183 0 22 (dk_at dksX7_copy_0 4 rfl rfl)
theorem dX7_copy_7 : decode cX7_copy 7 = .ok (.astore_n 1, 1) := dk_76 (dk_at dksX7_copy_0 7 rfl rfl)
theorem dX7_copy_8 : decode cX7_copy 8 = .ok (.aload_n 1, 1) := dk_43 (dk_at dksX7_copy_0 8 rfl rfl)
theorem dX7_copy_9 : decode cX7_copy 9 = .ok (.aload_n 0, 1) := dk_42 (dk_at dksX7_copy_0 9 rfl rfl)
theorem dX7_copy_10 : decode cX7_copy 10 = .ok (.getfield 9, 3) := dk_180 0 9 (dk_at dksX7_copy_0 10 rfl rfl)
theorem dX7_copy_13 : decode cX7_copy 13 = .ok (.invokevirtual 23, 3) := dk_182 0 23 (dk_at dksX7_copy_0 13 rfl rfl)
theorem dX7_copy_16 : decode cX7_copy 16 = .ok (.checkcast 24, 3) := dk_192 0 24 (dk_at dksX7_copy_0 16 rfl rfl)
theorem dX7_copy_19 : decode cX7_copy 19 = .ok (.putfield 9, 3) := dk_181 0 9 (dk_at dksX7_copy_0 19 rfl rfl)
theorem dX7_copy_22 : decode cX7_copy 22 = .ok (.aload_n 1, 1) := dk_43 (dk_at dksX7_copy_0 22 rfl rfl)
theorem dX7_copy_23 : decode cX7_copy 23 = .ok (.aload_n 0, 1) := dk_42 (dk_at dksX7_copy_0 23 rfl rfl)
theorem dX7_copy_24 : decode cX7_copy 24 = .ok (.getfield 28, 3) := dk_180 0 28 (dk_at dksX7_copy_1 0 rfl rfl)
theorem dX7_copy_27 : decode cX7_copy 27 = .ok (.putfield 28, 3) := dk_181 0 28 (dk_at dksX7_copy_1 3 rfl rfl)
theorem dX7_copy_30 : decode cX7_copy 30 = .ok (.aload_n 1, 1) := dk_43 (dk_at dksX7_copy_1 6 rfl rfl)
theorem dX7_copy_31 : decode cX7_copy 31 = .ok (.aload_n 0, 1) := dk_42 (dk_at dksX7_copy_1 7 rfl rfl)
theorem dX7_copy_32 : decode cX7_copy 32 = .ok (.getfield 15, 3) := dk_180 0 15 (dk_at dksX7_copy_1 8 rfl rfl)
theorem dX7_copy_35 : decode cX7_copy 35 = .ok (.putfield 15, 3) := dk_181 0 15 (dk_at dksX7_copy_1 11 rfl rfl)
theorem dX7_copy_38 : decode cX7_copy 38 = .ok (.aload_n 1, 1) := dk_43 (dk_at dksX7_copy_1 14 rfl rfl)
theorem dX7_copy_39 : decode cX7_copy 39 = .ok (.aload_n 0, 1) := dk_42 (dk_at dksX7_copy_1 15 rfl rfl)
theorem dX7_copy_40 : decode cX7_copy 40 = .ok (.getfield 31, 3) := dk_180 0 31 (dk_at dksX7_copy_1 16 rfl rfl)
theorem dX7_copy_43 : decode cX7_copy 43 = .ok (.putfield 31, 3) := dk_181 0 31 (dk_at dksX7_copy_1 19 rfl rfl)
theorem dX7_copy_46 : decode cX7_copy 46 = .ok (.aload_n 1, 1) := dk_43 (dk_at dksX7_copy_1 22 rfl rfl)
theorem dX7_copy_47 : decode cX7_copy 47 = .ok (.aload_n 0, 1) := dk_42 (dk_at dksX7_copy_1 23 rfl rfl)
theorem dX7_copy_48 : decode cX7_copy 48 = .ok (.getfield 34, 3) := dk_180 0 34 (dk_at dksX7_copy_2 0 rfl rfl)
theorem dX7_copy_51 : decode cX7_copy 51 = .ok (.putfield 34, 3) := dk_181 0 34 (dk_at dksX7_copy_2 3 rfl rfl)
theorem dX7_copy_54 : decode cX7_copy 54 = .ok (.aload_n 1, 1) := dk_43 (dk_at dksX7_copy_2 6 rfl rfl)
theorem dX7_copy_55 : decode cX7_copy 55 = .ok (.aload_n 0, 1) := dk_42 (dk_at dksX7_copy_2 7 rfl rfl)
theorem dX7_copy_56 : decode cX7_copy 56 = .ok (.getfield 37, 3) := dk_180 0 37 (dk_at dksX7_copy_2 8 rfl rfl)
theorem dX7_copy_59 : decode cX7_copy 59 = .ok (.putfield 37, 3) := dk_181 0 37 (dk_at dksX7_copy_2 11 rfl rfl)
theorem dX7_copy_62 : decode cX7_copy 62 = .ok (.aload_n 1, 1) := dk_43 (dk_at dksX7_copy_2 14 rfl rfl)
theorem dX7_copy_63 : decode cX7_copy 63 = .ok (.aload_n 0, 1) := dk_42 (dk_at dksX7_copy_2 15 rfl rfl)
theorem dX7_copy_64 : decode cX7_copy 64 = .ok (.getfield 19, 3) := dk_180 0 19 (dk_at dksX7_copy_2 16 rfl rfl)
theorem dX7_copy_67 : decode cX7_copy 67 = .ok (.putfield 19, 3) := dk_181 0 19 (dk_at dksX7_copy_2 19 rfl rfl)
theorem dX7_copy_70 : decode cX7_copy 70 = .ok (.aload_n 1, 1) := dk_43 (dk_at dksX7_copy_2 22 rfl rfl)
theorem dX7_copy_71 : decode cX7_copy 71 = .ok (.aload_n 0, 1) := dk_42 (dk_at dksX7_copy_2 23 rfl rfl)
theorem dX7_copy_72 : decode cX7_copy 72 = .ok (.getfield 40, 3) := dk_180 0 40 (dk_at dksX7_copy_3 0 rfl rfl)
theorem dX7_copy_75 : decode cX7_copy 75 = .ok (.putfield 40, 3) := dk_181 0 40 (dk_at dksX7_copy_3 3 rfl rfl)
theorem dX7_copy_78 : decode cX7_copy 78 = .ok (.aload_n 1, 1) := dk_43 (dk_at dksX7_copy_3 6 rfl rfl)
theorem dX7_copy_79 : decode cX7_copy 79 = .ok (.aload_n 0, 1) := dk_42 (dk_at dksX7_copy_3 7 rfl rfl)
theorem dX7_copy_80 : decode cX7_copy 80 = .ok (.getfield 43, 3) := dk_180 0 43 (dk_at dksX7_copy_3 8 rfl rfl)
theorem dX7_copy_83 : decode cX7_copy 83 = .ok (.putfield 43, 3) := dk_181 0 43 (dk_at dksX7_copy_3 11 rfl rfl)
theorem dX7_copy_86 : decode cX7_copy 86 = .ok (.aload_n 1, 1) := dk_43 (dk_at dksX7_copy_3 14 rfl rfl)
theorem dX7_copy_87 : decode cX7_copy 87 = .ok (.aload_n 0, 1) := dk_42 (dk_at dksX7_copy_3 15 rfl rfl)
theorem dX7_copy_88 : decode cX7_copy 88 = .ok (.getfield 46, 3) := dk_180 0 46 (dk_at dksX7_copy_3 16 rfl rfl)
theorem dX7_copy_91 : decode cX7_copy 91 = .ok (.putfield 46, 3) := dk_181 0 46 (dk_at dksX7_copy_3 19 rfl rfl)
theorem dX7_copy_94 : decode cX7_copy 94 = .ok (.aload_n 1, 1) := dk_43 (dk_at dksX7_copy_3 22 rfl rfl)
theorem dX7_copy_95 : decode cX7_copy 95 = .ok (.aload_n 0, 1) := dk_42 (dk_at dksX7_copy_3 23 rfl rfl)
theorem dX7_copy_96 : decode cX7_copy 96 = .ok (.getfield 49, 3) := dk_180 0 49 (dk_at dksX7_copy_4 0 rfl rfl)
theorem dX7_copy_99 : decode cX7_copy 99 = .ok (.putfield 49, 3) := dk_181 0 49 (dk_at dksX7_copy_4 3 rfl rfl)
theorem dX7_copy_102 : decode cX7_copy 102 = .ok (.aload_n 1, 1) := dk_43 (dk_at dksX7_copy_4 6 rfl rfl)
theorem dX7_copy_103 : decode cX7_copy 103 = .ok (.areturn, 1) := dk_176 (dk_at dksX7_copy_4 7 rfl rfl)
abbrev cX7_start : ByteArray := prog_3_method_6_code
def yX7_start : MethodName := ⟨RX7, "start", "(I)V"⟩
def dkwX7_start_1 : List UInt8 := [181, 0, 46, 177]
abbrev dktX7_start_1 : List UInt8 := dkwX7_start_1 ++ []
def dkwX7_start_0 : List UInt8 := [42, 7, 188, 10, 181, 0, 9, 42, 27, 181, 0, 28, 42, 4, 181, 0, 15, 42, 2, 181, 0, 19, 42, 3]
abbrev dktX7_start_0 : List UInt8 := dkwX7_start_0 ++ dktX7_start_1
theorem dksX7_start_0 : cX7_start.data.toList.drop 0 = dktX7_start_0 := by decide +kernel
theorem dksX7_start_1 : cX7_start.data.toList.drop 24 = dktX7_start_1 := dk_seg dksX7_start_0 24 rfl rfl
theorem dX7_start_0 : decode cX7_start 0 = .ok (.aload_n 0, 1) := dk_42 (dk_at dksX7_start_0 0 rfl rfl)
theorem dX7_start_1 : decode cX7_start 1 = .ok (.iconst 4, 1) := dk_7 (dk_at dksX7_start_0 1 rfl rfl)
theorem dX7_start_2 : decode cX7_start 2 = .ok (.newarray .int, 2) := dk_188_10 (dk_at dksX7_start_0 2 rfl rfl)
theorem dX7_start_4 : decode cX7_start 4 = .ok (.putfield 9, 3) := dk_181 0 9 (dk_at dksX7_start_0 4 rfl rfl)
theorem dX7_start_7 : decode cX7_start 7 = .ok (.aload_n 0, 1) := dk_42 (dk_at dksX7_start_0 7 rfl rfl)
theorem dX7_start_8 : decode cX7_start 8 = .ok (.iload_n 1, 1) := dk_27 (dk_at dksX7_start_0 8 rfl rfl)
theorem dX7_start_9 : decode cX7_start 9 = .ok (.putfield 28, 3) := dk_181 0 28 (dk_at dksX7_start_0 9 rfl rfl)
theorem dX7_start_12 : decode cX7_start 12 = .ok (.aload_n 0, 1) := dk_42 (dk_at dksX7_start_0 12 rfl rfl)
theorem dX7_start_13 : decode cX7_start 13 = .ok (.iconst 1, 1) := dk_4 (dk_at dksX7_start_0 13 rfl rfl)
theorem dX7_start_14 : decode cX7_start 14 = .ok (.putfield 15, 3) := dk_181 0 15 (dk_at dksX7_start_0 14 rfl rfl)
theorem dX7_start_17 : decode cX7_start 17 = .ok (.aload_n 0, 1) := dk_42 (dk_at dksX7_start_0 17 rfl rfl)
theorem dX7_start_18 : decode cX7_start 18 = .ok (.iconst (-1), 1) := dk_2 (dk_at dksX7_start_0 18 rfl rfl)
theorem dX7_start_19 : decode cX7_start 19 = .ok (.putfield 19, 3) := dk_181 0 19 (dk_at dksX7_start_0 19 rfl rfl)
theorem dX7_start_22 : decode cX7_start 22 = .ok (.aload_n 0, 1) := dk_42 (dk_at dksX7_start_0 22 rfl rfl)
theorem dX7_start_23 : decode cX7_start 23 = .ok (.iconst 0, 1) := dk_3 (dk_at dksX7_start_0 23 rfl rfl)
theorem dX7_start_24 : decode cX7_start 24 = .ok (.putfield 46, 3) := dk_181 0 46 (dk_at dksX7_start_1 0 rfl rfl)
theorem dX7_start_27 : decode cX7_start 27 = .ok (.return_, 1) := dk_177 (dk_at dksX7_start_1 3 rfl rfl)
abbrev cX7_halt : ByteArray := prog_3_method_7_code
def yX7_halt : MethodName := ⟨RX7, "halt", "()V"⟩
def dkwX7_halt_0 : List UInt8 := [42, 3, 181, 0, 15, 42, 3, 181, 0, 46, 177]
abbrev dktX7_halt_0 : List UInt8 := dkwX7_halt_0 ++ []
theorem dksX7_halt_0 : cX7_halt.data.toList.drop 0 = dktX7_halt_0 := by decide +kernel
theorem dX7_halt_0 : decode cX7_halt 0 = .ok (.aload_n 0, 1) := dk_42 (dk_at dksX7_halt_0 0 rfl rfl)
theorem dX7_halt_1 : decode cX7_halt 1 = .ok (.iconst 0, 1) := dk_3 (dk_at dksX7_halt_0 1 rfl rfl)
theorem dX7_halt_2 : decode cX7_halt 2 = .ok (.putfield 15, 3) := dk_181 0 15 (dk_at dksX7_halt_0 2 rfl rfl)
theorem dX7_halt_5 : decode cX7_halt 5 = .ok (.aload_n 0, 1) := dk_42 (dk_at dksX7_halt_0 5 rfl rfl)
theorem dX7_halt_6 : decode cX7_halt 6 = .ok (.iconst 0, 1) := dk_3 (dk_at dksX7_halt_0 6 rfl rfl)
theorem dX7_halt_7 : decode cX7_halt 7 = .ok (.putfield 46, 3) := dk_181 0 46 (dk_at dksX7_halt_0 7 rfl rfl)
theorem dX7_halt_10 : decode cX7_halt 10 = .ok (.return_, 1) := dk_177 (dk_at dksX7_halt_0 10 rfl rfl)
abbrev cX7_starve : ByteArray := prog_3_method_8_code
def yX7_starve : MethodName := ⟨RX7, "starve", "(Z)V"⟩
def dkwX7_starve_1 : List UInt8 := [180, 0, 46, 184, 0, 52, 181, 0, 49, 177]
abbrev dktX7_starve_1 : List UInt8 := dkwX7_starve_1 ++ []
def dkwX7_starve_0 : List UInt8 := [42, 27, 153, 0, 12, 42, 180, 0, 46, 4, 96, 167, 0, 4, 3, 181, 0, 46, 42, 42, 180, 0, 49, 42]
abbrev dktX7_starve_0 : List UInt8 := dkwX7_starve_0 ++ dktX7_starve_1
theorem dksX7_starve_0 : cX7_starve.data.toList.drop 0 = dktX7_starve_0 := by decide +kernel
theorem dksX7_starve_1 : cX7_starve.data.toList.drop 24 = dktX7_starve_1 := dk_seg dksX7_starve_0 24 rfl rfl
theorem dX7_starve_0 : decode cX7_starve 0 = .ok (.aload_n 0, 1) := dk_42 (dk_at dksX7_starve_0 0 rfl rfl)
theorem dX7_starve_1 : decode cX7_starve 1 = .ok (.iload_n 1, 1) := dk_27 (dk_at dksX7_starve_0 1 rfl rfl)
theorem dX7_starve_2 : decode cX7_starve 2 = .ok (.ifCond .eq 12, 3) := dk_153 0 12 (dk_at dksX7_starve_0 2 rfl rfl)
theorem dX7_starve_5 : decode cX7_starve 5 = .ok (.aload_n 0, 1) := dk_42 (dk_at dksX7_starve_0 5 rfl rfl)
theorem dX7_starve_6 : decode cX7_starve 6 = .ok (.getfield 46, 3) := dk_180 0 46 (dk_at dksX7_starve_0 6 rfl rfl)
theorem dX7_starve_9 : decode cX7_starve 9 = .ok (.iconst 1, 1) := dk_4 (dk_at dksX7_starve_0 9 rfl rfl)
theorem dX7_starve_10 : decode cX7_starve 10 = .ok (.iadd, 1) := dk_96 (dk_at dksX7_starve_0 10 rfl rfl)
theorem dX7_starve_11 : decode cX7_starve 11 = .ok (.goto 4, 3) := dk_167 0 4 (dk_at dksX7_starve_0 11 rfl rfl)
theorem dX7_starve_14 : decode cX7_starve 14 = .ok (.iconst 0, 1) := dk_3 (dk_at dksX7_starve_0 14 rfl rfl)
theorem dX7_starve_15 : decode cX7_starve 15 = .ok (.putfield 46, 3) := dk_181 0 46 (dk_at dksX7_starve_0 15 rfl rfl)
theorem dX7_starve_18 : decode cX7_starve 18 = .ok (.aload_n 0, 1) := dk_42 (dk_at dksX7_starve_0 18 rfl rfl)
theorem dX7_starve_19 : decode cX7_starve 19 = .ok (.aload_n 0, 1) := dk_42 (dk_at dksX7_starve_0 19 rfl rfl)
theorem dX7_starve_20 : decode cX7_starve 20 = .ok (.getfield 49, 3) := dk_180 0 49 (dk_at dksX7_starve_0 20 rfl rfl)
theorem dX7_starve_23 : decode cX7_starve 23 = .ok (.aload_n 0, 1) := dk_42 (dk_at dksX7_starve_0 23 rfl rfl)
theorem dX7_starve_24 : decode cX7_starve 24 = .ok (.getfield 46, 3) := dk_180 0 46 (dk_at dksX7_starve_1 0 rfl rfl)
theorem dX7_starve_27 : decode cX7_starve 27 = .ok (.invokestatic 52, 3) := dk_184 0 52 (dk_at dksX7_starve_1 3 rfl rfl)
theorem dX7_starve_30 : decode cX7_starve 30 = .ok (.putfield 49, 3) := dk_181 0 49 (dk_at dksX7_starve_1 6 rfl rfl)
theorem dX7_starve_33 : decode cX7_starve 33 = .ok (.return_, 1) := dk_177 (dk_at dksX7_starve_1 9 rfl rfl)
theorem q56 : (Jvm.Cond.initialized "BarrelProcessor$Lane") ∈ lw_all := lw_g (lw_at lw_m1 12 rfl) rfl
theorem q82 : (Jvm.Cond.instanceMethod ({ cls := "BarrelProcessor$Lane", name := "set", desc := "(II)V" } : Jvm.MethodName)) ∈ lw_all := lw_g (lw_at lw_m1 38 rfl) rfl
theorem q83 : (Jvm.Cond.selects "BarrelProcessor$Lane" ({ cls := "BarrelProcessor$Lane", name := "set", desc := "(II)V" } : Jvm.MethodName) ({ cls := "BarrelProcessor$Lane", name := "set", desc := "(II)V" } : Jvm.MethodName)) ∈ lw_all := lw_g (lw_at lw_m1 39 rfl) rfl
theorem q84 : (Jvm.Cond.code ({ cls := "BarrelProcessor$Lane", name := "set", desc := "(II)V" } : Jvm.MethodName) prog_3_method_3_code (3 : Nat) (Option.none : Option Jvm.ClassFile.FieldType)) ∈ lw_all := lw_g (lw_at lw_m1 40 rfl) rfl
theorem q94 : (Jvm.Cond.instanceMethod ({ cls := "BarrelProcessor$Lane", name := "address", desc := "(I)I" } : Jvm.MethodName)) ∈ lw_all := lw_g (lw_at lw_m1 50 rfl) rfl
theorem q95 : (Jvm.Cond.selects "BarrelProcessor$Lane" ({ cls := "BarrelProcessor$Lane", name := "address", desc := "(I)I" } : Jvm.MethodName) ({ cls := "BarrelProcessor$Lane", name := "address", desc := "(I)I" } : Jvm.MethodName)) ∈ lw_all := lw_g (lw_at lw_m1 51 rfl) rfl
theorem q96 : (Jvm.Cond.code ({ cls := "BarrelProcessor$Lane", name := "address", desc := "(I)I" } : Jvm.MethodName) prog_3_method_4_code (2 : Nat) (Option.some Jvm.ClassFile.FieldType.int)) ∈ lw_all := lw_g (lw_at lw_m1 52 rfl) rfl
theorem q114 : (Jvm.Cond.instanceMethod ({ cls := "BarrelProcessor$Lane", name := "jumpIf", desc := "(ZI)V" } : Jvm.MethodName)) ∈ lw_all := lw_g (lw_at lw_m1 70 rfl) rfl
theorem q115 : (Jvm.Cond.selects "BarrelProcessor$Lane" ({ cls := "BarrelProcessor$Lane", name := "jumpIf", desc := "(ZI)V" } : Jvm.MethodName) ({ cls := "BarrelProcessor$Lane", name := "jumpIf", desc := "(ZI)V" } : Jvm.MethodName)) ∈ lw_all := lw_g (lw_at lw_m1 71 rfl) rfl
theorem q116 : (Jvm.Cond.code ({ cls := "BarrelProcessor$Lane", name := "jumpIf", desc := "(ZI)V" } : Jvm.MethodName) prog_3_method_5_code (3 : Nat) (Option.none : Option Jvm.ClassFile.FieldType)) ∈ lw_all := lw_g (lw_at lw_m1 72 rfl) rfl
theorem q263 : (Jvm.Cond.instantiable "BarrelProcessor$Lane" (11 : Nat)) ∈ lw_all := lw_g (lw_at lw_m1 219 rfl) rfl
theorem q265 : (Jvm.Cond.instanceMethod ({ cls := "BarrelProcessor$Lane", name := "<init>", desc := "()V" } : Jvm.MethodName)) ∈ lw_all := lw_g (lw_at lw_m1 221 rfl) rfl
theorem q266 : (Jvm.Cond.code ({ cls := "BarrelProcessor$Lane", name := "<init>", desc := "()V" } : Jvm.MethodName) prog_3_method_1_code (1 : Nat) (Option.none : Option Jvm.ClassFile.FieldType)) ∈ lw_all := lw_g (lw_at lw_m1 222 rfl) rfl
theorem q267 : (Jvm.Cond.methodLink "BarrelProcessor$Lane" (3 : Nat) ({ cls := "java/lang/Object", name := "<init>", desc := "()V" } : Jvm.MethodName)) ∈ lw_all := lw_g (lw_at lw_m1 223 rfl) rfl
theorem q268 : (Jvm.Cond.fieldLink "BarrelProcessor$Lane" (9 : Nat) "BarrelProcessor$Lane" "registers" "[I") ∈ lw_all := lw_g (lw_at lw_m1 224 rfl) rfl
theorem q271 : (Jvm.Cond.fieldLink "BarrelProcessor$Lane" (28 : Nat) "BarrelProcessor$Lane" "counter" "I") ∈ lw_all := lw_g (lw_at lw_m1 227 rfl) rfl
theorem q274 : (Jvm.Cond.fieldLink "BarrelProcessor$Lane" (15 : Nat) "BarrelProcessor$Lane" "state" "I") ∈ lw_all := lw_g (lw_at lw_m1 230 rfl) rfl
theorem q277 : (Jvm.Cond.fieldLink "BarrelProcessor$Lane" (31 : Nat) "BarrelProcessor$Lane" "loadRegister" "I") ∈ lw_all := lw_g (lw_at lw_m1 233 rfl) rfl
theorem q279 : (Jvm.Cond.fieldLink "BarrelProcessor$Lane" (34 : Nat) "BarrelProcessor$Lane" "loadWord" "I") ∈ lw_all := lw_g (lw_at lw_m1 235 rfl) rfl
theorem q281 : (Jvm.Cond.fieldLink "BarrelProcessor$Lane" (37 : Nat) "BarrelProcessor$Lane" "loadCycle" "I") ∈ lw_all := lw_g (lw_at lw_m1 237 rfl) rfl
theorem q283 : (Jvm.Cond.fieldLink "BarrelProcessor$Lane" (19 : Nat) "BarrelProcessor$Lane" "latestIssue" "I") ∈ lw_all := lw_g (lw_at lw_m1 239 rfl) rfl
theorem q286 : (Jvm.Cond.fieldLink "BarrelProcessor$Lane" (40 : Nat) "BarrelProcessor$Lane" "executed" "I") ∈ lw_all := lw_g (lw_at lw_m2 2 rfl) rfl
theorem q289 : (Jvm.Cond.fieldLink "BarrelProcessor$Lane" (43 : Nat) "BarrelProcessor$Lane" "lent" "I") ∈ lw_all := lw_g (lw_at lw_m2 5 rfl) rfl
theorem q292 : (Jvm.Cond.fieldLink "BarrelProcessor$Lane" (46 : Nat) "BarrelProcessor$Lane" "starvedNow" "I") ∈ lw_all := lw_g (lw_at lw_m2 8 rfl) rfl
theorem q293 : (Jvm.Cond.fieldLink "BarrelProcessor$Lane" (49 : Nat) "BarrelProcessor$Lane" "mostStarved" "I") ∈ lw_all := lw_g (lw_at lw_m2 9 rfl) rfl
theorem q295 : (Jvm.Cond.lays "BarrelProcessor$Lane" "BarrelProcessor$Lane" "registers" "[I") ∈ lw_all := lw_g (lw_at lw_m2 11 rfl) rfl
theorem q296 : (Jvm.Cond.soleField "BarrelProcessor$Lane" "registers") ∈ lw_all := lw_g (lw_at lw_m2 12 rfl) rfl
theorem q297 : (Jvm.Cond.lays "BarrelProcessor$Lane" "BarrelProcessor$Lane" "counter" "I") ∈ lw_all := lw_g (lw_at lw_m2 13 rfl) rfl
theorem q298 : (Jvm.Cond.soleField "BarrelProcessor$Lane" "counter") ∈ lw_all := lw_g (lw_at lw_m2 14 rfl) rfl
theorem q299 : (Jvm.Cond.lays "BarrelProcessor$Lane" "BarrelProcessor$Lane" "state" "I") ∈ lw_all := lw_g (lw_at lw_m2 15 rfl) rfl
theorem q300 : (Jvm.Cond.soleField "BarrelProcessor$Lane" "state") ∈ lw_all := lw_g (lw_at lw_m2 16 rfl) rfl
theorem q301 : (Jvm.Cond.lays "BarrelProcessor$Lane" "BarrelProcessor$Lane" "loadRegister" "I") ∈ lw_all := lw_g (lw_at lw_m2 17 rfl) rfl
theorem q302 : (Jvm.Cond.soleField "BarrelProcessor$Lane" "loadRegister") ∈ lw_all := lw_g (lw_at lw_m2 18 rfl) rfl
theorem q303 : (Jvm.Cond.lays "BarrelProcessor$Lane" "BarrelProcessor$Lane" "loadWord" "I") ∈ lw_all := lw_g (lw_at lw_m2 19 rfl) rfl
theorem q304 : (Jvm.Cond.soleField "BarrelProcessor$Lane" "loadWord") ∈ lw_all := lw_g (lw_at lw_m2 20 rfl) rfl
theorem q305 : (Jvm.Cond.lays "BarrelProcessor$Lane" "BarrelProcessor$Lane" "loadCycle" "I") ∈ lw_all := lw_g (lw_at lw_m2 21 rfl) rfl
theorem q306 : (Jvm.Cond.soleField "BarrelProcessor$Lane" "loadCycle") ∈ lw_all := lw_g (lw_at lw_m2 22 rfl) rfl
theorem q307 : (Jvm.Cond.lays "BarrelProcessor$Lane" "BarrelProcessor$Lane" "latestIssue" "I") ∈ lw_all := lw_g (lw_at lw_m2 23 rfl) rfl
theorem q308 : (Jvm.Cond.soleField "BarrelProcessor$Lane" "latestIssue") ∈ lw_all := lw_g (lw_at lw_m2 24 rfl) rfl
theorem q309 : (Jvm.Cond.lays "BarrelProcessor$Lane" "BarrelProcessor$Lane" "executed" "I") ∈ lw_all := lw_g (lw_at lw_m2 25 rfl) rfl
theorem q310 : (Jvm.Cond.soleField "BarrelProcessor$Lane" "executed") ∈ lw_all := lw_g (lw_at lw_m2 26 rfl) rfl
theorem q311 : (Jvm.Cond.lays "BarrelProcessor$Lane" "BarrelProcessor$Lane" "lent" "I") ∈ lw_all := lw_g (lw_at lw_m2 27 rfl) rfl
theorem q312 : (Jvm.Cond.soleField "BarrelProcessor$Lane" "lent") ∈ lw_all := lw_g (lw_at lw_m2 28 rfl) rfl
theorem q313 : (Jvm.Cond.lays "BarrelProcessor$Lane" "BarrelProcessor$Lane" "starvedNow" "I") ∈ lw_all := lw_g (lw_at lw_m2 29 rfl) rfl
theorem q314 : (Jvm.Cond.soleField "BarrelProcessor$Lane" "starvedNow") ∈ lw_all := lw_g (lw_at lw_m2 30 rfl) rfl
theorem q315 : (Jvm.Cond.lays "BarrelProcessor$Lane" "BarrelProcessor$Lane" "mostStarved" "I") ∈ lw_all := lw_g (lw_at lw_m2 31 rfl) rfl
theorem q316 : (Jvm.Cond.soleField "BarrelProcessor$Lane" "mostStarved") ∈ lw_all := lw_g (lw_at lw_m2 32 rfl) rfl
theorem q317 : (Jvm.Cond.superclass "BarrelProcessor$Lane" "java/lang/Object") ∈ lw_all := lw_g (lw_at lw_m2 33 rfl) rfl
theorem q810 : (Jvm.Cond.selects "BarrelProcessor$Lane" ({ cls := "java/lang/Object", name := "getClass", desc := "()Ljava/lang/Class;" } : Jvm.MethodName) ({ cls := "java/lang/Object", name := "getClass", desc := "()Ljava/lang/Class;" } : Jvm.MethodName)) ∈ lw_all := lw_g (lw_at lw_m4 46 rfl) rfl
theorem q867 : (Jvm.Cond.instanceMethod ({ cls := "BarrelProcessor$Lane", name := "copy", desc := "()LBarrelProcessor$Lane;" } : Jvm.MethodName)) ∈ lw_all := lw_g (lw_at lw_m4 103 rfl) rfl
theorem q868 : (Jvm.Cond.selects "BarrelProcessor$Lane" ({ cls := "BarrelProcessor$Lane", name := "copy", desc := "()LBarrelProcessor$Lane;" } : Jvm.MethodName) ({ cls := "BarrelProcessor$Lane", name := "copy", desc := "()LBarrelProcessor$Lane;" } : Jvm.MethodName)) ∈ lw_all := lw_g (lw_at lw_m4 104 rfl) rfl
theorem q869 : (Jvm.Cond.code ({ cls := "BarrelProcessor$Lane", name := "copy", desc := "()LBarrelProcessor$Lane;" } : Jvm.MethodName) prog_3_method_2_code (2 : Nat) (Option.some (Jvm.ClassFile.FieldType.object "BarrelProcessor$Lane"))) ∈ lw_all := lw_g (lw_at lw_m4 105 rfl) rfl
theorem q870 : (Jvm.Cond.classLink "BarrelProcessor$Lane" (10 : Nat) "BarrelProcessor$Lane") ∈ lw_all := lw_g (lw_at lw_m4 106 rfl) rfl
theorem q871 : (Jvm.Cond.methodLink "BarrelProcessor$Lane" (22 : Nat) ({ cls := "BarrelProcessor$Lane", name := "<init>", desc := "()V" } : Jvm.MethodName)) ∈ lw_all := lw_g (lw_at lw_m4 107 rfl) rfl
theorem q872 : (Jvm.Cond.methodLink "BarrelProcessor$Lane" (23 : Nat) ({ cls := "[I", name := "clone", desc := "()Ljava/lang/Object;" } : Jvm.MethodName)) ∈ lw_all := lw_g (lw_at lw_m4 108 rfl) rfl
theorem q876 : (Jvm.Cond.classLink "BarrelProcessor$Lane" (24 : Nat) "[I") ∈ lw_all := lw_g (lw_at lw_m4 112 rfl) rfl
theorem q908 : (Jvm.Cond.instanceMethod ({ cls := "BarrelProcessor$Lane", name := "start", desc := "(I)V" } : Jvm.MethodName)) ∈ lw_all := lw_g (lw_at lw_m4 144 rfl) rfl
theorem q909 : (Jvm.Cond.selects "BarrelProcessor$Lane" ({ cls := "BarrelProcessor$Lane", name := "start", desc := "(I)V" } : Jvm.MethodName) ({ cls := "BarrelProcessor$Lane", name := "start", desc := "(I)V" } : Jvm.MethodName)) ∈ lw_all := lw_g (lw_at lw_m4 145 rfl) rfl
theorem q910 : (Jvm.Cond.code ({ cls := "BarrelProcessor$Lane", name := "start", desc := "(I)V" } : Jvm.MethodName) prog_3_method_6_code (2 : Nat) (Option.none : Option Jvm.ClassFile.FieldType)) ∈ lw_all := lw_g (lw_at lw_m4 146 rfl) rfl
theorem q916 : (Jvm.Cond.instanceMethod ({ cls := "BarrelProcessor$Lane", name := "halt", desc := "()V" } : Jvm.MethodName)) ∈ lw_all := lw_g (lw_at lw_m4 152 rfl) rfl
theorem q917 : (Jvm.Cond.selects "BarrelProcessor$Lane" ({ cls := "BarrelProcessor$Lane", name := "halt", desc := "()V" } : Jvm.MethodName) ({ cls := "BarrelProcessor$Lane", name := "halt", desc := "()V" } : Jvm.MethodName)) ∈ lw_all := lw_g (lw_at lw_m4 153 rfl) rfl
theorem q918 : (Jvm.Cond.code ({ cls := "BarrelProcessor$Lane", name := "halt", desc := "()V" } : Jvm.MethodName) prog_3_method_7_code (1 : Nat) (Option.none : Option Jvm.ClassFile.FieldType)) ∈ lw_all := lw_g (lw_at lw_m4 154 rfl) rfl
theorem q1027 : (Jvm.Cond.instanceMethod ({ cls := "BarrelProcessor$Lane", name := "starve", desc := "(Z)V" } : Jvm.MethodName)) ∈ lw_all := lw_g (lw_at lw_m5 23 rfl) rfl
theorem q1028 : (Jvm.Cond.selects "BarrelProcessor$Lane" ({ cls := "BarrelProcessor$Lane", name := "starve", desc := "(Z)V" } : Jvm.MethodName) ({ cls := "BarrelProcessor$Lane", name := "starve", desc := "(Z)V" } : Jvm.MethodName)) ∈ lw_all := lw_g (lw_at lw_m5 24 rfl) rfl
theorem q1029 : (Jvm.Cond.code ({ cls := "BarrelProcessor$Lane", name := "starve", desc := "(Z)V" } : Jvm.MethodName) prog_3_method_8_code (2 : Nat) (Option.none : Option Jvm.ClassFile.FieldType)) ∈ lw_all := lw_g (lw_at lw_m5 25 rfl) rfl
theorem q1030 : (Jvm.Cond.methodLink "BarrelProcessor$Lane" (52 : Nat) ({ cls := "java/lang/Math", name := "max", desc := "(II)I" } : Jvm.MethodName)) ∈ lw_all := lw_g (lw_at lw_m5 26 rfl) rfl
theorem q1501 : (Jvm.Cond.castable "BarrelProcessor$Lane" "java/lang/Object") ∈ lw_tbl := lw_at lw_m7 17 rfl
theorem in_X7 : ∀ w ∈ wsX70, w ∈ lw_all := lw_in wsX70 [295, 297, 299, 301, 303, 305, 307, 309, 311, 313, 315] (by decide +kernel) (by decide +kernel)
/-! BarrelProcessor$Reader -/
set_option maxRecDepth 100000
def RX9 : String := "BarrelProcessor$Reader"
def TX9 : u_T := fun k => match k with
  | 0 => ("BarrelProcessor$Reader", "source", "Ljava/lang/CharSequence;", true)
  | 1 => ("BarrelProcessor$Reader", "instructions", "Ljava/util/List;", true)
  | 2 => ("BarrelProcessor$Reader", "place", "I", false)
  | 3 => ("BarrelProcessor$Reader", "isWrong", "Z", false)
  | _ => ("BarrelProcessor$Reader", "this$0", "LBarrelProcessor;", true)
def tyX9 : Nat → FieldType := fun k => match k with
  | 0 => .object "java/lang/CharSequence"
  | 1 => .object "java/util/List"
  | 2 => .int
  | 3 => .boolean
  | _ => .object "BarrelProcessor"
abbrev wsX90 : List Cond := u_ws RX9 TX9 5
theorem nmX9 : ∀ a, a < 5 → ∀ b, b < 5 → a ≠ b → (TX9 a).2.1 ≠ (TX9 b).2.1 := by decide +kernel
theorem tyX9_ok : ∀ k, k < 5 → parseFieldDescriptor (TX9 k).2.2.1 = some (tyX9 k) := by decide +kernel
abbrev cX9_init : ByteArray := prog_9_method_1_code
def yX9_init : MethodName := ⟨RX9, "<init>", "(LBarrelProcessor;Ljava/lang/CharSequence;)V"⟩
def dkwX9_init_1 : List UInt8 := [181, 0, 22, 177]
abbrev dktX9_init_1 : List UInt8 := dkwX9_init_1 ++ []
def dkwX9_init_0 : List UInt8 := [42, 43, 181, 0, 3, 42, 183, 0, 9, 42, 187, 0, 15, 89, 183, 0, 17, 181, 0, 18, 42, 44]
abbrev dktX9_init_0 : List UInt8 := dkwX9_init_0 ++ dktX9_init_1
theorem dksX9_init_0 : cX9_init.data.toList.drop 0 = dktX9_init_0 := by decide +kernel
theorem dksX9_init_1 : cX9_init.data.toList.drop 22 = dktX9_init_1 := dk_seg dksX9_init_0 22 rfl rfl
theorem dX9_init_0 : decode cX9_init 0 = .ok (.aload_n 0, 1) := dk_42 (dk_at dksX9_init_0 0 rfl rfl)
theorem dX9_init_1 : decode cX9_init 1 = .ok (.aload_n 1, 1) := dk_43 (dk_at dksX9_init_0 1 rfl rfl)
theorem dX9_init_2 : decode cX9_init 2 = .ok (.putfield 3, 3) := dk_181 0 3 (dk_at dksX9_init_0 2 rfl rfl)
theorem dX9_init_5 : decode cX9_init 5 = .ok (.aload_n 0, 1) := dk_42 (dk_at dksX9_init_0 5 rfl rfl)
theorem dX9_init_6 : decode cX9_init 6 = .ok (.invokespecial 9, 3) := dk_183 0 9 (dk_at dksX9_init_0 6 rfl rfl)
theorem dX9_init_9 : decode cX9_init 9 = .ok (.aload_n 0, 1) := dk_42 (dk_at dksX9_init_0 9 rfl rfl)
theorem dX9_init_10 : decode cX9_init 10 = .ok (.new 15, 3) := dk_187 0 15 (dk_at dksX9_init_0 10 rfl rfl)
theorem dX9_init_13 : decode cX9_init 13 = .ok (.dup, 1) := dk_89 (dk_at dksX9_init_0 13 rfl rfl)
theorem dX9_init_14 : decode cX9_init 14 = .ok (.invokespecial 17, 3) := dk_183 0 17 (dk_at dksX9_init_0 14 rfl rfl)
theorem dX9_init_17 : decode cX9_init 17 = .ok (.putfield 18, 3) := dk_181 0 18 (dk_at dksX9_init_0 17 rfl rfl)
theorem dX9_init_20 : decode cX9_init 20 = .ok (.aload_n 0, 1) := dk_42 (dk_at dksX9_init_0 20 rfl rfl)
theorem dX9_init_21 : decode cX9_init 21 = .ok (.aload_n 2, 1) := dk_44 (dk_at dksX9_init_0 21 rfl rfl)
theorem dX9_init_22 : decode cX9_init 22 = .ok (.putfield 22, 3) := dk_181 0 22 (dk_at dksX9_init_1 0 rfl rfl)
theorem dX9_init_25 : decode cX9_init 25 = .ok (.return_, 1) := dk_177 (dk_at dksX9_init_1 3 rfl rfl)
abbrev cX9_isText : ByteArray := prog_9_method_11_code
def yX9_isText : MethodName := ⟨RX9, "isText", "()Z"⟩
def dkwX9_isText_3 : List UInt8 := [180, 0, 40, 154, 0, 7, 4, 167, 0, 4, 3, 172]
abbrev dktX9_isText_3 : List UInt8 := dkwX9_isText_3 ++ []
def dkwX9_isText_2 : List UInt8 := [180, 0, 40, 154, 255, 223, 42, 180, 0, 18, 42, 182, 0, 137, 185, 0, 141, 2, 0, 87, 167, 255, 206, 42]
abbrev dktX9_isText_2 : List UInt8 := dkwX9_isText_2 ++ dktX9_isText_3
def dkwX9_isText_1 : List UInt8 := [180, 0, 26, 42, 180, 0, 22, 185, 0, 30, 1, 0, 162, 0, 33, 42, 16, 59, 182, 0, 68, 42]
abbrev dktX9_isText_1 : List UInt8 := dkwX9_isText_1 ++ dktX9_isText_2
def dkwX9_isText_0 : List UInt8 := [42, 180, 0, 18, 42, 182, 0, 137, 185, 0, 141, 2, 0, 87, 42, 180, 0, 40, 154, 0, 49, 42]
abbrev dktX9_isText_0 : List UInt8 := dkwX9_isText_0 ++ dktX9_isText_1
theorem dksX9_isText_0 : cX9_isText.data.toList.drop 0 = dktX9_isText_0 := by decide +kernel
theorem dksX9_isText_1 : cX9_isText.data.toList.drop 22 = dktX9_isText_1 := dk_seg dksX9_isText_0 22 rfl rfl
theorem dksX9_isText_2 : cX9_isText.data.toList.drop 44 = dktX9_isText_2 := dk_seg dksX9_isText_1 22 rfl rfl
theorem dksX9_isText_3 : cX9_isText.data.toList.drop 68 = dktX9_isText_3 := dk_seg dksX9_isText_2 24 rfl rfl
theorem dX9_isText_0 : decode cX9_isText 0 = .ok (.aload_n 0, 1) := dk_42 (dk_at dksX9_isText_0 0 rfl rfl)
theorem dX9_isText_1 : decode cX9_isText 1 = .ok (.getfield 18, 3) := dk_180 0 18 (dk_at dksX9_isText_0 1 rfl rfl)
theorem dX9_isText_4 : decode cX9_isText 4 = .ok (.aload_n 0, 1) := dk_42 (dk_at dksX9_isText_0 4 rfl rfl)
theorem dX9_isText_5 : decode cX9_isText 5 = .ok (.invokevirtual 137, 3) := dk_182 0 137 (dk_at dksX9_isText_0 5 rfl rfl)
theorem dX9_isText_8 : decode cX9_isText 8 = .ok (.invokeinterface 141 2, 5) := by decide +kernel
theorem dX9_isText_13 : decode cX9_isText 13 = .ok (.pop, 1) := dk_87 (dk_at dksX9_isText_0 13 rfl rfl)
theorem dX9_isText_14 : decode cX9_isText 14 = .ok (.aload_n 0, 1) := dk_42 (dk_at dksX9_isText_0 14 rfl rfl)
theorem dX9_isText_15 : decode cX9_isText 15 = .ok (.getfield 40, 3) := dk_180 0 40 (dk_at dksX9_isText_0 15 rfl rfl)
theorem dX9_isText_18 : decode cX9_isText 18 = .ok (.ifCond .ne 49, 3) := dk_154 0 49 (dk_at dksX9_isText_0 18 rfl rfl)
theorem dX9_isText_21 : decode cX9_isText 21 = .ok (.aload_n 0, 1) := dk_42 (dk_at dksX9_isText_0 21 rfl rfl)
theorem dX9_isText_22 : decode cX9_isText 22 = .ok (.getfield 26, 3) := dk_180 0 26 (dk_at dksX9_isText_1 0 rfl rfl)
theorem dX9_isText_25 : decode cX9_isText 25 = .ok (.aload_n 0, 1) := dk_42 (dk_at dksX9_isText_1 3 rfl rfl)
theorem dX9_isText_26 : decode cX9_isText 26 = .ok (.getfield 22, 3) := dk_180 0 22 (dk_at dksX9_isText_1 4 rfl rfl)
theorem dX9_isText_29 : decode cX9_isText 29 = .ok (.invokeinterface 30 1, 5) := by decide +kernel
theorem dX9_isText_34 : decode cX9_isText 34 = .ok (.if_icmp .ge 33, 3) := dk_162 0 33 (dk_at dksX9_isText_1 12 rfl rfl)
theorem dX9_isText_37 : decode cX9_isText 37 = .ok (.aload_n 0, 1) := dk_42 (dk_at dksX9_isText_1 15 rfl rfl)
theorem dX9_isText_38 : decode cX9_isText 38 = .ok (.bipush 59, 2) := dk_16 59 (dk_at dksX9_isText_1 16 rfl rfl)
theorem dX9_isText_40 : decode cX9_isText 40 = .ok (.invokevirtual 68, 3) := dk_182 0 68 (dk_at dksX9_isText_1 18 rfl rfl)
theorem dX9_isText_43 : decode cX9_isText 43 = .ok (.aload_n 0, 1) := dk_42 (dk_at dksX9_isText_1 21 rfl rfl)
theorem dX9_isText_44 : decode cX9_isText 44 = .ok (.getfield 40, 3) := dk_180 0 40 (dk_at dksX9_isText_2 0 rfl rfl)
theorem dX9_isText_47 : decode cX9_isText 47 = .ok (.ifCond .ne (-33), 3) := dk_154 255 223 (dk_at dksX9_isText_2 3 rfl rfl)
theorem dX9_isText_50 : decode cX9_isText 50 = .ok (.aload_n 0, 1) := dk_42 (dk_at dksX9_isText_2 6 rfl rfl)
theorem dX9_isText_51 : decode cX9_isText 51 = .ok (.getfield 18, 3) := dk_180 0 18 (dk_at dksX9_isText_2 7 rfl rfl)
theorem dX9_isText_54 : decode cX9_isText 54 = .ok (.aload_n 0, 1) := dk_42 (dk_at dksX9_isText_2 10 rfl rfl)
theorem dX9_isText_55 : decode cX9_isText 55 = .ok (.invokevirtual 137, 3) := dk_182 0 137 (dk_at dksX9_isText_2 11 rfl rfl)
theorem dX9_isText_58 : decode cX9_isText 58 = .ok (.invokeinterface 141 2, 5) := by decide +kernel
theorem dX9_isText_63 : decode cX9_isText 63 = .ok (.pop, 1) := dk_87 (dk_at dksX9_isText_2 19 rfl rfl)
theorem dX9_isText_64 : decode cX9_isText 64 = .ok (.goto (-50), 3) := dk_167 255 206 (dk_at dksX9_isText_2 20 rfl rfl)
theorem dX9_isText_67 : decode cX9_isText 67 = .ok (.aload_n 0, 1) := dk_42 (dk_at dksX9_isText_2 23 rfl rfl)
theorem dX9_isText_68 : decode cX9_isText 68 = .ok (.getfield 40, 3) := dk_180 0 40 (dk_at dksX9_isText_3 0 rfl rfl)
theorem dX9_isText_71 : decode cX9_isText 71 = .ok (.ifCond .ne 7, 3) := dk_154 0 7 (dk_at dksX9_isText_3 3 rfl rfl)
theorem dX9_isText_74 : decode cX9_isText 74 = .ok (.iconst 1, 1) := dk_4 (dk_at dksX9_isText_3 6 rfl rfl)
theorem dX9_isText_75 : decode cX9_isText 75 = .ok (.goto 4, 3) := dk_167 0 4 (dk_at dksX9_isText_3 7 rfl rfl)
theorem dX9_isText_78 : decode cX9_isText 78 = .ok (.iconst 0, 1) := dk_3 (dk_at dksX9_isText_3 10 rfl rfl)
theorem dX9_isText_79 : decode cX9_isText 79 = .ok (.ireturn, 1) := dk_172 (dk_at dksX9_isText_3 11 rfl rfl)
abbrev cX9_instruction : ByteArray := prog_9_method_10_code
def yX9_instruction : MethodName := ⟨RX9, "instruction", "()LBarrelProcessor$Instruction;"⟩
def dkwX9_instruction_17 : List UInt8 := [4, 100, 181, 0, 26, 42, 180, 0, 3, 180, 0, 133, 176]
abbrev dktX9_instruction_17 : List UInt8 := dkwX9_instruction_17 ++ []
def dkwX9_instruction_16 : List UInt8 := [18, 132, 183, 0, 65, 176, 42, 180, 0, 3, 180, 0, 133, 176, 42, 4, 181, 0, 40, 42, 89, 180, 0, 26]
abbrev dktX9_instruction_16 : List UInt8 := dkwX9_instruction_16 ++ dktX9_instruction_17
def dkwX9_instruction_15 : List UInt8 := [16, 62, 182, 0, 124, 176, 42, 16, 9, 16, 62, 182, 0, 124, 176, 187, 0, 63, 89, 16, 10, 18, 132]
abbrev dktX9_instruction_15 : List UInt8 := dkwX9_instruction_15 ++ dktX9_instruction_16
def dkwX9_instruction_14 : List UInt8 := [187, 0, 63, 89, 16, 7, 42, 16, 48, 16, 47, 182, 0, 56, 18, 132, 183, 0, 65, 176, 42, 16, 8]
abbrev dktX9_instruction_14 : List UInt8 := dkwX9_instruction_14 ++ dktX9_instruction_15
def dkwX9_instruction_13 : List UInt8 := [182, 0, 128, 176, 42, 7, 182, 0, 128, 176, 42, 8, 182, 0, 128, 176, 42, 16, 6, 182, 0, 128, 176]
abbrev dktX9_instruction_13 : List UInt8 := dkwX9_instruction_13 ++ dktX9_instruction_14
def dkwX9_instruction_12 : List UInt8 := [42, 3, 16, 61, 182, 0, 124, 176, 42, 4, 182, 0, 128, 176, 42, 5, 182, 0, 128, 176, 42, 6]
abbrev dktX9_instruction_12 : List UInt8 := dkwX9_instruction_12 ++ dktX9_instruction_13
def dkwX9_instruction_11 : List UInt8 := [170, 0, 0, 0, 0, 0, 0, 169, 0, 0, 0, 0, 0, 0, 0, 11, 0, 0, 0, 64, 0, 0, 0, 72, 0, 0, 0, 78, 0, 0, 0, 84, 0, 0, 0, 90, 0, 0, 0, 96, 0, 0, 0, 102, 0, 0, 0, 109, 0, 0, 0, 129, 0, 0, 0, 138, 0, 0, 0, 147, 0, 0, 0, 161]
abbrev dktX9_instruction_11 : List UInt8 := dkwX9_instruction_11 ++ dktX9_instruction_12
def dkwX9_instruction_10 : List UInt8 := [153, 0, 6, 16, 11, 62, 29]
abbrev dktX9_instruction_10 : List UInt8 := dkwX9_instruction_10 ++ dktX9_instruction_11
def dkwX9_instruction_9 : List UInt8 := [167, 0, 30, 44, 18, 120, 182, 0, 98, 153, 0, 21, 16, 10, 62, 167, 0, 15, 44, 18, 122, 182, 0, 98]
abbrev dktX9_instruction_9 : List UInt8 := dkwX9_instruction_9 ++ dktX9_instruction_10
def dkwX9_instruction_8 : List UInt8 := [182, 0, 98, 153, 0, 51, 16, 8, 62, 167, 0, 45, 44, 18, 118, 182, 0, 98, 153, 0, 36, 16, 9, 62]
abbrev dktX9_instruction_8 : List UInt8 := dkwX9_instruction_8 ++ dktX9_instruction_9
def dkwX9_instruction_7 : List UInt8 := [62, 167, 0, 75, 44, 18, 114, 182, 0, 98, 153, 0, 66, 16, 7, 62, 167, 0, 60, 44, 18, 116]
abbrev dktX9_instruction_7 : List UInt8 := dkwX9_instruction_7 ++ dktX9_instruction_8
def dkwX9_instruction_6 : List UInt8 := [18, 110, 182, 0, 98, 153, 0, 95, 8, 62, 167, 0, 90, 44, 18, 112, 182, 0, 98, 153, 0, 81, 16, 6]
abbrev dktX9_instruction_6 : List UInt8 := dkwX9_instruction_6 ++ dktX9_instruction_7
def dkwX9_instruction_5 : List UInt8 := [153, 0, 123, 6, 62, 167, 0, 118, 44, 18, 108, 182, 0, 98, 153, 0, 109, 7, 62, 167, 0, 104, 44]
abbrev dktX9_instruction_5 : List UInt8 := dkwX9_instruction_5 ++ dktX9_instruction_6
def dkwX9_instruction_4 : List UInt8 := [62, 167, 0, 146, 44, 18, 104, 182, 0, 98, 153, 0, 137, 5, 62, 167, 0, 132, 44, 18, 106, 182, 0, 98]
abbrev dktX9_instruction_4 : List UInt8 := dkwX9_instruction_4 ++ dktX9_instruction_5
def dkwX9_instruction_3 : List UInt8 := [44, 18, 96, 182, 0, 98, 153, 0, 165, 3, 62, 167, 0, 160, 44, 18, 102, 182, 0, 98, 153, 0, 151, 4]
abbrev dktX9_instruction_3 : List UInt8 := dkwX9_instruction_3 ++ dktX9_instruction_4
def dkwX9_instruction_2 : List UInt8 := [170, 0, 0, 0, 0, 1, 34, 0, 0, 0, 97, 0, 0, 0, 122, 0, 0, 0, 133, 0, 0, 1, 7, 0, 0, 1, 34, 0, 0, 0, 147, 0, 0, 1, 34, 0, 0, 1, 34, 0, 0, 1, 34, 0, 0, 1, 22, 0, 0, 1, 34, 0, 0, 0, 218, 0, 0, 1, 34, 0, 0, 0, 175, 0, 0, 0, 161, 0, 0, 0, 248, 0, 0, 1, 34, 0, 0, 1, 34, 0, 0, 1, 34, 0, 0, 1, 34, 0, 0, 0, 119, 0, 0, 1, 34, 0, 0, 1, 34, 0, 0, 1, 34, 0, 0, 0, 189, 0, 0, 0, 203, 0, 0, 1, 34, 0, 0, 0, 233]
abbrev dktX9_instruction_2 : List UInt8 := dkwX9_instruction_2 ++ dktX9_instruction_3
def dkwX9_instruction_1 : List UInt8 := [89, 180, 0, 26, 4, 96, 181, 0, 26, 43, 77, 2, 62, 44, 182, 0, 91]
abbrev dktX9_instruction_1 : List UInt8 := dkwX9_instruction_1 ++ dktX9_instruction_2
def dkwX9_instruction_0 : List UInt8 := [187, 0, 75, 89, 183, 0, 77, 18, 78, 182, 0, 80, 42, 182, 0, 44, 182, 0, 84, 182, 0, 87, 76, 42]
abbrev dktX9_instruction_0 : List UInt8 := dkwX9_instruction_0 ++ dktX9_instruction_1
theorem dksX9_instruction_0 : cX9_instruction.data.toList.drop 0 = dktX9_instruction_0 := by decide +kernel
theorem dksX9_instruction_1 : cX9_instruction.data.toList.drop 24 = dktX9_instruction_1 := dk_seg dksX9_instruction_0 24 rfl rfl
theorem dksX9_instruction_2 : cX9_instruction.data.toList.drop 41 = dktX9_instruction_2 := dk_seg dksX9_instruction_1 17 rfl rfl
theorem dksX9_instruction_3 : cX9_instruction.data.toList.drop 160 = dktX9_instruction_3 := dk_seg dksX9_instruction_2 119 rfl rfl
theorem dksX9_instruction_4 : cX9_instruction.data.toList.drop 184 = dktX9_instruction_4 := dk_seg dksX9_instruction_3 24 rfl rfl
theorem dksX9_instruction_5 : cX9_instruction.data.toList.drop 208 = dktX9_instruction_5 := dk_seg dksX9_instruction_4 24 rfl rfl
theorem dksX9_instruction_6 : cX9_instruction.data.toList.drop 231 = dktX9_instruction_6 := dk_seg dksX9_instruction_5 23 rfl rfl
theorem dksX9_instruction_7 : cX9_instruction.data.toList.drop 255 = dktX9_instruction_7 := dk_seg dksX9_instruction_6 24 rfl rfl
theorem dksX9_instruction_8 : cX9_instruction.data.toList.drop 277 = dktX9_instruction_8 := dk_seg dksX9_instruction_7 22 rfl rfl
theorem dksX9_instruction_9 : cX9_instruction.data.toList.drop 301 = dktX9_instruction_9 := dk_seg dksX9_instruction_8 24 rfl rfl
theorem dksX9_instruction_10 : cX9_instruction.data.toList.drop 325 = dktX9_instruction_10 := dk_seg dksX9_instruction_9 24 rfl rfl
theorem dksX9_instruction_11 : cX9_instruction.data.toList.drop 332 = dktX9_instruction_11 := dk_seg dksX9_instruction_10 7 rfl rfl
theorem dksX9_instruction_12 : cX9_instruction.data.toList.drop 396 = dktX9_instruction_12 := dk_seg dksX9_instruction_11 64 rfl rfl
theorem dksX9_instruction_13 : cX9_instruction.data.toList.drop 418 = dktX9_instruction_13 := dk_seg dksX9_instruction_12 22 rfl rfl
theorem dksX9_instruction_14 : cX9_instruction.data.toList.drop 441 = dktX9_instruction_14 := dk_seg dksX9_instruction_13 23 rfl rfl
theorem dksX9_instruction_15 : cX9_instruction.data.toList.drop 464 = dktX9_instruction_15 := dk_seg dksX9_instruction_14 23 rfl rfl
theorem dksX9_instruction_16 : cX9_instruction.data.toList.drop 487 = dktX9_instruction_16 := dk_seg dksX9_instruction_15 23 rfl rfl
theorem dksX9_instruction_17 : cX9_instruction.data.toList.drop 511 = dktX9_instruction_17 := dk_seg dksX9_instruction_16 24 rfl rfl
theorem dX9_instruction_0 : decode cX9_instruction 0 = .ok (.new 75, 3) := dk_187 0 75 (dk_at dksX9_instruction_0 0 rfl rfl)
theorem dX9_instruction_3 : decode cX9_instruction 3 = .ok (.dup, 1) := dk_89 (dk_at dksX9_instruction_0 3 rfl rfl)
theorem dX9_instruction_4 : decode cX9_instruction 4 = .ok (.invokespecial 77, 3) := dk_183 0 77 (dk_at dksX9_instruction_0 4 rfl rfl)
theorem dX9_instruction_7 : decode cX9_instruction 7 = .ok (.ldc 78, 2) := dk_18 78 (dk_at dksX9_instruction_0 7 rfl rfl)
theorem dX9_instruction_9 : decode cX9_instruction 9 = .ok (.invokevirtual 80, 3) := dk_182 0 80 (dk_at dksX9_instruction_0 9 rfl rfl)
theorem dX9_instruction_12 : decode cX9_instruction 12 = .ok (.aload_n 0, 1) := dk_42 (dk_at dksX9_instruction_0 12 rfl rfl)
theorem dX9_instruction_13 : decode cX9_instruction 13 = .ok (.invokevirtual 44, 3) := dk_182 0 44 (dk_at dksX9_instruction_0 13 rfl rfl)
theorem dX9_instruction_16 : decode cX9_instruction 16 = .ok (.invokevirtual 84, 3) := dk_182 0 84 (dk_at dksX9_instruction_0 16 rfl rfl)
theorem dX9_instruction_19 : decode cX9_instruction 19 = .ok (.invokevirtual 87, 3) := dk_182 0 87 (dk_at dksX9_instruction_0 19 rfl rfl)
theorem dX9_instruction_22 : decode cX9_instruction 22 = .ok (.astore_n 1, 1) := dk_76 (dk_at dksX9_instruction_0 22 rfl rfl)
theorem dX9_instruction_23 : decode cX9_instruction 23 = .ok (.aload_n 0, 1) := dk_42 (dk_at dksX9_instruction_0 23 rfl rfl)
theorem dX9_instruction_24 : decode cX9_instruction 24 = .ok (.dup, 1) := dk_89 (dk_at dksX9_instruction_1 0 rfl rfl)
theorem dX9_instruction_25 : decode cX9_instruction 25 = .ok (.getfield 26, 3) := dk_180 0 26 (dk_at dksX9_instruction_1 1 rfl rfl)
theorem dX9_instruction_28 : decode cX9_instruction 28 = .ok (.iconst 1, 1) := dk_4 (dk_at dksX9_instruction_1 4 rfl rfl)
theorem dX9_instruction_29 : decode cX9_instruction 29 = .ok (.iadd, 1) := dk_96 (dk_at dksX9_instruction_1 5 rfl rfl)
theorem dX9_instruction_30 : decode cX9_instruction 30 = .ok (.putfield 26, 3) := dk_181 0 26 (dk_at dksX9_instruction_1 6 rfl rfl)
theorem dX9_instruction_33 : decode cX9_instruction 33 = .ok (.aload_n 1, 1) := dk_43 (dk_at dksX9_instruction_1 9 rfl rfl)
theorem dX9_instruction_34 : decode cX9_instruction 34 = .ok (.astore_n 2, 1) := dk_77 (dk_at dksX9_instruction_1 10 rfl rfl)
theorem dX9_instruction_35 : decode cX9_instruction 35 = .ok (.iconst (-1), 1) := dk_2 (dk_at dksX9_instruction_1 11 rfl rfl)
theorem dX9_instruction_36 : decode cX9_instruction 36 = .ok (.istore_n 3, 1) := dk_62 (dk_at dksX9_instruction_1 12 rfl rfl)
theorem dX9_instruction_37 : decode cX9_instruction 37 = .ok (.aload_n 2, 1) := dk_44 (dk_at dksX9_instruction_1 13 rfl rfl)
theorem dX9_instruction_38 : decode cX9_instruction 38 = .ok (.invokevirtual 91, 3) := dk_182 0 91 (dk_at dksX9_instruction_1 14 rfl rfl)
theorem dX9_instruction_41 : decode cX9_instruction 41 = .ok (.tableswitch 290 97 122 #[133, 263, 290, 147, 290, 290, 290, 278, 290, 218, 290, 175, 161, 248, 290, 290, 290, 290, 119, 290, 290, 290, 189, 203, 290, 233], 119) := by decide +kernel
theorem dX9_instruction_160 : decode cX9_instruction 160 = .ok (.aload_n 2, 1) := dk_44 (dk_at dksX9_instruction_3 0 rfl rfl)
theorem dX9_instruction_161 : decode cX9_instruction 161 = .ok (.ldc 96, 2) := dk_18 96 (dk_at dksX9_instruction_3 1 rfl rfl)
theorem dX9_instruction_163 : decode cX9_instruction 163 = .ok (.invokevirtual 98, 3) := dk_182 0 98 (dk_at dksX9_instruction_3 3 rfl rfl)
theorem dX9_instruction_166 : decode cX9_instruction 166 = .ok (.ifCond .eq 165, 3) := dk_153 0 165 (dk_at dksX9_instruction_3 6 rfl rfl)
theorem dX9_instruction_169 : decode cX9_instruction 169 = .ok (.iconst 0, 1) := dk_3 (dk_at dksX9_instruction_3 9 rfl rfl)
theorem dX9_instruction_170 : decode cX9_instruction 170 = .ok (.istore_n 3, 1) := dk_62 (dk_at dksX9_instruction_3 10 rfl rfl)
theorem dX9_instruction_171 : decode cX9_instruction 171 = .ok (.goto 160, 3) := dk_167 0 160 (dk_at dksX9_instruction_3 11 rfl rfl)
theorem dX9_instruction_174 : decode cX9_instruction 174 = .ok (.aload_n 2, 1) := dk_44 (dk_at dksX9_instruction_3 14 rfl rfl)
theorem dX9_instruction_175 : decode cX9_instruction 175 = .ok (.ldc 102, 2) := dk_18 102 (dk_at dksX9_instruction_3 15 rfl rfl)
theorem dX9_instruction_177 : decode cX9_instruction 177 = .ok (.invokevirtual 98, 3) := dk_182 0 98 (dk_at dksX9_instruction_3 17 rfl rfl)
theorem dX9_instruction_180 : decode cX9_instruction 180 = .ok (.ifCond .eq 151, 3) := dk_153 0 151 (dk_at dksX9_instruction_3 20 rfl rfl)
theorem dX9_instruction_183 : decode cX9_instruction 183 = .ok (.iconst 1, 1) := dk_4 (dk_at dksX9_instruction_3 23 rfl rfl)
theorem dX9_instruction_184 : decode cX9_instruction 184 = .ok (.istore_n 3, 1) := dk_62 (dk_at dksX9_instruction_4 0 rfl rfl)
theorem dX9_instruction_185 : decode cX9_instruction 185 = .ok (.goto 146, 3) := dk_167 0 146 (dk_at dksX9_instruction_4 1 rfl rfl)
theorem dX9_instruction_188 : decode cX9_instruction 188 = .ok (.aload_n 2, 1) := dk_44 (dk_at dksX9_instruction_4 4 rfl rfl)
theorem dX9_instruction_189 : decode cX9_instruction 189 = .ok (.ldc 104, 2) := dk_18 104 (dk_at dksX9_instruction_4 5 rfl rfl)
theorem dX9_instruction_191 : decode cX9_instruction 191 = .ok (.invokevirtual 98, 3) := dk_182 0 98 (dk_at dksX9_instruction_4 7 rfl rfl)
theorem dX9_instruction_194 : decode cX9_instruction 194 = .ok (.ifCond .eq 137, 3) := dk_153 0 137 (dk_at dksX9_instruction_4 10 rfl rfl)
theorem dX9_instruction_197 : decode cX9_instruction 197 = .ok (.iconst 2, 1) := dk_5 (dk_at dksX9_instruction_4 13 rfl rfl)
theorem dX9_instruction_198 : decode cX9_instruction 198 = .ok (.istore_n 3, 1) := dk_62 (dk_at dksX9_instruction_4 14 rfl rfl)
theorem dX9_instruction_199 : decode cX9_instruction 199 = .ok (.goto 132, 3) := dk_167 0 132 (dk_at dksX9_instruction_4 15 rfl rfl)
theorem dX9_instruction_202 : decode cX9_instruction 202 = .ok (.aload_n 2, 1) := dk_44 (dk_at dksX9_instruction_4 18 rfl rfl)
theorem dX9_instruction_203 : decode cX9_instruction 203 = .ok (.ldc 106, 2) := dk_18 106 (dk_at dksX9_instruction_4 19 rfl rfl)
theorem dX9_instruction_205 : decode cX9_instruction 205 = .ok (.invokevirtual 98, 3) := dk_182 0 98 (dk_at dksX9_instruction_4 21 rfl rfl)
theorem dX9_instruction_208 : decode cX9_instruction 208 = .ok (.ifCond .eq 123, 3) := dk_153 0 123 (dk_at dksX9_instruction_5 0 rfl rfl)
theorem dX9_instruction_211 : decode cX9_instruction 211 = .ok (.iconst 3, 1) := dk_6 (dk_at dksX9_instruction_5 3 rfl rfl)
theorem dX9_instruction_212 : decode cX9_instruction 212 = .ok (.istore_n 3, 1) := dk_62 (dk_at dksX9_instruction_5 4 rfl rfl)
theorem dX9_instruction_213 : decode cX9_instruction 213 = .ok (.goto 118, 3) := dk_167 0 118 (dk_at dksX9_instruction_5 5 rfl rfl)
theorem dX9_instruction_216 : decode cX9_instruction 216 = .ok (.aload_n 2, 1) := dk_44 (dk_at dksX9_instruction_5 8 rfl rfl)
theorem dX9_instruction_217 : decode cX9_instruction 217 = .ok (.ldc 108, 2) := dk_18 108 (dk_at dksX9_instruction_5 9 rfl rfl)
theorem dX9_instruction_219 : decode cX9_instruction 219 = .ok (.invokevirtual 98, 3) := dk_182 0 98 (dk_at dksX9_instruction_5 11 rfl rfl)
theorem dX9_instruction_222 : decode cX9_instruction 222 = .ok (.ifCond .eq 109, 3) := dk_153 0 109 (dk_at dksX9_instruction_5 14 rfl rfl)
theorem dX9_instruction_225 : decode cX9_instruction 225 = .ok (.iconst 4, 1) := dk_7 (dk_at dksX9_instruction_5 17 rfl rfl)
theorem dX9_instruction_226 : decode cX9_instruction 226 = .ok (.istore_n 3, 1) := dk_62 (dk_at dksX9_instruction_5 18 rfl rfl)
theorem dX9_instruction_227 : decode cX9_instruction 227 = .ok (.goto 104, 3) := dk_167 0 104 (dk_at dksX9_instruction_5 19 rfl rfl)
theorem dX9_instruction_230 : decode cX9_instruction 230 = .ok (.aload_n 2, 1) := dk_44 (dk_at dksX9_instruction_5 22 rfl rfl)
theorem dX9_instruction_231 : decode cX9_instruction 231 = .ok (.ldc 110, 2) := dk_18 110 (dk_at dksX9_instruction_6 0 rfl rfl)
theorem dX9_instruction_233 : decode cX9_instruction 233 = .ok (.invokevirtual 98, 3) := dk_182 0 98 (dk_at dksX9_instruction_6 2 rfl rfl)
theorem dX9_instruction_236 : decode cX9_instruction 236 = .ok (.ifCond .eq 95, 3) := dk_153 0 95 (dk_at dksX9_instruction_6 5 rfl rfl)
theorem dX9_instruction_239 : decode cX9_instruction 239 = .ok (.iconst 5, 1) := dk_8 (dk_at dksX9_instruction_6 8 rfl rfl)
theorem dX9_instruction_240 : decode cX9_instruction 240 = .ok (.istore_n 3, 1) := dk_62 (dk_at dksX9_instruction_6 9 rfl rfl)
theorem dX9_instruction_241 : decode cX9_instruction 241 = .ok (.goto 90, 3) := dk_167 0 90 (dk_at dksX9_instruction_6 10 rfl rfl)
theorem dX9_instruction_244 : decode cX9_instruction 244 = .ok (.aload_n 2, 1) := dk_44 (dk_at dksX9_instruction_6 13 rfl rfl)
theorem dX9_instruction_245 : decode cX9_instruction 245 = .ok (.ldc 112, 2) := dk_18 112 (dk_at dksX9_instruction_6 14 rfl rfl)
theorem dX9_instruction_247 : decode cX9_instruction 247 = .ok (.invokevirtual 98, 3) := dk_182 0 98 (dk_at dksX9_instruction_6 16 rfl rfl)
theorem dX9_instruction_250 : decode cX9_instruction 250 = .ok (.ifCond .eq 81, 3) := dk_153 0 81 (dk_at dksX9_instruction_6 19 rfl rfl)
theorem dX9_instruction_253 : decode cX9_instruction 253 = .ok (.bipush 6, 2) := dk_16 6 (dk_at dksX9_instruction_6 22 rfl rfl)
theorem dX9_instruction_255 : decode cX9_instruction 255 = .ok (.istore_n 3, 1) := dk_62 (dk_at dksX9_instruction_7 0 rfl rfl)
theorem dX9_instruction_256 : decode cX9_instruction 256 = .ok (.goto 75, 3) := dk_167 0 75 (dk_at dksX9_instruction_7 1 rfl rfl)
theorem dX9_instruction_259 : decode cX9_instruction 259 = .ok (.aload_n 2, 1) := dk_44 (dk_at dksX9_instruction_7 4 rfl rfl)
theorem dX9_instruction_260 : decode cX9_instruction 260 = .ok (.ldc 114, 2) := dk_18 114 (dk_at dksX9_instruction_7 5 rfl rfl)
theorem dX9_instruction_262 : decode cX9_instruction 262 = .ok (.invokevirtual 98, 3) := dk_182 0 98 (dk_at dksX9_instruction_7 7 rfl rfl)
theorem dX9_instruction_265 : decode cX9_instruction 265 = .ok (.ifCond .eq 66, 3) := dk_153 0 66 (dk_at dksX9_instruction_7 10 rfl rfl)
theorem dX9_instruction_268 : decode cX9_instruction 268 = .ok (.bipush 7, 2) := dk_16 7 (dk_at dksX9_instruction_7 13 rfl rfl)
theorem dX9_instruction_270 : decode cX9_instruction 270 = .ok (.istore_n 3, 1) := dk_62 (dk_at dksX9_instruction_7 15 rfl rfl)
theorem dX9_instruction_271 : decode cX9_instruction 271 = .ok (.goto 60, 3) := dk_167 0 60 (dk_at dksX9_instruction_7 16 rfl rfl)
theorem dX9_instruction_274 : decode cX9_instruction 274 = .ok (.aload_n 2, 1) := dk_44 (dk_at dksX9_instruction_7 19 rfl rfl)
theorem dX9_instruction_275 : decode cX9_instruction 275 = .ok (.ldc 116, 2) := dk_18 116 (dk_at dksX9_instruction_7 20 rfl rfl)
theorem dX9_instruction_277 : decode cX9_instruction 277 = .ok (.invokevirtual 98, 3) := dk_182 0 98 (dk_at dksX9_instruction_8 0 rfl rfl)
theorem dX9_instruction_280 : decode cX9_instruction 280 = .ok (.ifCond .eq 51, 3) := dk_153 0 51 (dk_at dksX9_instruction_8 3 rfl rfl)
theorem dX9_instruction_283 : decode cX9_instruction 283 = .ok (.bipush 8, 2) := dk_16 8 (dk_at dksX9_instruction_8 6 rfl rfl)
theorem dX9_instruction_285 : decode cX9_instruction 285 = .ok (.istore_n 3, 1) := dk_62 (dk_at dksX9_instruction_8 8 rfl rfl)
theorem dX9_instruction_286 : decode cX9_instruction 286 = .ok (.goto 45, 3) := dk_167 0 45 (dk_at dksX9_instruction_8 9 rfl rfl)
theorem dX9_instruction_289 : decode cX9_instruction 289 = .ok (.aload_n 2, 1) := dk_44 (dk_at dksX9_instruction_8 12 rfl rfl)
theorem dX9_instruction_290 : decode cX9_instruction 290 = .ok (.ldc 118, 2) := dk_18 118 (dk_at dksX9_instruction_8 13 rfl rfl)
theorem dX9_instruction_292 : decode cX9_instruction 292 = .ok (.invokevirtual 98, 3) := dk_182 0 98 (dk_at dksX9_instruction_8 15 rfl rfl)
theorem dX9_instruction_295 : decode cX9_instruction 295 = .ok (.ifCond .eq 36, 3) := dk_153 0 36 (dk_at dksX9_instruction_8 18 rfl rfl)
theorem dX9_instruction_298 : decode cX9_instruction 298 = .ok (.bipush 9, 2) := dk_16 9 (dk_at dksX9_instruction_8 21 rfl rfl)
theorem dX9_instruction_300 : decode cX9_instruction 300 = .ok (.istore_n 3, 1) := dk_62 (dk_at dksX9_instruction_8 23 rfl rfl)
theorem dX9_instruction_301 : decode cX9_instruction 301 = .ok (.goto 30, 3) := dk_167 0 30 (dk_at dksX9_instruction_9 0 rfl rfl)
theorem dX9_instruction_304 : decode cX9_instruction 304 = .ok (.aload_n 2, 1) := dk_44 (dk_at dksX9_instruction_9 3 rfl rfl)
theorem dX9_instruction_305 : decode cX9_instruction 305 = .ok (.ldc 120, 2) := dk_18 120 (dk_at dksX9_instruction_9 4 rfl rfl)
theorem dX9_instruction_307 : decode cX9_instruction 307 = .ok (.invokevirtual 98, 3) := dk_182 0 98 (dk_at dksX9_instruction_9 6 rfl rfl)
theorem dX9_instruction_310 : decode cX9_instruction 310 = .ok (.ifCond .eq 21, 3) := dk_153 0 21 (dk_at dksX9_instruction_9 9 rfl rfl)
theorem dX9_instruction_313 : decode cX9_instruction 313 = .ok (.bipush 10, 2) := dk_16 10 (dk_at dksX9_instruction_9 12 rfl rfl)
theorem dX9_instruction_315 : decode cX9_instruction 315 = .ok (.istore_n 3, 1) := dk_62 (dk_at dksX9_instruction_9 14 rfl rfl)
theorem dX9_instruction_316 : decode cX9_instruction 316 = .ok (.goto 15, 3) := dk_167 0 15 (dk_at dksX9_instruction_9 15 rfl rfl)
theorem dX9_instruction_319 : decode cX9_instruction 319 = .ok (.aload_n 2, 1) := dk_44 (dk_at dksX9_instruction_9 18 rfl rfl)
theorem dX9_instruction_320 : decode cX9_instruction 320 = .ok (.ldc 122, 2) := dk_18 122 (dk_at dksX9_instruction_9 19 rfl rfl)
theorem dX9_instruction_322 : decode cX9_instruction 322 = .ok (.invokevirtual 98, 3) := dk_182 0 98 (dk_at dksX9_instruction_9 21 rfl rfl)
theorem dX9_instruction_325 : decode cX9_instruction 325 = .ok (.ifCond .eq 6, 3) := dk_153 0 6 (dk_at dksX9_instruction_10 0 rfl rfl)
theorem dX9_instruction_328 : decode cX9_instruction 328 = .ok (.bipush 11, 2) := dk_16 11 (dk_at dksX9_instruction_10 3 rfl rfl)
theorem dX9_instruction_330 : decode cX9_instruction 330 = .ok (.istore_n 3, 1) := dk_62 (dk_at dksX9_instruction_10 5 rfl rfl)
theorem dX9_instruction_331 : decode cX9_instruction 331 = .ok (.iload_n 3, 1) := dk_29 (dk_at dksX9_instruction_10 6 rfl rfl)
theorem dX9_instruction_332 : decode cX9_instruction 332 = .ok (.tableswitch 169 0 11 #[64, 72, 78, 84, 90, 96, 102, 109, 129, 138, 147, 161], 64) := by decide +kernel
theorem dX9_instruction_396 : decode cX9_instruction 396 = .ok (.aload_n 0, 1) := dk_42 (dk_at dksX9_instruction_12 0 rfl rfl)
theorem dX9_instruction_397 : decode cX9_instruction 397 = .ok (.iconst 0, 1) := dk_3 (dk_at dksX9_instruction_12 1 rfl rfl)
theorem dX9_instruction_398 : decode cX9_instruction 398 = .ok (.bipush 61, 2) := dk_16 61 (dk_at dksX9_instruction_12 2 rfl rfl)
theorem dX9_instruction_400 : decode cX9_instruction 400 = .ok (.invokevirtual 124, 3) := dk_182 0 124 (dk_at dksX9_instruction_12 4 rfl rfl)
theorem dX9_instruction_403 : decode cX9_instruction 403 = .ok (.areturn, 1) := dk_176 (dk_at dksX9_instruction_12 7 rfl rfl)
theorem dX9_instruction_404 : decode cX9_instruction 404 = .ok (.aload_n 0, 1) := dk_42 (dk_at dksX9_instruction_12 8 rfl rfl)
theorem dX9_instruction_405 : decode cX9_instruction 405 = .ok (.iconst 1, 1) := dk_4 (dk_at dksX9_instruction_12 9 rfl rfl)
theorem dX9_instruction_406 : decode cX9_instruction 406 = .ok (.invokevirtual 128, 3) := dk_182 0 128 (dk_at dksX9_instruction_12 10 rfl rfl)
theorem dX9_instruction_409 : decode cX9_instruction 409 = .ok (.areturn, 1) := dk_176 (dk_at dksX9_instruction_12 13 rfl rfl)
theorem dX9_instruction_410 : decode cX9_instruction 410 = .ok (.aload_n 0, 1) := dk_42 (dk_at dksX9_instruction_12 14 rfl rfl)
theorem dX9_instruction_411 : decode cX9_instruction 411 = .ok (.iconst 2, 1) := dk_5 (dk_at dksX9_instruction_12 15 rfl rfl)
theorem dX9_instruction_412 : decode cX9_instruction 412 = .ok (.invokevirtual 128, 3) := dk_182 0 128 (dk_at dksX9_instruction_12 16 rfl rfl)
theorem dX9_instruction_415 : decode cX9_instruction 415 = .ok (.areturn, 1) := dk_176 (dk_at dksX9_instruction_12 19 rfl rfl)
theorem dX9_instruction_416 : decode cX9_instruction 416 = .ok (.aload_n 0, 1) := dk_42 (dk_at dksX9_instruction_12 20 rfl rfl)
theorem dX9_instruction_417 : decode cX9_instruction 417 = .ok (.iconst 3, 1) := dk_6 (dk_at dksX9_instruction_12 21 rfl rfl)
theorem dX9_instruction_418 : decode cX9_instruction 418 = .ok (.invokevirtual 128, 3) := dk_182 0 128 (dk_at dksX9_instruction_13 0 rfl rfl)
theorem dX9_instruction_421 : decode cX9_instruction 421 = .ok (.areturn, 1) := dk_176 (dk_at dksX9_instruction_13 3 rfl rfl)
theorem dX9_instruction_422 : decode cX9_instruction 422 = .ok (.aload_n 0, 1) := dk_42 (dk_at dksX9_instruction_13 4 rfl rfl)
theorem dX9_instruction_423 : decode cX9_instruction 423 = .ok (.iconst 4, 1) := dk_7 (dk_at dksX9_instruction_13 5 rfl rfl)
theorem dX9_instruction_424 : decode cX9_instruction 424 = .ok (.invokevirtual 128, 3) := dk_182 0 128 (dk_at dksX9_instruction_13 6 rfl rfl)
theorem dX9_instruction_427 : decode cX9_instruction 427 = .ok (.areturn, 1) := dk_176 (dk_at dksX9_instruction_13 9 rfl rfl)
theorem dX9_instruction_428 : decode cX9_instruction 428 = .ok (.aload_n 0, 1) := dk_42 (dk_at dksX9_instruction_13 10 rfl rfl)
theorem dX9_instruction_429 : decode cX9_instruction 429 = .ok (.iconst 5, 1) := dk_8 (dk_at dksX9_instruction_13 11 rfl rfl)
theorem dX9_instruction_430 : decode cX9_instruction 430 = .ok (.invokevirtual 128, 3) := dk_182 0 128 (dk_at dksX9_instruction_13 12 rfl rfl)
theorem dX9_instruction_433 : decode cX9_instruction 433 = .ok (.areturn, 1) := dk_176 (dk_at dksX9_instruction_13 15 rfl rfl)
theorem dX9_instruction_434 : decode cX9_instruction 434 = .ok (.aload_n 0, 1) := dk_42 (dk_at dksX9_instruction_13 16 rfl rfl)
theorem dX9_instruction_435 : decode cX9_instruction 435 = .ok (.bipush 6, 2) := dk_16 6 (dk_at dksX9_instruction_13 17 rfl rfl)
theorem dX9_instruction_437 : decode cX9_instruction 437 = .ok (.invokevirtual 128, 3) := dk_182 0 128 (dk_at dksX9_instruction_13 19 rfl rfl)
theorem dX9_instruction_440 : decode cX9_instruction 440 = .ok (.areturn, 1) := dk_176 (dk_at dksX9_instruction_13 22 rfl rfl)
theorem dX9_instruction_441 : decode cX9_instruction 441 = .ok (.new 63, 3) := dk_187 0 63 (dk_at dksX9_instruction_14 0 rfl rfl)
theorem dX9_instruction_444 : decode cX9_instruction 444 = .ok (.dup, 1) := dk_89 (dk_at dksX9_instruction_14 3 rfl rfl)
theorem dX9_instruction_445 : decode cX9_instruction 445 = .ok (.bipush 7, 2) := dk_16 7 (dk_at dksX9_instruction_14 4 rfl rfl)
theorem dX9_instruction_447 : decode cX9_instruction 447 = .ok (.aload_n 0, 1) := dk_42 (dk_at dksX9_instruction_14 6 rfl rfl)
theorem dX9_instruction_448 : decode cX9_instruction 448 = .ok (.bipush 48, 2) := dk_16 48 (dk_at dksX9_instruction_14 7 rfl rfl)
theorem dX9_instruction_450 : decode cX9_instruction 450 = .ok (.bipush 47, 2) := dk_16 47 (dk_at dksX9_instruction_14 9 rfl rfl)
theorem dX9_instruction_452 : decode cX9_instruction 452 = .ok (.invokevirtual 56, 3) := dk_182 0 56 (dk_at dksX9_instruction_14 11 rfl rfl)
theorem dX9_instruction_455 : decode cX9_instruction 455 = .ok (.ldc 132, 2) := dk_18 132 (dk_at dksX9_instruction_14 14 rfl rfl)
theorem dX9_instruction_457 : decode cX9_instruction 457 = .ok (.invokespecial 65, 3) := dk_183 0 65 (dk_at dksX9_instruction_14 16 rfl rfl)
theorem dX9_instruction_460 : decode cX9_instruction 460 = .ok (.areturn, 1) := dk_176 (dk_at dksX9_instruction_14 19 rfl rfl)
theorem dX9_instruction_461 : decode cX9_instruction 461 = .ok (.aload_n 0, 1) := dk_42 (dk_at dksX9_instruction_14 20 rfl rfl)
theorem dX9_instruction_462 : decode cX9_instruction 462 = .ok (.bipush 8, 2) := dk_16 8 (dk_at dksX9_instruction_14 21 rfl rfl)
theorem dX9_instruction_464 : decode cX9_instruction 464 = .ok (.bipush 62, 2) := dk_16 62 (dk_at dksX9_instruction_15 0 rfl rfl)
theorem dX9_instruction_466 : decode cX9_instruction 466 = .ok (.invokevirtual 124, 3) := dk_182 0 124 (dk_at dksX9_instruction_15 2 rfl rfl)
theorem dX9_instruction_469 : decode cX9_instruction 469 = .ok (.areturn, 1) := dk_176 (dk_at dksX9_instruction_15 5 rfl rfl)
theorem dX9_instruction_470 : decode cX9_instruction 470 = .ok (.aload_n 0, 1) := dk_42 (dk_at dksX9_instruction_15 6 rfl rfl)
theorem dX9_instruction_471 : decode cX9_instruction 471 = .ok (.bipush 9, 2) := dk_16 9 (dk_at dksX9_instruction_15 7 rfl rfl)
theorem dX9_instruction_473 : decode cX9_instruction 473 = .ok (.bipush 62, 2) := dk_16 62 (dk_at dksX9_instruction_15 9 rfl rfl)
theorem dX9_instruction_475 : decode cX9_instruction 475 = .ok (.invokevirtual 124, 3) := dk_182 0 124 (dk_at dksX9_instruction_15 11 rfl rfl)
theorem dX9_instruction_478 : decode cX9_instruction 478 = .ok (.areturn, 1) := dk_176 (dk_at dksX9_instruction_15 14 rfl rfl)
theorem dX9_instruction_479 : decode cX9_instruction 479 = .ok (.new 63, 3) := dk_187 0 63 (dk_at dksX9_instruction_15 15 rfl rfl)
theorem dX9_instruction_482 : decode cX9_instruction 482 = .ok (.dup, 1) := dk_89 (dk_at dksX9_instruction_15 18 rfl rfl)
theorem dX9_instruction_483 : decode cX9_instruction 483 = .ok (.bipush 10, 2) := dk_16 10 (dk_at dksX9_instruction_15 19 rfl rfl)
theorem dX9_instruction_485 : decode cX9_instruction 485 = .ok (.ldc 132, 2) := dk_18 132 (dk_at dksX9_instruction_15 21 rfl rfl)
theorem dX9_instruction_487 : decode cX9_instruction 487 = .ok (.ldc 132, 2) := dk_18 132 (dk_at dksX9_instruction_16 0 rfl rfl)
theorem dX9_instruction_489 : decode cX9_instruction 489 = .ok (.invokespecial 65, 3) := dk_183 0 65 (dk_at dksX9_instruction_16 2 rfl rfl)
theorem dX9_instruction_492 : decode cX9_instruction 492 = .ok (.areturn, 1) := dk_176 (dk_at dksX9_instruction_16 5 rfl rfl)
theorem dX9_instruction_493 : decode cX9_instruction 493 = .ok (.aload_n 0, 1) := dk_42 (dk_at dksX9_instruction_16 6 rfl rfl)
theorem dX9_instruction_494 : decode cX9_instruction 494 = .ok (.getfield 3, 3) := dk_180 0 3 (dk_at dksX9_instruction_16 7 rfl rfl)
theorem dX9_instruction_497 : decode cX9_instruction 497 = .ok (.getfield 133, 3) := dk_180 0 133 (dk_at dksX9_instruction_16 10 rfl rfl)
theorem dX9_instruction_500 : decode cX9_instruction 500 = .ok (.areturn, 1) := dk_176 (dk_at dksX9_instruction_16 13 rfl rfl)
theorem dX9_instruction_501 : decode cX9_instruction 501 = .ok (.aload_n 0, 1) := dk_42 (dk_at dksX9_instruction_16 14 rfl rfl)
theorem dX9_instruction_502 : decode cX9_instruction 502 = .ok (.iconst 1, 1) := dk_4 (dk_at dksX9_instruction_16 15 rfl rfl)
theorem dX9_instruction_503 : decode cX9_instruction 503 = .ok (.putfield 40, 3) := dk_181 0 40 (dk_at dksX9_instruction_16 16 rfl rfl)
theorem dX9_instruction_506 : decode cX9_instruction 506 = .ok (.aload_n 0, 1) := dk_42 (dk_at dksX9_instruction_16 19 rfl rfl)
theorem dX9_instruction_507 : decode cX9_instruction 507 = .ok (.dup, 1) := dk_89 (dk_at dksX9_instruction_16 20 rfl rfl)
theorem dX9_instruction_508 : decode cX9_instruction 508 = .ok (.getfield 26, 3) := dk_180 0 26 (dk_at dksX9_instruction_16 21 rfl rfl)
theorem dX9_instruction_511 : decode cX9_instruction 511 = .ok (.iconst 1, 1) := dk_4 (dk_at dksX9_instruction_17 0 rfl rfl)
theorem dX9_instruction_512 : decode cX9_instruction 512 = .ok (.isub, 1) := dk_100 (dk_at dksX9_instruction_17 1 rfl rfl)
theorem dX9_instruction_513 : decode cX9_instruction 513 = .ok (.putfield 26, 3) := dk_181 0 26 (dk_at dksX9_instruction_17 2 rfl rfl)
theorem dX9_instruction_516 : decode cX9_instruction 516 = .ok (.aload_n 0, 1) := dk_42 (dk_at dksX9_instruction_17 5 rfl rfl)
theorem dX9_instruction_517 : decode cX9_instruction 517 = .ok (.getfield 3, 3) := dk_180 0 3 (dk_at dksX9_instruction_17 6 rfl rfl)
theorem dX9_instruction_520 : decode cX9_instruction 520 = .ok (.getfield 133, 3) := dk_180 0 133 (dk_at dksX9_instruction_17 9 rfl rfl)
theorem dX9_instruction_523 : decode cX9_instruction 523 = .ok (.areturn, 1) := dk_176 (dk_at dksX9_instruction_17 12 rfl rfl)
abbrev cX9_next : ByteArray := prog_9_method_2_code
def yX9_next : MethodName := ⟨RX9, "next", "()C"⟩
def dkwX9_next_1 : List UInt8 := [185, 0, 36, 2, 0, 167, 0, 4, 3, 172]
abbrev dktX9_next_1 : List UInt8 := dkwX9_next_1 ++ []
def dkwX9_next_0 : List UInt8 := [42, 180, 0, 26, 42, 180, 0, 22, 185, 0, 30, 1, 0, 162, 0, 19, 42, 180, 0, 22, 42, 180, 0, 26]
abbrev dktX9_next_0 : List UInt8 := dkwX9_next_0 ++ dktX9_next_1
theorem dksX9_next_0 : cX9_next.data.toList.drop 0 = dktX9_next_0 := by decide +kernel
theorem dksX9_next_1 : cX9_next.data.toList.drop 24 = dktX9_next_1 := dk_seg dksX9_next_0 24 rfl rfl
theorem dX9_next_0 : decode cX9_next 0 = .ok (.aload_n 0, 1) := dk_42 (dk_at dksX9_next_0 0 rfl rfl)
theorem dX9_next_1 : decode cX9_next 1 = .ok (.getfield 26, 3) := dk_180 0 26 (dk_at dksX9_next_0 1 rfl rfl)
theorem dX9_next_4 : decode cX9_next 4 = .ok (.aload_n 0, 1) := dk_42 (dk_at dksX9_next_0 4 rfl rfl)
theorem dX9_next_5 : decode cX9_next 5 = .ok (.getfield 22, 3) := dk_180 0 22 (dk_at dksX9_next_0 5 rfl rfl)
theorem dX9_next_8 : decode cX9_next 8 = .ok (.invokeinterface 30 1, 5) := by decide +kernel
theorem dX9_next_13 : decode cX9_next 13 = .ok (.if_icmp .ge 19, 3) := dk_162 0 19 (dk_at dksX9_next_0 13 rfl rfl)
theorem dX9_next_16 : decode cX9_next 16 = .ok (.aload_n 0, 1) := dk_42 (dk_at dksX9_next_0 16 rfl rfl)
theorem dX9_next_17 : decode cX9_next 17 = .ok (.getfield 22, 3) := dk_180 0 22 (dk_at dksX9_next_0 17 rfl rfl)
theorem dX9_next_20 : decode cX9_next 20 = .ok (.aload_n 0, 1) := dk_42 (dk_at dksX9_next_0 20 rfl rfl)
theorem dX9_next_21 : decode cX9_next 21 = .ok (.getfield 26, 3) := dk_180 0 26 (dk_at dksX9_next_0 21 rfl rfl)
theorem dX9_next_24 : decode cX9_next 24 = .ok (.invokeinterface 36 2, 5) := by decide +kernel
theorem dX9_next_29 : decode cX9_next 29 = .ok (.goto 4, 3) := dk_167 0 4 (dk_at dksX9_next_1 5 rfl rfl)
theorem dX9_next_32 : decode cX9_next 32 = .ok (.iconst 0, 1) := dk_3 (dk_at dksX9_next_1 8 rfl rfl)
theorem dX9_next_33 : decode cX9_next 33 = .ok (.ireturn, 1) := dk_172 (dk_at dksX9_next_1 9 rfl rfl)
abbrev cX9_withSign : ByteArray := prog_9_method_9_code
def yX9_withSign : MethodName := ⟨RX9, "withSign", "(IC)LBarrelProcessor$Instruction;"⟩
def dkwX9_withSign_1 : List UInt8 := [182, 0, 72, 167, 0, 11, 42, 16, 48, 16, 47, 182, 0, 56, 183, 0, 65, 176]
abbrev dktX9_withSign_1 : List UInt8 := dkwX9_withSign_1 ++ []
def dkwX9_withSign_0 : List UInt8 := [42, 182, 0, 60, 62, 42, 28, 182, 0, 68, 187, 0, 63, 89, 27, 29, 28, 16, 61, 160, 0, 10, 42]
abbrev dktX9_withSign_0 : List UInt8 := dkwX9_withSign_0 ++ dktX9_withSign_1
theorem dksX9_withSign_0 : cX9_withSign.data.toList.drop 0 = dktX9_withSign_0 := by decide +kernel
theorem dksX9_withSign_1 : cX9_withSign.data.toList.drop 23 = dktX9_withSign_1 := dk_seg dksX9_withSign_0 23 rfl rfl
theorem dX9_withSign_0 : decode cX9_withSign 0 = .ok (.aload_n 0, 1) := dk_42 (dk_at dksX9_withSign_0 0 rfl rfl)
theorem dX9_withSign_1 : decode cX9_withSign 1 = .ok (.invokevirtual 60, 3) := dk_182 0 60 (dk_at dksX9_withSign_0 1 rfl rfl)
theorem dX9_withSign_4 : decode cX9_withSign 4 = .ok (.istore_n 3, 1) := dk_62 (dk_at dksX9_withSign_0 4 rfl rfl)
theorem dX9_withSign_5 : decode cX9_withSign 5 = .ok (.aload_n 0, 1) := dk_42 (dk_at dksX9_withSign_0 5 rfl rfl)
theorem dX9_withSign_6 : decode cX9_withSign 6 = .ok (.iload_n 2, 1) := dk_28 (dk_at dksX9_withSign_0 6 rfl rfl)
theorem dX9_withSign_7 : decode cX9_withSign 7 = .ok (.invokevirtual 68, 3) := dk_182 0 68 (dk_at dksX9_withSign_0 7 rfl rfl)
theorem dX9_withSign_10 : decode cX9_withSign 10 = .ok (.new 63, 3) := dk_187 0 63 (dk_at dksX9_withSign_0 10 rfl rfl)
theorem dX9_withSign_13 : decode cX9_withSign 13 = .ok (.dup, 1) := dk_89 (dk_at dksX9_withSign_0 13 rfl rfl)
theorem dX9_withSign_14 : decode cX9_withSign 14 = .ok (.iload_n 1, 1) := dk_27 (dk_at dksX9_withSign_0 14 rfl rfl)
theorem dX9_withSign_15 : decode cX9_withSign 15 = .ok (.iload_n 3, 1) := dk_29 (dk_at dksX9_withSign_0 15 rfl rfl)
theorem dX9_withSign_16 : decode cX9_withSign 16 = .ok (.iload_n 2, 1) := dk_28 (dk_at dksX9_withSign_0 16 rfl rfl)
theorem dX9_withSign_17 : decode cX9_withSign 17 = .ok (.bipush 61, 2) := dk_16 61 (dk_at dksX9_withSign_0 17 rfl rfl)
theorem dX9_withSign_19 : decode cX9_withSign 19 = .ok (.if_icmp .ne 10, 3) := dk_160 0 10 (dk_at dksX9_withSign_0 19 rfl rfl)
theorem dX9_withSign_22 : decode cX9_withSign 22 = .ok (.aload_n 0, 1) := dk_42 (dk_at dksX9_withSign_0 22 rfl rfl)
theorem dX9_withSign_23 : decode cX9_withSign 23 = .ok (.invokevirtual 72, 3) := dk_182 0 72 (dk_at dksX9_withSign_1 0 rfl rfl)
theorem dX9_withSign_26 : decode cX9_withSign 26 = .ok (.goto 11, 3) := dk_167 0 11 (dk_at dksX9_withSign_1 3 rfl rfl)
theorem dX9_withSign_29 : decode cX9_withSign 29 = .ok (.aload_n 0, 1) := dk_42 (dk_at dksX9_withSign_1 6 rfl rfl)
theorem dX9_withSign_30 : decode cX9_withSign 30 = .ok (.bipush 48, 2) := dk_16 48 (dk_at dksX9_withSign_1 7 rfl rfl)
theorem dX9_withSign_32 : decode cX9_withSign 32 = .ok (.bipush 47, 2) := dk_16 47 (dk_at dksX9_withSign_1 9 rfl rfl)
theorem dX9_withSign_34 : decode cX9_withSign 34 = .ok (.invokevirtual 56, 3) := dk_182 0 56 (dk_at dksX9_withSign_1 11 rfl rfl)
theorem dX9_withSign_37 : decode cX9_withSign 37 = .ok (.invokespecial 65, 3) := dk_183 0 65 (dk_at dksX9_withSign_1 14 rfl rfl)
theorem dX9_withSign_40 : decode cX9_withSign 40 = .ok (.areturn, 1) := dk_176 (dk_at dksX9_withSign_1 17 rfl rfl)
abbrev cX9_register : ByteArray := prog_9_method_5_code
def yX9_register : MethodName := ⟨RX9, "register", "()I"⟩
def dkwX9_register_0 : List UInt8 := [42, 16, 48, 16, 51, 182, 0, 52, 172]
abbrev dktX9_register_0 : List UInt8 := dkwX9_register_0 ++ []
theorem dksX9_register_0 : cX9_register.data.toList.drop 0 = dktX9_register_0 := by decide +kernel
theorem dX9_register_0 : decode cX9_register 0 = .ok (.aload_n 0, 1) := dk_42 (dk_at dksX9_register_0 0 rfl rfl)
theorem dX9_register_1 : decode cX9_register 1 = .ok (.bipush 48, 2) := dk_16 48 (dk_at dksX9_register_0 1 rfl rfl)
theorem dX9_register_3 : decode cX9_register 3 = .ok (.bipush 51, 2) := dk_16 51 (dk_at dksX9_register_0 3 rfl rfl)
theorem dX9_register_5 : decode cX9_register 5 = .ok (.invokevirtual 52, 3) := dk_182 0 52 (dk_at dksX9_register_0 5 rfl rfl)
theorem dX9_register_8 : decode cX9_register 8 = .ok (.ireturn, 1) := dk_172 (dk_at dksX9_register_0 8 rfl rfl)
abbrev cX9_digit : ByteArray := prog_9_method_4_code
def yX9_digit : MethodName := ⟨RX9, "digit", "(CC)I"⟩
def dkwX9_digit_2 : List UInt8 := [180, 0, 22, 42, 180, 0, 26, 4, 100, 185, 0, 36, 2, 0, 16, 48, 100, 172]
abbrev dktX9_digit_2 : List UInt8 := dkwX9_digit_2 ++ []
def dkwX9_digit_1 : List UInt8 := [3, 181, 0, 40, 42, 180, 0, 40, 153, 0, 5, 3, 172, 42, 89, 180, 0, 26, 4, 96, 181, 0, 26, 42]
abbrev dktX9_digit_1 : List UInt8 := dkwX9_digit_1 ++ dktX9_digit_2
def dkwX9_digit_0 : List UInt8 := [42, 42, 180, 0, 40, 154, 0, 15, 42, 182, 0, 44, 27, 28, 184, 0, 48, 154, 0, 7, 4, 167, 0, 4]
abbrev dktX9_digit_0 : List UInt8 := dkwX9_digit_0 ++ dktX9_digit_1
theorem dksX9_digit_0 : cX9_digit.data.toList.drop 0 = dktX9_digit_0 := by decide +kernel
theorem dksX9_digit_1 : cX9_digit.data.toList.drop 24 = dktX9_digit_1 := dk_seg dksX9_digit_0 24 rfl rfl
theorem dksX9_digit_2 : cX9_digit.data.toList.drop 48 = dktX9_digit_2 := dk_seg dksX9_digit_1 24 rfl rfl
theorem dX9_digit_0 : decode cX9_digit 0 = .ok (.aload_n 0, 1) := dk_42 (dk_at dksX9_digit_0 0 rfl rfl)
theorem dX9_digit_1 : decode cX9_digit 1 = .ok (.aload_n 0, 1) := dk_42 (dk_at dksX9_digit_0 1 rfl rfl)
theorem dX9_digit_2 : decode cX9_digit 2 = .ok (.getfield 40, 3) := dk_180 0 40 (dk_at dksX9_digit_0 2 rfl rfl)
theorem dX9_digit_5 : decode cX9_digit 5 = .ok (.ifCond .ne 15, 3) := dk_154 0 15 (dk_at dksX9_digit_0 5 rfl rfl)
theorem dX9_digit_8 : decode cX9_digit 8 = .ok (.aload_n 0, 1) := dk_42 (dk_at dksX9_digit_0 8 rfl rfl)
theorem dX9_digit_9 : decode cX9_digit 9 = .ok (.invokevirtual 44, 3) := dk_182 0 44 (dk_at dksX9_digit_0 9 rfl rfl)
theorem dX9_digit_12 : decode cX9_digit 12 = .ok (.iload_n 1, 1) := dk_27 (dk_at dksX9_digit_0 12 rfl rfl)
theorem dX9_digit_13 : decode cX9_digit 13 = .ok (.iload_n 2, 1) := dk_28 (dk_at dksX9_digit_0 13 rfl rfl)
theorem dX9_digit_14 : decode cX9_digit 14 = .ok (.invokestatic 48, 3) := dk_184 0 48 (dk_at dksX9_digit_0 14 rfl rfl)
theorem dX9_digit_17 : decode cX9_digit 17 = .ok (.ifCond .ne 7, 3) := dk_154 0 7 (dk_at dksX9_digit_0 17 rfl rfl)
theorem dX9_digit_20 : decode cX9_digit 20 = .ok (.iconst 1, 1) := dk_4 (dk_at dksX9_digit_0 20 rfl rfl)
theorem dX9_digit_21 : decode cX9_digit 21 = .ok (.goto 4, 3) := dk_167 0 4 (dk_at dksX9_digit_0 21 rfl rfl)
theorem dX9_digit_24 : decode cX9_digit 24 = .ok (.iconst 0, 1) := dk_3 (dk_at dksX9_digit_1 0 rfl rfl)
theorem dX9_digit_25 : decode cX9_digit 25 = .ok (.putfield 40, 3) := dk_181 0 40 (dk_at dksX9_digit_1 1 rfl rfl)
theorem dX9_digit_28 : decode cX9_digit 28 = .ok (.aload_n 0, 1) := dk_42 (dk_at dksX9_digit_1 4 rfl rfl)
theorem dX9_digit_29 : decode cX9_digit 29 = .ok (.getfield 40, 3) := dk_180 0 40 (dk_at dksX9_digit_1 5 rfl rfl)
theorem dX9_digit_32 : decode cX9_digit 32 = .ok (.ifCond .eq 5, 3) := dk_153 0 5 (dk_at dksX9_digit_1 8 rfl rfl)
theorem dX9_digit_35 : decode cX9_digit 35 = .ok (.iconst 0, 1) := dk_3 (dk_at dksX9_digit_1 11 rfl rfl)
theorem dX9_digit_36 : decode cX9_digit 36 = .ok (.ireturn, 1) := dk_172 (dk_at dksX9_digit_1 12 rfl rfl)
theorem dX9_digit_37 : decode cX9_digit 37 = .ok (.aload_n 0, 1) := dk_42 (dk_at dksX9_digit_1 13 rfl rfl)
theorem dX9_digit_38 : decode cX9_digit 38 = .ok (.dup, 1) := dk_89 (dk_at dksX9_digit_1 14 rfl rfl)
theorem dX9_digit_39 : decode cX9_digit 39 = .ok (.getfield 26, 3) := dk_180 0 26 (dk_at dksX9_digit_1 15 rfl rfl)
theorem dX9_digit_42 : decode cX9_digit 42 = .ok (.iconst 1, 1) := dk_4 (dk_at dksX9_digit_1 18 rfl rfl)
theorem dX9_digit_43 : decode cX9_digit 43 = .ok (.iadd, 1) := dk_96 (dk_at dksX9_digit_1 19 rfl rfl)
theorem dX9_digit_44 : decode cX9_digit 44 = .ok (.putfield 26, 3) := dk_181 0 26 (dk_at dksX9_digit_1 20 rfl rfl)
theorem dX9_digit_47 : decode cX9_digit 47 = .ok (.aload_n 0, 1) := dk_42 (dk_at dksX9_digit_1 23 rfl rfl)
theorem dX9_digit_48 : decode cX9_digit 48 = .ok (.getfield 22, 3) := dk_180 0 22 (dk_at dksX9_digit_2 0 rfl rfl)
theorem dX9_digit_51 : decode cX9_digit 51 = .ok (.aload_n 0, 1) := dk_42 (dk_at dksX9_digit_2 3 rfl rfl)
theorem dX9_digit_52 : decode cX9_digit 52 = .ok (.getfield 26, 3) := dk_180 0 26 (dk_at dksX9_digit_2 4 rfl rfl)
theorem dX9_digit_55 : decode cX9_digit 55 = .ok (.iconst 1, 1) := dk_4 (dk_at dksX9_digit_2 7 rfl rfl)
theorem dX9_digit_56 : decode cX9_digit 56 = .ok (.isub, 1) := dk_100 (dk_at dksX9_digit_2 8 rfl rfl)
theorem dX9_digit_57 : decode cX9_digit 57 = .ok (.invokeinterface 36 2, 5) := by decide +kernel
theorem dX9_digit_62 : decode cX9_digit 62 = .ok (.bipush 48, 2) := dk_16 48 (dk_at dksX9_digit_2 14 rfl rfl)
theorem dX9_digit_64 : decode cX9_digit 64 = .ok (.isub, 1) := dk_100 (dk_at dksX9_digit_2 16 rfl rfl)
theorem dX9_digit_65 : decode cX9_digit 65 = .ok (.ireturn, 1) := dk_172 (dk_at dksX9_digit_2 17 rfl rfl)
abbrev cX9_expect : ByteArray := prog_9_method_3_code
def yX9_expect : MethodName := ⟨RX9, "expect", "(C)V"⟩
def dkwX9_expect_1 : List UInt8 := [42, 89, 180, 0, 26, 42, 180, 0, 40, 153, 0, 7, 3, 167, 0, 4, 4, 96, 181, 0, 26, 177]
abbrev dktX9_expect_1 : List UInt8 := dkwX9_expect_1 ++ []
def dkwX9_expect_0 : List UInt8 := [42, 42, 180, 0, 40, 154, 0, 11, 42, 182, 0, 44, 27, 159, 0, 7, 4, 167, 0, 4, 3, 181, 0, 40]
abbrev dktX9_expect_0 : List UInt8 := dkwX9_expect_0 ++ dktX9_expect_1
theorem dksX9_expect_0 : cX9_expect.data.toList.drop 0 = dktX9_expect_0 := by decide +kernel
theorem dksX9_expect_1 : cX9_expect.data.toList.drop 24 = dktX9_expect_1 := dk_seg dksX9_expect_0 24 rfl rfl
theorem dX9_expect_0 : decode cX9_expect 0 = .ok (.aload_n 0, 1) := dk_42 (dk_at dksX9_expect_0 0 rfl rfl)
theorem dX9_expect_1 : decode cX9_expect 1 = .ok (.aload_n 0, 1) := dk_42 (dk_at dksX9_expect_0 1 rfl rfl)
theorem dX9_expect_2 : decode cX9_expect 2 = .ok (.getfield 40, 3) := dk_180 0 40 (dk_at dksX9_expect_0 2 rfl rfl)
theorem dX9_expect_5 : decode cX9_expect 5 = .ok (.ifCond .ne 11, 3) := dk_154 0 11 (dk_at dksX9_expect_0 5 rfl rfl)
theorem dX9_expect_8 : decode cX9_expect 8 = .ok (.aload_n 0, 1) := dk_42 (dk_at dksX9_expect_0 8 rfl rfl)
theorem dX9_expect_9 : decode cX9_expect 9 = .ok (.invokevirtual 44, 3) := dk_182 0 44 (dk_at dksX9_expect_0 9 rfl rfl)
theorem dX9_expect_12 : decode cX9_expect 12 = .ok (.iload_n 1, 1) := dk_27 (dk_at dksX9_expect_0 12 rfl rfl)
theorem dX9_expect_13 : decode cX9_expect 13 = .ok (.if_icmp .eq 7, 3) := dk_159 0 7 (dk_at dksX9_expect_0 13 rfl rfl)
theorem dX9_expect_16 : decode cX9_expect 16 = .ok (.iconst 1, 1) := dk_4 (dk_at dksX9_expect_0 16 rfl rfl)
theorem dX9_expect_17 : decode cX9_expect 17 = .ok (.goto 4, 3) := dk_167 0 4 (dk_at dksX9_expect_0 17 rfl rfl)
theorem dX9_expect_20 : decode cX9_expect 20 = .ok (.iconst 0, 1) := dk_3 (dk_at dksX9_expect_0 20 rfl rfl)
theorem dX9_expect_21 : decode cX9_expect 21 = .ok (.putfield 40, 3) := dk_181 0 40 (dk_at dksX9_expect_0 21 rfl rfl)
theorem dX9_expect_24 : decode cX9_expect 24 = .ok (.aload_n 0, 1) := dk_42 (dk_at dksX9_expect_1 0 rfl rfl)
theorem dX9_expect_25 : decode cX9_expect 25 = .ok (.dup, 1) := dk_89 (dk_at dksX9_expect_1 1 rfl rfl)
theorem dX9_expect_26 : decode cX9_expect 26 = .ok (.getfield 26, 3) := dk_180 0 26 (dk_at dksX9_expect_1 2 rfl rfl)
theorem dX9_expect_29 : decode cX9_expect 29 = .ok (.aload_n 0, 1) := dk_42 (dk_at dksX9_expect_1 5 rfl rfl)
theorem dX9_expect_30 : decode cX9_expect 30 = .ok (.getfield 40, 3) := dk_180 0 40 (dk_at dksX9_expect_1 6 rfl rfl)
theorem dX9_expect_33 : decode cX9_expect 33 = .ok (.ifCond .eq 7, 3) := dk_153 0 7 (dk_at dksX9_expect_1 9 rfl rfl)
theorem dX9_expect_36 : decode cX9_expect 36 = .ok (.iconst 0, 1) := dk_3 (dk_at dksX9_expect_1 12 rfl rfl)
theorem dX9_expect_37 : decode cX9_expect 37 = .ok (.goto 4, 3) := dk_167 0 4 (dk_at dksX9_expect_1 13 rfl rfl)
theorem dX9_expect_40 : decode cX9_expect 40 = .ok (.iconst 1, 1) := dk_4 (dk_at dksX9_expect_1 16 rfl rfl)
theorem dX9_expect_41 : decode cX9_expect 41 = .ok (.iadd, 1) := dk_96 (dk_at dksX9_expect_1 17 rfl rfl)
theorem dX9_expect_42 : decode cX9_expect 42 = .ok (.putfield 26, 3) := dk_181 0 26 (dk_at dksX9_expect_1 18 rfl rfl)
theorem dX9_expect_45 : decode cX9_expect 45 = .ok (.return_, 1) := dk_177 (dk_at dksX9_expect_1 21 rfl rfl)
abbrev cX9_signed : ByteArray := prog_9_method_7_code
def yX9_signed : MethodName := ⟨RX9, "signed", "()I"⟩
def dkwX9_signed_2 : List UInt8 := [167, 0, 5, 16, 48, 16, 99, 182, 0, 56, 61, 27, 153, 0, 8, 28, 116, 167, 0, 4, 28, 172]
abbrev dktX9_signed_2 : List UInt8 := dkwX9_signed_2 ++ []
def dkwX9_signed_1 : List UInt8 := [180, 0, 26, 27, 153, 0, 7, 4, 167, 0, 4, 3, 96, 181, 0, 26, 42, 27, 153, 0, 8, 16, 49]
abbrev dktX9_signed_1 : List UInt8 := dkwX9_signed_1 ++ dktX9_signed_2
def dkwX9_signed_0 : List UInt8 := [42, 180, 0, 40, 154, 0, 16, 42, 182, 0, 44, 16, 45, 160, 0, 7, 4, 167, 0, 4, 3, 60, 42, 89]
abbrev dktX9_signed_0 : List UInt8 := dkwX9_signed_0 ++ dktX9_signed_1
theorem dksX9_signed_0 : cX9_signed.data.toList.drop 0 = dktX9_signed_0 := by decide +kernel
theorem dksX9_signed_1 : cX9_signed.data.toList.drop 24 = dktX9_signed_1 := dk_seg dksX9_signed_0 24 rfl rfl
theorem dksX9_signed_2 : cX9_signed.data.toList.drop 47 = dktX9_signed_2 := dk_seg dksX9_signed_1 23 rfl rfl
theorem dX9_signed_0 : decode cX9_signed 0 = .ok (.aload_n 0, 1) := dk_42 (dk_at dksX9_signed_0 0 rfl rfl)
theorem dX9_signed_1 : decode cX9_signed 1 = .ok (.getfield 40, 3) := dk_180 0 40 (dk_at dksX9_signed_0 1 rfl rfl)
theorem dX9_signed_4 : decode cX9_signed 4 = .ok (.ifCond .ne 16, 3) := dk_154 0 16 (dk_at dksX9_signed_0 4 rfl rfl)
theorem dX9_signed_7 : decode cX9_signed 7 = .ok (.aload_n 0, 1) := dk_42 (dk_at dksX9_signed_0 7 rfl rfl)
theorem dX9_signed_8 : decode cX9_signed 8 = .ok (.invokevirtual 44, 3) := dk_182 0 44 (dk_at dksX9_signed_0 8 rfl rfl)
theorem dX9_signed_11 : decode cX9_signed 11 = .ok (.bipush 45, 2) := dk_16 45 (dk_at dksX9_signed_0 11 rfl rfl)
theorem dX9_signed_13 : decode cX9_signed 13 = .ok (.if_icmp .ne 7, 3) := dk_160 0 7 (dk_at dksX9_signed_0 13 rfl rfl)
theorem dX9_signed_16 : decode cX9_signed 16 = .ok (.iconst 1, 1) := dk_4 (dk_at dksX9_signed_0 16 rfl rfl)
theorem dX9_signed_17 : decode cX9_signed 17 = .ok (.goto 4, 3) := dk_167 0 4 (dk_at dksX9_signed_0 17 rfl rfl)
theorem dX9_signed_20 : decode cX9_signed 20 = .ok (.iconst 0, 1) := dk_3 (dk_at dksX9_signed_0 20 rfl rfl)
theorem dX9_signed_21 : decode cX9_signed 21 = .ok (.istore_n 1, 1) := dk_60 (dk_at dksX9_signed_0 21 rfl rfl)
theorem dX9_signed_22 : decode cX9_signed 22 = .ok (.aload_n 0, 1) := dk_42 (dk_at dksX9_signed_0 22 rfl rfl)
theorem dX9_signed_23 : decode cX9_signed 23 = .ok (.dup, 1) := dk_89 (dk_at dksX9_signed_0 23 rfl rfl)
theorem dX9_signed_24 : decode cX9_signed 24 = .ok (.getfield 26, 3) := dk_180 0 26 (dk_at dksX9_signed_1 0 rfl rfl)
theorem dX9_signed_27 : decode cX9_signed 27 = .ok (.iload_n 1, 1) := dk_27 (dk_at dksX9_signed_1 3 rfl rfl)
theorem dX9_signed_28 : decode cX9_signed 28 = .ok (.ifCond .eq 7, 3) := dk_153 0 7 (dk_at dksX9_signed_1 4 rfl rfl)
theorem dX9_signed_31 : decode cX9_signed 31 = .ok (.iconst 1, 1) := dk_4 (dk_at dksX9_signed_1 7 rfl rfl)
theorem dX9_signed_32 : decode cX9_signed 32 = .ok (.goto 4, 3) := dk_167 0 4 (dk_at dksX9_signed_1 8 rfl rfl)
theorem dX9_signed_35 : decode cX9_signed 35 = .ok (.iconst 0, 1) := dk_3 (dk_at dksX9_signed_1 11 rfl rfl)
theorem dX9_signed_36 : decode cX9_signed 36 = .ok (.iadd, 1) := dk_96 (dk_at dksX9_signed_1 12 rfl rfl)
theorem dX9_signed_37 : decode cX9_signed 37 = .ok (.putfield 26, 3) := dk_181 0 26 (dk_at dksX9_signed_1 13 rfl rfl)
theorem dX9_signed_40 : decode cX9_signed 40 = .ok (.aload_n 0, 1) := dk_42 (dk_at dksX9_signed_1 16 rfl rfl)
theorem dX9_signed_41 : decode cX9_signed 41 = .ok (.iload_n 1, 1) := dk_27 (dk_at dksX9_signed_1 17 rfl rfl)
theorem dX9_signed_42 : decode cX9_signed 42 = .ok (.ifCond .eq 8, 3) := dk_153 0 8 (dk_at dksX9_signed_1 18 rfl rfl)
theorem dX9_signed_45 : decode cX9_signed 45 = .ok (.bipush 49, 2) := dk_16 49 (dk_at dksX9_signed_1 21 rfl rfl)
theorem dX9_signed_47 : decode cX9_signed 47 = .ok (.goto 5, 3) := dk_167 0 5 (dk_at dksX9_signed_2 0 rfl rfl)
theorem dX9_signed_50 : decode cX9_signed 50 = .ok (.bipush 48, 2) := dk_16 48 (dk_at dksX9_signed_2 3 rfl rfl)
theorem dX9_signed_52 : decode cX9_signed 52 = .ok (.bipush 99, 2) := dk_16 99 (dk_at dksX9_signed_2 5 rfl rfl)
theorem dX9_signed_54 : decode cX9_signed 54 = .ok (.invokevirtual 56, 3) := dk_182 0 56 (dk_at dksX9_signed_2 7 rfl rfl)
theorem dX9_signed_57 : decode cX9_signed 57 = .ok (.istore_n 2, 1) := dk_61 (dk_at dksX9_signed_2 10 rfl rfl)
theorem dX9_signed_58 : decode cX9_signed 58 = .ok (.iload_n 1, 1) := dk_27 (dk_at dksX9_signed_2 11 rfl rfl)
theorem dX9_signed_59 : decode cX9_signed 59 = .ok (.ifCond .eq 8, 3) := dk_153 0 8 (dk_at dksX9_signed_2 12 rfl rfl)
theorem dX9_signed_62 : decode cX9_signed 62 = .ok (.iload_n 2, 1) := dk_28 (dk_at dksX9_signed_2 15 rfl rfl)
theorem dX9_signed_63 : decode cX9_signed 63 = .ok (.ineg, 1) := dk_116 (dk_at dksX9_signed_2 16 rfl rfl)
theorem dX9_signed_64 : decode cX9_signed 64 = .ok (.goto 4, 3) := dk_167 0 4 (dk_at dksX9_signed_2 17 rfl rfl)
theorem dX9_signed_67 : decode cX9_signed 67 = .ok (.iload_n 2, 1) := dk_28 (dk_at dksX9_signed_2 20 rfl rfl)
theorem dX9_signed_68 : decode cX9_signed 68 = .ok (.ireturn, 1) := dk_172 (dk_at dksX9_signed_2 21 rfl rfl)
abbrev cX9_number : ByteArray := prog_9_method_6_code
def yX9_number : MethodName := ⟨RX9, "number", "(CI)I"⟩
def dkwX9_number_3 : List UInt8 := [181, 0, 26, 167, 255, 192, 29, 172]
abbrev dktX9_number_3 : List UInt8 := dkwX9_number_3 ++ []
def dkwX9_number_2 : List UInt8 := [163, 0, 29, 16, 10, 29, 104, 42, 182, 0, 44, 96, 16, 48, 100, 62, 42, 89, 180, 0, 26, 4, 96]
abbrev dktX9_number_2 : List UInt8 := dkwX9_number_2 ++ dktX9_number_3
def dkwX9_number_1 : List UInt8 := [16, 48, 16, 57, 184, 0, 48, 153, 0, 45, 16, 10, 29, 104, 42, 182, 0, 44, 96, 16, 48, 100, 28]
abbrev dktX9_number_1 : List UInt8 := dkwX9_number_1 ++ dktX9_number_2
def dkwX9_number_0 : List UInt8 := [42, 27, 16, 57, 182, 0, 52, 62, 42, 180, 0, 40, 154, 0, 63, 29, 158, 0, 59, 42, 182, 0, 44]
abbrev dktX9_number_0 : List UInt8 := dkwX9_number_0 ++ dktX9_number_1
theorem dksX9_number_0 : cX9_number.data.toList.drop 0 = dktX9_number_0 := by decide +kernel
theorem dksX9_number_1 : cX9_number.data.toList.drop 23 = dktX9_number_1 := dk_seg dksX9_number_0 23 rfl rfl
theorem dksX9_number_2 : cX9_number.data.toList.drop 46 = dktX9_number_2 := dk_seg dksX9_number_1 23 rfl rfl
theorem dksX9_number_3 : cX9_number.data.toList.drop 69 = dktX9_number_3 := dk_seg dksX9_number_2 23 rfl rfl
theorem dX9_number_0 : decode cX9_number 0 = .ok (.aload_n 0, 1) := dk_42 (dk_at dksX9_number_0 0 rfl rfl)
theorem dX9_number_1 : decode cX9_number 1 = .ok (.iload_n 1, 1) := dk_27 (dk_at dksX9_number_0 1 rfl rfl)
theorem dX9_number_2 : decode cX9_number 2 = .ok (.bipush 57, 2) := dk_16 57 (dk_at dksX9_number_0 2 rfl rfl)
theorem dX9_number_4 : decode cX9_number 4 = .ok (.invokevirtual 52, 3) := dk_182 0 52 (dk_at dksX9_number_0 4 rfl rfl)
theorem dX9_number_7 : decode cX9_number 7 = .ok (.istore_n 3, 1) := dk_62 (dk_at dksX9_number_0 7 rfl rfl)
theorem dX9_number_8 : decode cX9_number 8 = .ok (.aload_n 0, 1) := dk_42 (dk_at dksX9_number_0 8 rfl rfl)
theorem dX9_number_9 : decode cX9_number 9 = .ok (.getfield 40, 3) := dk_180 0 40 (dk_at dksX9_number_0 9 rfl rfl)
theorem dX9_number_12 : decode cX9_number 12 = .ok (.ifCond .ne 63, 3) := dk_154 0 63 (dk_at dksX9_number_0 12 rfl rfl)
theorem dX9_number_15 : decode cX9_number 15 = .ok (.iload_n 3, 1) := dk_29 (dk_at dksX9_number_0 15 rfl rfl)
theorem dX9_number_16 : decode cX9_number 16 = .ok (.ifCond .le 59, 3) := dk_158 0 59 (dk_at dksX9_number_0 16 rfl rfl)
theorem dX9_number_19 : decode cX9_number 19 = .ok (.aload_n 0, 1) := dk_42 (dk_at dksX9_number_0 19 rfl rfl)
theorem dX9_number_20 : decode cX9_number 20 = .ok (.invokevirtual 44, 3) := dk_182 0 44 (dk_at dksX9_number_0 20 rfl rfl)
theorem dX9_number_23 : decode cX9_number 23 = .ok (.bipush 48, 2) := dk_16 48 (dk_at dksX9_number_1 0 rfl rfl)
theorem dX9_number_25 : decode cX9_number 25 = .ok (.bipush 57, 2) := dk_16 57 (dk_at dksX9_number_1 2 rfl rfl)
theorem dX9_number_27 : decode cX9_number 27 = .ok (.invokestatic 48, 3) := dk_184 0 48 (dk_at dksX9_number_1 4 rfl rfl)
theorem dX9_number_30 : decode cX9_number 30 = .ok (.ifCond .eq 45, 3) := dk_153 0 45 (dk_at dksX9_number_1 7 rfl rfl)
theorem dX9_number_33 : decode cX9_number 33 = .ok (.bipush 10, 2) := dk_16 10 (dk_at dksX9_number_1 10 rfl rfl)
theorem dX9_number_35 : decode cX9_number 35 = .ok (.iload_n 3, 1) := dk_29 (dk_at dksX9_number_1 12 rfl rfl)
theorem dX9_number_36 : decode cX9_number 36 = .ok (.imul, 1) := dk_104 (dk_at dksX9_number_1 13 rfl rfl)
theorem dX9_number_37 : decode cX9_number 37 = .ok (.aload_n 0, 1) := dk_42 (dk_at dksX9_number_1 14 rfl rfl)
theorem dX9_number_38 : decode cX9_number 38 = .ok (.invokevirtual 44, 3) := dk_182 0 44 (dk_at dksX9_number_1 15 rfl rfl)
theorem dX9_number_41 : decode cX9_number 41 = .ok (.iadd, 1) := dk_96 (dk_at dksX9_number_1 18 rfl rfl)
theorem dX9_number_42 : decode cX9_number 42 = .ok (.bipush 48, 2) := dk_16 48 (dk_at dksX9_number_1 19 rfl rfl)
theorem dX9_number_44 : decode cX9_number 44 = .ok (.isub, 1) := dk_100 (dk_at dksX9_number_1 21 rfl rfl)
theorem dX9_number_45 : decode cX9_number 45 = .ok (.iload_n 2, 1) := dk_28 (dk_at dksX9_number_1 22 rfl rfl)
theorem dX9_number_46 : decode cX9_number 46 = .ok (.if_icmp .gt 29, 3) := dk_163 0 29 (dk_at dksX9_number_2 0 rfl rfl)
theorem dX9_number_49 : decode cX9_number 49 = .ok (.bipush 10, 2) := dk_16 10 (dk_at dksX9_number_2 3 rfl rfl)
theorem dX9_number_51 : decode cX9_number 51 = .ok (.iload_n 3, 1) := dk_29 (dk_at dksX9_number_2 5 rfl rfl)
theorem dX9_number_52 : decode cX9_number 52 = .ok (.imul, 1) := dk_104 (dk_at dksX9_number_2 6 rfl rfl)
theorem dX9_number_53 : decode cX9_number 53 = .ok (.aload_n 0, 1) := dk_42 (dk_at dksX9_number_2 7 rfl rfl)
theorem dX9_number_54 : decode cX9_number 54 = .ok (.invokevirtual 44, 3) := dk_182 0 44 (dk_at dksX9_number_2 8 rfl rfl)
theorem dX9_number_57 : decode cX9_number 57 = .ok (.iadd, 1) := dk_96 (dk_at dksX9_number_2 11 rfl rfl)
theorem dX9_number_58 : decode cX9_number 58 = .ok (.bipush 48, 2) := dk_16 48 (dk_at dksX9_number_2 12 rfl rfl)
theorem dX9_number_60 : decode cX9_number 60 = .ok (.isub, 1) := dk_100 (dk_at dksX9_number_2 14 rfl rfl)
theorem dX9_number_61 : decode cX9_number 61 = .ok (.istore_n 3, 1) := dk_62 (dk_at dksX9_number_2 15 rfl rfl)
theorem dX9_number_62 : decode cX9_number 62 = .ok (.aload_n 0, 1) := dk_42 (dk_at dksX9_number_2 16 rfl rfl)
theorem dX9_number_63 : decode cX9_number 63 = .ok (.dup, 1) := dk_89 (dk_at dksX9_number_2 17 rfl rfl)
theorem dX9_number_64 : decode cX9_number 64 = .ok (.getfield 26, 3) := dk_180 0 26 (dk_at dksX9_number_2 18 rfl rfl)
theorem dX9_number_67 : decode cX9_number 67 = .ok (.iconst 1, 1) := dk_4 (dk_at dksX9_number_2 21 rfl rfl)
theorem dX9_number_68 : decode cX9_number 68 = .ok (.iadd, 1) := dk_96 (dk_at dksX9_number_2 22 rfl rfl)
theorem dX9_number_69 : decode cX9_number 69 = .ok (.putfield 26, 3) := dk_181 0 26 (dk_at dksX9_number_3 0 rfl rfl)
theorem dX9_number_72 : decode cX9_number 72 = .ok (.goto (-64), 3) := dk_167 255 192 (dk_at dksX9_number_3 3 rfl rfl)
theorem dX9_number_75 : decode cX9_number 75 = .ok (.iload_n 3, 1) := dk_29 (dk_at dksX9_number_3 6 rfl rfl)
theorem dX9_number_76 : decode cX9_number 76 = .ok (.ireturn, 1) := dk_172 (dk_at dksX9_number_3 7 rfl rfl)
abbrev cX9_withRegisters : ByteArray := prog_9_method_8_code
def yX9_withRegisters : MethodName := ⟨RX9, "withRegisters", "(I)LBarrelProcessor$Instruction;"⟩
def dkwX9_withRegisters_0 : List UInt8 := [42, 182, 0, 60, 61, 187, 0, 63, 89, 27, 28, 42, 182, 0, 60, 183, 0, 65, 176]
abbrev dktX9_withRegisters_0 : List UInt8 := dkwX9_withRegisters_0 ++ []
theorem dksX9_withRegisters_0 : cX9_withRegisters.data.toList.drop 0 = dktX9_withRegisters_0 := by decide +kernel
theorem dX9_withRegisters_0 : decode cX9_withRegisters 0 = .ok (.aload_n 0, 1) := dk_42 (dk_at dksX9_withRegisters_0 0 rfl rfl)
theorem dX9_withRegisters_1 : decode cX9_withRegisters 1 = .ok (.invokevirtual 60, 3) := dk_182 0 60 (dk_at dksX9_withRegisters_0 1 rfl rfl)
theorem dX9_withRegisters_4 : decode cX9_withRegisters 4 = .ok (.istore_n 2, 1) := dk_61 (dk_at dksX9_withRegisters_0 4 rfl rfl)
theorem dX9_withRegisters_5 : decode cX9_withRegisters 5 = .ok (.new 63, 3) := dk_187 0 63 (dk_at dksX9_withRegisters_0 5 rfl rfl)
theorem dX9_withRegisters_8 : decode cX9_withRegisters 8 = .ok (.dup, 1) := dk_89 (dk_at dksX9_withRegisters_0 8 rfl rfl)
theorem dX9_withRegisters_9 : decode cX9_withRegisters 9 = .ok (.iload_n 1, 1) := dk_27 (dk_at dksX9_withRegisters_0 9 rfl rfl)
theorem dX9_withRegisters_10 : decode cX9_withRegisters 10 = .ok (.iload_n 2, 1) := dk_28 (dk_at dksX9_withRegisters_0 10 rfl rfl)
theorem dX9_withRegisters_11 : decode cX9_withRegisters 11 = .ok (.aload_n 0, 1) := dk_42 (dk_at dksX9_withRegisters_0 11 rfl rfl)
theorem dX9_withRegisters_12 : decode cX9_withRegisters 12 = .ok (.invokevirtual 60, 3) := dk_182 0 60 (dk_at dksX9_withRegisters_0 12 rfl rfl)
theorem dX9_withRegisters_15 : decode cX9_withRegisters 15 = .ok (.invokespecial 65, 3) := dk_183 0 65 (dk_at dksX9_withRegisters_0 15 rfl rfl)
theorem dX9_withRegisters_18 : decode cX9_withRegisters 18 = .ok (.areturn, 1) := dk_176 (dk_at dksX9_withRegisters_0 18 rfl rfl)
theorem q63 : (Jvm.Cond.initialized "BarrelProcessor$Reader") ∈ lw_all := lw_g (lw_at lw_m1 19 rfl) rfl
theorem q436 : (Jvm.Cond.fieldLinkNest "BarrelProcessor$Reader" (133 : Nat) "BarrelProcessor" "halting" "LBarrelProcessor$Instruction;" "BarrelProcessor") ∈ lw_tbl := lw_at lw_m2 152 rfl
theorem q465 : (Jvm.Cond.instantiable "BarrelProcessor$Reader" (5 : Nat)) ∈ lw_all := lw_g (lw_at lw_m2 181 rfl) rfl
theorem q467 : (Jvm.Cond.instanceMethod ({ cls := "BarrelProcessor$Reader", name := "<init>", desc := "(LBarrelProcessor;Ljava/lang/CharSequence;)V" } : Jvm.MethodName)) ∈ lw_all := lw_g (lw_at lw_m2 183 rfl) rfl
theorem q468 : (Jvm.Cond.code ({ cls := "BarrelProcessor$Reader", name := "<init>", desc := "(LBarrelProcessor;Ljava/lang/CharSequence;)V" } : Jvm.MethodName) prog_9_method_1_code (3 : Nat) (Option.none : Option Jvm.ClassFile.FieldType)) ∈ lw_all := lw_g (lw_at lw_m2 184 rfl) rfl
theorem q469 : (Jvm.Cond.methodLink "BarrelProcessor$Reader" (9 : Nat) ({ cls := "java/lang/Object", name := "<init>", desc := "()V" } : Jvm.MethodName)) ∈ lw_all := lw_g (lw_at lw_m2 185 rfl) rfl
theorem q470 : (Jvm.Cond.classLink "BarrelProcessor$Reader" (15 : Nat) "java/util/ArrayList") ∈ lw_all := lw_g (lw_at lw_m2 186 rfl) rfl
theorem q471 : (Jvm.Cond.methodLink "BarrelProcessor$Reader" (17 : Nat) ({ cls := "java/util/ArrayList", name := "<init>", desc := "()V" } : Jvm.MethodName)) ∈ lw_all := lw_g (lw_at lw_m2 187 rfl) rfl
theorem q472 : (Jvm.Cond.fieldLink "BarrelProcessor$Reader" (22 : Nat) "BarrelProcessor$Reader" "source" "Ljava/lang/CharSequence;") ∈ lw_all := lw_g (lw_at lw_m2 188 rfl) rfl
theorem q473 : (Jvm.Cond.fieldLink "BarrelProcessor$Reader" (18 : Nat) "BarrelProcessor$Reader" "instructions" "Ljava/util/List;") ∈ lw_all := lw_g (lw_at lw_m2 189 rfl) rfl
theorem q475 : (Jvm.Cond.fieldLink "BarrelProcessor$Reader" (26 : Nat) "BarrelProcessor$Reader" "place" "I") ∈ lw_all := lw_g (lw_at lw_m2 191 rfl) rfl
theorem q477 : (Jvm.Cond.fieldLink "BarrelProcessor$Reader" (40 : Nat) "BarrelProcessor$Reader" "isWrong" "Z") ∈ lw_all := lw_g (lw_at lw_m2 193 rfl) rfl
theorem q478 : (Jvm.Cond.fieldLink "BarrelProcessor$Reader" (3 : Nat) "BarrelProcessor$Reader" "this$0" "LBarrelProcessor;") ∈ lw_all := lw_g (lw_at lw_m2 194 rfl) rfl
theorem q479 : (Jvm.Cond.laysFinal "BarrelProcessor$Reader" "BarrelProcessor$Reader" "source" "Ljava/lang/CharSequence;") ∈ lw_all := lw_g (lw_at lw_m2 195 rfl) rfl
theorem q480 : (Jvm.Cond.soleField "BarrelProcessor$Reader" "source") ∈ lw_all := lw_g (lw_at lw_m2 196 rfl) rfl
theorem q481 : (Jvm.Cond.laysFinal "BarrelProcessor$Reader" "BarrelProcessor$Reader" "instructions" "Ljava/util/List;") ∈ lw_all := lw_g (lw_at lw_m2 197 rfl) rfl
theorem q482 : (Jvm.Cond.soleField "BarrelProcessor$Reader" "instructions") ∈ lw_all := lw_g (lw_at lw_m2 198 rfl) rfl
theorem q483 : (Jvm.Cond.lays "BarrelProcessor$Reader" "BarrelProcessor$Reader" "place" "I") ∈ lw_all := lw_g (lw_at lw_m2 199 rfl) rfl
theorem q484 : (Jvm.Cond.soleField "BarrelProcessor$Reader" "place") ∈ lw_all := lw_g (lw_at lw_m2 200 rfl) rfl
theorem q485 : (Jvm.Cond.lays "BarrelProcessor$Reader" "BarrelProcessor$Reader" "isWrong" "Z") ∈ lw_all := lw_g (lw_at lw_m2 201 rfl) rfl
theorem q486 : (Jvm.Cond.soleField "BarrelProcessor$Reader" "isWrong") ∈ lw_all := lw_g (lw_at lw_m2 202 rfl) rfl
theorem q487 : (Jvm.Cond.laysFinal "BarrelProcessor$Reader" "BarrelProcessor$Reader" "this$0" "LBarrelProcessor;") ∈ lw_all := lw_g (lw_at lw_m2 203 rfl) rfl
theorem q488 : (Jvm.Cond.soleField "BarrelProcessor$Reader" "this$0") ∈ lw_all := lw_g (lw_at lw_m2 204 rfl) rfl
theorem q489 : (Jvm.Cond.superclass "BarrelProcessor$Reader" "java/lang/Object") ∈ lw_all := lw_g (lw_at lw_m2 205 rfl) rfl
theorem q491 : (Jvm.Cond.instanceMethod ({ cls := "BarrelProcessor$Reader", name := "isText", desc := "()Z" } : Jvm.MethodName)) ∈ lw_all := lw_g (lw_at lw_m2 207 rfl) rfl
theorem q492 : (Jvm.Cond.selects "BarrelProcessor$Reader" ({ cls := "BarrelProcessor$Reader", name := "isText", desc := "()Z" } : Jvm.MethodName) ({ cls := "BarrelProcessor$Reader", name := "isText", desc := "()Z" } : Jvm.MethodName)) ∈ lw_all := lw_g (lw_at lw_m2 208 rfl) rfl
theorem q493 : (Jvm.Cond.code ({ cls := "BarrelProcessor$Reader", name := "isText", desc := "()Z" } : Jvm.MethodName) prog_9_method_11_code (1 : Nat) (Option.some Jvm.ClassFile.FieldType.boolean)) ∈ lw_all := lw_g (lw_at lw_m2 209 rfl) rfl
theorem q494 : (Jvm.Cond.methodLink "BarrelProcessor$Reader" (137 : Nat) ({ cls := "BarrelProcessor$Reader", name := "instruction", desc := "()LBarrelProcessor$Instruction;" } : Jvm.MethodName)) ∈ lw_all := lw_g (lw_at lw_m2 210 rfl) rfl
theorem q495 : (Jvm.Cond.privateMethod ({ cls := "BarrelProcessor$Reader", name := "instruction", desc := "()LBarrelProcessor$Instruction;" } : Jvm.MethodName)) ∈ lw_tbl := lw_at lw_m2 211 rfl
theorem q496 : (Jvm.Cond.instanceMethod ({ cls := "BarrelProcessor$Reader", name := "instruction", desc := "()LBarrelProcessor$Instruction;" } : Jvm.MethodName)) ∈ lw_all := lw_g (lw_at lw_m2 212 rfl) rfl
theorem q497 : (Jvm.Cond.code ({ cls := "BarrelProcessor$Reader", name := "instruction", desc := "()LBarrelProcessor$Instruction;" } : Jvm.MethodName) prog_9_method_10_code (4 : Nat) (Option.some (Jvm.ClassFile.FieldType.object "BarrelProcessor$Instruction"))) ∈ lw_all := lw_g (lw_at lw_m2 213 rfl) rfl
theorem q498 : (Jvm.Cond.classLink "BarrelProcessor$Reader" (75 : Nat) "java/lang/StringBuilder") ∈ lw_all := lw_g (lw_at lw_m2 214 rfl) rfl
theorem q499 : (Jvm.Cond.methodLink "BarrelProcessor$Reader" (77 : Nat) ({ cls := "java/lang/StringBuilder", name := "<init>", desc := "()V" } : Jvm.MethodName)) ∈ lw_all := lw_g (lw_at lw_m2 215 rfl) rfl
theorem q500 : (Jvm.Cond.stringRef "BarrelProcessor$Reader" (78 : Nat) "") ∈ lw_tbl := lw_at lw_m2 216 rfl
theorem q501 : (Jvm.Cond.methodLink "BarrelProcessor$Reader" (80 : Nat) ({ cls := "java/lang/StringBuilder", name := "append", desc := "(Ljava/lang/String;)Ljava/lang/StringBuilder;" } : Jvm.MethodName)) ∈ lw_all := lw_g (lw_at lw_m2 217 rfl) rfl
theorem q611 : (Jvm.Cond.methodLink "BarrelProcessor$Reader" (44 : Nat) ({ cls := "BarrelProcessor$Reader", name := "next", desc := "()C" } : Jvm.MethodName)) ∈ lw_all := lw_g (lw_at lw_m3 87 rfl) rfl
theorem q612 : (Jvm.Cond.privateMethod ({ cls := "BarrelProcessor$Reader", name := "next", desc := "()C" } : Jvm.MethodName)) ∈ lw_tbl := lw_at lw_m3 88 rfl
theorem q613 : (Jvm.Cond.instanceMethod ({ cls := "BarrelProcessor$Reader", name := "next", desc := "()C" } : Jvm.MethodName)) ∈ lw_all := lw_g (lw_at lw_m3 89 rfl) rfl
theorem q614 : (Jvm.Cond.code ({ cls := "BarrelProcessor$Reader", name := "next", desc := "()C" } : Jvm.MethodName) prog_9_method_2_code (1 : Nat) (Option.some Jvm.ClassFile.FieldType.char)) ∈ lw_all := lw_g (lw_at lw_m3 90 rfl) rfl
theorem q615 : (Jvm.Cond.interfaceEntry "BarrelProcessor$Reader" (30 : Nat)) ∈ lw_tbl := lw_at lw_m3 91 rfl
theorem q616 : (Jvm.Cond.methodLink "BarrelProcessor$Reader" (30 : Nat) ({ cls := "java/lang/CharSequence", name := "length", desc := "()I" } : Jvm.MethodName)) ∈ lw_all := lw_g (lw_at lw_m3 92 rfl) rfl
theorem q632 : (Jvm.Cond.interfaceEntry "BarrelProcessor$Reader" (36 : Nat)) ∈ lw_tbl := lw_at lw_m3 108 rfl
theorem q633 : (Jvm.Cond.methodLink "BarrelProcessor$Reader" (36 : Nat) ({ cls := "java/lang/CharSequence", name := "charAt", desc := "(I)C" } : Jvm.MethodName)) ∈ lw_all := lw_g (lw_at lw_m3 109 rfl) rfl
theorem q668 : (Jvm.Cond.methodLink "BarrelProcessor$Reader" (84 : Nat) ({ cls := "java/lang/StringBuilder", name := "append", desc := "(C)Ljava/lang/StringBuilder;" } : Jvm.MethodName)) ∈ lw_all := lw_g (lw_at lw_m3 144 rfl) rfl
theorem q681 : (Jvm.Cond.methodLink "BarrelProcessor$Reader" (87 : Nat) ({ cls := "java/lang/StringBuilder", name := "toString", desc := "()Ljava/lang/String;" } : Jvm.MethodName)) ∈ lw_all := lw_g (lw_at lw_m3 157 rfl) rfl
theorem q733 : (Jvm.Cond.methodLink "BarrelProcessor$Reader" (91 : Nat) ({ cls := "java/lang/String", name := "hashCode", desc := "()I" } : Jvm.MethodName)) ∈ lw_all := lw_g (lw_at lw_m3 209 rfl) rfl
theorem q734 : (Jvm.Cond.stringRef "BarrelProcessor$Reader" (96 : Nat) "s") ∈ lw_tbl := lw_at lw_m3 210 rfl
theorem q735 : (Jvm.Cond.methodLink "BarrelProcessor$Reader" (98 : Nat) ({ cls := "java/lang/String", name := "equals", desc := "(Ljava/lang/Object;)Z" } : Jvm.MethodName)) ∈ lw_all := lw_g (lw_at lw_m3 211 rfl) rfl
theorem q736 : (Jvm.Cond.stringRef "BarrelProcessor$Reader" (102 : Nat) "a") ∈ lw_tbl := lw_at lw_m3 212 rfl
theorem q737 : (Jvm.Cond.stringRef "BarrelProcessor$Reader" (104 : Nat) "d") ∈ lw_tbl := lw_at lw_m3 213 rfl
theorem q738 : (Jvm.Cond.stringRef "BarrelProcessor$Reader" (106 : Nat) "m") ∈ lw_tbl := lw_at lw_m3 214 rfl
theorem q739 : (Jvm.Cond.stringRef "BarrelProcessor$Reader" (108 : Nat) "l") ∈ lw_tbl := lw_at lw_m3 215 rfl
theorem q740 : (Jvm.Cond.stringRef "BarrelProcessor$Reader" (110 : Nat) "w") ∈ lw_tbl := lw_at lw_m3 216 rfl
theorem q741 : (Jvm.Cond.stringRef "BarrelProcessor$Reader" (112 : Nat) "x") ∈ lw_tbl := lw_at lw_m3 217 rfl
theorem q742 : (Jvm.Cond.stringRef "BarrelProcessor$Reader" (114 : Nat) "j") ∈ lw_tbl := lw_at lw_m3 218 rfl
theorem q743 : (Jvm.Cond.stringRef "BarrelProcessor$Reader" (116 : Nat) "z") ∈ lw_tbl := lw_at lw_m3 219 rfl
theorem q744 : (Jvm.Cond.stringRef "BarrelProcessor$Reader" (118 : Nat) "n") ∈ lw_tbl := lw_at lw_m3 220 rfl
theorem q745 : (Jvm.Cond.stringRef "BarrelProcessor$Reader" (120 : Nat) "b") ∈ lw_tbl := lw_at lw_m3 221 rfl
theorem q746 : (Jvm.Cond.stringRef "BarrelProcessor$Reader" (122 : Nat) "h") ∈ lw_tbl := lw_at lw_m3 222 rfl
theorem q747 : (Jvm.Cond.methodLink "BarrelProcessor$Reader" (124 : Nat) ({ cls := "BarrelProcessor$Reader", name := "withSign", desc := "(IC)LBarrelProcessor$Instruction;" } : Jvm.MethodName)) ∈ lw_all := lw_g (lw_at lw_m3 223 rfl) rfl
theorem q748 : (Jvm.Cond.privateMethod ({ cls := "BarrelProcessor$Reader", name := "withSign", desc := "(IC)LBarrelProcessor$Instruction;" } : Jvm.MethodName)) ∈ lw_tbl := lw_at lw_m3 224 rfl
theorem q749 : (Jvm.Cond.instanceMethod ({ cls := "BarrelProcessor$Reader", name := "withSign", desc := "(IC)LBarrelProcessor$Instruction;" } : Jvm.MethodName)) ∈ lw_all := lw_g (lw_at lw_m3 225 rfl) rfl
theorem q750 : (Jvm.Cond.code ({ cls := "BarrelProcessor$Reader", name := "withSign", desc := "(IC)LBarrelProcessor$Instruction;" } : Jvm.MethodName) prog_9_method_9_code (4 : Nat) (Option.some (Jvm.ClassFile.FieldType.object "BarrelProcessor$Instruction"))) ∈ lw_all := lw_g (lw_at lw_m3 226 rfl) rfl
theorem q751 : (Jvm.Cond.methodLink "BarrelProcessor$Reader" (60 : Nat) ({ cls := "BarrelProcessor$Reader", name := "register", desc := "()I" } : Jvm.MethodName)) ∈ lw_all := lw_g (lw_at lw_m3 227 rfl) rfl
theorem q752 : (Jvm.Cond.privateMethod ({ cls := "BarrelProcessor$Reader", name := "register", desc := "()I" } : Jvm.MethodName)) ∈ lw_tbl := lw_at lw_m3 228 rfl
theorem q753 : (Jvm.Cond.instanceMethod ({ cls := "BarrelProcessor$Reader", name := "register", desc := "()I" } : Jvm.MethodName)) ∈ lw_all := lw_g (lw_at lw_m3 229 rfl) rfl
theorem q754 : (Jvm.Cond.code ({ cls := "BarrelProcessor$Reader", name := "register", desc := "()I" } : Jvm.MethodName) prog_9_method_5_code (1 : Nat) (Option.some Jvm.ClassFile.FieldType.int)) ∈ lw_all := lw_g (lw_at lw_m3 230 rfl) rfl
theorem q755 : (Jvm.Cond.methodLink "BarrelProcessor$Reader" (52 : Nat) ({ cls := "BarrelProcessor$Reader", name := "digit", desc := "(CC)I" } : Jvm.MethodName)) ∈ lw_all := lw_g (lw_at lw_m3 231 rfl) rfl
theorem q756 : (Jvm.Cond.privateMethod ({ cls := "BarrelProcessor$Reader", name := "digit", desc := "(CC)I" } : Jvm.MethodName)) ∈ lw_tbl := lw_at lw_m3 232 rfl
theorem q757 : (Jvm.Cond.instanceMethod ({ cls := "BarrelProcessor$Reader", name := "digit", desc := "(CC)I" } : Jvm.MethodName)) ∈ lw_all := lw_g (lw_at lw_m3 233 rfl) rfl
theorem q758 : (Jvm.Cond.code ({ cls := "BarrelProcessor$Reader", name := "digit", desc := "(CC)I" } : Jvm.MethodName) prog_9_method_4_code (3 : Nat) (Option.some Jvm.ClassFile.FieldType.int)) ∈ lw_all := lw_g (lw_at lw_m3 234 rfl) rfl
theorem q759 : (Jvm.Cond.methodLinkNest "BarrelProcessor$Reader" (48 : Nat) ({ cls := "BarrelProcessor", name := "isIn", desc := "(III)Z" } : Jvm.MethodName) "BarrelProcessor") ∈ lw_tbl := lw_at lw_m3 235 rfl
theorem q760 : (Jvm.Cond.methodLink "BarrelProcessor$Reader" (68 : Nat) ({ cls := "BarrelProcessor$Reader", name := "expect", desc := "(C)V" } : Jvm.MethodName)) ∈ lw_all := lw_g (lw_at lw_m3 236 rfl) rfl
theorem q761 : (Jvm.Cond.privateMethod ({ cls := "BarrelProcessor$Reader", name := "expect", desc := "(C)V" } : Jvm.MethodName)) ∈ lw_tbl := lw_at lw_m3 237 rfl
theorem q762 : (Jvm.Cond.instanceMethod ({ cls := "BarrelProcessor$Reader", name := "expect", desc := "(C)V" } : Jvm.MethodName)) ∈ lw_all := lw_g (lw_at lw_m3 238 rfl) rfl
theorem q763 : (Jvm.Cond.code ({ cls := "BarrelProcessor$Reader", name := "expect", desc := "(C)V" } : Jvm.MethodName) prog_9_method_3_code (2 : Nat) (Option.none : Option Jvm.ClassFile.FieldType)) ∈ lw_all := lw_g (lw_at lw_m3 239 rfl) rfl
theorem q764 : (Jvm.Cond.classLink "BarrelProcessor$Reader" (63 : Nat) "BarrelProcessor$Instruction") ∈ lw_all := lw_g (lw_at lw_m4 0 rfl) rfl
theorem q765 : (Jvm.Cond.methodLink "BarrelProcessor$Reader" (72 : Nat) ({ cls := "BarrelProcessor$Reader", name := "signed", desc := "()I" } : Jvm.MethodName)) ∈ lw_all := lw_g (lw_at lw_m4 1 rfl) rfl
theorem q766 : (Jvm.Cond.privateMethod ({ cls := "BarrelProcessor$Reader", name := "signed", desc := "()I" } : Jvm.MethodName)) ∈ lw_tbl := lw_at lw_m4 2 rfl
theorem q767 : (Jvm.Cond.instanceMethod ({ cls := "BarrelProcessor$Reader", name := "signed", desc := "()I" } : Jvm.MethodName)) ∈ lw_all := lw_g (lw_at lw_m4 3 rfl) rfl
theorem q768 : (Jvm.Cond.code ({ cls := "BarrelProcessor$Reader", name := "signed", desc := "()I" } : Jvm.MethodName) prog_9_method_7_code (3 : Nat) (Option.some Jvm.ClassFile.FieldType.int)) ∈ lw_all := lw_g (lw_at lw_m4 4 rfl) rfl
theorem q769 : (Jvm.Cond.methodLink "BarrelProcessor$Reader" (56 : Nat) ({ cls := "BarrelProcessor$Reader", name := "number", desc := "(CI)I" } : Jvm.MethodName)) ∈ lw_all := lw_g (lw_at lw_m4 5 rfl) rfl
theorem q770 : (Jvm.Cond.privateMethod ({ cls := "BarrelProcessor$Reader", name := "number", desc := "(CI)I" } : Jvm.MethodName)) ∈ lw_tbl := lw_at lw_m4 6 rfl
theorem q771 : (Jvm.Cond.instanceMethod ({ cls := "BarrelProcessor$Reader", name := "number", desc := "(CI)I" } : Jvm.MethodName)) ∈ lw_all := lw_g (lw_at lw_m4 7 rfl) rfl
theorem q772 : (Jvm.Cond.code ({ cls := "BarrelProcessor$Reader", name := "number", desc := "(CI)I" } : Jvm.MethodName) prog_9_method_6_code (4 : Nat) (Option.some Jvm.ClassFile.FieldType.int)) ∈ lw_all := lw_g (lw_at lw_m4 8 rfl) rfl
theorem q773 : (Jvm.Cond.methodLink "BarrelProcessor$Reader" (65 : Nat) ({ cls := "BarrelProcessor$Instruction", name := "<init>", desc := "(III)V" } : Jvm.MethodName)) ∈ lw_all := lw_g (lw_at lw_m4 9 rfl) rfl
theorem q774 : (Jvm.Cond.methodLink "BarrelProcessor$Reader" (128 : Nat) ({ cls := "BarrelProcessor$Reader", name := "withRegisters", desc := "(I)LBarrelProcessor$Instruction;" } : Jvm.MethodName)) ∈ lw_all := lw_g (lw_at lw_m4 10 rfl) rfl
theorem q775 : (Jvm.Cond.privateMethod ({ cls := "BarrelProcessor$Reader", name := "withRegisters", desc := "(I)LBarrelProcessor$Instruction;" } : Jvm.MethodName)) ∈ lw_tbl := lw_at lw_m4 11 rfl
theorem q776 : (Jvm.Cond.instanceMethod ({ cls := "BarrelProcessor$Reader", name := "withRegisters", desc := "(I)LBarrelProcessor$Instruction;" } : Jvm.MethodName)) ∈ lw_all := lw_g (lw_at lw_m4 12 rfl) rfl
theorem q777 : (Jvm.Cond.code ({ cls := "BarrelProcessor$Reader", name := "withRegisters", desc := "(I)LBarrelProcessor$Instruction;" } : Jvm.MethodName) prog_9_method_8_code (3 : Nat) (Option.some (Jvm.ClassFile.FieldType.object "BarrelProcessor$Instruction"))) ∈ lw_all := lw_g (lw_at lw_m4 13 rfl) rfl
theorem q778 : (Jvm.Cond.constant "BarrelProcessor$Reader" (132 : Nat) (-100005 : Int32)) ∈ lw_all := lw_g (lw_at lw_m4 14 rfl) rfl
theorem q779 : (Jvm.Cond.interfaceEntry "BarrelProcessor$Reader" (141 : Nat)) ∈ lw_tbl := lw_at lw_m4 15 rfl
theorem q780 : (Jvm.Cond.methodLink "BarrelProcessor$Reader" (141 : Nat) ({ cls := "java/util/List", name := "add", desc := "(Ljava/lang/Object;)Z" } : Jvm.MethodName)) ∈ lw_all := lw_g (lw_at lw_m4 16 rfl) rfl
theorem q815 : (Jvm.Cond.selects "BarrelProcessor$Reader" ({ cls := "java/lang/Object", name := "getClass", desc := "()Ljava/lang/Class;" } : Jvm.MethodName) ({ cls := "java/lang/Object", name := "getClass", desc := "()Ljava/lang/Class;" } : Jvm.MethodName)) ∈ lw_all := lw_g (lw_at lw_m4 51 rfl) rfl
theorem q1512 : (Jvm.Cond.castable "BarrelProcessor$Reader" "java/lang/Object") ∈ lw_tbl := lw_at lw_m7 28 rfl
theorem in_X9 : ∀ w ∈ wsX90, w ∈ lw_all := lw_in wsX90 [479, 481, 483, 485, 487] (by decide +kernel) (by decide +kernel)
