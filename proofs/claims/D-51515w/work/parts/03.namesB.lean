set_option maxRecDepth 100000
/-! TongueProofsModel -/
def RX5 : String := "TongueProofsModel"
def TX5 : u_T := fun k => match k with
  | 0 => ("TongueProofsModel", "s", "[I", true)
  | 1 => ("TongueProofsModel", "isSaved", "[Z", true)
  | 2 => ("TongueProofsModel", "refused", "[I", true)
  | 3 => ("TongueProofsModel", "o", "I", false)
  | 4 => ("TongueProofsModel", "undos", "I", false)
  | 5 => ("TongueProofsModel", "thrown", "I", false)
  | 6 => ("TongueProofsModel", "far", "[I", true)
  | 7 => ("TongueProofsModel", "isStrict", "[Z", true)
  | 8 => ("TongueProofsModel", "text", "[I", true)
  | 9 => ("TongueProofsModel", "length", "I", false)
  | 10 => ("TongueProofsModel", "code", "I", false)
  | 11 => ("TongueProofsModel", "position", "I", false)
  | 12 => ("TongueProofsModel", "at", "I", false)
  | 13 => ("TongueProofsModel", "begin", "I", false)
  | 14 => ("TongueProofsModel", "token", "I", false)
  | 15 => ("TongueProofsModel", "number", "I", false)
  | 16 => ("TongueProofsModel", "command", "[I", true)
  | 17 => ("TongueProofsModel", "commands", "I", false)
  | 18 => ("TongueProofsModel", "rowFrom", "[I", true)
  | 19 => ("TongueProofsModel", "out", "[I", true)
  | _ => ("TongueProofsModel", "written", "I", false)
def tyX5 : Nat → FieldType := fun k => match k with
  | 0 => .array .int
  | 1 => .array .boolean
  | 2 => .array .int
  | 3 => .int
  | 4 => .int
  | 5 => .int
  | 6 => .array .int
  | 7 => .array .boolean
  | 8 => .array .int
  | 9 => .int
  | 10 => .int
  | 11 => .int
  | 12 => .int
  | 13 => .int
  | 14 => .int
  | 15 => .int
  | 16 => .array .int
  | 17 => .int
  | 18 => .array .int
  | 19 => .array .int
  | _ => .int
abbrev wsX50 : List Cond := u_ws RX5 TX5 21
theorem nmX5 : ∀ a, a < 21 → ∀ b, b < 21 → a ≠ b → (TX5 a).2.1 ≠ (TX5 b).2.1 := by decide +kernel
theorem tyX5_ok : ∀ k, k < 21 → parseFieldDescriptor (TX5 k).2.2.1 = some (tyX5 k) := by decide +kernel
abbrev cX5_init : ByteArray := prog_14_method_1_code
def yX5_init : MethodName := ⟨RX5, "<init>", "()V"⟩
def dkwX5_init_7 : List UInt8 := [182, 0, 53, 42, 5, 182, 0, 53, 42, 5, 182, 0, 53, 177]
abbrev dktX5_init_7 : List UInt8 := dkwX5_init_7 ++ []
def dkwX5_init_6 : List UInt8 := [3, 182, 0, 49, 42, 16, 9, 182, 0, 53, 42, 4, 182, 0, 53, 42, 4, 182, 0, 49, 42, 3]
abbrev dktX5_init_6 : List UInt8 := dkwX5_init_6 ++ dktX5_init_7
def dkwX5_init_5 : List UInt8 := [182, 0, 49, 42, 6, 182, 0, 53, 42, 6, 182, 0, 53, 42, 4, 182, 0, 49, 42, 8, 182, 0, 53, 42]
abbrev dktX5_init_5 : List UInt8 := dkwX5_init_5 ++ dktX5_init_6
def dkwX5_init_4 : List UInt8 := [182, 0, 42, 42, 182, 0, 46, 42, 3, 182, 0, 49, 42, 7, 182, 0, 53, 42, 5, 182, 0, 53, 42, 4]
abbrev dktX5_init_4 : List UInt8 := dkwX5_init_4 ++ dktX5_init_5
def dkwX5_init_3 : List UInt8 := [188, 10, 181, 0, 36, 42, 16, 10, 188, 10, 181, 0, 39, 42, 3, 5, 182, 0, 42, 42, 5, 6]
abbrev dktX5_init_3 : List UInt8 := dkwX5_init_3 ++ dktX5_init_4
def dkwX5_init_2 : List UInt8 := [17, 1, 244, 188, 10, 181, 0, 26, 42, 2, 181, 0, 29, 42, 16, 125, 188, 10, 181, 0, 33, 42, 16, 10]
abbrev dktX5_init_2 : List UInt8 := dkwX5_init_2 ++ dktX5_init_3
def dkwX5_init_1 : List UInt8 := [188, 10, 181, 0, 17, 42, 16, 10, 188, 10, 181, 0, 20, 42, 16, 10, 188, 4, 181, 0, 23, 42]
abbrev dktX5_init_1 : List UInt8 := dkwX5_init_1 ++ dktX5_init_2
def dkwX5_init_0 : List UInt8 := [42, 183, 0, 1, 42, 17, 23, 107, 188, 10, 181, 0, 7, 42, 5, 188, 4, 181, 0, 13, 42, 16, 10]
abbrev dktX5_init_0 : List UInt8 := dkwX5_init_0 ++ dktX5_init_1
theorem dksX5_init_0 : cX5_init.data.toList.drop 0 = dktX5_init_0 := by decide +kernel
theorem dksX5_init_1 : cX5_init.data.toList.drop 23 = dktX5_init_1 := dk_seg dksX5_init_0 23 rfl rfl
theorem dksX5_init_2 : cX5_init.data.toList.drop 45 = dktX5_init_2 := dk_seg dksX5_init_1 22 rfl rfl
theorem dksX5_init_3 : cX5_init.data.toList.drop 69 = dktX5_init_3 := dk_seg dksX5_init_2 24 rfl rfl
theorem dksX5_init_4 : cX5_init.data.toList.drop 91 = dktX5_init_4 := dk_seg dksX5_init_3 22 rfl rfl
theorem dksX5_init_5 : cX5_init.data.toList.drop 115 = dktX5_init_5 := dk_seg dksX5_init_4 24 rfl rfl
theorem dksX5_init_6 : cX5_init.data.toList.drop 139 = dktX5_init_6 := dk_seg dksX5_init_5 24 rfl rfl
theorem dksX5_init_7 : cX5_init.data.toList.drop 161 = dktX5_init_7 := dk_seg dksX5_init_6 22 rfl rfl
theorem dX5_init_0 : decode cX5_init 0 = .ok (.aload_n 0, 1) := dk_42 (dk_at dksX5_init_0 0 rfl rfl)
theorem dX5_init_1 : decode cX5_init 1 = .ok (.invokespecial 1, 3) := dk_183 0 1 (dk_at dksX5_init_0 1 rfl rfl)
theorem dX5_init_4 : decode cX5_init 4 = .ok (.aload_n 0, 1) := dk_42 (dk_at dksX5_init_0 4 rfl rfl)
theorem dX5_init_5 : decode cX5_init 5 = .ok (.sipush 5995, 3) := dk_17 23 107 (dk_at dksX5_init_0 5 rfl rfl)
theorem dX5_init_8 : decode cX5_init 8 = .ok (.newarray .int, 2) := dk_188_10 (dk_at dksX5_init_0 8 rfl rfl)
theorem dX5_init_10 : decode cX5_init 10 = .ok (.putfield 7, 3) := dk_181 0 7 (dk_at dksX5_init_0 10 rfl rfl)
theorem dX5_init_13 : decode cX5_init 13 = .ok (.aload_n 0, 1) := dk_42 (dk_at dksX5_init_0 13 rfl rfl)
theorem dX5_init_14 : decode cX5_init 14 = .ok (.iconst 2, 1) := dk_5 (dk_at dksX5_init_0 14 rfl rfl)
theorem dX5_init_15 : decode cX5_init 15 = .ok (.newarray .boolean, 2) := dk_188_4 (dk_at dksX5_init_0 15 rfl rfl)
theorem dX5_init_17 : decode cX5_init 17 = .ok (.putfield 13, 3) := dk_181 0 13 (dk_at dksX5_init_0 17 rfl rfl)
theorem dX5_init_20 : decode cX5_init 20 = .ok (.aload_n 0, 1) := dk_42 (dk_at dksX5_init_0 20 rfl rfl)
theorem dX5_init_21 : decode cX5_init 21 = .ok (.bipush 10, 2) := dk_16 10 (dk_at dksX5_init_0 21 rfl rfl)
theorem dX5_init_23 : decode cX5_init 23 = .ok (.newarray .int, 2) := dk_188_10 (dk_at dksX5_init_1 0 rfl rfl)
theorem dX5_init_25 : decode cX5_init 25 = .ok (.putfield 17, 3) := dk_181 0 17 (dk_at dksX5_init_1 2 rfl rfl)
theorem dX5_init_28 : decode cX5_init 28 = .ok (.aload_n 0, 1) := dk_42 (dk_at dksX5_init_1 5 rfl rfl)
theorem dX5_init_29 : decode cX5_init 29 = .ok (.bipush 10, 2) := dk_16 10 (dk_at dksX5_init_1 6 rfl rfl)
theorem dX5_init_31 : decode cX5_init 31 = .ok (.newarray .int, 2) := dk_188_10 (dk_at dksX5_init_1 8 rfl rfl)
theorem dX5_init_33 : decode cX5_init 33 = .ok (.putfield 20, 3) := dk_181 0 20 (dk_at dksX5_init_1 10 rfl rfl)
theorem dX5_init_36 : decode cX5_init 36 = .ok (.aload_n 0, 1) := dk_42 (dk_at dksX5_init_1 13 rfl rfl)
theorem dX5_init_37 : decode cX5_init 37 = .ok (.bipush 10, 2) := dk_16 10 (dk_at dksX5_init_1 14 rfl rfl)
theorem dX5_init_39 : decode cX5_init 39 = .ok (.newarray .boolean, 2) := dk_188_4 (dk_at dksX5_init_1 16 rfl rfl)
theorem dX5_init_41 : decode cX5_init 41 = .ok (.putfield 23, 3) := dk_181 0 23 (dk_at dksX5_init_1 18 rfl rfl)
theorem dX5_init_44 : decode cX5_init 44 = .ok (.aload_n 0, 1) := dk_42 (dk_at dksX5_init_1 21 rfl rfl)
theorem dX5_init_45 : decode cX5_init 45 = .ok (.sipush 500, 3) := dk_17 1 244 (dk_at dksX5_init_2 0 rfl rfl)
theorem dX5_init_48 : decode cX5_init 48 = .ok (.newarray .int, 2) := dk_188_10 (dk_at dksX5_init_2 3 rfl rfl)
theorem dX5_init_50 : decode cX5_init 50 = .ok (.putfield 26, 3) := dk_181 0 26 (dk_at dksX5_init_2 5 rfl rfl)
theorem dX5_init_53 : decode cX5_init 53 = .ok (.aload_n 0, 1) := dk_42 (dk_at dksX5_init_2 8 rfl rfl)
theorem dX5_init_54 : decode cX5_init 54 = .ok (.iconst (-1), 1) := dk_2 (dk_at dksX5_init_2 9 rfl rfl)
theorem dX5_init_55 : decode cX5_init 55 = .ok (.putfield 29, 3) := dk_181 0 29 (dk_at dksX5_init_2 10 rfl rfl)
theorem dX5_init_58 : decode cX5_init 58 = .ok (.aload_n 0, 1) := dk_42 (dk_at dksX5_init_2 13 rfl rfl)
theorem dX5_init_59 : decode cX5_init 59 = .ok (.bipush 125, 2) := dk_16 125 (dk_at dksX5_init_2 14 rfl rfl)
theorem dX5_init_61 : decode cX5_init 61 = .ok (.newarray .int, 2) := dk_188_10 (dk_at dksX5_init_2 16 rfl rfl)
theorem dX5_init_63 : decode cX5_init 63 = .ok (.putfield 33, 3) := dk_181 0 33 (dk_at dksX5_init_2 18 rfl rfl)
theorem dX5_init_66 : decode cX5_init 66 = .ok (.aload_n 0, 1) := dk_42 (dk_at dksX5_init_2 21 rfl rfl)
theorem dX5_init_67 : decode cX5_init 67 = .ok (.bipush 10, 2) := dk_16 10 (dk_at dksX5_init_2 22 rfl rfl)
theorem dX5_init_69 : decode cX5_init 69 = .ok (.newarray .int, 2) := dk_188_10 (dk_at dksX5_init_3 0 rfl rfl)
theorem dX5_init_71 : decode cX5_init 71 = .ok (.putfield 36, 3) := dk_181 0 36 (dk_at dksX5_init_3 2 rfl rfl)
theorem dX5_init_74 : decode cX5_init 74 = .ok (.aload_n 0, 1) := dk_42 (dk_at dksX5_init_3 5 rfl rfl)
theorem dX5_init_75 : decode cX5_init 75 = .ok (.bipush 10, 2) := dk_16 10 (dk_at dksX5_init_3 6 rfl rfl)
theorem dX5_init_77 : decode cX5_init 77 = .ok (.newarray .int, 2) := dk_188_10 (dk_at dksX5_init_3 8 rfl rfl)
theorem dX5_init_79 : decode cX5_init 79 = .ok (.putfield 39, 3) := dk_181 0 39 (dk_at dksX5_init_3 10 rfl rfl)
theorem dX5_init_82 : decode cX5_init 82 = .ok (.aload_n 0, 1) := dk_42 (dk_at dksX5_init_3 13 rfl rfl)
theorem dX5_init_83 : decode cX5_init 83 = .ok (.iconst 0, 1) := dk_3 (dk_at dksX5_init_3 14 rfl rfl)
theorem dX5_init_84 : decode cX5_init 84 = .ok (.iconst 2, 1) := dk_5 (dk_at dksX5_init_3 15 rfl rfl)
theorem dX5_init_85 : decode cX5_init 85 = .ok (.invokevirtual 42, 3) := dk_182 0 42 (dk_at dksX5_init_3 16 rfl rfl)
theorem dX5_init_88 : decode cX5_init 88 = .ok (.aload_n 0, 1) := dk_42 (dk_at dksX5_init_3 19 rfl rfl)
theorem dX5_init_89 : decode cX5_init 89 = .ok (.iconst 2, 1) := dk_5 (dk_at dksX5_init_3 20 rfl rfl)
theorem dX5_init_90 : decode cX5_init 90 = .ok (.iconst 3, 1) := dk_6 (dk_at dksX5_init_3 21 rfl rfl)
theorem dX5_init_91 : decode cX5_init 91 = .ok (.invokevirtual 42, 3) := dk_182 0 42 (dk_at dksX5_init_4 0 rfl rfl)
theorem dX5_init_94 : decode cX5_init 94 = .ok (.aload_n 0, 1) := dk_42 (dk_at dksX5_init_4 3 rfl rfl)
theorem dX5_init_95 : decode cX5_init 95 = .ok (.invokevirtual 46, 3) := dk_182 0 46 (dk_at dksX5_init_4 4 rfl rfl)
theorem dX5_init_98 : decode cX5_init 98 = .ok (.aload_n 0, 1) := dk_42 (dk_at dksX5_init_4 7 rfl rfl)
theorem dX5_init_99 : decode cX5_init 99 = .ok (.iconst 0, 1) := dk_3 (dk_at dksX5_init_4 8 rfl rfl)
theorem dX5_init_100 : decode cX5_init 100 = .ok (.invokevirtual 49, 3) := dk_182 0 49 (dk_at dksX5_init_4 9 rfl rfl)
theorem dX5_init_103 : decode cX5_init 103 = .ok (.aload_n 0, 1) := dk_42 (dk_at dksX5_init_4 12 rfl rfl)
theorem dX5_init_104 : decode cX5_init 104 = .ok (.iconst 4, 1) := dk_7 (dk_at dksX5_init_4 13 rfl rfl)
theorem dX5_init_105 : decode cX5_init 105 = .ok (.invokevirtual 53, 3) := dk_182 0 53 (dk_at dksX5_init_4 14 rfl rfl)
theorem dX5_init_108 : decode cX5_init 108 = .ok (.aload_n 0, 1) := dk_42 (dk_at dksX5_init_4 17 rfl rfl)
theorem dX5_init_109 : decode cX5_init 109 = .ok (.iconst 2, 1) := dk_5 (dk_at dksX5_init_4 18 rfl rfl)
theorem dX5_init_110 : decode cX5_init 110 = .ok (.invokevirtual 53, 3) := dk_182 0 53 (dk_at dksX5_init_4 19 rfl rfl)
theorem dX5_init_113 : decode cX5_init 113 = .ok (.aload_n 0, 1) := dk_42 (dk_at dksX5_init_4 22 rfl rfl)
theorem dX5_init_114 : decode cX5_init 114 = .ok (.iconst 1, 1) := dk_4 (dk_at dksX5_init_4 23 rfl rfl)
theorem dX5_init_115 : decode cX5_init 115 = .ok (.invokevirtual 49, 3) := dk_182 0 49 (dk_at dksX5_init_5 0 rfl rfl)
theorem dX5_init_118 : decode cX5_init 118 = .ok (.aload_n 0, 1) := dk_42 (dk_at dksX5_init_5 3 rfl rfl)
theorem dX5_init_119 : decode cX5_init 119 = .ok (.iconst 3, 1) := dk_6 (dk_at dksX5_init_5 4 rfl rfl)
theorem dX5_init_120 : decode cX5_init 120 = .ok (.invokevirtual 53, 3) := dk_182 0 53 (dk_at dksX5_init_5 5 rfl rfl)
theorem dX5_init_123 : decode cX5_init 123 = .ok (.aload_n 0, 1) := dk_42 (dk_at dksX5_init_5 8 rfl rfl)
theorem dX5_init_124 : decode cX5_init 124 = .ok (.iconst 3, 1) := dk_6 (dk_at dksX5_init_5 9 rfl rfl)
theorem dX5_init_125 : decode cX5_init 125 = .ok (.invokevirtual 53, 3) := dk_182 0 53 (dk_at dksX5_init_5 10 rfl rfl)
theorem dX5_init_128 : decode cX5_init 128 = .ok (.aload_n 0, 1) := dk_42 (dk_at dksX5_init_5 13 rfl rfl)
theorem dX5_init_129 : decode cX5_init 129 = .ok (.iconst 1, 1) := dk_4 (dk_at dksX5_init_5 14 rfl rfl)
theorem dX5_init_130 : decode cX5_init 130 = .ok (.invokevirtual 49, 3) := dk_182 0 49 (dk_at dksX5_init_5 15 rfl rfl)
theorem dX5_init_133 : decode cX5_init 133 = .ok (.aload_n 0, 1) := dk_42 (dk_at dksX5_init_5 18 rfl rfl)
theorem dX5_init_134 : decode cX5_init 134 = .ok (.iconst 5, 1) := dk_8 (dk_at dksX5_init_5 19 rfl rfl)
theorem dX5_init_135 : decode cX5_init 135 = .ok (.invokevirtual 53, 3) := dk_182 0 53 (dk_at dksX5_init_5 20 rfl rfl)
theorem dX5_init_138 : decode cX5_init 138 = .ok (.aload_n 0, 1) := dk_42 (dk_at dksX5_init_5 23 rfl rfl)
theorem dX5_init_139 : decode cX5_init 139 = .ok (.iconst 0, 1) := dk_3 (dk_at dksX5_init_6 0 rfl rfl)
theorem dX5_init_140 : decode cX5_init 140 = .ok (.invokevirtual 49, 3) := dk_182 0 49 (dk_at dksX5_init_6 1 rfl rfl)
theorem dX5_init_143 : decode cX5_init 143 = .ok (.aload_n 0, 1) := dk_42 (dk_at dksX5_init_6 4 rfl rfl)
theorem dX5_init_144 : decode cX5_init 144 = .ok (.bipush 9, 2) := dk_16 9 (dk_at dksX5_init_6 5 rfl rfl)
theorem dX5_init_146 : decode cX5_init 146 = .ok (.invokevirtual 53, 3) := dk_182 0 53 (dk_at dksX5_init_6 7 rfl rfl)
theorem dX5_init_149 : decode cX5_init 149 = .ok (.aload_n 0, 1) := dk_42 (dk_at dksX5_init_6 10 rfl rfl)
theorem dX5_init_150 : decode cX5_init 150 = .ok (.iconst 1, 1) := dk_4 (dk_at dksX5_init_6 11 rfl rfl)
theorem dX5_init_151 : decode cX5_init 151 = .ok (.invokevirtual 53, 3) := dk_182 0 53 (dk_at dksX5_init_6 12 rfl rfl)
theorem dX5_init_154 : decode cX5_init 154 = .ok (.aload_n 0, 1) := dk_42 (dk_at dksX5_init_6 15 rfl rfl)
theorem dX5_init_155 : decode cX5_init 155 = .ok (.iconst 1, 1) := dk_4 (dk_at dksX5_init_6 16 rfl rfl)
theorem dX5_init_156 : decode cX5_init 156 = .ok (.invokevirtual 49, 3) := dk_182 0 49 (dk_at dksX5_init_6 17 rfl rfl)
theorem dX5_init_159 : decode cX5_init 159 = .ok (.aload_n 0, 1) := dk_42 (dk_at dksX5_init_6 20 rfl rfl)
theorem dX5_init_160 : decode cX5_init 160 = .ok (.iconst 0, 1) := dk_3 (dk_at dksX5_init_6 21 rfl rfl)
theorem dX5_init_161 : decode cX5_init 161 = .ok (.invokevirtual 53, 3) := dk_182 0 53 (dk_at dksX5_init_7 0 rfl rfl)
theorem dX5_init_164 : decode cX5_init 164 = .ok (.aload_n 0, 1) := dk_42 (dk_at dksX5_init_7 3 rfl rfl)
theorem dX5_init_165 : decode cX5_init 165 = .ok (.iconst 2, 1) := dk_5 (dk_at dksX5_init_7 4 rfl rfl)
theorem dX5_init_166 : decode cX5_init 166 = .ok (.invokevirtual 53, 3) := dk_182 0 53 (dk_at dksX5_init_7 5 rfl rfl)
theorem dX5_init_169 : decode cX5_init 169 = .ok (.aload_n 0, 1) := dk_42 (dk_at dksX5_init_7 8 rfl rfl)
theorem dX5_init_170 : decode cX5_init 170 = .ok (.iconst 2, 1) := dk_5 (dk_at dksX5_init_7 9 rfl rfl)
theorem dX5_init_171 : decode cX5_init 171 = .ok (.invokevirtual 53, 3) := dk_182 0 53 (dk_at dksX5_init_7 10 rfl rfl)
theorem dX5_init_174 : decode cX5_init 174 = .ok (.return_, 1) := dk_177 (dk_at dksX5_init_7 13 rfl rfl)
abbrev cX5_lay : ByteArray := prog_14_method_4_code
def yX5_lay : MethodName := ⟨RX5, "lay", "(II)V"⟩
def dkwX5_lay_0 : List UInt8 := [42, 180, 0, 7, 17, 2, 33, 42, 180, 0, 59, 104, 27, 96, 28, 79, 177]
abbrev dktX5_lay_0 : List UInt8 := dkwX5_lay_0 ++ []
theorem dksX5_lay_0 : cX5_lay.data.toList.drop 0 = dktX5_lay_0 := by decide +kernel
theorem dX5_lay_0 : decode cX5_lay 0 = .ok (.aload_n 0, 1) := dk_42 (dk_at dksX5_lay_0 0 rfl rfl)
theorem dX5_lay_1 : decode cX5_lay 1 = .ok (.getfield 7, 3) := dk_180 0 7 (dk_at dksX5_lay_0 1 rfl rfl)
theorem dX5_lay_4 : decode cX5_lay 4 = .ok (.sipush 545, 3) := dk_17 2 33 (dk_at dksX5_lay_0 4 rfl rfl)
theorem dX5_lay_7 : decode cX5_lay 7 = .ok (.aload_n 0, 1) := dk_42 (dk_at dksX5_lay_0 7 rfl rfl)
theorem dX5_lay_8 : decode cX5_lay 8 = .ok (.getfield 59, 3) := dk_180 0 59 (dk_at dksX5_lay_0 8 rfl rfl)
theorem dX5_lay_11 : decode cX5_lay 11 = .ok (.imul, 1) := dk_104 (dk_at dksX5_lay_0 11 rfl rfl)
theorem dX5_lay_12 : decode cX5_lay 12 = .ok (.iload_n 1, 1) := dk_27 (dk_at dksX5_lay_0 12 rfl rfl)
theorem dX5_lay_13 : decode cX5_lay 13 = .ok (.iadd, 1) := dk_96 (dk_at dksX5_lay_0 13 rfl rfl)
theorem dX5_lay_14 : decode cX5_lay 14 = .ok (.iload_n 2, 1) := dk_28 (dk_at dksX5_lay_0 14 rfl rfl)
theorem dX5_lay_15 : decode cX5_lay 15 = .ok (.iastore, 1) := dk_79 (dk_at dksX5_lay_0 15 rfl rfl)
theorem dX5_lay_16 : decode cX5_lay 16 = .ok (.return_, 1) := dk_177 (dk_at dksX5_lay_0 16 rfl rfl)
abbrev cX5_opens : ByteArray := prog_14_method_18_code
def yX5_opens : MethodName := ⟨RX5, "opens", "()V"⟩
def dkwX5_opens_1 : List UInt8 := [60, 27, 16, 100, 162, 0, 18, 42, 16, 85, 27, 96, 2, 182, 0, 42, 132, 1, 1, 167, 255, 238, 177]
abbrev dktX5_opens_1 : List UInt8 := dkwX5_opens_1 ++ []
def dkwX5_opens_0 : List UInt8 := [3, 60, 27, 7, 162, 0, 19, 42, 16, 11, 27, 96, 16, 10, 182, 0, 42, 132, 1, 1, 167, 255, 238, 3]
abbrev dktX5_opens_0 : List UInt8 := dkwX5_opens_0 ++ dktX5_opens_1
theorem dksX5_opens_0 : cX5_opens.data.toList.drop 0 = dktX5_opens_0 := by decide +kernel
theorem dksX5_opens_1 : cX5_opens.data.toList.drop 24 = dktX5_opens_1 := dk_seg dksX5_opens_0 24 rfl rfl
theorem dX5_opens_0 : decode cX5_opens 0 = .ok (.iconst 0, 1) := dk_3 (dk_at dksX5_opens_0 0 rfl rfl)
theorem dX5_opens_1 : decode cX5_opens 1 = .ok (.istore_n 1, 1) := dk_60 (dk_at dksX5_opens_0 1 rfl rfl)
theorem dX5_opens_2 : decode cX5_opens 2 = .ok (.iload_n 1, 1) := dk_27 (dk_at dksX5_opens_0 2 rfl rfl)
theorem dX5_opens_3 : decode cX5_opens 3 = .ok (.iconst 4, 1) := dk_7 (dk_at dksX5_opens_0 3 rfl rfl)
theorem dX5_opens_4 : decode cX5_opens 4 = .ok (.if_icmp .ge 19, 3) := dk_162 0 19 (dk_at dksX5_opens_0 4 rfl rfl)
theorem dX5_opens_7 : decode cX5_opens 7 = .ok (.aload_n 0, 1) := dk_42 (dk_at dksX5_opens_0 7 rfl rfl)
theorem dX5_opens_8 : decode cX5_opens 8 = .ok (.bipush 11, 2) := dk_16 11 (dk_at dksX5_opens_0 8 rfl rfl)
theorem dX5_opens_10 : decode cX5_opens 10 = .ok (.iload_n 1, 1) := dk_27 (dk_at dksX5_opens_0 10 rfl rfl)
theorem dX5_opens_11 : decode cX5_opens 11 = .ok (.iadd, 1) := dk_96 (dk_at dksX5_opens_0 11 rfl rfl)
theorem dX5_opens_12 : decode cX5_opens 12 = .ok (.bipush 10, 2) := dk_16 10 (dk_at dksX5_opens_0 12 rfl rfl)
theorem dX5_opens_14 : decode cX5_opens 14 = .ok (.invokevirtual 42, 3) := dk_182 0 42 (dk_at dksX5_opens_0 14 rfl rfl)
theorem dX5_opens_17 : decode cX5_opens 17 = .ok (.iinc 1 1, 3) := dk_132 1 1 (dk_at dksX5_opens_0 17 rfl rfl)
theorem dX5_opens_20 : decode cX5_opens 20 = .ok (.goto (-18), 3) := dk_167 255 238 (dk_at dksX5_opens_0 20 rfl rfl)
theorem dX5_opens_23 : decode cX5_opens 23 = .ok (.iconst 0, 1) := dk_3 (dk_at dksX5_opens_0 23 rfl rfl)
theorem dX5_opens_24 : decode cX5_opens 24 = .ok (.istore_n 1, 1) := dk_60 (dk_at dksX5_opens_1 0 rfl rfl)
theorem dX5_opens_25 : decode cX5_opens 25 = .ok (.iload_n 1, 1) := dk_27 (dk_at dksX5_opens_1 1 rfl rfl)
theorem dX5_opens_26 : decode cX5_opens 26 = .ok (.bipush 100, 2) := dk_16 100 (dk_at dksX5_opens_1 2 rfl rfl)
theorem dX5_opens_28 : decode cX5_opens 28 = .ok (.if_icmp .ge 18, 3) := dk_162 0 18 (dk_at dksX5_opens_1 4 rfl rfl)
theorem dX5_opens_31 : decode cX5_opens 31 = .ok (.aload_n 0, 1) := dk_42 (dk_at dksX5_opens_1 7 rfl rfl)
theorem dX5_opens_32 : decode cX5_opens 32 = .ok (.bipush 85, 2) := dk_16 85 (dk_at dksX5_opens_1 8 rfl rfl)
theorem dX5_opens_34 : decode cX5_opens 34 = .ok (.iload_n 1, 1) := dk_27 (dk_at dksX5_opens_1 10 rfl rfl)
theorem dX5_opens_35 : decode cX5_opens 35 = .ok (.iadd, 1) := dk_96 (dk_at dksX5_opens_1 11 rfl rfl)
theorem dX5_opens_36 : decode cX5_opens 36 = .ok (.iconst (-1), 1) := dk_2 (dk_at dksX5_opens_1 12 rfl rfl)
theorem dX5_opens_37 : decode cX5_opens 37 = .ok (.invokevirtual 42, 3) := dk_182 0 42 (dk_at dksX5_opens_1 13 rfl rfl)
theorem dX5_opens_40 : decode cX5_opens 40 = .ok (.iinc 1 1, 3) := dk_132 1 1 (dk_at dksX5_opens_1 16 rfl rfl)
theorem dX5_opens_43 : decode cX5_opens 43 = .ok (.goto (-18), 3) := dk_167 255 238 (dk_at dksX5_opens_1 19 rfl rfl)
theorem dX5_opens_46 : decode cX5_opens 46 = .ok (.return_, 1) := dk_177 (dk_at dksX5_opens_1 22 rfl rfl)
abbrev cX5_newHeap : ByteArray := prog_14_method_19_code
def yX5_newHeap : MethodName := ⟨RX5, "newHeap", "(I)V"⟩
def dkwX5_newHeap_0 : List UInt8 := [42, 42, 4, 182, 0, 65, 3, 27, 182, 0, 76, 42, 4, 4, 182, 0, 62, 177]
abbrev dktX5_newHeap_0 : List UInt8 := dkwX5_newHeap_0 ++ []
theorem dksX5_newHeap_0 : cX5_newHeap.data.toList.drop 0 = dktX5_newHeap_0 := by decide +kernel
theorem dX5_newHeap_0 : decode cX5_newHeap 0 = .ok (.aload_n 0, 1) := dk_42 (dk_at dksX5_newHeap_0 0 rfl rfl)
theorem dX5_newHeap_1 : decode cX5_newHeap 1 = .ok (.aload_n 0, 1) := dk_42 (dk_at dksX5_newHeap_0 1 rfl rfl)
theorem dX5_newHeap_2 : decode cX5_newHeap 2 = .ok (.iconst 1, 1) := dk_4 (dk_at dksX5_newHeap_0 2 rfl rfl)
theorem dX5_newHeap_3 : decode cX5_newHeap 3 = .ok (.invokevirtual 65, 3) := dk_182 0 65 (dk_at dksX5_newHeap_0 3 rfl rfl)
theorem dX5_newHeap_6 : decode cX5_newHeap 6 = .ok (.iconst 0, 1) := dk_3 (dk_at dksX5_newHeap_0 6 rfl rfl)
theorem dX5_newHeap_7 : decode cX5_newHeap 7 = .ok (.iload_n 1, 1) := dk_27 (dk_at dksX5_newHeap_0 7 rfl rfl)
theorem dX5_newHeap_8 : decode cX5_newHeap 8 = .ok (.invokevirtual 76, 3) := dk_182 0 76 (dk_at dksX5_newHeap_0 8 rfl rfl)
theorem dX5_newHeap_11 : decode cX5_newHeap 11 = .ok (.aload_n 0, 1) := dk_42 (dk_at dksX5_newHeap_0 11 rfl rfl)
theorem dX5_newHeap_12 : decode cX5_newHeap 12 = .ok (.iconst 1, 1) := dk_4 (dk_at dksX5_newHeap_0 12 rfl rfl)
theorem dX5_newHeap_13 : decode cX5_newHeap 13 = .ok (.iconst 1, 1) := dk_4 (dk_at dksX5_newHeap_0 13 rfl rfl)
theorem dX5_newHeap_14 : decode cX5_newHeap 14 = .ok (.invokevirtual 62, 3) := dk_182 0 62 (dk_at dksX5_newHeap_0 14 rfl rfl)
theorem dX5_newHeap_17 : decode cX5_newHeap 17 = .ok (.return_, 1) := dk_177 (dk_at dksX5_newHeap_0 17 rfl rfl)
abbrev cX5_get : ByteArray := prog_14_method_3_code
def yX5_get : MethodName := ⟨RX5, "get", "(I)I"⟩
def dkwX5_get_0 : List UInt8 := [42, 180, 0, 7, 17, 2, 33, 42, 180, 0, 59, 104, 27, 96, 46, 172]
abbrev dktX5_get_0 : List UInt8 := dkwX5_get_0 ++ []
theorem dksX5_get_0 : cX5_get.data.toList.drop 0 = dktX5_get_0 := by decide +kernel
theorem dX5_get_0 : decode cX5_get 0 = .ok (.aload_n 0, 1) := dk_42 (dk_at dksX5_get_0 0 rfl rfl)
theorem dX5_get_1 : decode cX5_get 1 = .ok (.getfield 7, 3) := dk_180 0 7 (dk_at dksX5_get_0 1 rfl rfl)
theorem dX5_get_4 : decode cX5_get 4 = .ok (.sipush 545, 3) := dk_17 2 33 (dk_at dksX5_get_0 4 rfl rfl)
theorem dX5_get_7 : decode cX5_get 7 = .ok (.aload_n 0, 1) := dk_42 (dk_at dksX5_get_0 7 rfl rfl)
theorem dX5_get_8 : decode cX5_get 8 = .ok (.getfield 59, 3) := dk_180 0 59 (dk_at dksX5_get_0 8 rfl rfl)
theorem dX5_get_11 : decode cX5_get 11 = .ok (.imul, 1) := dk_104 (dk_at dksX5_get_0 11 rfl rfl)
theorem dX5_get_12 : decode cX5_get 12 = .ok (.iload_n 1, 1) := dk_27 (dk_at dksX5_get_0 12 rfl rfl)
theorem dX5_get_13 : decode cX5_get 13 = .ok (.iadd, 1) := dk_96 (dk_at dksX5_get_0 13 rfl rfl)
theorem dX5_get_14 : decode cX5_get 14 = .ok (.iaload, 1) := dk_46 (dk_at dksX5_get_0 14 rfl rfl)
theorem dX5_get_15 : decode cX5_get 15 = .ok (.ireturn, 1) := dk_172 (dk_at dksX5_get_0 15 rfl rfl)
abbrev cX5_layHeap : ByteArray := prog_14_method_12_code
def yX5_layHeap : MethodName := ⟨RX5, "layHeap", "(III)V"⟩
def dkwX5_layHeap_0 : List UInt8 := [42, 16, 15, 16, 7, 27, 104, 96, 28, 96, 29, 182, 0, 42, 177]
abbrev dktX5_layHeap_0 : List UInt8 := dkwX5_layHeap_0 ++ []
theorem dksX5_layHeap_0 : cX5_layHeap.data.toList.drop 0 = dktX5_layHeap_0 := by decide +kernel
theorem dX5_layHeap_0 : decode cX5_layHeap 0 = .ok (.aload_n 0, 1) := dk_42 (dk_at dksX5_layHeap_0 0 rfl rfl)
theorem dX5_layHeap_1 : decode cX5_layHeap 1 = .ok (.bipush 15, 2) := dk_16 15 (dk_at dksX5_layHeap_0 1 rfl rfl)
theorem dX5_layHeap_3 : decode cX5_layHeap 3 = .ok (.bipush 7, 2) := dk_16 7 (dk_at dksX5_layHeap_0 3 rfl rfl)
theorem dX5_layHeap_5 : decode cX5_layHeap 5 = .ok (.iload_n 1, 1) := dk_27 (dk_at dksX5_layHeap_0 5 rfl rfl)
theorem dX5_layHeap_6 : decode cX5_layHeap 6 = .ok (.imul, 1) := dk_104 (dk_at dksX5_layHeap_0 6 rfl rfl)
theorem dX5_layHeap_7 : decode cX5_layHeap 7 = .ok (.iadd, 1) := dk_96 (dk_at dksX5_layHeap_0 7 rfl rfl)
theorem dX5_layHeap_8 : decode cX5_layHeap 8 = .ok (.iload_n 2, 1) := dk_28 (dk_at dksX5_layHeap_0 8 rfl rfl)
theorem dX5_layHeap_9 : decode cX5_layHeap 9 = .ok (.iadd, 1) := dk_96 (dk_at dksX5_layHeap_0 9 rfl rfl)
theorem dX5_layHeap_10 : decode cX5_layHeap 10 = .ok (.iload_n 3, 1) := dk_29 (dk_at dksX5_layHeap_0 10 rfl rfl)
theorem dX5_layHeap_11 : decode cX5_layHeap 11 = .ok (.invokevirtual 42, 3) := dk_182 0 42 (dk_at dksX5_layHeap_0 11 rfl rfl)
theorem dX5_layHeap_14 : decode cX5_layHeap 14 = .ok (.return_, 1) := dk_177 (dk_at dksX5_layHeap_0 14 rfl rfl)
abbrev cX5_adds : ByteArray := prog_14_method_5_code
def yX5_adds : MethodName := ⟨RX5, "adds", "(II)V"⟩
def dkwX5_adds_0 : List UInt8 := [42, 180, 0, 7, 17, 2, 33, 42, 180, 0, 59, 104, 27, 96, 92, 46, 28, 96, 79, 177]
abbrev dktX5_adds_0 : List UInt8 := dkwX5_adds_0 ++ []
theorem dksX5_adds_0 : cX5_adds.data.toList.drop 0 = dktX5_adds_0 := by decide +kernel
theorem dX5_adds_0 : decode cX5_adds 0 = .ok (.aload_n 0, 1) := dk_42 (dk_at dksX5_adds_0 0 rfl rfl)
theorem dX5_adds_1 : decode cX5_adds 1 = .ok (.getfield 7, 3) := dk_180 0 7 (dk_at dksX5_adds_0 1 rfl rfl)
theorem dX5_adds_4 : decode cX5_adds 4 = .ok (.sipush 545, 3) := dk_17 2 33 (dk_at dksX5_adds_0 4 rfl rfl)
theorem dX5_adds_7 : decode cX5_adds 7 = .ok (.aload_n 0, 1) := dk_42 (dk_at dksX5_adds_0 7 rfl rfl)
theorem dX5_adds_8 : decode cX5_adds 8 = .ok (.getfield 59, 3) := dk_180 0 59 (dk_at dksX5_adds_0 8 rfl rfl)
theorem dX5_adds_11 : decode cX5_adds 11 = .ok (.imul, 1) := dk_104 (dk_at dksX5_adds_0 11 rfl rfl)
theorem dX5_adds_12 : decode cX5_adds 12 = .ok (.iload_n 1, 1) := dk_27 (dk_at dksX5_adds_0 12 rfl rfl)
theorem dX5_adds_13 : decode cX5_adds 13 = .ok (.iadd, 1) := dk_96 (dk_at dksX5_adds_0 13 rfl rfl)
theorem dX5_adds_14 : decode cX5_adds 14 = .ok (.dup2, 1) := dk_92 (dk_at dksX5_adds_0 14 rfl rfl)
theorem dX5_adds_15 : decode cX5_adds 15 = .ok (.iaload, 1) := dk_46 (dk_at dksX5_adds_0 15 rfl rfl)
theorem dX5_adds_16 : decode cX5_adds 16 = .ok (.iload_n 2, 1) := dk_28 (dk_at dksX5_adds_0 16 rfl rfl)
theorem dX5_adds_17 : decode cX5_adds 17 = .ok (.iadd, 1) := dk_96 (dk_at dksX5_adds_0 17 rfl rfl)
theorem dX5_adds_18 : decode cX5_adds 18 = .ok (.iastore, 1) := dk_79 (dk_at dksX5_adds_0 18 rfl rfl)
theorem dX5_adds_19 : decode cX5_adds 19 = .ok (.return_, 1) := dk_177 (dk_at dksX5_adds_0 19 rfl rfl)
abbrev cX5_newRow : ByteArray := prog_14_method_20_code
def yX5_newRow : MethodName := ⟨RX5, "newRow", "(I)V"⟩
def dkwX5_newRow_1 : List UInt8 := [4, 42, 28, 4, 182, 0, 69, 4, 96, 182, 0, 76, 177]
abbrev dktX5_newRow_1 : List UInt8 := dkwX5_newRow_1 ++ []
def dkwX5_newRow_0 : List UInt8 := [42, 4, 182, 0, 65, 4, 100, 61, 42, 28, 5, 42, 28, 4, 182, 0, 69, 96, 27, 182, 0, 76, 42, 28]
abbrev dktX5_newRow_0 : List UInt8 := dkwX5_newRow_0 ++ dktX5_newRow_1
theorem dksX5_newRow_0 : cX5_newRow.data.toList.drop 0 = dktX5_newRow_0 := by decide +kernel
theorem dksX5_newRow_1 : cX5_newRow.data.toList.drop 24 = dktX5_newRow_1 := dk_seg dksX5_newRow_0 24 rfl rfl
theorem dX5_newRow_0 : decode cX5_newRow 0 = .ok (.aload_n 0, 1) := dk_42 (dk_at dksX5_newRow_0 0 rfl rfl)
theorem dX5_newRow_1 : decode cX5_newRow 1 = .ok (.iconst 1, 1) := dk_4 (dk_at dksX5_newRow_0 1 rfl rfl)
theorem dX5_newRow_2 : decode cX5_newRow 2 = .ok (.invokevirtual 65, 3) := dk_182 0 65 (dk_at dksX5_newRow_0 2 rfl rfl)
theorem dX5_newRow_5 : decode cX5_newRow 5 = .ok (.iconst 1, 1) := dk_4 (dk_at dksX5_newRow_0 5 rfl rfl)
theorem dX5_newRow_6 : decode cX5_newRow 6 = .ok (.isub, 1) := dk_100 (dk_at dksX5_newRow_0 6 rfl rfl)
theorem dX5_newRow_7 : decode cX5_newRow 7 = .ok (.istore_n 2, 1) := dk_61 (dk_at dksX5_newRow_0 7 rfl rfl)
theorem dX5_newRow_8 : decode cX5_newRow 8 = .ok (.aload_n 0, 1) := dk_42 (dk_at dksX5_newRow_0 8 rfl rfl)
theorem dX5_newRow_9 : decode cX5_newRow 9 = .ok (.iload_n 2, 1) := dk_28 (dk_at dksX5_newRow_0 9 rfl rfl)
theorem dX5_newRow_10 : decode cX5_newRow 10 = .ok (.iconst 2, 1) := dk_5 (dk_at dksX5_newRow_0 10 rfl rfl)
theorem dX5_newRow_11 : decode cX5_newRow 11 = .ok (.aload_n 0, 1) := dk_42 (dk_at dksX5_newRow_0 11 rfl rfl)
theorem dX5_newRow_12 : decode cX5_newRow 12 = .ok (.iload_n 2, 1) := dk_28 (dk_at dksX5_newRow_0 12 rfl rfl)
theorem dX5_newRow_13 : decode cX5_newRow 13 = .ok (.iconst 1, 1) := dk_4 (dk_at dksX5_newRow_0 13 rfl rfl)
theorem dX5_newRow_14 : decode cX5_newRow 14 = .ok (.invokevirtual 69, 3) := dk_182 0 69 (dk_at dksX5_newRow_0 14 rfl rfl)
theorem dX5_newRow_17 : decode cX5_newRow 17 = .ok (.iadd, 1) := dk_96 (dk_at dksX5_newRow_0 17 rfl rfl)
theorem dX5_newRow_18 : decode cX5_newRow 18 = .ok (.iload_n 1, 1) := dk_27 (dk_at dksX5_newRow_0 18 rfl rfl)
theorem dX5_newRow_19 : decode cX5_newRow 19 = .ok (.invokevirtual 76, 3) := dk_182 0 76 (dk_at dksX5_newRow_0 19 rfl rfl)
theorem dX5_newRow_22 : decode cX5_newRow 22 = .ok (.aload_n 0, 1) := dk_42 (dk_at dksX5_newRow_0 22 rfl rfl)
theorem dX5_newRow_23 : decode cX5_newRow 23 = .ok (.iload_n 2, 1) := dk_28 (dk_at dksX5_newRow_0 23 rfl rfl)
theorem dX5_newRow_24 : decode cX5_newRow 24 = .ok (.iconst 1, 1) := dk_4 (dk_at dksX5_newRow_1 0 rfl rfl)
theorem dX5_newRow_25 : decode cX5_newRow 25 = .ok (.aload_n 0, 1) := dk_42 (dk_at dksX5_newRow_1 1 rfl rfl)
theorem dX5_newRow_26 : decode cX5_newRow 26 = .ok (.iload_n 2, 1) := dk_28 (dk_at dksX5_newRow_1 2 rfl rfl)
theorem dX5_newRow_27 : decode cX5_newRow 27 = .ok (.iconst 1, 1) := dk_4 (dk_at dksX5_newRow_1 3 rfl rfl)
theorem dX5_newRow_28 : decode cX5_newRow 28 = .ok (.invokevirtual 69, 3) := dk_182 0 69 (dk_at dksX5_newRow_1 4 rfl rfl)
theorem dX5_newRow_31 : decode cX5_newRow 31 = .ok (.iconst 1, 1) := dk_4 (dk_at dksX5_newRow_1 7 rfl rfl)
theorem dX5_newRow_32 : decode cX5_newRow 32 = .ok (.iadd, 1) := dk_96 (dk_at dksX5_newRow_1 8 rfl rfl)
theorem dX5_newRow_33 : decode cX5_newRow 33 = .ok (.invokevirtual 76, 3) := dk_182 0 76 (dk_at dksX5_newRow_1 9 rfl rfl)
theorem dX5_newRow_36 : decode cX5_newRow 36 = .ok (.return_, 1) := dk_177 (dk_at dksX5_newRow_1 12 rfl rfl)
abbrev cX5_hp : ByteArray := prog_14_method_11_code
def yX5_hp : MethodName := ⟨RX5, "hp", "(II)I"⟩
def dkwX5_hp_0 : List UInt8 := [42, 16, 15, 16, 7, 27, 104, 96, 28, 96, 182, 0, 65, 172]
abbrev dktX5_hp_0 : List UInt8 := dkwX5_hp_0 ++ []
theorem dksX5_hp_0 : cX5_hp.data.toList.drop 0 = dktX5_hp_0 := by decide +kernel
theorem dX5_hp_0 : decode cX5_hp 0 = .ok (.aload_n 0, 1) := dk_42 (dk_at dksX5_hp_0 0 rfl rfl)
theorem dX5_hp_1 : decode cX5_hp 1 = .ok (.bipush 15, 2) := dk_16 15 (dk_at dksX5_hp_0 1 rfl rfl)
theorem dX5_hp_3 : decode cX5_hp 3 = .ok (.bipush 7, 2) := dk_16 7 (dk_at dksX5_hp_0 3 rfl rfl)
theorem dX5_hp_5 : decode cX5_hp 5 = .ok (.iload_n 1, 1) := dk_27 (dk_at dksX5_hp_0 5 rfl rfl)
theorem dX5_hp_6 : decode cX5_hp 6 = .ok (.imul, 1) := dk_104 (dk_at dksX5_hp_0 6 rfl rfl)
theorem dX5_hp_7 : decode cX5_hp 7 = .ok (.iadd, 1) := dk_96 (dk_at dksX5_hp_0 7 rfl rfl)
theorem dX5_hp_8 : decode cX5_hp 8 = .ok (.iload_n 2, 1) := dk_28 (dk_at dksX5_hp_0 8 rfl rfl)
theorem dX5_hp_9 : decode cX5_hp 9 = .ok (.iadd, 1) := dk_96 (dk_at dksX5_hp_0 9 rfl rfl)
theorem dX5_hp_10 : decode cX5_hp 10 = .ok (.invokevirtual 65, 3) := dk_182 0 65 (dk_at dksX5_hp_0 10 rfl rfl)
theorem dX5_hp_13 : decode cX5_hp 13 = .ok (.ireturn, 1) := dk_172 (dk_at dksX5_hp_0 13 rfl rfl)
abbrev cX5_thrown : ByteArray := prog_14_method_2_code
def yX5_thrown : MethodName := ⟨RX5, "thrown", "()I"⟩
theorem dX5_thrown_0 : decode cX5_thrown 0 = .ok (.aload_n 0, 1) := by decide +kernel
theorem dX5_thrown_1 : decode cX5_thrown 1 = .ok (.getfield 56, 3) := by decide +kernel
theorem dX5_thrown_4 : decode cX5_thrown 4 = .ok (.ireturn, 1) := by decide +kernel
abbrev cX5_appendText : ByteArray := prog_14_method_51_code
def yX5_appendText : MethodName := ⟨RX5, "appendText", "(I)I"⟩
def dkwX5_appendText_3 : List UInt8 := [180, 0, 158, 172]
abbrev dktX5_appendText_3 : List UInt8 := dkwX5_appendText_3 ++ []
def dkwX5_appendText_2 : List UInt8 := [28, 122, 17, 0, 255, 126, 79, 42, 89, 180, 0, 158, 4, 96, 181, 0, 158, 132, 2, 248, 167, 255, 223, 42]
abbrev dktX5_appendText_2 : List UInt8 := dkwX5_appendText_2 ++ dktX5_appendText_3
def dkwX5_appendText_1 : List UInt8 := [182, 0, 161, 154, 0, 5, 3, 172, 16, 24, 61, 28, 155, 0, 35, 42, 180, 0, 26, 42, 180, 0, 158, 27]
abbrev dktX5_appendText_1 : List UInt8 := dkwX5_appendText_1 ++ dktX5_appendText_2
def dkwX5_appendText_0 : List UInt8 := [42, 3, 181, 0, 56, 42, 42, 180, 0, 158, 7, 96, 17, 1, 244, 163, 0, 7, 4, 167, 0, 4, 3, 4]
abbrev dktX5_appendText_0 : List UInt8 := dkwX5_appendText_0 ++ dktX5_appendText_1
theorem dksX5_appendText_0 : cX5_appendText.data.toList.drop 0 = dktX5_appendText_0 := by decide +kernel
theorem dksX5_appendText_1 : cX5_appendText.data.toList.drop 24 = dktX5_appendText_1 := dk_seg dksX5_appendText_0 24 rfl rfl
theorem dksX5_appendText_2 : cX5_appendText.data.toList.drop 48 = dktX5_appendText_2 := dk_seg dksX5_appendText_1 24 rfl rfl
theorem dksX5_appendText_3 : cX5_appendText.data.toList.drop 72 = dktX5_appendText_3 := dk_seg dksX5_appendText_2 24 rfl rfl
theorem dX5_appendText_0 : decode cX5_appendText 0 = .ok (.aload_n 0, 1) := dk_42 (dk_at dksX5_appendText_0 0 rfl rfl)
theorem dX5_appendText_1 : decode cX5_appendText 1 = .ok (.iconst 0, 1) := dk_3 (dk_at dksX5_appendText_0 1 rfl rfl)
theorem dX5_appendText_2 : decode cX5_appendText 2 = .ok (.putfield 56, 3) := dk_181 0 56 (dk_at dksX5_appendText_0 2 rfl rfl)
theorem dX5_appendText_5 : decode cX5_appendText 5 = .ok (.aload_n 0, 1) := dk_42 (dk_at dksX5_appendText_0 5 rfl rfl)
theorem dX5_appendText_6 : decode cX5_appendText 6 = .ok (.aload_n 0, 1) := dk_42 (dk_at dksX5_appendText_0 6 rfl rfl)
theorem dX5_appendText_7 : decode cX5_appendText 7 = .ok (.getfield 158, 3) := dk_180 0 158 (dk_at dksX5_appendText_0 7 rfl rfl)
theorem dX5_appendText_10 : decode cX5_appendText 10 = .ok (.iconst 4, 1) := dk_7 (dk_at dksX5_appendText_0 10 rfl rfl)
theorem dX5_appendText_11 : decode cX5_appendText 11 = .ok (.iadd, 1) := dk_96 (dk_at dksX5_appendText_0 11 rfl rfl)
theorem dX5_appendText_12 : decode cX5_appendText 12 = .ok (.sipush 500, 3) := dk_17 1 244 (dk_at dksX5_appendText_0 12 rfl rfl)
theorem dX5_appendText_15 : decode cX5_appendText 15 = .ok (.if_icmp .gt 7, 3) := dk_163 0 7 (dk_at dksX5_appendText_0 15 rfl rfl)
theorem dX5_appendText_18 : decode cX5_appendText 18 = .ok (.iconst 1, 1) := dk_4 (dk_at dksX5_appendText_0 18 rfl rfl)
theorem dX5_appendText_19 : decode cX5_appendText 19 = .ok (.goto 4, 3) := dk_167 0 4 (dk_at dksX5_appendText_0 19 rfl rfl)
theorem dX5_appendText_22 : decode cX5_appendText 22 = .ok (.iconst 0, 1) := dk_3 (dk_at dksX5_appendText_0 22 rfl rfl)
theorem dX5_appendText_23 : decode cX5_appendText 23 = .ok (.iconst 1, 1) := dk_4 (dk_at dksX5_appendText_0 23 rfl rfl)
theorem dX5_appendText_24 : decode cX5_appendText 24 = .ok (.invokevirtual 161, 3) := dk_182 0 161 (dk_at dksX5_appendText_1 0 rfl rfl)
theorem dX5_appendText_27 : decode cX5_appendText 27 = .ok (.ifCond .ne 5, 3) := dk_154 0 5 (dk_at dksX5_appendText_1 3 rfl rfl)
theorem dX5_appendText_30 : decode cX5_appendText 30 = .ok (.iconst 0, 1) := dk_3 (dk_at dksX5_appendText_1 6 rfl rfl)
theorem dX5_appendText_31 : decode cX5_appendText 31 = .ok (.ireturn, 1) := dk_172 (dk_at dksX5_appendText_1 7 rfl rfl)
theorem dX5_appendText_32 : decode cX5_appendText 32 = .ok (.bipush 24, 2) := dk_16 24 (dk_at dksX5_appendText_1 8 rfl rfl)
theorem dX5_appendText_34 : decode cX5_appendText 34 = .ok (.istore_n 2, 1) := dk_61 (dk_at dksX5_appendText_1 10 rfl rfl)
theorem dX5_appendText_35 : decode cX5_appendText 35 = .ok (.iload_n 2, 1) := dk_28 (dk_at dksX5_appendText_1 11 rfl rfl)
theorem dX5_appendText_36 : decode cX5_appendText 36 = .ok (.ifCond .lt 35, 3) := dk_155 0 35 (dk_at dksX5_appendText_1 12 rfl rfl)
theorem dX5_appendText_39 : decode cX5_appendText 39 = .ok (.aload_n 0, 1) := dk_42 (dk_at dksX5_appendText_1 15 rfl rfl)
theorem dX5_appendText_40 : decode cX5_appendText 40 = .ok (.getfield 26, 3) := dk_180 0 26 (dk_at dksX5_appendText_1 16 rfl rfl)
theorem dX5_appendText_43 : decode cX5_appendText 43 = .ok (.aload_n 0, 1) := dk_42 (dk_at dksX5_appendText_1 19 rfl rfl)
theorem dX5_appendText_44 : decode cX5_appendText 44 = .ok (.getfield 158, 3) := dk_180 0 158 (dk_at dksX5_appendText_1 20 rfl rfl)
theorem dX5_appendText_47 : decode cX5_appendText 47 = .ok (.iload_n 1, 1) := dk_27 (dk_at dksX5_appendText_1 23 rfl rfl)
theorem dX5_appendText_48 : decode cX5_appendText 48 = .ok (.iload_n 2, 1) := dk_28 (dk_at dksX5_appendText_2 0 rfl rfl)
theorem dX5_appendText_49 : decode cX5_appendText 49 = .ok (.ishr, 1) := dk_122 (dk_at dksX5_appendText_2 1 rfl rfl)
theorem dX5_appendText_50 : decode cX5_appendText 50 = .ok (.sipush 255, 3) := dk_17 0 255 (dk_at dksX5_appendText_2 2 rfl rfl)
theorem dX5_appendText_53 : decode cX5_appendText 53 = .ok (.iand, 1) := dk_126 (dk_at dksX5_appendText_2 5 rfl rfl)
theorem dX5_appendText_54 : decode cX5_appendText 54 = .ok (.iastore, 1) := dk_79 (dk_at dksX5_appendText_2 6 rfl rfl)
theorem dX5_appendText_55 : decode cX5_appendText 55 = .ok (.aload_n 0, 1) := dk_42 (dk_at dksX5_appendText_2 7 rfl rfl)
theorem dX5_appendText_56 : decode cX5_appendText 56 = .ok (.dup, 1) := dk_89 (dk_at dksX5_appendText_2 8 rfl rfl)
theorem dX5_appendText_57 : decode cX5_appendText 57 = .ok (.getfield 158, 3) := dk_180 0 158 (dk_at dksX5_appendText_2 9 rfl rfl)
theorem dX5_appendText_60 : decode cX5_appendText 60 = .ok (.iconst 1, 1) := dk_4 (dk_at dksX5_appendText_2 12 rfl rfl)
theorem dX5_appendText_61 : decode cX5_appendText 61 = .ok (.iadd, 1) := dk_96 (dk_at dksX5_appendText_2 13 rfl rfl)
theorem dX5_appendText_62 : decode cX5_appendText 62 = .ok (.putfield 158, 3) := dk_181 0 158 (dk_at dksX5_appendText_2 14 rfl rfl)
theorem dX5_appendText_65 : decode cX5_appendText 65 = .ok (.iinc 2 (-8), 3) := dk_132 2 248 (dk_at dksX5_appendText_2 17 rfl rfl)
theorem dX5_appendText_68 : decode cX5_appendText 68 = .ok (.goto (-33), 3) := dk_167 255 223 (dk_at dksX5_appendText_2 20 rfl rfl)
theorem dX5_appendText_71 : decode cX5_appendText 71 = .ok (.aload_n 0, 1) := dk_42 (dk_at dksX5_appendText_2 23 rfl rfl)
theorem dX5_appendText_72 : decode cX5_appendText 72 = .ok (.getfield 158, 3) := dk_180 0 158 (dk_at dksX5_appendText_3 0 rfl rfl)
theorem dX5_appendText_75 : decode cX5_appendText 75 = .ok (.ireturn, 1) := dk_172 (dk_at dksX5_appendText_3 3 rfl rfl)
abbrev cX5_holds : ByteArray := prog_14_method_10_code
def yX5_holds : MethodName := ⟨RX5, "holds", "(ZI)Z"⟩
def dkwX5_holds_1 : List UInt8 := [167, 0, 4, 3, 172]
abbrev dktX5_holds_1 : List UInt8 := dkwX5_holds_1 ++ []
def dkwX5_holds_0 : List UInt8 := [42, 180, 0, 56, 154, 0, 12, 27, 154, 0, 8, 42, 28, 181, 0, 56, 42, 180, 0, 56, 154, 0, 7, 4]
abbrev dktX5_holds_0 : List UInt8 := dkwX5_holds_0 ++ dktX5_holds_1
theorem dksX5_holds_0 : cX5_holds.data.toList.drop 0 = dktX5_holds_0 := by decide +kernel
theorem dksX5_holds_1 : cX5_holds.data.toList.drop 24 = dktX5_holds_1 := dk_seg dksX5_holds_0 24 rfl rfl
theorem dX5_holds_0 : decode cX5_holds 0 = .ok (.aload_n 0, 1) := dk_42 (dk_at dksX5_holds_0 0 rfl rfl)
theorem dX5_holds_1 : decode cX5_holds 1 = .ok (.getfield 56, 3) := dk_180 0 56 (dk_at dksX5_holds_0 1 rfl rfl)
theorem dX5_holds_4 : decode cX5_holds 4 = .ok (.ifCond .ne 12, 3) := dk_154 0 12 (dk_at dksX5_holds_0 4 rfl rfl)
theorem dX5_holds_7 : decode cX5_holds 7 = .ok (.iload_n 1, 1) := dk_27 (dk_at dksX5_holds_0 7 rfl rfl)
theorem dX5_holds_8 : decode cX5_holds 8 = .ok (.ifCond .ne 8, 3) := dk_154 0 8 (dk_at dksX5_holds_0 8 rfl rfl)
theorem dX5_holds_11 : decode cX5_holds 11 = .ok (.aload_n 0, 1) := dk_42 (dk_at dksX5_holds_0 11 rfl rfl)
theorem dX5_holds_12 : decode cX5_holds 12 = .ok (.iload_n 2, 1) := dk_28 (dk_at dksX5_holds_0 12 rfl rfl)
theorem dX5_holds_13 : decode cX5_holds 13 = .ok (.putfield 56, 3) := dk_181 0 56 (dk_at dksX5_holds_0 13 rfl rfl)
theorem dX5_holds_16 : decode cX5_holds 16 = .ok (.aload_n 0, 1) := dk_42 (dk_at dksX5_holds_0 16 rfl rfl)
theorem dX5_holds_17 : decode cX5_holds 17 = .ok (.getfield 56, 3) := dk_180 0 56 (dk_at dksX5_holds_0 17 rfl rfl)
theorem dX5_holds_20 : decode cX5_holds 20 = .ok (.ifCond .ne 7, 3) := dk_154 0 7 (dk_at dksX5_holds_0 20 rfl rfl)
theorem dX5_holds_23 : decode cX5_holds 23 = .ok (.iconst 1, 1) := dk_4 (dk_at dksX5_holds_0 23 rfl rfl)
theorem dX5_holds_24 : decode cX5_holds 24 = .ok (.goto 4, 3) := dk_167 0 4 (dk_at dksX5_holds_1 0 rfl rfl)
theorem dX5_holds_27 : decode cX5_holds 27 = .ok (.iconst 0, 1) := dk_3 (dk_at dksX5_holds_1 3 rfl rfl)
theorem dX5_holds_28 : decode cX5_holds 28 = .ok (.ireturn, 1) := dk_172 (dk_at dksX5_holds_1 4 rfl rfl)
abbrev cX5_truncateText : ByteArray := prog_14_method_52_code
def yX5_truncateText : MethodName := ⟨RX5, "truncateText", "(I)I"⟩
def dkwX5_truncateText_1 : List UInt8 := [42, 27, 181, 0, 158, 27, 172]
abbrev dktX5_truncateText_1 : List UInt8 := dkwX5_truncateText_1 ++ []
def dkwX5_truncateText_0 : List UInt8 := [42, 3, 181, 0, 56, 42, 27, 3, 42, 180, 0, 158, 184, 0, 165, 4, 182, 0, 161, 154, 0, 5, 3, 172]
abbrev dktX5_truncateText_0 : List UInt8 := dkwX5_truncateText_0 ++ dktX5_truncateText_1
theorem dksX5_truncateText_0 : cX5_truncateText.data.toList.drop 0 = dktX5_truncateText_0 := by decide +kernel
theorem dksX5_truncateText_1 : cX5_truncateText.data.toList.drop 24 = dktX5_truncateText_1 := dk_seg dksX5_truncateText_0 24 rfl rfl
theorem dX5_truncateText_0 : decode cX5_truncateText 0 = .ok (.aload_n 0, 1) := dk_42 (dk_at dksX5_truncateText_0 0 rfl rfl)
theorem dX5_truncateText_1 : decode cX5_truncateText 1 = .ok (.iconst 0, 1) := dk_3 (dk_at dksX5_truncateText_0 1 rfl rfl)
theorem dX5_truncateText_2 : decode cX5_truncateText 2 = .ok (.putfield 56, 3) := dk_181 0 56 (dk_at dksX5_truncateText_0 2 rfl rfl)
theorem dX5_truncateText_5 : decode cX5_truncateText 5 = .ok (.aload_n 0, 1) := dk_42 (dk_at dksX5_truncateText_0 5 rfl rfl)
theorem dX5_truncateText_6 : decode cX5_truncateText 6 = .ok (.iload_n 1, 1) := dk_27 (dk_at dksX5_truncateText_0 6 rfl rfl)
theorem dX5_truncateText_7 : decode cX5_truncateText 7 = .ok (.iconst 0, 1) := dk_3 (dk_at dksX5_truncateText_0 7 rfl rfl)
theorem dX5_truncateText_8 : decode cX5_truncateText 8 = .ok (.aload_n 0, 1) := dk_42 (dk_at dksX5_truncateText_0 8 rfl rfl)
theorem dX5_truncateText_9 : decode cX5_truncateText 9 = .ok (.getfield 158, 3) := dk_180 0 158 (dk_at dksX5_truncateText_0 9 rfl rfl)
theorem dX5_truncateText_12 : decode cX5_truncateText 12 = .ok (.invokestatic 165, 3) := dk_184 0 165 (dk_at dksX5_truncateText_0 12 rfl rfl)
theorem dX5_truncateText_15 : decode cX5_truncateText 15 = .ok (.iconst 1, 1) := dk_4 (dk_at dksX5_truncateText_0 15 rfl rfl)
theorem dX5_truncateText_16 : decode cX5_truncateText 16 = .ok (.invokevirtual 161, 3) := dk_182 0 161 (dk_at dksX5_truncateText_0 16 rfl rfl)
theorem dX5_truncateText_19 : decode cX5_truncateText 19 = .ok (.ifCond .ne 5, 3) := dk_154 0 5 (dk_at dksX5_truncateText_0 19 rfl rfl)
theorem dX5_truncateText_22 : decode cX5_truncateText 22 = .ok (.iconst 0, 1) := dk_3 (dk_at dksX5_truncateText_0 22 rfl rfl)
theorem dX5_truncateText_23 : decode cX5_truncateText 23 = .ok (.ireturn, 1) := dk_172 (dk_at dksX5_truncateText_0 23 rfl rfl)
theorem dX5_truncateText_24 : decode cX5_truncateText 24 = .ok (.aload_n 0, 1) := dk_42 (dk_at dksX5_truncateText_1 0 rfl rfl)
theorem dX5_truncateText_25 : decode cX5_truncateText 25 = .ok (.iload_n 1, 1) := dk_27 (dk_at dksX5_truncateText_1 1 rfl rfl)
theorem dX5_truncateText_26 : decode cX5_truncateText 26 = .ok (.putfield 158, 3) := dk_181 0 158 (dk_at dksX5_truncateText_1 2 rfl rfl)
theorem dX5_truncateText_29 : decode cX5_truncateText 29 = .ok (.iload_n 1, 1) := dk_27 (dk_at dksX5_truncateText_1 5 rfl rfl)
theorem dX5_truncateText_30 : decode cX5_truncateText 30 = .ok (.ireturn, 1) := dk_172 (dk_at dksX5_truncateText_1 6 rfl rfl)
abbrev cX5_in : ByteArray := prog_14_method_8_code
def yX5_in : MethodName := ⟨RX5, "in", "(III)Z"⟩
def dkwX5_in_0 : List UInt8 := [26, 27, 161, 0, 12, 26, 28, 163, 0, 7, 4, 167, 0, 4, 3, 172]
abbrev dktX5_in_0 : List UInt8 := dkwX5_in_0 ++ []
theorem dksX5_in_0 : cX5_in.data.toList.drop 0 = dktX5_in_0 := by decide +kernel
theorem dX5_in_0 : decode cX5_in 0 = .ok (.iload_n 0, 1) := dk_26 (dk_at dksX5_in_0 0 rfl rfl)
theorem dX5_in_1 : decode cX5_in 1 = .ok (.iload_n 1, 1) := dk_27 (dk_at dksX5_in_0 1 rfl rfl)
theorem dX5_in_2 : decode cX5_in 2 = .ok (.if_icmp .lt 12, 3) := dk_161 0 12 (dk_at dksX5_in_0 2 rfl rfl)
theorem dX5_in_5 : decode cX5_in 5 = .ok (.iload_n 0, 1) := dk_26 (dk_at dksX5_in_0 5 rfl rfl)
theorem dX5_in_6 : decode cX5_in 6 = .ok (.iload_n 2, 1) := dk_28 (dk_at dksX5_in_0 6 rfl rfl)
theorem dX5_in_7 : decode cX5_in 7 = .ok (.if_icmp .gt 7, 3) := dk_163 0 7 (dk_at dksX5_in_0 7 rfl rfl)
theorem dX5_in_10 : decode cX5_in 10 = .ok (.iconst 1, 1) := dk_4 (dk_at dksX5_in_0 10 rfl rfl)
theorem dX5_in_11 : decode cX5_in 11 = .ok (.goto 4, 3) := dk_167 0 4 (dk_at dksX5_in_0 11 rfl rfl)
theorem dX5_in_14 : decode cX5_in 14 = .ok (.iconst 0, 1) := dk_3 (dk_at dksX5_in_0 14 rfl rfl)
theorem dX5_in_15 : decode cX5_in 15 = .ok (.ireturn, 1) := dk_172 (dk_at dksX5_in_0 15 rfl rfl)
abbrev cX5_load : ByteArray := prog_14_method_64_code
def yX5_load : MethodName := ⟨RX5, "load", "()I"⟩
def dkwX5_load_5 : List UInt8 := [153, 0, 5, 2, 172, 42, 16, 10, 3, 182, 0, 155, 42, 3, 181, 0, 234, 42, 4, 182, 0, 65, 172]
abbrev dktX5_load_5 : List UInt8 := dkwX5_load_5 ++ []
def dkwX5_load_4 : List UInt8 := [153, 0, 10, 42, 182, 0, 231, 167, 255, 229, 42, 3, 181, 0, 59, 42, 3, 181, 0, 158, 42, 180, 0, 186]
abbrev dktX5_load_4 : List UInt8 := dkwX5_load_4 ++ dktX5_load_5
def dkwX5_load_3 : List UInt8 := [182, 0, 219, 42, 180, 0, 186, 154, 0, 26, 42, 4, 182, 0, 65, 5, 161, 0, 10, 42, 180, 0, 179]
abbrev dktX5_load_3 : List UInt8 := dkwX5_load_3 ++ dktX5_load_4
def dkwX5_load_2 : List UInt8 := [3, 42, 4, 7, 182, 0, 216, 182, 0, 42, 42, 5, 42, 3, 16, 9, 182, 0, 216, 182, 0, 42, 42]
abbrev dktX5_load_2 : List UInt8 := dkwX5_load_2 ++ dktX5_load_3
def dkwX5_load_1 : List UInt8 := [182, 0, 42, 132, 1, 1, 167, 255, 240, 42, 182, 0, 46, 42, 182, 0, 222, 42, 18, 225, 182, 0, 227, 42]
abbrev dktX5_load_1 : List UInt8 := dkwX5_load_1 ++ dktX5_load_2
def dkwX5_load_0 : List UInt8 := [42, 3, 181, 0, 56, 42, 16, 10, 181, 0, 59, 3, 60, 27, 17, 2, 33, 162, 0, 15, 42, 27, 3]
abbrev dktX5_load_0 : List UInt8 := dkwX5_load_0 ++ dktX5_load_1
theorem dksX5_load_0 : cX5_load.data.toList.drop 0 = dktX5_load_0 := by decide +kernel
theorem dksX5_load_1 : cX5_load.data.toList.drop 23 = dktX5_load_1 := dk_seg dksX5_load_0 23 rfl rfl
theorem dksX5_load_2 : cX5_load.data.toList.drop 47 = dktX5_load_2 := dk_seg dksX5_load_1 24 rfl rfl
theorem dksX5_load_3 : cX5_load.data.toList.drop 70 = dktX5_load_3 := dk_seg dksX5_load_2 23 rfl rfl
theorem dksX5_load_4 : cX5_load.data.toList.drop 93 = dktX5_load_4 := dk_seg dksX5_load_3 23 rfl rfl
theorem dksX5_load_5 : cX5_load.data.toList.drop 117 = dktX5_load_5 := dk_seg dksX5_load_4 24 rfl rfl
theorem dX5_load_0 : decode cX5_load 0 = .ok (.aload_n 0, 1) := dk_42 (dk_at dksX5_load_0 0 rfl rfl)
theorem dX5_load_1 : decode cX5_load 1 = .ok (.iconst 0, 1) := dk_3 (dk_at dksX5_load_0 1 rfl rfl)
theorem dX5_load_2 : decode cX5_load 2 = .ok (.putfield 56, 3) := dk_181 0 56 (dk_at dksX5_load_0 2 rfl rfl)
theorem dX5_load_5 : decode cX5_load 5 = .ok (.aload_n 0, 1) := dk_42 (dk_at dksX5_load_0 5 rfl rfl)
theorem dX5_load_6 : decode cX5_load 6 = .ok (.bipush 10, 2) := dk_16 10 (dk_at dksX5_load_0 6 rfl rfl)
theorem dX5_load_8 : decode cX5_load 8 = .ok (.putfield 59, 3) := dk_181 0 59 (dk_at dksX5_load_0 8 rfl rfl)
theorem dX5_load_11 : decode cX5_load 11 = .ok (.iconst 0, 1) := dk_3 (dk_at dksX5_load_0 11 rfl rfl)
theorem dX5_load_12 : decode cX5_load 12 = .ok (.istore_n 1, 1) := dk_60 (dk_at dksX5_load_0 12 rfl rfl)
theorem dX5_load_13 : decode cX5_load 13 = .ok (.iload_n 1, 1) := dk_27 (dk_at dksX5_load_0 13 rfl rfl)
theorem dX5_load_14 : decode cX5_load 14 = .ok (.sipush 545, 3) := dk_17 2 33 (dk_at dksX5_load_0 14 rfl rfl)
theorem dX5_load_17 : decode cX5_load 17 = .ok (.if_icmp .ge 15, 3) := dk_162 0 15 (dk_at dksX5_load_0 17 rfl rfl)
theorem dX5_load_20 : decode cX5_load 20 = .ok (.aload_n 0, 1) := dk_42 (dk_at dksX5_load_0 20 rfl rfl)
theorem dX5_load_21 : decode cX5_load 21 = .ok (.iload_n 1, 1) := dk_27 (dk_at dksX5_load_0 21 rfl rfl)
theorem dX5_load_22 : decode cX5_load 22 = .ok (.iconst 0, 1) := dk_3 (dk_at dksX5_load_0 22 rfl rfl)
theorem dX5_load_23 : decode cX5_load 23 = .ok (.invokevirtual 42, 3) := dk_182 0 42 (dk_at dksX5_load_1 0 rfl rfl)
theorem dX5_load_26 : decode cX5_load 26 = .ok (.iinc 1 1, 3) := dk_132 1 1 (dk_at dksX5_load_1 3 rfl rfl)
theorem dX5_load_29 : decode cX5_load 29 = .ok (.goto (-16), 3) := dk_167 255 240 (dk_at dksX5_load_1 6 rfl rfl)
theorem dX5_load_32 : decode cX5_load 32 = .ok (.aload_n 0, 1) := dk_42 (dk_at dksX5_load_1 9 rfl rfl)
theorem dX5_load_33 : decode cX5_load 33 = .ok (.invokevirtual 46, 3) := dk_182 0 46 (dk_at dksX5_load_1 10 rfl rfl)
theorem dX5_load_36 : decode cX5_load 36 = .ok (.aload_n 0, 1) := dk_42 (dk_at dksX5_load_1 13 rfl rfl)
theorem dX5_load_37 : decode cX5_load 37 = .ok (.invokevirtual 222, 3) := dk_182 0 222 (dk_at dksX5_load_1 14 rfl rfl)
theorem dX5_load_40 : decode cX5_load 40 = .ok (.aload_n 0, 1) := dk_42 (dk_at dksX5_load_1 17 rfl rfl)
theorem dX5_load_41 : decode cX5_load 41 = .ok (.ldc 225, 2) := dk_18 225 (dk_at dksX5_load_1 18 rfl rfl)
theorem dX5_load_43 : decode cX5_load 43 = .ok (.invokevirtual 227, 3) := dk_182 0 227 (dk_at dksX5_load_1 20 rfl rfl)
theorem dX5_load_46 : decode cX5_load 46 = .ok (.aload_n 0, 1) := dk_42 (dk_at dksX5_load_1 23 rfl rfl)
theorem dX5_load_47 : decode cX5_load 47 = .ok (.iconst 0, 1) := dk_3 (dk_at dksX5_load_2 0 rfl rfl)
theorem dX5_load_48 : decode cX5_load 48 = .ok (.aload_n 0, 1) := dk_42 (dk_at dksX5_load_2 1 rfl rfl)
theorem dX5_load_49 : decode cX5_load 49 = .ok (.iconst 1, 1) := dk_4 (dk_at dksX5_load_2 2 rfl rfl)
theorem dX5_load_50 : decode cX5_load 50 = .ok (.iconst 4, 1) := dk_7 (dk_at dksX5_load_2 3 rfl rfl)
theorem dX5_load_51 : decode cX5_load 51 = .ok (.invokevirtual 216, 3) := dk_182 0 216 (dk_at dksX5_load_2 4 rfl rfl)
theorem dX5_load_54 : decode cX5_load 54 = .ok (.invokevirtual 42, 3) := dk_182 0 42 (dk_at dksX5_load_2 7 rfl rfl)
theorem dX5_load_57 : decode cX5_load 57 = .ok (.aload_n 0, 1) := dk_42 (dk_at dksX5_load_2 10 rfl rfl)
theorem dX5_load_58 : decode cX5_load 58 = .ok (.iconst 2, 1) := dk_5 (dk_at dksX5_load_2 11 rfl rfl)
theorem dX5_load_59 : decode cX5_load 59 = .ok (.aload_n 0, 1) := dk_42 (dk_at dksX5_load_2 12 rfl rfl)
theorem dX5_load_60 : decode cX5_load 60 = .ok (.iconst 0, 1) := dk_3 (dk_at dksX5_load_2 13 rfl rfl)
theorem dX5_load_61 : decode cX5_load 61 = .ok (.bipush 9, 2) := dk_16 9 (dk_at dksX5_load_2 14 rfl rfl)
theorem dX5_load_63 : decode cX5_load 63 = .ok (.invokevirtual 216, 3) := dk_182 0 216 (dk_at dksX5_load_2 16 rfl rfl)
theorem dX5_load_66 : decode cX5_load 66 = .ok (.invokevirtual 42, 3) := dk_182 0 42 (dk_at dksX5_load_2 19 rfl rfl)
theorem dX5_load_69 : decode cX5_load 69 = .ok (.aload_n 0, 1) := dk_42 (dk_at dksX5_load_2 22 rfl rfl)
theorem dX5_load_70 : decode cX5_load 70 = .ok (.invokevirtual 219, 3) := dk_182 0 219 (dk_at dksX5_load_3 0 rfl rfl)
theorem dX5_load_73 : decode cX5_load 73 = .ok (.aload_n 0, 1) := dk_42 (dk_at dksX5_load_3 3 rfl rfl)
theorem dX5_load_74 : decode cX5_load 74 = .ok (.getfield 186, 3) := dk_180 0 186 (dk_at dksX5_load_3 4 rfl rfl)
theorem dX5_load_77 : decode cX5_load 77 = .ok (.ifCond .ne 26, 3) := dk_154 0 26 (dk_at dksX5_load_3 7 rfl rfl)
theorem dX5_load_80 : decode cX5_load 80 = .ok (.aload_n 0, 1) := dk_42 (dk_at dksX5_load_3 10 rfl rfl)
theorem dX5_load_81 : decode cX5_load 81 = .ok (.iconst 1, 1) := dk_4 (dk_at dksX5_load_3 11 rfl rfl)
theorem dX5_load_82 : decode cX5_load 82 = .ok (.invokevirtual 65, 3) := dk_182 0 65 (dk_at dksX5_load_3 12 rfl rfl)
theorem dX5_load_85 : decode cX5_load 85 = .ok (.iconst 2, 1) := dk_5 (dk_at dksX5_load_3 15 rfl rfl)
theorem dX5_load_86 : decode cX5_load 86 = .ok (.if_icmp .lt 10, 3) := dk_161 0 10 (dk_at dksX5_load_3 16 rfl rfl)
theorem dX5_load_89 : decode cX5_load 89 = .ok (.aload_n 0, 1) := dk_42 (dk_at dksX5_load_3 19 rfl rfl)
theorem dX5_load_90 : decode cX5_load 90 = .ok (.getfield 179, 3) := dk_180 0 179 (dk_at dksX5_load_3 20 rfl rfl)
theorem dX5_load_93 : decode cX5_load 93 = .ok (.ifCond .eq 10, 3) := dk_153 0 10 (dk_at dksX5_load_4 0 rfl rfl)
theorem dX5_load_96 : decode cX5_load 96 = .ok (.aload_n 0, 1) := dk_42 (dk_at dksX5_load_4 3 rfl rfl)
theorem dX5_load_97 : decode cX5_load 97 = .ok (.invokevirtual 231, 3) := dk_182 0 231 (dk_at dksX5_load_4 4 rfl rfl)
theorem dX5_load_100 : decode cX5_load 100 = .ok (.goto (-27), 3) := dk_167 255 229 (dk_at dksX5_load_4 7 rfl rfl)
theorem dX5_load_103 : decode cX5_load 103 = .ok (.aload_n 0, 1) := dk_42 (dk_at dksX5_load_4 10 rfl rfl)
theorem dX5_load_104 : decode cX5_load 104 = .ok (.iconst 0, 1) := dk_3 (dk_at dksX5_load_4 11 rfl rfl)
theorem dX5_load_105 : decode cX5_load 105 = .ok (.putfield 59, 3) := dk_181 0 59 (dk_at dksX5_load_4 12 rfl rfl)
theorem dX5_load_108 : decode cX5_load 108 = .ok (.aload_n 0, 1) := dk_42 (dk_at dksX5_load_4 15 rfl rfl)
theorem dX5_load_109 : decode cX5_load 109 = .ok (.iconst 0, 1) := dk_3 (dk_at dksX5_load_4 16 rfl rfl)
theorem dX5_load_110 : decode cX5_load 110 = .ok (.putfield 158, 3) := dk_181 0 158 (dk_at dksX5_load_4 17 rfl rfl)
theorem dX5_load_113 : decode cX5_load 113 = .ok (.aload_n 0, 1) := dk_42 (dk_at dksX5_load_4 20 rfl rfl)
theorem dX5_load_114 : decode cX5_load 114 = .ok (.getfield 186, 3) := dk_180 0 186 (dk_at dksX5_load_4 21 rfl rfl)
theorem dX5_load_117 : decode cX5_load 117 = .ok (.ifCond .eq 5, 3) := dk_153 0 5 (dk_at dksX5_load_5 0 rfl rfl)
theorem dX5_load_120 : decode cX5_load 120 = .ok (.iconst (-1), 1) := dk_2 (dk_at dksX5_load_5 3 rfl rfl)
theorem dX5_load_121 : decode cX5_load 121 = .ok (.ireturn, 1) := dk_172 (dk_at dksX5_load_5 4 rfl rfl)
theorem dX5_load_122 : decode cX5_load 122 = .ok (.aload_n 0, 1) := dk_42 (dk_at dksX5_load_5 5 rfl rfl)
theorem dX5_load_123 : decode cX5_load 123 = .ok (.bipush 10, 2) := dk_16 10 (dk_at dksX5_load_5 6 rfl rfl)
theorem dX5_load_125 : decode cX5_load 125 = .ok (.iconst 0, 1) := dk_3 (dk_at dksX5_load_5 8 rfl rfl)
theorem dX5_load_126 : decode cX5_load 126 = .ok (.invokevirtual 155, 3) := dk_182 0 155 (dk_at dksX5_load_5 9 rfl rfl)
theorem dX5_load_129 : decode cX5_load 129 = .ok (.aload_n 0, 1) := dk_42 (dk_at dksX5_load_5 12 rfl rfl)
theorem dX5_load_130 : decode cX5_load 130 = .ok (.iconst 0, 1) := dk_3 (dk_at dksX5_load_5 13 rfl rfl)
theorem dX5_load_131 : decode cX5_load 131 = .ok (.putfield 234, 3) := dk_181 0 234 (dk_at dksX5_load_5 14 rfl rfl)
theorem dX5_load_134 : decode cX5_load 134 = .ok (.aload_n 0, 1) := dk_42 (dk_at dksX5_load_5 17 rfl rfl)
theorem dX5_load_135 : decode cX5_load 135 = .ok (.iconst 1, 1) := dk_4 (dk_at dksX5_load_5 18 rfl rfl)
theorem dX5_load_136 : decode cX5_load 136 = .ok (.invokevirtual 65, 3) := dk_182 0 65 (dk_at dksX5_load_5 19 rfl rfl)
theorem dX5_load_139 : decode cX5_load 139 = .ok (.ireturn, 1) := dk_172 (dk_at dksX5_load_5 22 rfl rfl)
abbrev cX5_starts : ByteArray := prog_14_method_62_code
def yX5_starts : MethodName := ⟨RX5, "starts", "()V"⟩
def dkwX5_starts_0 : List UInt8 := [42, 3, 181, 0, 186, 42, 2, 181, 0, 29, 42, 3, 181, 0, 169, 42, 182, 0, 198, 177]
abbrev dktX5_starts_0 : List UInt8 := dkwX5_starts_0 ++ []
theorem dksX5_starts_0 : cX5_starts.data.toList.drop 0 = dktX5_starts_0 := by decide +kernel
theorem dX5_starts_0 : decode cX5_starts 0 = .ok (.aload_n 0, 1) := dk_42 (dk_at dksX5_starts_0 0 rfl rfl)
theorem dX5_starts_1 : decode cX5_starts 1 = .ok (.iconst 0, 1) := dk_3 (dk_at dksX5_starts_0 1 rfl rfl)
theorem dX5_starts_2 : decode cX5_starts 2 = .ok (.putfield 186, 3) := dk_181 0 186 (dk_at dksX5_starts_0 2 rfl rfl)
theorem dX5_starts_5 : decode cX5_starts 5 = .ok (.aload_n 0, 1) := dk_42 (dk_at dksX5_starts_0 5 rfl rfl)
theorem dX5_starts_6 : decode cX5_starts 6 = .ok (.iconst (-1), 1) := dk_2 (dk_at dksX5_starts_0 6 rfl rfl)
theorem dX5_starts_7 : decode cX5_starts 7 = .ok (.putfield 29, 3) := dk_181 0 29 (dk_at dksX5_starts_0 7 rfl rfl)
theorem dX5_starts_10 : decode cX5_starts 10 = .ok (.aload_n 0, 1) := dk_42 (dk_at dksX5_starts_0 10 rfl rfl)
theorem dX5_starts_11 : decode cX5_starts 11 = .ok (.iconst 0, 1) := dk_3 (dk_at dksX5_starts_0 11 rfl rfl)
theorem dX5_starts_12 : decode cX5_starts 12 = .ok (.putfield 169, 3) := dk_181 0 169 (dk_at dksX5_starts_0 12 rfl rfl)
theorem dX5_starts_15 : decode cX5_starts 15 = .ok (.aload_n 0, 1) := dk_42 (dk_at dksX5_starts_0 15 rfl rfl)
theorem dX5_starts_16 : decode cX5_starts 16 = .ok (.invokevirtual 198, 3) := dk_182 0 198 (dk_at dksX5_starts_0 16 rfl rfl)
theorem dX5_starts_19 : decode cX5_starts 19 = .ok (.return_, 1) := dk_177 (dk_at dksX5_starts_0 19 rfl rfl)
abbrev cX5_next : ByteArray := prog_14_method_54_code
def yX5_next : MethodName := ⟨RX5, "next", "()V"⟩
def dkwX5_next_9 : List UInt8 := [89, 180, 0, 169, 4, 96, 181, 0, 169, 177]
abbrev dktX5_next_9 : List UInt8 := dkwX5_next_9 ++ []
def dkwX5_next_8 : List UInt8 := [167, 0, 33, 42, 42, 16, 59, 16, 59, 182, 0, 172, 153, 0, 7, 6, 167, 0, 4, 7, 181, 0, 179, 42]
abbrev dktX5_next_8 : List UInt8 := dkwX5_next_8 ++ dktX5_next_9
def dkwX5_next_7 : List UInt8 := [16, 48, 100, 181, 0, 182, 42, 89, 180, 0, 169, 4, 96, 181, 0, 169, 167, 255, 195, 42, 5, 181, 0, 179]
abbrev dktX5_next_7 : List UInt8 := dkwX5_next_7 ++ dktX5_next_8
def dkwX5_next_6 : List UInt8 := [42, 180, 0, 182, 167, 0, 23, 16, 10, 42, 180, 0, 182, 104, 42, 180, 0, 26, 42, 180, 0, 169, 46, 96]
abbrev dktX5_next_6 : List UInt8 := dkwX5_next_6 ++ dktX5_next_7
def dkwX5_next_5 : List UInt8 := [181, 0, 182, 42, 16, 48, 16, 57, 182, 0, 172, 153, 0, 56, 42, 42, 180, 0, 182, 18, 185, 164, 0, 10]
abbrev dktX5_next_5 : List UInt8 := dkwX5_next_5 ++ dktX5_next_6
def dkwX5_next_4 : List UInt8 := [167, 255, 235, 42, 4, 181, 0, 179, 167, 0, 121, 42, 16, 48, 16, 57, 182, 0, 172, 153, 0, 80, 42, 3]
abbrev dktX5_next_4 : List UInt8 := dkwX5_next_4 ++ dktX5_next_5
def dkwX5_next_3 : List UInt8 := [153, 0, 35, 42, 16, 97, 16, 122, 182, 0, 172, 153, 0, 16, 42, 89, 180, 0, 169, 4, 96, 181, 0, 169]
abbrev dktX5_next_3 : List UInt8 := dkwX5_next_3 ++ dktX5_next_4
def dkwX5_next_2 : List UInt8 := [180, 0, 158, 160, 0, 11, 42, 3, 181, 0, 179, 167, 0, 164, 42, 16, 97, 16, 122, 182, 0, 172]
abbrev dktX5_next_2 : List UInt8 := dkwX5_next_2 ++ dktX5_next_3
def dkwX5_next_1 : List UInt8 := [180, 0, 169, 4, 96, 181, 0, 169, 167, 255, 224, 42, 42, 180, 0, 169, 181, 0, 176, 42, 180, 0, 169, 42]
abbrev dktX5_next_1 : List UInt8 := dkwX5_next_1 ++ dktX5_next_2
def dkwX5_next_0 : List UInt8 := [42, 16, 32, 16, 32, 182, 0, 172, 154, 0, 14, 42, 16, 10, 16, 10, 182, 0, 172, 153, 0, 16, 42, 89]
abbrev dktX5_next_0 : List UInt8 := dkwX5_next_0 ++ dktX5_next_1
theorem dksX5_next_0 : cX5_next.data.toList.drop 0 = dktX5_next_0 := by decide +kernel
theorem dksX5_next_1 : cX5_next.data.toList.drop 24 = dktX5_next_1 := dk_seg dksX5_next_0 24 rfl rfl
theorem dksX5_next_2 : cX5_next.data.toList.drop 48 = dktX5_next_2 := dk_seg dksX5_next_1 24 rfl rfl
theorem dksX5_next_3 : cX5_next.data.toList.drop 70 = dktX5_next_3 := dk_seg dksX5_next_2 22 rfl rfl
theorem dksX5_next_4 : cX5_next.data.toList.drop 94 = dktX5_next_4 := dk_seg dksX5_next_3 24 rfl rfl
theorem dksX5_next_5 : cX5_next.data.toList.drop 118 = dktX5_next_5 := dk_seg dksX5_next_4 24 rfl rfl
theorem dksX5_next_6 : cX5_next.data.toList.drop 142 = dktX5_next_6 := dk_seg dksX5_next_5 24 rfl rfl
theorem dksX5_next_7 : cX5_next.data.toList.drop 166 = dktX5_next_7 := dk_seg dksX5_next_6 24 rfl rfl
theorem dksX5_next_8 : cX5_next.data.toList.drop 190 = dktX5_next_8 := dk_seg dksX5_next_7 24 rfl rfl
theorem dksX5_next_9 : cX5_next.data.toList.drop 214 = dktX5_next_9 := dk_seg dksX5_next_8 24 rfl rfl
theorem dX5_next_0 : decode cX5_next 0 = .ok (.aload_n 0, 1) := dk_42 (dk_at dksX5_next_0 0 rfl rfl)
theorem dX5_next_1 : decode cX5_next 1 = .ok (.bipush 32, 2) := dk_16 32 (dk_at dksX5_next_0 1 rfl rfl)
theorem dX5_next_3 : decode cX5_next 3 = .ok (.bipush 32, 2) := dk_16 32 (dk_at dksX5_next_0 3 rfl rfl)
theorem dX5_next_5 : decode cX5_next 5 = .ok (.invokevirtual 172, 3) := dk_182 0 172 (dk_at dksX5_next_0 5 rfl rfl)
theorem dX5_next_8 : decode cX5_next 8 = .ok (.ifCond .ne 14, 3) := dk_154 0 14 (dk_at dksX5_next_0 8 rfl rfl)
theorem dX5_next_11 : decode cX5_next 11 = .ok (.aload_n 0, 1) := dk_42 (dk_at dksX5_next_0 11 rfl rfl)
theorem dX5_next_12 : decode cX5_next 12 = .ok (.bipush 10, 2) := dk_16 10 (dk_at dksX5_next_0 12 rfl rfl)
theorem dX5_next_14 : decode cX5_next 14 = .ok (.bipush 10, 2) := dk_16 10 (dk_at dksX5_next_0 14 rfl rfl)
theorem dX5_next_16 : decode cX5_next 16 = .ok (.invokevirtual 172, 3) := dk_182 0 172 (dk_at dksX5_next_0 16 rfl rfl)
theorem dX5_next_19 : decode cX5_next 19 = .ok (.ifCond .eq 16, 3) := dk_153 0 16 (dk_at dksX5_next_0 19 rfl rfl)
theorem dX5_next_22 : decode cX5_next 22 = .ok (.aload_n 0, 1) := dk_42 (dk_at dksX5_next_0 22 rfl rfl)
theorem dX5_next_23 : decode cX5_next 23 = .ok (.dup, 1) := dk_89 (dk_at dksX5_next_0 23 rfl rfl)
theorem dX5_next_24 : decode cX5_next 24 = .ok (.getfield 169, 3) := dk_180 0 169 (dk_at dksX5_next_1 0 rfl rfl)
theorem dX5_next_27 : decode cX5_next 27 = .ok (.iconst 1, 1) := dk_4 (dk_at dksX5_next_1 3 rfl rfl)
theorem dX5_next_28 : decode cX5_next 28 = .ok (.iadd, 1) := dk_96 (dk_at dksX5_next_1 4 rfl rfl)
theorem dX5_next_29 : decode cX5_next 29 = .ok (.putfield 169, 3) := dk_181 0 169 (dk_at dksX5_next_1 5 rfl rfl)
theorem dX5_next_32 : decode cX5_next 32 = .ok (.goto (-32), 3) := dk_167 255 224 (dk_at dksX5_next_1 8 rfl rfl)
theorem dX5_next_35 : decode cX5_next 35 = .ok (.aload_n 0, 1) := dk_42 (dk_at dksX5_next_1 11 rfl rfl)
theorem dX5_next_36 : decode cX5_next 36 = .ok (.aload_n 0, 1) := dk_42 (dk_at dksX5_next_1 12 rfl rfl)
theorem dX5_next_37 : decode cX5_next 37 = .ok (.getfield 169, 3) := dk_180 0 169 (dk_at dksX5_next_1 13 rfl rfl)
theorem dX5_next_40 : decode cX5_next 40 = .ok (.putfield 176, 3) := dk_181 0 176 (dk_at dksX5_next_1 16 rfl rfl)
theorem dX5_next_43 : decode cX5_next 43 = .ok (.aload_n 0, 1) := dk_42 (dk_at dksX5_next_1 19 rfl rfl)
theorem dX5_next_44 : decode cX5_next 44 = .ok (.getfield 169, 3) := dk_180 0 169 (dk_at dksX5_next_1 20 rfl rfl)
theorem dX5_next_47 : decode cX5_next 47 = .ok (.aload_n 0, 1) := dk_42 (dk_at dksX5_next_1 23 rfl rfl)
theorem dX5_next_48 : decode cX5_next 48 = .ok (.getfield 158, 3) := dk_180 0 158 (dk_at dksX5_next_2 0 rfl rfl)
theorem dX5_next_51 : decode cX5_next 51 = .ok (.if_icmp .ne 11, 3) := dk_160 0 11 (dk_at dksX5_next_2 3 rfl rfl)
theorem dX5_next_54 : decode cX5_next 54 = .ok (.aload_n 0, 1) := dk_42 (dk_at dksX5_next_2 6 rfl rfl)
theorem dX5_next_55 : decode cX5_next 55 = .ok (.iconst 0, 1) := dk_3 (dk_at dksX5_next_2 7 rfl rfl)
theorem dX5_next_56 : decode cX5_next 56 = .ok (.putfield 179, 3) := dk_181 0 179 (dk_at dksX5_next_2 8 rfl rfl)
theorem dX5_next_59 : decode cX5_next 59 = .ok (.goto 164, 3) := dk_167 0 164 (dk_at dksX5_next_2 11 rfl rfl)
theorem dX5_next_62 : decode cX5_next 62 = .ok (.aload_n 0, 1) := dk_42 (dk_at dksX5_next_2 14 rfl rfl)
theorem dX5_next_63 : decode cX5_next 63 = .ok (.bipush 97, 2) := dk_16 97 (dk_at dksX5_next_2 15 rfl rfl)
theorem dX5_next_65 : decode cX5_next 65 = .ok (.bipush 122, 2) := dk_16 122 (dk_at dksX5_next_2 17 rfl rfl)
theorem dX5_next_67 : decode cX5_next 67 = .ok (.invokevirtual 172, 3) := dk_182 0 172 (dk_at dksX5_next_2 19 rfl rfl)
theorem dX5_next_70 : decode cX5_next 70 = .ok (.ifCond .eq 35, 3) := dk_153 0 35 (dk_at dksX5_next_3 0 rfl rfl)
theorem dX5_next_73 : decode cX5_next 73 = .ok (.aload_n 0, 1) := dk_42 (dk_at dksX5_next_3 3 rfl rfl)
theorem dX5_next_74 : decode cX5_next 74 = .ok (.bipush 97, 2) := dk_16 97 (dk_at dksX5_next_3 4 rfl rfl)
theorem dX5_next_76 : decode cX5_next 76 = .ok (.bipush 122, 2) := dk_16 122 (dk_at dksX5_next_3 6 rfl rfl)
theorem dX5_next_78 : decode cX5_next 78 = .ok (.invokevirtual 172, 3) := dk_182 0 172 (dk_at dksX5_next_3 8 rfl rfl)
theorem dX5_next_81 : decode cX5_next 81 = .ok (.ifCond .eq 16, 3) := dk_153 0 16 (dk_at dksX5_next_3 11 rfl rfl)
theorem dX5_next_84 : decode cX5_next 84 = .ok (.aload_n 0, 1) := dk_42 (dk_at dksX5_next_3 14 rfl rfl)
theorem dX5_next_85 : decode cX5_next 85 = .ok (.dup, 1) := dk_89 (dk_at dksX5_next_3 15 rfl rfl)
theorem dX5_next_86 : decode cX5_next 86 = .ok (.getfield 169, 3) := dk_180 0 169 (dk_at dksX5_next_3 16 rfl rfl)
theorem dX5_next_89 : decode cX5_next 89 = .ok (.iconst 1, 1) := dk_4 (dk_at dksX5_next_3 19 rfl rfl)
theorem dX5_next_90 : decode cX5_next 90 = .ok (.iadd, 1) := dk_96 (dk_at dksX5_next_3 20 rfl rfl)
theorem dX5_next_91 : decode cX5_next 91 = .ok (.putfield 169, 3) := dk_181 0 169 (dk_at dksX5_next_3 21 rfl rfl)
theorem dX5_next_94 : decode cX5_next 94 = .ok (.goto (-21), 3) := dk_167 255 235 (dk_at dksX5_next_4 0 rfl rfl)
theorem dX5_next_97 : decode cX5_next 97 = .ok (.aload_n 0, 1) := dk_42 (dk_at dksX5_next_4 3 rfl rfl)
theorem dX5_next_98 : decode cX5_next 98 = .ok (.iconst 1, 1) := dk_4 (dk_at dksX5_next_4 4 rfl rfl)
theorem dX5_next_99 : decode cX5_next 99 = .ok (.putfield 179, 3) := dk_181 0 179 (dk_at dksX5_next_4 5 rfl rfl)
theorem dX5_next_102 : decode cX5_next 102 = .ok (.goto 121, 3) := dk_167 0 121 (dk_at dksX5_next_4 8 rfl rfl)
theorem dX5_next_105 : decode cX5_next 105 = .ok (.aload_n 0, 1) := dk_42 (dk_at dksX5_next_4 11 rfl rfl)
theorem dX5_next_106 : decode cX5_next 106 = .ok (.bipush 48, 2) := dk_16 48 (dk_at dksX5_next_4 12 rfl rfl)
theorem dX5_next_108 : decode cX5_next 108 = .ok (.bipush 57, 2) := dk_16 57 (dk_at dksX5_next_4 14 rfl rfl)
theorem dX5_next_110 : decode cX5_next 110 = .ok (.invokevirtual 172, 3) := dk_182 0 172 (dk_at dksX5_next_4 16 rfl rfl)
theorem dX5_next_113 : decode cX5_next 113 = .ok (.ifCond .eq 80, 3) := dk_153 0 80 (dk_at dksX5_next_4 19 rfl rfl)
theorem dX5_next_116 : decode cX5_next 116 = .ok (.aload_n 0, 1) := dk_42 (dk_at dksX5_next_4 22 rfl rfl)
theorem dX5_next_117 : decode cX5_next 117 = .ok (.iconst 0, 1) := dk_3 (dk_at dksX5_next_4 23 rfl rfl)
theorem dX5_next_118 : decode cX5_next 118 = .ok (.putfield 182, 3) := dk_181 0 182 (dk_at dksX5_next_5 0 rfl rfl)
theorem dX5_next_121 : decode cX5_next 121 = .ok (.aload_n 0, 1) := dk_42 (dk_at dksX5_next_5 3 rfl rfl)
theorem dX5_next_122 : decode cX5_next 122 = .ok (.bipush 48, 2) := dk_16 48 (dk_at dksX5_next_5 4 rfl rfl)
theorem dX5_next_124 : decode cX5_next 124 = .ok (.bipush 57, 2) := dk_16 57 (dk_at dksX5_next_5 6 rfl rfl)
theorem dX5_next_126 : decode cX5_next 126 = .ok (.invokevirtual 172, 3) := dk_182 0 172 (dk_at dksX5_next_5 8 rfl rfl)
theorem dX5_next_129 : decode cX5_next 129 = .ok (.ifCond .eq 56, 3) := dk_153 0 56 (dk_at dksX5_next_5 11 rfl rfl)
theorem dX5_next_132 : decode cX5_next 132 = .ok (.aload_n 0, 1) := dk_42 (dk_at dksX5_next_5 14 rfl rfl)
theorem dX5_next_133 : decode cX5_next 133 = .ok (.aload_n 0, 1) := dk_42 (dk_at dksX5_next_5 15 rfl rfl)
theorem dX5_next_134 : decode cX5_next 134 = .ok (.getfield 182, 3) := dk_180 0 182 (dk_at dksX5_next_5 16 rfl rfl)
theorem dX5_next_137 : decode cX5_next 137 = .ok (.ldc 185, 2) := dk_18 185 (dk_at dksX5_next_5 19 rfl rfl)
theorem dX5_next_139 : decode cX5_next 139 = .ok (.if_icmp .le 10, 3) := dk_164 0 10 (dk_at dksX5_next_5 21 rfl rfl)
theorem dX5_next_142 : decode cX5_next 142 = .ok (.aload_n 0, 1) := dk_42 (dk_at dksX5_next_6 0 rfl rfl)
theorem dX5_next_143 : decode cX5_next 143 = .ok (.getfield 182, 3) := dk_180 0 182 (dk_at dksX5_next_6 1 rfl rfl)
theorem dX5_next_146 : decode cX5_next 146 = .ok (.goto 23, 3) := dk_167 0 23 (dk_at dksX5_next_6 4 rfl rfl)
theorem dX5_next_149 : decode cX5_next 149 = .ok (.bipush 10, 2) := dk_16 10 (dk_at dksX5_next_6 7 rfl rfl)
theorem dX5_next_151 : decode cX5_next 151 = .ok (.aload_n 0, 1) := dk_42 (dk_at dksX5_next_6 9 rfl rfl)
theorem dX5_next_152 : decode cX5_next 152 = .ok (.getfield 182, 3) := dk_180 0 182 (dk_at dksX5_next_6 10 rfl rfl)
theorem dX5_next_155 : decode cX5_next 155 = .ok (.imul, 1) := dk_104 (dk_at dksX5_next_6 13 rfl rfl)
theorem dX5_next_156 : decode cX5_next 156 = .ok (.aload_n 0, 1) := dk_42 (dk_at dksX5_next_6 14 rfl rfl)
theorem dX5_next_157 : decode cX5_next 157 = .ok (.getfield 26, 3) := dk_180 0 26 (dk_at dksX5_next_6 15 rfl rfl)
theorem dX5_next_160 : decode cX5_next 160 = .ok (.aload_n 0, 1) := dk_42 (dk_at dksX5_next_6 18 rfl rfl)
theorem dX5_next_161 : decode cX5_next 161 = .ok (.getfield 169, 3) := dk_180 0 169 (dk_at dksX5_next_6 19 rfl rfl)
theorem dX5_next_164 : decode cX5_next 164 = .ok (.iaload, 1) := dk_46 (dk_at dksX5_next_6 22 rfl rfl)
theorem dX5_next_165 : decode cX5_next 165 = .ok (.iadd, 1) := dk_96 (dk_at dksX5_next_6 23 rfl rfl)
theorem dX5_next_166 : decode cX5_next 166 = .ok (.bipush 48, 2) := dk_16 48 (dk_at dksX5_next_7 0 rfl rfl)
theorem dX5_next_168 : decode cX5_next 168 = .ok (.isub, 1) := dk_100 (dk_at dksX5_next_7 2 rfl rfl)
theorem dX5_next_169 : decode cX5_next 169 = .ok (.putfield 182, 3) := dk_181 0 182 (dk_at dksX5_next_7 3 rfl rfl)
theorem dX5_next_172 : decode cX5_next 172 = .ok (.aload_n 0, 1) := dk_42 (dk_at dksX5_next_7 6 rfl rfl)
theorem dX5_next_173 : decode cX5_next 173 = .ok (.dup, 1) := dk_89 (dk_at dksX5_next_7 7 rfl rfl)
theorem dX5_next_174 : decode cX5_next 174 = .ok (.getfield 169, 3) := dk_180 0 169 (dk_at dksX5_next_7 8 rfl rfl)
theorem dX5_next_177 : decode cX5_next 177 = .ok (.iconst 1, 1) := dk_4 (dk_at dksX5_next_7 11 rfl rfl)
theorem dX5_next_178 : decode cX5_next 178 = .ok (.iadd, 1) := dk_96 (dk_at dksX5_next_7 12 rfl rfl)
theorem dX5_next_179 : decode cX5_next 179 = .ok (.putfield 169, 3) := dk_181 0 169 (dk_at dksX5_next_7 13 rfl rfl)
theorem dX5_next_182 : decode cX5_next 182 = .ok (.goto (-61), 3) := dk_167 255 195 (dk_at dksX5_next_7 16 rfl rfl)
theorem dX5_next_185 : decode cX5_next 185 = .ok (.aload_n 0, 1) := dk_42 (dk_at dksX5_next_7 19 rfl rfl)
theorem dX5_next_186 : decode cX5_next 186 = .ok (.iconst 2, 1) := dk_5 (dk_at dksX5_next_7 20 rfl rfl)
theorem dX5_next_187 : decode cX5_next 187 = .ok (.putfield 179, 3) := dk_181 0 179 (dk_at dksX5_next_7 21 rfl rfl)
theorem dX5_next_190 : decode cX5_next 190 = .ok (.goto 33, 3) := dk_167 0 33 (dk_at dksX5_next_8 0 rfl rfl)
theorem dX5_next_193 : decode cX5_next 193 = .ok (.aload_n 0, 1) := dk_42 (dk_at dksX5_next_8 3 rfl rfl)
theorem dX5_next_194 : decode cX5_next 194 = .ok (.aload_n 0, 1) := dk_42 (dk_at dksX5_next_8 4 rfl rfl)
theorem dX5_next_195 : decode cX5_next 195 = .ok (.bipush 59, 2) := dk_16 59 (dk_at dksX5_next_8 5 rfl rfl)
theorem dX5_next_197 : decode cX5_next 197 = .ok (.bipush 59, 2) := dk_16 59 (dk_at dksX5_next_8 7 rfl rfl)
theorem dX5_next_199 : decode cX5_next 199 = .ok (.invokevirtual 172, 3) := dk_182 0 172 (dk_at dksX5_next_8 9 rfl rfl)
theorem dX5_next_202 : decode cX5_next 202 = .ok (.ifCond .eq 7, 3) := dk_153 0 7 (dk_at dksX5_next_8 12 rfl rfl)
theorem dX5_next_205 : decode cX5_next 205 = .ok (.iconst 3, 1) := dk_6 (dk_at dksX5_next_8 15 rfl rfl)
theorem dX5_next_206 : decode cX5_next 206 = .ok (.goto 4, 3) := dk_167 0 4 (dk_at dksX5_next_8 16 rfl rfl)
theorem dX5_next_209 : decode cX5_next 209 = .ok (.iconst 4, 1) := dk_7 (dk_at dksX5_next_8 19 rfl rfl)
theorem dX5_next_210 : decode cX5_next 210 = .ok (.putfield 179, 3) := dk_181 0 179 (dk_at dksX5_next_8 20 rfl rfl)
theorem dX5_next_213 : decode cX5_next 213 = .ok (.aload_n 0, 1) := dk_42 (dk_at dksX5_next_8 23 rfl rfl)
theorem dX5_next_214 : decode cX5_next 214 = .ok (.dup, 1) := dk_89 (dk_at dksX5_next_9 0 rfl rfl)
theorem dX5_next_215 : decode cX5_next 215 = .ok (.getfield 169, 3) := dk_180 0 169 (dk_at dksX5_next_9 1 rfl rfl)
theorem dX5_next_218 : decode cX5_next 218 = .ok (.iconst 1, 1) := dk_4 (dk_at dksX5_next_9 4 rfl rfl)
theorem dX5_next_219 : decode cX5_next 219 = .ok (.iadd, 1) := dk_96 (dk_at dksX5_next_9 5 rfl rfl)
theorem dX5_next_220 : decode cX5_next 220 = .ok (.putfield 169, 3) := dk_181 0 169 (dk_at dksX5_next_9 6 rfl rfl)
theorem dX5_next_223 : decode cX5_next 223 = .ok (.return_, 1) := dk_177 (dk_at dksX5_next_9 9 rfl rfl)
abbrev cX5_isByte : ByteArray := prog_14_method_53_code
def yX5_isByte : MethodName := ⟨RX5, "isByte", "(II)Z"⟩
def dkwX5_isByte_1 : List UInt8 := [184, 0, 165, 153, 0, 7, 4, 167, 0, 4, 3, 172]
abbrev dktX5_isByte_1 : List UInt8 := dkwX5_isByte_1 ++ []
def dkwX5_isByte_0 : List UInt8 := [42, 180, 0, 169, 42, 180, 0, 158, 162, 0, 24, 42, 180, 0, 26, 42, 180, 0, 169, 46, 27, 28]
abbrev dktX5_isByte_0 : List UInt8 := dkwX5_isByte_0 ++ dktX5_isByte_1
theorem dksX5_isByte_0 : cX5_isByte.data.toList.drop 0 = dktX5_isByte_0 := by decide +kernel
theorem dksX5_isByte_1 : cX5_isByte.data.toList.drop 22 = dktX5_isByte_1 := dk_seg dksX5_isByte_0 22 rfl rfl
theorem dX5_isByte_0 : decode cX5_isByte 0 = .ok (.aload_n 0, 1) := dk_42 (dk_at dksX5_isByte_0 0 rfl rfl)
theorem dX5_isByte_1 : decode cX5_isByte 1 = .ok (.getfield 169, 3) := dk_180 0 169 (dk_at dksX5_isByte_0 1 rfl rfl)
theorem dX5_isByte_4 : decode cX5_isByte 4 = .ok (.aload_n 0, 1) := dk_42 (dk_at dksX5_isByte_0 4 rfl rfl)
theorem dX5_isByte_5 : decode cX5_isByte 5 = .ok (.getfield 158, 3) := dk_180 0 158 (dk_at dksX5_isByte_0 5 rfl rfl)
theorem dX5_isByte_8 : decode cX5_isByte 8 = .ok (.if_icmp .ge 24, 3) := dk_162 0 24 (dk_at dksX5_isByte_0 8 rfl rfl)
theorem dX5_isByte_11 : decode cX5_isByte 11 = .ok (.aload_n 0, 1) := dk_42 (dk_at dksX5_isByte_0 11 rfl rfl)
theorem dX5_isByte_12 : decode cX5_isByte 12 = .ok (.getfield 26, 3) := dk_180 0 26 (dk_at dksX5_isByte_0 12 rfl rfl)
theorem dX5_isByte_15 : decode cX5_isByte 15 = .ok (.aload_n 0, 1) := dk_42 (dk_at dksX5_isByte_0 15 rfl rfl)
theorem dX5_isByte_16 : decode cX5_isByte 16 = .ok (.getfield 169, 3) := dk_180 0 169 (dk_at dksX5_isByte_0 16 rfl rfl)
theorem dX5_isByte_19 : decode cX5_isByte 19 = .ok (.iaload, 1) := dk_46 (dk_at dksX5_isByte_0 19 rfl rfl)
theorem dX5_isByte_20 : decode cX5_isByte 20 = .ok (.iload_n 1, 1) := dk_27 (dk_at dksX5_isByte_0 20 rfl rfl)
theorem dX5_isByte_21 : decode cX5_isByte 21 = .ok (.iload_n 2, 1) := dk_28 (dk_at dksX5_isByte_0 21 rfl rfl)
theorem dX5_isByte_22 : decode cX5_isByte 22 = .ok (.invokestatic 165, 3) := dk_184 0 165 (dk_at dksX5_isByte_1 0 rfl rfl)
theorem dX5_isByte_25 : decode cX5_isByte 25 = .ok (.ifCond .eq 7, 3) := dk_153 0 7 (dk_at dksX5_isByte_1 3 rfl rfl)
theorem dX5_isByte_28 : decode cX5_isByte 28 = .ok (.iconst 1, 1) := dk_4 (dk_at dksX5_isByte_1 6 rfl rfl)
theorem dX5_isByte_29 : decode cX5_isByte 29 = .ok (.goto 4, 3) := dk_167 0 4 (dk_at dksX5_isByte_1 7 rfl rfl)
theorem dX5_isByte_32 : decode cX5_isByte 32 = .ok (.iconst 0, 1) := dk_3 (dk_at dksX5_isByte_1 10 rfl rfl)
theorem dX5_isByte_33 : decode cX5_isByte 33 = .ok (.ireturn, 1) := dk_172 (dk_at dksX5_isByte_1 11 rfl rfl)
abbrev cX5_mustWord : ByteArray := prog_14_method_58_code
def yX5_mustWord : MethodName := ⟨RX5, "mustWord", "(Ljava/lang/String;)V"⟩
def dkwX5_mustWord_0 : List UInt8 := [42, 42, 43, 182, 0, 201, 4, 182, 0, 205, 87, 42, 182, 0, 208, 177]
abbrev dktX5_mustWord_0 : List UInt8 := dkwX5_mustWord_0 ++ []
theorem dksX5_mustWord_0 : cX5_mustWord.data.toList.drop 0 = dktX5_mustWord_0 := by decide +kernel
theorem dX5_mustWord_0 : decode cX5_mustWord 0 = .ok (.aload_n 0, 1) := dk_42 (dk_at dksX5_mustWord_0 0 rfl rfl)
theorem dX5_mustWord_1 : decode cX5_mustWord 1 = .ok (.aload_n 0, 1) := dk_42 (dk_at dksX5_mustWord_0 1 rfl rfl)
theorem dX5_mustWord_2 : decode cX5_mustWord 2 = .ok (.aload_n 1, 1) := dk_43 (dk_at dksX5_mustWord_0 2 rfl rfl)
theorem dX5_mustWord_3 : decode cX5_mustWord 3 = .ok (.invokevirtual 201, 3) := dk_182 0 201 (dk_at dksX5_mustWord_0 3 rfl rfl)
theorem dX5_mustWord_6 : decode cX5_mustWord 6 = .ok (.iconst 1, 1) := dk_4 (dk_at dksX5_mustWord_0 6 rfl rfl)
theorem dX5_mustWord_7 : decode cX5_mustWord 7 = .ok (.invokevirtual 205, 3) := dk_182 0 205 (dk_at dksX5_mustWord_0 7 rfl rfl)
theorem dX5_mustWord_10 : decode cX5_mustWord 10 = .ok (.pop, 1) := dk_87 (dk_at dksX5_mustWord_0 10 rfl rfl)
theorem dX5_mustWord_11 : decode cX5_mustWord 11 = .ok (.aload_n 0, 1) := dk_42 (dk_at dksX5_mustWord_0 11 rfl rfl)
theorem dX5_mustWord_12 : decode cX5_mustWord 12 = .ok (.invokevirtual 208, 3) := dk_182 0 208 (dk_at dksX5_mustWord_0 12 rfl rfl)
theorem dX5_mustWord_15 : decode cX5_mustWord 15 = .ok (.return_, 1) := dk_177 (dk_at dksX5_mustWord_0 15 rfl rfl)
abbrev cX5_isWord : ByteArray := prog_14_method_56_code
def yX5_isWord : MethodName := ⟨RX5, "isWord", "(Ljava/lang/String;)Z"⟩
def dkwX5_isWord_2 : List UInt8 := [180, 0, 176, 28, 96, 46, 43, 28, 182, 0, 194, 159, 0, 5, 3, 172, 132, 2, 1, 167, 255, 224, 4, 172]
abbrev dktX5_isWord_2 : List UInt8 := dkwX5_isWord_2 ++ []
def dkwX5_isWord_1 : List UInt8 := [43, 182, 0, 189, 159, 0, 5, 3, 172, 3, 61, 28, 43, 182, 0, 189, 162, 0, 30, 42, 180, 0, 26, 42]
abbrev dktX5_isWord_1 : List UInt8 := dkwX5_isWord_1 ++ dktX5_isWord_2
def dkwX5_isWord_0 : List UInt8 := [42, 180, 0, 186, 154, 0, 27, 42, 180, 0, 179, 4, 160, 0, 19, 42, 180, 0, 169, 42, 180, 0, 176, 100]
abbrev dktX5_isWord_0 : List UInt8 := dkwX5_isWord_0 ++ dktX5_isWord_1
theorem dksX5_isWord_0 : cX5_isWord.data.toList.drop 0 = dktX5_isWord_0 := by decide +kernel
theorem dksX5_isWord_1 : cX5_isWord.data.toList.drop 24 = dktX5_isWord_1 := dk_seg dksX5_isWord_0 24 rfl rfl
theorem dksX5_isWord_2 : cX5_isWord.data.toList.drop 48 = dktX5_isWord_2 := dk_seg dksX5_isWord_1 24 rfl rfl
theorem dX5_isWord_0 : decode cX5_isWord 0 = .ok (.aload_n 0, 1) := dk_42 (dk_at dksX5_isWord_0 0 rfl rfl)
theorem dX5_isWord_1 : decode cX5_isWord 1 = .ok (.getfield 186, 3) := dk_180 0 186 (dk_at dksX5_isWord_0 1 rfl rfl)
theorem dX5_isWord_4 : decode cX5_isWord 4 = .ok (.ifCond .ne 27, 3) := dk_154 0 27 (dk_at dksX5_isWord_0 4 rfl rfl)
theorem dX5_isWord_7 : decode cX5_isWord 7 = .ok (.aload_n 0, 1) := dk_42 (dk_at dksX5_isWord_0 7 rfl rfl)
theorem dX5_isWord_8 : decode cX5_isWord 8 = .ok (.getfield 179, 3) := dk_180 0 179 (dk_at dksX5_isWord_0 8 rfl rfl)
theorem dX5_isWord_11 : decode cX5_isWord 11 = .ok (.iconst 1, 1) := dk_4 (dk_at dksX5_isWord_0 11 rfl rfl)
theorem dX5_isWord_12 : decode cX5_isWord 12 = .ok (.if_icmp .ne 19, 3) := dk_160 0 19 (dk_at dksX5_isWord_0 12 rfl rfl)
theorem dX5_isWord_15 : decode cX5_isWord 15 = .ok (.aload_n 0, 1) := dk_42 (dk_at dksX5_isWord_0 15 rfl rfl)
theorem dX5_isWord_16 : decode cX5_isWord 16 = .ok (.getfield 169, 3) := dk_180 0 169 (dk_at dksX5_isWord_0 16 rfl rfl)
theorem dX5_isWord_19 : decode cX5_isWord 19 = .ok (.aload_n 0, 1) := dk_42 (dk_at dksX5_isWord_0 19 rfl rfl)
theorem dX5_isWord_20 : decode cX5_isWord 20 = .ok (.getfield 176, 3) := dk_180 0 176 (dk_at dksX5_isWord_0 20 rfl rfl)
theorem dX5_isWord_23 : decode cX5_isWord 23 = .ok (.isub, 1) := dk_100 (dk_at dksX5_isWord_0 23 rfl rfl)
theorem dX5_isWord_24 : decode cX5_isWord 24 = .ok (.aload_n 1, 1) := dk_43 (dk_at dksX5_isWord_1 0 rfl rfl)
theorem dX5_isWord_25 : decode cX5_isWord 25 = .ok (.invokevirtual 189, 3) := dk_182 0 189 (dk_at dksX5_isWord_1 1 rfl rfl)
theorem dX5_isWord_28 : decode cX5_isWord 28 = .ok (.if_icmp .eq 5, 3) := dk_159 0 5 (dk_at dksX5_isWord_1 4 rfl rfl)
theorem dX5_isWord_31 : decode cX5_isWord 31 = .ok (.iconst 0, 1) := dk_3 (dk_at dksX5_isWord_1 7 rfl rfl)
theorem dX5_isWord_32 : decode cX5_isWord 32 = .ok (.ireturn, 1) := dk_172 (dk_at dksX5_isWord_1 8 rfl rfl)
theorem dX5_isWord_33 : decode cX5_isWord 33 = .ok (.iconst 0, 1) := dk_3 (dk_at dksX5_isWord_1 9 rfl rfl)
theorem dX5_isWord_34 : decode cX5_isWord 34 = .ok (.istore_n 2, 1) := dk_61 (dk_at dksX5_isWord_1 10 rfl rfl)
theorem dX5_isWord_35 : decode cX5_isWord 35 = .ok (.iload_n 2, 1) := dk_28 (dk_at dksX5_isWord_1 11 rfl rfl)
theorem dX5_isWord_36 : decode cX5_isWord 36 = .ok (.aload_n 1, 1) := dk_43 (dk_at dksX5_isWord_1 12 rfl rfl)
theorem dX5_isWord_37 : decode cX5_isWord 37 = .ok (.invokevirtual 189, 3) := dk_182 0 189 (dk_at dksX5_isWord_1 13 rfl rfl)
theorem dX5_isWord_40 : decode cX5_isWord 40 = .ok (.if_icmp .ge 30, 3) := dk_162 0 30 (dk_at dksX5_isWord_1 16 rfl rfl)
theorem dX5_isWord_43 : decode cX5_isWord 43 = .ok (.aload_n 0, 1) := dk_42 (dk_at dksX5_isWord_1 19 rfl rfl)
theorem dX5_isWord_44 : decode cX5_isWord 44 = .ok (.getfield 26, 3) := dk_180 0 26 (dk_at dksX5_isWord_1 20 rfl rfl)
theorem dX5_isWord_47 : decode cX5_isWord 47 = .ok (.aload_n 0, 1) := dk_42 (dk_at dksX5_isWord_1 23 rfl rfl)
theorem dX5_isWord_48 : decode cX5_isWord 48 = .ok (.getfield 176, 3) := dk_180 0 176 (dk_at dksX5_isWord_2 0 rfl rfl)
theorem dX5_isWord_51 : decode cX5_isWord 51 = .ok (.iload_n 2, 1) := dk_28 (dk_at dksX5_isWord_2 3 rfl rfl)
theorem dX5_isWord_52 : decode cX5_isWord 52 = .ok (.iadd, 1) := dk_96 (dk_at dksX5_isWord_2 4 rfl rfl)
theorem dX5_isWord_53 : decode cX5_isWord 53 = .ok (.iaload, 1) := dk_46 (dk_at dksX5_isWord_2 5 rfl rfl)
theorem dX5_isWord_54 : decode cX5_isWord 54 = .ok (.aload_n 1, 1) := dk_43 (dk_at dksX5_isWord_2 6 rfl rfl)
theorem dX5_isWord_55 : decode cX5_isWord 55 = .ok (.iload_n 2, 1) := dk_28 (dk_at dksX5_isWord_2 7 rfl rfl)
theorem dX5_isWord_56 : decode cX5_isWord 56 = .ok (.invokevirtual 194, 3) := dk_182 0 194 (dk_at dksX5_isWord_2 8 rfl rfl)
theorem dX5_isWord_59 : decode cX5_isWord 59 = .ok (.if_icmp .eq 5, 3) := dk_159 0 5 (dk_at dksX5_isWord_2 11 rfl rfl)
theorem dX5_isWord_62 : decode cX5_isWord 62 = .ok (.iconst 0, 1) := dk_3 (dk_at dksX5_isWord_2 14 rfl rfl)
theorem dX5_isWord_63 : decode cX5_isWord 63 = .ok (.ireturn, 1) := dk_172 (dk_at dksX5_isWord_2 15 rfl rfl)
theorem dX5_isWord_64 : decode cX5_isWord 64 = .ok (.iinc 2 1, 3) := dk_132 2 1 (dk_at dksX5_isWord_2 16 rfl rfl)
theorem dX5_isWord_67 : decode cX5_isWord 67 = .ok (.goto (-32), 3) := dk_167 255 224 (dk_at dksX5_isWord_2 19 rfl rfl)
theorem dX5_isWord_70 : decode cX5_isWord 70 = .ok (.iconst 1, 1) := dk_4 (dk_at dksX5_isWord_2 22 rfl rfl)
theorem dX5_isWord_71 : decode cX5_isWord 71 = .ok (.ireturn, 1) := dk_172 (dk_at dksX5_isWord_2 23 rfl rfl)
abbrev cX5_must : ByteArray := prog_14_method_55_code
def yX5_must : MethodName := ⟨RX5, "must", "(ZI)Z"⟩
def dkwX5_must_1 : List UInt8 := [42, 180, 0, 186, 154, 0, 7, 4, 167, 0, 4, 3, 172]
abbrev dktX5_must_1 : List UInt8 := dkwX5_must_1 ++ []
def dkwX5_must_0 : List UInt8 := [42, 180, 0, 186, 154, 0, 20, 27, 154, 0, 16, 42, 28, 181, 0, 186, 42, 42, 180, 0, 176, 181, 0, 29]
abbrev dktX5_must_0 : List UInt8 := dkwX5_must_0 ++ dktX5_must_1
theorem dksX5_must_0 : cX5_must.data.toList.drop 0 = dktX5_must_0 := by decide +kernel
theorem dksX5_must_1 : cX5_must.data.toList.drop 24 = dktX5_must_1 := dk_seg dksX5_must_0 24 rfl rfl
theorem dX5_must_0 : decode cX5_must 0 = .ok (.aload_n 0, 1) := dk_42 (dk_at dksX5_must_0 0 rfl rfl)
theorem dX5_must_1 : decode cX5_must 1 = .ok (.getfield 186, 3) := dk_180 0 186 (dk_at dksX5_must_0 1 rfl rfl)
theorem dX5_must_4 : decode cX5_must 4 = .ok (.ifCond .ne 20, 3) := dk_154 0 20 (dk_at dksX5_must_0 4 rfl rfl)
theorem dX5_must_7 : decode cX5_must 7 = .ok (.iload_n 1, 1) := dk_27 (dk_at dksX5_must_0 7 rfl rfl)
theorem dX5_must_8 : decode cX5_must 8 = .ok (.ifCond .ne 16, 3) := dk_154 0 16 (dk_at dksX5_must_0 8 rfl rfl)
theorem dX5_must_11 : decode cX5_must 11 = .ok (.aload_n 0, 1) := dk_42 (dk_at dksX5_must_0 11 rfl rfl)
theorem dX5_must_12 : decode cX5_must 12 = .ok (.iload_n 2, 1) := dk_28 (dk_at dksX5_must_0 12 rfl rfl)
theorem dX5_must_13 : decode cX5_must 13 = .ok (.putfield 186, 3) := dk_181 0 186 (dk_at dksX5_must_0 13 rfl rfl)
theorem dX5_must_16 : decode cX5_must 16 = .ok (.aload_n 0, 1) := dk_42 (dk_at dksX5_must_0 16 rfl rfl)
theorem dX5_must_17 : decode cX5_must 17 = .ok (.aload_n 0, 1) := dk_42 (dk_at dksX5_must_0 17 rfl rfl)
theorem dX5_must_18 : decode cX5_must 18 = .ok (.getfield 176, 3) := dk_180 0 176 (dk_at dksX5_must_0 18 rfl rfl)
theorem dX5_must_21 : decode cX5_must 21 = .ok (.putfield 29, 3) := dk_181 0 29 (dk_at dksX5_must_0 21 rfl rfl)
theorem dX5_must_24 : decode cX5_must 24 = .ok (.aload_n 0, 1) := dk_42 (dk_at dksX5_must_1 0 rfl rfl)
theorem dX5_must_25 : decode cX5_must 25 = .ok (.getfield 186, 3) := dk_180 0 186 (dk_at dksX5_must_1 1 rfl rfl)
theorem dX5_must_28 : decode cX5_must 28 = .ok (.ifCond .ne 7, 3) := dk_154 0 7 (dk_at dksX5_must_1 4 rfl rfl)
theorem dX5_must_31 : decode cX5_must 31 = .ok (.iconst 1, 1) := dk_4 (dk_at dksX5_must_1 7 rfl rfl)
theorem dX5_must_32 : decode cX5_must 32 = .ok (.goto 4, 3) := dk_167 0 4 (dk_at dksX5_must_1 8 rfl rfl)
theorem dX5_must_35 : decode cX5_must 35 = .ok (.iconst 0, 1) := dk_3 (dk_at dksX5_must_1 11 rfl rfl)
theorem dX5_must_36 : decode cX5_must 36 = .ok (.ireturn, 1) := dk_172 (dk_at dksX5_must_1 12 rfl rfl)
abbrev cX5_goesOn : ByteArray := prog_14_method_57_code
def yX5_goesOn : MethodName := ⟨RX5, "goesOn", "()V"⟩
def dkwX5_goesOn_0 : List UInt8 := [42, 180, 0, 186, 154, 0, 7, 42, 182, 0, 198, 177]
abbrev dktX5_goesOn_0 : List UInt8 := dkwX5_goesOn_0 ++ []
theorem dksX5_goesOn_0 : cX5_goesOn.data.toList.drop 0 = dktX5_goesOn_0 := by decide +kernel
theorem dX5_goesOn_0 : decode cX5_goesOn 0 = .ok (.aload_n 0, 1) := dk_42 (dk_at dksX5_goesOn_0 0 rfl rfl)
theorem dX5_goesOn_1 : decode cX5_goesOn 1 = .ok (.getfield 186, 3) := dk_180 0 186 (dk_at dksX5_goesOn_0 1 rfl rfl)
theorem dX5_goesOn_4 : decode cX5_goesOn 4 = .ok (.ifCond .ne 7, 3) := dk_154 0 7 (dk_at dksX5_goesOn_0 4 rfl rfl)
theorem dX5_goesOn_7 : decode cX5_goesOn 7 = .ok (.aload_n 0, 1) := dk_42 (dk_at dksX5_goesOn_0 7 rfl rfl)
theorem dX5_goesOn_8 : decode cX5_goesOn 8 = .ok (.invokevirtual 198, 3) := dk_182 0 198 (dk_at dksX5_goesOn_0 8 rfl rfl)
theorem dX5_goesOn_11 : decode cX5_goesOn 11 = .ok (.return_, 1) := dk_177 (dk_at dksX5_goesOn_0 11 rfl rfl)
abbrev cX5_reads : ByteArray := prog_14_method_61_code
def yX5_reads : MethodName := ⟨RX5, "reads", "(II)I"⟩
def dkwX5_reads_0 : List UInt8 := [42, 27, 28, 182, 0, 211, 62, 42, 182, 0, 208, 29, 172]
abbrev dktX5_reads_0 : List UInt8 := dkwX5_reads_0 ++ []
theorem dksX5_reads_0 : cX5_reads.data.toList.drop 0 = dktX5_reads_0 := by decide +kernel
theorem dX5_reads_0 : decode cX5_reads 0 = .ok (.aload_n 0, 1) := dk_42 (dk_at dksX5_reads_0 0 rfl rfl)
theorem dX5_reads_1 : decode cX5_reads 1 = .ok (.iload_n 1, 1) := dk_27 (dk_at dksX5_reads_0 1 rfl rfl)
theorem dX5_reads_2 : decode cX5_reads 2 = .ok (.iload_n 2, 1) := dk_28 (dk_at dksX5_reads_0 2 rfl rfl)
theorem dX5_reads_3 : decode cX5_reads 3 = .ok (.invokevirtual 211, 3) := dk_182 0 211 (dk_at dksX5_reads_0 3 rfl rfl)
theorem dX5_reads_6 : decode cX5_reads 6 = .ok (.istore_n 3, 1) := dk_62 (dk_at dksX5_reads_0 6 rfl rfl)
theorem dX5_reads_7 : decode cX5_reads 7 = .ok (.aload_n 0, 1) := dk_42 (dk_at dksX5_reads_0 7 rfl rfl)
theorem dX5_reads_8 : decode cX5_reads 8 = .ok (.invokevirtual 208, 3) := dk_182 0 208 (dk_at dksX5_reads_0 8 rfl rfl)
theorem dX5_reads_11 : decode cX5_reads 11 = .ok (.iload_n 3, 1) := dk_29 (dk_at dksX5_reads_0 11 rfl rfl)
theorem dX5_reads_12 : decode cX5_reads 12 = .ok (.ireturn, 1) := dk_172 (dk_at dksX5_reads_0 12 rfl rfl)
abbrev cX5_looks : ByteArray := prog_14_method_60_code
def yX5_looks : MethodName := ⟨RX5, "looks", "(II)I"⟩
def dkwX5_looks_2 : List UInt8 := [167, 0, 4, 27, 172]
abbrev dktX5_looks_2 : List UInt8 := dkwX5_looks_2 ++ []
def dkwX5_looks_1 : List UInt8 := [180, 0, 182, 27, 28, 184, 0, 165, 5, 182, 0, 205, 87, 42, 180, 0, 186, 154, 0, 10, 42, 180, 0, 182]
abbrev dktX5_looks_1 : List UInt8 := dkwX5_looks_1 ++ dktX5_looks_2
def dkwX5_looks_0 : List UInt8 := [42, 42, 180, 0, 179, 5, 160, 0, 7, 4, 167, 0, 4, 3, 4, 182, 0, 205, 153, 0, 18, 42, 42]
abbrev dktX5_looks_0 : List UInt8 := dkwX5_looks_0 ++ dktX5_looks_1
theorem dksX5_looks_0 : cX5_looks.data.toList.drop 0 = dktX5_looks_0 := by decide +kernel
theorem dksX5_looks_1 : cX5_looks.data.toList.drop 23 = dktX5_looks_1 := dk_seg dksX5_looks_0 23 rfl rfl
theorem dksX5_looks_2 : cX5_looks.data.toList.drop 47 = dktX5_looks_2 := dk_seg dksX5_looks_1 24 rfl rfl
theorem dX5_looks_0 : decode cX5_looks 0 = .ok (.aload_n 0, 1) := dk_42 (dk_at dksX5_looks_0 0 rfl rfl)
theorem dX5_looks_1 : decode cX5_looks 1 = .ok (.aload_n 0, 1) := dk_42 (dk_at dksX5_looks_0 1 rfl rfl)
theorem dX5_looks_2 : decode cX5_looks 2 = .ok (.getfield 179, 3) := dk_180 0 179 (dk_at dksX5_looks_0 2 rfl rfl)
theorem dX5_looks_5 : decode cX5_looks 5 = .ok (.iconst 2, 1) := dk_5 (dk_at dksX5_looks_0 5 rfl rfl)
theorem dX5_looks_6 : decode cX5_looks 6 = .ok (.if_icmp .ne 7, 3) := dk_160 0 7 (dk_at dksX5_looks_0 6 rfl rfl)
theorem dX5_looks_9 : decode cX5_looks 9 = .ok (.iconst 1, 1) := dk_4 (dk_at dksX5_looks_0 9 rfl rfl)
theorem dX5_looks_10 : decode cX5_looks 10 = .ok (.goto 4, 3) := dk_167 0 4 (dk_at dksX5_looks_0 10 rfl rfl)
theorem dX5_looks_13 : decode cX5_looks 13 = .ok (.iconst 0, 1) := dk_3 (dk_at dksX5_looks_0 13 rfl rfl)
theorem dX5_looks_14 : decode cX5_looks 14 = .ok (.iconst 1, 1) := dk_4 (dk_at dksX5_looks_0 14 rfl rfl)
theorem dX5_looks_15 : decode cX5_looks 15 = .ok (.invokevirtual 205, 3) := dk_182 0 205 (dk_at dksX5_looks_0 15 rfl rfl)
theorem dX5_looks_18 : decode cX5_looks 18 = .ok (.ifCond .eq 18, 3) := dk_153 0 18 (dk_at dksX5_looks_0 18 rfl rfl)
theorem dX5_looks_21 : decode cX5_looks 21 = .ok (.aload_n 0, 1) := dk_42 (dk_at dksX5_looks_0 21 rfl rfl)
theorem dX5_looks_22 : decode cX5_looks 22 = .ok (.aload_n 0, 1) := dk_42 (dk_at dksX5_looks_0 22 rfl rfl)
theorem dX5_looks_23 : decode cX5_looks 23 = .ok (.getfield 182, 3) := dk_180 0 182 (dk_at dksX5_looks_1 0 rfl rfl)
theorem dX5_looks_26 : decode cX5_looks 26 = .ok (.iload_n 1, 1) := dk_27 (dk_at dksX5_looks_1 3 rfl rfl)
theorem dX5_looks_27 : decode cX5_looks 27 = .ok (.iload_n 2, 1) := dk_28 (dk_at dksX5_looks_1 4 rfl rfl)
theorem dX5_looks_28 : decode cX5_looks 28 = .ok (.invokestatic 165, 3) := dk_184 0 165 (dk_at dksX5_looks_1 5 rfl rfl)
theorem dX5_looks_31 : decode cX5_looks 31 = .ok (.iconst 2, 1) := dk_5 (dk_at dksX5_looks_1 8 rfl rfl)
theorem dX5_looks_32 : decode cX5_looks 32 = .ok (.invokevirtual 205, 3) := dk_182 0 205 (dk_at dksX5_looks_1 9 rfl rfl)
theorem dX5_looks_35 : decode cX5_looks 35 = .ok (.pop, 1) := dk_87 (dk_at dksX5_looks_1 12 rfl rfl)
theorem dX5_looks_36 : decode cX5_looks 36 = .ok (.aload_n 0, 1) := dk_42 (dk_at dksX5_looks_1 13 rfl rfl)
theorem dX5_looks_37 : decode cX5_looks 37 = .ok (.getfield 186, 3) := dk_180 0 186 (dk_at dksX5_looks_1 14 rfl rfl)
theorem dX5_looks_40 : decode cX5_looks 40 = .ok (.ifCond .ne 10, 3) := dk_154 0 10 (dk_at dksX5_looks_1 17 rfl rfl)
theorem dX5_looks_43 : decode cX5_looks 43 = .ok (.aload_n 0, 1) := dk_42 (dk_at dksX5_looks_1 20 rfl rfl)
theorem dX5_looks_44 : decode cX5_looks 44 = .ok (.getfield 182, 3) := dk_180 0 182 (dk_at dksX5_looks_1 21 rfl rfl)
theorem dX5_looks_47 : decode cX5_looks 47 = .ok (.goto 4, 3) := dk_167 0 4 (dk_at dksX5_looks_2 0 rfl rfl)
theorem dX5_looks_50 : decode cX5_looks 50 = .ok (.iload_n 1, 1) := dk_27 (dk_at dksX5_looks_2 3 rfl rfl)
theorem dX5_looks_51 : decode cX5_looks 51 = .ok (.ireturn, 1) := dk_172 (dk_at dksX5_looks_2 4 rfl rfl)
abbrev cX5_endsLine : ByteArray := prog_14_method_59_code
def yX5_endsLine : MethodName := ⟨RX5, "endsLine", "()V"⟩
def dkwX5_endsLine_0 : List UInt8 := [42, 42, 180, 0, 179, 6, 160, 0, 7, 4, 167, 0, 4, 3, 4, 182, 0, 205, 87, 42, 182, 0, 208, 177]
abbrev dktX5_endsLine_0 : List UInt8 := dkwX5_endsLine_0 ++ []
theorem dksX5_endsLine_0 : cX5_endsLine.data.toList.drop 0 = dktX5_endsLine_0 := by decide +kernel
theorem dX5_endsLine_0 : decode cX5_endsLine 0 = .ok (.aload_n 0, 1) := dk_42 (dk_at dksX5_endsLine_0 0 rfl rfl)
theorem dX5_endsLine_1 : decode cX5_endsLine 1 = .ok (.aload_n 0, 1) := dk_42 (dk_at dksX5_endsLine_0 1 rfl rfl)
theorem dX5_endsLine_2 : decode cX5_endsLine 2 = .ok (.getfield 179, 3) := dk_180 0 179 (dk_at dksX5_endsLine_0 2 rfl rfl)
theorem dX5_endsLine_5 : decode cX5_endsLine 5 = .ok (.iconst 3, 1) := dk_6 (dk_at dksX5_endsLine_0 5 rfl rfl)
theorem dX5_endsLine_6 : decode cX5_endsLine 6 = .ok (.if_icmp .ne 7, 3) := dk_160 0 7 (dk_at dksX5_endsLine_0 6 rfl rfl)
theorem dX5_endsLine_9 : decode cX5_endsLine 9 = .ok (.iconst 1, 1) := dk_4 (dk_at dksX5_endsLine_0 9 rfl rfl)
theorem dX5_endsLine_10 : decode cX5_endsLine 10 = .ok (.goto 4, 3) := dk_167 0 4 (dk_at dksX5_endsLine_0 10 rfl rfl)
theorem dX5_endsLine_13 : decode cX5_endsLine 13 = .ok (.iconst 0, 1) := dk_3 (dk_at dksX5_endsLine_0 13 rfl rfl)
theorem dX5_endsLine_14 : decode cX5_endsLine 14 = .ok (.iconst 1, 1) := dk_4 (dk_at dksX5_endsLine_0 14 rfl rfl)
theorem dX5_endsLine_15 : decode cX5_endsLine 15 = .ok (.invokevirtual 205, 3) := dk_182 0 205 (dk_at dksX5_endsLine_0 15 rfl rfl)
theorem dX5_endsLine_18 : decode cX5_endsLine 18 = .ok (.pop, 1) := dk_87 (dk_at dksX5_endsLine_0 18 rfl rfl)
theorem dX5_endsLine_19 : decode cX5_endsLine 19 = .ok (.aload_n 0, 1) := dk_42 (dk_at dksX5_endsLine_0 19 rfl rfl)
theorem dX5_endsLine_20 : decode cX5_endsLine 20 = .ok (.invokevirtual 208, 3) := dk_182 0 208 (dk_at dksX5_endsLine_0 20 rfl rfl)
theorem dX5_endsLine_23 : decode cX5_endsLine 23 = .ok (.return_, 1) := dk_177 (dk_at dksX5_endsLine_0 23 rfl rfl)
abbrev cX5_readsHeap : ByteArray := prog_14_method_63_code
def yX5_readsHeap : MethodName := ⟨RX5, "readsHeap", "()V"⟩
def dkwX5_readsHeap_5 : List UInt8 := [154, 0, 11, 42, 180, 0, 179, 5, 159, 255, 197, 42, 182, 0, 219, 177]
abbrev dktX5_readsHeap_5 : List UInt8 := dkwX5_readsHeap_5 ++ []
def dkwX5_readsHeap_4 : List UInt8 := [167, 0, 4, 3, 6, 182, 0, 205, 153, 0, 8, 42, 28, 182, 0, 53, 42, 182, 0, 208, 42, 180, 0, 186]
abbrev dktX5_readsHeap_4 : List UInt8 := dkwX5_readsHeap_4 ++ dktX5_readsHeap_5
def dkwX5_readsHeap_3 : List UInt8 := [182, 0, 211, 61, 42, 42, 180, 0, 186, 154, 0, 13, 42, 27, 4, 182, 0, 69, 8, 162, 0, 7, 4]
abbrev dktX5_readsHeap_3 : List UInt8 := dkwX5_readsHeap_3 ++ dktX5_readsHeap_4
def dkwX5_readsHeap_2 : List UInt8 := [3, 182, 0, 65, 4, 100, 182, 0, 216, 182, 0, 49, 42, 4, 182, 0, 65, 4, 100, 60, 42, 3, 16, 9]
abbrev dktX5_readsHeap_2 : List UInt8 := dkwX5_readsHeap_2 ++ dktX5_readsHeap_3
def dkwX5_readsHeap_1 : List UInt8 := [162, 0, 7, 4, 167, 0, 4, 3, 7, 182, 0, 205, 154, 0, 4, 177, 42, 182, 0, 208, 42, 42, 3, 42]
abbrev dktX5_readsHeap_1 : List UInt8 := dkwX5_readsHeap_1 ++ dktX5_readsHeap_2
def dkwX5_readsHeap_0 : List UInt8 := [42, 42, 18, 214, 182, 0, 201, 4, 182, 0, 205, 153, 0, 26, 42, 42, 4, 182, 0, 65, 16, 10]
abbrev dktX5_readsHeap_0 : List UInt8 := dkwX5_readsHeap_0 ++ dktX5_readsHeap_1
theorem dksX5_readsHeap_0 : cX5_readsHeap.data.toList.drop 0 = dktX5_readsHeap_0 := by decide +kernel
theorem dksX5_readsHeap_1 : cX5_readsHeap.data.toList.drop 22 = dktX5_readsHeap_1 := dk_seg dksX5_readsHeap_0 22 rfl rfl
theorem dksX5_readsHeap_2 : cX5_readsHeap.data.toList.drop 46 = dktX5_readsHeap_2 := dk_seg dksX5_readsHeap_1 24 rfl rfl
theorem dksX5_readsHeap_3 : cX5_readsHeap.data.toList.drop 70 = dktX5_readsHeap_3 := dk_seg dksX5_readsHeap_2 24 rfl rfl
theorem dksX5_readsHeap_4 : cX5_readsHeap.data.toList.drop 93 = dktX5_readsHeap_4 := dk_seg dksX5_readsHeap_3 23 rfl rfl
theorem dksX5_readsHeap_5 : cX5_readsHeap.data.toList.drop 117 = dktX5_readsHeap_5 := dk_seg dksX5_readsHeap_4 24 rfl rfl
theorem dX5_readsHeap_0 : decode cX5_readsHeap 0 = .ok (.aload_n 0, 1) := dk_42 (dk_at dksX5_readsHeap_0 0 rfl rfl)
theorem dX5_readsHeap_1 : decode cX5_readsHeap 1 = .ok (.aload_n 0, 1) := dk_42 (dk_at dksX5_readsHeap_0 1 rfl rfl)
theorem dX5_readsHeap_2 : decode cX5_readsHeap 2 = .ok (.ldc 214, 2) := dk_18 214 (dk_at dksX5_readsHeap_0 2 rfl rfl)
theorem dX5_readsHeap_4 : decode cX5_readsHeap 4 = .ok (.invokevirtual 201, 3) := dk_182 0 201 (dk_at dksX5_readsHeap_0 4 rfl rfl)
theorem dX5_readsHeap_7 : decode cX5_readsHeap 7 = .ok (.iconst 1, 1) := dk_4 (dk_at dksX5_readsHeap_0 7 rfl rfl)
theorem dX5_readsHeap_8 : decode cX5_readsHeap 8 = .ok (.invokevirtual 205, 3) := dk_182 0 205 (dk_at dksX5_readsHeap_0 8 rfl rfl)
theorem dX5_readsHeap_11 : decode cX5_readsHeap 11 = .ok (.ifCond .eq 26, 3) := dk_153 0 26 (dk_at dksX5_readsHeap_0 11 rfl rfl)
theorem dX5_readsHeap_14 : decode cX5_readsHeap 14 = .ok (.aload_n 0, 1) := dk_42 (dk_at dksX5_readsHeap_0 14 rfl rfl)
theorem dX5_readsHeap_15 : decode cX5_readsHeap 15 = .ok (.aload_n 0, 1) := dk_42 (dk_at dksX5_readsHeap_0 15 rfl rfl)
theorem dX5_readsHeap_16 : decode cX5_readsHeap 16 = .ok (.iconst 1, 1) := dk_4 (dk_at dksX5_readsHeap_0 16 rfl rfl)
theorem dX5_readsHeap_17 : decode cX5_readsHeap 17 = .ok (.invokevirtual 65, 3) := dk_182 0 65 (dk_at dksX5_readsHeap_0 17 rfl rfl)
theorem dX5_readsHeap_20 : decode cX5_readsHeap 20 = .ok (.bipush 10, 2) := dk_16 10 (dk_at dksX5_readsHeap_0 20 rfl rfl)
theorem dX5_readsHeap_22 : decode cX5_readsHeap 22 = .ok (.if_icmp .ge 7, 3) := dk_162 0 7 (dk_at dksX5_readsHeap_1 0 rfl rfl)
theorem dX5_readsHeap_25 : decode cX5_readsHeap 25 = .ok (.iconst 1, 1) := dk_4 (dk_at dksX5_readsHeap_1 3 rfl rfl)
theorem dX5_readsHeap_26 : decode cX5_readsHeap 26 = .ok (.goto 4, 3) := dk_167 0 4 (dk_at dksX5_readsHeap_1 4 rfl rfl)
theorem dX5_readsHeap_29 : decode cX5_readsHeap 29 = .ok (.iconst 0, 1) := dk_3 (dk_at dksX5_readsHeap_1 7 rfl rfl)
theorem dX5_readsHeap_30 : decode cX5_readsHeap 30 = .ok (.iconst 4, 1) := dk_7 (dk_at dksX5_readsHeap_1 8 rfl rfl)
theorem dX5_readsHeap_31 : decode cX5_readsHeap 31 = .ok (.invokevirtual 205, 3) := dk_182 0 205 (dk_at dksX5_readsHeap_1 9 rfl rfl)
theorem dX5_readsHeap_34 : decode cX5_readsHeap 34 = .ok (.ifCond .ne 4, 3) := dk_154 0 4 (dk_at dksX5_readsHeap_1 12 rfl rfl)
theorem dX5_readsHeap_37 : decode cX5_readsHeap 37 = .ok (.return_, 1) := dk_177 (dk_at dksX5_readsHeap_1 15 rfl rfl)
theorem dX5_readsHeap_38 : decode cX5_readsHeap 38 = .ok (.aload_n 0, 1) := dk_42 (dk_at dksX5_readsHeap_1 16 rfl rfl)
theorem dX5_readsHeap_39 : decode cX5_readsHeap 39 = .ok (.invokevirtual 208, 3) := dk_182 0 208 (dk_at dksX5_readsHeap_1 17 rfl rfl)
theorem dX5_readsHeap_42 : decode cX5_readsHeap 42 = .ok (.aload_n 0, 1) := dk_42 (dk_at dksX5_readsHeap_1 20 rfl rfl)
theorem dX5_readsHeap_43 : decode cX5_readsHeap 43 = .ok (.aload_n 0, 1) := dk_42 (dk_at dksX5_readsHeap_1 21 rfl rfl)
theorem dX5_readsHeap_44 : decode cX5_readsHeap 44 = .ok (.iconst 0, 1) := dk_3 (dk_at dksX5_readsHeap_1 22 rfl rfl)
theorem dX5_readsHeap_45 : decode cX5_readsHeap 45 = .ok (.aload_n 0, 1) := dk_42 (dk_at dksX5_readsHeap_1 23 rfl rfl)
theorem dX5_readsHeap_46 : decode cX5_readsHeap 46 = .ok (.iconst 0, 1) := dk_3 (dk_at dksX5_readsHeap_2 0 rfl rfl)
theorem dX5_readsHeap_47 : decode cX5_readsHeap 47 = .ok (.invokevirtual 65, 3) := dk_182 0 65 (dk_at dksX5_readsHeap_2 1 rfl rfl)
theorem dX5_readsHeap_50 : decode cX5_readsHeap 50 = .ok (.iconst 1, 1) := dk_4 (dk_at dksX5_readsHeap_2 4 rfl rfl)
theorem dX5_readsHeap_51 : decode cX5_readsHeap 51 = .ok (.isub, 1) := dk_100 (dk_at dksX5_readsHeap_2 5 rfl rfl)
theorem dX5_readsHeap_52 : decode cX5_readsHeap 52 = .ok (.invokevirtual 216, 3) := dk_182 0 216 (dk_at dksX5_readsHeap_2 6 rfl rfl)
theorem dX5_readsHeap_55 : decode cX5_readsHeap 55 = .ok (.invokevirtual 49, 3) := dk_182 0 49 (dk_at dksX5_readsHeap_2 9 rfl rfl)
theorem dX5_readsHeap_58 : decode cX5_readsHeap 58 = .ok (.aload_n 0, 1) := dk_42 (dk_at dksX5_readsHeap_2 12 rfl rfl)
theorem dX5_readsHeap_59 : decode cX5_readsHeap 59 = .ok (.iconst 1, 1) := dk_4 (dk_at dksX5_readsHeap_2 13 rfl rfl)
theorem dX5_readsHeap_60 : decode cX5_readsHeap 60 = .ok (.invokevirtual 65, 3) := dk_182 0 65 (dk_at dksX5_readsHeap_2 14 rfl rfl)
theorem dX5_readsHeap_63 : decode cX5_readsHeap 63 = .ok (.iconst 1, 1) := dk_4 (dk_at dksX5_readsHeap_2 17 rfl rfl)
theorem dX5_readsHeap_64 : decode cX5_readsHeap 64 = .ok (.isub, 1) := dk_100 (dk_at dksX5_readsHeap_2 18 rfl rfl)
theorem dX5_readsHeap_65 : decode cX5_readsHeap 65 = .ok (.istore_n 1, 1) := dk_60 (dk_at dksX5_readsHeap_2 19 rfl rfl)
theorem dX5_readsHeap_66 : decode cX5_readsHeap 66 = .ok (.aload_n 0, 1) := dk_42 (dk_at dksX5_readsHeap_2 20 rfl rfl)
theorem dX5_readsHeap_67 : decode cX5_readsHeap 67 = .ok (.iconst 0, 1) := dk_3 (dk_at dksX5_readsHeap_2 21 rfl rfl)
theorem dX5_readsHeap_68 : decode cX5_readsHeap 68 = .ok (.bipush 9, 2) := dk_16 9 (dk_at dksX5_readsHeap_2 22 rfl rfl)
theorem dX5_readsHeap_70 : decode cX5_readsHeap 70 = .ok (.invokevirtual 211, 3) := dk_182 0 211 (dk_at dksX5_readsHeap_3 0 rfl rfl)
theorem dX5_readsHeap_73 : decode cX5_readsHeap 73 = .ok (.istore_n 2, 1) := dk_61 (dk_at dksX5_readsHeap_3 3 rfl rfl)
theorem dX5_readsHeap_74 : decode cX5_readsHeap 74 = .ok (.aload_n 0, 1) := dk_42 (dk_at dksX5_readsHeap_3 4 rfl rfl)
theorem dX5_readsHeap_75 : decode cX5_readsHeap 75 = .ok (.aload_n 0, 1) := dk_42 (dk_at dksX5_readsHeap_3 5 rfl rfl)
theorem dX5_readsHeap_76 : decode cX5_readsHeap 76 = .ok (.getfield 186, 3) := dk_180 0 186 (dk_at dksX5_readsHeap_3 6 rfl rfl)
theorem dX5_readsHeap_79 : decode cX5_readsHeap 79 = .ok (.ifCond .ne 13, 3) := dk_154 0 13 (dk_at dksX5_readsHeap_3 9 rfl rfl)
theorem dX5_readsHeap_82 : decode cX5_readsHeap 82 = .ok (.aload_n 0, 1) := dk_42 (dk_at dksX5_readsHeap_3 12 rfl rfl)
theorem dX5_readsHeap_83 : decode cX5_readsHeap 83 = .ok (.iload_n 1, 1) := dk_27 (dk_at dksX5_readsHeap_3 13 rfl rfl)
theorem dX5_readsHeap_84 : decode cX5_readsHeap 84 = .ok (.iconst 1, 1) := dk_4 (dk_at dksX5_readsHeap_3 14 rfl rfl)
theorem dX5_readsHeap_85 : decode cX5_readsHeap 85 = .ok (.invokevirtual 69, 3) := dk_182 0 69 (dk_at dksX5_readsHeap_3 15 rfl rfl)
theorem dX5_readsHeap_88 : decode cX5_readsHeap 88 = .ok (.iconst 5, 1) := dk_8 (dk_at dksX5_readsHeap_3 18 rfl rfl)
theorem dX5_readsHeap_89 : decode cX5_readsHeap 89 = .ok (.if_icmp .ge 7, 3) := dk_162 0 7 (dk_at dksX5_readsHeap_3 19 rfl rfl)
theorem dX5_readsHeap_92 : decode cX5_readsHeap 92 = .ok (.iconst 1, 1) := dk_4 (dk_at dksX5_readsHeap_3 22 rfl rfl)
theorem dX5_readsHeap_93 : decode cX5_readsHeap 93 = .ok (.goto 4, 3) := dk_167 0 4 (dk_at dksX5_readsHeap_4 0 rfl rfl)
theorem dX5_readsHeap_96 : decode cX5_readsHeap 96 = .ok (.iconst 0, 1) := dk_3 (dk_at dksX5_readsHeap_4 3 rfl rfl)
theorem dX5_readsHeap_97 : decode cX5_readsHeap 97 = .ok (.iconst 3, 1) := dk_6 (dk_at dksX5_readsHeap_4 4 rfl rfl)
theorem dX5_readsHeap_98 : decode cX5_readsHeap 98 = .ok (.invokevirtual 205, 3) := dk_182 0 205 (dk_at dksX5_readsHeap_4 5 rfl rfl)
theorem dX5_readsHeap_101 : decode cX5_readsHeap 101 = .ok (.ifCond .eq 8, 3) := dk_153 0 8 (dk_at dksX5_readsHeap_4 8 rfl rfl)
theorem dX5_readsHeap_104 : decode cX5_readsHeap 104 = .ok (.aload_n 0, 1) := dk_42 (dk_at dksX5_readsHeap_4 11 rfl rfl)
theorem dX5_readsHeap_105 : decode cX5_readsHeap 105 = .ok (.iload_n 2, 1) := dk_28 (dk_at dksX5_readsHeap_4 12 rfl rfl)
theorem dX5_readsHeap_106 : decode cX5_readsHeap 106 = .ok (.invokevirtual 53, 3) := dk_182 0 53 (dk_at dksX5_readsHeap_4 13 rfl rfl)
theorem dX5_readsHeap_109 : decode cX5_readsHeap 109 = .ok (.aload_n 0, 1) := dk_42 (dk_at dksX5_readsHeap_4 16 rfl rfl)
theorem dX5_readsHeap_110 : decode cX5_readsHeap 110 = .ok (.invokevirtual 208, 3) := dk_182 0 208 (dk_at dksX5_readsHeap_4 17 rfl rfl)
theorem dX5_readsHeap_113 : decode cX5_readsHeap 113 = .ok (.aload_n 0, 1) := dk_42 (dk_at dksX5_readsHeap_4 20 rfl rfl)
theorem dX5_readsHeap_114 : decode cX5_readsHeap 114 = .ok (.getfield 186, 3) := dk_180 0 186 (dk_at dksX5_readsHeap_4 21 rfl rfl)
theorem dX5_readsHeap_117 : decode cX5_readsHeap 117 = .ok (.ifCond .ne 11, 3) := dk_154 0 11 (dk_at dksX5_readsHeap_5 0 rfl rfl)
theorem dX5_readsHeap_120 : decode cX5_readsHeap 120 = .ok (.aload_n 0, 1) := dk_42 (dk_at dksX5_readsHeap_5 3 rfl rfl)
theorem dX5_readsHeap_121 : decode cX5_readsHeap 121 = .ok (.getfield 179, 3) := dk_180 0 179 (dk_at dksX5_readsHeap_5 4 rfl rfl)
theorem dX5_readsHeap_124 : decode cX5_readsHeap 124 = .ok (.iconst 2, 1) := dk_5 (dk_at dksX5_readsHeap_5 7 rfl rfl)
theorem dX5_readsHeap_125 : decode cX5_readsHeap 125 = .ok (.if_icmp .eq (-59), 3) := dk_159 255 197 (dk_at dksX5_readsHeap_5 8 rfl rfl)
theorem dX5_readsHeap_128 : decode cX5_readsHeap 128 = .ok (.aload_n 0, 1) := dk_42 (dk_at dksX5_readsHeap_5 11 rfl rfl)
theorem dX5_readsHeap_129 : decode cX5_readsHeap 129 = .ok (.invokevirtual 219, 3) := dk_182 0 219 (dk_at dksX5_readsHeap_5 12 rfl rfl)
theorem dX5_readsHeap_132 : decode cX5_readsHeap 132 = .ok (.return_, 1) := dk_177 (dk_at dksX5_readsHeap_5 15 rfl rfl)
abbrev cX5_copies : ByteArray := prog_14_method_7_code
def yX5_copies : MethodName := ⟨RX5, "copies", "(II)V"⟩
def dkwX5_copies_1 : List UInt8 := [17, 2, 33, 27, 104, 29, 96, 46, 79, 132, 3, 1, 167, 255, 222, 177]
abbrev dktX5_copies_1 : List UInt8 := dkwX5_copies_1 ++ []
def dkwX5_copies_0 : List UInt8 := [3, 62, 29, 17, 2, 33, 162, 0, 33, 42, 180, 0, 7, 17, 2, 33, 28, 104, 29, 96, 42, 180, 0, 7]
abbrev dktX5_copies_0 : List UInt8 := dkwX5_copies_0 ++ dktX5_copies_1
theorem dksX5_copies_0 : cX5_copies.data.toList.drop 0 = dktX5_copies_0 := by decide +kernel
theorem dksX5_copies_1 : cX5_copies.data.toList.drop 24 = dktX5_copies_1 := dk_seg dksX5_copies_0 24 rfl rfl
theorem dX5_copies_0 : decode cX5_copies 0 = .ok (.iconst 0, 1) := dk_3 (dk_at dksX5_copies_0 0 rfl rfl)
theorem dX5_copies_1 : decode cX5_copies 1 = .ok (.istore_n 3, 1) := dk_62 (dk_at dksX5_copies_0 1 rfl rfl)
theorem dX5_copies_2 : decode cX5_copies 2 = .ok (.iload_n 3, 1) := dk_29 (dk_at dksX5_copies_0 2 rfl rfl)
theorem dX5_copies_3 : decode cX5_copies 3 = .ok (.sipush 545, 3) := dk_17 2 33 (dk_at dksX5_copies_0 3 rfl rfl)
theorem dX5_copies_6 : decode cX5_copies 6 = .ok (.if_icmp .ge 33, 3) := dk_162 0 33 (dk_at dksX5_copies_0 6 rfl rfl)
theorem dX5_copies_9 : decode cX5_copies 9 = .ok (.aload_n 0, 1) := dk_42 (dk_at dksX5_copies_0 9 rfl rfl)
theorem dX5_copies_10 : decode cX5_copies 10 = .ok (.getfield 7, 3) := dk_180 0 7 (dk_at dksX5_copies_0 10 rfl rfl)
theorem dX5_copies_13 : decode cX5_copies 13 = .ok (.sipush 545, 3) := dk_17 2 33 (dk_at dksX5_copies_0 13 rfl rfl)
theorem dX5_copies_16 : decode cX5_copies 16 = .ok (.iload_n 2, 1) := dk_28 (dk_at dksX5_copies_0 16 rfl rfl)
theorem dX5_copies_17 : decode cX5_copies 17 = .ok (.imul, 1) := dk_104 (dk_at dksX5_copies_0 17 rfl rfl)
theorem dX5_copies_18 : decode cX5_copies 18 = .ok (.iload_n 3, 1) := dk_29 (dk_at dksX5_copies_0 18 rfl rfl)
theorem dX5_copies_19 : decode cX5_copies 19 = .ok (.iadd, 1) := dk_96 (dk_at dksX5_copies_0 19 rfl rfl)
theorem dX5_copies_20 : decode cX5_copies 20 = .ok (.aload_n 0, 1) := dk_42 (dk_at dksX5_copies_0 20 rfl rfl)
theorem dX5_copies_21 : decode cX5_copies 21 = .ok (.getfield 7, 3) := dk_180 0 7 (dk_at dksX5_copies_0 21 rfl rfl)
theorem dX5_copies_24 : decode cX5_copies 24 = .ok (.sipush 545, 3) := dk_17 2 33 (dk_at dksX5_copies_1 0 rfl rfl)
theorem dX5_copies_27 : decode cX5_copies 27 = .ok (.iload_n 1, 1) := dk_27 (dk_at dksX5_copies_1 3 rfl rfl)
theorem dX5_copies_28 : decode cX5_copies 28 = .ok (.imul, 1) := dk_104 (dk_at dksX5_copies_1 4 rfl rfl)
theorem dX5_copies_29 : decode cX5_copies 29 = .ok (.iload_n 3, 1) := dk_29 (dk_at dksX5_copies_1 5 rfl rfl)
theorem dX5_copies_30 : decode cX5_copies 30 = .ok (.iadd, 1) := dk_96 (dk_at dksX5_copies_1 6 rfl rfl)
theorem dX5_copies_31 : decode cX5_copies 31 = .ok (.iaload, 1) := dk_46 (dk_at dksX5_copies_1 7 rfl rfl)
theorem dX5_copies_32 : decode cX5_copies 32 = .ok (.iastore, 1) := dk_79 (dk_at dksX5_copies_1 8 rfl rfl)
theorem dX5_copies_33 : decode cX5_copies 33 = .ok (.iinc 3 1, 3) := dk_132 3 1 (dk_at dksX5_copies_1 9 rfl rfl)
theorem dX5_copies_36 : decode cX5_copies 36 = .ok (.goto (-34), 3) := dk_167 255 222 (dk_at dksX5_copies_1 12 rfl rfl)
theorem dX5_copies_39 : decode cX5_copies 39 = .ok (.return_, 1) := dk_177 (dk_at dksX5_copies_1 15 rfl rfl)
abbrev cX5_play : ByteArray := prog_14_method_70_code
def yX5_play : MethodName := ⟨RX5, "play", "()I"⟩
def dkwX5_play_4 : List UInt8 := [184, 0, 101, 96, 60, 132, 3, 1, 167, 255, 211, 42, 3, 181, 0, 56, 27, 172]
abbrev dktX5_play_4 : List UInt8 := dkwX5_play_4 ++ []
def dkwX5_play_3 : List UInt8 := [8, 29, 104, 182, 1, 36, 155, 0, 14, 42, 180, 0, 56, 154, 0, 7, 4, 167, 0, 4, 3, 61, 27, 28]
abbrev dktX5_play_3 : List UInt8 := dkwX5_play_3 ++ dktX5_play_4
def dkwX5_play_2 : List UInt8 := [153, 0, 5, 2, 172, 3, 60, 4, 61, 3, 62, 29, 42, 180, 1, 9, 162, 0, 43, 28, 153, 0, 39, 42]
abbrev dktX5_play_2 : List UInt8 := dkwX5_play_2 ++ dktX5_play_3
def dkwX5_play_1 : List UInt8 := [180, 0, 179, 153, 0, 10, 42, 182, 1, 33, 167, 255, 238, 42, 3, 181, 0, 158, 42, 180, 0, 186]
abbrev dktX5_play_1 : List UInt8 := dkwX5_play_1 ++ dktX5_play_2
def dkwX5_play_0 : List UInt8 := [42, 3, 181, 0, 56, 42, 182, 0, 222, 42, 3, 181, 1, 9, 42, 180, 0, 186, 154, 0, 17, 42]
abbrev dktX5_play_0 : List UInt8 := dkwX5_play_0 ++ dktX5_play_1
theorem dksX5_play_0 : cX5_play.data.toList.drop 0 = dktX5_play_0 := by decide +kernel
theorem dksX5_play_1 : cX5_play.data.toList.drop 22 = dktX5_play_1 := dk_seg dksX5_play_0 22 rfl rfl
theorem dksX5_play_2 : cX5_play.data.toList.drop 44 = dktX5_play_2 := dk_seg dksX5_play_1 22 rfl rfl
theorem dksX5_play_3 : cX5_play.data.toList.drop 68 = dktX5_play_3 := dk_seg dksX5_play_2 24 rfl rfl
theorem dksX5_play_4 : cX5_play.data.toList.drop 92 = dktX5_play_4 := dk_seg dksX5_play_3 24 rfl rfl
theorem dX5_play_0 : decode cX5_play 0 = .ok (.aload_n 0, 1) := dk_42 (dk_at dksX5_play_0 0 rfl rfl)
theorem dX5_play_1 : decode cX5_play 1 = .ok (.iconst 0, 1) := dk_3 (dk_at dksX5_play_0 1 rfl rfl)
theorem dX5_play_2 : decode cX5_play 2 = .ok (.putfield 56, 3) := dk_181 0 56 (dk_at dksX5_play_0 2 rfl rfl)
theorem dX5_play_5 : decode cX5_play 5 = .ok (.aload_n 0, 1) := dk_42 (dk_at dksX5_play_0 5 rfl rfl)
theorem dX5_play_6 : decode cX5_play 6 = .ok (.invokevirtual 222, 3) := dk_182 0 222 (dk_at dksX5_play_0 6 rfl rfl)
theorem dX5_play_9 : decode cX5_play 9 = .ok (.aload_n 0, 1) := dk_42 (dk_at dksX5_play_0 9 rfl rfl)
theorem dX5_play_10 : decode cX5_play 10 = .ok (.iconst 0, 1) := dk_3 (dk_at dksX5_play_0 10 rfl rfl)
theorem dX5_play_11 : decode cX5_play 11 = .ok (.putfield 265, 3) := dk_181 1 9 (dk_at dksX5_play_0 11 rfl rfl)
theorem dX5_play_14 : decode cX5_play 14 = .ok (.aload_n 0, 1) := dk_42 (dk_at dksX5_play_0 14 rfl rfl)
theorem dX5_play_15 : decode cX5_play 15 = .ok (.getfield 186, 3) := dk_180 0 186 (dk_at dksX5_play_0 15 rfl rfl)
theorem dX5_play_18 : decode cX5_play 18 = .ok (.ifCond .ne 17, 3) := dk_154 0 17 (dk_at dksX5_play_0 18 rfl rfl)
theorem dX5_play_21 : decode cX5_play 21 = .ok (.aload_n 0, 1) := dk_42 (dk_at dksX5_play_0 21 rfl rfl)
theorem dX5_play_22 : decode cX5_play 22 = .ok (.getfield 179, 3) := dk_180 0 179 (dk_at dksX5_play_1 0 rfl rfl)
theorem dX5_play_25 : decode cX5_play 25 = .ok (.ifCond .eq 10, 3) := dk_153 0 10 (dk_at dksX5_play_1 3 rfl rfl)
theorem dX5_play_28 : decode cX5_play 28 = .ok (.aload_n 0, 1) := dk_42 (dk_at dksX5_play_1 6 rfl rfl)
theorem dX5_play_29 : decode cX5_play 29 = .ok (.invokevirtual 289, 3) := dk_182 1 33 (dk_at dksX5_play_1 7 rfl rfl)
theorem dX5_play_32 : decode cX5_play 32 = .ok (.goto (-18), 3) := dk_167 255 238 (dk_at dksX5_play_1 10 rfl rfl)
theorem dX5_play_35 : decode cX5_play 35 = .ok (.aload_n 0, 1) := dk_42 (dk_at dksX5_play_1 13 rfl rfl)
theorem dX5_play_36 : decode cX5_play 36 = .ok (.iconst 0, 1) := dk_3 (dk_at dksX5_play_1 14 rfl rfl)
theorem dX5_play_37 : decode cX5_play 37 = .ok (.putfield 158, 3) := dk_181 0 158 (dk_at dksX5_play_1 15 rfl rfl)
theorem dX5_play_40 : decode cX5_play 40 = .ok (.aload_n 0, 1) := dk_42 (dk_at dksX5_play_1 18 rfl rfl)
theorem dX5_play_41 : decode cX5_play 41 = .ok (.getfield 186, 3) := dk_180 0 186 (dk_at dksX5_play_1 19 rfl rfl)
theorem dX5_play_44 : decode cX5_play 44 = .ok (.ifCond .eq 5, 3) := dk_153 0 5 (dk_at dksX5_play_2 0 rfl rfl)
theorem dX5_play_47 : decode cX5_play 47 = .ok (.iconst (-1), 1) := dk_2 (dk_at dksX5_play_2 3 rfl rfl)
theorem dX5_play_48 : decode cX5_play 48 = .ok (.ireturn, 1) := dk_172 (dk_at dksX5_play_2 4 rfl rfl)
theorem dX5_play_49 : decode cX5_play 49 = .ok (.iconst 0, 1) := dk_3 (dk_at dksX5_play_2 5 rfl rfl)
theorem dX5_play_50 : decode cX5_play 50 = .ok (.istore_n 1, 1) := dk_60 (dk_at dksX5_play_2 6 rfl rfl)
theorem dX5_play_51 : decode cX5_play 51 = .ok (.iconst 1, 1) := dk_4 (dk_at dksX5_play_2 7 rfl rfl)
theorem dX5_play_52 : decode cX5_play 52 = .ok (.istore_n 2, 1) := dk_61 (dk_at dksX5_play_2 8 rfl rfl)
theorem dX5_play_53 : decode cX5_play 53 = .ok (.iconst 0, 1) := dk_3 (dk_at dksX5_play_2 9 rfl rfl)
theorem dX5_play_54 : decode cX5_play 54 = .ok (.istore_n 3, 1) := dk_62 (dk_at dksX5_play_2 10 rfl rfl)
theorem dX5_play_55 : decode cX5_play 55 = .ok (.iload_n 3, 1) := dk_29 (dk_at dksX5_play_2 11 rfl rfl)
theorem dX5_play_56 : decode cX5_play 56 = .ok (.aload_n 0, 1) := dk_42 (dk_at dksX5_play_2 12 rfl rfl)
theorem dX5_play_57 : decode cX5_play 57 = .ok (.getfield 265, 3) := dk_180 1 9 (dk_at dksX5_play_2 13 rfl rfl)
theorem dX5_play_60 : decode cX5_play 60 = .ok (.if_icmp .ge 43, 3) := dk_162 0 43 (dk_at dksX5_play_2 16 rfl rfl)
theorem dX5_play_63 : decode cX5_play 63 = .ok (.iload_n 2, 1) := dk_28 (dk_at dksX5_play_2 19 rfl rfl)
theorem dX5_play_64 : decode cX5_play 64 = .ok (.ifCond .eq 39, 3) := dk_153 0 39 (dk_at dksX5_play_2 20 rfl rfl)
theorem dX5_play_67 : decode cX5_play 67 = .ok (.aload_n 0, 1) := dk_42 (dk_at dksX5_play_2 23 rfl rfl)
theorem dX5_play_68 : decode cX5_play 68 = .ok (.iconst 5, 1) := dk_8 (dk_at dksX5_play_3 0 rfl rfl)
theorem dX5_play_69 : decode cX5_play 69 = .ok (.iload_n 3, 1) := dk_29 (dk_at dksX5_play_3 1 rfl rfl)
theorem dX5_play_70 : decode cX5_play 70 = .ok (.imul, 1) := dk_104 (dk_at dksX5_play_3 2 rfl rfl)
theorem dX5_play_71 : decode cX5_play 71 = .ok (.invokevirtual 292, 3) := dk_182 1 36 (dk_at dksX5_play_3 3 rfl rfl)
theorem dX5_play_74 : decode cX5_play 74 = .ok (.ifCond .lt 14, 3) := dk_155 0 14 (dk_at dksX5_play_3 6 rfl rfl)
theorem dX5_play_77 : decode cX5_play 77 = .ok (.aload_n 0, 1) := dk_42 (dk_at dksX5_play_3 9 rfl rfl)
theorem dX5_play_78 : decode cX5_play 78 = .ok (.getfield 56, 3) := dk_180 0 56 (dk_at dksX5_play_3 10 rfl rfl)
theorem dX5_play_81 : decode cX5_play 81 = .ok (.ifCond .ne 7, 3) := dk_154 0 7 (dk_at dksX5_play_3 13 rfl rfl)
theorem dX5_play_84 : decode cX5_play 84 = .ok (.iconst 1, 1) := dk_4 (dk_at dksX5_play_3 16 rfl rfl)
theorem dX5_play_85 : decode cX5_play 85 = .ok (.goto 4, 3) := dk_167 0 4 (dk_at dksX5_play_3 17 rfl rfl)
theorem dX5_play_88 : decode cX5_play 88 = .ok (.iconst 0, 1) := dk_3 (dk_at dksX5_play_3 20 rfl rfl)
theorem dX5_play_89 : decode cX5_play 89 = .ok (.istore_n 2, 1) := dk_61 (dk_at dksX5_play_3 21 rfl rfl)
theorem dX5_play_90 : decode cX5_play 90 = .ok (.iload_n 1, 1) := dk_27 (dk_at dksX5_play_3 22 rfl rfl)
theorem dX5_play_91 : decode cX5_play 91 = .ok (.iload_n 2, 1) := dk_28 (dk_at dksX5_play_3 23 rfl rfl)
theorem dX5_play_92 : decode cX5_play 92 = .ok (.invokestatic 101, 3) := dk_184 0 101 (dk_at dksX5_play_4 0 rfl rfl)
theorem dX5_play_95 : decode cX5_play 95 = .ok (.iadd, 1) := dk_96 (dk_at dksX5_play_4 3 rfl rfl)
theorem dX5_play_96 : decode cX5_play 96 = .ok (.istore_n 1, 1) := dk_60 (dk_at dksX5_play_4 4 rfl rfl)
theorem dX5_play_97 : decode cX5_play 97 = .ok (.iinc 3 1, 3) := dk_132 3 1 (dk_at dksX5_play_4 5 rfl rfl)
theorem dX5_play_100 : decode cX5_play 100 = .ok (.goto (-45), 3) := dk_167 255 211 (dk_at dksX5_play_4 8 rfl rfl)
theorem dX5_play_103 : decode cX5_play 103 = .ok (.aload_n 0, 1) := dk_42 (dk_at dksX5_play_4 11 rfl rfl)
theorem dX5_play_104 : decode cX5_play 104 = .ok (.iconst 0, 1) := dk_3 (dk_at dksX5_play_4 12 rfl rfl)
theorem dX5_play_105 : decode cX5_play 105 = .ok (.putfield 56, 3) := dk_181 0 56 (dk_at dksX5_play_4 13 rfl rfl)
theorem dX5_play_108 : decode cX5_play 108 = .ok (.iload_n 1, 1) := dk_27 (dk_at dksX5_play_4 16 rfl rfl)
theorem dX5_play_109 : decode cX5_play 109 = .ok (.ireturn, 1) := dk_172 (dk_at dksX5_play_4 17 rfl rfl)
abbrev cX5_readsCommand : ByteArray := prog_14_method_68_code
def yX5_readsCommand : MethodName := ⟨RX5, "readsCommand", "()V"⟩
def dkwX5_readsCommand_3 : List UInt8 := [182, 1, 12, 42, 182, 0, 219, 42, 89, 180, 1, 9, 4, 96, 181, 1, 9, 177]
abbrev dktX5_readsCommand_3 : List UInt8 := dkwX5_readsCommand_3 ++ []
def dkwX5_readsCommand_2 : List UInt8 := [182, 0, 208, 42, 180, 0, 33, 8, 42, 180, 1, 9, 104, 27, 79, 42, 8, 42, 180, 1, 9, 104, 27]
abbrev dktX5_readsCommand_2 : List UInt8 := dkwX5_readsCommand_2 ++ dktX5_readsCommand_3
def dkwX5_readsCommand_1 : List UInt8 := [42, 180, 1, 9, 16, 25, 162, 0, 7, 4, 167, 0, 4, 3, 7, 182, 0, 205, 154, 0, 4, 177, 42]
abbrev dktX5_readsCommand_1 : List UInt8 := dkwX5_readsCommand_1 ++ dktX5_readsCommand_2
def dkwX5_readsCommand_0 : List UInt8 := [42, 182, 1, 6, 60, 42, 27, 2, 159, 0, 7, 4, 167, 0, 4, 3, 4, 182, 0, 205, 153, 0, 25, 42]
abbrev dktX5_readsCommand_0 : List UInt8 := dkwX5_readsCommand_0 ++ dktX5_readsCommand_1
theorem dksX5_readsCommand_0 : cX5_readsCommand.data.toList.drop 0 = dktX5_readsCommand_0 := by decide +kernel
theorem dksX5_readsCommand_1 : cX5_readsCommand.data.toList.drop 24 = dktX5_readsCommand_1 := dk_seg dksX5_readsCommand_0 24 rfl rfl
theorem dksX5_readsCommand_2 : cX5_readsCommand.data.toList.drop 47 = dktX5_readsCommand_2 := dk_seg dksX5_readsCommand_1 23 rfl rfl
theorem dksX5_readsCommand_3 : cX5_readsCommand.data.toList.drop 70 = dktX5_readsCommand_3 := dk_seg dksX5_readsCommand_2 23 rfl rfl
theorem dX5_readsCommand_0 : decode cX5_readsCommand 0 = .ok (.aload_n 0, 1) := dk_42 (dk_at dksX5_readsCommand_0 0 rfl rfl)
theorem dX5_readsCommand_1 : decode cX5_readsCommand 1 = .ok (.invokevirtual 262, 3) := dk_182 1 6 (dk_at dksX5_readsCommand_0 1 rfl rfl)
theorem dX5_readsCommand_4 : decode cX5_readsCommand 4 = .ok (.istore_n 1, 1) := dk_60 (dk_at dksX5_readsCommand_0 4 rfl rfl)
theorem dX5_readsCommand_5 : decode cX5_readsCommand 5 = .ok (.aload_n 0, 1) := dk_42 (dk_at dksX5_readsCommand_0 5 rfl rfl)
theorem dX5_readsCommand_6 : decode cX5_readsCommand 6 = .ok (.iload_n 1, 1) := dk_27 (dk_at dksX5_readsCommand_0 6 rfl rfl)
theorem dX5_readsCommand_7 : decode cX5_readsCommand 7 = .ok (.iconst (-1), 1) := dk_2 (dk_at dksX5_readsCommand_0 7 rfl rfl)
theorem dX5_readsCommand_8 : decode cX5_readsCommand 8 = .ok (.if_icmp .eq 7, 3) := dk_159 0 7 (dk_at dksX5_readsCommand_0 8 rfl rfl)
theorem dX5_readsCommand_11 : decode cX5_readsCommand 11 = .ok (.iconst 1, 1) := dk_4 (dk_at dksX5_readsCommand_0 11 rfl rfl)
theorem dX5_readsCommand_12 : decode cX5_readsCommand 12 = .ok (.goto 4, 3) := dk_167 0 4 (dk_at dksX5_readsCommand_0 12 rfl rfl)
theorem dX5_readsCommand_15 : decode cX5_readsCommand 15 = .ok (.iconst 0, 1) := dk_3 (dk_at dksX5_readsCommand_0 15 rfl rfl)
theorem dX5_readsCommand_16 : decode cX5_readsCommand 16 = .ok (.iconst 1, 1) := dk_4 (dk_at dksX5_readsCommand_0 16 rfl rfl)
theorem dX5_readsCommand_17 : decode cX5_readsCommand 17 = .ok (.invokevirtual 205, 3) := dk_182 0 205 (dk_at dksX5_readsCommand_0 17 rfl rfl)
theorem dX5_readsCommand_20 : decode cX5_readsCommand 20 = .ok (.ifCond .eq 25, 3) := dk_153 0 25 (dk_at dksX5_readsCommand_0 20 rfl rfl)
theorem dX5_readsCommand_23 : decode cX5_readsCommand 23 = .ok (.aload_n 0, 1) := dk_42 (dk_at dksX5_readsCommand_0 23 rfl rfl)
theorem dX5_readsCommand_24 : decode cX5_readsCommand 24 = .ok (.aload_n 0, 1) := dk_42 (dk_at dksX5_readsCommand_1 0 rfl rfl)
theorem dX5_readsCommand_25 : decode cX5_readsCommand 25 = .ok (.getfield 265, 3) := dk_180 1 9 (dk_at dksX5_readsCommand_1 1 rfl rfl)
theorem dX5_readsCommand_28 : decode cX5_readsCommand 28 = .ok (.bipush 25, 2) := dk_16 25 (dk_at dksX5_readsCommand_1 4 rfl rfl)
theorem dX5_readsCommand_30 : decode cX5_readsCommand 30 = .ok (.if_icmp .ge 7, 3) := dk_162 0 7 (dk_at dksX5_readsCommand_1 6 rfl rfl)
theorem dX5_readsCommand_33 : decode cX5_readsCommand 33 = .ok (.iconst 1, 1) := dk_4 (dk_at dksX5_readsCommand_1 9 rfl rfl)
theorem dX5_readsCommand_34 : decode cX5_readsCommand 34 = .ok (.goto 4, 3) := dk_167 0 4 (dk_at dksX5_readsCommand_1 10 rfl rfl)
theorem dX5_readsCommand_37 : decode cX5_readsCommand 37 = .ok (.iconst 0, 1) := dk_3 (dk_at dksX5_readsCommand_1 13 rfl rfl)
theorem dX5_readsCommand_38 : decode cX5_readsCommand 38 = .ok (.iconst 4, 1) := dk_7 (dk_at dksX5_readsCommand_1 14 rfl rfl)
theorem dX5_readsCommand_39 : decode cX5_readsCommand 39 = .ok (.invokevirtual 205, 3) := dk_182 0 205 (dk_at dksX5_readsCommand_1 15 rfl rfl)
theorem dX5_readsCommand_42 : decode cX5_readsCommand 42 = .ok (.ifCond .ne 4, 3) := dk_154 0 4 (dk_at dksX5_readsCommand_1 18 rfl rfl)
theorem dX5_readsCommand_45 : decode cX5_readsCommand 45 = .ok (.return_, 1) := dk_177 (dk_at dksX5_readsCommand_1 21 rfl rfl)
theorem dX5_readsCommand_46 : decode cX5_readsCommand 46 = .ok (.aload_n 0, 1) := dk_42 (dk_at dksX5_readsCommand_1 22 rfl rfl)
theorem dX5_readsCommand_47 : decode cX5_readsCommand 47 = .ok (.invokevirtual 208, 3) := dk_182 0 208 (dk_at dksX5_readsCommand_2 0 rfl rfl)
theorem dX5_readsCommand_50 : decode cX5_readsCommand 50 = .ok (.aload_n 0, 1) := dk_42 (dk_at dksX5_readsCommand_2 3 rfl rfl)
theorem dX5_readsCommand_51 : decode cX5_readsCommand 51 = .ok (.getfield 33, 3) := dk_180 0 33 (dk_at dksX5_readsCommand_2 4 rfl rfl)
theorem dX5_readsCommand_54 : decode cX5_readsCommand 54 = .ok (.iconst 5, 1) := dk_8 (dk_at dksX5_readsCommand_2 7 rfl rfl)
theorem dX5_readsCommand_55 : decode cX5_readsCommand 55 = .ok (.aload_n 0, 1) := dk_42 (dk_at dksX5_readsCommand_2 8 rfl rfl)
theorem dX5_readsCommand_56 : decode cX5_readsCommand 56 = .ok (.getfield 265, 3) := dk_180 1 9 (dk_at dksX5_readsCommand_2 9 rfl rfl)
theorem dX5_readsCommand_59 : decode cX5_readsCommand 59 = .ok (.imul, 1) := dk_104 (dk_at dksX5_readsCommand_2 12 rfl rfl)
theorem dX5_readsCommand_60 : decode cX5_readsCommand 60 = .ok (.iload_n 1, 1) := dk_27 (dk_at dksX5_readsCommand_2 13 rfl rfl)
theorem dX5_readsCommand_61 : decode cX5_readsCommand 61 = .ok (.iastore, 1) := dk_79 (dk_at dksX5_readsCommand_2 14 rfl rfl)
theorem dX5_readsCommand_62 : decode cX5_readsCommand 62 = .ok (.aload_n 0, 1) := dk_42 (dk_at dksX5_readsCommand_2 15 rfl rfl)
theorem dX5_readsCommand_63 : decode cX5_readsCommand 63 = .ok (.iconst 5, 1) := dk_8 (dk_at dksX5_readsCommand_2 16 rfl rfl)
theorem dX5_readsCommand_64 : decode cX5_readsCommand 64 = .ok (.aload_n 0, 1) := dk_42 (dk_at dksX5_readsCommand_2 17 rfl rfl)
theorem dX5_readsCommand_65 : decode cX5_readsCommand 65 = .ok (.getfield 265, 3) := dk_180 1 9 (dk_at dksX5_readsCommand_2 18 rfl rfl)
theorem dX5_readsCommand_68 : decode cX5_readsCommand 68 = .ok (.imul, 1) := dk_104 (dk_at dksX5_readsCommand_2 21 rfl rfl)
theorem dX5_readsCommand_69 : decode cX5_readsCommand 69 = .ok (.iload_n 1, 1) := dk_27 (dk_at dksX5_readsCommand_2 22 rfl rfl)
theorem dX5_readsCommand_70 : decode cX5_readsCommand 70 = .ok (.invokevirtual 268, 3) := dk_182 1 12 (dk_at dksX5_readsCommand_3 0 rfl rfl)
theorem dX5_readsCommand_73 : decode cX5_readsCommand 73 = .ok (.aload_n 0, 1) := dk_42 (dk_at dksX5_readsCommand_3 3 rfl rfl)
theorem dX5_readsCommand_74 : decode cX5_readsCommand 74 = .ok (.invokevirtual 219, 3) := dk_182 0 219 (dk_at dksX5_readsCommand_3 4 rfl rfl)
theorem dX5_readsCommand_77 : decode cX5_readsCommand 77 = .ok (.aload_n 0, 1) := dk_42 (dk_at dksX5_readsCommand_3 7 rfl rfl)
theorem dX5_readsCommand_78 : decode cX5_readsCommand 78 = .ok (.dup, 1) := dk_89 (dk_at dksX5_readsCommand_3 8 rfl rfl)
theorem dX5_readsCommand_79 : decode cX5_readsCommand 79 = .ok (.getfield 265, 3) := dk_180 1 9 (dk_at dksX5_readsCommand_3 9 rfl rfl)
theorem dX5_readsCommand_82 : decode cX5_readsCommand 82 = .ok (.iconst 1, 1) := dk_4 (dk_at dksX5_readsCommand_3 12 rfl rfl)
theorem dX5_readsCommand_83 : decode cX5_readsCommand 83 = .ok (.iadd, 1) := dk_96 (dk_at dksX5_readsCommand_3 13 rfl rfl)
theorem dX5_readsCommand_84 : decode cX5_readsCommand 84 = .ok (.putfield 265, 3) := dk_181 1 9 (dk_at dksX5_readsCommand_3 14 rfl rfl)
theorem dX5_readsCommand_87 : decode cX5_readsCommand 87 = .ok (.return_, 1) := dk_177 (dk_at dksX5_readsCommand_3 17 rfl rfl)
abbrev cX5_commandHere : ByteArray := prog_14_method_65_code
def yX5_commandHere : MethodName := ⟨RX5, "commandHere", "()I"⟩
def dkwX5_commandHere_4 : List UInt8 := [172]
abbrev dktX5_commandHere_4 : List UInt8 := dkwX5_commandHere_4 ++ []
def dkwX5_commandHere_3 : List UInt8 := [182, 0, 201, 153, 0, 6, 16, 6, 172, 42, 18, 251, 182, 0, 201, 153, 0, 8, 16, 7, 167, 0, 4, 2]
abbrev dktX5_commandHere_3 : List UInt8 := dkwX5_commandHere_3 ++ dktX5_commandHere_4
def dkwX5_commandHere_2 : List UInt8 := [182, 0, 201, 153, 0, 5, 7, 172, 42, 18, 247, 182, 0, 201, 153, 0, 5, 8, 172, 42, 18, 249]
abbrev dktX5_commandHere_2 : List UInt8 := dkwX5_commandHere_2 ++ dktX5_commandHere_3
def dkwX5_commandHere_1 : List UInt8 := [18, 241, 182, 0, 201, 153, 0, 5, 5, 172, 42, 18, 243, 182, 0, 201, 153, 0, 5, 6, 172, 42, 18, 245]
abbrev dktX5_commandHere_1 : List UInt8 := dkwX5_commandHere_1 ++ dktX5_commandHere_2
def dkwX5_commandHere_0 : List UInt8 := [42, 18, 237, 182, 0, 201, 153, 0, 5, 3, 172, 42, 18, 239, 182, 0, 201, 153, 0, 5, 4, 172, 42]
abbrev dktX5_commandHere_0 : List UInt8 := dkwX5_commandHere_0 ++ dktX5_commandHere_1
theorem dksX5_commandHere_0 : cX5_commandHere.data.toList.drop 0 = dktX5_commandHere_0 := by decide +kernel
theorem dksX5_commandHere_1 : cX5_commandHere.data.toList.drop 23 = dktX5_commandHere_1 := dk_seg dksX5_commandHere_0 23 rfl rfl
theorem dksX5_commandHere_2 : cX5_commandHere.data.toList.drop 47 = dktX5_commandHere_2 := dk_seg dksX5_commandHere_1 24 rfl rfl
theorem dksX5_commandHere_3 : cX5_commandHere.data.toList.drop 69 = dktX5_commandHere_3 := dk_seg dksX5_commandHere_2 22 rfl rfl
theorem dksX5_commandHere_4 : cX5_commandHere.data.toList.drop 93 = dktX5_commandHere_4 := dk_seg dksX5_commandHere_3 24 rfl rfl
theorem dX5_commandHere_0 : decode cX5_commandHere 0 = .ok (.aload_n 0, 1) := dk_42 (dk_at dksX5_commandHere_0 0 rfl rfl)
theorem dX5_commandHere_1 : decode cX5_commandHere 1 = .ok (.ldc 237, 2) := dk_18 237 (dk_at dksX5_commandHere_0 1 rfl rfl)
theorem dX5_commandHere_3 : decode cX5_commandHere 3 = .ok (.invokevirtual 201, 3) := dk_182 0 201 (dk_at dksX5_commandHere_0 3 rfl rfl)
theorem dX5_commandHere_6 : decode cX5_commandHere 6 = .ok (.ifCond .eq 5, 3) := dk_153 0 5 (dk_at dksX5_commandHere_0 6 rfl rfl)
theorem dX5_commandHere_9 : decode cX5_commandHere 9 = .ok (.iconst 0, 1) := dk_3 (dk_at dksX5_commandHere_0 9 rfl rfl)
theorem dX5_commandHere_10 : decode cX5_commandHere 10 = .ok (.ireturn, 1) := dk_172 (dk_at dksX5_commandHere_0 10 rfl rfl)
theorem dX5_commandHere_11 : decode cX5_commandHere 11 = .ok (.aload_n 0, 1) := dk_42 (dk_at dksX5_commandHere_0 11 rfl rfl)
theorem dX5_commandHere_12 : decode cX5_commandHere 12 = .ok (.ldc 239, 2) := dk_18 239 (dk_at dksX5_commandHere_0 12 rfl rfl)
theorem dX5_commandHere_14 : decode cX5_commandHere 14 = .ok (.invokevirtual 201, 3) := dk_182 0 201 (dk_at dksX5_commandHere_0 14 rfl rfl)
theorem dX5_commandHere_17 : decode cX5_commandHere 17 = .ok (.ifCond .eq 5, 3) := dk_153 0 5 (dk_at dksX5_commandHere_0 17 rfl rfl)
theorem dX5_commandHere_20 : decode cX5_commandHere 20 = .ok (.iconst 1, 1) := dk_4 (dk_at dksX5_commandHere_0 20 rfl rfl)
theorem dX5_commandHere_21 : decode cX5_commandHere 21 = .ok (.ireturn, 1) := dk_172 (dk_at dksX5_commandHere_0 21 rfl rfl)
theorem dX5_commandHere_22 : decode cX5_commandHere 22 = .ok (.aload_n 0, 1) := dk_42 (dk_at dksX5_commandHere_0 22 rfl rfl)
theorem dX5_commandHere_23 : decode cX5_commandHere 23 = .ok (.ldc 241, 2) := dk_18 241 (dk_at dksX5_commandHere_1 0 rfl rfl)
theorem dX5_commandHere_25 : decode cX5_commandHere 25 = .ok (.invokevirtual 201, 3) := dk_182 0 201 (dk_at dksX5_commandHere_1 2 rfl rfl)
theorem dX5_commandHere_28 : decode cX5_commandHere 28 = .ok (.ifCond .eq 5, 3) := dk_153 0 5 (dk_at dksX5_commandHere_1 5 rfl rfl)
theorem dX5_commandHere_31 : decode cX5_commandHere 31 = .ok (.iconst 2, 1) := dk_5 (dk_at dksX5_commandHere_1 8 rfl rfl)
theorem dX5_commandHere_32 : decode cX5_commandHere 32 = .ok (.ireturn, 1) := dk_172 (dk_at dksX5_commandHere_1 9 rfl rfl)
theorem dX5_commandHere_33 : decode cX5_commandHere 33 = .ok (.aload_n 0, 1) := dk_42 (dk_at dksX5_commandHere_1 10 rfl rfl)
theorem dX5_commandHere_34 : decode cX5_commandHere 34 = .ok (.ldc 243, 2) := dk_18 243 (dk_at dksX5_commandHere_1 11 rfl rfl)
theorem dX5_commandHere_36 : decode cX5_commandHere 36 = .ok (.invokevirtual 201, 3) := dk_182 0 201 (dk_at dksX5_commandHere_1 13 rfl rfl)
theorem dX5_commandHere_39 : decode cX5_commandHere 39 = .ok (.ifCond .eq 5, 3) := dk_153 0 5 (dk_at dksX5_commandHere_1 16 rfl rfl)
theorem dX5_commandHere_42 : decode cX5_commandHere 42 = .ok (.iconst 3, 1) := dk_6 (dk_at dksX5_commandHere_1 19 rfl rfl)
theorem dX5_commandHere_43 : decode cX5_commandHere 43 = .ok (.ireturn, 1) := dk_172 (dk_at dksX5_commandHere_1 20 rfl rfl)
theorem dX5_commandHere_44 : decode cX5_commandHere 44 = .ok (.aload_n 0, 1) := dk_42 (dk_at dksX5_commandHere_1 21 rfl rfl)
theorem dX5_commandHere_45 : decode cX5_commandHere 45 = .ok (.ldc 245, 2) := dk_18 245 (dk_at dksX5_commandHere_1 22 rfl rfl)
theorem dX5_commandHere_47 : decode cX5_commandHere 47 = .ok (.invokevirtual 201, 3) := dk_182 0 201 (dk_at dksX5_commandHere_2 0 rfl rfl)
theorem dX5_commandHere_50 : decode cX5_commandHere 50 = .ok (.ifCond .eq 5, 3) := dk_153 0 5 (dk_at dksX5_commandHere_2 3 rfl rfl)
theorem dX5_commandHere_53 : decode cX5_commandHere 53 = .ok (.iconst 4, 1) := dk_7 (dk_at dksX5_commandHere_2 6 rfl rfl)
theorem dX5_commandHere_54 : decode cX5_commandHere 54 = .ok (.ireturn, 1) := dk_172 (dk_at dksX5_commandHere_2 7 rfl rfl)
theorem dX5_commandHere_55 : decode cX5_commandHere 55 = .ok (.aload_n 0, 1) := dk_42 (dk_at dksX5_commandHere_2 8 rfl rfl)
theorem dX5_commandHere_56 : decode cX5_commandHere 56 = .ok (.ldc 247, 2) := dk_18 247 (dk_at dksX5_commandHere_2 9 rfl rfl)
theorem dX5_commandHere_58 : decode cX5_commandHere 58 = .ok (.invokevirtual 201, 3) := dk_182 0 201 (dk_at dksX5_commandHere_2 11 rfl rfl)
theorem dX5_commandHere_61 : decode cX5_commandHere 61 = .ok (.ifCond .eq 5, 3) := dk_153 0 5 (dk_at dksX5_commandHere_2 14 rfl rfl)
theorem dX5_commandHere_64 : decode cX5_commandHere 64 = .ok (.iconst 5, 1) := dk_8 (dk_at dksX5_commandHere_2 17 rfl rfl)
theorem dX5_commandHere_65 : decode cX5_commandHere 65 = .ok (.ireturn, 1) := dk_172 (dk_at dksX5_commandHere_2 18 rfl rfl)
theorem dX5_commandHere_66 : decode cX5_commandHere 66 = .ok (.aload_n 0, 1) := dk_42 (dk_at dksX5_commandHere_2 19 rfl rfl)
theorem dX5_commandHere_67 : decode cX5_commandHere 67 = .ok (.ldc 249, 2) := dk_18 249 (dk_at dksX5_commandHere_2 20 rfl rfl)
theorem dX5_commandHere_69 : decode cX5_commandHere 69 = .ok (.invokevirtual 201, 3) := dk_182 0 201 (dk_at dksX5_commandHere_3 0 rfl rfl)
theorem dX5_commandHere_72 : decode cX5_commandHere 72 = .ok (.ifCond .eq 6, 3) := dk_153 0 6 (dk_at dksX5_commandHere_3 3 rfl rfl)
theorem dX5_commandHere_75 : decode cX5_commandHere 75 = .ok (.bipush 6, 2) := dk_16 6 (dk_at dksX5_commandHere_3 6 rfl rfl)
theorem dX5_commandHere_77 : decode cX5_commandHere 77 = .ok (.ireturn, 1) := dk_172 (dk_at dksX5_commandHere_3 8 rfl rfl)
theorem dX5_commandHere_78 : decode cX5_commandHere 78 = .ok (.aload_n 0, 1) := dk_42 (dk_at dksX5_commandHere_3 9 rfl rfl)
theorem dX5_commandHere_79 : decode cX5_commandHere 79 = .ok (.ldc 251, 2) := dk_18 251 (dk_at dksX5_commandHere_3 10 rfl rfl)
theorem dX5_commandHere_81 : decode cX5_commandHere 81 = .ok (.invokevirtual 201, 3) := dk_182 0 201 (dk_at dksX5_commandHere_3 12 rfl rfl)
theorem dX5_commandHere_84 : decode cX5_commandHere 84 = .ok (.ifCond .eq 8, 3) := dk_153 0 8 (dk_at dksX5_commandHere_3 15 rfl rfl)
theorem dX5_commandHere_87 : decode cX5_commandHere 87 = .ok (.bipush 7, 2) := dk_16 7 (dk_at dksX5_commandHere_3 18 rfl rfl)
theorem dX5_commandHere_89 : decode cX5_commandHere 89 = .ok (.goto 4, 3) := dk_167 0 4 (dk_at dksX5_commandHere_3 20 rfl rfl)
theorem dX5_commandHere_92 : decode cX5_commandHere 92 = .ok (.iconst (-1), 1) := dk_2 (dk_at dksX5_commandHere_3 23 rfl rfl)
theorem dX5_commandHere_93 : decode cX5_commandHere 93 = .ok (.ireturn, 1) := dk_172 (dk_at dksX5_commandHere_4 0 rfl rfl)
abbrev cX5_readsNumbers : ByteArray := prog_14_method_67_code
def yX5_readsNumbers : MethodName := ⟨RX5, "readsNumbers", "(II)V"⟩
def dkwX5_readsNumbers_10 : List UInt8 := [182, 0, 216, 79, 177, 42, 180, 0, 33, 27, 4, 96, 42, 3, 16, 19, 182, 0, 216, 79, 177]
abbrev dktX5_readsNumbers_10 : List UInt8 := dkwX5_readsNumbers_10 ++ []
def dkwX5_readsNumbers_9 : List UInt8 := [27, 5, 96, 42, 3, 16, 9, 182, 0, 216, 79, 177, 42, 180, 0, 33, 27, 4, 96, 42, 3, 16, 9]
abbrev dktX5_readsNumbers_9 : List UInt8 := dkwX5_readsNumbers_9 ++ dktX5_readsNumbers_10
def dkwX5_readsNumbers_8 : List UInt8 := [182, 0, 216, 79, 177, 42, 180, 0, 33, 27, 4, 96, 42, 3, 16, 9, 182, 0, 216, 79, 42, 180, 0, 33]
abbrev dktX5_readsNumbers_8 : List UInt8 := dkwX5_readsNumbers_8 ++ dktX5_readsNumbers_9
def dkwX5_readsNumbers_7 : List UInt8 := [180, 0, 33, 27, 5, 96, 42, 3, 7, 182, 0, 216, 79, 42, 180, 0, 33, 27, 6, 96, 42, 3, 16, 9]
abbrev dktX5_readsNumbers_7 : List UInt8 := dkwX5_readsNumbers_7 ++ dktX5_readsNumbers_8
def dkwX5_readsNumbers_6 : List UInt8 := [7, 182, 0, 216, 79, 177, 42, 180, 0, 33, 27, 4, 96, 42, 3, 16, 9, 182, 0, 216, 79, 42]
abbrev dktX5_readsNumbers_6 : List UInt8 := dkwX5_readsNumbers_6 ++ dktX5_readsNumbers_7
def dkwX5_readsNumbers_5 : List UInt8 := [79, 42, 180, 0, 33, 27, 5, 96, 42, 3, 7, 182, 0, 216, 79, 42, 180, 0, 33, 27, 6, 96, 42, 3]
abbrev dktX5_readsNumbers_5 : List UInt8 := dkwX5_readsNumbers_5 ++ dktX5_readsNumbers_6
def dkwX5_readsNumbers_4 : List UInt8 := [96, 42, 3, 16, 9, 182, 0, 216, 79, 177, 42, 180, 0, 33, 27, 4, 96, 42, 3, 16, 19, 182, 0, 216]
abbrev dktX5_readsNumbers_4 : List UInt8 := dkwX5_readsNumbers_4 ++ dktX5_readsNumbers_5
def dkwX5_readsNumbers_3 : List UInt8 := [16, 9, 182, 0, 216, 79, 42, 180, 0, 33, 27, 6, 96, 42, 182, 1, 3, 79, 42, 180, 0, 33, 27, 7]
abbrev dktX5_readsNumbers_3 : List UInt8 := dkwX5_readsNumbers_3 ++ dktX5_readsNumbers_4
def dkwX5_readsNumbers_2 : List UInt8 := [42, 180, 0, 33, 27, 4, 96, 42, 3, 6, 182, 0, 216, 79, 42, 180, 0, 33, 27, 5, 96, 42, 3]
abbrev dktX5_readsNumbers_2 : List UInt8 := dkwX5_readsNumbers_2 ++ dktX5_readsNumbers_3
def dkwX5_readsNumbers_1 : List UInt8 := [170, 0, 0, 0, 0, 0, 240, 0, 0, 0, 0, 0, 0, 0, 7, 0, 0, 0, 47, 0, 0, 0, 104, 0, 0, 0, 240, 0, 0, 0, 240, 0, 0, 0, 240, 0, 0, 0, 148, 0, 0, 0, 193, 0, 0, 0, 224]
abbrev dktX5_readsNumbers_1 : List UInt8 := dkwX5_readsNumbers_1 ++ dktX5_readsNumbers_2
def dkwX5_readsNumbers_0 : List UInt8 := [28]
abbrev dktX5_readsNumbers_0 : List UInt8 := dkwX5_readsNumbers_0 ++ dktX5_readsNumbers_1
theorem dksX5_readsNumbers_0 : cX5_readsNumbers.data.toList.drop 0 = dktX5_readsNumbers_0 := by decide +kernel
theorem dksX5_readsNumbers_1 : cX5_readsNumbers.data.toList.drop 1 = dktX5_readsNumbers_1 := dk_seg dksX5_readsNumbers_0 1 rfl rfl
theorem dksX5_readsNumbers_2 : cX5_readsNumbers.data.toList.drop 48 = dktX5_readsNumbers_2 := dk_seg dksX5_readsNumbers_1 47 rfl rfl
theorem dksX5_readsNumbers_3 : cX5_readsNumbers.data.toList.drop 71 = dktX5_readsNumbers_3 := dk_seg dksX5_readsNumbers_2 23 rfl rfl
theorem dksX5_readsNumbers_4 : cX5_readsNumbers.data.toList.drop 95 = dktX5_readsNumbers_4 := dk_seg dksX5_readsNumbers_3 24 rfl rfl
theorem dksX5_readsNumbers_5 : cX5_readsNumbers.data.toList.drop 119 = dktX5_readsNumbers_5 := dk_seg dksX5_readsNumbers_4 24 rfl rfl
theorem dksX5_readsNumbers_6 : cX5_readsNumbers.data.toList.drop 143 = dktX5_readsNumbers_6 := dk_seg dksX5_readsNumbers_5 24 rfl rfl
theorem dksX5_readsNumbers_7 : cX5_readsNumbers.data.toList.drop 165 = dktX5_readsNumbers_7 := dk_seg dksX5_readsNumbers_6 22 rfl rfl
theorem dksX5_readsNumbers_8 : cX5_readsNumbers.data.toList.drop 189 = dktX5_readsNumbers_8 := dk_seg dksX5_readsNumbers_7 24 rfl rfl
theorem dksX5_readsNumbers_9 : cX5_readsNumbers.data.toList.drop 213 = dktX5_readsNumbers_9 := dk_seg dksX5_readsNumbers_8 24 rfl rfl
theorem dksX5_readsNumbers_10 : cX5_readsNumbers.data.toList.drop 236 = dktX5_readsNumbers_10 := dk_seg dksX5_readsNumbers_9 23 rfl rfl
theorem dX5_readsNumbers_0 : decode cX5_readsNumbers 0 = .ok (.iload_n 2, 1) := dk_28 (dk_at dksX5_readsNumbers_0 0 rfl rfl)
theorem dX5_readsNumbers_1 : decode cX5_readsNumbers 1 = .ok (.tableswitch 240 0 7 #[47, 104, 240, 240, 240, 148, 193, 224], 47) := by decide +kernel
theorem dX5_readsNumbers_48 : decode cX5_readsNumbers 48 = .ok (.aload_n 0, 1) := dk_42 (dk_at dksX5_readsNumbers_2 0 rfl rfl)
theorem dX5_readsNumbers_49 : decode cX5_readsNumbers 49 = .ok (.getfield 33, 3) := dk_180 0 33 (dk_at dksX5_readsNumbers_2 1 rfl rfl)
theorem dX5_readsNumbers_52 : decode cX5_readsNumbers 52 = .ok (.iload_n 1, 1) := dk_27 (dk_at dksX5_readsNumbers_2 4 rfl rfl)
theorem dX5_readsNumbers_53 : decode cX5_readsNumbers 53 = .ok (.iconst 1, 1) := dk_4 (dk_at dksX5_readsNumbers_2 5 rfl rfl)
theorem dX5_readsNumbers_54 : decode cX5_readsNumbers 54 = .ok (.iadd, 1) := dk_96 (dk_at dksX5_readsNumbers_2 6 rfl rfl)
theorem dX5_readsNumbers_55 : decode cX5_readsNumbers 55 = .ok (.aload_n 0, 1) := dk_42 (dk_at dksX5_readsNumbers_2 7 rfl rfl)
theorem dX5_readsNumbers_56 : decode cX5_readsNumbers 56 = .ok (.iconst 0, 1) := dk_3 (dk_at dksX5_readsNumbers_2 8 rfl rfl)
theorem dX5_readsNumbers_57 : decode cX5_readsNumbers 57 = .ok (.iconst 3, 1) := dk_6 (dk_at dksX5_readsNumbers_2 9 rfl rfl)
theorem dX5_readsNumbers_58 : decode cX5_readsNumbers 58 = .ok (.invokevirtual 216, 3) := dk_182 0 216 (dk_at dksX5_readsNumbers_2 10 rfl rfl)
theorem dX5_readsNumbers_61 : decode cX5_readsNumbers 61 = .ok (.iastore, 1) := dk_79 (dk_at dksX5_readsNumbers_2 13 rfl rfl)
theorem dX5_readsNumbers_62 : decode cX5_readsNumbers 62 = .ok (.aload_n 0, 1) := dk_42 (dk_at dksX5_readsNumbers_2 14 rfl rfl)
theorem dX5_readsNumbers_63 : decode cX5_readsNumbers 63 = .ok (.getfield 33, 3) := dk_180 0 33 (dk_at dksX5_readsNumbers_2 15 rfl rfl)
theorem dX5_readsNumbers_66 : decode cX5_readsNumbers 66 = .ok (.iload_n 1, 1) := dk_27 (dk_at dksX5_readsNumbers_2 18 rfl rfl)
theorem dX5_readsNumbers_67 : decode cX5_readsNumbers 67 = .ok (.iconst 2, 1) := dk_5 (dk_at dksX5_readsNumbers_2 19 rfl rfl)
theorem dX5_readsNumbers_68 : decode cX5_readsNumbers 68 = .ok (.iadd, 1) := dk_96 (dk_at dksX5_readsNumbers_2 20 rfl rfl)
theorem dX5_readsNumbers_69 : decode cX5_readsNumbers 69 = .ok (.aload_n 0, 1) := dk_42 (dk_at dksX5_readsNumbers_2 21 rfl rfl)
theorem dX5_readsNumbers_70 : decode cX5_readsNumbers 70 = .ok (.iconst 0, 1) := dk_3 (dk_at dksX5_readsNumbers_2 22 rfl rfl)
theorem dX5_readsNumbers_71 : decode cX5_readsNumbers 71 = .ok (.bipush 9, 2) := dk_16 9 (dk_at dksX5_readsNumbers_3 0 rfl rfl)
theorem dX5_readsNumbers_73 : decode cX5_readsNumbers 73 = .ok (.invokevirtual 216, 3) := dk_182 0 216 (dk_at dksX5_readsNumbers_3 2 rfl rfl)
theorem dX5_readsNumbers_76 : decode cX5_readsNumbers 76 = .ok (.iastore, 1) := dk_79 (dk_at dksX5_readsNumbers_3 5 rfl rfl)
theorem dX5_readsNumbers_77 : decode cX5_readsNumbers 77 = .ok (.aload_n 0, 1) := dk_42 (dk_at dksX5_readsNumbers_3 6 rfl rfl)
theorem dX5_readsNumbers_78 : decode cX5_readsNumbers 78 = .ok (.getfield 33, 3) := dk_180 0 33 (dk_at dksX5_readsNumbers_3 7 rfl rfl)
theorem dX5_readsNumbers_81 : decode cX5_readsNumbers 81 = .ok (.iload_n 1, 1) := dk_27 (dk_at dksX5_readsNumbers_3 10 rfl rfl)
theorem dX5_readsNumbers_82 : decode cX5_readsNumbers 82 = .ok (.iconst 3, 1) := dk_6 (dk_at dksX5_readsNumbers_3 11 rfl rfl)
theorem dX5_readsNumbers_83 : decode cX5_readsNumbers 83 = .ok (.iadd, 1) := dk_96 (dk_at dksX5_readsNumbers_3 12 rfl rfl)
theorem dX5_readsNumbers_84 : decode cX5_readsNumbers 84 = .ok (.aload_n 0, 1) := dk_42 (dk_at dksX5_readsNumbers_3 13 rfl rfl)
theorem dX5_readsNumbers_85 : decode cX5_readsNumbers 85 = .ok (.invokevirtual 259, 3) := dk_182 1 3 (dk_at dksX5_readsNumbers_3 14 rfl rfl)
theorem dX5_readsNumbers_88 : decode cX5_readsNumbers 88 = .ok (.iastore, 1) := dk_79 (dk_at dksX5_readsNumbers_3 17 rfl rfl)
theorem dX5_readsNumbers_89 : decode cX5_readsNumbers 89 = .ok (.aload_n 0, 1) := dk_42 (dk_at dksX5_readsNumbers_3 18 rfl rfl)
theorem dX5_readsNumbers_90 : decode cX5_readsNumbers 90 = .ok (.getfield 33, 3) := dk_180 0 33 (dk_at dksX5_readsNumbers_3 19 rfl rfl)
theorem dX5_readsNumbers_93 : decode cX5_readsNumbers 93 = .ok (.iload_n 1, 1) := dk_27 (dk_at dksX5_readsNumbers_3 22 rfl rfl)
theorem dX5_readsNumbers_94 : decode cX5_readsNumbers 94 = .ok (.iconst 4, 1) := dk_7 (dk_at dksX5_readsNumbers_3 23 rfl rfl)
theorem dX5_readsNumbers_95 : decode cX5_readsNumbers 95 = .ok (.iadd, 1) := dk_96 (dk_at dksX5_readsNumbers_4 0 rfl rfl)
theorem dX5_readsNumbers_96 : decode cX5_readsNumbers 96 = .ok (.aload_n 0, 1) := dk_42 (dk_at dksX5_readsNumbers_4 1 rfl rfl)
theorem dX5_readsNumbers_97 : decode cX5_readsNumbers 97 = .ok (.iconst 0, 1) := dk_3 (dk_at dksX5_readsNumbers_4 2 rfl rfl)
theorem dX5_readsNumbers_98 : decode cX5_readsNumbers 98 = .ok (.bipush 9, 2) := dk_16 9 (dk_at dksX5_readsNumbers_4 3 rfl rfl)
theorem dX5_readsNumbers_100 : decode cX5_readsNumbers 100 = .ok (.invokevirtual 216, 3) := dk_182 0 216 (dk_at dksX5_readsNumbers_4 5 rfl rfl)
theorem dX5_readsNumbers_103 : decode cX5_readsNumbers 103 = .ok (.iastore, 1) := dk_79 (dk_at dksX5_readsNumbers_4 8 rfl rfl)
theorem dX5_readsNumbers_104 : decode cX5_readsNumbers 104 = .ok (.return_, 1) := dk_177 (dk_at dksX5_readsNumbers_4 9 rfl rfl)
theorem dX5_readsNumbers_105 : decode cX5_readsNumbers 105 = .ok (.aload_n 0, 1) := dk_42 (dk_at dksX5_readsNumbers_4 10 rfl rfl)
theorem dX5_readsNumbers_106 : decode cX5_readsNumbers 106 = .ok (.getfield 33, 3) := dk_180 0 33 (dk_at dksX5_readsNumbers_4 11 rfl rfl)
theorem dX5_readsNumbers_109 : decode cX5_readsNumbers 109 = .ok (.iload_n 1, 1) := dk_27 (dk_at dksX5_readsNumbers_4 14 rfl rfl)
theorem dX5_readsNumbers_110 : decode cX5_readsNumbers 110 = .ok (.iconst 1, 1) := dk_4 (dk_at dksX5_readsNumbers_4 15 rfl rfl)
theorem dX5_readsNumbers_111 : decode cX5_readsNumbers 111 = .ok (.iadd, 1) := dk_96 (dk_at dksX5_readsNumbers_4 16 rfl rfl)
theorem dX5_readsNumbers_112 : decode cX5_readsNumbers 112 = .ok (.aload_n 0, 1) := dk_42 (dk_at dksX5_readsNumbers_4 17 rfl rfl)
theorem dX5_readsNumbers_113 : decode cX5_readsNumbers 113 = .ok (.iconst 0, 1) := dk_3 (dk_at dksX5_readsNumbers_4 18 rfl rfl)
theorem dX5_readsNumbers_114 : decode cX5_readsNumbers 114 = .ok (.bipush 19, 2) := dk_16 19 (dk_at dksX5_readsNumbers_4 19 rfl rfl)
theorem dX5_readsNumbers_116 : decode cX5_readsNumbers 116 = .ok (.invokevirtual 216, 3) := dk_182 0 216 (dk_at dksX5_readsNumbers_4 21 rfl rfl)
theorem dX5_readsNumbers_119 : decode cX5_readsNumbers 119 = .ok (.iastore, 1) := dk_79 (dk_at dksX5_readsNumbers_5 0 rfl rfl)
theorem dX5_readsNumbers_120 : decode cX5_readsNumbers 120 = .ok (.aload_n 0, 1) := dk_42 (dk_at dksX5_readsNumbers_5 1 rfl rfl)
theorem dX5_readsNumbers_121 : decode cX5_readsNumbers 121 = .ok (.getfield 33, 3) := dk_180 0 33 (dk_at dksX5_readsNumbers_5 2 rfl rfl)
theorem dX5_readsNumbers_124 : decode cX5_readsNumbers 124 = .ok (.iload_n 1, 1) := dk_27 (dk_at dksX5_readsNumbers_5 5 rfl rfl)
theorem dX5_readsNumbers_125 : decode cX5_readsNumbers 125 = .ok (.iconst 2, 1) := dk_5 (dk_at dksX5_readsNumbers_5 6 rfl rfl)
theorem dX5_readsNumbers_126 : decode cX5_readsNumbers 126 = .ok (.iadd, 1) := dk_96 (dk_at dksX5_readsNumbers_5 7 rfl rfl)
theorem dX5_readsNumbers_127 : decode cX5_readsNumbers 127 = .ok (.aload_n 0, 1) := dk_42 (dk_at dksX5_readsNumbers_5 8 rfl rfl)
theorem dX5_readsNumbers_128 : decode cX5_readsNumbers 128 = .ok (.iconst 0, 1) := dk_3 (dk_at dksX5_readsNumbers_5 9 rfl rfl)
theorem dX5_readsNumbers_129 : decode cX5_readsNumbers 129 = .ok (.iconst 4, 1) := dk_7 (dk_at dksX5_readsNumbers_5 10 rfl rfl)
theorem dX5_readsNumbers_130 : decode cX5_readsNumbers 130 = .ok (.invokevirtual 216, 3) := dk_182 0 216 (dk_at dksX5_readsNumbers_5 11 rfl rfl)
theorem dX5_readsNumbers_133 : decode cX5_readsNumbers 133 = .ok (.iastore, 1) := dk_79 (dk_at dksX5_readsNumbers_5 14 rfl rfl)
theorem dX5_readsNumbers_134 : decode cX5_readsNumbers 134 = .ok (.aload_n 0, 1) := dk_42 (dk_at dksX5_readsNumbers_5 15 rfl rfl)
theorem dX5_readsNumbers_135 : decode cX5_readsNumbers 135 = .ok (.getfield 33, 3) := dk_180 0 33 (dk_at dksX5_readsNumbers_5 16 rfl rfl)
theorem dX5_readsNumbers_138 : decode cX5_readsNumbers 138 = .ok (.iload_n 1, 1) := dk_27 (dk_at dksX5_readsNumbers_5 19 rfl rfl)
theorem dX5_readsNumbers_139 : decode cX5_readsNumbers 139 = .ok (.iconst 3, 1) := dk_6 (dk_at dksX5_readsNumbers_5 20 rfl rfl)
theorem dX5_readsNumbers_140 : decode cX5_readsNumbers 140 = .ok (.iadd, 1) := dk_96 (dk_at dksX5_readsNumbers_5 21 rfl rfl)
theorem dX5_readsNumbers_141 : decode cX5_readsNumbers 141 = .ok (.aload_n 0, 1) := dk_42 (dk_at dksX5_readsNumbers_5 22 rfl rfl)
theorem dX5_readsNumbers_142 : decode cX5_readsNumbers 142 = .ok (.iconst 0, 1) := dk_3 (dk_at dksX5_readsNumbers_5 23 rfl rfl)
theorem dX5_readsNumbers_143 : decode cX5_readsNumbers 143 = .ok (.iconst 4, 1) := dk_7 (dk_at dksX5_readsNumbers_6 0 rfl rfl)
theorem dX5_readsNumbers_144 : decode cX5_readsNumbers 144 = .ok (.invokevirtual 216, 3) := dk_182 0 216 (dk_at dksX5_readsNumbers_6 1 rfl rfl)
theorem dX5_readsNumbers_147 : decode cX5_readsNumbers 147 = .ok (.iastore, 1) := dk_79 (dk_at dksX5_readsNumbers_6 4 rfl rfl)
theorem dX5_readsNumbers_148 : decode cX5_readsNumbers 148 = .ok (.return_, 1) := dk_177 (dk_at dksX5_readsNumbers_6 5 rfl rfl)
theorem dX5_readsNumbers_149 : decode cX5_readsNumbers 149 = .ok (.aload_n 0, 1) := dk_42 (dk_at dksX5_readsNumbers_6 6 rfl rfl)
theorem dX5_readsNumbers_150 : decode cX5_readsNumbers 150 = .ok (.getfield 33, 3) := dk_180 0 33 (dk_at dksX5_readsNumbers_6 7 rfl rfl)
theorem dX5_readsNumbers_153 : decode cX5_readsNumbers 153 = .ok (.iload_n 1, 1) := dk_27 (dk_at dksX5_readsNumbers_6 10 rfl rfl)
theorem dX5_readsNumbers_154 : decode cX5_readsNumbers 154 = .ok (.iconst 1, 1) := dk_4 (dk_at dksX5_readsNumbers_6 11 rfl rfl)
theorem dX5_readsNumbers_155 : decode cX5_readsNumbers 155 = .ok (.iadd, 1) := dk_96 (dk_at dksX5_readsNumbers_6 12 rfl rfl)
theorem dX5_readsNumbers_156 : decode cX5_readsNumbers 156 = .ok (.aload_n 0, 1) := dk_42 (dk_at dksX5_readsNumbers_6 13 rfl rfl)
theorem dX5_readsNumbers_157 : decode cX5_readsNumbers 157 = .ok (.iconst 0, 1) := dk_3 (dk_at dksX5_readsNumbers_6 14 rfl rfl)
theorem dX5_readsNumbers_158 : decode cX5_readsNumbers 158 = .ok (.bipush 9, 2) := dk_16 9 (dk_at dksX5_readsNumbers_6 15 rfl rfl)
theorem dX5_readsNumbers_160 : decode cX5_readsNumbers 160 = .ok (.invokevirtual 216, 3) := dk_182 0 216 (dk_at dksX5_readsNumbers_6 17 rfl rfl)
theorem dX5_readsNumbers_163 : decode cX5_readsNumbers 163 = .ok (.iastore, 1) := dk_79 (dk_at dksX5_readsNumbers_6 20 rfl rfl)
theorem dX5_readsNumbers_164 : decode cX5_readsNumbers 164 = .ok (.aload_n 0, 1) := dk_42 (dk_at dksX5_readsNumbers_6 21 rfl rfl)
theorem dX5_readsNumbers_165 : decode cX5_readsNumbers 165 = .ok (.getfield 33, 3) := dk_180 0 33 (dk_at dksX5_readsNumbers_7 0 rfl rfl)
theorem dX5_readsNumbers_168 : decode cX5_readsNumbers 168 = .ok (.iload_n 1, 1) := dk_27 (dk_at dksX5_readsNumbers_7 3 rfl rfl)
theorem dX5_readsNumbers_169 : decode cX5_readsNumbers 169 = .ok (.iconst 2, 1) := dk_5 (dk_at dksX5_readsNumbers_7 4 rfl rfl)
theorem dX5_readsNumbers_170 : decode cX5_readsNumbers 170 = .ok (.iadd, 1) := dk_96 (dk_at dksX5_readsNumbers_7 5 rfl rfl)
theorem dX5_readsNumbers_171 : decode cX5_readsNumbers 171 = .ok (.aload_n 0, 1) := dk_42 (dk_at dksX5_readsNumbers_7 6 rfl rfl)
theorem dX5_readsNumbers_172 : decode cX5_readsNumbers 172 = .ok (.iconst 0, 1) := dk_3 (dk_at dksX5_readsNumbers_7 7 rfl rfl)
theorem dX5_readsNumbers_173 : decode cX5_readsNumbers 173 = .ok (.iconst 4, 1) := dk_7 (dk_at dksX5_readsNumbers_7 8 rfl rfl)
theorem dX5_readsNumbers_174 : decode cX5_readsNumbers 174 = .ok (.invokevirtual 216, 3) := dk_182 0 216 (dk_at dksX5_readsNumbers_7 9 rfl rfl)
theorem dX5_readsNumbers_177 : decode cX5_readsNumbers 177 = .ok (.iastore, 1) := dk_79 (dk_at dksX5_readsNumbers_7 12 rfl rfl)
theorem dX5_readsNumbers_178 : decode cX5_readsNumbers 178 = .ok (.aload_n 0, 1) := dk_42 (dk_at dksX5_readsNumbers_7 13 rfl rfl)
theorem dX5_readsNumbers_179 : decode cX5_readsNumbers 179 = .ok (.getfield 33, 3) := dk_180 0 33 (dk_at dksX5_readsNumbers_7 14 rfl rfl)
theorem dX5_readsNumbers_182 : decode cX5_readsNumbers 182 = .ok (.iload_n 1, 1) := dk_27 (dk_at dksX5_readsNumbers_7 17 rfl rfl)
theorem dX5_readsNumbers_183 : decode cX5_readsNumbers 183 = .ok (.iconst 3, 1) := dk_6 (dk_at dksX5_readsNumbers_7 18 rfl rfl)
theorem dX5_readsNumbers_184 : decode cX5_readsNumbers 184 = .ok (.iadd, 1) := dk_96 (dk_at dksX5_readsNumbers_7 19 rfl rfl)
theorem dX5_readsNumbers_185 : decode cX5_readsNumbers 185 = .ok (.aload_n 0, 1) := dk_42 (dk_at dksX5_readsNumbers_7 20 rfl rfl)
theorem dX5_readsNumbers_186 : decode cX5_readsNumbers 186 = .ok (.iconst 0, 1) := dk_3 (dk_at dksX5_readsNumbers_7 21 rfl rfl)
theorem dX5_readsNumbers_187 : decode cX5_readsNumbers 187 = .ok (.bipush 9, 2) := dk_16 9 (dk_at dksX5_readsNumbers_7 22 rfl rfl)
theorem dX5_readsNumbers_189 : decode cX5_readsNumbers 189 = .ok (.invokevirtual 216, 3) := dk_182 0 216 (dk_at dksX5_readsNumbers_8 0 rfl rfl)
theorem dX5_readsNumbers_192 : decode cX5_readsNumbers 192 = .ok (.iastore, 1) := dk_79 (dk_at dksX5_readsNumbers_8 3 rfl rfl)
theorem dX5_readsNumbers_193 : decode cX5_readsNumbers 193 = .ok (.return_, 1) := dk_177 (dk_at dksX5_readsNumbers_8 4 rfl rfl)
theorem dX5_readsNumbers_194 : decode cX5_readsNumbers 194 = .ok (.aload_n 0, 1) := dk_42 (dk_at dksX5_readsNumbers_8 5 rfl rfl)
theorem dX5_readsNumbers_195 : decode cX5_readsNumbers 195 = .ok (.getfield 33, 3) := dk_180 0 33 (dk_at dksX5_readsNumbers_8 6 rfl rfl)
theorem dX5_readsNumbers_198 : decode cX5_readsNumbers 198 = .ok (.iload_n 1, 1) := dk_27 (dk_at dksX5_readsNumbers_8 9 rfl rfl)
theorem dX5_readsNumbers_199 : decode cX5_readsNumbers 199 = .ok (.iconst 1, 1) := dk_4 (dk_at dksX5_readsNumbers_8 10 rfl rfl)
theorem dX5_readsNumbers_200 : decode cX5_readsNumbers 200 = .ok (.iadd, 1) := dk_96 (dk_at dksX5_readsNumbers_8 11 rfl rfl)
theorem dX5_readsNumbers_201 : decode cX5_readsNumbers 201 = .ok (.aload_n 0, 1) := dk_42 (dk_at dksX5_readsNumbers_8 12 rfl rfl)
theorem dX5_readsNumbers_202 : decode cX5_readsNumbers 202 = .ok (.iconst 0, 1) := dk_3 (dk_at dksX5_readsNumbers_8 13 rfl rfl)
theorem dX5_readsNumbers_203 : decode cX5_readsNumbers 203 = .ok (.bipush 9, 2) := dk_16 9 (dk_at dksX5_readsNumbers_8 14 rfl rfl)
theorem dX5_readsNumbers_205 : decode cX5_readsNumbers 205 = .ok (.invokevirtual 216, 3) := dk_182 0 216 (dk_at dksX5_readsNumbers_8 16 rfl rfl)
theorem dX5_readsNumbers_208 : decode cX5_readsNumbers 208 = .ok (.iastore, 1) := dk_79 (dk_at dksX5_readsNumbers_8 19 rfl rfl)
theorem dX5_readsNumbers_209 : decode cX5_readsNumbers 209 = .ok (.aload_n 0, 1) := dk_42 (dk_at dksX5_readsNumbers_8 20 rfl rfl)
theorem dX5_readsNumbers_210 : decode cX5_readsNumbers 210 = .ok (.getfield 33, 3) := dk_180 0 33 (dk_at dksX5_readsNumbers_8 21 rfl rfl)
theorem dX5_readsNumbers_213 : decode cX5_readsNumbers 213 = .ok (.iload_n 1, 1) := dk_27 (dk_at dksX5_readsNumbers_9 0 rfl rfl)
theorem dX5_readsNumbers_214 : decode cX5_readsNumbers 214 = .ok (.iconst 2, 1) := dk_5 (dk_at dksX5_readsNumbers_9 1 rfl rfl)
theorem dX5_readsNumbers_215 : decode cX5_readsNumbers 215 = .ok (.iadd, 1) := dk_96 (dk_at dksX5_readsNumbers_9 2 rfl rfl)
theorem dX5_readsNumbers_216 : decode cX5_readsNumbers 216 = .ok (.aload_n 0, 1) := dk_42 (dk_at dksX5_readsNumbers_9 3 rfl rfl)
theorem dX5_readsNumbers_217 : decode cX5_readsNumbers 217 = .ok (.iconst 0, 1) := dk_3 (dk_at dksX5_readsNumbers_9 4 rfl rfl)
theorem dX5_readsNumbers_218 : decode cX5_readsNumbers 218 = .ok (.bipush 9, 2) := dk_16 9 (dk_at dksX5_readsNumbers_9 5 rfl rfl)
theorem dX5_readsNumbers_220 : decode cX5_readsNumbers 220 = .ok (.invokevirtual 216, 3) := dk_182 0 216 (dk_at dksX5_readsNumbers_9 7 rfl rfl)
theorem dX5_readsNumbers_223 : decode cX5_readsNumbers 223 = .ok (.iastore, 1) := dk_79 (dk_at dksX5_readsNumbers_9 10 rfl rfl)
theorem dX5_readsNumbers_224 : decode cX5_readsNumbers 224 = .ok (.return_, 1) := dk_177 (dk_at dksX5_readsNumbers_9 11 rfl rfl)
theorem dX5_readsNumbers_225 : decode cX5_readsNumbers 225 = .ok (.aload_n 0, 1) := dk_42 (dk_at dksX5_readsNumbers_9 12 rfl rfl)
theorem dX5_readsNumbers_226 : decode cX5_readsNumbers 226 = .ok (.getfield 33, 3) := dk_180 0 33 (dk_at dksX5_readsNumbers_9 13 rfl rfl)
theorem dX5_readsNumbers_229 : decode cX5_readsNumbers 229 = .ok (.iload_n 1, 1) := dk_27 (dk_at dksX5_readsNumbers_9 16 rfl rfl)
theorem dX5_readsNumbers_230 : decode cX5_readsNumbers 230 = .ok (.iconst 1, 1) := dk_4 (dk_at dksX5_readsNumbers_9 17 rfl rfl)
theorem dX5_readsNumbers_231 : decode cX5_readsNumbers 231 = .ok (.iadd, 1) := dk_96 (dk_at dksX5_readsNumbers_9 18 rfl rfl)
theorem dX5_readsNumbers_232 : decode cX5_readsNumbers 232 = .ok (.aload_n 0, 1) := dk_42 (dk_at dksX5_readsNumbers_9 19 rfl rfl)
theorem dX5_readsNumbers_233 : decode cX5_readsNumbers 233 = .ok (.iconst 0, 1) := dk_3 (dk_at dksX5_readsNumbers_9 20 rfl rfl)
theorem dX5_readsNumbers_234 : decode cX5_readsNumbers 234 = .ok (.bipush 9, 2) := dk_16 9 (dk_at dksX5_readsNumbers_9 21 rfl rfl)
theorem dX5_readsNumbers_236 : decode cX5_readsNumbers 236 = .ok (.invokevirtual 216, 3) := dk_182 0 216 (dk_at dksX5_readsNumbers_10 0 rfl rfl)
theorem dX5_readsNumbers_239 : decode cX5_readsNumbers 239 = .ok (.iastore, 1) := dk_79 (dk_at dksX5_readsNumbers_10 3 rfl rfl)
theorem dX5_readsNumbers_240 : decode cX5_readsNumbers 240 = .ok (.return_, 1) := dk_177 (dk_at dksX5_readsNumbers_10 4 rfl rfl)
theorem dX5_readsNumbers_241 : decode cX5_readsNumbers 241 = .ok (.aload_n 0, 1) := dk_42 (dk_at dksX5_readsNumbers_10 5 rfl rfl)
theorem dX5_readsNumbers_242 : decode cX5_readsNumbers 242 = .ok (.getfield 33, 3) := dk_180 0 33 (dk_at dksX5_readsNumbers_10 6 rfl rfl)
theorem dX5_readsNumbers_245 : decode cX5_readsNumbers 245 = .ok (.iload_n 1, 1) := dk_27 (dk_at dksX5_readsNumbers_10 9 rfl rfl)
theorem dX5_readsNumbers_246 : decode cX5_readsNumbers 246 = .ok (.iconst 1, 1) := dk_4 (dk_at dksX5_readsNumbers_10 10 rfl rfl)
theorem dX5_readsNumbers_247 : decode cX5_readsNumbers 247 = .ok (.iadd, 1) := dk_96 (dk_at dksX5_readsNumbers_10 11 rfl rfl)
theorem dX5_readsNumbers_248 : decode cX5_readsNumbers 248 = .ok (.aload_n 0, 1) := dk_42 (dk_at dksX5_readsNumbers_10 12 rfl rfl)
theorem dX5_readsNumbers_249 : decode cX5_readsNumbers 249 = .ok (.iconst 0, 1) := dk_3 (dk_at dksX5_readsNumbers_10 13 rfl rfl)
theorem dX5_readsNumbers_250 : decode cX5_readsNumbers 250 = .ok (.bipush 19, 2) := dk_16 19 (dk_at dksX5_readsNumbers_10 14 rfl rfl)
theorem dX5_readsNumbers_252 : decode cX5_readsNumbers 252 = .ok (.invokevirtual 216, 3) := dk_182 0 216 (dk_at dksX5_readsNumbers_10 16 rfl rfl)
theorem dX5_readsNumbers_255 : decode cX5_readsNumbers 255 = .ok (.iastore, 1) := dk_79 (dk_at dksX5_readsNumbers_10 19 rfl rfl)
theorem dX5_readsNumbers_256 : decode cX5_readsNumbers 256 = .ok (.return_, 1) := dk_177 (dk_at dksX5_readsNumbers_10 20 rfl rfl)
abbrev cX5_readsWord : ByteArray := prog_14_method_66_code
def yX5_readsWord : MethodName := ⟨RX5, "readsWord", "()I"⟩
def dkwX5_readsWord_2 : List UInt8 := [159, 0, 7, 4, 167, 0, 4, 3, 4, 182, 0, 205, 87, 42, 182, 0, 208, 27, 172]
abbrev dktX5_readsWord_2 : List UInt8 := dkwX5_readsWord_2 ++ []
def dkwX5_readsWord_1 : List UInt8 := [167, 0, 18, 42, 19, 1, 1, 182, 0, 201, 153, 0, 7, 5, 167, 0, 4, 2, 60, 42, 27, 2]
abbrev dktX5_readsWord_1 : List UInt8 := dkwX5_readsWord_1 ++ dktX5_readsWord_2
def dkwX5_readsWord_0 : List UInt8 := [42, 18, 253, 182, 0, 201, 153, 0, 7, 3, 167, 0, 31, 42, 18, 255, 182, 0, 201, 153, 0, 7, 4]
abbrev dktX5_readsWord_0 : List UInt8 := dkwX5_readsWord_0 ++ dktX5_readsWord_1
theorem dksX5_readsWord_0 : cX5_readsWord.data.toList.drop 0 = dktX5_readsWord_0 := by decide +kernel
theorem dksX5_readsWord_1 : cX5_readsWord.data.toList.drop 23 = dktX5_readsWord_1 := dk_seg dksX5_readsWord_0 23 rfl rfl
theorem dksX5_readsWord_2 : cX5_readsWord.data.toList.drop 45 = dktX5_readsWord_2 := dk_seg dksX5_readsWord_1 22 rfl rfl
theorem dX5_readsWord_0 : decode cX5_readsWord 0 = .ok (.aload_n 0, 1) := dk_42 (dk_at dksX5_readsWord_0 0 rfl rfl)
theorem dX5_readsWord_1 : decode cX5_readsWord 1 = .ok (.ldc 253, 2) := dk_18 253 (dk_at dksX5_readsWord_0 1 rfl rfl)
theorem dX5_readsWord_3 : decode cX5_readsWord 3 = .ok (.invokevirtual 201, 3) := dk_182 0 201 (dk_at dksX5_readsWord_0 3 rfl rfl)
theorem dX5_readsWord_6 : decode cX5_readsWord 6 = .ok (.ifCond .eq 7, 3) := dk_153 0 7 (dk_at dksX5_readsWord_0 6 rfl rfl)
theorem dX5_readsWord_9 : decode cX5_readsWord 9 = .ok (.iconst 0, 1) := dk_3 (dk_at dksX5_readsWord_0 9 rfl rfl)
theorem dX5_readsWord_10 : decode cX5_readsWord 10 = .ok (.goto 31, 3) := dk_167 0 31 (dk_at dksX5_readsWord_0 10 rfl rfl)
theorem dX5_readsWord_13 : decode cX5_readsWord 13 = .ok (.aload_n 0, 1) := dk_42 (dk_at dksX5_readsWord_0 13 rfl rfl)
theorem dX5_readsWord_14 : decode cX5_readsWord 14 = .ok (.ldc 255, 2) := dk_18 255 (dk_at dksX5_readsWord_0 14 rfl rfl)
theorem dX5_readsWord_16 : decode cX5_readsWord 16 = .ok (.invokevirtual 201, 3) := dk_182 0 201 (dk_at dksX5_readsWord_0 16 rfl rfl)
theorem dX5_readsWord_19 : decode cX5_readsWord 19 = .ok (.ifCond .eq 7, 3) := dk_153 0 7 (dk_at dksX5_readsWord_0 19 rfl rfl)
theorem dX5_readsWord_22 : decode cX5_readsWord 22 = .ok (.iconst 1, 1) := dk_4 (dk_at dksX5_readsWord_0 22 rfl rfl)
theorem dX5_readsWord_23 : decode cX5_readsWord 23 = .ok (.goto 18, 3) := dk_167 0 18 (dk_at dksX5_readsWord_1 0 rfl rfl)
theorem dX5_readsWord_26 : decode cX5_readsWord 26 = .ok (.aload_n 0, 1) := dk_42 (dk_at dksX5_readsWord_1 3 rfl rfl)
theorem dX5_readsWord_27 : decode cX5_readsWord 27 = .ok (.ldc_w 257, 3) := dk_19 1 1 (dk_at dksX5_readsWord_1 4 rfl rfl)
theorem dX5_readsWord_30 : decode cX5_readsWord 30 = .ok (.invokevirtual 201, 3) := dk_182 0 201 (dk_at dksX5_readsWord_1 7 rfl rfl)
theorem dX5_readsWord_33 : decode cX5_readsWord 33 = .ok (.ifCond .eq 7, 3) := dk_153 0 7 (dk_at dksX5_readsWord_1 10 rfl rfl)
theorem dX5_readsWord_36 : decode cX5_readsWord 36 = .ok (.iconst 2, 1) := dk_5 (dk_at dksX5_readsWord_1 13 rfl rfl)
theorem dX5_readsWord_37 : decode cX5_readsWord 37 = .ok (.goto 4, 3) := dk_167 0 4 (dk_at dksX5_readsWord_1 14 rfl rfl)
theorem dX5_readsWord_40 : decode cX5_readsWord 40 = .ok (.iconst (-1), 1) := dk_2 (dk_at dksX5_readsWord_1 17 rfl rfl)
theorem dX5_readsWord_41 : decode cX5_readsWord 41 = .ok (.istore_n 1, 1) := dk_60 (dk_at dksX5_readsWord_1 18 rfl rfl)
theorem dX5_readsWord_42 : decode cX5_readsWord 42 = .ok (.aload_n 0, 1) := dk_42 (dk_at dksX5_readsWord_1 19 rfl rfl)
theorem dX5_readsWord_43 : decode cX5_readsWord 43 = .ok (.iload_n 1, 1) := dk_27 (dk_at dksX5_readsWord_1 20 rfl rfl)
theorem dX5_readsWord_44 : decode cX5_readsWord 44 = .ok (.iconst (-1), 1) := dk_2 (dk_at dksX5_readsWord_1 21 rfl rfl)
theorem dX5_readsWord_45 : decode cX5_readsWord 45 = .ok (.if_icmp .eq 7, 3) := dk_159 0 7 (dk_at dksX5_readsWord_2 0 rfl rfl)
theorem dX5_readsWord_48 : decode cX5_readsWord 48 = .ok (.iconst 1, 1) := dk_4 (dk_at dksX5_readsWord_2 3 rfl rfl)
theorem dX5_readsWord_49 : decode cX5_readsWord 49 = .ok (.goto 4, 3) := dk_167 0 4 (dk_at dksX5_readsWord_2 4 rfl rfl)
theorem dX5_readsWord_52 : decode cX5_readsWord 52 = .ok (.iconst 0, 1) := dk_3 (dk_at dksX5_readsWord_2 7 rfl rfl)
theorem dX5_readsWord_53 : decode cX5_readsWord 53 = .ok (.iconst 1, 1) := dk_4 (dk_at dksX5_readsWord_2 8 rfl rfl)
theorem dX5_readsWord_54 : decode cX5_readsWord 54 = .ok (.invokevirtual 205, 3) := dk_182 0 205 (dk_at dksX5_readsWord_2 9 rfl rfl)
theorem dX5_readsWord_57 : decode cX5_readsWord 57 = .ok (.pop, 1) := dk_87 (dk_at dksX5_readsWord_2 12 rfl rfl)
theorem dX5_readsWord_58 : decode cX5_readsWord 58 = .ok (.aload_n 0, 1) := dk_42 (dk_at dksX5_readsWord_2 13 rfl rfl)
theorem dX5_readsWord_59 : decode cX5_readsWord 59 = .ok (.invokevirtual 208, 3) := dk_182 0 208 (dk_at dksX5_readsWord_2 14 rfl rfl)
theorem dX5_readsWord_62 : decode cX5_readsWord 62 = .ok (.iload_n 1, 1) := dk_27 (dk_at dksX5_readsWord_2 17 rfl rfl)
theorem dX5_readsWord_63 : decode cX5_readsWord 63 = .ok (.ireturn, 1) := dk_172 (dk_at dksX5_readsWord_2 18 rfl rfl)
abbrev cX5_acts : ByteArray := prog_14_method_69_code
def yX5_acts : MethodName := ⟨RX5, "acts", "(I)I"⟩
def dkwX5_acts_5 : List UInt8 := [29, 21, 4, 182, 1, 26, 172, 42, 28, 29, 182, 1, 28, 172, 42, 28, 182, 1, 30, 172]
abbrev dktX5_acts_5 : List UInt8 := dkwX5_acts_5 ++ []
def dkwX5_acts_4 : List UInt8 := [182, 1, 18, 172, 42, 28, 182, 1, 20, 172, 42, 28, 182, 1, 22, 172, 42, 28, 182, 1, 24, 172, 42, 28]
abbrev dktX5_acts_4 : List UInt8 := dkwX5_acts_4 ++ dktX5_acts_5
def dkwX5_acts_3 : List UInt8 := [42, 28, 29, 21, 4, 42, 180, 0, 33, 27, 7, 96, 46, 182, 1, 15, 172, 42, 28, 29, 21, 4]
abbrev dktX5_acts_3 : List UInt8 := dkwX5_acts_3 ++ dktX5_acts_4
def dkwX5_acts_2 : List UInt8 := [170, 0, 0, 0, 0, 102, 0, 0, 0, 0, 0, 0, 0, 6, 0, 0, 0, 42, 0, 0, 0, 59, 0, 0, 0, 68, 0, 0, 0, 74, 0, 0, 0, 80, 0, 0, 0, 86, 0, 0, 0, 95]
abbrev dktX5_acts_2 : List UInt8 := dkwX5_acts_2 ++ dktX5_acts_3
def dkwX5_acts_1 : List UInt8 := [96, 46, 54, 4, 42, 180, 0, 33, 27, 46]
abbrev dktX5_acts_1 : List UInt8 := dkwX5_acts_1 ++ dktX5_acts_2
def dkwX5_acts_0 : List UInt8 := [42, 180, 0, 33, 27, 4, 96, 46, 61, 42, 180, 0, 33, 27, 5, 96, 46, 62, 42, 180, 0, 33, 27, 6]
abbrev dktX5_acts_0 : List UInt8 := dkwX5_acts_0 ++ dktX5_acts_1
theorem dksX5_acts_0 : cX5_acts.data.toList.drop 0 = dktX5_acts_0 := by decide +kernel
theorem dksX5_acts_1 : cX5_acts.data.toList.drop 24 = dktX5_acts_1 := dk_seg dksX5_acts_0 24 rfl rfl
theorem dksX5_acts_2 : cX5_acts.data.toList.drop 34 = dktX5_acts_2 := dk_seg dksX5_acts_1 10 rfl rfl
theorem dksX5_acts_3 : cX5_acts.data.toList.drop 76 = dktX5_acts_3 := dk_seg dksX5_acts_2 42 rfl rfl
theorem dksX5_acts_4 : cX5_acts.data.toList.drop 98 = dktX5_acts_4 := dk_seg dksX5_acts_3 22 rfl rfl
theorem dksX5_acts_5 : cX5_acts.data.toList.drop 122 = dktX5_acts_5 := dk_seg dksX5_acts_4 24 rfl rfl
theorem dX5_acts_0 : decode cX5_acts 0 = .ok (.aload_n 0, 1) := dk_42 (dk_at dksX5_acts_0 0 rfl rfl)
theorem dX5_acts_1 : decode cX5_acts 1 = .ok (.getfield 33, 3) := dk_180 0 33 (dk_at dksX5_acts_0 1 rfl rfl)
theorem dX5_acts_4 : decode cX5_acts 4 = .ok (.iload_n 1, 1) := dk_27 (dk_at dksX5_acts_0 4 rfl rfl)
theorem dX5_acts_5 : decode cX5_acts 5 = .ok (.iconst 1, 1) := dk_4 (dk_at dksX5_acts_0 5 rfl rfl)
theorem dX5_acts_6 : decode cX5_acts 6 = .ok (.iadd, 1) := dk_96 (dk_at dksX5_acts_0 6 rfl rfl)
theorem dX5_acts_7 : decode cX5_acts 7 = .ok (.iaload, 1) := dk_46 (dk_at dksX5_acts_0 7 rfl rfl)
theorem dX5_acts_8 : decode cX5_acts 8 = .ok (.istore_n 2, 1) := dk_61 (dk_at dksX5_acts_0 8 rfl rfl)
theorem dX5_acts_9 : decode cX5_acts 9 = .ok (.aload_n 0, 1) := dk_42 (dk_at dksX5_acts_0 9 rfl rfl)
theorem dX5_acts_10 : decode cX5_acts 10 = .ok (.getfield 33, 3) := dk_180 0 33 (dk_at dksX5_acts_0 10 rfl rfl)
theorem dX5_acts_13 : decode cX5_acts 13 = .ok (.iload_n 1, 1) := dk_27 (dk_at dksX5_acts_0 13 rfl rfl)
theorem dX5_acts_14 : decode cX5_acts 14 = .ok (.iconst 2, 1) := dk_5 (dk_at dksX5_acts_0 14 rfl rfl)
theorem dX5_acts_15 : decode cX5_acts 15 = .ok (.iadd, 1) := dk_96 (dk_at dksX5_acts_0 15 rfl rfl)
theorem dX5_acts_16 : decode cX5_acts 16 = .ok (.iaload, 1) := dk_46 (dk_at dksX5_acts_0 16 rfl rfl)
theorem dX5_acts_17 : decode cX5_acts 17 = .ok (.istore_n 3, 1) := dk_62 (dk_at dksX5_acts_0 17 rfl rfl)
theorem dX5_acts_18 : decode cX5_acts 18 = .ok (.aload_n 0, 1) := dk_42 (dk_at dksX5_acts_0 18 rfl rfl)
theorem dX5_acts_19 : decode cX5_acts 19 = .ok (.getfield 33, 3) := dk_180 0 33 (dk_at dksX5_acts_0 19 rfl rfl)
theorem dX5_acts_22 : decode cX5_acts 22 = .ok (.iload_n 1, 1) := dk_27 (dk_at dksX5_acts_0 22 rfl rfl)
theorem dX5_acts_23 : decode cX5_acts 23 = .ok (.iconst 3, 1) := dk_6 (dk_at dksX5_acts_0 23 rfl rfl)
theorem dX5_acts_24 : decode cX5_acts 24 = .ok (.iadd, 1) := dk_96 (dk_at dksX5_acts_1 0 rfl rfl)
theorem dX5_acts_25 : decode cX5_acts 25 = .ok (.iaload, 1) := dk_46 (dk_at dksX5_acts_1 1 rfl rfl)
theorem dX5_acts_26 : decode cX5_acts 26 = .ok (.istore 4, 2) := dk_54 4 (dk_at dksX5_acts_1 2 rfl rfl)
theorem dX5_acts_28 : decode cX5_acts 28 = .ok (.aload_n 0, 1) := dk_42 (dk_at dksX5_acts_1 4 rfl rfl)
theorem dX5_acts_29 : decode cX5_acts 29 = .ok (.getfield 33, 3) := dk_180 0 33 (dk_at dksX5_acts_1 5 rfl rfl)
theorem dX5_acts_32 : decode cX5_acts 32 = .ok (.iload_n 1, 1) := dk_27 (dk_at dksX5_acts_1 8 rfl rfl)
theorem dX5_acts_33 : decode cX5_acts 33 = .ok (.iaload, 1) := dk_46 (dk_at dksX5_acts_1 9 rfl rfl)
theorem dX5_acts_34 : decode cX5_acts 34 = .ok (.tableswitch 102 0 6 #[42, 59, 68, 74, 80, 86, 95], 42) := by decide +kernel
theorem dX5_acts_76 : decode cX5_acts 76 = .ok (.aload_n 0, 1) := dk_42 (dk_at dksX5_acts_3 0 rfl rfl)
theorem dX5_acts_77 : decode cX5_acts 77 = .ok (.iload_n 2, 1) := dk_28 (dk_at dksX5_acts_3 1 rfl rfl)
theorem dX5_acts_78 : decode cX5_acts 78 = .ok (.iload_n 3, 1) := dk_29 (dk_at dksX5_acts_3 2 rfl rfl)
theorem dX5_acts_79 : decode cX5_acts 79 = .ok (.iload 4, 2) := dk_21 4 (dk_at dksX5_acts_3 3 rfl rfl)
theorem dX5_acts_81 : decode cX5_acts 81 = .ok (.aload_n 0, 1) := dk_42 (dk_at dksX5_acts_3 5 rfl rfl)
theorem dX5_acts_82 : decode cX5_acts 82 = .ok (.getfield 33, 3) := dk_180 0 33 (dk_at dksX5_acts_3 6 rfl rfl)
theorem dX5_acts_85 : decode cX5_acts 85 = .ok (.iload_n 1, 1) := dk_27 (dk_at dksX5_acts_3 9 rfl rfl)
theorem dX5_acts_86 : decode cX5_acts 86 = .ok (.iconst 4, 1) := dk_7 (dk_at dksX5_acts_3 10 rfl rfl)
theorem dX5_acts_87 : decode cX5_acts 87 = .ok (.iadd, 1) := dk_96 (dk_at dksX5_acts_3 11 rfl rfl)
theorem dX5_acts_88 : decode cX5_acts 88 = .ok (.iaload, 1) := dk_46 (dk_at dksX5_acts_3 12 rfl rfl)
theorem dX5_acts_89 : decode cX5_acts 89 = .ok (.invokevirtual 271, 3) := dk_182 1 15 (dk_at dksX5_acts_3 13 rfl rfl)
theorem dX5_acts_92 : decode cX5_acts 92 = .ok (.ireturn, 1) := dk_172 (dk_at dksX5_acts_3 16 rfl rfl)
theorem dX5_acts_93 : decode cX5_acts 93 = .ok (.aload_n 0, 1) := dk_42 (dk_at dksX5_acts_3 17 rfl rfl)
theorem dX5_acts_94 : decode cX5_acts 94 = .ok (.iload_n 2, 1) := dk_28 (dk_at dksX5_acts_3 18 rfl rfl)
theorem dX5_acts_95 : decode cX5_acts 95 = .ok (.iload_n 3, 1) := dk_29 (dk_at dksX5_acts_3 19 rfl rfl)
theorem dX5_acts_96 : decode cX5_acts 96 = .ok (.iload 4, 2) := dk_21 4 (dk_at dksX5_acts_3 20 rfl rfl)
theorem dX5_acts_98 : decode cX5_acts 98 = .ok (.invokevirtual 274, 3) := dk_182 1 18 (dk_at dksX5_acts_4 0 rfl rfl)
theorem dX5_acts_101 : decode cX5_acts 101 = .ok (.ireturn, 1) := dk_172 (dk_at dksX5_acts_4 3 rfl rfl)
theorem dX5_acts_102 : decode cX5_acts 102 = .ok (.aload_n 0, 1) := dk_42 (dk_at dksX5_acts_4 4 rfl rfl)
theorem dX5_acts_103 : decode cX5_acts 103 = .ok (.iload_n 2, 1) := dk_28 (dk_at dksX5_acts_4 5 rfl rfl)
theorem dX5_acts_104 : decode cX5_acts 104 = .ok (.invokevirtual 276, 3) := dk_182 1 20 (dk_at dksX5_acts_4 6 rfl rfl)
theorem dX5_acts_107 : decode cX5_acts 107 = .ok (.ireturn, 1) := dk_172 (dk_at dksX5_acts_4 9 rfl rfl)
theorem dX5_acts_108 : decode cX5_acts 108 = .ok (.aload_n 0, 1) := dk_42 (dk_at dksX5_acts_4 10 rfl rfl)
theorem dX5_acts_109 : decode cX5_acts 109 = .ok (.iload_n 2, 1) := dk_28 (dk_at dksX5_acts_4 11 rfl rfl)
theorem dX5_acts_110 : decode cX5_acts 110 = .ok (.invokevirtual 278, 3) := dk_182 1 22 (dk_at dksX5_acts_4 12 rfl rfl)
theorem dX5_acts_113 : decode cX5_acts 113 = .ok (.ireturn, 1) := dk_172 (dk_at dksX5_acts_4 15 rfl rfl)
theorem dX5_acts_114 : decode cX5_acts 114 = .ok (.aload_n 0, 1) := dk_42 (dk_at dksX5_acts_4 16 rfl rfl)
theorem dX5_acts_115 : decode cX5_acts 115 = .ok (.iload_n 2, 1) := dk_28 (dk_at dksX5_acts_4 17 rfl rfl)
theorem dX5_acts_116 : decode cX5_acts 116 = .ok (.invokevirtual 280, 3) := dk_182 1 24 (dk_at dksX5_acts_4 18 rfl rfl)
theorem dX5_acts_119 : decode cX5_acts 119 = .ok (.ireturn, 1) := dk_172 (dk_at dksX5_acts_4 21 rfl rfl)
theorem dX5_acts_120 : decode cX5_acts 120 = .ok (.aload_n 0, 1) := dk_42 (dk_at dksX5_acts_4 22 rfl rfl)
theorem dX5_acts_121 : decode cX5_acts 121 = .ok (.iload_n 2, 1) := dk_28 (dk_at dksX5_acts_4 23 rfl rfl)
theorem dX5_acts_122 : decode cX5_acts 122 = .ok (.iload_n 3, 1) := dk_29 (dk_at dksX5_acts_5 0 rfl rfl)
theorem dX5_acts_123 : decode cX5_acts 123 = .ok (.iload 4, 2) := dk_21 4 (dk_at dksX5_acts_5 1 rfl rfl)
theorem dX5_acts_125 : decode cX5_acts 125 = .ok (.invokevirtual 282, 3) := dk_182 1 26 (dk_at dksX5_acts_5 3 rfl rfl)
theorem dX5_acts_128 : decode cX5_acts 128 = .ok (.ireturn, 1) := dk_172 (dk_at dksX5_acts_5 6 rfl rfl)
theorem dX5_acts_129 : decode cX5_acts 129 = .ok (.aload_n 0, 1) := dk_42 (dk_at dksX5_acts_5 7 rfl rfl)
theorem dX5_acts_130 : decode cX5_acts 130 = .ok (.iload_n 2, 1) := dk_28 (dk_at dksX5_acts_5 8 rfl rfl)
theorem dX5_acts_131 : decode cX5_acts 131 = .ok (.iload_n 3, 1) := dk_29 (dk_at dksX5_acts_5 9 rfl rfl)
theorem dX5_acts_132 : decode cX5_acts 132 = .ok (.invokevirtual 284, 3) := dk_182 1 28 (dk_at dksX5_acts_5 10 rfl rfl)
theorem dX5_acts_135 : decode cX5_acts 135 = .ok (.ireturn, 1) := dk_172 (dk_at dksX5_acts_5 13 rfl rfl)
theorem dX5_acts_136 : decode cX5_acts 136 = .ok (.aload_n 0, 1) := dk_42 (dk_at dksX5_acts_5 14 rfl rfl)
theorem dX5_acts_137 : decode cX5_acts 137 = .ok (.iload_n 2, 1) := dk_28 (dk_at dksX5_acts_5 15 rfl rfl)
theorem dX5_acts_138 : decode cX5_acts 138 = .ok (.invokevirtual 286, 3) := dk_182 1 30 (dk_at dksX5_acts_5 16 rfl rfl)
theorem dX5_acts_141 : decode cX5_acts 141 = .ok (.ireturn, 1) := dk_172 (dk_at dksX5_acts_5 19 rfl rfl)
abbrev cX5_say : ByteArray := prog_14_method_119_code
def yX5_say : MethodName := ⟨RX5, "say", "(IIII)I"⟩
def dkwX5_say_7 : List UInt8 := [182, 0, 146, 42, 21, 5, 6, 29, 182, 0, 146, 42, 6, 4, 182, 0, 62, 21, 5, 172]
abbrev dktX5_say_7 : List UInt8 := dkwX5_say_7 ++ []
def dkwX5_say_6 : List UInt8 := [42, 21, 5, 3, 27, 182, 0, 146, 42, 21, 5, 4, 28, 182, 0, 146, 42, 21, 5, 5, 21, 4]
abbrev dktX5_say_6 : List UInt8 := dkwX5_say_6 ++ dktX5_say_7
def dkwX5_say_5 : List UInt8 := [54, 6, 21, 6, 16, 18, 162, 0, 18, 42, 21, 5, 21, 6, 3, 182, 0, 146, 132, 6, 1, 167, 255, 237]
abbrev dktX5_say_5 : List UInt8 := dkwX5_say_5 ++ dktX5_say_6
def dkwX5_say_4 : List UInt8 := [16, 20, 160, 0, 9, 42, 4, 182, 1, 114, 172, 42, 182, 1, 117, 42, 6, 182, 0, 65, 54, 5, 3]
abbrev dktX5_say_4 : List UInt8 := dkwX5_say_4 ++ dktX5_say_5
def dkwX5_say_3 : List UInt8 := [42, 16, 11, 27, 96, 182, 0, 65, 154, 0, 10, 42, 16, 9, 182, 1, 114, 172, 42, 6, 182, 0, 65]
abbrev dktX5_say_3 : List UInt8 := dkwX5_say_3 ++ dktX5_say_4
def dkwX5_say_2 : List UInt8 := [184, 0, 165, 5, 182, 0, 161, 154, 0, 5, 3, 172, 28, 21, 4, 160, 0, 9, 42, 5, 182, 1, 114, 172]
abbrev dktX5_say_2 : List UInt8 := dkwX5_say_2 ++ dktX5_say_3
def dkwX5_say_1 : List UInt8 := [21, 4, 182, 1, 39, 153, 0, 7, 4, 167, 0, 4, 3, 4, 182, 0, 161, 153, 0, 17, 42, 29, 3, 5]
abbrev dktX5_say_1 : List UInt8 := dkwX5_say_1 ++ dktX5_say_2
def dkwX5_say_0 : List UInt8 := [42, 3, 181, 0, 56, 42, 42, 27, 182, 1, 51, 153, 0, 24, 42, 28, 182, 1, 39, 153, 0, 16, 42]
abbrev dktX5_say_0 : List UInt8 := dkwX5_say_0 ++ dktX5_say_1
theorem dksX5_say_0 : cX5_say.data.toList.drop 0 = dktX5_say_0 := by decide +kernel
theorem dksX5_say_1 : cX5_say.data.toList.drop 23 = dktX5_say_1 := dk_seg dksX5_say_0 23 rfl rfl
theorem dksX5_say_2 : cX5_say.data.toList.drop 47 = dktX5_say_2 := dk_seg dksX5_say_1 24 rfl rfl
theorem dksX5_say_3 : cX5_say.data.toList.drop 71 = dktX5_say_3 := dk_seg dksX5_say_2 24 rfl rfl
theorem dksX5_say_4 : cX5_say.data.toList.drop 94 = dktX5_say_4 := dk_seg dksX5_say_3 23 rfl rfl
theorem dksX5_say_5 : cX5_say.data.toList.drop 117 = dktX5_say_5 := dk_seg dksX5_say_4 23 rfl rfl
theorem dksX5_say_6 : cX5_say.data.toList.drop 141 = dktX5_say_6 := dk_seg dksX5_say_5 24 rfl rfl
theorem dksX5_say_7 : cX5_say.data.toList.drop 163 = dktX5_say_7 := dk_seg dksX5_say_6 22 rfl rfl
theorem dX5_say_0 : decode cX5_say 0 = .ok (.aload_n 0, 1) := dk_42 (dk_at dksX5_say_0 0 rfl rfl)
theorem dX5_say_1 : decode cX5_say 1 = .ok (.iconst 0, 1) := dk_3 (dk_at dksX5_say_0 1 rfl rfl)
theorem dX5_say_2 : decode cX5_say 2 = .ok (.putfield 56, 3) := dk_181 0 56 (dk_at dksX5_say_0 2 rfl rfl)
theorem dX5_say_5 : decode cX5_say 5 = .ok (.aload_n 0, 1) := dk_42 (dk_at dksX5_say_0 5 rfl rfl)
theorem dX5_say_6 : decode cX5_say 6 = .ok (.aload_n 0, 1) := dk_42 (dk_at dksX5_say_0 6 rfl rfl)
theorem dX5_say_7 : decode cX5_say 7 = .ok (.iload_n 1, 1) := dk_27 (dk_at dksX5_say_0 7 rfl rfl)
theorem dX5_say_8 : decode cX5_say 8 = .ok (.invokevirtual 307, 3) := dk_182 1 51 (dk_at dksX5_say_0 8 rfl rfl)
theorem dX5_say_11 : decode cX5_say 11 = .ok (.ifCond .eq 24, 3) := dk_153 0 24 (dk_at dksX5_say_0 11 rfl rfl)
theorem dX5_say_14 : decode cX5_say 14 = .ok (.aload_n 0, 1) := dk_42 (dk_at dksX5_say_0 14 rfl rfl)
theorem dX5_say_15 : decode cX5_say 15 = .ok (.iload_n 2, 1) := dk_28 (dk_at dksX5_say_0 15 rfl rfl)
theorem dX5_say_16 : decode cX5_say 16 = .ok (.invokevirtual 295, 3) := dk_182 1 39 (dk_at dksX5_say_0 16 rfl rfl)
theorem dX5_say_19 : decode cX5_say 19 = .ok (.ifCond .eq 16, 3) := dk_153 0 16 (dk_at dksX5_say_0 19 rfl rfl)
theorem dX5_say_22 : decode cX5_say 22 = .ok (.aload_n 0, 1) := dk_42 (dk_at dksX5_say_0 22 rfl rfl)
theorem dX5_say_23 : decode cX5_say 23 = .ok (.iload 4, 2) := dk_21 4 (dk_at dksX5_say_1 0 rfl rfl)
theorem dX5_say_25 : decode cX5_say 25 = .ok (.invokevirtual 295, 3) := dk_182 1 39 (dk_at dksX5_say_1 2 rfl rfl)
theorem dX5_say_28 : decode cX5_say 28 = .ok (.ifCond .eq 7, 3) := dk_153 0 7 (dk_at dksX5_say_1 5 rfl rfl)
theorem dX5_say_31 : decode cX5_say 31 = .ok (.iconst 1, 1) := dk_4 (dk_at dksX5_say_1 8 rfl rfl)
theorem dX5_say_32 : decode cX5_say 32 = .ok (.goto 4, 3) := dk_167 0 4 (dk_at dksX5_say_1 9 rfl rfl)
theorem dX5_say_35 : decode cX5_say 35 = .ok (.iconst 0, 1) := dk_3 (dk_at dksX5_say_1 12 rfl rfl)
theorem dX5_say_36 : decode cX5_say 36 = .ok (.iconst 1, 1) := dk_4 (dk_at dksX5_say_1 13 rfl rfl)
theorem dX5_say_37 : decode cX5_say 37 = .ok (.invokevirtual 161, 3) := dk_182 0 161 (dk_at dksX5_say_1 14 rfl rfl)
theorem dX5_say_40 : decode cX5_say 40 = .ok (.ifCond .eq 17, 3) := dk_153 0 17 (dk_at dksX5_say_1 17 rfl rfl)
theorem dX5_say_43 : decode cX5_say 43 = .ok (.aload_n 0, 1) := dk_42 (dk_at dksX5_say_1 20 rfl rfl)
theorem dX5_say_44 : decode cX5_say 44 = .ok (.iload_n 3, 1) := dk_29 (dk_at dksX5_say_1 21 rfl rfl)
theorem dX5_say_45 : decode cX5_say 45 = .ok (.iconst 0, 1) := dk_3 (dk_at dksX5_say_1 22 rfl rfl)
theorem dX5_say_46 : decode cX5_say 46 = .ok (.iconst 2, 1) := dk_5 (dk_at dksX5_say_1 23 rfl rfl)
theorem dX5_say_47 : decode cX5_say 47 = .ok (.invokestatic 165, 3) := dk_184 0 165 (dk_at dksX5_say_2 0 rfl rfl)
theorem dX5_say_50 : decode cX5_say 50 = .ok (.iconst 2, 1) := dk_5 (dk_at dksX5_say_2 3 rfl rfl)
theorem dX5_say_51 : decode cX5_say 51 = .ok (.invokevirtual 161, 3) := dk_182 0 161 (dk_at dksX5_say_2 4 rfl rfl)
theorem dX5_say_54 : decode cX5_say 54 = .ok (.ifCond .ne 5, 3) := dk_154 0 5 (dk_at dksX5_say_2 7 rfl rfl)
theorem dX5_say_57 : decode cX5_say 57 = .ok (.iconst 0, 1) := dk_3 (dk_at dksX5_say_2 10 rfl rfl)
theorem dX5_say_58 : decode cX5_say 58 = .ok (.ireturn, 1) := dk_172 (dk_at dksX5_say_2 11 rfl rfl)
theorem dX5_say_59 : decode cX5_say 59 = .ok (.iload_n 2, 1) := dk_28 (dk_at dksX5_say_2 12 rfl rfl)
theorem dX5_say_60 : decode cX5_say 60 = .ok (.iload 4, 2) := dk_21 4 (dk_at dksX5_say_2 13 rfl rfl)
theorem dX5_say_62 : decode cX5_say 62 = .ok (.if_icmp .ne 9, 3) := dk_160 0 9 (dk_at dksX5_say_2 15 rfl rfl)
theorem dX5_say_65 : decode cX5_say 65 = .ok (.aload_n 0, 1) := dk_42 (dk_at dksX5_say_2 18 rfl rfl)
theorem dX5_say_66 : decode cX5_say 66 = .ok (.iconst 2, 1) := dk_5 (dk_at dksX5_say_2 19 rfl rfl)
theorem dX5_say_67 : decode cX5_say 67 = .ok (.invokevirtual 370, 3) := dk_182 1 114 (dk_at dksX5_say_2 20 rfl rfl)
theorem dX5_say_70 : decode cX5_say 70 = .ok (.ireturn, 1) := dk_172 (dk_at dksX5_say_2 23 rfl rfl)
theorem dX5_say_71 : decode cX5_say 71 = .ok (.aload_n 0, 1) := dk_42 (dk_at dksX5_say_3 0 rfl rfl)
theorem dX5_say_72 : decode cX5_say 72 = .ok (.bipush 11, 2) := dk_16 11 (dk_at dksX5_say_3 1 rfl rfl)
theorem dX5_say_74 : decode cX5_say 74 = .ok (.iload_n 1, 1) := dk_27 (dk_at dksX5_say_3 3 rfl rfl)
theorem dX5_say_75 : decode cX5_say 75 = .ok (.iadd, 1) := dk_96 (dk_at dksX5_say_3 4 rfl rfl)
theorem dX5_say_76 : decode cX5_say 76 = .ok (.invokevirtual 65, 3) := dk_182 0 65 (dk_at dksX5_say_3 5 rfl rfl)
theorem dX5_say_79 : decode cX5_say 79 = .ok (.ifCond .ne 10, 3) := dk_154 0 10 (dk_at dksX5_say_3 8 rfl rfl)
theorem dX5_say_82 : decode cX5_say 82 = .ok (.aload_n 0, 1) := dk_42 (dk_at dksX5_say_3 11 rfl rfl)
theorem dX5_say_83 : decode cX5_say 83 = .ok (.bipush 9, 2) := dk_16 9 (dk_at dksX5_say_3 12 rfl rfl)
theorem dX5_say_85 : decode cX5_say 85 = .ok (.invokevirtual 370, 3) := dk_182 1 114 (dk_at dksX5_say_3 14 rfl rfl)
theorem dX5_say_88 : decode cX5_say 88 = .ok (.ireturn, 1) := dk_172 (dk_at dksX5_say_3 17 rfl rfl)
theorem dX5_say_89 : decode cX5_say 89 = .ok (.aload_n 0, 1) := dk_42 (dk_at dksX5_say_3 18 rfl rfl)
theorem dX5_say_90 : decode cX5_say 90 = .ok (.iconst 3, 1) := dk_6 (dk_at dksX5_say_3 19 rfl rfl)
theorem dX5_say_91 : decode cX5_say 91 = .ok (.invokevirtual 65, 3) := dk_182 0 65 (dk_at dksX5_say_3 20 rfl rfl)
theorem dX5_say_94 : decode cX5_say 94 = .ok (.bipush 20, 2) := dk_16 20 (dk_at dksX5_say_4 0 rfl rfl)
theorem dX5_say_96 : decode cX5_say 96 = .ok (.if_icmp .ne 9, 3) := dk_160 0 9 (dk_at dksX5_say_4 2 rfl rfl)
theorem dX5_say_99 : decode cX5_say 99 = .ok (.aload_n 0, 1) := dk_42 (dk_at dksX5_say_4 5 rfl rfl)
theorem dX5_say_100 : decode cX5_say 100 = .ok (.iconst 1, 1) := dk_4 (dk_at dksX5_say_4 6 rfl rfl)
theorem dX5_say_101 : decode cX5_say 101 = .ok (.invokevirtual 370, 3) := dk_182 1 114 (dk_at dksX5_say_4 7 rfl rfl)
theorem dX5_say_104 : decode cX5_say 104 = .ok (.ireturn, 1) := dk_172 (dk_at dksX5_say_4 10 rfl rfl)
theorem dX5_say_105 : decode cX5_say 105 = .ok (.aload_n 0, 1) := dk_42 (dk_at dksX5_say_4 11 rfl rfl)
theorem dX5_say_106 : decode cX5_say 106 = .ok (.invokevirtual 373, 3) := dk_182 1 117 (dk_at dksX5_say_4 12 rfl rfl)
theorem dX5_say_109 : decode cX5_say 109 = .ok (.aload_n 0, 1) := dk_42 (dk_at dksX5_say_4 15 rfl rfl)
theorem dX5_say_110 : decode cX5_say 110 = .ok (.iconst 3, 1) := dk_6 (dk_at dksX5_say_4 16 rfl rfl)
theorem dX5_say_111 : decode cX5_say 111 = .ok (.invokevirtual 65, 3) := dk_182 0 65 (dk_at dksX5_say_4 17 rfl rfl)
theorem dX5_say_114 : decode cX5_say 114 = .ok (.istore 5, 2) := dk_54 5 (dk_at dksX5_say_4 20 rfl rfl)
theorem dX5_say_116 : decode cX5_say 116 = .ok (.iconst 0, 1) := dk_3 (dk_at dksX5_say_4 22 rfl rfl)
theorem dX5_say_117 : decode cX5_say 117 = .ok (.istore 6, 2) := dk_54 6 (dk_at dksX5_say_5 0 rfl rfl)
theorem dX5_say_119 : decode cX5_say 119 = .ok (.iload 6, 2) := dk_21 6 (dk_at dksX5_say_5 2 rfl rfl)
theorem dX5_say_121 : decode cX5_say 121 = .ok (.bipush 18, 2) := dk_16 18 (dk_at dksX5_say_5 4 rfl rfl)
theorem dX5_say_123 : decode cX5_say 123 = .ok (.if_icmp .ge 18, 3) := dk_162 0 18 (dk_at dksX5_say_5 6 rfl rfl)
theorem dX5_say_126 : decode cX5_say 126 = .ok (.aload_n 0, 1) := dk_42 (dk_at dksX5_say_5 9 rfl rfl)
theorem dX5_say_127 : decode cX5_say 127 = .ok (.iload 5, 2) := dk_21 5 (dk_at dksX5_say_5 10 rfl rfl)
theorem dX5_say_129 : decode cX5_say 129 = .ok (.iload 6, 2) := dk_21 6 (dk_at dksX5_say_5 12 rfl rfl)
theorem dX5_say_131 : decode cX5_say 131 = .ok (.iconst 0, 1) := dk_3 (dk_at dksX5_say_5 14 rfl rfl)
theorem dX5_say_132 : decode cX5_say 132 = .ok (.invokevirtual 146, 3) := dk_182 0 146 (dk_at dksX5_say_5 15 rfl rfl)
theorem dX5_say_135 : decode cX5_say 135 = .ok (.iinc 6 1, 3) := dk_132 6 1 (dk_at dksX5_say_5 18 rfl rfl)
theorem dX5_say_138 : decode cX5_say 138 = .ok (.goto (-19), 3) := dk_167 255 237 (dk_at dksX5_say_5 21 rfl rfl)
theorem dX5_say_141 : decode cX5_say 141 = .ok (.aload_n 0, 1) := dk_42 (dk_at dksX5_say_6 0 rfl rfl)
theorem dX5_say_142 : decode cX5_say 142 = .ok (.iload 5, 2) := dk_21 5 (dk_at dksX5_say_6 1 rfl rfl)
theorem dX5_say_144 : decode cX5_say 144 = .ok (.iconst 0, 1) := dk_3 (dk_at dksX5_say_6 3 rfl rfl)
theorem dX5_say_145 : decode cX5_say 145 = .ok (.iload_n 1, 1) := dk_27 (dk_at dksX5_say_6 4 rfl rfl)
theorem dX5_say_146 : decode cX5_say 146 = .ok (.invokevirtual 146, 3) := dk_182 0 146 (dk_at dksX5_say_6 5 rfl rfl)
theorem dX5_say_149 : decode cX5_say 149 = .ok (.aload_n 0, 1) := dk_42 (dk_at dksX5_say_6 8 rfl rfl)
theorem dX5_say_150 : decode cX5_say 150 = .ok (.iload 5, 2) := dk_21 5 (dk_at dksX5_say_6 9 rfl rfl)
theorem dX5_say_152 : decode cX5_say 152 = .ok (.iconst 1, 1) := dk_4 (dk_at dksX5_say_6 11 rfl rfl)
theorem dX5_say_153 : decode cX5_say 153 = .ok (.iload_n 2, 1) := dk_28 (dk_at dksX5_say_6 12 rfl rfl)
theorem dX5_say_154 : decode cX5_say 154 = .ok (.invokevirtual 146, 3) := dk_182 0 146 (dk_at dksX5_say_6 13 rfl rfl)
theorem dX5_say_157 : decode cX5_say 157 = .ok (.aload_n 0, 1) := dk_42 (dk_at dksX5_say_6 16 rfl rfl)
theorem dX5_say_158 : decode cX5_say 158 = .ok (.iload 5, 2) := dk_21 5 (dk_at dksX5_say_6 17 rfl rfl)
theorem dX5_say_160 : decode cX5_say 160 = .ok (.iconst 2, 1) := dk_5 (dk_at dksX5_say_6 19 rfl rfl)
theorem dX5_say_161 : decode cX5_say 161 = .ok (.iload 4, 2) := dk_21 4 (dk_at dksX5_say_6 20 rfl rfl)
theorem dX5_say_163 : decode cX5_say 163 = .ok (.invokevirtual 146, 3) := dk_182 0 146 (dk_at dksX5_say_7 0 rfl rfl)
theorem dX5_say_166 : decode cX5_say 166 = .ok (.aload_n 0, 1) := dk_42 (dk_at dksX5_say_7 3 rfl rfl)
theorem dX5_say_167 : decode cX5_say 167 = .ok (.iload 5, 2) := dk_21 5 (dk_at dksX5_say_7 4 rfl rfl)
theorem dX5_say_169 : decode cX5_say 169 = .ok (.iconst 3, 1) := dk_6 (dk_at dksX5_say_7 6 rfl rfl)
theorem dX5_say_170 : decode cX5_say 170 = .ok (.iload_n 3, 1) := dk_29 (dk_at dksX5_say_7 7 rfl rfl)
theorem dX5_say_171 : decode cX5_say 171 = .ok (.invokevirtual 146, 3) := dk_182 0 146 (dk_at dksX5_say_7 8 rfl rfl)
theorem dX5_say_174 : decode cX5_say 174 = .ok (.aload_n 0, 1) := dk_42 (dk_at dksX5_say_7 11 rfl rfl)
theorem dX5_say_175 : decode cX5_say 175 = .ok (.iconst 3, 1) := dk_6 (dk_at dksX5_say_7 12 rfl rfl)
theorem dX5_say_176 : decode cX5_say 176 = .ok (.iconst 1, 1) := dk_4 (dk_at dksX5_say_7 13 rfl rfl)
theorem dX5_say_177 : decode cX5_say 177 = .ok (.invokevirtual 62, 3) := dk_182 0 62 (dk_at dksX5_say_7 14 rfl rfl)
theorem dX5_say_180 : decode cX5_say 180 = .ok (.iload 5, 2) := dk_21 5 (dk_at dksX5_say_7 17 rfl rfl)
theorem dX5_say_182 : decode cX5_say 182 = .ok (.ireturn, 1) := dk_172 (dk_at dksX5_say_7 19 rfl rfl)
abbrev cX5_isTrader : ByteArray := prog_14_method_73_code
def yX5_isTrader : MethodName := ⟨RX5, "isTrader", "(I)Z"⟩
def dkwX5_isTrader_0 : List UInt8 := [27, 3, 42, 3, 182, 0, 65, 4, 100, 184, 0, 165, 172]
abbrev dktX5_isTrader_0 : List UInt8 := dkwX5_isTrader_0 ++ []
theorem dksX5_isTrader_0 : cX5_isTrader.data.toList.drop 0 = dktX5_isTrader_0 := by decide +kernel
theorem dX5_isTrader_0 : decode cX5_isTrader 0 = .ok (.iload_n 1, 1) := dk_27 (dk_at dksX5_isTrader_0 0 rfl rfl)
theorem dX5_isTrader_1 : decode cX5_isTrader 1 = .ok (.iconst 0, 1) := dk_3 (dk_at dksX5_isTrader_0 1 rfl rfl)
theorem dX5_isTrader_2 : decode cX5_isTrader 2 = .ok (.aload_n 0, 1) := dk_42 (dk_at dksX5_isTrader_0 2 rfl rfl)
theorem dX5_isTrader_3 : decode cX5_isTrader 3 = .ok (.iconst 0, 1) := dk_3 (dk_at dksX5_isTrader_0 3 rfl rfl)
theorem dX5_isTrader_4 : decode cX5_isTrader 4 = .ok (.invokevirtual 65, 3) := dk_182 0 65 (dk_at dksX5_isTrader_0 4 rfl rfl)
theorem dX5_isTrader_7 : decode cX5_isTrader 7 = .ok (.iconst 1, 1) := dk_4 (dk_at dksX5_isTrader_0 7 rfl rfl)
theorem dX5_isTrader_8 : decode cX5_isTrader 8 = .ok (.isub, 1) := dk_100 (dk_at dksX5_isTrader_0 8 rfl rfl)
theorem dX5_isTrader_9 : decode cX5_isTrader 9 = .ok (.invokestatic 165, 3) := dk_184 0 165 (dk_at dksX5_isTrader_0 9 rfl rfl)
theorem dX5_isTrader_12 : decode cX5_isTrader 12 = .ok (.ireturn, 1) := dk_172 (dk_at dksX5_isTrader_0 12 rfl rfl)
abbrev cX5_isHeap : ByteArray := prog_14_method_74_code
def yX5_isHeap : MethodName := ⟨RX5, "isHeap", "(I)Z"⟩
def dkwX5_isHeap_0 : List UInt8 := [27, 3, 42, 4, 182, 0, 65, 4, 100, 184, 0, 165, 172]
abbrev dktX5_isHeap_0 : List UInt8 := dkwX5_isHeap_0 ++ []
theorem dksX5_isHeap_0 : cX5_isHeap.data.toList.drop 0 = dktX5_isHeap_0 := by decide +kernel
theorem dX5_isHeap_0 : decode cX5_isHeap 0 = .ok (.iload_n 1, 1) := dk_27 (dk_at dksX5_isHeap_0 0 rfl rfl)
theorem dX5_isHeap_1 : decode cX5_isHeap 1 = .ok (.iconst 0, 1) := dk_3 (dk_at dksX5_isHeap_0 1 rfl rfl)
theorem dX5_isHeap_2 : decode cX5_isHeap 2 = .ok (.aload_n 0, 1) := dk_42 (dk_at dksX5_isHeap_0 2 rfl rfl)
theorem dX5_isHeap_3 : decode cX5_isHeap 3 = .ok (.iconst 1, 1) := dk_4 (dk_at dksX5_isHeap_0 3 rfl rfl)
theorem dX5_isHeap_4 : decode cX5_isHeap 4 = .ok (.invokevirtual 65, 3) := dk_182 0 65 (dk_at dksX5_isHeap_0 4 rfl rfl)
theorem dX5_isHeap_7 : decode cX5_isHeap 7 = .ok (.iconst 1, 1) := dk_4 (dk_at dksX5_isHeap_0 7 rfl rfl)
theorem dX5_isHeap_8 : decode cX5_isHeap 8 = .ok (.isub, 1) := dk_100 (dk_at dksX5_isHeap_0 8 rfl rfl)
theorem dX5_isHeap_9 : decode cX5_isHeap 9 = .ok (.invokestatic 165, 3) := dk_184 0 165 (dk_at dksX5_isHeap_0 9 rfl rfl)
theorem dX5_isHeap_12 : decode cX5_isHeap 12 = .ok (.ireturn, 1) := dk_172 (dk_at dksX5_isHeap_0 12 rfl rfl)
abbrev cX5_refuses : ByteArray := prog_14_method_118_code
def yX5_refuses : MethodName := ⟨RX5, "refuses", "(I)I"⟩
def dkwX5_refuses_0 : List UInt8 := [42, 180, 0, 17, 27, 92, 46, 4, 96, 79, 27, 116, 172]
abbrev dktX5_refuses_0 : List UInt8 := dkwX5_refuses_0 ++ []
theorem dksX5_refuses_0 : cX5_refuses.data.toList.drop 0 = dktX5_refuses_0 := by decide +kernel
theorem dX5_refuses_0 : decode cX5_refuses 0 = .ok (.aload_n 0, 1) := dk_42 (dk_at dksX5_refuses_0 0 rfl rfl)
theorem dX5_refuses_1 : decode cX5_refuses 1 = .ok (.getfield 17, 3) := dk_180 0 17 (dk_at dksX5_refuses_0 1 rfl rfl)
theorem dX5_refuses_4 : decode cX5_refuses 4 = .ok (.iload_n 1, 1) := dk_27 (dk_at dksX5_refuses_0 4 rfl rfl)
theorem dX5_refuses_5 : decode cX5_refuses 5 = .ok (.dup2, 1) := dk_92 (dk_at dksX5_refuses_0 5 rfl rfl)
theorem dX5_refuses_6 : decode cX5_refuses 6 = .ok (.iaload, 1) := dk_46 (dk_at dksX5_refuses_0 6 rfl rfl)
theorem dX5_refuses_7 : decode cX5_refuses 7 = .ok (.iconst 1, 1) := dk_4 (dk_at dksX5_refuses_0 7 rfl rfl)
theorem dX5_refuses_8 : decode cX5_refuses 8 = .ok (.iadd, 1) := dk_96 (dk_at dksX5_refuses_0 8 rfl rfl)
theorem dX5_refuses_9 : decode cX5_refuses 9 = .ok (.iastore, 1) := dk_79 (dk_at dksX5_refuses_0 9 rfl rfl)
theorem dX5_refuses_10 : decode cX5_refuses 10 = .ok (.iload_n 1, 1) := dk_27 (dk_at dksX5_refuses_0 10 rfl rfl)
theorem dX5_refuses_11 : decode cX5_refuses 11 = .ok (.ineg, 1) := dk_116 (dk_at dksX5_refuses_0 11 rfl rfl)
theorem dX5_refuses_12 : decode cX5_refuses 12 = .ok (.ireturn, 1) := dk_172 (dk_at dksX5_refuses_0 12 rfl rfl)
abbrev cX5_keeps : ByteArray := prog_14_method_117_code
def yX5_keeps : MethodName := ⟨RX5, "keeps", "()V"⟩
def dkwX5_keeps_2 : List UInt8 := [42, 180, 0, 234, 96, 182, 0, 155, 42, 89, 180, 0, 234, 4, 96, 181, 0, 234, 177]
abbrev dktX5_keeps_2 : List UInt8 := dkwX5_keeps_2 ++ []
def dkwX5_keeps_1 : List UInt8 := [4, 100, 182, 0, 155, 132, 1, 1, 167, 255, 235, 42, 89, 180, 0, 234, 4, 100, 181, 0, 234, 42, 3, 4]
abbrev dktX5_keeps_1 : List UInt8 := dkwX5_keeps_1 ++ dktX5_keeps_2
def dkwX5_keeps_0 : List UInt8 := [42, 180, 0, 234, 16, 6, 160, 0, 39, 4, 60, 27, 16, 6, 162, 0, 21, 42, 4, 27, 96, 4, 27, 96]
abbrev dktX5_keeps_0 : List UInt8 := dkwX5_keeps_0 ++ dktX5_keeps_1
theorem dksX5_keeps_0 : cX5_keeps.data.toList.drop 0 = dktX5_keeps_0 := by decide +kernel
theorem dksX5_keeps_1 : cX5_keeps.data.toList.drop 24 = dktX5_keeps_1 := dk_seg dksX5_keeps_0 24 rfl rfl
theorem dksX5_keeps_2 : cX5_keeps.data.toList.drop 48 = dktX5_keeps_2 := dk_seg dksX5_keeps_1 24 rfl rfl
theorem dX5_keeps_0 : decode cX5_keeps 0 = .ok (.aload_n 0, 1) := dk_42 (dk_at dksX5_keeps_0 0 rfl rfl)
theorem dX5_keeps_1 : decode cX5_keeps 1 = .ok (.getfield 234, 3) := dk_180 0 234 (dk_at dksX5_keeps_0 1 rfl rfl)
theorem dX5_keeps_4 : decode cX5_keeps 4 = .ok (.bipush 6, 2) := dk_16 6 (dk_at dksX5_keeps_0 4 rfl rfl)
theorem dX5_keeps_6 : decode cX5_keeps 6 = .ok (.if_icmp .ne 39, 3) := dk_160 0 39 (dk_at dksX5_keeps_0 6 rfl rfl)
theorem dX5_keeps_9 : decode cX5_keeps 9 = .ok (.iconst 1, 1) := dk_4 (dk_at dksX5_keeps_0 9 rfl rfl)
theorem dX5_keeps_10 : decode cX5_keeps 10 = .ok (.istore_n 1, 1) := dk_60 (dk_at dksX5_keeps_0 10 rfl rfl)
theorem dX5_keeps_11 : decode cX5_keeps 11 = .ok (.iload_n 1, 1) := dk_27 (dk_at dksX5_keeps_0 11 rfl rfl)
theorem dX5_keeps_12 : decode cX5_keeps 12 = .ok (.bipush 6, 2) := dk_16 6 (dk_at dksX5_keeps_0 12 rfl rfl)
theorem dX5_keeps_14 : decode cX5_keeps 14 = .ok (.if_icmp .ge 21, 3) := dk_162 0 21 (dk_at dksX5_keeps_0 14 rfl rfl)
theorem dX5_keeps_17 : decode cX5_keeps 17 = .ok (.aload_n 0, 1) := dk_42 (dk_at dksX5_keeps_0 17 rfl rfl)
theorem dX5_keeps_18 : decode cX5_keeps 18 = .ok (.iconst 1, 1) := dk_4 (dk_at dksX5_keeps_0 18 rfl rfl)
theorem dX5_keeps_19 : decode cX5_keeps 19 = .ok (.iload_n 1, 1) := dk_27 (dk_at dksX5_keeps_0 19 rfl rfl)
theorem dX5_keeps_20 : decode cX5_keeps 20 = .ok (.iadd, 1) := dk_96 (dk_at dksX5_keeps_0 20 rfl rfl)
theorem dX5_keeps_21 : decode cX5_keeps 21 = .ok (.iconst 1, 1) := dk_4 (dk_at dksX5_keeps_0 21 rfl rfl)
theorem dX5_keeps_22 : decode cX5_keeps 22 = .ok (.iload_n 1, 1) := dk_27 (dk_at dksX5_keeps_0 22 rfl rfl)
theorem dX5_keeps_23 : decode cX5_keeps 23 = .ok (.iadd, 1) := dk_96 (dk_at dksX5_keeps_0 23 rfl rfl)
theorem dX5_keeps_24 : decode cX5_keeps 24 = .ok (.iconst 1, 1) := dk_4 (dk_at dksX5_keeps_1 0 rfl rfl)
theorem dX5_keeps_25 : decode cX5_keeps 25 = .ok (.isub, 1) := dk_100 (dk_at dksX5_keeps_1 1 rfl rfl)
theorem dX5_keeps_26 : decode cX5_keeps 26 = .ok (.invokevirtual 155, 3) := dk_182 0 155 (dk_at dksX5_keeps_1 2 rfl rfl)
theorem dX5_keeps_29 : decode cX5_keeps 29 = .ok (.iinc 1 1, 3) := dk_132 1 1 (dk_at dksX5_keeps_1 5 rfl rfl)
theorem dX5_keeps_32 : decode cX5_keeps 32 = .ok (.goto (-21), 3) := dk_167 255 235 (dk_at dksX5_keeps_1 8 rfl rfl)
theorem dX5_keeps_35 : decode cX5_keeps 35 = .ok (.aload_n 0, 1) := dk_42 (dk_at dksX5_keeps_1 11 rfl rfl)
theorem dX5_keeps_36 : decode cX5_keeps 36 = .ok (.dup, 1) := dk_89 (dk_at dksX5_keeps_1 12 rfl rfl)
theorem dX5_keeps_37 : decode cX5_keeps 37 = .ok (.getfield 234, 3) := dk_180 0 234 (dk_at dksX5_keeps_1 13 rfl rfl)
theorem dX5_keeps_40 : decode cX5_keeps 40 = .ok (.iconst 1, 1) := dk_4 (dk_at dksX5_keeps_1 16 rfl rfl)
theorem dX5_keeps_41 : decode cX5_keeps 41 = .ok (.isub, 1) := dk_100 (dk_at dksX5_keeps_1 17 rfl rfl)
theorem dX5_keeps_42 : decode cX5_keeps 42 = .ok (.putfield 234, 3) := dk_181 0 234 (dk_at dksX5_keeps_1 18 rfl rfl)
theorem dX5_keeps_45 : decode cX5_keeps 45 = .ok (.aload_n 0, 1) := dk_42 (dk_at dksX5_keeps_1 21 rfl rfl)
theorem dX5_keeps_46 : decode cX5_keeps 46 = .ok (.iconst 0, 1) := dk_3 (dk_at dksX5_keeps_1 22 rfl rfl)
theorem dX5_keeps_47 : decode cX5_keeps 47 = .ok (.iconst 1, 1) := dk_4 (dk_at dksX5_keeps_1 23 rfl rfl)
theorem dX5_keeps_48 : decode cX5_keeps 48 = .ok (.aload_n 0, 1) := dk_42 (dk_at dksX5_keeps_2 0 rfl rfl)
theorem dX5_keeps_49 : decode cX5_keeps 49 = .ok (.getfield 234, 3) := dk_180 0 234 (dk_at dksX5_keeps_2 1 rfl rfl)
theorem dX5_keeps_52 : decode cX5_keeps 52 = .ok (.iadd, 1) := dk_96 (dk_at dksX5_keeps_2 4 rfl rfl)
theorem dX5_keeps_53 : decode cX5_keeps 53 = .ok (.invokevirtual 155, 3) := dk_182 0 155 (dk_at dksX5_keeps_2 5 rfl rfl)
theorem dX5_keeps_56 : decode cX5_keeps 56 = .ok (.aload_n 0, 1) := dk_42 (dk_at dksX5_keeps_2 8 rfl rfl)
theorem dX5_keeps_57 : decode cX5_keeps 57 = .ok (.dup, 1) := dk_89 (dk_at dksX5_keeps_2 9 rfl rfl)
theorem dX5_keeps_58 : decode cX5_keeps 58 = .ok (.getfield 234, 3) := dk_180 0 234 (dk_at dksX5_keeps_2 10 rfl rfl)
theorem dX5_keeps_61 : decode cX5_keeps 61 = .ok (.iconst 1, 1) := dk_4 (dk_at dksX5_keeps_2 13 rfl rfl)
theorem dX5_keeps_62 : decode cX5_keeps 62 = .ok (.iadd, 1) := dk_96 (dk_at dksX5_keeps_2 14 rfl rfl)
theorem dX5_keeps_63 : decode cX5_keeps 63 = .ok (.putfield 234, 3) := dk_181 0 234 (dk_at dksX5_keeps_2 15 rfl rfl)
theorem dX5_keeps_66 : decode cX5_keeps 66 = .ok (.return_, 1) := dk_177 (dk_at dksX5_keeps_2 18 rfl rfl)
abbrev cX5_layClaim : ByteArray := prog_14_method_14_code
def yX5_layClaim : MethodName := ⟨RX5, "layClaim", "(III)V"⟩
def dkwX5_layClaim_0 : List UInt8 := [42, 17, 0, 185, 16, 18, 27, 104, 96, 28, 96, 29, 182, 0, 42, 177]
abbrev dktX5_layClaim_0 : List UInt8 := dkwX5_layClaim_0 ++ []
theorem dksX5_layClaim_0 : cX5_layClaim.data.toList.drop 0 = dktX5_layClaim_0 := by decide +kernel
theorem dX5_layClaim_0 : decode cX5_layClaim 0 = .ok (.aload_n 0, 1) := dk_42 (dk_at dksX5_layClaim_0 0 rfl rfl)
theorem dX5_layClaim_1 : decode cX5_layClaim 1 = .ok (.sipush 185, 3) := dk_17 0 185 (dk_at dksX5_layClaim_0 1 rfl rfl)
theorem dX5_layClaim_4 : decode cX5_layClaim 4 = .ok (.bipush 18, 2) := dk_16 18 (dk_at dksX5_layClaim_0 4 rfl rfl)
theorem dX5_layClaim_6 : decode cX5_layClaim 6 = .ok (.iload_n 1, 1) := dk_27 (dk_at dksX5_layClaim_0 6 rfl rfl)
theorem dX5_layClaim_7 : decode cX5_layClaim 7 = .ok (.imul, 1) := dk_104 (dk_at dksX5_layClaim_0 7 rfl rfl)
theorem dX5_layClaim_8 : decode cX5_layClaim 8 = .ok (.iadd, 1) := dk_96 (dk_at dksX5_layClaim_0 8 rfl rfl)
theorem dX5_layClaim_9 : decode cX5_layClaim 9 = .ok (.iload_n 2, 1) := dk_28 (dk_at dksX5_layClaim_0 9 rfl rfl)
theorem dX5_layClaim_10 : decode cX5_layClaim 10 = .ok (.iadd, 1) := dk_96 (dk_at dksX5_layClaim_0 10 rfl rfl)
theorem dX5_layClaim_11 : decode cX5_layClaim 11 = .ok (.iload_n 3, 1) := dk_29 (dk_at dksX5_layClaim_0 11 rfl rfl)
theorem dX5_layClaim_12 : decode cX5_layClaim 12 = .ok (.invokevirtual 42, 3) := dk_182 0 42 (dk_at dksX5_layClaim_0 12 rfl rfl)
theorem dX5_layClaim_15 : decode cX5_layClaim 15 = .ok (.return_, 1) := dk_177 (dk_at dksX5_layClaim_0 15 rfl rfl)
abbrev cX5_pair : ByteArray := prog_14_method_120_code
def yX5_pair : MethodName := ⟨RX5, "pair", "(III)I"⟩
def dkwX5_pair_5 : List UInt8 := [182, 0, 137, 96, 172]
abbrev dktX5_pair_5 : List UInt8 := dkwX5_pair_5 ++ []
def dkwX5_pair_4 : List UInt8 := [182, 1, 114, 172, 42, 182, 1, 117, 42, 27, 28, 29, 182, 1, 120, 42, 27, 3, 182, 0, 137, 42, 27, 4]
abbrev dktX5_pair_4 : List UInt8 := dkwX5_pair_4 ++ dktX5_pair_5
def dkwX5_pair_3 : List UInt8 := [42, 27, 3, 28, 182, 0, 134, 153, 0, 13, 42, 27, 4, 29, 182, 0, 134, 154, 0, 9, 42, 7]
abbrev dktX5_pair_3 : List UInt8 := dkwX5_pair_3 ++ dktX5_pair_4
def dkwX5_pair_2 : List UInt8 := [3, 4, 182, 0, 161, 154, 0, 5, 3, 172, 42, 27, 182, 0, 130, 154, 0, 9, 42, 6, 182, 1, 114, 172]
abbrev dktX5_pair_2 : List UInt8 := dkwX5_pair_2 ++ dktX5_pair_3
def dkwX5_pair_1 : List UInt8 := [182, 1, 72, 153, 0, 21, 42, 42, 27, 4, 182, 0, 123, 29, 182, 1, 72, 153, 0, 7, 4, 167, 0, 4]
abbrev dktX5_pair_1 : List UInt8 := dkwX5_pair_1 ++ dktX5_pair_2
def dkwX5_pair_0 : List UInt8 := [42, 3, 181, 0, 56, 42, 42, 27, 182, 1, 75, 153, 0, 35, 42, 42, 27, 3, 182, 0, 123, 28]
abbrev dktX5_pair_0 : List UInt8 := dkwX5_pair_0 ++ dktX5_pair_1
theorem dksX5_pair_0 : cX5_pair.data.toList.drop 0 = dktX5_pair_0 := by decide +kernel
theorem dksX5_pair_1 : cX5_pair.data.toList.drop 22 = dktX5_pair_1 := dk_seg dksX5_pair_0 22 rfl rfl
theorem dksX5_pair_2 : cX5_pair.data.toList.drop 46 = dktX5_pair_2 := dk_seg dksX5_pair_1 24 rfl rfl
theorem dksX5_pair_3 : cX5_pair.data.toList.drop 70 = dktX5_pair_3 := dk_seg dksX5_pair_2 24 rfl rfl
theorem dksX5_pair_4 : cX5_pair.data.toList.drop 92 = dktX5_pair_4 := dk_seg dksX5_pair_3 22 rfl rfl
theorem dksX5_pair_5 : cX5_pair.data.toList.drop 116 = dktX5_pair_5 := dk_seg dksX5_pair_4 24 rfl rfl
theorem dX5_pair_0 : decode cX5_pair 0 = .ok (.aload_n 0, 1) := dk_42 (dk_at dksX5_pair_0 0 rfl rfl)
theorem dX5_pair_1 : decode cX5_pair 1 = .ok (.iconst 0, 1) := dk_3 (dk_at dksX5_pair_0 1 rfl rfl)
theorem dX5_pair_2 : decode cX5_pair 2 = .ok (.putfield 56, 3) := dk_181 0 56 (dk_at dksX5_pair_0 2 rfl rfl)
theorem dX5_pair_5 : decode cX5_pair 5 = .ok (.aload_n 0, 1) := dk_42 (dk_at dksX5_pair_0 5 rfl rfl)
theorem dX5_pair_6 : decode cX5_pair 6 = .ok (.aload_n 0, 1) := dk_42 (dk_at dksX5_pair_0 6 rfl rfl)
theorem dX5_pair_7 : decode cX5_pair 7 = .ok (.iload_n 1, 1) := dk_27 (dk_at dksX5_pair_0 7 rfl rfl)
theorem dX5_pair_8 : decode cX5_pair 8 = .ok (.invokevirtual 331, 3) := dk_182 1 75 (dk_at dksX5_pair_0 8 rfl rfl)
theorem dX5_pair_11 : decode cX5_pair 11 = .ok (.ifCond .eq 35, 3) := dk_153 0 35 (dk_at dksX5_pair_0 11 rfl rfl)
theorem dX5_pair_14 : decode cX5_pair 14 = .ok (.aload_n 0, 1) := dk_42 (dk_at dksX5_pair_0 14 rfl rfl)
theorem dX5_pair_15 : decode cX5_pair 15 = .ok (.aload_n 0, 1) := dk_42 (dk_at dksX5_pair_0 15 rfl rfl)
theorem dX5_pair_16 : decode cX5_pair 16 = .ok (.iload_n 1, 1) := dk_27 (dk_at dksX5_pair_0 16 rfl rfl)
theorem dX5_pair_17 : decode cX5_pair 17 = .ok (.iconst 0, 1) := dk_3 (dk_at dksX5_pair_0 17 rfl rfl)
theorem dX5_pair_18 : decode cX5_pair 18 = .ok (.invokevirtual 123, 3) := dk_182 0 123 (dk_at dksX5_pair_0 18 rfl rfl)
theorem dX5_pair_21 : decode cX5_pair 21 = .ok (.iload_n 2, 1) := dk_28 (dk_at dksX5_pair_0 21 rfl rfl)
theorem dX5_pair_22 : decode cX5_pair 22 = .ok (.invokevirtual 328, 3) := dk_182 1 72 (dk_at dksX5_pair_1 0 rfl rfl)
theorem dX5_pair_25 : decode cX5_pair 25 = .ok (.ifCond .eq 21, 3) := dk_153 0 21 (dk_at dksX5_pair_1 3 rfl rfl)
theorem dX5_pair_28 : decode cX5_pair 28 = .ok (.aload_n 0, 1) := dk_42 (dk_at dksX5_pair_1 6 rfl rfl)
theorem dX5_pair_29 : decode cX5_pair 29 = .ok (.aload_n 0, 1) := dk_42 (dk_at dksX5_pair_1 7 rfl rfl)
theorem dX5_pair_30 : decode cX5_pair 30 = .ok (.iload_n 1, 1) := dk_27 (dk_at dksX5_pair_1 8 rfl rfl)
theorem dX5_pair_31 : decode cX5_pair 31 = .ok (.iconst 1, 1) := dk_4 (dk_at dksX5_pair_1 9 rfl rfl)
theorem dX5_pair_32 : decode cX5_pair 32 = .ok (.invokevirtual 123, 3) := dk_182 0 123 (dk_at dksX5_pair_1 10 rfl rfl)
theorem dX5_pair_35 : decode cX5_pair 35 = .ok (.iload_n 3, 1) := dk_29 (dk_at dksX5_pair_1 13 rfl rfl)
theorem dX5_pair_36 : decode cX5_pair 36 = .ok (.invokevirtual 328, 3) := dk_182 1 72 (dk_at dksX5_pair_1 14 rfl rfl)
theorem dX5_pair_39 : decode cX5_pair 39 = .ok (.ifCond .eq 7, 3) := dk_153 0 7 (dk_at dksX5_pair_1 17 rfl rfl)
theorem dX5_pair_42 : decode cX5_pair 42 = .ok (.iconst 1, 1) := dk_4 (dk_at dksX5_pair_1 20 rfl rfl)
theorem dX5_pair_43 : decode cX5_pair 43 = .ok (.goto 4, 3) := dk_167 0 4 (dk_at dksX5_pair_1 21 rfl rfl)
theorem dX5_pair_46 : decode cX5_pair 46 = .ok (.iconst 0, 1) := dk_3 (dk_at dksX5_pair_2 0 rfl rfl)
theorem dX5_pair_47 : decode cX5_pair 47 = .ok (.iconst 1, 1) := dk_4 (dk_at dksX5_pair_2 1 rfl rfl)
theorem dX5_pair_48 : decode cX5_pair 48 = .ok (.invokevirtual 161, 3) := dk_182 0 161 (dk_at dksX5_pair_2 2 rfl rfl)
theorem dX5_pair_51 : decode cX5_pair 51 = .ok (.ifCond .ne 5, 3) := dk_154 0 5 (dk_at dksX5_pair_2 5 rfl rfl)
theorem dX5_pair_54 : decode cX5_pair 54 = .ok (.iconst 0, 1) := dk_3 (dk_at dksX5_pair_2 8 rfl rfl)
theorem dX5_pair_55 : decode cX5_pair 55 = .ok (.ireturn, 1) := dk_172 (dk_at dksX5_pair_2 9 rfl rfl)
theorem dX5_pair_56 : decode cX5_pair 56 = .ok (.aload_n 0, 1) := dk_42 (dk_at dksX5_pair_2 10 rfl rfl)
theorem dX5_pair_57 : decode cX5_pair 57 = .ok (.iload_n 1, 1) := dk_27 (dk_at dksX5_pair_2 11 rfl rfl)
theorem dX5_pair_58 : decode cX5_pair 58 = .ok (.invokevirtual 130, 3) := dk_182 0 130 (dk_at dksX5_pair_2 12 rfl rfl)
theorem dX5_pair_61 : decode cX5_pair 61 = .ok (.ifCond .ne 9, 3) := dk_154 0 9 (dk_at dksX5_pair_2 15 rfl rfl)
theorem dX5_pair_64 : decode cX5_pair 64 = .ok (.aload_n 0, 1) := dk_42 (dk_at dksX5_pair_2 18 rfl rfl)
theorem dX5_pair_65 : decode cX5_pair 65 = .ok (.iconst 3, 1) := dk_6 (dk_at dksX5_pair_2 19 rfl rfl)
theorem dX5_pair_66 : decode cX5_pair 66 = .ok (.invokevirtual 370, 3) := dk_182 1 114 (dk_at dksX5_pair_2 20 rfl rfl)
theorem dX5_pair_69 : decode cX5_pair 69 = .ok (.ireturn, 1) := dk_172 (dk_at dksX5_pair_2 23 rfl rfl)
theorem dX5_pair_70 : decode cX5_pair 70 = .ok (.aload_n 0, 1) := dk_42 (dk_at dksX5_pair_3 0 rfl rfl)
theorem dX5_pair_71 : decode cX5_pair 71 = .ok (.iload_n 1, 1) := dk_27 (dk_at dksX5_pair_3 1 rfl rfl)
theorem dX5_pair_72 : decode cX5_pair 72 = .ok (.iconst 0, 1) := dk_3 (dk_at dksX5_pair_3 2 rfl rfl)
theorem dX5_pair_73 : decode cX5_pair 73 = .ok (.iload_n 2, 1) := dk_28 (dk_at dksX5_pair_3 3 rfl rfl)
theorem dX5_pair_74 : decode cX5_pair 74 = .ok (.invokevirtual 134, 3) := dk_182 0 134 (dk_at dksX5_pair_3 4 rfl rfl)
theorem dX5_pair_77 : decode cX5_pair 77 = .ok (.ifCond .eq 13, 3) := dk_153 0 13 (dk_at dksX5_pair_3 7 rfl rfl)
theorem dX5_pair_80 : decode cX5_pair 80 = .ok (.aload_n 0, 1) := dk_42 (dk_at dksX5_pair_3 10 rfl rfl)
theorem dX5_pair_81 : decode cX5_pair 81 = .ok (.iload_n 1, 1) := dk_27 (dk_at dksX5_pair_3 11 rfl rfl)
theorem dX5_pair_82 : decode cX5_pair 82 = .ok (.iconst 1, 1) := dk_4 (dk_at dksX5_pair_3 12 rfl rfl)
theorem dX5_pair_83 : decode cX5_pair 83 = .ok (.iload_n 3, 1) := dk_29 (dk_at dksX5_pair_3 13 rfl rfl)
theorem dX5_pair_84 : decode cX5_pair 84 = .ok (.invokevirtual 134, 3) := dk_182 0 134 (dk_at dksX5_pair_3 14 rfl rfl)
theorem dX5_pair_87 : decode cX5_pair 87 = .ok (.ifCond .ne 9, 3) := dk_154 0 9 (dk_at dksX5_pair_3 17 rfl rfl)
theorem dX5_pair_90 : decode cX5_pair 90 = .ok (.aload_n 0, 1) := dk_42 (dk_at dksX5_pair_3 20 rfl rfl)
theorem dX5_pair_91 : decode cX5_pair 91 = .ok (.iconst 4, 1) := dk_7 (dk_at dksX5_pair_3 21 rfl rfl)
theorem dX5_pair_92 : decode cX5_pair 92 = .ok (.invokevirtual 370, 3) := dk_182 1 114 (dk_at dksX5_pair_4 0 rfl rfl)
theorem dX5_pair_95 : decode cX5_pair 95 = .ok (.ireturn, 1) := dk_172 (dk_at dksX5_pair_4 3 rfl rfl)
theorem dX5_pair_96 : decode cX5_pair 96 = .ok (.aload_n 0, 1) := dk_42 (dk_at dksX5_pair_4 4 rfl rfl)
theorem dX5_pair_97 : decode cX5_pair 97 = .ok (.invokevirtual 373, 3) := dk_182 1 117 (dk_at dksX5_pair_4 5 rfl rfl)
theorem dX5_pair_100 : decode cX5_pair 100 = .ok (.aload_n 0, 1) := dk_42 (dk_at dksX5_pair_4 8 rfl rfl)
theorem dX5_pair_101 : decode cX5_pair 101 = .ok (.iload_n 1, 1) := dk_27 (dk_at dksX5_pair_4 9 rfl rfl)
theorem dX5_pair_102 : decode cX5_pair 102 = .ok (.iload_n 2, 1) := dk_28 (dk_at dksX5_pair_4 10 rfl rfl)
theorem dX5_pair_103 : decode cX5_pair 103 = .ok (.iload_n 3, 1) := dk_29 (dk_at dksX5_pair_4 11 rfl rfl)
theorem dX5_pair_104 : decode cX5_pair 104 = .ok (.invokevirtual 376, 3) := dk_182 1 120 (dk_at dksX5_pair_4 12 rfl rfl)
theorem dX5_pair_107 : decode cX5_pair 107 = .ok (.aload_n 0, 1) := dk_42 (dk_at dksX5_pair_4 15 rfl rfl)
theorem dX5_pair_108 : decode cX5_pair 108 = .ok (.iload_n 1, 1) := dk_27 (dk_at dksX5_pair_4 16 rfl rfl)
theorem dX5_pair_109 : decode cX5_pair 109 = .ok (.iconst 0, 1) := dk_3 (dk_at dksX5_pair_4 17 rfl rfl)
theorem dX5_pair_110 : decode cX5_pair 110 = .ok (.invokevirtual 137, 3) := dk_182 0 137 (dk_at dksX5_pair_4 18 rfl rfl)
theorem dX5_pair_113 : decode cX5_pair 113 = .ok (.aload_n 0, 1) := dk_42 (dk_at dksX5_pair_4 21 rfl rfl)
theorem dX5_pair_114 : decode cX5_pair 114 = .ok (.iload_n 1, 1) := dk_27 (dk_at dksX5_pair_4 22 rfl rfl)
theorem dX5_pair_115 : decode cX5_pair 115 = .ok (.iconst 1, 1) := dk_4 (dk_at dksX5_pair_4 23 rfl rfl)
theorem dX5_pair_116 : decode cX5_pair 116 = .ok (.invokevirtual 137, 3) := dk_182 0 137 (dk_at dksX5_pair_5 0 rfl rfl)
theorem dX5_pair_119 : decode cX5_pair 119 = .ok (.iadd, 1) := dk_96 (dk_at dksX5_pair_5 3 rfl rfl)
theorem dX5_pair_120 : decode cX5_pair 120 = .ok (.ireturn, 1) := dk_172 (dk_at dksX5_pair_5 4 rfl rfl)
abbrev cX5_isClaim : ByteArray := prog_14_method_76_code
def yX5_isClaim : MethodName := ⟨RX5, "isClaim", "(I)Z"⟩
def dkwX5_isClaim_0 : List UInt8 := [27, 3, 42, 6, 182, 0, 65, 4, 100, 184, 0, 165, 172]
abbrev dktX5_isClaim_0 : List UInt8 := dkwX5_isClaim_0 ++ []
theorem dksX5_isClaim_0 : cX5_isClaim.data.toList.drop 0 = dktX5_isClaim_0 := by decide +kernel
theorem dX5_isClaim_0 : decode cX5_isClaim 0 = .ok (.iload_n 1, 1) := dk_27 (dk_at dksX5_isClaim_0 0 rfl rfl)
theorem dX5_isClaim_1 : decode cX5_isClaim 1 = .ok (.iconst 0, 1) := dk_3 (dk_at dksX5_isClaim_0 1 rfl rfl)
theorem dX5_isClaim_2 : decode cX5_isClaim 2 = .ok (.aload_n 0, 1) := dk_42 (dk_at dksX5_isClaim_0 2 rfl rfl)
theorem dX5_isClaim_3 : decode cX5_isClaim 3 = .ok (.iconst 3, 1) := dk_6 (dk_at dksX5_isClaim_0 3 rfl rfl)
theorem dX5_isClaim_4 : decode cX5_isClaim 4 = .ok (.invokevirtual 65, 3) := dk_182 0 65 (dk_at dksX5_isClaim_0 4 rfl rfl)
theorem dX5_isClaim_7 : decode cX5_isClaim 7 = .ok (.iconst 1, 1) := dk_4 (dk_at dksX5_isClaim_0 7 rfl rfl)
theorem dX5_isClaim_8 : decode cX5_isClaim 8 = .ok (.isub, 1) := dk_100 (dk_at dksX5_isClaim_0 8 rfl rfl)
theorem dX5_isClaim_9 : decode cX5_isClaim 9 = .ok (.invokestatic 165, 3) := dk_184 0 165 (dk_at dksX5_isClaim_0 9 rfl rfl)
theorem dX5_isClaim_12 : decode cX5_isClaim 12 = .ok (.ireturn, 1) := dk_172 (dk_at dksX5_isClaim_0 12 rfl rfl)
abbrev cX5_sideOf : ByteArray := prog_14_method_37_code
def yX5_sideOf : MethodName := ⟨RX5, "sideOf", "(II)I"⟩
def dkwX5_sideOf_0 : List UInt8 := [42, 27, 4, 28, 96, 182, 0, 73, 172]
abbrev dktX5_sideOf_0 : List UInt8 := dkwX5_sideOf_0 ++ []
theorem dksX5_sideOf_0 : cX5_sideOf.data.toList.drop 0 = dktX5_sideOf_0 := by decide +kernel
theorem dX5_sideOf_0 : decode cX5_sideOf 0 = .ok (.aload_n 0, 1) := dk_42 (dk_at dksX5_sideOf_0 0 rfl rfl)
theorem dX5_sideOf_1 : decode cX5_sideOf 1 = .ok (.iload_n 1, 1) := dk_27 (dk_at dksX5_sideOf_0 1 rfl rfl)
theorem dX5_sideOf_2 : decode cX5_sideOf 2 = .ok (.iconst 1, 1) := dk_4 (dk_at dksX5_sideOf_0 2 rfl rfl)
theorem dX5_sideOf_3 : decode cX5_sideOf 3 = .ok (.iload_n 2, 1) := dk_28 (dk_at dksX5_sideOf_0 3 rfl rfl)
theorem dX5_sideOf_4 : decode cX5_sideOf 4 = .ok (.iadd, 1) := dk_96 (dk_at dksX5_sideOf_0 4 rfl rfl)
theorem dX5_sideOf_5 : decode cX5_sideOf 5 = .ok (.invokevirtual 73, 3) := dk_182 0 73 (dk_at dksX5_sideOf_0 5 rfl rfl)
theorem dX5_sideOf_8 : decode cX5_sideOf 8 = .ok (.ireturn, 1) := dk_172 (dk_at dksX5_sideOf_0 8 rfl rfl)
abbrev cX5_cl : ByteArray := prog_14_method_13_code
def yX5_cl : MethodName := ⟨RX5, "cl", "(II)I"⟩
def dkwX5_cl_0 : List UInt8 := [42, 17, 0, 185, 16, 18, 27, 104, 96, 28, 96, 182, 0, 65, 172]
abbrev dktX5_cl_0 : List UInt8 := dkwX5_cl_0 ++ []
theorem dksX5_cl_0 : cX5_cl.data.toList.drop 0 = dktX5_cl_0 := by decide +kernel
theorem dX5_cl_0 : decode cX5_cl 0 = .ok (.aload_n 0, 1) := dk_42 (dk_at dksX5_cl_0 0 rfl rfl)
theorem dX5_cl_1 : decode cX5_cl 1 = .ok (.sipush 185, 3) := dk_17 0 185 (dk_at dksX5_cl_0 1 rfl rfl)
theorem dX5_cl_4 : decode cX5_cl 4 = .ok (.bipush 18, 2) := dk_16 18 (dk_at dksX5_cl_0 4 rfl rfl)
theorem dX5_cl_6 : decode cX5_cl 6 = .ok (.iload_n 1, 1) := dk_27 (dk_at dksX5_cl_0 6 rfl rfl)
theorem dX5_cl_7 : decode cX5_cl 7 = .ok (.imul, 1) := dk_104 (dk_at dksX5_cl_0 7 rfl rfl)
theorem dX5_cl_8 : decode cX5_cl 8 = .ok (.iadd, 1) := dk_96 (dk_at dksX5_cl_0 8 rfl rfl)
theorem dX5_cl_9 : decode cX5_cl 9 = .ok (.iload_n 2, 1) := dk_28 (dk_at dksX5_cl_0 9 rfl rfl)
theorem dX5_cl_10 : decode cX5_cl 10 = .ok (.iadd, 1) := dk_96 (dk_at dksX5_cl_0 10 rfl rfl)
theorem dX5_cl_11 : decode cX5_cl 11 = .ok (.invokevirtual 65, 3) := dk_182 0 65 (dk_at dksX5_cl_0 11 rfl rfl)
theorem dX5_cl_14 : decode cX5_cl 14 = .ok (.ireturn, 1) := dk_172 (dk_at dksX5_cl_0 14 rfl rfl)
abbrev cX5_isRow : ByteArray := prog_14_method_75_code
def yX5_isRow : MethodName := ⟨RX5, "isRow", "(II)Z"⟩
def dkwX5_isRow_1 : List UInt8 := [4, 167, 0, 4, 3, 172]
abbrev dktX5_isRow_1 : List UInt8 := dkwX5_isRow_1 ++ []
def dkwX5_isRow_0 : List UInt8 := [42, 27, 182, 1, 39, 153, 0, 23, 28, 3, 42, 27, 4, 182, 0, 69, 4, 100, 184, 0, 165, 153, 0, 7]
abbrev dktX5_isRow_0 : List UInt8 := dkwX5_isRow_0 ++ dktX5_isRow_1
theorem dksX5_isRow_0 : cX5_isRow.data.toList.drop 0 = dktX5_isRow_0 := by decide +kernel
theorem dksX5_isRow_1 : cX5_isRow.data.toList.drop 24 = dktX5_isRow_1 := dk_seg dksX5_isRow_0 24 rfl rfl
theorem dX5_isRow_0 : decode cX5_isRow 0 = .ok (.aload_n 0, 1) := dk_42 (dk_at dksX5_isRow_0 0 rfl rfl)
theorem dX5_isRow_1 : decode cX5_isRow 1 = .ok (.iload_n 1, 1) := dk_27 (dk_at dksX5_isRow_0 1 rfl rfl)
theorem dX5_isRow_2 : decode cX5_isRow 2 = .ok (.invokevirtual 295, 3) := dk_182 1 39 (dk_at dksX5_isRow_0 2 rfl rfl)
theorem dX5_isRow_5 : decode cX5_isRow 5 = .ok (.ifCond .eq 23, 3) := dk_153 0 23 (dk_at dksX5_isRow_0 5 rfl rfl)
theorem dX5_isRow_8 : decode cX5_isRow 8 = .ok (.iload_n 2, 1) := dk_28 (dk_at dksX5_isRow_0 8 rfl rfl)
theorem dX5_isRow_9 : decode cX5_isRow 9 = .ok (.iconst 0, 1) := dk_3 (dk_at dksX5_isRow_0 9 rfl rfl)
theorem dX5_isRow_10 : decode cX5_isRow 10 = .ok (.aload_n 0, 1) := dk_42 (dk_at dksX5_isRow_0 10 rfl rfl)
theorem dX5_isRow_11 : decode cX5_isRow 11 = .ok (.iload_n 1, 1) := dk_27 (dk_at dksX5_isRow_0 11 rfl rfl)
theorem dX5_isRow_12 : decode cX5_isRow 12 = .ok (.iconst 1, 1) := dk_4 (dk_at dksX5_isRow_0 12 rfl rfl)
theorem dX5_isRow_13 : decode cX5_isRow 13 = .ok (.invokevirtual 69, 3) := dk_182 0 69 (dk_at dksX5_isRow_0 13 rfl rfl)
theorem dX5_isRow_16 : decode cX5_isRow 16 = .ok (.iconst 1, 1) := dk_4 (dk_at dksX5_isRow_0 16 rfl rfl)
theorem dX5_isRow_17 : decode cX5_isRow 17 = .ok (.isub, 1) := dk_100 (dk_at dksX5_isRow_0 17 rfl rfl)
theorem dX5_isRow_18 : decode cX5_isRow 18 = .ok (.invokestatic 165, 3) := dk_184 0 165 (dk_at dksX5_isRow_0 18 rfl rfl)
theorem dX5_isRow_21 : decode cX5_isRow 21 = .ok (.ifCond .eq 7, 3) := dk_153 0 7 (dk_at dksX5_isRow_0 21 rfl rfl)
theorem dX5_isRow_24 : decode cX5_isRow 24 = .ok (.iconst 1, 1) := dk_4 (dk_at dksX5_isRow_1 0 rfl rfl)
theorem dX5_isRow_25 : decode cX5_isRow 25 = .ok (.goto 4, 3) := dk_167 0 4 (dk_at dksX5_isRow_1 1 rfl rfl)
theorem dX5_isRow_28 : decode cX5_isRow 28 = .ok (.iconst 0, 1) := dk_3 (dk_at dksX5_isRow_1 4 rfl rfl)
theorem dX5_isRow_29 : decode cX5_isRow 29 = .ok (.ireturn, 1) := dk_172 (dk_at dksX5_isRow_1 5 rfl rfl)
abbrev cX5_isOpen : ByteArray := prog_14_method_38_code
def yX5_isOpen : MethodName := ⟨RX5, "isOpen", "(I)Z"⟩
def dkwX5_isOpen_0 : List UInt8 := [42, 27, 7, 182, 0, 73, 154, 0, 7, 4, 167, 0, 4, 3, 172]
abbrev dktX5_isOpen_0 : List UInt8 := dkwX5_isOpen_0 ++ []
theorem dksX5_isOpen_0 : cX5_isOpen.data.toList.drop 0 = dktX5_isOpen_0 := by decide +kernel
theorem dX5_isOpen_0 : decode cX5_isOpen 0 = .ok (.aload_n 0, 1) := dk_42 (dk_at dksX5_isOpen_0 0 rfl rfl)
theorem dX5_isOpen_1 : decode cX5_isOpen 1 = .ok (.iload_n 1, 1) := dk_27 (dk_at dksX5_isOpen_0 1 rfl rfl)
theorem dX5_isOpen_2 : decode cX5_isOpen 2 = .ok (.iconst 4, 1) := dk_7 (dk_at dksX5_isOpen_0 2 rfl rfl)
theorem dX5_isOpen_3 : decode cX5_isOpen 3 = .ok (.invokevirtual 73, 3) := dk_182 0 73 (dk_at dksX5_isOpen_0 3 rfl rfl)
theorem dX5_isOpen_6 : decode cX5_isOpen 6 = .ok (.ifCond .ne 7, 3) := dk_154 0 7 (dk_at dksX5_isOpen_0 6 rfl rfl)
theorem dX5_isOpen_9 : decode cX5_isOpen 9 = .ok (.iconst 1, 1) := dk_4 (dk_at dksX5_isOpen_0 9 rfl rfl)
theorem dX5_isOpen_10 : decode cX5_isOpen 10 = .ok (.goto 4, 3) := dk_167 0 4 (dk_at dksX5_isOpen_0 10 rfl rfl)
theorem dX5_isOpen_13 : decode cX5_isOpen 13 = .ok (.iconst 0, 1) := dk_3 (dk_at dksX5_isOpen_0 13 rfl rfl)
theorem dX5_isOpen_14 : decode cX5_isOpen 14 = .ok (.ireturn, 1) := dk_172 (dk_at dksX5_isOpen_0 14 rfl rfl)
abbrev cX5_leftIn : ByteArray := prog_14_method_39_code
def yX5_leftIn : MethodName := ⟨RX5, "leftIn", "(III)I"⟩
def dkwX5_leftIn_0 : List UInt8 := [42, 42, 27, 28, 182, 0, 123, 29, 182, 0, 80, 42, 27, 28, 29, 182, 0, 126, 100, 172]
abbrev dktX5_leftIn_0 : List UInt8 := dkwX5_leftIn_0 ++ []
theorem dksX5_leftIn_0 : cX5_leftIn.data.toList.drop 0 = dktX5_leftIn_0 := by decide +kernel
theorem dX5_leftIn_0 : decode cX5_leftIn 0 = .ok (.aload_n 0, 1) := dk_42 (dk_at dksX5_leftIn_0 0 rfl rfl)
theorem dX5_leftIn_1 : decode cX5_leftIn 1 = .ok (.aload_n 0, 1) := dk_42 (dk_at dksX5_leftIn_0 1 rfl rfl)
theorem dX5_leftIn_2 : decode cX5_leftIn 2 = .ok (.iload_n 1, 1) := dk_27 (dk_at dksX5_leftIn_0 2 rfl rfl)
theorem dX5_leftIn_3 : decode cX5_leftIn 3 = .ok (.iload_n 2, 1) := dk_28 (dk_at dksX5_leftIn_0 3 rfl rfl)
theorem dX5_leftIn_4 : decode cX5_leftIn 4 = .ok (.invokevirtual 123, 3) := dk_182 0 123 (dk_at dksX5_leftIn_0 4 rfl rfl)
theorem dX5_leftIn_7 : decode cX5_leftIn 7 = .ok (.iload_n 3, 1) := dk_29 (dk_at dksX5_leftIn_0 7 rfl rfl)
theorem dX5_leftIn_8 : decode cX5_leftIn 8 = .ok (.invokevirtual 80, 3) := dk_182 0 80 (dk_at dksX5_leftIn_0 8 rfl rfl)
theorem dX5_leftIn_11 : decode cX5_leftIn 11 = .ok (.aload_n 0, 1) := dk_42 (dk_at dksX5_leftIn_0 11 rfl rfl)
theorem dX5_leftIn_12 : decode cX5_leftIn 12 = .ok (.iload_n 1, 1) := dk_27 (dk_at dksX5_leftIn_0 12 rfl rfl)
theorem dX5_leftIn_13 : decode cX5_leftIn 13 = .ok (.iload_n 2, 1) := dk_28 (dk_at dksX5_leftIn_0 13 rfl rfl)
theorem dX5_leftIn_14 : decode cX5_leftIn 14 = .ok (.iload_n 3, 1) := dk_29 (dk_at dksX5_leftIn_0 14 rfl rfl)
theorem dX5_leftIn_15 : decode cX5_leftIn 15 = .ok (.invokevirtual 126, 3) := dk_182 0 126 (dk_at dksX5_leftIn_0 15 rfl rfl)
theorem dX5_leftIn_18 : decode cX5_leftIn 18 = .ok (.isub, 1) := dk_100 (dk_at dksX5_leftIn_0 18 rfl rfl)
theorem dX5_leftIn_19 : decode cX5_leftIn 19 = .ok (.ireturn, 1) := dk_172 (dk_at dksX5_leftIn_0 19 rfl rfl)
abbrev cX5_stones : ByteArray := prog_14_method_16_code
def yX5_stones : MethodName := ⟨RX5, "stones", "(II)I"⟩
def dkwX5_stones_0 : List UInt8 := [42, 27, 5, 28, 96, 182, 0, 69, 172]
abbrev dktX5_stones_0 : List UInt8 := dkwX5_stones_0 ++ []
theorem dksX5_stones_0 : cX5_stones.data.toList.drop 0 = dktX5_stones_0 := by decide +kernel
theorem dX5_stones_0 : decode cX5_stones 0 = .ok (.aload_n 0, 1) := dk_42 (dk_at dksX5_stones_0 0 rfl rfl)
theorem dX5_stones_1 : decode cX5_stones 1 = .ok (.iload_n 1, 1) := dk_27 (dk_at dksX5_stones_0 1 rfl rfl)
theorem dX5_stones_2 : decode cX5_stones 2 = .ok (.iconst 2, 1) := dk_5 (dk_at dksX5_stones_0 2 rfl rfl)
theorem dX5_stones_3 : decode cX5_stones 3 = .ok (.iload_n 2, 1) := dk_28 (dk_at dksX5_stones_0 3 rfl rfl)
theorem dX5_stones_4 : decode cX5_stones 4 = .ok (.iadd, 1) := dk_96 (dk_at dksX5_stones_0 4 rfl rfl)
theorem dX5_stones_5 : decode cX5_stones 5 = .ok (.invokevirtual 69, 3) := dk_182 0 69 (dk_at dksX5_stones_0 5 rfl rfl)
theorem dX5_stones_8 : decode cX5_stones 8 = .ok (.ireturn, 1) := dk_172 (dk_at dksX5_stones_0 8 rfl rfl)
abbrev cX5_pairedOf : ByteArray := prog_14_method_17_code
def yX5_pairedOf : MethodName := ⟨RX5, "pairedOf", "(III)I"⟩
def dkwX5_pairedOf_0 : List UInt8 := [42, 27, 16, 8, 8, 28, 104, 96, 29, 96, 182, 0, 73, 172]
abbrev dktX5_pairedOf_0 : List UInt8 := dkwX5_pairedOf_0 ++ []
theorem dksX5_pairedOf_0 : cX5_pairedOf.data.toList.drop 0 = dktX5_pairedOf_0 := by decide +kernel
theorem dX5_pairedOf_0 : decode cX5_pairedOf 0 = .ok (.aload_n 0, 1) := dk_42 (dk_at dksX5_pairedOf_0 0 rfl rfl)
theorem dX5_pairedOf_1 : decode cX5_pairedOf 1 = .ok (.iload_n 1, 1) := dk_27 (dk_at dksX5_pairedOf_0 1 rfl rfl)
theorem dX5_pairedOf_2 : decode cX5_pairedOf 2 = .ok (.bipush 8, 2) := dk_16 8 (dk_at dksX5_pairedOf_0 2 rfl rfl)
theorem dX5_pairedOf_4 : decode cX5_pairedOf 4 = .ok (.iconst 5, 1) := dk_8 (dk_at dksX5_pairedOf_0 4 rfl rfl)
theorem dX5_pairedOf_5 : decode cX5_pairedOf 5 = .ok (.iload_n 2, 1) := dk_28 (dk_at dksX5_pairedOf_0 5 rfl rfl)
theorem dX5_pairedOf_6 : decode cX5_pairedOf 6 = .ok (.imul, 1) := dk_104 (dk_at dksX5_pairedOf_0 6 rfl rfl)
theorem dX5_pairedOf_7 : decode cX5_pairedOf 7 = .ok (.iadd, 1) := dk_96 (dk_at dksX5_pairedOf_0 7 rfl rfl)
theorem dX5_pairedOf_8 : decode cX5_pairedOf 8 = .ok (.iload_n 3, 1) := dk_29 (dk_at dksX5_pairedOf_0 8 rfl rfl)
theorem dX5_pairedOf_9 : decode cX5_pairedOf 9 = .ok (.iadd, 1) := dk_96 (dk_at dksX5_pairedOf_0 9 rfl rfl)
theorem dX5_pairedOf_10 : decode cX5_pairedOf 10 = .ok (.invokevirtual 73, 3) := dk_182 0 73 (dk_at dksX5_pairedOf_0 10 rfl rfl)
theorem dX5_pairedOf_13 : decode cX5_pairedOf 13 = .ok (.ireturn, 1) := dk_172 (dk_at dksX5_pairedOf_0 13 rfl rfl)
abbrev cX5_pairs : ByteArray := prog_14_method_42_code
def yX5_pairs : MethodName := ⟨RX5, "pairs", "(III)V"⟩
def dkwX5_pairs_1 : List UInt8 := [182, 0, 140, 42, 3, 4, 182, 0, 143, 177]
abbrev dktX5_pairs_1 : List UInt8 := dkwX5_pairs_1 ++ []
def dkwX5_pairs_0 : List UInt8 := [42, 27, 16, 8, 28, 96, 4, 182, 0, 140, 42, 27, 16, 13, 29, 96, 4, 182, 0, 140, 42, 27, 8, 4]
abbrev dktX5_pairs_0 : List UInt8 := dkwX5_pairs_0 ++ dktX5_pairs_1
theorem dksX5_pairs_0 : cX5_pairs.data.toList.drop 0 = dktX5_pairs_0 := by decide +kernel
theorem dksX5_pairs_1 : cX5_pairs.data.toList.drop 24 = dktX5_pairs_1 := dk_seg dksX5_pairs_0 24 rfl rfl
theorem dX5_pairs_0 : decode cX5_pairs 0 = .ok (.aload_n 0, 1) := dk_42 (dk_at dksX5_pairs_0 0 rfl rfl)
theorem dX5_pairs_1 : decode cX5_pairs 1 = .ok (.iload_n 1, 1) := dk_27 (dk_at dksX5_pairs_0 1 rfl rfl)
theorem dX5_pairs_2 : decode cX5_pairs 2 = .ok (.bipush 8, 2) := dk_16 8 (dk_at dksX5_pairs_0 2 rfl rfl)
theorem dX5_pairs_4 : decode cX5_pairs 4 = .ok (.iload_n 2, 1) := dk_28 (dk_at dksX5_pairs_0 4 rfl rfl)
theorem dX5_pairs_5 : decode cX5_pairs 5 = .ok (.iadd, 1) := dk_96 (dk_at dksX5_pairs_0 5 rfl rfl)
theorem dX5_pairs_6 : decode cX5_pairs 6 = .ok (.iconst 1, 1) := dk_4 (dk_at dksX5_pairs_0 6 rfl rfl)
theorem dX5_pairs_7 : decode cX5_pairs 7 = .ok (.invokevirtual 140, 3) := dk_182 0 140 (dk_at dksX5_pairs_0 7 rfl rfl)
theorem dX5_pairs_10 : decode cX5_pairs 10 = .ok (.aload_n 0, 1) := dk_42 (dk_at dksX5_pairs_0 10 rfl rfl)
theorem dX5_pairs_11 : decode cX5_pairs 11 = .ok (.iload_n 1, 1) := dk_27 (dk_at dksX5_pairs_0 11 rfl rfl)
theorem dX5_pairs_12 : decode cX5_pairs 12 = .ok (.bipush 13, 2) := dk_16 13 (dk_at dksX5_pairs_0 12 rfl rfl)
theorem dX5_pairs_14 : decode cX5_pairs 14 = .ok (.iload_n 3, 1) := dk_29 (dk_at dksX5_pairs_0 14 rfl rfl)
theorem dX5_pairs_15 : decode cX5_pairs 15 = .ok (.iadd, 1) := dk_96 (dk_at dksX5_pairs_0 15 rfl rfl)
theorem dX5_pairs_16 : decode cX5_pairs 16 = .ok (.iconst 1, 1) := dk_4 (dk_at dksX5_pairs_0 16 rfl rfl)
theorem dX5_pairs_17 : decode cX5_pairs 17 = .ok (.invokevirtual 140, 3) := dk_182 0 140 (dk_at dksX5_pairs_0 17 rfl rfl)
theorem dX5_pairs_20 : decode cX5_pairs 20 = .ok (.aload_n 0, 1) := dk_42 (dk_at dksX5_pairs_0 20 rfl rfl)
theorem dX5_pairs_21 : decode cX5_pairs 21 = .ok (.iload_n 1, 1) := dk_27 (dk_at dksX5_pairs_0 21 rfl rfl)
theorem dX5_pairs_22 : decode cX5_pairs 22 = .ok (.iconst 5, 1) := dk_8 (dk_at dksX5_pairs_0 22 rfl rfl)
theorem dX5_pairs_23 : decode cX5_pairs 23 = .ok (.iconst 1, 1) := dk_4 (dk_at dksX5_pairs_0 23 rfl rfl)
theorem dX5_pairs_24 : decode cX5_pairs 24 = .ok (.invokevirtual 140, 3) := dk_182 0 140 (dk_at dksX5_pairs_1 0 rfl rfl)
theorem dX5_pairs_27 : decode cX5_pairs 27 = .ok (.aload_n 0, 1) := dk_42 (dk_at dksX5_pairs_1 3 rfl rfl)
theorem dX5_pairs_28 : decode cX5_pairs 28 = .ok (.iconst 0, 1) := dk_3 (dk_at dksX5_pairs_1 4 rfl rfl)
theorem dX5_pairs_29 : decode cX5_pairs 29 = .ok (.iconst 1, 1) := dk_4 (dk_at dksX5_pairs_1 5 rfl rfl)
theorem dX5_pairs_30 : decode cX5_pairs 30 = .ok (.invokevirtual 143, 3) := dk_182 0 143 (dk_at dksX5_pairs_1 6 rfl rfl)
theorem dX5_pairs_33 : decode cX5_pairs 33 = .ok (.return_, 1) := dk_177 (dk_at dksX5_pairs_1 9 rfl rfl)
abbrev cX5_addsClaim : ByteArray := prog_14_method_15_code
def yX5_addsClaim : MethodName := ⟨RX5, "addsClaim", "(III)V"⟩
def dkwX5_addsClaim_0 : List UInt8 := [42, 17, 0, 185, 16, 18, 27, 104, 96, 28, 96, 29, 182, 0, 62, 177]
abbrev dktX5_addsClaim_0 : List UInt8 := dkwX5_addsClaim_0 ++ []
theorem dksX5_addsClaim_0 : cX5_addsClaim.data.toList.drop 0 = dktX5_addsClaim_0 := by decide +kernel
theorem dX5_addsClaim_0 : decode cX5_addsClaim 0 = .ok (.aload_n 0, 1) := dk_42 (dk_at dksX5_addsClaim_0 0 rfl rfl)
theorem dX5_addsClaim_1 : decode cX5_addsClaim 1 = .ok (.sipush 185, 3) := dk_17 0 185 (dk_at dksX5_addsClaim_0 1 rfl rfl)
theorem dX5_addsClaim_4 : decode cX5_addsClaim 4 = .ok (.bipush 18, 2) := dk_16 18 (dk_at dksX5_addsClaim_0 4 rfl rfl)
theorem dX5_addsClaim_6 : decode cX5_addsClaim 6 = .ok (.iload_n 1, 1) := dk_27 (dk_at dksX5_addsClaim_0 6 rfl rfl)
theorem dX5_addsClaim_7 : decode cX5_addsClaim 7 = .ok (.imul, 1) := dk_104 (dk_at dksX5_addsClaim_0 7 rfl rfl)
theorem dX5_addsClaim_8 : decode cX5_addsClaim 8 = .ok (.iadd, 1) := dk_96 (dk_at dksX5_addsClaim_0 8 rfl rfl)
theorem dX5_addsClaim_9 : decode cX5_addsClaim 9 = .ok (.iload_n 2, 1) := dk_28 (dk_at dksX5_addsClaim_0 9 rfl rfl)
theorem dX5_addsClaim_10 : decode cX5_addsClaim 10 = .ok (.iadd, 1) := dk_96 (dk_at dksX5_addsClaim_0 10 rfl rfl)
theorem dX5_addsClaim_11 : decode cX5_addsClaim 11 = .ok (.iload_n 3, 1) := dk_29 (dk_at dksX5_addsClaim_0 11 rfl rfl)
theorem dX5_addsClaim_12 : decode cX5_addsClaim 12 = .ok (.invokevirtual 62, 3) := dk_182 0 62 (dk_at dksX5_addsClaim_0 12 rfl rfl)
theorem dX5_addsClaim_15 : decode cX5_addsClaim 15 = .ok (.return_, 1) := dk_177 (dk_at dksX5_addsClaim_0 15 rfl rfl)
abbrev cX5_tallies : ByteArray := prog_14_method_6_code
def yX5_tallies : MethodName := ⟨RX5, "tallies", "(II)V"⟩
def dkwX5_tallies_0 : List UInt8 := [42, 7, 27, 96, 28, 182, 0, 62, 177]
abbrev dktX5_tallies_0 : List UInt8 := dkwX5_tallies_0 ++ []
theorem dksX5_tallies_0 : cX5_tallies.data.toList.drop 0 = dktX5_tallies_0 := by decide +kernel
theorem dX5_tallies_0 : decode cX5_tallies 0 = .ok (.aload_n 0, 1) := dk_42 (dk_at dksX5_tallies_0 0 rfl rfl)
theorem dX5_tallies_1 : decode cX5_tallies 1 = .ok (.iconst 4, 1) := dk_7 (dk_at dksX5_tallies_0 1 rfl rfl)
theorem dX5_tallies_2 : decode cX5_tallies 2 = .ok (.iload_n 1, 1) := dk_27 (dk_at dksX5_tallies_0 2 rfl rfl)
theorem dX5_tallies_3 : decode cX5_tallies 3 = .ok (.iadd, 1) := dk_96 (dk_at dksX5_tallies_0 3 rfl rfl)
theorem dX5_tallies_4 : decode cX5_tallies 4 = .ok (.iload_n 2, 1) := dk_28 (dk_at dksX5_tallies_0 4 rfl rfl)
theorem dX5_tallies_5 : decode cX5_tallies 5 = .ok (.invokevirtual 62, 3) := dk_182 0 62 (dk_at dksX5_tallies_0 5 rfl rfl)
theorem dX5_tallies_8 : decode cX5_tallies 8 = .ok (.return_, 1) := dk_177 (dk_at dksX5_tallies_0 8 rfl rfl)
abbrev cX5_leftOf : ByteArray := prog_14_method_40_code
def yX5_leftOf : MethodName := ⟨RX5, "leftOf", "(II)I"⟩
def dkwX5_leftOf_2 : List UInt8 := [182, 0, 134, 96, 62, 132, 4, 1, 167, 255, 226, 29, 172]
abbrev dktX5_leftOf_2 : List UInt8 := dkwX5_leftOf_2 ++ []
def dkwX5_leftOf_1 : List UInt8 := [21, 4, 42, 42, 27, 28, 182, 0, 123, 4, 182, 0, 69, 162, 0, 20, 29, 42, 27, 28, 21, 4]
abbrev dktX5_leftOf_1 : List UInt8 := dkwX5_leftOf_1 ++ dktX5_leftOf_2
def dkwX5_leftOf_0 : List UInt8 := [42, 27, 182, 0, 130, 154, 0, 13, 42, 27, 16, 6, 28, 96, 182, 0, 73, 172, 3, 62, 3, 54, 4]
abbrev dktX5_leftOf_0 : List UInt8 := dkwX5_leftOf_0 ++ dktX5_leftOf_1
theorem dksX5_leftOf_0 : cX5_leftOf.data.toList.drop 0 = dktX5_leftOf_0 := by decide +kernel
theorem dksX5_leftOf_1 : cX5_leftOf.data.toList.drop 23 = dktX5_leftOf_1 := dk_seg dksX5_leftOf_0 23 rfl rfl
theorem dksX5_leftOf_2 : cX5_leftOf.data.toList.drop 45 = dktX5_leftOf_2 := dk_seg dksX5_leftOf_1 22 rfl rfl
theorem dX5_leftOf_0 : decode cX5_leftOf 0 = .ok (.aload_n 0, 1) := dk_42 (dk_at dksX5_leftOf_0 0 rfl rfl)
theorem dX5_leftOf_1 : decode cX5_leftOf 1 = .ok (.iload_n 1, 1) := dk_27 (dk_at dksX5_leftOf_0 1 rfl rfl)
theorem dX5_leftOf_2 : decode cX5_leftOf 2 = .ok (.invokevirtual 130, 3) := dk_182 0 130 (dk_at dksX5_leftOf_0 2 rfl rfl)
theorem dX5_leftOf_5 : decode cX5_leftOf 5 = .ok (.ifCond .ne 13, 3) := dk_154 0 13 (dk_at dksX5_leftOf_0 5 rfl rfl)
theorem dX5_leftOf_8 : decode cX5_leftOf 8 = .ok (.aload_n 0, 1) := dk_42 (dk_at dksX5_leftOf_0 8 rfl rfl)
theorem dX5_leftOf_9 : decode cX5_leftOf 9 = .ok (.iload_n 1, 1) := dk_27 (dk_at dksX5_leftOf_0 9 rfl rfl)
theorem dX5_leftOf_10 : decode cX5_leftOf 10 = .ok (.bipush 6, 2) := dk_16 6 (dk_at dksX5_leftOf_0 10 rfl rfl)
theorem dX5_leftOf_12 : decode cX5_leftOf 12 = .ok (.iload_n 2, 1) := dk_28 (dk_at dksX5_leftOf_0 12 rfl rfl)
theorem dX5_leftOf_13 : decode cX5_leftOf 13 = .ok (.iadd, 1) := dk_96 (dk_at dksX5_leftOf_0 13 rfl rfl)
theorem dX5_leftOf_14 : decode cX5_leftOf 14 = .ok (.invokevirtual 73, 3) := dk_182 0 73 (dk_at dksX5_leftOf_0 14 rfl rfl)
theorem dX5_leftOf_17 : decode cX5_leftOf 17 = .ok (.ireturn, 1) := dk_172 (dk_at dksX5_leftOf_0 17 rfl rfl)
theorem dX5_leftOf_18 : decode cX5_leftOf 18 = .ok (.iconst 0, 1) := dk_3 (dk_at dksX5_leftOf_0 18 rfl rfl)
theorem dX5_leftOf_19 : decode cX5_leftOf 19 = .ok (.istore_n 3, 1) := dk_62 (dk_at dksX5_leftOf_0 19 rfl rfl)
theorem dX5_leftOf_20 : decode cX5_leftOf 20 = .ok (.iconst 0, 1) := dk_3 (dk_at dksX5_leftOf_0 20 rfl rfl)
theorem dX5_leftOf_21 : decode cX5_leftOf 21 = .ok (.istore 4, 2) := dk_54 4 (dk_at dksX5_leftOf_0 21 rfl rfl)
theorem dX5_leftOf_23 : decode cX5_leftOf 23 = .ok (.iload 4, 2) := dk_21 4 (dk_at dksX5_leftOf_1 0 rfl rfl)
theorem dX5_leftOf_25 : decode cX5_leftOf 25 = .ok (.aload_n 0, 1) := dk_42 (dk_at dksX5_leftOf_1 2 rfl rfl)
theorem dX5_leftOf_26 : decode cX5_leftOf 26 = .ok (.aload_n 0, 1) := dk_42 (dk_at dksX5_leftOf_1 3 rfl rfl)
theorem dX5_leftOf_27 : decode cX5_leftOf 27 = .ok (.iload_n 1, 1) := dk_27 (dk_at dksX5_leftOf_1 4 rfl rfl)
theorem dX5_leftOf_28 : decode cX5_leftOf 28 = .ok (.iload_n 2, 1) := dk_28 (dk_at dksX5_leftOf_1 5 rfl rfl)
theorem dX5_leftOf_29 : decode cX5_leftOf 29 = .ok (.invokevirtual 123, 3) := dk_182 0 123 (dk_at dksX5_leftOf_1 6 rfl rfl)
theorem dX5_leftOf_32 : decode cX5_leftOf 32 = .ok (.iconst 1, 1) := dk_4 (dk_at dksX5_leftOf_1 9 rfl rfl)
theorem dX5_leftOf_33 : decode cX5_leftOf 33 = .ok (.invokevirtual 69, 3) := dk_182 0 69 (dk_at dksX5_leftOf_1 10 rfl rfl)
theorem dX5_leftOf_36 : decode cX5_leftOf 36 = .ok (.if_icmp .ge 20, 3) := dk_162 0 20 (dk_at dksX5_leftOf_1 13 rfl rfl)
theorem dX5_leftOf_39 : decode cX5_leftOf 39 = .ok (.iload_n 3, 1) := dk_29 (dk_at dksX5_leftOf_1 16 rfl rfl)
theorem dX5_leftOf_40 : decode cX5_leftOf 40 = .ok (.aload_n 0, 1) := dk_42 (dk_at dksX5_leftOf_1 17 rfl rfl)
theorem dX5_leftOf_41 : decode cX5_leftOf 41 = .ok (.iload_n 1, 1) := dk_27 (dk_at dksX5_leftOf_1 18 rfl rfl)
theorem dX5_leftOf_42 : decode cX5_leftOf 42 = .ok (.iload_n 2, 1) := dk_28 (dk_at dksX5_leftOf_1 19 rfl rfl)
theorem dX5_leftOf_43 : decode cX5_leftOf 43 = .ok (.iload 4, 2) := dk_21 4 (dk_at dksX5_leftOf_1 20 rfl rfl)
theorem dX5_leftOf_45 : decode cX5_leftOf 45 = .ok (.invokevirtual 134, 3) := dk_182 0 134 (dk_at dksX5_leftOf_2 0 rfl rfl)
theorem dX5_leftOf_48 : decode cX5_leftOf 48 = .ok (.iadd, 1) := dk_96 (dk_at dksX5_leftOf_2 3 rfl rfl)
theorem dX5_leftOf_49 : decode cX5_leftOf 49 = .ok (.istore_n 3, 1) := dk_62 (dk_at dksX5_leftOf_2 4 rfl rfl)
theorem dX5_leftOf_50 : decode cX5_leftOf 50 = .ok (.iinc 4 1, 3) := dk_132 4 1 (dk_at dksX5_leftOf_2 5 rfl rfl)
theorem dX5_leftOf_53 : decode cX5_leftOf 53 = .ok (.goto (-30), 3) := dk_167 255 226 (dk_at dksX5_leftOf_2 8 rfl rfl)
theorem dX5_leftOf_56 : decode cX5_leftOf 56 = .ok (.iload_n 3, 1) := dk_29 (dk_at dksX5_leftOf_2 11 rfl rfl)
theorem dX5_leftOf_57 : decode cX5_leftOf 57 = .ok (.ireturn, 1) := dk_172 (dk_at dksX5_leftOf_2 12 rfl rfl)
abbrev cX5_match : ByteArray := prog_14_method_121_code
def yX5_match : MethodName := ⟨RX5, "match", "(I)I"⟩
def dkwX5_match_3 : List UInt8 := [182, 1, 123, 42, 27, 4, 182, 1, 123, 182, 1, 120, 132, 2, 1, 167, 255, 228, 28, 172]
abbrev dktX5_match_3 : List UInt8 := dkwX5_match_3 ++ []
def dkwX5_match_2 : List UInt8 := [182, 1, 114, 172, 42, 182, 1, 117, 3, 61, 42, 27, 182, 1, 78, 154, 0, 26, 42, 27, 42, 27, 3]
abbrev dktX5_match_2 : List UInt8 := dkwX5_match_2 ++ dktX5_match_3
def dkwX5_match_1 : List UInt8 := [182, 0, 130, 154, 0, 9, 42, 6, 182, 1, 114, 172, 42, 27, 182, 1, 78, 153, 0, 10, 42, 16, 6]
abbrev dktX5_match_1 : List UInt8 := dkwX5_match_1 ++ dktX5_match_2
def dkwX5_match_0 : List UInt8 := [42, 3, 181, 0, 56, 42, 42, 27, 182, 1, 75, 4, 182, 0, 161, 154, 0, 5, 3, 172, 42, 27]
abbrev dktX5_match_0 : List UInt8 := dkwX5_match_0 ++ dktX5_match_1
theorem dksX5_match_0 : cX5_match.data.toList.drop 0 = dktX5_match_0 := by decide +kernel
theorem dksX5_match_1 : cX5_match.data.toList.drop 22 = dktX5_match_1 := dk_seg dksX5_match_0 22 rfl rfl
theorem dksX5_match_2 : cX5_match.data.toList.drop 45 = dktX5_match_2 := dk_seg dksX5_match_1 23 rfl rfl
theorem dksX5_match_3 : cX5_match.data.toList.drop 68 = dktX5_match_3 := dk_seg dksX5_match_2 23 rfl rfl
theorem dX5_match_0 : decode cX5_match 0 = .ok (.aload_n 0, 1) := dk_42 (dk_at dksX5_match_0 0 rfl rfl)
theorem dX5_match_1 : decode cX5_match 1 = .ok (.iconst 0, 1) := dk_3 (dk_at dksX5_match_0 1 rfl rfl)
theorem dX5_match_2 : decode cX5_match 2 = .ok (.putfield 56, 3) := dk_181 0 56 (dk_at dksX5_match_0 2 rfl rfl)
theorem dX5_match_5 : decode cX5_match 5 = .ok (.aload_n 0, 1) := dk_42 (dk_at dksX5_match_0 5 rfl rfl)
theorem dX5_match_6 : decode cX5_match 6 = .ok (.aload_n 0, 1) := dk_42 (dk_at dksX5_match_0 6 rfl rfl)
theorem dX5_match_7 : decode cX5_match 7 = .ok (.iload_n 1, 1) := dk_27 (dk_at dksX5_match_0 7 rfl rfl)
theorem dX5_match_8 : decode cX5_match 8 = .ok (.invokevirtual 331, 3) := dk_182 1 75 (dk_at dksX5_match_0 8 rfl rfl)
theorem dX5_match_11 : decode cX5_match 11 = .ok (.iconst 1, 1) := dk_4 (dk_at dksX5_match_0 11 rfl rfl)
theorem dX5_match_12 : decode cX5_match 12 = .ok (.invokevirtual 161, 3) := dk_182 0 161 (dk_at dksX5_match_0 12 rfl rfl)
theorem dX5_match_15 : decode cX5_match 15 = .ok (.ifCond .ne 5, 3) := dk_154 0 5 (dk_at dksX5_match_0 15 rfl rfl)
theorem dX5_match_18 : decode cX5_match 18 = .ok (.iconst 0, 1) := dk_3 (dk_at dksX5_match_0 18 rfl rfl)
theorem dX5_match_19 : decode cX5_match 19 = .ok (.ireturn, 1) := dk_172 (dk_at dksX5_match_0 19 rfl rfl)
theorem dX5_match_20 : decode cX5_match 20 = .ok (.aload_n 0, 1) := dk_42 (dk_at dksX5_match_0 20 rfl rfl)
theorem dX5_match_21 : decode cX5_match 21 = .ok (.iload_n 1, 1) := dk_27 (dk_at dksX5_match_0 21 rfl rfl)
theorem dX5_match_22 : decode cX5_match 22 = .ok (.invokevirtual 130, 3) := dk_182 0 130 (dk_at dksX5_match_1 0 rfl rfl)
theorem dX5_match_25 : decode cX5_match 25 = .ok (.ifCond .ne 9, 3) := dk_154 0 9 (dk_at dksX5_match_1 3 rfl rfl)
theorem dX5_match_28 : decode cX5_match 28 = .ok (.aload_n 0, 1) := dk_42 (dk_at dksX5_match_1 6 rfl rfl)
theorem dX5_match_29 : decode cX5_match 29 = .ok (.iconst 3, 1) := dk_6 (dk_at dksX5_match_1 7 rfl rfl)
theorem dX5_match_30 : decode cX5_match 30 = .ok (.invokevirtual 370, 3) := dk_182 1 114 (dk_at dksX5_match_1 8 rfl rfl)
theorem dX5_match_33 : decode cX5_match 33 = .ok (.ireturn, 1) := dk_172 (dk_at dksX5_match_1 11 rfl rfl)
theorem dX5_match_34 : decode cX5_match 34 = .ok (.aload_n 0, 1) := dk_42 (dk_at dksX5_match_1 12 rfl rfl)
theorem dX5_match_35 : decode cX5_match 35 = .ok (.iload_n 1, 1) := dk_27 (dk_at dksX5_match_1 13 rfl rfl)
theorem dX5_match_36 : decode cX5_match 36 = .ok (.invokevirtual 334, 3) := dk_182 1 78 (dk_at dksX5_match_1 14 rfl rfl)
theorem dX5_match_39 : decode cX5_match 39 = .ok (.ifCond .eq 10, 3) := dk_153 0 10 (dk_at dksX5_match_1 17 rfl rfl)
theorem dX5_match_42 : decode cX5_match 42 = .ok (.aload_n 0, 1) := dk_42 (dk_at dksX5_match_1 20 rfl rfl)
theorem dX5_match_43 : decode cX5_match 43 = .ok (.bipush 6, 2) := dk_16 6 (dk_at dksX5_match_1 21 rfl rfl)
theorem dX5_match_45 : decode cX5_match 45 = .ok (.invokevirtual 370, 3) := dk_182 1 114 (dk_at dksX5_match_2 0 rfl rfl)
theorem dX5_match_48 : decode cX5_match 48 = .ok (.ireturn, 1) := dk_172 (dk_at dksX5_match_2 3 rfl rfl)
theorem dX5_match_49 : decode cX5_match 49 = .ok (.aload_n 0, 1) := dk_42 (dk_at dksX5_match_2 4 rfl rfl)
theorem dX5_match_50 : decode cX5_match 50 = .ok (.invokevirtual 373, 3) := dk_182 1 117 (dk_at dksX5_match_2 5 rfl rfl)
theorem dX5_match_53 : decode cX5_match 53 = .ok (.iconst 0, 1) := dk_3 (dk_at dksX5_match_2 8 rfl rfl)
theorem dX5_match_54 : decode cX5_match 54 = .ok (.istore_n 2, 1) := dk_61 (dk_at dksX5_match_2 9 rfl rfl)
theorem dX5_match_55 : decode cX5_match 55 = .ok (.aload_n 0, 1) := dk_42 (dk_at dksX5_match_2 10 rfl rfl)
theorem dX5_match_56 : decode cX5_match 56 = .ok (.iload_n 1, 1) := dk_27 (dk_at dksX5_match_2 11 rfl rfl)
theorem dX5_match_57 : decode cX5_match 57 = .ok (.invokevirtual 334, 3) := dk_182 1 78 (dk_at dksX5_match_2 12 rfl rfl)
theorem dX5_match_60 : decode cX5_match 60 = .ok (.ifCond .ne 26, 3) := dk_154 0 26 (dk_at dksX5_match_2 15 rfl rfl)
theorem dX5_match_63 : decode cX5_match 63 = .ok (.aload_n 0, 1) := dk_42 (dk_at dksX5_match_2 18 rfl rfl)
theorem dX5_match_64 : decode cX5_match 64 = .ok (.iload_n 1, 1) := dk_27 (dk_at dksX5_match_2 19 rfl rfl)
theorem dX5_match_65 : decode cX5_match 65 = .ok (.aload_n 0, 1) := dk_42 (dk_at dksX5_match_2 20 rfl rfl)
theorem dX5_match_66 : decode cX5_match 66 = .ok (.iload_n 1, 1) := dk_27 (dk_at dksX5_match_2 21 rfl rfl)
theorem dX5_match_67 : decode cX5_match 67 = .ok (.iconst 0, 1) := dk_3 (dk_at dksX5_match_2 22 rfl rfl)
theorem dX5_match_68 : decode cX5_match 68 = .ok (.invokevirtual 379, 3) := dk_182 1 123 (dk_at dksX5_match_3 0 rfl rfl)
theorem dX5_match_71 : decode cX5_match 71 = .ok (.aload_n 0, 1) := dk_42 (dk_at dksX5_match_3 3 rfl rfl)
theorem dX5_match_72 : decode cX5_match 72 = .ok (.iload_n 1, 1) := dk_27 (dk_at dksX5_match_3 4 rfl rfl)
theorem dX5_match_73 : decode cX5_match 73 = .ok (.iconst 1, 1) := dk_4 (dk_at dksX5_match_3 5 rfl rfl)
theorem dX5_match_74 : decode cX5_match 74 = .ok (.invokevirtual 379, 3) := dk_182 1 123 (dk_at dksX5_match_3 6 rfl rfl)
theorem dX5_match_77 : decode cX5_match 77 = .ok (.invokevirtual 376, 3) := dk_182 1 120 (dk_at dksX5_match_3 9 rfl rfl)
theorem dX5_match_80 : decode cX5_match 80 = .ok (.iinc 2 1, 3) := dk_132 2 1 (dk_at dksX5_match_3 12 rfl rfl)
theorem dX5_match_83 : decode cX5_match 83 = .ok (.goto (-28), 3) := dk_167 255 228 (dk_at dksX5_match_3 15 rfl rfl)
theorem dX5_match_86 : decode cX5_match 86 = .ok (.iload_n 2, 1) := dk_28 (dk_at dksX5_match_3 18 rfl rfl)
theorem dX5_match_87 : decode cX5_match 87 = .ok (.ireturn, 1) := dk_172 (dk_at dksX5_match_3 19 rfl rfl)
abbrev cX5_isEnded : ByteArray := prog_14_method_41_code
def yX5_isEnded : MethodName := ⟨RX5, "isEnded", "(I)Z"⟩
def dkwX5_isEnded_0 : List UInt8 := [42, 27, 3, 182, 0, 137, 153, 0, 12, 42, 27, 4, 182, 0, 137, 154, 0, 7, 4, 167, 0, 4, 3, 172]
abbrev dktX5_isEnded_0 : List UInt8 := dkwX5_isEnded_0 ++ []
theorem dksX5_isEnded_0 : cX5_isEnded.data.toList.drop 0 = dktX5_isEnded_0 := by decide +kernel
theorem dX5_isEnded_0 : decode cX5_isEnded 0 = .ok (.aload_n 0, 1) := dk_42 (dk_at dksX5_isEnded_0 0 rfl rfl)
theorem dX5_isEnded_1 : decode cX5_isEnded 1 = .ok (.iload_n 1, 1) := dk_27 (dk_at dksX5_isEnded_0 1 rfl rfl)
theorem dX5_isEnded_2 : decode cX5_isEnded 2 = .ok (.iconst 0, 1) := dk_3 (dk_at dksX5_isEnded_0 2 rfl rfl)
theorem dX5_isEnded_3 : decode cX5_isEnded 3 = .ok (.invokevirtual 137, 3) := dk_182 0 137 (dk_at dksX5_isEnded_0 3 rfl rfl)
theorem dX5_isEnded_6 : decode cX5_isEnded 6 = .ok (.ifCond .eq 12, 3) := dk_153 0 12 (dk_at dksX5_isEnded_0 6 rfl rfl)
theorem dX5_isEnded_9 : decode cX5_isEnded 9 = .ok (.aload_n 0, 1) := dk_42 (dk_at dksX5_isEnded_0 9 rfl rfl)
theorem dX5_isEnded_10 : decode cX5_isEnded 10 = .ok (.iload_n 1, 1) := dk_27 (dk_at dksX5_isEnded_0 10 rfl rfl)
theorem dX5_isEnded_11 : decode cX5_isEnded 11 = .ok (.iconst 1, 1) := dk_4 (dk_at dksX5_isEnded_0 11 rfl rfl)
theorem dX5_isEnded_12 : decode cX5_isEnded 12 = .ok (.invokevirtual 137, 3) := dk_182 0 137 (dk_at dksX5_isEnded_0 12 rfl rfl)
theorem dX5_isEnded_15 : decode cX5_isEnded 15 = .ok (.ifCond .ne 7, 3) := dk_154 0 7 (dk_at dksX5_isEnded_0 15 rfl rfl)
theorem dX5_isEnded_18 : decode cX5_isEnded 18 = .ok (.iconst 1, 1) := dk_4 (dk_at dksX5_isEnded_0 18 rfl rfl)
theorem dX5_isEnded_19 : decode cX5_isEnded 19 = .ok (.goto 4, 3) := dk_167 0 4 (dk_at dksX5_isEnded_0 19 rfl rfl)
theorem dX5_isEnded_22 : decode cX5_isEnded 22 = .ok (.iconst 0, 1) := dk_3 (dk_at dksX5_isEnded_0 22 rfl rfl)
theorem dX5_isEnded_23 : decode cX5_isEnded 23 = .ok (.ireturn, 1) := dk_172 (dk_at dksX5_isEnded_0 23 rfl rfl)
abbrev cX5_lowestLeft : ByteArray := prog_14_method_43_code
def yX5_lowestLeft : MethodName := ⟨RX5, "lowestLeft", "(II)I"⟩
def dkwX5_lowestLeft_0 : List UInt8 := [3, 62, 42, 27, 28, 29, 182, 0, 134, 154, 0, 9, 132, 3, 1, 167, 255, 243, 29, 172]
abbrev dktX5_lowestLeft_0 : List UInt8 := dkwX5_lowestLeft_0 ++ []
theorem dksX5_lowestLeft_0 : cX5_lowestLeft.data.toList.drop 0 = dktX5_lowestLeft_0 := by decide +kernel
theorem dX5_lowestLeft_0 : decode cX5_lowestLeft 0 = .ok (.iconst 0, 1) := dk_3 (dk_at dksX5_lowestLeft_0 0 rfl rfl)
theorem dX5_lowestLeft_1 : decode cX5_lowestLeft 1 = .ok (.istore_n 3, 1) := dk_62 (dk_at dksX5_lowestLeft_0 1 rfl rfl)
theorem dX5_lowestLeft_2 : decode cX5_lowestLeft 2 = .ok (.aload_n 0, 1) := dk_42 (dk_at dksX5_lowestLeft_0 2 rfl rfl)
theorem dX5_lowestLeft_3 : decode cX5_lowestLeft 3 = .ok (.iload_n 1, 1) := dk_27 (dk_at dksX5_lowestLeft_0 3 rfl rfl)
theorem dX5_lowestLeft_4 : decode cX5_lowestLeft 4 = .ok (.iload_n 2, 1) := dk_28 (dk_at dksX5_lowestLeft_0 4 rfl rfl)
theorem dX5_lowestLeft_5 : decode cX5_lowestLeft 5 = .ok (.iload_n 3, 1) := dk_29 (dk_at dksX5_lowestLeft_0 5 rfl rfl)
theorem dX5_lowestLeft_6 : decode cX5_lowestLeft 6 = .ok (.invokevirtual 134, 3) := dk_182 0 134 (dk_at dksX5_lowestLeft_0 6 rfl rfl)
theorem dX5_lowestLeft_9 : decode cX5_lowestLeft 9 = .ok (.ifCond .ne 9, 3) := dk_154 0 9 (dk_at dksX5_lowestLeft_0 9 rfl rfl)
theorem dX5_lowestLeft_12 : decode cX5_lowestLeft 12 = .ok (.iinc 3 1, 3) := dk_132 3 1 (dk_at dksX5_lowestLeft_0 12 rfl rfl)
theorem dX5_lowestLeft_15 : decode cX5_lowestLeft 15 = .ok (.goto (-13), 3) := dk_167 255 243 (dk_at dksX5_lowestLeft_0 15 rfl rfl)
theorem dX5_lowestLeft_18 : decode cX5_lowestLeft 18 = .ok (.iload_n 3, 1) := dk_29 (dk_at dksX5_lowestLeft_0 18 rfl rfl)
theorem dX5_lowestLeft_19 : decode cX5_lowestLeft 19 = .ok (.ireturn, 1) := dk_172 (dk_at dksX5_lowestLeft_0 19 rfl rfl)
abbrev cX5_close : ByteArray := prog_14_method_122_code
def yX5_close : MethodName := ⟨RX5, "close", "(I)I"⟩
def dkwX5_close_10 : List UInt8 := [153, 0, 7, 4, 167, 0, 4, 3, 184, 0, 101, 182, 0, 143, 28, 172]
abbrev dktX5_close_10 : List UInt8 := dkwX5_close_10 ++ []
def dkwX5_close_9 : List UInt8 := [154, 0, 7, 4, 167, 0, 4, 3, 184, 0, 101, 182, 0, 143, 42, 16, 6, 21, 5, 154, 0, 12, 21, 6]
abbrev dktX5_close_9 : List UInt8 := dkwX5_close_9 ++ dktX5_close_10
def dkwX5_close_8 : List UInt8 := [42, 29, 21, 4, 28, 182, 0, 149, 42, 4, 4, 182, 0, 143, 42, 8, 21, 5, 153, 0, 12, 21, 6]
abbrev dktX5_close_8 : List UInt8 := dkwX5_close_8 ++ dktX5_close_9
def dkwX5_close_7 : List UInt8 := [182, 0, 65, 21, 5, 153, 0, 7, 4, 167, 0, 5, 16, 254, 96, 184, 1, 96, 184, 1, 61, 182, 0, 42]
abbrev dktX5_close_7 : List UInt8 := dkwX5_close_7 ++ dktX5_close_8
def dkwX5_close_6 : List UInt8 := [21, 5, 153, 0, 7, 4, 167, 0, 4, 5, 182, 1, 126, 42, 21, 7, 3, 16, 20, 42, 21, 7]
abbrev dktX5_close_6 : List UInt8 := dkwX5_close_6 ++ dktX5_close_7
def dkwX5_close_5 : List UInt8 := [160, 0, 7, 4, 167, 0, 4, 3, 54, 6, 16, 11, 42, 27, 3, 182, 0, 73, 96, 54, 7, 42, 27]
abbrev dktX5_close_5 : List UInt8 := dkwX5_close_5 ++ dktX5_close_6
def dkwX5_close_4 : List UInt8 := [160, 0, 7, 4, 167, 0, 4, 3, 54, 5, 42, 29, 21, 4, 182, 0, 98, 42, 27, 6, 182, 0, 73]
abbrev dktX5_close_4 : List UInt8 := dkwX5_close_4 ++ dktX5_close_5
def dkwX5_close_3 : List UInt8 := [42, 27, 3, 182, 0, 123, 62, 42, 27, 4, 182, 0, 123, 54, 4, 28, 42, 27, 6, 182, 0, 73]
abbrev dktX5_close_3 : List UInt8 := dkwX5_close_3 ++ dktX5_close_4
def dkwX5_close_2 : List UInt8 := [182, 1, 114, 172, 42, 182, 1, 117, 42, 27, 3, 182, 0, 137, 42, 27, 4, 182, 0, 137, 184, 0, 89, 61]
abbrev dktX5_close_2 : List UInt8 := dkwX5_close_2 ++ dktX5_close_3
def dkwX5_close_1 : List UInt8 := [182, 0, 130, 154, 0, 9, 42, 6, 182, 1, 114, 172, 42, 27, 182, 1, 78, 154, 0, 9, 42, 8]
abbrev dktX5_close_1 : List UInt8 := dkwX5_close_1 ++ dktX5_close_2
def dkwX5_close_0 : List UInt8 := [42, 3, 181, 0, 56, 42, 42, 27, 182, 1, 75, 4, 182, 0, 161, 154, 0, 5, 3, 172, 42, 27]
abbrev dktX5_close_0 : List UInt8 := dkwX5_close_0 ++ dktX5_close_1
theorem dksX5_close_0 : cX5_close.data.toList.drop 0 = dktX5_close_0 := by decide +kernel
theorem dksX5_close_1 : cX5_close.data.toList.drop 22 = dktX5_close_1 := dk_seg dksX5_close_0 22 rfl rfl
theorem dksX5_close_2 : cX5_close.data.toList.drop 44 = dktX5_close_2 := dk_seg dksX5_close_1 22 rfl rfl
theorem dksX5_close_3 : cX5_close.data.toList.drop 68 = dktX5_close_3 := dk_seg dksX5_close_2 24 rfl rfl
theorem dksX5_close_4 : cX5_close.data.toList.drop 90 = dktX5_close_4 := dk_seg dksX5_close_3 22 rfl rfl
theorem dksX5_close_5 : cX5_close.data.toList.drop 113 = dktX5_close_5 := dk_seg dksX5_close_4 23 rfl rfl
theorem dksX5_close_6 : cX5_close.data.toList.drop 136 = dktX5_close_6 := dk_seg dksX5_close_5 23 rfl rfl
theorem dksX5_close_7 : cX5_close.data.toList.drop 158 = dktX5_close_7 := dk_seg dksX5_close_6 22 rfl rfl
theorem dksX5_close_8 : cX5_close.data.toList.drop 182 = dktX5_close_8 := dk_seg dksX5_close_7 24 rfl rfl
theorem dksX5_close_9 : cX5_close.data.toList.drop 205 = dktX5_close_9 := dk_seg dksX5_close_8 23 rfl rfl
theorem dksX5_close_10 : cX5_close.data.toList.drop 229 = dktX5_close_10 := dk_seg dksX5_close_9 24 rfl rfl
theorem dX5_close_0 : decode cX5_close 0 = .ok (.aload_n 0, 1) := dk_42 (dk_at dksX5_close_0 0 rfl rfl)
theorem dX5_close_1 : decode cX5_close 1 = .ok (.iconst 0, 1) := dk_3 (dk_at dksX5_close_0 1 rfl rfl)
theorem dX5_close_2 : decode cX5_close 2 = .ok (.putfield 56, 3) := dk_181 0 56 (dk_at dksX5_close_0 2 rfl rfl)
theorem dX5_close_5 : decode cX5_close 5 = .ok (.aload_n 0, 1) := dk_42 (dk_at dksX5_close_0 5 rfl rfl)
theorem dX5_close_6 : decode cX5_close 6 = .ok (.aload_n 0, 1) := dk_42 (dk_at dksX5_close_0 6 rfl rfl)
theorem dX5_close_7 : decode cX5_close 7 = .ok (.iload_n 1, 1) := dk_27 (dk_at dksX5_close_0 7 rfl rfl)
theorem dX5_close_8 : decode cX5_close 8 = .ok (.invokevirtual 331, 3) := dk_182 1 75 (dk_at dksX5_close_0 8 rfl rfl)
theorem dX5_close_11 : decode cX5_close 11 = .ok (.iconst 1, 1) := dk_4 (dk_at dksX5_close_0 11 rfl rfl)
theorem dX5_close_12 : decode cX5_close 12 = .ok (.invokevirtual 161, 3) := dk_182 0 161 (dk_at dksX5_close_0 12 rfl rfl)
theorem dX5_close_15 : decode cX5_close 15 = .ok (.ifCond .ne 5, 3) := dk_154 0 5 (dk_at dksX5_close_0 15 rfl rfl)
theorem dX5_close_18 : decode cX5_close 18 = .ok (.iconst 0, 1) := dk_3 (dk_at dksX5_close_0 18 rfl rfl)
theorem dX5_close_19 : decode cX5_close 19 = .ok (.ireturn, 1) := dk_172 (dk_at dksX5_close_0 19 rfl rfl)
theorem dX5_close_20 : decode cX5_close 20 = .ok (.aload_n 0, 1) := dk_42 (dk_at dksX5_close_0 20 rfl rfl)
theorem dX5_close_21 : decode cX5_close 21 = .ok (.iload_n 1, 1) := dk_27 (dk_at dksX5_close_0 21 rfl rfl)
theorem dX5_close_22 : decode cX5_close 22 = .ok (.invokevirtual 130, 3) := dk_182 0 130 (dk_at dksX5_close_1 0 rfl rfl)
theorem dX5_close_25 : decode cX5_close 25 = .ok (.ifCond .ne 9, 3) := dk_154 0 9 (dk_at dksX5_close_1 3 rfl rfl)
theorem dX5_close_28 : decode cX5_close 28 = .ok (.aload_n 0, 1) := dk_42 (dk_at dksX5_close_1 6 rfl rfl)
theorem dX5_close_29 : decode cX5_close 29 = .ok (.iconst 3, 1) := dk_6 (dk_at dksX5_close_1 7 rfl rfl)
theorem dX5_close_30 : decode cX5_close 30 = .ok (.invokevirtual 370, 3) := dk_182 1 114 (dk_at dksX5_close_1 8 rfl rfl)
theorem dX5_close_33 : decode cX5_close 33 = .ok (.ireturn, 1) := dk_172 (dk_at dksX5_close_1 11 rfl rfl)
theorem dX5_close_34 : decode cX5_close 34 = .ok (.aload_n 0, 1) := dk_42 (dk_at dksX5_close_1 12 rfl rfl)
theorem dX5_close_35 : decode cX5_close 35 = .ok (.iload_n 1, 1) := dk_27 (dk_at dksX5_close_1 13 rfl rfl)
theorem dX5_close_36 : decode cX5_close 36 = .ok (.invokevirtual 334, 3) := dk_182 1 78 (dk_at dksX5_close_1 14 rfl rfl)
theorem dX5_close_39 : decode cX5_close 39 = .ok (.ifCond .ne 9, 3) := dk_154 0 9 (dk_at dksX5_close_1 17 rfl rfl)
theorem dX5_close_42 : decode cX5_close 42 = .ok (.aload_n 0, 1) := dk_42 (dk_at dksX5_close_1 20 rfl rfl)
theorem dX5_close_43 : decode cX5_close 43 = .ok (.iconst 5, 1) := dk_8 (dk_at dksX5_close_1 21 rfl rfl)
theorem dX5_close_44 : decode cX5_close 44 = .ok (.invokevirtual 370, 3) := dk_182 1 114 (dk_at dksX5_close_2 0 rfl rfl)
theorem dX5_close_47 : decode cX5_close 47 = .ok (.ireturn, 1) := dk_172 (dk_at dksX5_close_2 3 rfl rfl)
theorem dX5_close_48 : decode cX5_close 48 = .ok (.aload_n 0, 1) := dk_42 (dk_at dksX5_close_2 4 rfl rfl)
theorem dX5_close_49 : decode cX5_close 49 = .ok (.invokevirtual 373, 3) := dk_182 1 117 (dk_at dksX5_close_2 5 rfl rfl)
theorem dX5_close_52 : decode cX5_close 52 = .ok (.aload_n 0, 1) := dk_42 (dk_at dksX5_close_2 8 rfl rfl)
theorem dX5_close_53 : decode cX5_close 53 = .ok (.iload_n 1, 1) := dk_27 (dk_at dksX5_close_2 9 rfl rfl)
theorem dX5_close_54 : decode cX5_close 54 = .ok (.iconst 0, 1) := dk_3 (dk_at dksX5_close_2 10 rfl rfl)
theorem dX5_close_55 : decode cX5_close 55 = .ok (.invokevirtual 137, 3) := dk_182 0 137 (dk_at dksX5_close_2 11 rfl rfl)
theorem dX5_close_58 : decode cX5_close 58 = .ok (.aload_n 0, 1) := dk_42 (dk_at dksX5_close_2 14 rfl rfl)
theorem dX5_close_59 : decode cX5_close 59 = .ok (.iload_n 1, 1) := dk_27 (dk_at dksX5_close_2 15 rfl rfl)
theorem dX5_close_60 : decode cX5_close 60 = .ok (.iconst 1, 1) := dk_4 (dk_at dksX5_close_2 16 rfl rfl)
theorem dX5_close_61 : decode cX5_close 61 = .ok (.invokevirtual 137, 3) := dk_182 0 137 (dk_at dksX5_close_2 17 rfl rfl)
theorem dX5_close_64 : decode cX5_close 64 = .ok (.invokestatic 89, 3) := dk_184 0 89 (dk_at dksX5_close_2 20 rfl rfl)
theorem dX5_close_67 : decode cX5_close 67 = .ok (.istore_n 2, 1) := dk_61 (dk_at dksX5_close_2 23 rfl rfl)
theorem dX5_close_68 : decode cX5_close 68 = .ok (.aload_n 0, 1) := dk_42 (dk_at dksX5_close_3 0 rfl rfl)
theorem dX5_close_69 : decode cX5_close 69 = .ok (.iload_n 1, 1) := dk_27 (dk_at dksX5_close_3 1 rfl rfl)
theorem dX5_close_70 : decode cX5_close 70 = .ok (.iconst 0, 1) := dk_3 (dk_at dksX5_close_3 2 rfl rfl)
theorem dX5_close_71 : decode cX5_close 71 = .ok (.invokevirtual 123, 3) := dk_182 0 123 (dk_at dksX5_close_3 3 rfl rfl)
theorem dX5_close_74 : decode cX5_close 74 = .ok (.istore_n 3, 1) := dk_62 (dk_at dksX5_close_3 6 rfl rfl)
theorem dX5_close_75 : decode cX5_close 75 = .ok (.aload_n 0, 1) := dk_42 (dk_at dksX5_close_3 7 rfl rfl)
theorem dX5_close_76 : decode cX5_close 76 = .ok (.iload_n 1, 1) := dk_27 (dk_at dksX5_close_3 8 rfl rfl)
theorem dX5_close_77 : decode cX5_close 77 = .ok (.iconst 1, 1) := dk_4 (dk_at dksX5_close_3 9 rfl rfl)
theorem dX5_close_78 : decode cX5_close 78 = .ok (.invokevirtual 123, 3) := dk_182 0 123 (dk_at dksX5_close_3 10 rfl rfl)
theorem dX5_close_81 : decode cX5_close 81 = .ok (.istore 4, 2) := dk_54 4 (dk_at dksX5_close_3 13 rfl rfl)
theorem dX5_close_83 : decode cX5_close 83 = .ok (.iload_n 2, 1) := dk_28 (dk_at dksX5_close_3 15 rfl rfl)
theorem dX5_close_84 : decode cX5_close 84 = .ok (.aload_n 0, 1) := dk_42 (dk_at dksX5_close_3 16 rfl rfl)
theorem dX5_close_85 : decode cX5_close 85 = .ok (.iload_n 1, 1) := dk_27 (dk_at dksX5_close_3 17 rfl rfl)
theorem dX5_close_86 : decode cX5_close 86 = .ok (.iconst 3, 1) := dk_6 (dk_at dksX5_close_3 18 rfl rfl)
theorem dX5_close_87 : decode cX5_close 87 = .ok (.invokevirtual 73, 3) := dk_182 0 73 (dk_at dksX5_close_3 19 rfl rfl)
theorem dX5_close_90 : decode cX5_close 90 = .ok (.if_icmp .ne 7, 3) := dk_160 0 7 (dk_at dksX5_close_4 0 rfl rfl)
theorem dX5_close_93 : decode cX5_close 93 = .ok (.iconst 1, 1) := dk_4 (dk_at dksX5_close_4 3 rfl rfl)
theorem dX5_close_94 : decode cX5_close 94 = .ok (.goto 4, 3) := dk_167 0 4 (dk_at dksX5_close_4 4 rfl rfl)
theorem dX5_close_97 : decode cX5_close 97 = .ok (.iconst 0, 1) := dk_3 (dk_at dksX5_close_4 7 rfl rfl)
theorem dX5_close_98 : decode cX5_close 98 = .ok (.istore 5, 2) := dk_54 5 (dk_at dksX5_close_4 8 rfl rfl)
theorem dX5_close_100 : decode cX5_close 100 = .ok (.aload_n 0, 1) := dk_42 (dk_at dksX5_close_4 10 rfl rfl)
theorem dX5_close_101 : decode cX5_close 101 = .ok (.iload_n 3, 1) := dk_29 (dk_at dksX5_close_4 11 rfl rfl)
theorem dX5_close_102 : decode cX5_close 102 = .ok (.iload 4, 2) := dk_21 4 (dk_at dksX5_close_4 12 rfl rfl)
theorem dX5_close_104 : decode cX5_close 104 = .ok (.invokevirtual 98, 3) := dk_182 0 98 (dk_at dksX5_close_4 14 rfl rfl)
theorem dX5_close_107 : decode cX5_close 107 = .ok (.aload_n 0, 1) := dk_42 (dk_at dksX5_close_4 17 rfl rfl)
theorem dX5_close_108 : decode cX5_close 108 = .ok (.iload_n 1, 1) := dk_27 (dk_at dksX5_close_4 18 rfl rfl)
theorem dX5_close_109 : decode cX5_close 109 = .ok (.iconst 3, 1) := dk_6 (dk_at dksX5_close_4 19 rfl rfl)
theorem dX5_close_110 : decode cX5_close 110 = .ok (.invokevirtual 73, 3) := dk_182 0 73 (dk_at dksX5_close_4 20 rfl rfl)
theorem dX5_close_113 : decode cX5_close 113 = .ok (.if_icmp .ne 7, 3) := dk_160 0 7 (dk_at dksX5_close_5 0 rfl rfl)
theorem dX5_close_116 : decode cX5_close 116 = .ok (.iconst 1, 1) := dk_4 (dk_at dksX5_close_5 3 rfl rfl)
theorem dX5_close_117 : decode cX5_close 117 = .ok (.goto 4, 3) := dk_167 0 4 (dk_at dksX5_close_5 4 rfl rfl)
theorem dX5_close_120 : decode cX5_close 120 = .ok (.iconst 0, 1) := dk_3 (dk_at dksX5_close_5 7 rfl rfl)
theorem dX5_close_121 : decode cX5_close 121 = .ok (.istore 6, 2) := dk_54 6 (dk_at dksX5_close_5 8 rfl rfl)
theorem dX5_close_123 : decode cX5_close 123 = .ok (.bipush 11, 2) := dk_16 11 (dk_at dksX5_close_5 10 rfl rfl)
theorem dX5_close_125 : decode cX5_close 125 = .ok (.aload_n 0, 1) := dk_42 (dk_at dksX5_close_5 12 rfl rfl)
theorem dX5_close_126 : decode cX5_close 126 = .ok (.iload_n 1, 1) := dk_27 (dk_at dksX5_close_5 13 rfl rfl)
theorem dX5_close_127 : decode cX5_close 127 = .ok (.iconst 0, 1) := dk_3 (dk_at dksX5_close_5 14 rfl rfl)
theorem dX5_close_128 : decode cX5_close 128 = .ok (.invokevirtual 73, 3) := dk_182 0 73 (dk_at dksX5_close_5 15 rfl rfl)
theorem dX5_close_131 : decode cX5_close 131 = .ok (.iadd, 1) := dk_96 (dk_at dksX5_close_5 18 rfl rfl)
theorem dX5_close_132 : decode cX5_close 132 = .ok (.istore 7, 2) := dk_54 7 (dk_at dksX5_close_5 19 rfl rfl)
theorem dX5_close_134 : decode cX5_close 134 = .ok (.aload_n 0, 1) := dk_42 (dk_at dksX5_close_5 21 rfl rfl)
theorem dX5_close_135 : decode cX5_close 135 = .ok (.iload_n 1, 1) := dk_27 (dk_at dksX5_close_5 22 rfl rfl)
theorem dX5_close_136 : decode cX5_close 136 = .ok (.iload 5, 2) := dk_21 5 (dk_at dksX5_close_6 0 rfl rfl)
theorem dX5_close_138 : decode cX5_close 138 = .ok (.ifCond .eq 7, 3) := dk_153 0 7 (dk_at dksX5_close_6 2 rfl rfl)
theorem dX5_close_141 : decode cX5_close 141 = .ok (.iconst 1, 1) := dk_4 (dk_at dksX5_close_6 5 rfl rfl)
theorem dX5_close_142 : decode cX5_close 142 = .ok (.goto 4, 3) := dk_167 0 4 (dk_at dksX5_close_6 6 rfl rfl)
theorem dX5_close_145 : decode cX5_close 145 = .ok (.iconst 2, 1) := dk_5 (dk_at dksX5_close_6 9 rfl rfl)
theorem dX5_close_146 : decode cX5_close 146 = .ok (.invokevirtual 382, 3) := dk_182 1 126 (dk_at dksX5_close_6 10 rfl rfl)
theorem dX5_close_149 : decode cX5_close 149 = .ok (.aload_n 0, 1) := dk_42 (dk_at dksX5_close_6 13 rfl rfl)
theorem dX5_close_150 : decode cX5_close 150 = .ok (.iload 7, 2) := dk_21 7 (dk_at dksX5_close_6 14 rfl rfl)
theorem dX5_close_152 : decode cX5_close 152 = .ok (.iconst 0, 1) := dk_3 (dk_at dksX5_close_6 16 rfl rfl)
theorem dX5_close_153 : decode cX5_close 153 = .ok (.bipush 20, 2) := dk_16 20 (dk_at dksX5_close_6 17 rfl rfl)
theorem dX5_close_155 : decode cX5_close 155 = .ok (.aload_n 0, 1) := dk_42 (dk_at dksX5_close_6 19 rfl rfl)
theorem dX5_close_156 : decode cX5_close 156 = .ok (.iload 7, 2) := dk_21 7 (dk_at dksX5_close_6 20 rfl rfl)
theorem dX5_close_158 : decode cX5_close 158 = .ok (.invokevirtual 65, 3) := dk_182 0 65 (dk_at dksX5_close_7 0 rfl rfl)
theorem dX5_close_161 : decode cX5_close 161 = .ok (.iload 5, 2) := dk_21 5 (dk_at dksX5_close_7 3 rfl rfl)
theorem dX5_close_163 : decode cX5_close 163 = .ok (.ifCond .eq 7, 3) := dk_153 0 7 (dk_at dksX5_close_7 5 rfl rfl)
theorem dX5_close_166 : decode cX5_close 166 = .ok (.iconst 1, 1) := dk_4 (dk_at dksX5_close_7 8 rfl rfl)
theorem dX5_close_167 : decode cX5_close 167 = .ok (.goto 5, 3) := dk_167 0 5 (dk_at dksX5_close_7 9 rfl rfl)
theorem dX5_close_170 : decode cX5_close 170 = .ok (.bipush (-2), 2) := dk_16 254 (dk_at dksX5_close_7 12 rfl rfl)
theorem dX5_close_172 : decode cX5_close 172 = .ok (.iadd, 1) := dk_96 (dk_at dksX5_close_7 14 rfl rfl)
theorem dX5_close_173 : decode cX5_close 173 = .ok (.invokestatic 352, 3) := dk_184 1 96 (dk_at dksX5_close_7 15 rfl rfl)
theorem dX5_close_176 : decode cX5_close 176 = .ok (.invokestatic 317, 3) := dk_184 1 61 (dk_at dksX5_close_7 18 rfl rfl)
theorem dX5_close_179 : decode cX5_close 179 = .ok (.invokevirtual 42, 3) := dk_182 0 42 (dk_at dksX5_close_7 21 rfl rfl)
theorem dX5_close_182 : decode cX5_close 182 = .ok (.aload_n 0, 1) := dk_42 (dk_at dksX5_close_8 0 rfl rfl)
theorem dX5_close_183 : decode cX5_close 183 = .ok (.iload_n 3, 1) := dk_29 (dk_at dksX5_close_8 1 rfl rfl)
theorem dX5_close_184 : decode cX5_close 184 = .ok (.iload 4, 2) := dk_21 4 (dk_at dksX5_close_8 2 rfl rfl)
theorem dX5_close_186 : decode cX5_close 186 = .ok (.iload_n 2, 1) := dk_28 (dk_at dksX5_close_8 4 rfl rfl)
theorem dX5_close_187 : decode cX5_close 187 = .ok (.invokevirtual 149, 3) := dk_182 0 149 (dk_at dksX5_close_8 5 rfl rfl)
theorem dX5_close_190 : decode cX5_close 190 = .ok (.aload_n 0, 1) := dk_42 (dk_at dksX5_close_8 8 rfl rfl)
theorem dX5_close_191 : decode cX5_close 191 = .ok (.iconst 1, 1) := dk_4 (dk_at dksX5_close_8 9 rfl rfl)
theorem dX5_close_192 : decode cX5_close 192 = .ok (.iconst 1, 1) := dk_4 (dk_at dksX5_close_8 10 rfl rfl)
theorem dX5_close_193 : decode cX5_close 193 = .ok (.invokevirtual 143, 3) := dk_182 0 143 (dk_at dksX5_close_8 11 rfl rfl)
theorem dX5_close_196 : decode cX5_close 196 = .ok (.aload_n 0, 1) := dk_42 (dk_at dksX5_close_8 14 rfl rfl)
theorem dX5_close_197 : decode cX5_close 197 = .ok (.iconst 5, 1) := dk_8 (dk_at dksX5_close_8 15 rfl rfl)
theorem dX5_close_198 : decode cX5_close 198 = .ok (.iload 5, 2) := dk_21 5 (dk_at dksX5_close_8 16 rfl rfl)
theorem dX5_close_200 : decode cX5_close 200 = .ok (.ifCond .eq 12, 3) := dk_153 0 12 (dk_at dksX5_close_8 18 rfl rfl)
theorem dX5_close_203 : decode cX5_close 203 = .ok (.iload 6, 2) := dk_21 6 (dk_at dksX5_close_8 21 rfl rfl)
theorem dX5_close_205 : decode cX5_close 205 = .ok (.ifCond .ne 7, 3) := dk_154 0 7 (dk_at dksX5_close_9 0 rfl rfl)
theorem dX5_close_208 : decode cX5_close 208 = .ok (.iconst 1, 1) := dk_4 (dk_at dksX5_close_9 3 rfl rfl)
theorem dX5_close_209 : decode cX5_close 209 = .ok (.goto 4, 3) := dk_167 0 4 (dk_at dksX5_close_9 4 rfl rfl)
theorem dX5_close_212 : decode cX5_close 212 = .ok (.iconst 0, 1) := dk_3 (dk_at dksX5_close_9 7 rfl rfl)
theorem dX5_close_213 : decode cX5_close 213 = .ok (.invokestatic 101, 3) := dk_184 0 101 (dk_at dksX5_close_9 8 rfl rfl)
theorem dX5_close_216 : decode cX5_close 216 = .ok (.invokevirtual 143, 3) := dk_182 0 143 (dk_at dksX5_close_9 11 rfl rfl)
theorem dX5_close_219 : decode cX5_close 219 = .ok (.aload_n 0, 1) := dk_42 (dk_at dksX5_close_9 14 rfl rfl)
theorem dX5_close_220 : decode cX5_close 220 = .ok (.bipush 6, 2) := dk_16 6 (dk_at dksX5_close_9 15 rfl rfl)
theorem dX5_close_222 : decode cX5_close 222 = .ok (.iload 5, 2) := dk_21 5 (dk_at dksX5_close_9 17 rfl rfl)
theorem dX5_close_224 : decode cX5_close 224 = .ok (.ifCond .ne 12, 3) := dk_154 0 12 (dk_at dksX5_close_9 19 rfl rfl)
theorem dX5_close_227 : decode cX5_close 227 = .ok (.iload 6, 2) := dk_21 6 (dk_at dksX5_close_9 22 rfl rfl)
theorem dX5_close_229 : decode cX5_close 229 = .ok (.ifCond .eq 7, 3) := dk_153 0 7 (dk_at dksX5_close_10 0 rfl rfl)
theorem dX5_close_232 : decode cX5_close 232 = .ok (.iconst 1, 1) := dk_4 (dk_at dksX5_close_10 3 rfl rfl)
theorem dX5_close_233 : decode cX5_close 233 = .ok (.goto 4, 3) := dk_167 0 4 (dk_at dksX5_close_10 4 rfl rfl)
theorem dX5_close_236 : decode cX5_close 236 = .ok (.iconst 0, 1) := dk_3 (dk_at dksX5_close_10 7 rfl rfl)
theorem dX5_close_237 : decode cX5_close 237 = .ok (.invokestatic 101, 3) := dk_184 0 101 (dk_at dksX5_close_10 8 rfl rfl)
theorem dX5_close_240 : decode cX5_close 240 = .ok (.invokevirtual 143, 3) := dk_182 0 143 (dk_at dksX5_close_10 11 rfl rfl)
theorem dX5_close_243 : decode cX5_close 243 = .ok (.iload_n 2, 1) := dk_28 (dk_at dksX5_close_10 14 rfl rfl)
theorem dX5_close_244 : decode cX5_close 244 = .ok (.ireturn, 1) := dk_172 (dk_at dksX5_close_10 15 rfl rfl)
abbrev cX5_word : ByteArray := prog_14_method_24_code
def yX5_word : MethodName := ⟨RX5, "word", "(II)I"⟩
def dkwX5_word_0 : List UInt8 := [26, 27, 164, 0, 7, 3, 167, 0, 13, 26, 27, 162, 0, 7, 4, 167, 0, 4, 5, 172]
abbrev dktX5_word_0 : List UInt8 := dkwX5_word_0 ++ []
theorem dksX5_word_0 : cX5_word.data.toList.drop 0 = dktX5_word_0 := by decide +kernel
theorem dX5_word_0 : decode cX5_word 0 = .ok (.iload_n 0, 1) := dk_26 (dk_at dksX5_word_0 0 rfl rfl)
theorem dX5_word_1 : decode cX5_word 1 = .ok (.iload_n 1, 1) := dk_27 (dk_at dksX5_word_0 1 rfl rfl)
theorem dX5_word_2 : decode cX5_word 2 = .ok (.if_icmp .le 7, 3) := dk_164 0 7 (dk_at dksX5_word_0 2 rfl rfl)
theorem dX5_word_5 : decode cX5_word 5 = .ok (.iconst 0, 1) := dk_3 (dk_at dksX5_word_0 5 rfl rfl)
theorem dX5_word_6 : decode cX5_word 6 = .ok (.goto 13, 3) := dk_167 0 13 (dk_at dksX5_word_0 6 rfl rfl)
theorem dX5_word_9 : decode cX5_word 9 = .ok (.iload_n 0, 1) := dk_26 (dk_at dksX5_word_0 9 rfl rfl)
theorem dX5_word_10 : decode cX5_word 10 = .ok (.iload_n 1, 1) := dk_27 (dk_at dksX5_word_0 10 rfl rfl)
theorem dX5_word_11 : decode cX5_word 11 = .ok (.if_icmp .ge 7, 3) := dk_162 0 7 (dk_at dksX5_word_0 11 rfl rfl)
theorem dX5_word_14 : decode cX5_word 14 = .ok (.iconst 1, 1) := dk_4 (dk_at dksX5_word_0 14 rfl rfl)
theorem dX5_word_15 : decode cX5_word 15 = .ok (.goto 4, 3) := dk_167 0 4 (dk_at dksX5_word_0 15 rfl rfl)
theorem dX5_word_18 : decode cX5_word 18 = .ok (.iconst 2, 1) := dk_5 (dk_at dksX5_word_0 18 rfl rfl)
theorem dX5_word_19 : decode cX5_word 19 = .ok (.ireturn, 1) := dk_172 (dk_at dksX5_word_0 19 rfl rfl)
abbrev cX5_wordByEye : ByteArray := prog_14_method_27_code
def yX5_wordByEye : MethodName := ⟨RX5, "wordByEye", "(II)I"⟩
def dkwX5_wordByEye_0 : List UInt8 := [42, 27, 182, 0, 92, 42, 28, 182, 0, 92, 184, 0, 89, 172]
abbrev dktX5_wordByEye_0 : List UInt8 := dkwX5_wordByEye_0 ++ []
theorem dksX5_wordByEye_0 : cX5_wordByEye.data.toList.drop 0 = dktX5_wordByEye_0 := by decide +kernel
theorem dX5_wordByEye_0 : decode cX5_wordByEye 0 = .ok (.aload_n 0, 1) := dk_42 (dk_at dksX5_wordByEye_0 0 rfl rfl)
theorem dX5_wordByEye_1 : decode cX5_wordByEye 1 = .ok (.iload_n 1, 1) := dk_27 (dk_at dksX5_wordByEye_0 1 rfl rfl)
theorem dX5_wordByEye_2 : decode cX5_wordByEye 2 = .ok (.invokevirtual 92, 3) := dk_182 0 92 (dk_at dksX5_wordByEye_0 2 rfl rfl)
theorem dX5_wordByEye_5 : decode cX5_wordByEye 5 = .ok (.aload_n 0, 1) := dk_42 (dk_at dksX5_wordByEye_0 5 rfl rfl)
theorem dX5_wordByEye_6 : decode cX5_wordByEye 6 = .ok (.iload_n 2, 1) := dk_28 (dk_at dksX5_wordByEye_0 6 rfl rfl)
theorem dX5_wordByEye_7 : decode cX5_wordByEye 7 = .ok (.invokevirtual 92, 3) := dk_182 0 92 (dk_at dksX5_wordByEye_0 7 rfl rfl)
theorem dX5_wordByEye_10 : decode cX5_wordByEye 10 = .ok (.invokestatic 89, 3) := dk_184 0 89 (dk_at dksX5_wordByEye_0 10 rfl rfl)
theorem dX5_wordByEye_13 : decode cX5_wordByEye 13 = .ok (.ireturn, 1) := dk_172 (dk_at dksX5_wordByEye_0 13 rfl rfl)
abbrev cX5_lookOf : ByteArray := prog_14_method_23_code
def yX5_lookOf : MethodName := ⟨RX5, "lookOf", "(I)I"⟩
def dkwX5_lookOf_1 : List UInt8 := [182, 0, 65, 184, 0, 83, 96, 61, 132, 3, 1, 167, 255, 226, 28, 172]
abbrev dktX5_lookOf_1 : List UInt8 := dkwX5_lookOf_1 ++ []
def dkwX5_lookOf_0 : List UInt8 := [3, 61, 3, 62, 29, 42, 27, 4, 182, 0, 69, 162, 0, 26, 28, 42, 27, 29, 182, 0, 80, 42, 5]
abbrev dktX5_lookOf_0 : List UInt8 := dkwX5_lookOf_0 ++ dktX5_lookOf_1
theorem dksX5_lookOf_0 : cX5_lookOf.data.toList.drop 0 = dktX5_lookOf_0 := by decide +kernel
theorem dksX5_lookOf_1 : cX5_lookOf.data.toList.drop 23 = dktX5_lookOf_1 := dk_seg dksX5_lookOf_0 23 rfl rfl
theorem dX5_lookOf_0 : decode cX5_lookOf 0 = .ok (.iconst 0, 1) := dk_3 (dk_at dksX5_lookOf_0 0 rfl rfl)
theorem dX5_lookOf_1 : decode cX5_lookOf 1 = .ok (.istore_n 2, 1) := dk_61 (dk_at dksX5_lookOf_0 1 rfl rfl)
theorem dX5_lookOf_2 : decode cX5_lookOf 2 = .ok (.iconst 0, 1) := dk_3 (dk_at dksX5_lookOf_0 2 rfl rfl)
theorem dX5_lookOf_3 : decode cX5_lookOf 3 = .ok (.istore_n 3, 1) := dk_62 (dk_at dksX5_lookOf_0 3 rfl rfl)
theorem dX5_lookOf_4 : decode cX5_lookOf 4 = .ok (.iload_n 3, 1) := dk_29 (dk_at dksX5_lookOf_0 4 rfl rfl)
theorem dX5_lookOf_5 : decode cX5_lookOf 5 = .ok (.aload_n 0, 1) := dk_42 (dk_at dksX5_lookOf_0 5 rfl rfl)
theorem dX5_lookOf_6 : decode cX5_lookOf 6 = .ok (.iload_n 1, 1) := dk_27 (dk_at dksX5_lookOf_0 6 rfl rfl)
theorem dX5_lookOf_7 : decode cX5_lookOf 7 = .ok (.iconst 1, 1) := dk_4 (dk_at dksX5_lookOf_0 7 rfl rfl)
theorem dX5_lookOf_8 : decode cX5_lookOf 8 = .ok (.invokevirtual 69, 3) := dk_182 0 69 (dk_at dksX5_lookOf_0 8 rfl rfl)
theorem dX5_lookOf_11 : decode cX5_lookOf 11 = .ok (.if_icmp .ge 26, 3) := dk_162 0 26 (dk_at dksX5_lookOf_0 11 rfl rfl)
theorem dX5_lookOf_14 : decode cX5_lookOf 14 = .ok (.iload_n 2, 1) := dk_28 (dk_at dksX5_lookOf_0 14 rfl rfl)
theorem dX5_lookOf_15 : decode cX5_lookOf 15 = .ok (.aload_n 0, 1) := dk_42 (dk_at dksX5_lookOf_0 15 rfl rfl)
theorem dX5_lookOf_16 : decode cX5_lookOf 16 = .ok (.iload_n 1, 1) := dk_27 (dk_at dksX5_lookOf_0 16 rfl rfl)
theorem dX5_lookOf_17 : decode cX5_lookOf 17 = .ok (.iload_n 3, 1) := dk_29 (dk_at dksX5_lookOf_0 17 rfl rfl)
theorem dX5_lookOf_18 : decode cX5_lookOf 18 = .ok (.invokevirtual 80, 3) := dk_182 0 80 (dk_at dksX5_lookOf_0 18 rfl rfl)
theorem dX5_lookOf_21 : decode cX5_lookOf 21 = .ok (.aload_n 0, 1) := dk_42 (dk_at dksX5_lookOf_0 21 rfl rfl)
theorem dX5_lookOf_22 : decode cX5_lookOf 22 = .ok (.iconst 2, 1) := dk_5 (dk_at dksX5_lookOf_0 22 rfl rfl)
theorem dX5_lookOf_23 : decode cX5_lookOf 23 = .ok (.invokevirtual 65, 3) := dk_182 0 65 (dk_at dksX5_lookOf_1 0 rfl rfl)
theorem dX5_lookOf_26 : decode cX5_lookOf 26 = .ok (.invokestatic 83, 3) := dk_184 0 83 (dk_at dksX5_lookOf_1 3 rfl rfl)
theorem dX5_lookOf_29 : decode cX5_lookOf 29 = .ok (.iadd, 1) := dk_96 (dk_at dksX5_lookOf_1 6 rfl rfl)
theorem dX5_lookOf_30 : decode cX5_lookOf 30 = .ok (.istore_n 2, 1) := dk_61 (dk_at dksX5_lookOf_1 7 rfl rfl)
theorem dX5_lookOf_31 : decode cX5_lookOf 31 = .ok (.iinc 3 1, 3) := dk_132 3 1 (dk_at dksX5_lookOf_1 8 rfl rfl)
theorem dX5_lookOf_34 : decode cX5_lookOf 34 = .ok (.goto (-30), 3) := dk_167 255 226 (dk_at dksX5_lookOf_1 11 rfl rfl)
theorem dX5_lookOf_37 : decode cX5_lookOf 37 = .ok (.iload_n 2, 1) := dk_28 (dk_at dksX5_lookOf_1 14 rfl rfl)
theorem dX5_lookOf_38 : decode cX5_lookOf 38 = .ok (.ireturn, 1) := dk_172 (dk_at dksX5_lookOf_1 15 rfl rfl)
abbrev cX5_sightOf : ByteArray := prog_14_method_22_code
def yX5_sightOf : MethodName := ⟨RX5, "sightOf", "(II)I"⟩
def dkwX5_sightOf_0 : List UInt8 := [26, 27, 163, 0, 7, 26, 167, 0, 10, 27, 26, 27, 100, 5, 108, 96, 172]
abbrev dktX5_sightOf_0 : List UInt8 := dkwX5_sightOf_0 ++ []
theorem dksX5_sightOf_0 : cX5_sightOf.data.toList.drop 0 = dktX5_sightOf_0 := by decide +kernel
theorem dX5_sightOf_0 : decode cX5_sightOf 0 = .ok (.iload_n 0, 1) := dk_26 (dk_at dksX5_sightOf_0 0 rfl rfl)
theorem dX5_sightOf_1 : decode cX5_sightOf 1 = .ok (.iload_n 1, 1) := dk_27 (dk_at dksX5_sightOf_0 1 rfl rfl)
theorem dX5_sightOf_2 : decode cX5_sightOf 2 = .ok (.if_icmp .gt 7, 3) := dk_163 0 7 (dk_at dksX5_sightOf_0 2 rfl rfl)
theorem dX5_sightOf_5 : decode cX5_sightOf 5 = .ok (.iload_n 0, 1) := dk_26 (dk_at dksX5_sightOf_0 5 rfl rfl)
theorem dX5_sightOf_6 : decode cX5_sightOf 6 = .ok (.goto 10, 3) := dk_167 0 10 (dk_at dksX5_sightOf_0 6 rfl rfl)
theorem dX5_sightOf_9 : decode cX5_sightOf 9 = .ok (.iload_n 1, 1) := dk_27 (dk_at dksX5_sightOf_0 9 rfl rfl)
theorem dX5_sightOf_10 : decode cX5_sightOf 10 = .ok (.iload_n 0, 1) := dk_26 (dk_at dksX5_sightOf_0 10 rfl rfl)
theorem dX5_sightOf_11 : decode cX5_sightOf 11 = .ok (.iload_n 1, 1) := dk_27 (dk_at dksX5_sightOf_0 11 rfl rfl)
theorem dX5_sightOf_12 : decode cX5_sightOf 12 = .ok (.isub, 1) := dk_100 (dk_at dksX5_sightOf_0 12 rfl rfl)
theorem dX5_sightOf_13 : decode cX5_sightOf 13 = .ok (.iconst 2, 1) := dk_5 (dk_at dksX5_sightOf_0 13 rfl rfl)
theorem dX5_sightOf_14 : decode cX5_sightOf 14 = .ok (.idiv, 1) := dk_108 (dk_at dksX5_sightOf_0 14 rfl rfl)
theorem dX5_sightOf_15 : decode cX5_sightOf 15 = .ok (.iadd, 1) := dk_96 (dk_at dksX5_sightOf_0 15 rfl rfl)
theorem dX5_sightOf_16 : decode cX5_sightOf 16 = .ok (.ireturn, 1) := dk_172 (dk_at dksX5_sightOf_0 16 rfl rfl)
abbrev cX5_ends : ByteArray := prog_14_method_44_code
def yX5_ends : MethodName := ⟨RX5, "ends", "(II)V"⟩
def dkwX5_ends_1 : List UInt8 := [132, 3, 1, 167, 255, 233, 42, 27, 7, 28, 182, 0, 146, 177]
abbrev dktX5_ends_1 : List UInt8 := dkwX5_ends_1 ++ []
def dkwX5_ends_0 : List UInt8 := [3, 62, 29, 5, 162, 0, 24, 42, 27, 16, 6, 29, 96, 42, 27, 29, 182, 0, 137, 182, 0, 146]
abbrev dktX5_ends_0 : List UInt8 := dkwX5_ends_0 ++ dktX5_ends_1
theorem dksX5_ends_0 : cX5_ends.data.toList.drop 0 = dktX5_ends_0 := by decide +kernel
theorem dksX5_ends_1 : cX5_ends.data.toList.drop 22 = dktX5_ends_1 := dk_seg dksX5_ends_0 22 rfl rfl
theorem dX5_ends_0 : decode cX5_ends 0 = .ok (.iconst 0, 1) := dk_3 (dk_at dksX5_ends_0 0 rfl rfl)
theorem dX5_ends_1 : decode cX5_ends 1 = .ok (.istore_n 3, 1) := dk_62 (dk_at dksX5_ends_0 1 rfl rfl)
theorem dX5_ends_2 : decode cX5_ends 2 = .ok (.iload_n 3, 1) := dk_29 (dk_at dksX5_ends_0 2 rfl rfl)
theorem dX5_ends_3 : decode cX5_ends 3 = .ok (.iconst 2, 1) := dk_5 (dk_at dksX5_ends_0 3 rfl rfl)
theorem dX5_ends_4 : decode cX5_ends 4 = .ok (.if_icmp .ge 24, 3) := dk_162 0 24 (dk_at dksX5_ends_0 4 rfl rfl)
theorem dX5_ends_7 : decode cX5_ends 7 = .ok (.aload_n 0, 1) := dk_42 (dk_at dksX5_ends_0 7 rfl rfl)
theorem dX5_ends_8 : decode cX5_ends 8 = .ok (.iload_n 1, 1) := dk_27 (dk_at dksX5_ends_0 8 rfl rfl)
theorem dX5_ends_9 : decode cX5_ends 9 = .ok (.bipush 6, 2) := dk_16 6 (dk_at dksX5_ends_0 9 rfl rfl)
theorem dX5_ends_11 : decode cX5_ends 11 = .ok (.iload_n 3, 1) := dk_29 (dk_at dksX5_ends_0 11 rfl rfl)
theorem dX5_ends_12 : decode cX5_ends 12 = .ok (.iadd, 1) := dk_96 (dk_at dksX5_ends_0 12 rfl rfl)
theorem dX5_ends_13 : decode cX5_ends 13 = .ok (.aload_n 0, 1) := dk_42 (dk_at dksX5_ends_0 13 rfl rfl)
theorem dX5_ends_14 : decode cX5_ends 14 = .ok (.iload_n 1, 1) := dk_27 (dk_at dksX5_ends_0 14 rfl rfl)
theorem dX5_ends_15 : decode cX5_ends 15 = .ok (.iload_n 3, 1) := dk_29 (dk_at dksX5_ends_0 15 rfl rfl)
theorem dX5_ends_16 : decode cX5_ends 16 = .ok (.invokevirtual 137, 3) := dk_182 0 137 (dk_at dksX5_ends_0 16 rfl rfl)
theorem dX5_ends_19 : decode cX5_ends 19 = .ok (.invokevirtual 146, 3) := dk_182 0 146 (dk_at dksX5_ends_0 19 rfl rfl)
theorem dX5_ends_22 : decode cX5_ends 22 = .ok (.iinc 3 1, 3) := dk_132 3 1 (dk_at dksX5_ends_1 0 rfl rfl)
theorem dX5_ends_25 : decode cX5_ends 25 = .ok (.goto (-23), 3) := dk_167 255 233 (dk_at dksX5_ends_1 3 rfl rfl)
theorem dX5_ends_28 : decode cX5_ends 28 = .ok (.aload_n 0, 1) := dk_42 (dk_at dksX5_ends_1 6 rfl rfl)
theorem dX5_ends_29 : decode cX5_ends 29 = .ok (.iload_n 1, 1) := dk_27 (dk_at dksX5_ends_1 7 rfl rfl)
theorem dX5_ends_30 : decode cX5_ends 30 = .ok (.iconst 4, 1) := dk_7 (dk_at dksX5_ends_1 8 rfl rfl)
theorem dX5_ends_31 : decode cX5_ends 31 = .ok (.iload_n 2, 1) := dk_28 (dk_at dksX5_ends_1 9 rfl rfl)
theorem dX5_ends_32 : decode cX5_ends 32 = .ok (.invokevirtual 146, 3) := dk_182 0 146 (dk_at dksX5_ends_1 10 rfl rfl)
theorem dX5_ends_35 : decode cX5_ends 35 = .ok (.return_, 1) := dk_177 (dk_at dksX5_ends_1 13 rfl rfl)
abbrev cX5_layFact : ByteArray := prog_14_method_30_code
def yX5_layFact : MethodName := ⟨RX5, "layFact", "(III)V"⟩
def dkwX5_layFact_1 : List UInt8 := [29, 2, 160, 0, 7, 2, 167, 0, 7, 29, 184, 0, 105, 182, 0, 42, 177]
abbrev dktX5_layFact_1 : List UInt8 := dkwX5_layFact_1 ++ []
def dkwX5_layFact_0 : List UInt8 := [42, 16, 85, 16, 10, 27, 104, 96, 28, 96, 29, 182, 0, 42, 42, 16, 85, 16, 10, 28, 104, 96, 27, 96]
abbrev dktX5_layFact_0 : List UInt8 := dkwX5_layFact_0 ++ dktX5_layFact_1
theorem dksX5_layFact_0 : cX5_layFact.data.toList.drop 0 = dktX5_layFact_0 := by decide +kernel
theorem dksX5_layFact_1 : cX5_layFact.data.toList.drop 24 = dktX5_layFact_1 := dk_seg dksX5_layFact_0 24 rfl rfl
theorem dX5_layFact_0 : decode cX5_layFact 0 = .ok (.aload_n 0, 1) := dk_42 (dk_at dksX5_layFact_0 0 rfl rfl)
theorem dX5_layFact_1 : decode cX5_layFact 1 = .ok (.bipush 85, 2) := dk_16 85 (dk_at dksX5_layFact_0 1 rfl rfl)
theorem dX5_layFact_3 : decode cX5_layFact 3 = .ok (.bipush 10, 2) := dk_16 10 (dk_at dksX5_layFact_0 3 rfl rfl)
theorem dX5_layFact_5 : decode cX5_layFact 5 = .ok (.iload_n 1, 1) := dk_27 (dk_at dksX5_layFact_0 5 rfl rfl)
theorem dX5_layFact_6 : decode cX5_layFact 6 = .ok (.imul, 1) := dk_104 (dk_at dksX5_layFact_0 6 rfl rfl)
theorem dX5_layFact_7 : decode cX5_layFact 7 = .ok (.iadd, 1) := dk_96 (dk_at dksX5_layFact_0 7 rfl rfl)
theorem dX5_layFact_8 : decode cX5_layFact 8 = .ok (.iload_n 2, 1) := dk_28 (dk_at dksX5_layFact_0 8 rfl rfl)
theorem dX5_layFact_9 : decode cX5_layFact 9 = .ok (.iadd, 1) := dk_96 (dk_at dksX5_layFact_0 9 rfl rfl)
theorem dX5_layFact_10 : decode cX5_layFact 10 = .ok (.iload_n 3, 1) := dk_29 (dk_at dksX5_layFact_0 10 rfl rfl)
theorem dX5_layFact_11 : decode cX5_layFact 11 = .ok (.invokevirtual 42, 3) := dk_182 0 42 (dk_at dksX5_layFact_0 11 rfl rfl)
theorem dX5_layFact_14 : decode cX5_layFact 14 = .ok (.aload_n 0, 1) := dk_42 (dk_at dksX5_layFact_0 14 rfl rfl)
theorem dX5_layFact_15 : decode cX5_layFact 15 = .ok (.bipush 85, 2) := dk_16 85 (dk_at dksX5_layFact_0 15 rfl rfl)
theorem dX5_layFact_17 : decode cX5_layFact 17 = .ok (.bipush 10, 2) := dk_16 10 (dk_at dksX5_layFact_0 17 rfl rfl)
theorem dX5_layFact_19 : decode cX5_layFact 19 = .ok (.iload_n 2, 1) := dk_28 (dk_at dksX5_layFact_0 19 rfl rfl)
theorem dX5_layFact_20 : decode cX5_layFact 20 = .ok (.imul, 1) := dk_104 (dk_at dksX5_layFact_0 20 rfl rfl)
theorem dX5_layFact_21 : decode cX5_layFact 21 = .ok (.iadd, 1) := dk_96 (dk_at dksX5_layFact_0 21 rfl rfl)
theorem dX5_layFact_22 : decode cX5_layFact 22 = .ok (.iload_n 1, 1) := dk_27 (dk_at dksX5_layFact_0 22 rfl rfl)
theorem dX5_layFact_23 : decode cX5_layFact 23 = .ok (.iadd, 1) := dk_96 (dk_at dksX5_layFact_0 23 rfl rfl)
theorem dX5_layFact_24 : decode cX5_layFact 24 = .ok (.iload_n 3, 1) := dk_29 (dk_at dksX5_layFact_1 0 rfl rfl)
theorem dX5_layFact_25 : decode cX5_layFact 25 = .ok (.iconst (-1), 1) := dk_2 (dk_at dksX5_layFact_1 1 rfl rfl)
theorem dX5_layFact_26 : decode cX5_layFact 26 = .ok (.if_icmp .ne 7, 3) := dk_160 0 7 (dk_at dksX5_layFact_1 2 rfl rfl)
theorem dX5_layFact_29 : decode cX5_layFact 29 = .ok (.iconst (-1), 1) := dk_2 (dk_at dksX5_layFact_1 5 rfl rfl)
theorem dX5_layFact_30 : decode cX5_layFact 30 = .ok (.goto 7, 3) := dk_167 0 7 (dk_at dksX5_layFact_1 6 rfl rfl)
theorem dX5_layFact_33 : decode cX5_layFact 33 = .ok (.iload_n 3, 1) := dk_29 (dk_at dksX5_layFact_1 9 rfl rfl)
theorem dX5_layFact_34 : decode cX5_layFact 34 = .ok (.invokestatic 105, 3) := dk_184 0 105 (dk_at dksX5_layFact_1 10 rfl rfl)
theorem dX5_layFact_37 : decode cX5_layFact 37 = .ok (.invokevirtual 42, 3) := dk_182 0 42 (dk_at dksX5_layFact_1 13 rfl rfl)
theorem dX5_layFact_40 : decode cX5_layFact 40 = .ok (.return_, 1) := dk_177 (dk_at dksX5_layFact_1 16 rfl rfl)
abbrev cX5_turned : ByteArray := prog_14_method_25_code
def yX5_turned : MethodName := ⟨RX5, "turned", "(I)I"⟩
def dkwX5_turned_0 : List UInt8 := [26, 5, 160, 0, 7, 5, 167, 0, 6, 4, 26, 100, 172]
abbrev dktX5_turned_0 : List UInt8 := dkwX5_turned_0 ++ []
theorem dksX5_turned_0 : cX5_turned.data.toList.drop 0 = dktX5_turned_0 := by decide +kernel
theorem dX5_turned_0 : decode cX5_turned 0 = .ok (.iload_n 0, 1) := dk_26 (dk_at dksX5_turned_0 0 rfl rfl)
theorem dX5_turned_1 : decode cX5_turned 1 = .ok (.iconst 2, 1) := dk_5 (dk_at dksX5_turned_0 1 rfl rfl)
theorem dX5_turned_2 : decode cX5_turned 2 = .ok (.if_icmp .ne 7, 3) := dk_160 0 7 (dk_at dksX5_turned_0 2 rfl rfl)
theorem dX5_turned_5 : decode cX5_turned 5 = .ok (.iconst 2, 1) := dk_5 (dk_at dksX5_turned_0 5 rfl rfl)
theorem dX5_turned_6 : decode cX5_turned 6 = .ok (.goto 6, 3) := dk_167 0 6 (dk_at dksX5_turned_0 6 rfl rfl)
theorem dX5_turned_9 : decode cX5_turned 9 = .ok (.iconst 1, 1) := dk_4 (dk_at dksX5_turned_0 9 rfl rfl)
theorem dX5_turned_10 : decode cX5_turned 10 = .ok (.iload_n 0, 1) := dk_26 (dk_at dksX5_turned_0 10 rfl rfl)
theorem dX5_turned_11 : decode cX5_turned 11 = .ok (.isub, 1) := dk_100 (dk_at dksX5_turned_0 11 rfl rfl)
theorem dX5_turned_12 : decode cX5_turned 12 = .ok (.ireturn, 1) := dk_172 (dk_at dksX5_turned_0 12 rfl rfl)
abbrev cX5_one : ByteArray := prog_14_method_9_code
def yX5_one : MethodName := ⟨RX5, "one", "(Z)I"⟩
def dkwX5_one_0 : List UInt8 := [26, 153, 0, 7, 4, 167, 0, 4, 3, 172]
abbrev dktX5_one_0 : List UInt8 := dkwX5_one_0 ++ []
theorem dksX5_one_0 : cX5_one.data.toList.drop 0 = dktX5_one_0 := by decide +kernel
theorem dX5_one_0 : decode cX5_one 0 = .ok (.iload_n 0, 1) := dk_26 (dk_at dksX5_one_0 0 rfl rfl)
theorem dX5_one_1 : decode cX5_one 1 = .ok (.ifCond .eq 7, 3) := dk_153 0 7 (dk_at dksX5_one_0 1 rfl rfl)
theorem dX5_one_4 : decode cX5_one 4 = .ok (.iconst 1, 1) := dk_4 (dk_at dksX5_one_0 4 rfl rfl)
theorem dX5_one_5 : decode cX5_one 5 = .ok (.goto 4, 3) := dk_167 0 4 (dk_at dksX5_one_0 5 rfl rfl)
theorem dX5_one_8 : decode cX5_one 8 = .ok (.iconst 0, 1) := dk_3 (dk_at dksX5_one_0 8 rfl rfl)
theorem dX5_one_9 : decode cX5_one 9 = .ok (.ireturn, 1) := dk_172 (dk_at dksX5_one_0 9 rfl rfl)
abbrev cX5_drop : ByteArray := prog_14_method_123_code
def yX5_drop : MethodName := ⟨RX5, "drop", "(I)I"⟩
def dkwX5_drop_2 : List UInt8 := [182, 1, 42, 172]
abbrev dktX5_drop_2 : List UInt8 := dkwX5_drop_2 ++ []
def dkwX5_drop_1 : List UInt8 := [182, 0, 130, 154, 0, 9, 42, 6, 182, 1, 114, 172, 42, 182, 1, 117, 42, 27, 6, 182, 1, 126, 42, 3]
abbrev dktX5_drop_1 : List UInt8 := dkwX5_drop_1 ++ dktX5_drop_2
def dkwX5_drop_0 : List UInt8 := [42, 3, 181, 0, 56, 42, 42, 27, 182, 1, 75, 4, 182, 0, 161, 154, 0, 5, 3, 172, 42, 27]
abbrev dktX5_drop_0 : List UInt8 := dkwX5_drop_0 ++ dktX5_drop_1
theorem dksX5_drop_0 : cX5_drop.data.toList.drop 0 = dktX5_drop_0 := by decide +kernel
theorem dksX5_drop_1 : cX5_drop.data.toList.drop 22 = dktX5_drop_1 := dk_seg dksX5_drop_0 22 rfl rfl
theorem dksX5_drop_2 : cX5_drop.data.toList.drop 46 = dktX5_drop_2 := dk_seg dksX5_drop_1 24 rfl rfl
theorem dX5_drop_0 : decode cX5_drop 0 = .ok (.aload_n 0, 1) := dk_42 (dk_at dksX5_drop_0 0 rfl rfl)
theorem dX5_drop_1 : decode cX5_drop 1 = .ok (.iconst 0, 1) := dk_3 (dk_at dksX5_drop_0 1 rfl rfl)
theorem dX5_drop_2 : decode cX5_drop 2 = .ok (.putfield 56, 3) := dk_181 0 56 (dk_at dksX5_drop_0 2 rfl rfl)
theorem dX5_drop_5 : decode cX5_drop 5 = .ok (.aload_n 0, 1) := dk_42 (dk_at dksX5_drop_0 5 rfl rfl)
theorem dX5_drop_6 : decode cX5_drop 6 = .ok (.aload_n 0, 1) := dk_42 (dk_at dksX5_drop_0 6 rfl rfl)
theorem dX5_drop_7 : decode cX5_drop 7 = .ok (.iload_n 1, 1) := dk_27 (dk_at dksX5_drop_0 7 rfl rfl)
theorem dX5_drop_8 : decode cX5_drop 8 = .ok (.invokevirtual 331, 3) := dk_182 1 75 (dk_at dksX5_drop_0 8 rfl rfl)
theorem dX5_drop_11 : decode cX5_drop 11 = .ok (.iconst 1, 1) := dk_4 (dk_at dksX5_drop_0 11 rfl rfl)
theorem dX5_drop_12 : decode cX5_drop 12 = .ok (.invokevirtual 161, 3) := dk_182 0 161 (dk_at dksX5_drop_0 12 rfl rfl)
theorem dX5_drop_15 : decode cX5_drop 15 = .ok (.ifCond .ne 5, 3) := dk_154 0 5 (dk_at dksX5_drop_0 15 rfl rfl)
theorem dX5_drop_18 : decode cX5_drop 18 = .ok (.iconst 0, 1) := dk_3 (dk_at dksX5_drop_0 18 rfl rfl)
theorem dX5_drop_19 : decode cX5_drop 19 = .ok (.ireturn, 1) := dk_172 (dk_at dksX5_drop_0 19 rfl rfl)
theorem dX5_drop_20 : decode cX5_drop 20 = .ok (.aload_n 0, 1) := dk_42 (dk_at dksX5_drop_0 20 rfl rfl)
theorem dX5_drop_21 : decode cX5_drop 21 = .ok (.iload_n 1, 1) := dk_27 (dk_at dksX5_drop_0 21 rfl rfl)
theorem dX5_drop_22 : decode cX5_drop 22 = .ok (.invokevirtual 130, 3) := dk_182 0 130 (dk_at dksX5_drop_1 0 rfl rfl)
theorem dX5_drop_25 : decode cX5_drop 25 = .ok (.ifCond .ne 9, 3) := dk_154 0 9 (dk_at dksX5_drop_1 3 rfl rfl)
theorem dX5_drop_28 : decode cX5_drop 28 = .ok (.aload_n 0, 1) := dk_42 (dk_at dksX5_drop_1 6 rfl rfl)
theorem dX5_drop_29 : decode cX5_drop 29 = .ok (.iconst 3, 1) := dk_6 (dk_at dksX5_drop_1 7 rfl rfl)
theorem dX5_drop_30 : decode cX5_drop 30 = .ok (.invokevirtual 370, 3) := dk_182 1 114 (dk_at dksX5_drop_1 8 rfl rfl)
theorem dX5_drop_33 : decode cX5_drop 33 = .ok (.ireturn, 1) := dk_172 (dk_at dksX5_drop_1 11 rfl rfl)
theorem dX5_drop_34 : decode cX5_drop 34 = .ok (.aload_n 0, 1) := dk_42 (dk_at dksX5_drop_1 12 rfl rfl)
theorem dX5_drop_35 : decode cX5_drop 35 = .ok (.invokevirtual 373, 3) := dk_182 1 117 (dk_at dksX5_drop_1 13 rfl rfl)
theorem dX5_drop_38 : decode cX5_drop 38 = .ok (.aload_n 0, 1) := dk_42 (dk_at dksX5_drop_1 16 rfl rfl)
theorem dX5_drop_39 : decode cX5_drop 39 = .ok (.iload_n 1, 1) := dk_27 (dk_at dksX5_drop_1 17 rfl rfl)
theorem dX5_drop_40 : decode cX5_drop 40 = .ok (.iconst 3, 1) := dk_6 (dk_at dksX5_drop_1 18 rfl rfl)
theorem dX5_drop_41 : decode cX5_drop 41 = .ok (.invokevirtual 382, 3) := dk_182 1 126 (dk_at dksX5_drop_1 19 rfl rfl)
theorem dX5_drop_44 : decode cX5_drop 44 = .ok (.aload_n 0, 1) := dk_42 (dk_at dksX5_drop_1 22 rfl rfl)
theorem dX5_drop_45 : decode cX5_drop 45 = .ok (.iconst 0, 1) := dk_3 (dk_at dksX5_drop_1 23 rfl rfl)
theorem dX5_drop_46 : decode cX5_drop 46 = .ok (.invokevirtual 298, 3) := dk_182 1 42 (dk_at dksX5_drop_2 0 rfl rfl)
theorem dX5_drop_49 : decode cX5_drop 49 = .ok (.ireturn, 1) := dk_172 (dk_at dksX5_drop_2 3 rfl rfl)
abbrev cX5_claimsThat : ByteArray := prog_14_method_47_code
def yX5_claimsThat : MethodName := ⟨RX5, "claimsThat", "(I)I"⟩
def dkwX5_claimsThat_1 : List UInt8 := [4, 167, 0, 4, 3, 184, 0, 101, 96, 61, 132, 3, 1, 167, 255, 223, 28, 172]
abbrev dktX5_claimsThat_1 : List UInt8 := dkwX5_claimsThat_1 ++ []
def dkwX5_claimsThat_0 : List UInt8 := [3, 61, 3, 62, 29, 42, 6, 182, 0, 65, 162, 0, 30, 28, 42, 29, 7, 182, 0, 73, 27, 160, 0, 7]
abbrev dktX5_claimsThat_0 : List UInt8 := dkwX5_claimsThat_0 ++ dktX5_claimsThat_1
theorem dksX5_claimsThat_0 : cX5_claimsThat.data.toList.drop 0 = dktX5_claimsThat_0 := by decide +kernel
theorem dksX5_claimsThat_1 : cX5_claimsThat.data.toList.drop 24 = dktX5_claimsThat_1 := dk_seg dksX5_claimsThat_0 24 rfl rfl
theorem dX5_claimsThat_0 : decode cX5_claimsThat 0 = .ok (.iconst 0, 1) := dk_3 (dk_at dksX5_claimsThat_0 0 rfl rfl)
theorem dX5_claimsThat_1 : decode cX5_claimsThat 1 = .ok (.istore_n 2, 1) := dk_61 (dk_at dksX5_claimsThat_0 1 rfl rfl)
theorem dX5_claimsThat_2 : decode cX5_claimsThat 2 = .ok (.iconst 0, 1) := dk_3 (dk_at dksX5_claimsThat_0 2 rfl rfl)
theorem dX5_claimsThat_3 : decode cX5_claimsThat 3 = .ok (.istore_n 3, 1) := dk_62 (dk_at dksX5_claimsThat_0 3 rfl rfl)
theorem dX5_claimsThat_4 : decode cX5_claimsThat 4 = .ok (.iload_n 3, 1) := dk_29 (dk_at dksX5_claimsThat_0 4 rfl rfl)
theorem dX5_claimsThat_5 : decode cX5_claimsThat 5 = .ok (.aload_n 0, 1) := dk_42 (dk_at dksX5_claimsThat_0 5 rfl rfl)
theorem dX5_claimsThat_6 : decode cX5_claimsThat 6 = .ok (.iconst 3, 1) := dk_6 (dk_at dksX5_claimsThat_0 6 rfl rfl)
theorem dX5_claimsThat_7 : decode cX5_claimsThat 7 = .ok (.invokevirtual 65, 3) := dk_182 0 65 (dk_at dksX5_claimsThat_0 7 rfl rfl)
theorem dX5_claimsThat_10 : decode cX5_claimsThat 10 = .ok (.if_icmp .ge 30, 3) := dk_162 0 30 (dk_at dksX5_claimsThat_0 10 rfl rfl)
theorem dX5_claimsThat_13 : decode cX5_claimsThat 13 = .ok (.iload_n 2, 1) := dk_28 (dk_at dksX5_claimsThat_0 13 rfl rfl)
theorem dX5_claimsThat_14 : decode cX5_claimsThat 14 = .ok (.aload_n 0, 1) := dk_42 (dk_at dksX5_claimsThat_0 14 rfl rfl)
theorem dX5_claimsThat_15 : decode cX5_claimsThat 15 = .ok (.iload_n 3, 1) := dk_29 (dk_at dksX5_claimsThat_0 15 rfl rfl)
theorem dX5_claimsThat_16 : decode cX5_claimsThat 16 = .ok (.iconst 4, 1) := dk_7 (dk_at dksX5_claimsThat_0 16 rfl rfl)
theorem dX5_claimsThat_17 : decode cX5_claimsThat 17 = .ok (.invokevirtual 73, 3) := dk_182 0 73 (dk_at dksX5_claimsThat_0 17 rfl rfl)
theorem dX5_claimsThat_20 : decode cX5_claimsThat 20 = .ok (.iload_n 1, 1) := dk_27 (dk_at dksX5_claimsThat_0 20 rfl rfl)
theorem dX5_claimsThat_21 : decode cX5_claimsThat 21 = .ok (.if_icmp .ne 7, 3) := dk_160 0 7 (dk_at dksX5_claimsThat_0 21 rfl rfl)
theorem dX5_claimsThat_24 : decode cX5_claimsThat 24 = .ok (.iconst 1, 1) := dk_4 (dk_at dksX5_claimsThat_1 0 rfl rfl)
theorem dX5_claimsThat_25 : decode cX5_claimsThat 25 = .ok (.goto 4, 3) := dk_167 0 4 (dk_at dksX5_claimsThat_1 1 rfl rfl)
theorem dX5_claimsThat_28 : decode cX5_claimsThat 28 = .ok (.iconst 0, 1) := dk_3 (dk_at dksX5_claimsThat_1 4 rfl rfl)
theorem dX5_claimsThat_29 : decode cX5_claimsThat 29 = .ok (.invokestatic 101, 3) := dk_184 0 101 (dk_at dksX5_claimsThat_1 5 rfl rfl)
theorem dX5_claimsThat_32 : decode cX5_claimsThat 32 = .ok (.iadd, 1) := dk_96 (dk_at dksX5_claimsThat_1 8 rfl rfl)
theorem dX5_claimsThat_33 : decode cX5_claimsThat 33 = .ok (.istore_n 2, 1) := dk_61 (dk_at dksX5_claimsThat_1 9 rfl rfl)
theorem dX5_claimsThat_34 : decode cX5_claimsThat 34 = .ok (.iinc 3 1, 3) := dk_132 3 1 (dk_at dksX5_claimsThat_1 10 rfl rfl)
theorem dX5_claimsThat_37 : decode cX5_claimsThat 37 = .ok (.goto (-33), 3) := dk_167 255 223 (dk_at dksX5_claimsThat_1 13 rfl rfl)
theorem dX5_claimsThat_40 : decode cX5_claimsThat 40 = .ok (.iload_n 2, 1) := dk_28 (dk_at dksX5_claimsThat_1 16 rfl rfl)
theorem dX5_claimsThat_41 : decode cX5_claimsThat 41 = .ok (.ireturn, 1) := dk_172 (dk_at dksX5_claimsThat_1 17 rfl rfl)
abbrev cX5_put : ByteArray := prog_14_method_124_code
def yX5_put : MethodName := ⟨RX5, "put", "(III)I"⟩
def dkwX5_put_3 : List UInt8 := [42, 27, 182, 0, 86, 172]
abbrev dktX5_put_3 : List UInt8 := dkwX5_put_3 ++ []
def dkwX5_put_2 : List UInt8 := [16, 6, 182, 1, 114, 172, 42, 182, 1, 117, 42, 27, 5, 28, 96, 29, 182, 0, 76, 42, 27, 182, 1, 129]
abbrev dktX5_put_2 : List UInt8 := dkwX5_put_2 ++ dktX5_put_3
def dkwX5_put_1 : List UInt8 := [184, 0, 165, 5, 182, 0, 161, 154, 0, 5, 3, 172, 29, 42, 27, 28, 182, 0, 80, 160, 0, 10, 42]
abbrev dktX5_put_1 : List UInt8 := dkwX5_put_1 ++ dktX5_put_2
def dkwX5_put_0 : List UInt8 := [42, 3, 181, 0, 56, 42, 42, 27, 28, 182, 1, 72, 4, 182, 0, 161, 153, 0, 18, 42, 29, 3, 16, 9]
abbrev dktX5_put_0 : List UInt8 := dkwX5_put_0 ++ dktX5_put_1
theorem dksX5_put_0 : cX5_put.data.toList.drop 0 = dktX5_put_0 := by decide +kernel
theorem dksX5_put_1 : cX5_put.data.toList.drop 24 = dktX5_put_1 := dk_seg dksX5_put_0 24 rfl rfl
theorem dksX5_put_2 : cX5_put.data.toList.drop 47 = dktX5_put_2 := dk_seg dksX5_put_1 23 rfl rfl
theorem dksX5_put_3 : cX5_put.data.toList.drop 71 = dktX5_put_3 := dk_seg dksX5_put_2 24 rfl rfl
theorem dX5_put_0 : decode cX5_put 0 = .ok (.aload_n 0, 1) := dk_42 (dk_at dksX5_put_0 0 rfl rfl)
theorem dX5_put_1 : decode cX5_put 1 = .ok (.iconst 0, 1) := dk_3 (dk_at dksX5_put_0 1 rfl rfl)
theorem dX5_put_2 : decode cX5_put 2 = .ok (.putfield 56, 3) := dk_181 0 56 (dk_at dksX5_put_0 2 rfl rfl)
theorem dX5_put_5 : decode cX5_put 5 = .ok (.aload_n 0, 1) := dk_42 (dk_at dksX5_put_0 5 rfl rfl)
theorem dX5_put_6 : decode cX5_put 6 = .ok (.aload_n 0, 1) := dk_42 (dk_at dksX5_put_0 6 rfl rfl)
theorem dX5_put_7 : decode cX5_put 7 = .ok (.iload_n 1, 1) := dk_27 (dk_at dksX5_put_0 7 rfl rfl)
theorem dX5_put_8 : decode cX5_put 8 = .ok (.iload_n 2, 1) := dk_28 (dk_at dksX5_put_0 8 rfl rfl)
theorem dX5_put_9 : decode cX5_put 9 = .ok (.invokevirtual 328, 3) := dk_182 1 72 (dk_at dksX5_put_0 9 rfl rfl)
theorem dX5_put_12 : decode cX5_put 12 = .ok (.iconst 1, 1) := dk_4 (dk_at dksX5_put_0 12 rfl rfl)
theorem dX5_put_13 : decode cX5_put 13 = .ok (.invokevirtual 161, 3) := dk_182 0 161 (dk_at dksX5_put_0 13 rfl rfl)
theorem dX5_put_16 : decode cX5_put 16 = .ok (.ifCond .eq 18, 3) := dk_153 0 18 (dk_at dksX5_put_0 16 rfl rfl)
theorem dX5_put_19 : decode cX5_put 19 = .ok (.aload_n 0, 1) := dk_42 (dk_at dksX5_put_0 19 rfl rfl)
theorem dX5_put_20 : decode cX5_put 20 = .ok (.iload_n 3, 1) := dk_29 (dk_at dksX5_put_0 20 rfl rfl)
theorem dX5_put_21 : decode cX5_put 21 = .ok (.iconst 0, 1) := dk_3 (dk_at dksX5_put_0 21 rfl rfl)
theorem dX5_put_22 : decode cX5_put 22 = .ok (.bipush 9, 2) := dk_16 9 (dk_at dksX5_put_0 22 rfl rfl)
theorem dX5_put_24 : decode cX5_put 24 = .ok (.invokestatic 165, 3) := dk_184 0 165 (dk_at dksX5_put_1 0 rfl rfl)
theorem dX5_put_27 : decode cX5_put 27 = .ok (.iconst 2, 1) := dk_5 (dk_at dksX5_put_1 3 rfl rfl)
theorem dX5_put_28 : decode cX5_put 28 = .ok (.invokevirtual 161, 3) := dk_182 0 161 (dk_at dksX5_put_1 4 rfl rfl)
theorem dX5_put_31 : decode cX5_put 31 = .ok (.ifCond .ne 5, 3) := dk_154 0 5 (dk_at dksX5_put_1 7 rfl rfl)
theorem dX5_put_34 : decode cX5_put 34 = .ok (.iconst 0, 1) := dk_3 (dk_at dksX5_put_1 10 rfl rfl)
theorem dX5_put_35 : decode cX5_put 35 = .ok (.ireturn, 1) := dk_172 (dk_at dksX5_put_1 11 rfl rfl)
theorem dX5_put_36 : decode cX5_put 36 = .ok (.iload_n 3, 1) := dk_29 (dk_at dksX5_put_1 12 rfl rfl)
theorem dX5_put_37 : decode cX5_put 37 = .ok (.aload_n 0, 1) := dk_42 (dk_at dksX5_put_1 13 rfl rfl)
theorem dX5_put_38 : decode cX5_put 38 = .ok (.iload_n 1, 1) := dk_27 (dk_at dksX5_put_1 14 rfl rfl)
theorem dX5_put_39 : decode cX5_put 39 = .ok (.iload_n 2, 1) := dk_28 (dk_at dksX5_put_1 15 rfl rfl)
theorem dX5_put_40 : decode cX5_put 40 = .ok (.invokevirtual 80, 3) := dk_182 0 80 (dk_at dksX5_put_1 16 rfl rfl)
theorem dX5_put_43 : decode cX5_put 43 = .ok (.if_icmp .ne 10, 3) := dk_160 0 10 (dk_at dksX5_put_1 19 rfl rfl)
theorem dX5_put_46 : decode cX5_put 46 = .ok (.aload_n 0, 1) := dk_42 (dk_at dksX5_put_1 22 rfl rfl)
theorem dX5_put_47 : decode cX5_put 47 = .ok (.bipush 6, 2) := dk_16 6 (dk_at dksX5_put_2 0 rfl rfl)
theorem dX5_put_49 : decode cX5_put 49 = .ok (.invokevirtual 370, 3) := dk_182 1 114 (dk_at dksX5_put_2 2 rfl rfl)
theorem dX5_put_52 : decode cX5_put 52 = .ok (.ireturn, 1) := dk_172 (dk_at dksX5_put_2 5 rfl rfl)
theorem dX5_put_53 : decode cX5_put 53 = .ok (.aload_n 0, 1) := dk_42 (dk_at dksX5_put_2 6 rfl rfl)
theorem dX5_put_54 : decode cX5_put 54 = .ok (.invokevirtual 373, 3) := dk_182 1 117 (dk_at dksX5_put_2 7 rfl rfl)
theorem dX5_put_57 : decode cX5_put 57 = .ok (.aload_n 0, 1) := dk_42 (dk_at dksX5_put_2 10 rfl rfl)
theorem dX5_put_58 : decode cX5_put 58 = .ok (.iload_n 1, 1) := dk_27 (dk_at dksX5_put_2 11 rfl rfl)
theorem dX5_put_59 : decode cX5_put 59 = .ok (.iconst 2, 1) := dk_5 (dk_at dksX5_put_2 12 rfl rfl)
theorem dX5_put_60 : decode cX5_put 60 = .ok (.iload_n 2, 1) := dk_28 (dk_at dksX5_put_2 13 rfl rfl)
theorem dX5_put_61 : decode cX5_put 61 = .ok (.iadd, 1) := dk_96 (dk_at dksX5_put_2 14 rfl rfl)
theorem dX5_put_62 : decode cX5_put 62 = .ok (.iload_n 3, 1) := dk_29 (dk_at dksX5_put_2 15 rfl rfl)
theorem dX5_put_63 : decode cX5_put 63 = .ok (.invokevirtual 76, 3) := dk_182 0 76 (dk_at dksX5_put_2 16 rfl rfl)
theorem dX5_put_66 : decode cX5_put 66 = .ok (.aload_n 0, 1) := dk_42 (dk_at dksX5_put_2 19 rfl rfl)
theorem dX5_put_67 : decode cX5_put 67 = .ok (.iload_n 1, 1) := dk_27 (dk_at dksX5_put_2 20 rfl rfl)
theorem dX5_put_68 : decode cX5_put 68 = .ok (.invokevirtual 385, 3) := dk_182 1 129 (dk_at dksX5_put_2 21 rfl rfl)
theorem dX5_put_71 : decode cX5_put 71 = .ok (.aload_n 0, 1) := dk_42 (dk_at dksX5_put_3 0 rfl rfl)
theorem dX5_put_72 : decode cX5_put 72 = .ok (.iload_n 1, 1) := dk_27 (dk_at dksX5_put_3 1 rfl rfl)
theorem dX5_put_73 : decode cX5_put 73 = .ok (.invokevirtual 86, 3) := dk_182 0 86 (dk_at dksX5_put_3 2 rfl rfl)
theorem dX5_put_76 : decode cX5_put 76 = .ok (.ireturn, 1) := dk_172 (dk_at dksX5_put_3 5 rfl rfl)
abbrev cX5_changes : ByteArray := prog_14_method_45_code
def yX5_changes : MethodName := ⟨RX5, "changes", "(I)V"⟩
def dkwX5_changes_4 : List UInt8 := [167, 255, 211, 177]
abbrev dktX5_changes_4 : List UInt8 := dkwX5_changes_4 ++ []
def dkwX5_changes_3 : List UInt8 := [27, 159, 0, 13, 42, 28, 4, 182, 0, 123, 27, 160, 0, 8, 42, 28, 182, 0, 152, 132, 2, 1]
abbrev dktX5_changes_3 : List UInt8 := dkwX5_changes_3 ++ dktX5_changes_4
def dkwX5_changes_2 : List UInt8 := [61, 28, 42, 6, 182, 0, 65, 162, 0, 42, 42, 28, 182, 0, 130, 153, 0, 28, 42, 28, 3, 182, 0, 123]
abbrev dktX5_changes_2 : List UInt8 := dkwX5_changes_2 ++ dktX5_changes_3
def dkwX5_changes_1 : List UInt8 := [167, 0, 4, 3, 184, 0, 101, 182, 0, 143, 42, 27, 28, 2, 182, 0, 149, 132, 2, 1, 167, 255, 214, 3]
abbrev dktX5_changes_1 : List UInt8 := dkwX5_changes_1 ++ dktX5_changes_2
def dkwX5_changes_0 : List UInt8 := [3, 61, 28, 42, 4, 182, 0, 65, 162, 0, 39, 42, 5, 42, 27, 28, 182, 0, 108, 2, 159, 0, 7, 4]
abbrev dktX5_changes_0 : List UInt8 := dkwX5_changes_0 ++ dktX5_changes_1
theorem dksX5_changes_0 : cX5_changes.data.toList.drop 0 = dktX5_changes_0 := by decide +kernel
theorem dksX5_changes_1 : cX5_changes.data.toList.drop 24 = dktX5_changes_1 := dk_seg dksX5_changes_0 24 rfl rfl
theorem dksX5_changes_2 : cX5_changes.data.toList.drop 48 = dktX5_changes_2 := dk_seg dksX5_changes_1 24 rfl rfl
theorem dksX5_changes_3 : cX5_changes.data.toList.drop 72 = dktX5_changes_3 := dk_seg dksX5_changes_2 24 rfl rfl
theorem dksX5_changes_4 : cX5_changes.data.toList.drop 94 = dktX5_changes_4 := dk_seg dksX5_changes_3 22 rfl rfl
theorem dX5_changes_0 : decode cX5_changes 0 = .ok (.iconst 0, 1) := dk_3 (dk_at dksX5_changes_0 0 rfl rfl)
theorem dX5_changes_1 : decode cX5_changes 1 = .ok (.istore_n 2, 1) := dk_61 (dk_at dksX5_changes_0 1 rfl rfl)
theorem dX5_changes_2 : decode cX5_changes 2 = .ok (.iload_n 2, 1) := dk_28 (dk_at dksX5_changes_0 2 rfl rfl)
theorem dX5_changes_3 : decode cX5_changes 3 = .ok (.aload_n 0, 1) := dk_42 (dk_at dksX5_changes_0 3 rfl rfl)
theorem dX5_changes_4 : decode cX5_changes 4 = .ok (.iconst 1, 1) := dk_4 (dk_at dksX5_changes_0 4 rfl rfl)
theorem dX5_changes_5 : decode cX5_changes 5 = .ok (.invokevirtual 65, 3) := dk_182 0 65 (dk_at dksX5_changes_0 5 rfl rfl)
theorem dX5_changes_8 : decode cX5_changes 8 = .ok (.if_icmp .ge 39, 3) := dk_162 0 39 (dk_at dksX5_changes_0 8 rfl rfl)
theorem dX5_changes_11 : decode cX5_changes 11 = .ok (.aload_n 0, 1) := dk_42 (dk_at dksX5_changes_0 11 rfl rfl)
theorem dX5_changes_12 : decode cX5_changes 12 = .ok (.iconst 2, 1) := dk_5 (dk_at dksX5_changes_0 12 rfl rfl)
theorem dX5_changes_13 : decode cX5_changes 13 = .ok (.aload_n 0, 1) := dk_42 (dk_at dksX5_changes_0 13 rfl rfl)
theorem dX5_changes_14 : decode cX5_changes 14 = .ok (.iload_n 1, 1) := dk_27 (dk_at dksX5_changes_0 14 rfl rfl)
theorem dX5_changes_15 : decode cX5_changes 15 = .ok (.iload_n 2, 1) := dk_28 (dk_at dksX5_changes_0 15 rfl rfl)
theorem dX5_changes_16 : decode cX5_changes 16 = .ok (.invokevirtual 108, 3) := dk_182 0 108 (dk_at dksX5_changes_0 16 rfl rfl)
theorem dX5_changes_19 : decode cX5_changes 19 = .ok (.iconst (-1), 1) := dk_2 (dk_at dksX5_changes_0 19 rfl rfl)
theorem dX5_changes_20 : decode cX5_changes 20 = .ok (.if_icmp .eq 7, 3) := dk_159 0 7 (dk_at dksX5_changes_0 20 rfl rfl)
theorem dX5_changes_23 : decode cX5_changes 23 = .ok (.iconst 1, 1) := dk_4 (dk_at dksX5_changes_0 23 rfl rfl)
theorem dX5_changes_24 : decode cX5_changes 24 = .ok (.goto 4, 3) := dk_167 0 4 (dk_at dksX5_changes_1 0 rfl rfl)
theorem dX5_changes_27 : decode cX5_changes 27 = .ok (.iconst 0, 1) := dk_3 (dk_at dksX5_changes_1 3 rfl rfl)
theorem dX5_changes_28 : decode cX5_changes 28 = .ok (.invokestatic 101, 3) := dk_184 0 101 (dk_at dksX5_changes_1 4 rfl rfl)
theorem dX5_changes_31 : decode cX5_changes 31 = .ok (.invokevirtual 143, 3) := dk_182 0 143 (dk_at dksX5_changes_1 7 rfl rfl)
theorem dX5_changes_34 : decode cX5_changes 34 = .ok (.aload_n 0, 1) := dk_42 (dk_at dksX5_changes_1 10 rfl rfl)
theorem dX5_changes_35 : decode cX5_changes 35 = .ok (.iload_n 1, 1) := dk_27 (dk_at dksX5_changes_1 11 rfl rfl)
theorem dX5_changes_36 : decode cX5_changes 36 = .ok (.iload_n 2, 1) := dk_28 (dk_at dksX5_changes_1 12 rfl rfl)
theorem dX5_changes_37 : decode cX5_changes 37 = .ok (.iconst (-1), 1) := dk_2 (dk_at dksX5_changes_1 13 rfl rfl)
theorem dX5_changes_38 : decode cX5_changes 38 = .ok (.invokevirtual 149, 3) := dk_182 0 149 (dk_at dksX5_changes_1 14 rfl rfl)
theorem dX5_changes_41 : decode cX5_changes 41 = .ok (.iinc 2 1, 3) := dk_132 2 1 (dk_at dksX5_changes_1 17 rfl rfl)
theorem dX5_changes_44 : decode cX5_changes 44 = .ok (.goto (-42), 3) := dk_167 255 214 (dk_at dksX5_changes_1 20 rfl rfl)
theorem dX5_changes_47 : decode cX5_changes 47 = .ok (.iconst 0, 1) := dk_3 (dk_at dksX5_changes_1 23 rfl rfl)
theorem dX5_changes_48 : decode cX5_changes 48 = .ok (.istore_n 2, 1) := dk_61 (dk_at dksX5_changes_2 0 rfl rfl)
theorem dX5_changes_49 : decode cX5_changes 49 = .ok (.iload_n 2, 1) := dk_28 (dk_at dksX5_changes_2 1 rfl rfl)
theorem dX5_changes_50 : decode cX5_changes 50 = .ok (.aload_n 0, 1) := dk_42 (dk_at dksX5_changes_2 2 rfl rfl)
theorem dX5_changes_51 : decode cX5_changes 51 = .ok (.iconst 3, 1) := dk_6 (dk_at dksX5_changes_2 3 rfl rfl)
theorem dX5_changes_52 : decode cX5_changes 52 = .ok (.invokevirtual 65, 3) := dk_182 0 65 (dk_at dksX5_changes_2 4 rfl rfl)
theorem dX5_changes_55 : decode cX5_changes 55 = .ok (.if_icmp .ge 42, 3) := dk_162 0 42 (dk_at dksX5_changes_2 7 rfl rfl)
theorem dX5_changes_58 : decode cX5_changes 58 = .ok (.aload_n 0, 1) := dk_42 (dk_at dksX5_changes_2 10 rfl rfl)
theorem dX5_changes_59 : decode cX5_changes 59 = .ok (.iload_n 2, 1) := dk_28 (dk_at dksX5_changes_2 11 rfl rfl)
theorem dX5_changes_60 : decode cX5_changes 60 = .ok (.invokevirtual 130, 3) := dk_182 0 130 (dk_at dksX5_changes_2 12 rfl rfl)
theorem dX5_changes_63 : decode cX5_changes 63 = .ok (.ifCond .eq 28, 3) := dk_153 0 28 (dk_at dksX5_changes_2 15 rfl rfl)
theorem dX5_changes_66 : decode cX5_changes 66 = .ok (.aload_n 0, 1) := dk_42 (dk_at dksX5_changes_2 18 rfl rfl)
theorem dX5_changes_67 : decode cX5_changes 67 = .ok (.iload_n 2, 1) := dk_28 (dk_at dksX5_changes_2 19 rfl rfl)
theorem dX5_changes_68 : decode cX5_changes 68 = .ok (.iconst 0, 1) := dk_3 (dk_at dksX5_changes_2 20 rfl rfl)
theorem dX5_changes_69 : decode cX5_changes 69 = .ok (.invokevirtual 123, 3) := dk_182 0 123 (dk_at dksX5_changes_2 21 rfl rfl)
theorem dX5_changes_72 : decode cX5_changes 72 = .ok (.iload_n 1, 1) := dk_27 (dk_at dksX5_changes_3 0 rfl rfl)
theorem dX5_changes_73 : decode cX5_changes 73 = .ok (.if_icmp .eq 13, 3) := dk_159 0 13 (dk_at dksX5_changes_3 1 rfl rfl)
theorem dX5_changes_76 : decode cX5_changes 76 = .ok (.aload_n 0, 1) := dk_42 (dk_at dksX5_changes_3 4 rfl rfl)
theorem dX5_changes_77 : decode cX5_changes 77 = .ok (.iload_n 2, 1) := dk_28 (dk_at dksX5_changes_3 5 rfl rfl)
theorem dX5_changes_78 : decode cX5_changes 78 = .ok (.iconst 1, 1) := dk_4 (dk_at dksX5_changes_3 6 rfl rfl)
theorem dX5_changes_79 : decode cX5_changes 79 = .ok (.invokevirtual 123, 3) := dk_182 0 123 (dk_at dksX5_changes_3 7 rfl rfl)
theorem dX5_changes_82 : decode cX5_changes 82 = .ok (.iload_n 1, 1) := dk_27 (dk_at dksX5_changes_3 10 rfl rfl)
theorem dX5_changes_83 : decode cX5_changes 83 = .ok (.if_icmp .ne 8, 3) := dk_160 0 8 (dk_at dksX5_changes_3 11 rfl rfl)
theorem dX5_changes_86 : decode cX5_changes 86 = .ok (.aload_n 0, 1) := dk_42 (dk_at dksX5_changes_3 14 rfl rfl)
theorem dX5_changes_87 : decode cX5_changes 87 = .ok (.iload_n 2, 1) := dk_28 (dk_at dksX5_changes_3 15 rfl rfl)
theorem dX5_changes_88 : decode cX5_changes 88 = .ok (.invokevirtual 152, 3) := dk_182 0 152 (dk_at dksX5_changes_3 16 rfl rfl)
theorem dX5_changes_91 : decode cX5_changes 91 = .ok (.iinc 2 1, 3) := dk_132 2 1 (dk_at dksX5_changes_3 19 rfl rfl)
theorem dX5_changes_94 : decode cX5_changes 94 = .ok (.goto (-45), 3) := dk_167 255 211 (dk_at dksX5_changes_4 0 rfl rfl)
theorem dX5_changes_97 : decode cX5_changes 97 = .ok (.return_, 1) := dk_177 (dk_at dksX5_changes_4 3 rfl rfl)
abbrev cX5_factOf : ByteArray := prog_14_method_29_code
def yX5_factOf : MethodName := ⟨RX5, "factOf", "(II)I"⟩
def dkwX5_factOf_0 : List UInt8 := [42, 16, 85, 16, 10, 27, 104, 96, 28, 96, 182, 0, 65, 172]
abbrev dktX5_factOf_0 : List UInt8 := dkwX5_factOf_0 ++ []
theorem dksX5_factOf_0 : cX5_factOf.data.toList.drop 0 = dktX5_factOf_0 := by decide +kernel
theorem dX5_factOf_0 : decode cX5_factOf 0 = .ok (.aload_n 0, 1) := dk_42 (dk_at dksX5_factOf_0 0 rfl rfl)
theorem dX5_factOf_1 : decode cX5_factOf 1 = .ok (.bipush 85, 2) := dk_16 85 (dk_at dksX5_factOf_0 1 rfl rfl)
theorem dX5_factOf_3 : decode cX5_factOf 3 = .ok (.bipush 10, 2) := dk_16 10 (dk_at dksX5_factOf_0 3 rfl rfl)
theorem dX5_factOf_5 : decode cX5_factOf 5 = .ok (.iload_n 1, 1) := dk_27 (dk_at dksX5_factOf_0 5 rfl rfl)
theorem dX5_factOf_6 : decode cX5_factOf 6 = .ok (.imul, 1) := dk_104 (dk_at dksX5_factOf_0 6 rfl rfl)
theorem dX5_factOf_7 : decode cX5_factOf 7 = .ok (.iadd, 1) := dk_96 (dk_at dksX5_factOf_0 7 rfl rfl)
theorem dX5_factOf_8 : decode cX5_factOf 8 = .ok (.iload_n 2, 1) := dk_28 (dk_at dksX5_factOf_0 8 rfl rfl)
theorem dX5_factOf_9 : decode cX5_factOf 9 = .ok (.iadd, 1) := dk_96 (dk_at dksX5_factOf_0 9 rfl rfl)
theorem dX5_factOf_10 : decode cX5_factOf 10 = .ok (.invokevirtual 65, 3) := dk_182 0 65 (dk_at dksX5_factOf_0 10 rfl rfl)
theorem dX5_factOf_13 : decode cX5_factOf 13 = .ok (.ireturn, 1) := dk_172 (dk_at dksX5_factOf_0 13 rfl rfl)
abbrev cX5_beginsAnew : ByteArray := prog_14_method_46_code
def yX5_beginsAnew : MethodName := ⟨RX5, "beginsAnew", "(I)V"⟩
def dkwX5_beginsAnew_2 : List UInt8 := [3, 184, 0, 101, 182, 0, 143, 177]
abbrev dktX5_beginsAnew_2 : List UInt8 := dkwX5_beginsAnew_2 ++ []
def dkwX5_beginsAnew_1 : List UInt8 := [16, 8, 29, 96, 3, 182, 0, 146, 132, 3, 1, 167, 255, 225, 42, 6, 28, 158, 0, 7, 4, 167, 0, 4]
abbrev dktX5_beginsAnew_1 : List UInt8 := dkwX5_beginsAnew_1 ++ dktX5_beginsAnew_2
def dkwX5_beginsAnew_0 : List UInt8 := [3, 61, 3, 62, 29, 16, 10, 162, 0, 31, 28, 42, 27, 16, 8, 29, 96, 182, 0, 73, 96, 61, 42, 27]
abbrev dktX5_beginsAnew_0 : List UInt8 := dkwX5_beginsAnew_0 ++ dktX5_beginsAnew_1
theorem dksX5_beginsAnew_0 : cX5_beginsAnew.data.toList.drop 0 = dktX5_beginsAnew_0 := by decide +kernel
theorem dksX5_beginsAnew_1 : cX5_beginsAnew.data.toList.drop 24 = dktX5_beginsAnew_1 := dk_seg dksX5_beginsAnew_0 24 rfl rfl
theorem dksX5_beginsAnew_2 : cX5_beginsAnew.data.toList.drop 48 = dktX5_beginsAnew_2 := dk_seg dksX5_beginsAnew_1 24 rfl rfl
theorem dX5_beginsAnew_0 : decode cX5_beginsAnew 0 = .ok (.iconst 0, 1) := dk_3 (dk_at dksX5_beginsAnew_0 0 rfl rfl)
theorem dX5_beginsAnew_1 : decode cX5_beginsAnew 1 = .ok (.istore_n 2, 1) := dk_61 (dk_at dksX5_beginsAnew_0 1 rfl rfl)
theorem dX5_beginsAnew_2 : decode cX5_beginsAnew 2 = .ok (.iconst 0, 1) := dk_3 (dk_at dksX5_beginsAnew_0 2 rfl rfl)
theorem dX5_beginsAnew_3 : decode cX5_beginsAnew 3 = .ok (.istore_n 3, 1) := dk_62 (dk_at dksX5_beginsAnew_0 3 rfl rfl)
theorem dX5_beginsAnew_4 : decode cX5_beginsAnew 4 = .ok (.iload_n 3, 1) := dk_29 (dk_at dksX5_beginsAnew_0 4 rfl rfl)
theorem dX5_beginsAnew_5 : decode cX5_beginsAnew 5 = .ok (.bipush 10, 2) := dk_16 10 (dk_at dksX5_beginsAnew_0 5 rfl rfl)
theorem dX5_beginsAnew_7 : decode cX5_beginsAnew 7 = .ok (.if_icmp .ge 31, 3) := dk_162 0 31 (dk_at dksX5_beginsAnew_0 7 rfl rfl)
theorem dX5_beginsAnew_10 : decode cX5_beginsAnew 10 = .ok (.iload_n 2, 1) := dk_28 (dk_at dksX5_beginsAnew_0 10 rfl rfl)
theorem dX5_beginsAnew_11 : decode cX5_beginsAnew 11 = .ok (.aload_n 0, 1) := dk_42 (dk_at dksX5_beginsAnew_0 11 rfl rfl)
theorem dX5_beginsAnew_12 : decode cX5_beginsAnew 12 = .ok (.iload_n 1, 1) := dk_27 (dk_at dksX5_beginsAnew_0 12 rfl rfl)
theorem dX5_beginsAnew_13 : decode cX5_beginsAnew 13 = .ok (.bipush 8, 2) := dk_16 8 (dk_at dksX5_beginsAnew_0 13 rfl rfl)
theorem dX5_beginsAnew_15 : decode cX5_beginsAnew 15 = .ok (.iload_n 3, 1) := dk_29 (dk_at dksX5_beginsAnew_0 15 rfl rfl)
theorem dX5_beginsAnew_16 : decode cX5_beginsAnew 16 = .ok (.iadd, 1) := dk_96 (dk_at dksX5_beginsAnew_0 16 rfl rfl)
theorem dX5_beginsAnew_17 : decode cX5_beginsAnew 17 = .ok (.invokevirtual 73, 3) := dk_182 0 73 (dk_at dksX5_beginsAnew_0 17 rfl rfl)
theorem dX5_beginsAnew_20 : decode cX5_beginsAnew 20 = .ok (.iadd, 1) := dk_96 (dk_at dksX5_beginsAnew_0 20 rfl rfl)
theorem dX5_beginsAnew_21 : decode cX5_beginsAnew 21 = .ok (.istore_n 2, 1) := dk_61 (dk_at dksX5_beginsAnew_0 21 rfl rfl)
theorem dX5_beginsAnew_22 : decode cX5_beginsAnew 22 = .ok (.aload_n 0, 1) := dk_42 (dk_at dksX5_beginsAnew_0 22 rfl rfl)
theorem dX5_beginsAnew_23 : decode cX5_beginsAnew 23 = .ok (.iload_n 1, 1) := dk_27 (dk_at dksX5_beginsAnew_0 23 rfl rfl)
theorem dX5_beginsAnew_24 : decode cX5_beginsAnew 24 = .ok (.bipush 8, 2) := dk_16 8 (dk_at dksX5_beginsAnew_1 0 rfl rfl)
theorem dX5_beginsAnew_26 : decode cX5_beginsAnew 26 = .ok (.iload_n 3, 1) := dk_29 (dk_at dksX5_beginsAnew_1 2 rfl rfl)
theorem dX5_beginsAnew_27 : decode cX5_beginsAnew 27 = .ok (.iadd, 1) := dk_96 (dk_at dksX5_beginsAnew_1 3 rfl rfl)
theorem dX5_beginsAnew_28 : decode cX5_beginsAnew 28 = .ok (.iconst 0, 1) := dk_3 (dk_at dksX5_beginsAnew_1 4 rfl rfl)
theorem dX5_beginsAnew_29 : decode cX5_beginsAnew 29 = .ok (.invokevirtual 146, 3) := dk_182 0 146 (dk_at dksX5_beginsAnew_1 5 rfl rfl)
theorem dX5_beginsAnew_32 : decode cX5_beginsAnew 32 = .ok (.iinc 3 1, 3) := dk_132 3 1 (dk_at dksX5_beginsAnew_1 8 rfl rfl)
theorem dX5_beginsAnew_35 : decode cX5_beginsAnew 35 = .ok (.goto (-31), 3) := dk_167 255 225 (dk_at dksX5_beginsAnew_1 11 rfl rfl)
theorem dX5_beginsAnew_38 : decode cX5_beginsAnew 38 = .ok (.aload_n 0, 1) := dk_42 (dk_at dksX5_beginsAnew_1 14 rfl rfl)
theorem dX5_beginsAnew_39 : decode cX5_beginsAnew 39 = .ok (.iconst 3, 1) := dk_6 (dk_at dksX5_beginsAnew_1 15 rfl rfl)
theorem dX5_beginsAnew_40 : decode cX5_beginsAnew 40 = .ok (.iload_n 2, 1) := dk_28 (dk_at dksX5_beginsAnew_1 16 rfl rfl)
theorem dX5_beginsAnew_41 : decode cX5_beginsAnew 41 = .ok (.ifCond .le 7, 3) := dk_158 0 7 (dk_at dksX5_beginsAnew_1 17 rfl rfl)
theorem dX5_beginsAnew_44 : decode cX5_beginsAnew 44 = .ok (.iconst 1, 1) := dk_4 (dk_at dksX5_beginsAnew_1 20 rfl rfl)
theorem dX5_beginsAnew_45 : decode cX5_beginsAnew 45 = .ok (.goto 4, 3) := dk_167 0 4 (dk_at dksX5_beginsAnew_1 21 rfl rfl)
theorem dX5_beginsAnew_48 : decode cX5_beginsAnew 48 = .ok (.iconst 0, 1) := dk_3 (dk_at dksX5_beginsAnew_2 0 rfl rfl)
theorem dX5_beginsAnew_49 : decode cX5_beginsAnew 49 = .ok (.invokestatic 101, 3) := dk_184 0 101 (dk_at dksX5_beginsAnew_2 1 rfl rfl)
theorem dX5_beginsAnew_52 : decode cX5_beginsAnew 52 = .ok (.invokevirtual 143, 3) := dk_182 0 143 (dk_at dksX5_beginsAnew_2 4 rfl rfl)
theorem dX5_beginsAnew_55 : decode cX5_beginsAnew 55 = .ok (.return_, 1) := dk_177 (dk_at dksX5_beginsAnew_2 7 rfl rfl)
abbrev cX5_sizeOf : ByteArray := prog_14_method_21_code
def yX5_sizeOf : MethodName := ⟨RX5, "sizeOf", "(I)I"⟩
def dkwX5_sizeOf_1 : List UInt8 := [132, 3, 1, 167, 255, 234, 28, 172]
abbrev dktX5_sizeOf_1 : List UInt8 := dkwX5_sizeOf_1 ++ []
def dkwX5_sizeOf_0 : List UInt8 := [3, 61, 3, 62, 29, 42, 27, 4, 182, 0, 69, 162, 0, 18, 28, 42, 27, 29, 182, 0, 80, 96, 61]
abbrev dktX5_sizeOf_0 : List UInt8 := dkwX5_sizeOf_0 ++ dktX5_sizeOf_1
theorem dksX5_sizeOf_0 : cX5_sizeOf.data.toList.drop 0 = dktX5_sizeOf_0 := by decide +kernel
theorem dksX5_sizeOf_1 : cX5_sizeOf.data.toList.drop 23 = dktX5_sizeOf_1 := dk_seg dksX5_sizeOf_0 23 rfl rfl
theorem dX5_sizeOf_0 : decode cX5_sizeOf 0 = .ok (.iconst 0, 1) := dk_3 (dk_at dksX5_sizeOf_0 0 rfl rfl)
theorem dX5_sizeOf_1 : decode cX5_sizeOf 1 = .ok (.istore_n 2, 1) := dk_61 (dk_at dksX5_sizeOf_0 1 rfl rfl)
theorem dX5_sizeOf_2 : decode cX5_sizeOf 2 = .ok (.iconst 0, 1) := dk_3 (dk_at dksX5_sizeOf_0 2 rfl rfl)
theorem dX5_sizeOf_3 : decode cX5_sizeOf 3 = .ok (.istore_n 3, 1) := dk_62 (dk_at dksX5_sizeOf_0 3 rfl rfl)
theorem dX5_sizeOf_4 : decode cX5_sizeOf 4 = .ok (.iload_n 3, 1) := dk_29 (dk_at dksX5_sizeOf_0 4 rfl rfl)
theorem dX5_sizeOf_5 : decode cX5_sizeOf 5 = .ok (.aload_n 0, 1) := dk_42 (dk_at dksX5_sizeOf_0 5 rfl rfl)
theorem dX5_sizeOf_6 : decode cX5_sizeOf 6 = .ok (.iload_n 1, 1) := dk_27 (dk_at dksX5_sizeOf_0 6 rfl rfl)
theorem dX5_sizeOf_7 : decode cX5_sizeOf 7 = .ok (.iconst 1, 1) := dk_4 (dk_at dksX5_sizeOf_0 7 rfl rfl)
theorem dX5_sizeOf_8 : decode cX5_sizeOf 8 = .ok (.invokevirtual 69, 3) := dk_182 0 69 (dk_at dksX5_sizeOf_0 8 rfl rfl)
theorem dX5_sizeOf_11 : decode cX5_sizeOf 11 = .ok (.if_icmp .ge 18, 3) := dk_162 0 18 (dk_at dksX5_sizeOf_0 11 rfl rfl)
theorem dX5_sizeOf_14 : decode cX5_sizeOf 14 = .ok (.iload_n 2, 1) := dk_28 (dk_at dksX5_sizeOf_0 14 rfl rfl)
theorem dX5_sizeOf_15 : decode cX5_sizeOf 15 = .ok (.aload_n 0, 1) := dk_42 (dk_at dksX5_sizeOf_0 15 rfl rfl)
theorem dX5_sizeOf_16 : decode cX5_sizeOf 16 = .ok (.iload_n 1, 1) := dk_27 (dk_at dksX5_sizeOf_0 16 rfl rfl)
theorem dX5_sizeOf_17 : decode cX5_sizeOf 17 = .ok (.iload_n 3, 1) := dk_29 (dk_at dksX5_sizeOf_0 17 rfl rfl)
theorem dX5_sizeOf_18 : decode cX5_sizeOf 18 = .ok (.invokevirtual 80, 3) := dk_182 0 80 (dk_at dksX5_sizeOf_0 18 rfl rfl)
theorem dX5_sizeOf_21 : decode cX5_sizeOf 21 = .ok (.iadd, 1) := dk_96 (dk_at dksX5_sizeOf_0 21 rfl rfl)
theorem dX5_sizeOf_22 : decode cX5_sizeOf 22 = .ok (.istore_n 2, 1) := dk_61 (dk_at dksX5_sizeOf_0 22 rfl rfl)
theorem dX5_sizeOf_23 : decode cX5_sizeOf 23 = .ok (.iinc 3 1, 3) := dk_132 3 1 (dk_at dksX5_sizeOf_1 0 rfl rfl)
theorem dX5_sizeOf_26 : decode cX5_sizeOf 26 = .ok (.goto (-22), 3) := dk_167 255 234 (dk_at dksX5_sizeOf_1 3 rfl rfl)
theorem dX5_sizeOf_29 : decode cX5_sizeOf 29 = .ok (.iload_n 2, 1) := dk_28 (dk_at dksX5_sizeOf_1 6 rfl rfl)
theorem dX5_sizeOf_30 : decode cX5_sizeOf 30 = .ok (.ireturn, 1) := dk_172 (dk_at dksX5_sizeOf_1 7 rfl rfl)
abbrev cX5_swap : ByteArray := prog_14_method_125_code
def yX5_swap : MethodName := ⟨RX5, "swap", "(II)I"⟩
def dkwX5_swap_5 : List UInt8 := [21, 4, 172]
abbrev dktX5_swap_5 : List UInt8 := dkwX5_swap_5 ++ []
def dkwX5_swap_4 : List UInt8 := [182, 1, 117, 42, 27, 3, 21, 4, 182, 0, 76, 42, 28, 3, 29, 182, 0, 76, 42, 7, 5, 182, 0, 143]
abbrev dktX5_swap_4 : List UInt8 := dkwX5_swap_4 ++ dktX5_swap_5
def dkwX5_swap_3 : List UInt8 := [182, 1, 114, 172, 42, 27, 28, 182, 0, 117, 5, 159, 0, 10, 42, 16, 7, 182, 1, 114, 172, 42]
abbrev dktX5_swap_3 : List UInt8 := dkwX5_swap_3 ++ dktX5_swap_4
def dkwX5_swap_2 : List UInt8 := [42, 27, 3, 182, 0, 69, 62, 42, 28, 3, 182, 0, 69, 54, 4, 29, 21, 4, 160, 0, 10, 42, 16, 8]
abbrev dktX5_swap_2 : List UInt8 := dkwX5_swap_2 ++ dktX5_swap_3
def dkwX5_swap_1 : List UInt8 := [167, 0, 4, 3, 4, 182, 0, 161, 154, 0, 5, 3, 172, 27, 28, 160, 0, 9, 42, 5, 182, 1, 114, 172]
abbrev dktX5_swap_1 : List UInt8 := dkwX5_swap_1 ++ dktX5_swap_2
def dkwX5_swap_0 : List UInt8 := [42, 3, 181, 0, 56, 42, 42, 27, 182, 1, 39, 153, 0, 15, 42, 28, 182, 1, 39, 153, 0, 7, 4]
abbrev dktX5_swap_0 : List UInt8 := dkwX5_swap_0 ++ dktX5_swap_1
theorem dksX5_swap_0 : cX5_swap.data.toList.drop 0 = dktX5_swap_0 := by decide +kernel
theorem dksX5_swap_1 : cX5_swap.data.toList.drop 23 = dktX5_swap_1 := dk_seg dksX5_swap_0 23 rfl rfl
theorem dksX5_swap_2 : cX5_swap.data.toList.drop 47 = dktX5_swap_2 := dk_seg dksX5_swap_1 24 rfl rfl
theorem dksX5_swap_3 : cX5_swap.data.toList.drop 71 = dktX5_swap_3 := dk_seg dksX5_swap_2 24 rfl rfl
theorem dksX5_swap_4 : cX5_swap.data.toList.drop 93 = dktX5_swap_4 := dk_seg dksX5_swap_3 22 rfl rfl
theorem dksX5_swap_5 : cX5_swap.data.toList.drop 117 = dktX5_swap_5 := dk_seg dksX5_swap_4 24 rfl rfl
theorem dX5_swap_0 : decode cX5_swap 0 = .ok (.aload_n 0, 1) := dk_42 (dk_at dksX5_swap_0 0 rfl rfl)
theorem dX5_swap_1 : decode cX5_swap 1 = .ok (.iconst 0, 1) := dk_3 (dk_at dksX5_swap_0 1 rfl rfl)
theorem dX5_swap_2 : decode cX5_swap 2 = .ok (.putfield 56, 3) := dk_181 0 56 (dk_at dksX5_swap_0 2 rfl rfl)
theorem dX5_swap_5 : decode cX5_swap 5 = .ok (.aload_n 0, 1) := dk_42 (dk_at dksX5_swap_0 5 rfl rfl)
theorem dX5_swap_6 : decode cX5_swap 6 = .ok (.aload_n 0, 1) := dk_42 (dk_at dksX5_swap_0 6 rfl rfl)
theorem dX5_swap_7 : decode cX5_swap 7 = .ok (.iload_n 1, 1) := dk_27 (dk_at dksX5_swap_0 7 rfl rfl)
theorem dX5_swap_8 : decode cX5_swap 8 = .ok (.invokevirtual 295, 3) := dk_182 1 39 (dk_at dksX5_swap_0 8 rfl rfl)
theorem dX5_swap_11 : decode cX5_swap 11 = .ok (.ifCond .eq 15, 3) := dk_153 0 15 (dk_at dksX5_swap_0 11 rfl rfl)
theorem dX5_swap_14 : decode cX5_swap 14 = .ok (.aload_n 0, 1) := dk_42 (dk_at dksX5_swap_0 14 rfl rfl)
theorem dX5_swap_15 : decode cX5_swap 15 = .ok (.iload_n 2, 1) := dk_28 (dk_at dksX5_swap_0 15 rfl rfl)
theorem dX5_swap_16 : decode cX5_swap 16 = .ok (.invokevirtual 295, 3) := dk_182 1 39 (dk_at dksX5_swap_0 16 rfl rfl)
theorem dX5_swap_19 : decode cX5_swap 19 = .ok (.ifCond .eq 7, 3) := dk_153 0 7 (dk_at dksX5_swap_0 19 rfl rfl)
theorem dX5_swap_22 : decode cX5_swap 22 = .ok (.iconst 1, 1) := dk_4 (dk_at dksX5_swap_0 22 rfl rfl)
theorem dX5_swap_23 : decode cX5_swap 23 = .ok (.goto 4, 3) := dk_167 0 4 (dk_at dksX5_swap_1 0 rfl rfl)
theorem dX5_swap_26 : decode cX5_swap 26 = .ok (.iconst 0, 1) := dk_3 (dk_at dksX5_swap_1 3 rfl rfl)
theorem dX5_swap_27 : decode cX5_swap 27 = .ok (.iconst 1, 1) := dk_4 (dk_at dksX5_swap_1 4 rfl rfl)
theorem dX5_swap_28 : decode cX5_swap 28 = .ok (.invokevirtual 161, 3) := dk_182 0 161 (dk_at dksX5_swap_1 5 rfl rfl)
theorem dX5_swap_31 : decode cX5_swap 31 = .ok (.ifCond .ne 5, 3) := dk_154 0 5 (dk_at dksX5_swap_1 8 rfl rfl)
theorem dX5_swap_34 : decode cX5_swap 34 = .ok (.iconst 0, 1) := dk_3 (dk_at dksX5_swap_1 11 rfl rfl)
theorem dX5_swap_35 : decode cX5_swap 35 = .ok (.ireturn, 1) := dk_172 (dk_at dksX5_swap_1 12 rfl rfl)
theorem dX5_swap_36 : decode cX5_swap 36 = .ok (.iload_n 1, 1) := dk_27 (dk_at dksX5_swap_1 13 rfl rfl)
theorem dX5_swap_37 : decode cX5_swap 37 = .ok (.iload_n 2, 1) := dk_28 (dk_at dksX5_swap_1 14 rfl rfl)
theorem dX5_swap_38 : decode cX5_swap 38 = .ok (.if_icmp .ne 9, 3) := dk_160 0 9 (dk_at dksX5_swap_1 15 rfl rfl)
theorem dX5_swap_41 : decode cX5_swap 41 = .ok (.aload_n 0, 1) := dk_42 (dk_at dksX5_swap_1 18 rfl rfl)
theorem dX5_swap_42 : decode cX5_swap 42 = .ok (.iconst 2, 1) := dk_5 (dk_at dksX5_swap_1 19 rfl rfl)
theorem dX5_swap_43 : decode cX5_swap 43 = .ok (.invokevirtual 370, 3) := dk_182 1 114 (dk_at dksX5_swap_1 20 rfl rfl)
theorem dX5_swap_46 : decode cX5_swap 46 = .ok (.ireturn, 1) := dk_172 (dk_at dksX5_swap_1 23 rfl rfl)
theorem dX5_swap_47 : decode cX5_swap 47 = .ok (.aload_n 0, 1) := dk_42 (dk_at dksX5_swap_2 0 rfl rfl)
theorem dX5_swap_48 : decode cX5_swap 48 = .ok (.iload_n 1, 1) := dk_27 (dk_at dksX5_swap_2 1 rfl rfl)
theorem dX5_swap_49 : decode cX5_swap 49 = .ok (.iconst 0, 1) := dk_3 (dk_at dksX5_swap_2 2 rfl rfl)
theorem dX5_swap_50 : decode cX5_swap 50 = .ok (.invokevirtual 69, 3) := dk_182 0 69 (dk_at dksX5_swap_2 3 rfl rfl)
theorem dX5_swap_53 : decode cX5_swap 53 = .ok (.istore_n 3, 1) := dk_62 (dk_at dksX5_swap_2 6 rfl rfl)
theorem dX5_swap_54 : decode cX5_swap 54 = .ok (.aload_n 0, 1) := dk_42 (dk_at dksX5_swap_2 7 rfl rfl)
theorem dX5_swap_55 : decode cX5_swap 55 = .ok (.iload_n 2, 1) := dk_28 (dk_at dksX5_swap_2 8 rfl rfl)
theorem dX5_swap_56 : decode cX5_swap 56 = .ok (.iconst 0, 1) := dk_3 (dk_at dksX5_swap_2 9 rfl rfl)
theorem dX5_swap_57 : decode cX5_swap 57 = .ok (.invokevirtual 69, 3) := dk_182 0 69 (dk_at dksX5_swap_2 10 rfl rfl)
theorem dX5_swap_60 : decode cX5_swap 60 = .ok (.istore 4, 2) := dk_54 4 (dk_at dksX5_swap_2 13 rfl rfl)
theorem dX5_swap_62 : decode cX5_swap 62 = .ok (.iload_n 3, 1) := dk_29 (dk_at dksX5_swap_2 15 rfl rfl)
theorem dX5_swap_63 : decode cX5_swap 63 = .ok (.iload 4, 2) := dk_21 4 (dk_at dksX5_swap_2 16 rfl rfl)
theorem dX5_swap_65 : decode cX5_swap 65 = .ok (.if_icmp .ne 10, 3) := dk_160 0 10 (dk_at dksX5_swap_2 18 rfl rfl)
theorem dX5_swap_68 : decode cX5_swap 68 = .ok (.aload_n 0, 1) := dk_42 (dk_at dksX5_swap_2 21 rfl rfl)
theorem dX5_swap_69 : decode cX5_swap 69 = .ok (.bipush 8, 2) := dk_16 8 (dk_at dksX5_swap_2 22 rfl rfl)
theorem dX5_swap_71 : decode cX5_swap 71 = .ok (.invokevirtual 370, 3) := dk_182 1 114 (dk_at dksX5_swap_3 0 rfl rfl)
theorem dX5_swap_74 : decode cX5_swap 74 = .ok (.ireturn, 1) := dk_172 (dk_at dksX5_swap_3 3 rfl rfl)
theorem dX5_swap_75 : decode cX5_swap 75 = .ok (.aload_n 0, 1) := dk_42 (dk_at dksX5_swap_3 4 rfl rfl)
theorem dX5_swap_76 : decode cX5_swap 76 = .ok (.iload_n 1, 1) := dk_27 (dk_at dksX5_swap_3 5 rfl rfl)
theorem dX5_swap_77 : decode cX5_swap 77 = .ok (.iload_n 2, 1) := dk_28 (dk_at dksX5_swap_3 6 rfl rfl)
theorem dX5_swap_78 : decode cX5_swap 78 = .ok (.invokevirtual 117, 3) := dk_182 0 117 (dk_at dksX5_swap_3 7 rfl rfl)
theorem dX5_swap_81 : decode cX5_swap 81 = .ok (.iconst 2, 1) := dk_5 (dk_at dksX5_swap_3 10 rfl rfl)
theorem dX5_swap_82 : decode cX5_swap 82 = .ok (.if_icmp .eq 10, 3) := dk_159 0 10 (dk_at dksX5_swap_3 11 rfl rfl)
theorem dX5_swap_85 : decode cX5_swap 85 = .ok (.aload_n 0, 1) := dk_42 (dk_at dksX5_swap_3 14 rfl rfl)
theorem dX5_swap_86 : decode cX5_swap 86 = .ok (.bipush 7, 2) := dk_16 7 (dk_at dksX5_swap_3 15 rfl rfl)
theorem dX5_swap_88 : decode cX5_swap 88 = .ok (.invokevirtual 370, 3) := dk_182 1 114 (dk_at dksX5_swap_3 17 rfl rfl)
theorem dX5_swap_91 : decode cX5_swap 91 = .ok (.ireturn, 1) := dk_172 (dk_at dksX5_swap_3 20 rfl rfl)
theorem dX5_swap_92 : decode cX5_swap 92 = .ok (.aload_n 0, 1) := dk_42 (dk_at dksX5_swap_3 21 rfl rfl)
theorem dX5_swap_93 : decode cX5_swap 93 = .ok (.invokevirtual 373, 3) := dk_182 1 117 (dk_at dksX5_swap_4 0 rfl rfl)
theorem dX5_swap_96 : decode cX5_swap 96 = .ok (.aload_n 0, 1) := dk_42 (dk_at dksX5_swap_4 3 rfl rfl)
theorem dX5_swap_97 : decode cX5_swap 97 = .ok (.iload_n 1, 1) := dk_27 (dk_at dksX5_swap_4 4 rfl rfl)
theorem dX5_swap_98 : decode cX5_swap 98 = .ok (.iconst 0, 1) := dk_3 (dk_at dksX5_swap_4 5 rfl rfl)
theorem dX5_swap_99 : decode cX5_swap 99 = .ok (.iload 4, 2) := dk_21 4 (dk_at dksX5_swap_4 6 rfl rfl)
theorem dX5_swap_101 : decode cX5_swap 101 = .ok (.invokevirtual 76, 3) := dk_182 0 76 (dk_at dksX5_swap_4 8 rfl rfl)
theorem dX5_swap_104 : decode cX5_swap 104 = .ok (.aload_n 0, 1) := dk_42 (dk_at dksX5_swap_4 11 rfl rfl)
theorem dX5_swap_105 : decode cX5_swap 105 = .ok (.iload_n 2, 1) := dk_28 (dk_at dksX5_swap_4 12 rfl rfl)
theorem dX5_swap_106 : decode cX5_swap 106 = .ok (.iconst 0, 1) := dk_3 (dk_at dksX5_swap_4 13 rfl rfl)
theorem dX5_swap_107 : decode cX5_swap 107 = .ok (.iload_n 3, 1) := dk_29 (dk_at dksX5_swap_4 14 rfl rfl)
theorem dX5_swap_108 : decode cX5_swap 108 = .ok (.invokevirtual 76, 3) := dk_182 0 76 (dk_at dksX5_swap_4 15 rfl rfl)
theorem dX5_swap_111 : decode cX5_swap 111 = .ok (.aload_n 0, 1) := dk_42 (dk_at dksX5_swap_4 18 rfl rfl)
theorem dX5_swap_112 : decode cX5_swap 112 = .ok (.iconst 4, 1) := dk_7 (dk_at dksX5_swap_4 19 rfl rfl)
theorem dX5_swap_113 : decode cX5_swap 113 = .ok (.iconst 2, 1) := dk_5 (dk_at dksX5_swap_4 20 rfl rfl)
theorem dX5_swap_114 : decode cX5_swap 114 = .ok (.invokevirtual 143, 3) := dk_182 0 143 (dk_at dksX5_swap_4 21 rfl rfl)
theorem dX5_swap_117 : decode cX5_swap 117 = .ok (.iload 4, 2) := dk_21 4 (dk_at dksX5_swap_5 0 rfl rfl)
theorem dX5_swap_119 : decode cX5_swap 119 = .ok (.ireturn, 1) := dk_172 (dk_at dksX5_swap_5 2 rfl rfl)
abbrev cX5_knownOf : ByteArray := prog_14_method_34_code
def yX5_knownOf : MethodName := ⟨RX5, "knownOf", "(II)I"⟩
def dkwX5_knownOf_2 : List UInt8 := [27, 46, 2, 159, 0, 7, 4, 167, 0, 4, 2, 172]
abbrev dktX5_knownOf_2 : List UInt8 := dkwX5_knownOf_2 ++ []
def dkwX5_knownOf_1 : List UInt8 := [180, 0, 23, 27, 51, 153, 0, 7, 3, 167, 0, 4, 5, 172, 42, 28, 3, 182, 0, 114, 42, 180, 0, 20]
abbrev dktX5_knownOf_1 : List UInt8 := dkwX5_knownOf_1 ++ dktX5_knownOf_2
def dkwX5_knownOf_0 : List UInt8 := [27, 28, 160, 0, 5, 5, 172, 42, 28, 4, 182, 0, 114, 42, 180, 0, 20, 27, 46, 2, 159, 0, 18, 42]
abbrev dktX5_knownOf_0 : List UInt8 := dkwX5_knownOf_0 ++ dktX5_knownOf_1
theorem dksX5_knownOf_0 : cX5_knownOf.data.toList.drop 0 = dktX5_knownOf_0 := by decide +kernel
theorem dksX5_knownOf_1 : cX5_knownOf.data.toList.drop 24 = dktX5_knownOf_1 := dk_seg dksX5_knownOf_0 24 rfl rfl
theorem dksX5_knownOf_2 : cX5_knownOf.data.toList.drop 48 = dktX5_knownOf_2 := dk_seg dksX5_knownOf_1 24 rfl rfl
theorem dX5_knownOf_0 : decode cX5_knownOf 0 = .ok (.iload_n 1, 1) := dk_27 (dk_at dksX5_knownOf_0 0 rfl rfl)
theorem dX5_knownOf_1 : decode cX5_knownOf 1 = .ok (.iload_n 2, 1) := dk_28 (dk_at dksX5_knownOf_0 1 rfl rfl)
theorem dX5_knownOf_2 : decode cX5_knownOf 2 = .ok (.if_icmp .ne 5, 3) := dk_160 0 5 (dk_at dksX5_knownOf_0 2 rfl rfl)
theorem dX5_knownOf_5 : decode cX5_knownOf 5 = .ok (.iconst 2, 1) := dk_5 (dk_at dksX5_knownOf_0 5 rfl rfl)
theorem dX5_knownOf_6 : decode cX5_knownOf 6 = .ok (.ireturn, 1) := dk_172 (dk_at dksX5_knownOf_0 6 rfl rfl)
theorem dX5_knownOf_7 : decode cX5_knownOf 7 = .ok (.aload_n 0, 1) := dk_42 (dk_at dksX5_knownOf_0 7 rfl rfl)
theorem dX5_knownOf_8 : decode cX5_knownOf 8 = .ok (.iload_n 2, 1) := dk_28 (dk_at dksX5_knownOf_0 8 rfl rfl)
theorem dX5_knownOf_9 : decode cX5_knownOf 9 = .ok (.iconst 1, 1) := dk_4 (dk_at dksX5_knownOf_0 9 rfl rfl)
theorem dX5_knownOf_10 : decode cX5_knownOf 10 = .ok (.invokevirtual 114, 3) := dk_182 0 114 (dk_at dksX5_knownOf_0 10 rfl rfl)
theorem dX5_knownOf_13 : decode cX5_knownOf 13 = .ok (.aload_n 0, 1) := dk_42 (dk_at dksX5_knownOf_0 13 rfl rfl)
theorem dX5_knownOf_14 : decode cX5_knownOf 14 = .ok (.getfield 20, 3) := dk_180 0 20 (dk_at dksX5_knownOf_0 14 rfl rfl)
theorem dX5_knownOf_17 : decode cX5_knownOf 17 = .ok (.iload_n 1, 1) := dk_27 (dk_at dksX5_knownOf_0 17 rfl rfl)
theorem dX5_knownOf_18 : decode cX5_knownOf 18 = .ok (.iaload, 1) := dk_46 (dk_at dksX5_knownOf_0 18 rfl rfl)
theorem dX5_knownOf_19 : decode cX5_knownOf 19 = .ok (.iconst (-1), 1) := dk_2 (dk_at dksX5_knownOf_0 19 rfl rfl)
theorem dX5_knownOf_20 : decode cX5_knownOf 20 = .ok (.if_icmp .eq 18, 3) := dk_159 0 18 (dk_at dksX5_knownOf_0 20 rfl rfl)
theorem dX5_knownOf_23 : decode cX5_knownOf 23 = .ok (.aload_n 0, 1) := dk_42 (dk_at dksX5_knownOf_0 23 rfl rfl)
theorem dX5_knownOf_24 : decode cX5_knownOf 24 = .ok (.getfield 23, 3) := dk_180 0 23 (dk_at dksX5_knownOf_1 0 rfl rfl)
theorem dX5_knownOf_27 : decode cX5_knownOf 27 = .ok (.iload_n 1, 1) := dk_27 (dk_at dksX5_knownOf_1 3 rfl rfl)
theorem dX5_knownOf_28 : decode cX5_knownOf 28 = .ok (.baload, 1) := dk_51 (dk_at dksX5_knownOf_1 4 rfl rfl)
theorem dX5_knownOf_29 : decode cX5_knownOf 29 = .ok (.ifCond .eq 7, 3) := dk_153 0 7 (dk_at dksX5_knownOf_1 5 rfl rfl)
theorem dX5_knownOf_32 : decode cX5_knownOf 32 = .ok (.iconst 0, 1) := dk_3 (dk_at dksX5_knownOf_1 8 rfl rfl)
theorem dX5_knownOf_33 : decode cX5_knownOf 33 = .ok (.goto 4, 3) := dk_167 0 4 (dk_at dksX5_knownOf_1 9 rfl rfl)
theorem dX5_knownOf_36 : decode cX5_knownOf 36 = .ok (.iconst 2, 1) := dk_5 (dk_at dksX5_knownOf_1 12 rfl rfl)
theorem dX5_knownOf_37 : decode cX5_knownOf 37 = .ok (.ireturn, 1) := dk_172 (dk_at dksX5_knownOf_1 13 rfl rfl)
theorem dX5_knownOf_38 : decode cX5_knownOf 38 = .ok (.aload_n 0, 1) := dk_42 (dk_at dksX5_knownOf_1 14 rfl rfl)
theorem dX5_knownOf_39 : decode cX5_knownOf 39 = .ok (.iload_n 2, 1) := dk_28 (dk_at dksX5_knownOf_1 15 rfl rfl)
theorem dX5_knownOf_40 : decode cX5_knownOf 40 = .ok (.iconst 0, 1) := dk_3 (dk_at dksX5_knownOf_1 16 rfl rfl)
theorem dX5_knownOf_41 : decode cX5_knownOf 41 = .ok (.invokevirtual 114, 3) := dk_182 0 114 (dk_at dksX5_knownOf_1 17 rfl rfl)
theorem dX5_knownOf_44 : decode cX5_knownOf 44 = .ok (.aload_n 0, 1) := dk_42 (dk_at dksX5_knownOf_1 20 rfl rfl)
theorem dX5_knownOf_45 : decode cX5_knownOf 45 = .ok (.getfield 20, 3) := dk_180 0 20 (dk_at dksX5_knownOf_1 21 rfl rfl)
theorem dX5_knownOf_48 : decode cX5_knownOf 48 = .ok (.iload_n 1, 1) := dk_27 (dk_at dksX5_knownOf_2 0 rfl rfl)
theorem dX5_knownOf_49 : decode cX5_knownOf 49 = .ok (.iaload, 1) := dk_46 (dk_at dksX5_knownOf_2 1 rfl rfl)
theorem dX5_knownOf_50 : decode cX5_knownOf 50 = .ok (.iconst (-1), 1) := dk_2 (dk_at dksX5_knownOf_2 2 rfl rfl)
theorem dX5_knownOf_51 : decode cX5_knownOf 51 = .ok (.if_icmp .eq 7, 3) := dk_159 0 7 (dk_at dksX5_knownOf_2 3 rfl rfl)
theorem dX5_knownOf_54 : decode cX5_knownOf 54 = .ok (.iconst 1, 1) := dk_4 (dk_at dksX5_knownOf_2 6 rfl rfl)
theorem dX5_knownOf_55 : decode cX5_knownOf 55 = .ok (.goto 4, 3) := dk_167 0 4 (dk_at dksX5_knownOf_2 7 rfl rfl)
theorem dX5_knownOf_58 : decode cX5_knownOf 58 = .ok (.iconst (-1), 1) := dk_2 (dk_at dksX5_knownOf_2 10 rfl rfl)
theorem dX5_knownOf_59 : decode cX5_knownOf 59 = .ok (.ireturn, 1) := dk_172 (dk_at dksX5_knownOf_2 11 rfl rfl)
abbrev cX5_walks : ByteArray := prog_14_method_33_code
def yX5_walks : MethodName := ⟨RX5, "walks", "(II)V"⟩
def dkwX5_walks_8 : List UInt8 := [132, 7, 1, 167, 255, 157, 132, 6, 1, 167, 255, 128, 132, 5, 1, 167, 255, 105, 177]
abbrev dktX5_walks_8 : List UInt8 := dkwX5_walks_8 ++ []
def dkwX5_walks_7 : List UInt8 := [154, 0, 15, 42, 21, 6, 21, 7, 182, 0, 108, 5, 159, 0, 7, 4, 167, 0, 4, 3, 128, 84]
abbrev dktX5_walks_7 : List UInt8 := dkwX5_walks_7 ++ dktX5_walks_8
def dkwX5_walks_6 : List UInt8 := [21, 5, 4, 96, 79, 4, 54, 4, 42, 180, 0, 23, 21, 6, 92, 51, 42, 180, 0, 23, 21, 7, 51]
abbrev dktX5_walks_6 : List UInt8 := dkwX5_walks_6 ++ dktX5_walks_7
def dkwX5_walks_5 : List UInt8 := [159, 0, 69, 42, 21, 6, 21, 7, 182, 0, 108, 28, 160, 0, 6, 167, 0, 54, 42, 180, 0, 20, 21, 6]
abbrev dktX5_walks_5 : List UInt8 := dkwX5_walks_5 ++ dktX5_walks_6
def dkwX5_walks_4 : List UInt8 := [162, 0, 99, 42, 180, 0, 20, 21, 7, 46, 21, 5, 160, 0, 81, 42, 21, 6, 21, 7, 182, 0, 108, 2]
abbrev dktX5_walks_4 : List UInt8 := dkwX5_walks_4 ++ dktX5_walks_5
def dkwX5_walks_3 : List UInt8 := [29, 162, 0, 128, 42, 180, 0, 20, 21, 6, 46, 2, 159, 0, 6, 167, 0, 108, 3, 54, 7, 21, 7, 29]
abbrev dktX5_walks_3 : List UInt8 := dkwX5_walks_3 ++ dktX5_walks_4
def dkwX5_walks_2 : List UInt8 := [54, 4, 3, 54, 5, 21, 5, 29, 162, 0, 151, 21, 4, 153, 0, 146, 3, 54, 4, 3, 54, 6, 21, 6]
abbrev dktX5_walks_2 : List UInt8 := dkwX5_walks_2 ++ dktX5_walks_3
def dkwX5_walks_1 : List UInt8 := [160, 0, 7, 3, 167, 0, 4, 2, 79, 42, 180, 0, 23, 21, 4, 3, 84, 132, 4, 1, 167, 255, 221, 4]
abbrev dktX5_walks_1 : List UInt8 := dkwX5_walks_1 ++ dktX5_walks_2
def dkwX5_walks_0 : List UInt8 := [42, 4, 182, 0, 65, 62, 3, 54, 4, 21, 4, 29, 162, 0, 35, 42, 180, 0, 20, 21, 4, 21, 4, 27]
abbrev dktX5_walks_0 : List UInt8 := dkwX5_walks_0 ++ dktX5_walks_1
theorem dksX5_walks_0 : cX5_walks.data.toList.drop 0 = dktX5_walks_0 := by decide +kernel
theorem dksX5_walks_1 : cX5_walks.data.toList.drop 24 = dktX5_walks_1 := dk_seg dksX5_walks_0 24 rfl rfl
theorem dksX5_walks_2 : cX5_walks.data.toList.drop 48 = dktX5_walks_2 := dk_seg dksX5_walks_1 24 rfl rfl
theorem dksX5_walks_3 : cX5_walks.data.toList.drop 72 = dktX5_walks_3 := dk_seg dksX5_walks_2 24 rfl rfl
theorem dksX5_walks_4 : cX5_walks.data.toList.drop 96 = dktX5_walks_4 := dk_seg dksX5_walks_3 24 rfl rfl
theorem dksX5_walks_5 : cX5_walks.data.toList.drop 120 = dktX5_walks_5 := dk_seg dksX5_walks_4 24 rfl rfl
theorem dksX5_walks_6 : cX5_walks.data.toList.drop 144 = dktX5_walks_6 := dk_seg dksX5_walks_5 24 rfl rfl
theorem dksX5_walks_7 : cX5_walks.data.toList.drop 167 = dktX5_walks_7 := dk_seg dksX5_walks_6 23 rfl rfl
theorem dksX5_walks_8 : cX5_walks.data.toList.drop 189 = dktX5_walks_8 := dk_seg dksX5_walks_7 22 rfl rfl
theorem dX5_walks_0 : decode cX5_walks 0 = .ok (.aload_n 0, 1) := dk_42 (dk_at dksX5_walks_0 0 rfl rfl)
theorem dX5_walks_1 : decode cX5_walks 1 = .ok (.iconst 1, 1) := dk_4 (dk_at dksX5_walks_0 1 rfl rfl)
theorem dX5_walks_2 : decode cX5_walks 2 = .ok (.invokevirtual 65, 3) := dk_182 0 65 (dk_at dksX5_walks_0 2 rfl rfl)
theorem dX5_walks_5 : decode cX5_walks 5 = .ok (.istore_n 3, 1) := dk_62 (dk_at dksX5_walks_0 5 rfl rfl)
theorem dX5_walks_6 : decode cX5_walks 6 = .ok (.iconst 0, 1) := dk_3 (dk_at dksX5_walks_0 6 rfl rfl)
theorem dX5_walks_7 : decode cX5_walks 7 = .ok (.istore 4, 2) := dk_54 4 (dk_at dksX5_walks_0 7 rfl rfl)
theorem dX5_walks_9 : decode cX5_walks 9 = .ok (.iload 4, 2) := dk_21 4 (dk_at dksX5_walks_0 9 rfl rfl)
theorem dX5_walks_11 : decode cX5_walks 11 = .ok (.iload_n 3, 1) := dk_29 (dk_at dksX5_walks_0 11 rfl rfl)
theorem dX5_walks_12 : decode cX5_walks 12 = .ok (.if_icmp .ge 35, 3) := dk_162 0 35 (dk_at dksX5_walks_0 12 rfl rfl)
theorem dX5_walks_15 : decode cX5_walks 15 = .ok (.aload_n 0, 1) := dk_42 (dk_at dksX5_walks_0 15 rfl rfl)
theorem dX5_walks_16 : decode cX5_walks 16 = .ok (.getfield 20, 3) := dk_180 0 20 (dk_at dksX5_walks_0 16 rfl rfl)
theorem dX5_walks_19 : decode cX5_walks 19 = .ok (.iload 4, 2) := dk_21 4 (dk_at dksX5_walks_0 19 rfl rfl)
theorem dX5_walks_21 : decode cX5_walks 21 = .ok (.iload 4, 2) := dk_21 4 (dk_at dksX5_walks_0 21 rfl rfl)
theorem dX5_walks_23 : decode cX5_walks 23 = .ok (.iload_n 1, 1) := dk_27 (dk_at dksX5_walks_0 23 rfl rfl)
theorem dX5_walks_24 : decode cX5_walks 24 = .ok (.if_icmp .ne 7, 3) := dk_160 0 7 (dk_at dksX5_walks_1 0 rfl rfl)
theorem dX5_walks_27 : decode cX5_walks 27 = .ok (.iconst 0, 1) := dk_3 (dk_at dksX5_walks_1 3 rfl rfl)
theorem dX5_walks_28 : decode cX5_walks 28 = .ok (.goto 4, 3) := dk_167 0 4 (dk_at dksX5_walks_1 4 rfl rfl)
theorem dX5_walks_31 : decode cX5_walks 31 = .ok (.iconst (-1), 1) := dk_2 (dk_at dksX5_walks_1 7 rfl rfl)
theorem dX5_walks_32 : decode cX5_walks 32 = .ok (.iastore, 1) := dk_79 (dk_at dksX5_walks_1 8 rfl rfl)
theorem dX5_walks_33 : decode cX5_walks 33 = .ok (.aload_n 0, 1) := dk_42 (dk_at dksX5_walks_1 9 rfl rfl)
theorem dX5_walks_34 : decode cX5_walks 34 = .ok (.getfield 23, 3) := dk_180 0 23 (dk_at dksX5_walks_1 10 rfl rfl)
theorem dX5_walks_37 : decode cX5_walks 37 = .ok (.iload 4, 2) := dk_21 4 (dk_at dksX5_walks_1 13 rfl rfl)
theorem dX5_walks_39 : decode cX5_walks 39 = .ok (.iconst 0, 1) := dk_3 (dk_at dksX5_walks_1 15 rfl rfl)
theorem dX5_walks_40 : decode cX5_walks 40 = .ok (.bastore, 1) := dk_84 (dk_at dksX5_walks_1 16 rfl rfl)
theorem dX5_walks_41 : decode cX5_walks 41 = .ok (.iinc 4 1, 3) := dk_132 4 1 (dk_at dksX5_walks_1 17 rfl rfl)
theorem dX5_walks_44 : decode cX5_walks 44 = .ok (.goto (-35), 3) := dk_167 255 221 (dk_at dksX5_walks_1 20 rfl rfl)
theorem dX5_walks_47 : decode cX5_walks 47 = .ok (.iconst 1, 1) := dk_4 (dk_at dksX5_walks_1 23 rfl rfl)
theorem dX5_walks_48 : decode cX5_walks 48 = .ok (.istore 4, 2) := dk_54 4 (dk_at dksX5_walks_2 0 rfl rfl)
theorem dX5_walks_50 : decode cX5_walks 50 = .ok (.iconst 0, 1) := dk_3 (dk_at dksX5_walks_2 2 rfl rfl)
theorem dX5_walks_51 : decode cX5_walks 51 = .ok (.istore 5, 2) := dk_54 5 (dk_at dksX5_walks_2 3 rfl rfl)
theorem dX5_walks_53 : decode cX5_walks 53 = .ok (.iload 5, 2) := dk_21 5 (dk_at dksX5_walks_2 5 rfl rfl)
theorem dX5_walks_55 : decode cX5_walks 55 = .ok (.iload_n 3, 1) := dk_29 (dk_at dksX5_walks_2 7 rfl rfl)
theorem dX5_walks_56 : decode cX5_walks 56 = .ok (.if_icmp .ge 151, 3) := dk_162 0 151 (dk_at dksX5_walks_2 8 rfl rfl)
theorem dX5_walks_59 : decode cX5_walks 59 = .ok (.iload 4, 2) := dk_21 4 (dk_at dksX5_walks_2 11 rfl rfl)
theorem dX5_walks_61 : decode cX5_walks 61 = .ok (.ifCond .eq 146, 3) := dk_153 0 146 (dk_at dksX5_walks_2 13 rfl rfl)
theorem dX5_walks_64 : decode cX5_walks 64 = .ok (.iconst 0, 1) := dk_3 (dk_at dksX5_walks_2 16 rfl rfl)
theorem dX5_walks_65 : decode cX5_walks 65 = .ok (.istore 4, 2) := dk_54 4 (dk_at dksX5_walks_2 17 rfl rfl)
theorem dX5_walks_67 : decode cX5_walks 67 = .ok (.iconst 0, 1) := dk_3 (dk_at dksX5_walks_2 19 rfl rfl)
theorem dX5_walks_68 : decode cX5_walks 68 = .ok (.istore 6, 2) := dk_54 6 (dk_at dksX5_walks_2 20 rfl rfl)
theorem dX5_walks_70 : decode cX5_walks 70 = .ok (.iload 6, 2) := dk_21 6 (dk_at dksX5_walks_2 22 rfl rfl)
theorem dX5_walks_72 : decode cX5_walks 72 = .ok (.iload_n 3, 1) := dk_29 (dk_at dksX5_walks_3 0 rfl rfl)
theorem dX5_walks_73 : decode cX5_walks 73 = .ok (.if_icmp .ge 128, 3) := dk_162 0 128 (dk_at dksX5_walks_3 1 rfl rfl)
theorem dX5_walks_76 : decode cX5_walks 76 = .ok (.aload_n 0, 1) := dk_42 (dk_at dksX5_walks_3 4 rfl rfl)
theorem dX5_walks_77 : decode cX5_walks 77 = .ok (.getfield 20, 3) := dk_180 0 20 (dk_at dksX5_walks_3 5 rfl rfl)
theorem dX5_walks_80 : decode cX5_walks 80 = .ok (.iload 6, 2) := dk_21 6 (dk_at dksX5_walks_3 8 rfl rfl)
theorem dX5_walks_82 : decode cX5_walks 82 = .ok (.iaload, 1) := dk_46 (dk_at dksX5_walks_3 10 rfl rfl)
theorem dX5_walks_83 : decode cX5_walks 83 = .ok (.iconst (-1), 1) := dk_2 (dk_at dksX5_walks_3 11 rfl rfl)
theorem dX5_walks_84 : decode cX5_walks 84 = .ok (.if_icmp .eq 6, 3) := dk_159 0 6 (dk_at dksX5_walks_3 12 rfl rfl)
theorem dX5_walks_87 : decode cX5_walks 87 = .ok (.goto 108, 3) := dk_167 0 108 (dk_at dksX5_walks_3 15 rfl rfl)
theorem dX5_walks_90 : decode cX5_walks 90 = .ok (.iconst 0, 1) := dk_3 (dk_at dksX5_walks_3 18 rfl rfl)
theorem dX5_walks_91 : decode cX5_walks 91 = .ok (.istore 7, 2) := dk_54 7 (dk_at dksX5_walks_3 19 rfl rfl)
theorem dX5_walks_93 : decode cX5_walks 93 = .ok (.iload 7, 2) := dk_21 7 (dk_at dksX5_walks_3 21 rfl rfl)
theorem dX5_walks_95 : decode cX5_walks 95 = .ok (.iload_n 3, 1) := dk_29 (dk_at dksX5_walks_3 23 rfl rfl)
theorem dX5_walks_96 : decode cX5_walks 96 = .ok (.if_icmp .ge 99, 3) := dk_162 0 99 (dk_at dksX5_walks_4 0 rfl rfl)
theorem dX5_walks_99 : decode cX5_walks 99 = .ok (.aload_n 0, 1) := dk_42 (dk_at dksX5_walks_4 3 rfl rfl)
theorem dX5_walks_100 : decode cX5_walks 100 = .ok (.getfield 20, 3) := dk_180 0 20 (dk_at dksX5_walks_4 4 rfl rfl)
theorem dX5_walks_103 : decode cX5_walks 103 = .ok (.iload 7, 2) := dk_21 7 (dk_at dksX5_walks_4 7 rfl rfl)
theorem dX5_walks_105 : decode cX5_walks 105 = .ok (.iaload, 1) := dk_46 (dk_at dksX5_walks_4 9 rfl rfl)
theorem dX5_walks_106 : decode cX5_walks 106 = .ok (.iload 5, 2) := dk_21 5 (dk_at dksX5_walks_4 10 rfl rfl)
theorem dX5_walks_108 : decode cX5_walks 108 = .ok (.if_icmp .ne 81, 3) := dk_160 0 81 (dk_at dksX5_walks_4 12 rfl rfl)
theorem dX5_walks_111 : decode cX5_walks 111 = .ok (.aload_n 0, 1) := dk_42 (dk_at dksX5_walks_4 15 rfl rfl)
theorem dX5_walks_112 : decode cX5_walks 112 = .ok (.iload 6, 2) := dk_21 6 (dk_at dksX5_walks_4 16 rfl rfl)
theorem dX5_walks_114 : decode cX5_walks 114 = .ok (.iload 7, 2) := dk_21 7 (dk_at dksX5_walks_4 18 rfl rfl)
theorem dX5_walks_116 : decode cX5_walks 116 = .ok (.invokevirtual 108, 3) := dk_182 0 108 (dk_at dksX5_walks_4 20 rfl rfl)
theorem dX5_walks_119 : decode cX5_walks 119 = .ok (.iconst (-1), 1) := dk_2 (dk_at dksX5_walks_4 23 rfl rfl)
theorem dX5_walks_120 : decode cX5_walks 120 = .ok (.if_icmp .eq 69, 3) := dk_159 0 69 (dk_at dksX5_walks_5 0 rfl rfl)
theorem dX5_walks_123 : decode cX5_walks 123 = .ok (.aload_n 0, 1) := dk_42 (dk_at dksX5_walks_5 3 rfl rfl)
theorem dX5_walks_124 : decode cX5_walks 124 = .ok (.iload 6, 2) := dk_21 6 (dk_at dksX5_walks_5 4 rfl rfl)
theorem dX5_walks_126 : decode cX5_walks 126 = .ok (.iload 7, 2) := dk_21 7 (dk_at dksX5_walks_5 6 rfl rfl)
theorem dX5_walks_128 : decode cX5_walks 128 = .ok (.invokevirtual 108, 3) := dk_182 0 108 (dk_at dksX5_walks_5 8 rfl rfl)
theorem dX5_walks_131 : decode cX5_walks 131 = .ok (.iload_n 2, 1) := dk_28 (dk_at dksX5_walks_5 11 rfl rfl)
theorem dX5_walks_132 : decode cX5_walks 132 = .ok (.if_icmp .ne 6, 3) := dk_160 0 6 (dk_at dksX5_walks_5 12 rfl rfl)
theorem dX5_walks_135 : decode cX5_walks 135 = .ok (.goto 54, 3) := dk_167 0 54 (dk_at dksX5_walks_5 15 rfl rfl)
theorem dX5_walks_138 : decode cX5_walks 138 = .ok (.aload_n 0, 1) := dk_42 (dk_at dksX5_walks_5 18 rfl rfl)
theorem dX5_walks_139 : decode cX5_walks 139 = .ok (.getfield 20, 3) := dk_180 0 20 (dk_at dksX5_walks_5 19 rfl rfl)
theorem dX5_walks_142 : decode cX5_walks 142 = .ok (.iload 6, 2) := dk_21 6 (dk_at dksX5_walks_5 22 rfl rfl)
theorem dX5_walks_144 : decode cX5_walks 144 = .ok (.iload 5, 2) := dk_21 5 (dk_at dksX5_walks_6 0 rfl rfl)
theorem dX5_walks_146 : decode cX5_walks 146 = .ok (.iconst 1, 1) := dk_4 (dk_at dksX5_walks_6 2 rfl rfl)
theorem dX5_walks_147 : decode cX5_walks 147 = .ok (.iadd, 1) := dk_96 (dk_at dksX5_walks_6 3 rfl rfl)
theorem dX5_walks_148 : decode cX5_walks 148 = .ok (.iastore, 1) := dk_79 (dk_at dksX5_walks_6 4 rfl rfl)
theorem dX5_walks_149 : decode cX5_walks 149 = .ok (.iconst 1, 1) := dk_4 (dk_at dksX5_walks_6 5 rfl rfl)
theorem dX5_walks_150 : decode cX5_walks 150 = .ok (.istore 4, 2) := dk_54 4 (dk_at dksX5_walks_6 6 rfl rfl)
theorem dX5_walks_152 : decode cX5_walks 152 = .ok (.aload_n 0, 1) := dk_42 (dk_at dksX5_walks_6 8 rfl rfl)
theorem dX5_walks_153 : decode cX5_walks 153 = .ok (.getfield 23, 3) := dk_180 0 23 (dk_at dksX5_walks_6 9 rfl rfl)
theorem dX5_walks_156 : decode cX5_walks 156 = .ok (.iload 6, 2) := dk_21 6 (dk_at dksX5_walks_6 12 rfl rfl)
theorem dX5_walks_158 : decode cX5_walks 158 = .ok (.dup2, 1) := dk_92 (dk_at dksX5_walks_6 14 rfl rfl)
theorem dX5_walks_159 : decode cX5_walks 159 = .ok (.baload, 1) := dk_51 (dk_at dksX5_walks_6 15 rfl rfl)
theorem dX5_walks_160 : decode cX5_walks 160 = .ok (.aload_n 0, 1) := dk_42 (dk_at dksX5_walks_6 16 rfl rfl)
theorem dX5_walks_161 : decode cX5_walks 161 = .ok (.getfield 23, 3) := dk_180 0 23 (dk_at dksX5_walks_6 17 rfl rfl)
theorem dX5_walks_164 : decode cX5_walks 164 = .ok (.iload 7, 2) := dk_21 7 (dk_at dksX5_walks_6 20 rfl rfl)
theorem dX5_walks_166 : decode cX5_walks 166 = .ok (.baload, 1) := dk_51 (dk_at dksX5_walks_6 22 rfl rfl)
theorem dX5_walks_167 : decode cX5_walks 167 = .ok (.ifCond .ne 15, 3) := dk_154 0 15 (dk_at dksX5_walks_7 0 rfl rfl)
theorem dX5_walks_170 : decode cX5_walks 170 = .ok (.aload_n 0, 1) := dk_42 (dk_at dksX5_walks_7 3 rfl rfl)
theorem dX5_walks_171 : decode cX5_walks 171 = .ok (.iload 6, 2) := dk_21 6 (dk_at dksX5_walks_7 4 rfl rfl)
theorem dX5_walks_173 : decode cX5_walks 173 = .ok (.iload 7, 2) := dk_21 7 (dk_at dksX5_walks_7 6 rfl rfl)
theorem dX5_walks_175 : decode cX5_walks 175 = .ok (.invokevirtual 108, 3) := dk_182 0 108 (dk_at dksX5_walks_7 8 rfl rfl)
theorem dX5_walks_178 : decode cX5_walks 178 = .ok (.iconst 2, 1) := dk_5 (dk_at dksX5_walks_7 11 rfl rfl)
theorem dX5_walks_179 : decode cX5_walks 179 = .ok (.if_icmp .eq 7, 3) := dk_159 0 7 (dk_at dksX5_walks_7 12 rfl rfl)
theorem dX5_walks_182 : decode cX5_walks 182 = .ok (.iconst 1, 1) := dk_4 (dk_at dksX5_walks_7 15 rfl rfl)
theorem dX5_walks_183 : decode cX5_walks 183 = .ok (.goto 4, 3) := dk_167 0 4 (dk_at dksX5_walks_7 16 rfl rfl)
theorem dX5_walks_186 : decode cX5_walks 186 = .ok (.iconst 0, 1) := dk_3 (dk_at dksX5_walks_7 19 rfl rfl)
theorem dX5_walks_187 : decode cX5_walks 187 = .ok (.ior, 1) := dk_128 (dk_at dksX5_walks_7 20 rfl rfl)
theorem dX5_walks_188 : decode cX5_walks 188 = .ok (.bastore, 1) := dk_84 (dk_at dksX5_walks_7 21 rfl rfl)
theorem dX5_walks_189 : decode cX5_walks 189 = .ok (.iinc 7 1, 3) := dk_132 7 1 (dk_at dksX5_walks_8 0 rfl rfl)
theorem dX5_walks_192 : decode cX5_walks 192 = .ok (.goto (-99), 3) := dk_167 255 157 (dk_at dksX5_walks_8 3 rfl rfl)
theorem dX5_walks_195 : decode cX5_walks 195 = .ok (.iinc 6 1, 3) := dk_132 6 1 (dk_at dksX5_walks_8 6 rfl rfl)
theorem dX5_walks_198 : decode cX5_walks 198 = .ok (.goto (-128), 3) := dk_167 255 128 (dk_at dksX5_walks_8 9 rfl rfl)
theorem dX5_walks_201 : decode cX5_walks 201 = .ok (.iinc 5 1, 3) := dk_132 5 1 (dk_at dksX5_walks_8 12 rfl rfl)
theorem dX5_walks_204 : decode cX5_walks 204 = .ok (.goto (-151), 3) := dk_167 255 105 (dk_at dksX5_walks_8 15 rfl rfl)
theorem dX5_walks_207 : decode cX5_walks 207 = .ok (.return_, 1) := dk_177 (dk_at dksX5_walks_8 18 rfl rfl)
abbrev cX5_setEye : ByteArray := prog_14_method_126_code
def yX5_setEye : MethodName := ⟨RX5, "setEye", "(I)I"⟩
def dkwX5_setEye_2 : List UInt8 := [182, 0, 42, 28, 172]
abbrev dktX5_setEye_2 : List UInt8 := dkwX5_setEye_2 ++ []
def dkwX5_setEye_1 : List UInt8 := [182, 0, 65, 61, 28, 27, 160, 0, 10, 42, 16, 6, 182, 1, 114, 172, 42, 182, 1, 117, 42, 5, 27]
abbrev dktX5_setEye_1 : List UInt8 := dkwX5_setEye_1 ++ dktX5_setEye_2
def dkwX5_setEye_0 : List UInt8 := [42, 3, 181, 0, 56, 42, 27, 3, 16, 9, 184, 0, 165, 4, 182, 0, 161, 154, 0, 5, 3, 172, 42, 5]
abbrev dktX5_setEye_0 : List UInt8 := dkwX5_setEye_0 ++ dktX5_setEye_1
theorem dksX5_setEye_0 : cX5_setEye.data.toList.drop 0 = dktX5_setEye_0 := by decide +kernel
theorem dksX5_setEye_1 : cX5_setEye.data.toList.drop 24 = dktX5_setEye_1 := dk_seg dksX5_setEye_0 24 rfl rfl
theorem dksX5_setEye_2 : cX5_setEye.data.toList.drop 47 = dktX5_setEye_2 := dk_seg dksX5_setEye_1 23 rfl rfl
theorem dX5_setEye_0 : decode cX5_setEye 0 = .ok (.aload_n 0, 1) := dk_42 (dk_at dksX5_setEye_0 0 rfl rfl)
theorem dX5_setEye_1 : decode cX5_setEye 1 = .ok (.iconst 0, 1) := dk_3 (dk_at dksX5_setEye_0 1 rfl rfl)
theorem dX5_setEye_2 : decode cX5_setEye 2 = .ok (.putfield 56, 3) := dk_181 0 56 (dk_at dksX5_setEye_0 2 rfl rfl)
theorem dX5_setEye_5 : decode cX5_setEye 5 = .ok (.aload_n 0, 1) := dk_42 (dk_at dksX5_setEye_0 5 rfl rfl)
theorem dX5_setEye_6 : decode cX5_setEye 6 = .ok (.iload_n 1, 1) := dk_27 (dk_at dksX5_setEye_0 6 rfl rfl)
theorem dX5_setEye_7 : decode cX5_setEye 7 = .ok (.iconst 0, 1) := dk_3 (dk_at dksX5_setEye_0 7 rfl rfl)
theorem dX5_setEye_8 : decode cX5_setEye 8 = .ok (.bipush 9, 2) := dk_16 9 (dk_at dksX5_setEye_0 8 rfl rfl)
theorem dX5_setEye_10 : decode cX5_setEye 10 = .ok (.invokestatic 165, 3) := dk_184 0 165 (dk_at dksX5_setEye_0 10 rfl rfl)
theorem dX5_setEye_13 : decode cX5_setEye 13 = .ok (.iconst 1, 1) := dk_4 (dk_at dksX5_setEye_0 13 rfl rfl)
theorem dX5_setEye_14 : decode cX5_setEye 14 = .ok (.invokevirtual 161, 3) := dk_182 0 161 (dk_at dksX5_setEye_0 14 rfl rfl)
theorem dX5_setEye_17 : decode cX5_setEye 17 = .ok (.ifCond .ne 5, 3) := dk_154 0 5 (dk_at dksX5_setEye_0 17 rfl rfl)
theorem dX5_setEye_20 : decode cX5_setEye 20 = .ok (.iconst 0, 1) := dk_3 (dk_at dksX5_setEye_0 20 rfl rfl)
theorem dX5_setEye_21 : decode cX5_setEye 21 = .ok (.ireturn, 1) := dk_172 (dk_at dksX5_setEye_0 21 rfl rfl)
theorem dX5_setEye_22 : decode cX5_setEye 22 = .ok (.aload_n 0, 1) := dk_42 (dk_at dksX5_setEye_0 22 rfl rfl)
theorem dX5_setEye_23 : decode cX5_setEye 23 = .ok (.iconst 2, 1) := dk_5 (dk_at dksX5_setEye_0 23 rfl rfl)
theorem dX5_setEye_24 : decode cX5_setEye 24 = .ok (.invokevirtual 65, 3) := dk_182 0 65 (dk_at dksX5_setEye_1 0 rfl rfl)
theorem dX5_setEye_27 : decode cX5_setEye 27 = .ok (.istore_n 2, 1) := dk_61 (dk_at dksX5_setEye_1 3 rfl rfl)
theorem dX5_setEye_28 : decode cX5_setEye 28 = .ok (.iload_n 2, 1) := dk_28 (dk_at dksX5_setEye_1 4 rfl rfl)
theorem dX5_setEye_29 : decode cX5_setEye 29 = .ok (.iload_n 1, 1) := dk_27 (dk_at dksX5_setEye_1 5 rfl rfl)
theorem dX5_setEye_30 : decode cX5_setEye 30 = .ok (.if_icmp .ne 10, 3) := dk_160 0 10 (dk_at dksX5_setEye_1 6 rfl rfl)
theorem dX5_setEye_33 : decode cX5_setEye 33 = .ok (.aload_n 0, 1) := dk_42 (dk_at dksX5_setEye_1 9 rfl rfl)
theorem dX5_setEye_34 : decode cX5_setEye 34 = .ok (.bipush 6, 2) := dk_16 6 (dk_at dksX5_setEye_1 10 rfl rfl)
theorem dX5_setEye_36 : decode cX5_setEye 36 = .ok (.invokevirtual 370, 3) := dk_182 1 114 (dk_at dksX5_setEye_1 12 rfl rfl)
theorem dX5_setEye_39 : decode cX5_setEye 39 = .ok (.ireturn, 1) := dk_172 (dk_at dksX5_setEye_1 15 rfl rfl)
theorem dX5_setEye_40 : decode cX5_setEye 40 = .ok (.aload_n 0, 1) := dk_42 (dk_at dksX5_setEye_1 16 rfl rfl)
theorem dX5_setEye_41 : decode cX5_setEye 41 = .ok (.invokevirtual 373, 3) := dk_182 1 117 (dk_at dksX5_setEye_1 17 rfl rfl)
theorem dX5_setEye_44 : decode cX5_setEye 44 = .ok (.aload_n 0, 1) := dk_42 (dk_at dksX5_setEye_1 20 rfl rfl)
theorem dX5_setEye_45 : decode cX5_setEye 45 = .ok (.iconst 2, 1) := dk_5 (dk_at dksX5_setEye_1 21 rfl rfl)
theorem dX5_setEye_46 : decode cX5_setEye 46 = .ok (.iload_n 1, 1) := dk_27 (dk_at dksX5_setEye_1 22 rfl rfl)
theorem dX5_setEye_47 : decode cX5_setEye 47 = .ok (.invokevirtual 42, 3) := dk_182 0 42 (dk_at dksX5_setEye_2 0 rfl rfl)
theorem dX5_setEye_50 : decode cX5_setEye 50 = .ok (.iload_n 2, 1) := dk_28 (dk_at dksX5_setEye_2 3 rfl rfl)
theorem dX5_setEye_51 : decode cX5_setEye 51 = .ok (.ireturn, 1) := dk_172 (dk_at dksX5_setEye_2 4 rfl rfl)
abbrev cX5_errorCode : ByteArray := prog_14_method_71_code
def yX5_errorCode : MethodName := ⟨RX5, "errorCode", "()I"⟩
def dkwX5_errorCode_0 : List UInt8 := [42, 3, 181, 0, 56, 42, 180, 0, 186, 172]
abbrev dktX5_errorCode_0 : List UInt8 := dkwX5_errorCode_0 ++ []
theorem dksX5_errorCode_0 : cX5_errorCode.data.toList.drop 0 = dktX5_errorCode_0 := by decide +kernel
theorem dX5_errorCode_0 : decode cX5_errorCode 0 = .ok (.aload_n 0, 1) := dk_42 (dk_at dksX5_errorCode_0 0 rfl rfl)
theorem dX5_errorCode_1 : decode cX5_errorCode 1 = .ok (.iconst 0, 1) := dk_3 (dk_at dksX5_errorCode_0 1 rfl rfl)
theorem dX5_errorCode_2 : decode cX5_errorCode 2 = .ok (.putfield 56, 3) := dk_181 0 56 (dk_at dksX5_errorCode_0 2 rfl rfl)
theorem dX5_errorCode_5 : decode cX5_errorCode 5 = .ok (.aload_n 0, 1) := dk_42 (dk_at dksX5_errorCode_0 5 rfl rfl)
theorem dX5_errorCode_6 : decode cX5_errorCode 6 = .ok (.getfield 186, 3) := dk_180 0 186 (dk_at dksX5_errorCode_0 6 rfl rfl)
theorem dX5_errorCode_9 : decode cX5_errorCode 9 = .ok (.ireturn, 1) := dk_172 (dk_at dksX5_errorCode_0 9 rfl rfl)
abbrev cX5_errorPosition : ByteArray := prog_14_method_72_code
def yX5_errorPosition : MethodName := ⟨RX5, "errorPosition", "()I"⟩
def dkwX5_errorPosition_0 : List UInt8 := [42, 3, 181, 0, 56, 42, 180, 0, 29, 172]
abbrev dktX5_errorPosition_0 : List UInt8 := dkwX5_errorPosition_0 ++ []
theorem dksX5_errorPosition_0 : cX5_errorPosition.data.toList.drop 0 = dktX5_errorPosition_0 := by decide +kernel
theorem dX5_errorPosition_0 : decode cX5_errorPosition 0 = .ok (.aload_n 0, 1) := dk_42 (dk_at dksX5_errorPosition_0 0 rfl rfl)
theorem dX5_errorPosition_1 : decode cX5_errorPosition 1 = .ok (.iconst 0, 1) := dk_3 (dk_at dksX5_errorPosition_0 1 rfl rfl)
theorem dX5_errorPosition_2 : decode cX5_errorPosition 2 = .ok (.putfield 56, 3) := dk_181 0 56 (dk_at dksX5_errorPosition_0 2 rfl rfl)
theorem dX5_errorPosition_5 : decode cX5_errorPosition 5 = .ok (.aload_n 0, 1) := dk_42 (dk_at dksX5_errorPosition_0 5 rfl rfl)
theorem dX5_errorPosition_6 : decode cX5_errorPosition 6 = .ok (.getfield 29, 3) := dk_180 0 29 (dk_at dksX5_errorPosition_0 6 rfl rfl)
theorem dX5_errorPosition_9 : decode cX5_errorPosition 9 = .ok (.ireturn, 1) := dk_172 (dk_at dksX5_errorPosition_0 9 rfl rfl)
abbrev cX5_count : ByteArray := prog_14_method_78_code
def yX5_count : MethodName := ⟨RX5, "count", "(I)I"⟩
def dkwX5_count_4 : List UInt8 := [172]
abbrev dktX5_count_4 : List UInt8 := dkwX5_count_4 ++ []
def dkwX5_count_3 : List UInt8 := [182, 1, 42, 172, 42, 182, 1, 45, 172, 42, 5, 182, 0, 65, 172, 42, 182, 1, 48, 172, 42, 180, 0, 234]
abbrev dktX5_count_3 : List UInt8 := dkwX5_count_3 ++ dktX5_count_4
def dkwX5_count_2 : List UInt8 := [42, 3, 182, 0, 65, 172, 42, 4, 182, 0, 65, 172, 42, 6, 182, 0, 65, 172, 42, 27, 6, 100]
abbrev dktX5_count_2 : List UInt8 := dkwX5_count_2 ++ dktX5_count_3
def dkwX5_count_1 : List UInt8 := [170, 0, 0, 0, 91, 0, 0, 0, 0, 0, 0, 0, 8, 0, 0, 0, 49, 0, 0, 0, 55, 0, 0, 0, 61, 0, 0, 0, 67, 0, 0, 0, 67, 0, 0, 0, 67, 0, 0, 0, 75, 0, 0, 0, 80, 0, 0, 0, 86]
abbrev dktX5_count_1 : List UInt8 := dkwX5_count_1 ++ dktX5_count_2
def dkwX5_count_0 : List UInt8 := [42, 3, 181, 0, 56, 42, 27, 3, 16, 9, 184, 0, 165, 4, 182, 0, 161, 154, 0, 5, 3, 172, 27]
abbrev dktX5_count_0 : List UInt8 := dkwX5_count_0 ++ dktX5_count_1
theorem dksX5_count_0 : cX5_count.data.toList.drop 0 = dktX5_count_0 := by decide +kernel
theorem dksX5_count_1 : cX5_count.data.toList.drop 23 = dktX5_count_1 := dk_seg dksX5_count_0 23 rfl rfl
theorem dksX5_count_2 : cX5_count.data.toList.drop 72 = dktX5_count_2 := dk_seg dksX5_count_1 49 rfl rfl
theorem dksX5_count_3 : cX5_count.data.toList.drop 94 = dktX5_count_3 := dk_seg dksX5_count_2 22 rfl rfl
theorem dksX5_count_4 : cX5_count.data.toList.drop 118 = dktX5_count_4 := dk_seg dksX5_count_3 24 rfl rfl
theorem dX5_count_0 : decode cX5_count 0 = .ok (.aload_n 0, 1) := dk_42 (dk_at dksX5_count_0 0 rfl rfl)
theorem dX5_count_1 : decode cX5_count 1 = .ok (.iconst 0, 1) := dk_3 (dk_at dksX5_count_0 1 rfl rfl)
theorem dX5_count_2 : decode cX5_count 2 = .ok (.putfield 56, 3) := dk_181 0 56 (dk_at dksX5_count_0 2 rfl rfl)
theorem dX5_count_5 : decode cX5_count 5 = .ok (.aload_n 0, 1) := dk_42 (dk_at dksX5_count_0 5 rfl rfl)
theorem dX5_count_6 : decode cX5_count 6 = .ok (.iload_n 1, 1) := dk_27 (dk_at dksX5_count_0 6 rfl rfl)
theorem dX5_count_7 : decode cX5_count 7 = .ok (.iconst 0, 1) := dk_3 (dk_at dksX5_count_0 7 rfl rfl)
theorem dX5_count_8 : decode cX5_count 8 = .ok (.bipush 9, 2) := dk_16 9 (dk_at dksX5_count_0 8 rfl rfl)
theorem dX5_count_10 : decode cX5_count 10 = .ok (.invokestatic 165, 3) := dk_184 0 165 (dk_at dksX5_count_0 10 rfl rfl)
theorem dX5_count_13 : decode cX5_count 13 = .ok (.iconst 1, 1) := dk_4 (dk_at dksX5_count_0 13 rfl rfl)
theorem dX5_count_14 : decode cX5_count 14 = .ok (.invokevirtual 161, 3) := dk_182 0 161 (dk_at dksX5_count_0 14 rfl rfl)
theorem dX5_count_17 : decode cX5_count 17 = .ok (.ifCond .ne 5, 3) := dk_154 0 5 (dk_at dksX5_count_0 17 rfl rfl)
theorem dX5_count_20 : decode cX5_count 20 = .ok (.iconst 0, 1) := dk_3 (dk_at dksX5_count_0 20 rfl rfl)
theorem dX5_count_21 : decode cX5_count 21 = .ok (.ireturn, 1) := dk_172 (dk_at dksX5_count_0 21 rfl rfl)
theorem dX5_count_22 : decode cX5_count 22 = .ok (.iload_n 1, 1) := dk_27 (dk_at dksX5_count_0 22 rfl rfl)
theorem dX5_count_23 : decode cX5_count 23 = .ok (.tableswitch 91 0 8 #[49, 55, 61, 67, 67, 67, 75, 80, 86], 49) := by decide +kernel
theorem dX5_count_72 : decode cX5_count 72 = .ok (.aload_n 0, 1) := dk_42 (dk_at dksX5_count_2 0 rfl rfl)
theorem dX5_count_73 : decode cX5_count 73 = .ok (.iconst 0, 1) := dk_3 (dk_at dksX5_count_2 1 rfl rfl)
theorem dX5_count_74 : decode cX5_count 74 = .ok (.invokevirtual 65, 3) := dk_182 0 65 (dk_at dksX5_count_2 2 rfl rfl)
theorem dX5_count_77 : decode cX5_count 77 = .ok (.ireturn, 1) := dk_172 (dk_at dksX5_count_2 5 rfl rfl)
theorem dX5_count_78 : decode cX5_count 78 = .ok (.aload_n 0, 1) := dk_42 (dk_at dksX5_count_2 6 rfl rfl)
theorem dX5_count_79 : decode cX5_count 79 = .ok (.iconst 1, 1) := dk_4 (dk_at dksX5_count_2 7 rfl rfl)
theorem dX5_count_80 : decode cX5_count 80 = .ok (.invokevirtual 65, 3) := dk_182 0 65 (dk_at dksX5_count_2 8 rfl rfl)
theorem dX5_count_83 : decode cX5_count 83 = .ok (.ireturn, 1) := dk_172 (dk_at dksX5_count_2 11 rfl rfl)
theorem dX5_count_84 : decode cX5_count 84 = .ok (.aload_n 0, 1) := dk_42 (dk_at dksX5_count_2 12 rfl rfl)
theorem dX5_count_85 : decode cX5_count 85 = .ok (.iconst 3, 1) := dk_6 (dk_at dksX5_count_2 13 rfl rfl)
theorem dX5_count_86 : decode cX5_count 86 = .ok (.invokevirtual 65, 3) := dk_182 0 65 (dk_at dksX5_count_2 14 rfl rfl)
theorem dX5_count_89 : decode cX5_count 89 = .ok (.ireturn, 1) := dk_172 (dk_at dksX5_count_2 17 rfl rfl)
theorem dX5_count_90 : decode cX5_count 90 = .ok (.aload_n 0, 1) := dk_42 (dk_at dksX5_count_2 18 rfl rfl)
theorem dX5_count_91 : decode cX5_count 91 = .ok (.iload_n 1, 1) := dk_27 (dk_at dksX5_count_2 19 rfl rfl)
theorem dX5_count_92 : decode cX5_count 92 = .ok (.iconst 3, 1) := dk_6 (dk_at dksX5_count_2 20 rfl rfl)
theorem dX5_count_93 : decode cX5_count 93 = .ok (.isub, 1) := dk_100 (dk_at dksX5_count_2 21 rfl rfl)
theorem dX5_count_94 : decode cX5_count 94 = .ok (.invokevirtual 298, 3) := dk_182 1 42 (dk_at dksX5_count_3 0 rfl rfl)
theorem dX5_count_97 : decode cX5_count 97 = .ok (.ireturn, 1) := dk_172 (dk_at dksX5_count_3 3 rfl rfl)
theorem dX5_count_98 : decode cX5_count 98 = .ok (.aload_n 0, 1) := dk_42 (dk_at dksX5_count_3 4 rfl rfl)
theorem dX5_count_99 : decode cX5_count 99 = .ok (.invokevirtual 301, 3) := dk_182 1 45 (dk_at dksX5_count_3 5 rfl rfl)
theorem dX5_count_102 : decode cX5_count 102 = .ok (.ireturn, 1) := dk_172 (dk_at dksX5_count_3 8 rfl rfl)
theorem dX5_count_103 : decode cX5_count 103 = .ok (.aload_n 0, 1) := dk_42 (dk_at dksX5_count_3 9 rfl rfl)
theorem dX5_count_104 : decode cX5_count 104 = .ok (.iconst 2, 1) := dk_5 (dk_at dksX5_count_3 10 rfl rfl)
theorem dX5_count_105 : decode cX5_count 105 = .ok (.invokevirtual 65, 3) := dk_182 0 65 (dk_at dksX5_count_3 11 rfl rfl)
theorem dX5_count_108 : decode cX5_count 108 = .ok (.ireturn, 1) := dk_172 (dk_at dksX5_count_3 14 rfl rfl)
theorem dX5_count_109 : decode cX5_count 109 = .ok (.aload_n 0, 1) := dk_42 (dk_at dksX5_count_3 15 rfl rfl)
theorem dX5_count_110 : decode cX5_count 110 = .ok (.invokevirtual 304, 3) := dk_182 1 48 (dk_at dksX5_count_3 16 rfl rfl)
theorem dX5_count_113 : decode cX5_count 113 = .ok (.ireturn, 1) := dk_172 (dk_at dksX5_count_3 19 rfl rfl)
theorem dX5_count_114 : decode cX5_count 114 = .ok (.aload_n 0, 1) := dk_42 (dk_at dksX5_count_3 20 rfl rfl)
theorem dX5_count_115 : decode cX5_count 115 = .ok (.getfield 234, 3) := dk_180 0 234 (dk_at dksX5_count_3 21 rfl rfl)
theorem dX5_count_118 : decode cX5_count 118 = .ok (.ireturn, 1) := dk_172 (dk_at dksX5_count_4 0 rfl rfl)
abbrev cX5_allFacts : ByteArray := prog_14_method_32_code
def yX5_allFacts : MethodName := ⟨RX5, "allFacts", "()I"⟩
def dkwX5_allFacts_1 : List UInt8 := [167, 255, 236, 27, 5, 108, 172]
abbrev dktX5_allFacts_1 : List UInt8 := dkwX5_allFacts_1 ++ []
def dkwX5_allFacts_0 : List UInt8 := [3, 60, 3, 61, 28, 42, 4, 182, 0, 65, 162, 0, 17, 27, 42, 28, 182, 0, 111, 96, 60, 132, 2, 1]
abbrev dktX5_allFacts_0 : List UInt8 := dkwX5_allFacts_0 ++ dktX5_allFacts_1
theorem dksX5_allFacts_0 : cX5_allFacts.data.toList.drop 0 = dktX5_allFacts_0 := by decide +kernel
theorem dksX5_allFacts_1 : cX5_allFacts.data.toList.drop 24 = dktX5_allFacts_1 := dk_seg dksX5_allFacts_0 24 rfl rfl
theorem dX5_allFacts_0 : decode cX5_allFacts 0 = .ok (.iconst 0, 1) := dk_3 (dk_at dksX5_allFacts_0 0 rfl rfl)
theorem dX5_allFacts_1 : decode cX5_allFacts 1 = .ok (.istore_n 1, 1) := dk_60 (dk_at dksX5_allFacts_0 1 rfl rfl)
theorem dX5_allFacts_2 : decode cX5_allFacts 2 = .ok (.iconst 0, 1) := dk_3 (dk_at dksX5_allFacts_0 2 rfl rfl)
theorem dX5_allFacts_3 : decode cX5_allFacts 3 = .ok (.istore_n 2, 1) := dk_61 (dk_at dksX5_allFacts_0 3 rfl rfl)
theorem dX5_allFacts_4 : decode cX5_allFacts 4 = .ok (.iload_n 2, 1) := dk_28 (dk_at dksX5_allFacts_0 4 rfl rfl)
theorem dX5_allFacts_5 : decode cX5_allFacts 5 = .ok (.aload_n 0, 1) := dk_42 (dk_at dksX5_allFacts_0 5 rfl rfl)
theorem dX5_allFacts_6 : decode cX5_allFacts 6 = .ok (.iconst 1, 1) := dk_4 (dk_at dksX5_allFacts_0 6 rfl rfl)
theorem dX5_allFacts_7 : decode cX5_allFacts 7 = .ok (.invokevirtual 65, 3) := dk_182 0 65 (dk_at dksX5_allFacts_0 7 rfl rfl)
theorem dX5_allFacts_10 : decode cX5_allFacts 10 = .ok (.if_icmp .ge 17, 3) := dk_162 0 17 (dk_at dksX5_allFacts_0 10 rfl rfl)
theorem dX5_allFacts_13 : decode cX5_allFacts 13 = .ok (.iload_n 1, 1) := dk_27 (dk_at dksX5_allFacts_0 13 rfl rfl)
theorem dX5_allFacts_14 : decode cX5_allFacts 14 = .ok (.aload_n 0, 1) := dk_42 (dk_at dksX5_allFacts_0 14 rfl rfl)
theorem dX5_allFacts_15 : decode cX5_allFacts 15 = .ok (.iload_n 2, 1) := dk_28 (dk_at dksX5_allFacts_0 15 rfl rfl)
theorem dX5_allFacts_16 : decode cX5_allFacts 16 = .ok (.invokevirtual 111, 3) := dk_182 0 111 (dk_at dksX5_allFacts_0 16 rfl rfl)
theorem dX5_allFacts_19 : decode cX5_allFacts 19 = .ok (.iadd, 1) := dk_96 (dk_at dksX5_allFacts_0 19 rfl rfl)
theorem dX5_allFacts_20 : decode cX5_allFacts 20 = .ok (.istore_n 1, 1) := dk_60 (dk_at dksX5_allFacts_0 20 rfl rfl)
theorem dX5_allFacts_21 : decode cX5_allFacts 21 = .ok (.iinc 2 1, 3) := dk_132 2 1 (dk_at dksX5_allFacts_0 21 rfl rfl)
theorem dX5_allFacts_24 : decode cX5_allFacts 24 = .ok (.goto (-20), 3) := dk_167 255 236 (dk_at dksX5_allFacts_1 0 rfl rfl)
theorem dX5_allFacts_27 : decode cX5_allFacts 27 = .ok (.iload_n 1, 1) := dk_27 (dk_at dksX5_allFacts_1 3 rfl rfl)
theorem dX5_allFacts_28 : decode cX5_allFacts 28 = .ok (.iconst 2, 1) := dk_5 (dk_at dksX5_allFacts_1 4 rfl rfl)
theorem dX5_allFacts_29 : decode cX5_allFacts 29 = .ok (.idiv, 1) := dk_108 (dk_at dksX5_allFacts_1 5 rfl rfl)
theorem dX5_allFacts_30 : decode cX5_allFacts 30 = .ok (.ireturn, 1) := dk_172 (dk_at dksX5_allFacts_1 6 rfl rfl)
abbrev cX5_factsWith : ByteArray := prog_14_method_31_code
def yX5_factsWith : MethodName := ⟨RX5, "factsWith", "(I)I"⟩
def dkwX5_factsWith_1 : List UInt8 := [4, 167, 0, 4, 3, 184, 0, 101, 96, 61, 132, 3, 1, 167, 255, 223, 28, 172]
abbrev dktX5_factsWith_1 : List UInt8 := dkwX5_factsWith_1 ++ []
def dkwX5_factsWith_0 : List UInt8 := [3, 61, 3, 62, 29, 42, 4, 182, 0, 65, 162, 0, 30, 28, 42, 27, 29, 182, 0, 108, 2, 159, 0, 7]
abbrev dktX5_factsWith_0 : List UInt8 := dkwX5_factsWith_0 ++ dktX5_factsWith_1
theorem dksX5_factsWith_0 : cX5_factsWith.data.toList.drop 0 = dktX5_factsWith_0 := by decide +kernel
theorem dksX5_factsWith_1 : cX5_factsWith.data.toList.drop 24 = dktX5_factsWith_1 := dk_seg dksX5_factsWith_0 24 rfl rfl
theorem dX5_factsWith_0 : decode cX5_factsWith 0 = .ok (.iconst 0, 1) := dk_3 (dk_at dksX5_factsWith_0 0 rfl rfl)
theorem dX5_factsWith_1 : decode cX5_factsWith 1 = .ok (.istore_n 2, 1) := dk_61 (dk_at dksX5_factsWith_0 1 rfl rfl)
theorem dX5_factsWith_2 : decode cX5_factsWith 2 = .ok (.iconst 0, 1) := dk_3 (dk_at dksX5_factsWith_0 2 rfl rfl)
theorem dX5_factsWith_3 : decode cX5_factsWith 3 = .ok (.istore_n 3, 1) := dk_62 (dk_at dksX5_factsWith_0 3 rfl rfl)
theorem dX5_factsWith_4 : decode cX5_factsWith 4 = .ok (.iload_n 3, 1) := dk_29 (dk_at dksX5_factsWith_0 4 rfl rfl)
theorem dX5_factsWith_5 : decode cX5_factsWith 5 = .ok (.aload_n 0, 1) := dk_42 (dk_at dksX5_factsWith_0 5 rfl rfl)
theorem dX5_factsWith_6 : decode cX5_factsWith 6 = .ok (.iconst 1, 1) := dk_4 (dk_at dksX5_factsWith_0 6 rfl rfl)
theorem dX5_factsWith_7 : decode cX5_factsWith 7 = .ok (.invokevirtual 65, 3) := dk_182 0 65 (dk_at dksX5_factsWith_0 7 rfl rfl)
theorem dX5_factsWith_10 : decode cX5_factsWith 10 = .ok (.if_icmp .ge 30, 3) := dk_162 0 30 (dk_at dksX5_factsWith_0 10 rfl rfl)
theorem dX5_factsWith_13 : decode cX5_factsWith 13 = .ok (.iload_n 2, 1) := dk_28 (dk_at dksX5_factsWith_0 13 rfl rfl)
theorem dX5_factsWith_14 : decode cX5_factsWith 14 = .ok (.aload_n 0, 1) := dk_42 (dk_at dksX5_factsWith_0 14 rfl rfl)
theorem dX5_factsWith_15 : decode cX5_factsWith 15 = .ok (.iload_n 1, 1) := dk_27 (dk_at dksX5_factsWith_0 15 rfl rfl)
theorem dX5_factsWith_16 : decode cX5_factsWith 16 = .ok (.iload_n 3, 1) := dk_29 (dk_at dksX5_factsWith_0 16 rfl rfl)
theorem dX5_factsWith_17 : decode cX5_factsWith 17 = .ok (.invokevirtual 108, 3) := dk_182 0 108 (dk_at dksX5_factsWith_0 17 rfl rfl)
theorem dX5_factsWith_20 : decode cX5_factsWith 20 = .ok (.iconst (-1), 1) := dk_2 (dk_at dksX5_factsWith_0 20 rfl rfl)
theorem dX5_factsWith_21 : decode cX5_factsWith 21 = .ok (.if_icmp .eq 7, 3) := dk_159 0 7 (dk_at dksX5_factsWith_0 21 rfl rfl)
theorem dX5_factsWith_24 : decode cX5_factsWith 24 = .ok (.iconst 1, 1) := dk_4 (dk_at dksX5_factsWith_1 0 rfl rfl)
theorem dX5_factsWith_25 : decode cX5_factsWith 25 = .ok (.goto 4, 3) := dk_167 0 4 (dk_at dksX5_factsWith_1 1 rfl rfl)
theorem dX5_factsWith_28 : decode cX5_factsWith 28 = .ok (.iconst 0, 1) := dk_3 (dk_at dksX5_factsWith_1 4 rfl rfl)
theorem dX5_factsWith_29 : decode cX5_factsWith 29 = .ok (.invokestatic 101, 3) := dk_184 0 101 (dk_at dksX5_factsWith_1 5 rfl rfl)
theorem dX5_factsWith_32 : decode cX5_factsWith 32 = .ok (.iadd, 1) := dk_96 (dk_at dksX5_factsWith_1 8 rfl rfl)
theorem dX5_factsWith_33 : decode cX5_factsWith 33 = .ok (.istore_n 2, 1) := dk_61 (dk_at dksX5_factsWith_1 9 rfl rfl)
theorem dX5_factsWith_34 : decode cX5_factsWith 34 = .ok (.iinc 3 1, 3) := dk_132 3 1 (dk_at dksX5_factsWith_1 10 rfl rfl)
theorem dX5_factsWith_37 : decode cX5_factsWith 37 = .ok (.goto (-33), 3) := dk_167 255 223 (dk_at dksX5_factsWith_1 13 rfl rfl)
theorem dX5_factsWith_40 : decode cX5_factsWith 40 = .ok (.iload_n 2, 1) := dk_28 (dk_at dksX5_factsWith_1 16 rfl rfl)
theorem dX5_factsWith_41 : decode cX5_factsWith 41 = .ok (.ireturn, 1) := dk_172 (dk_at dksX5_factsWith_1 17 rfl rfl)
abbrev cX5_allStones : ByteArray := prog_14_method_77_code
def yX5_allStones : MethodName := ⟨RX5, "allStones", "()I"⟩
def dkwX5_allStones_1 : List UInt8 := [167, 255, 236, 27, 172]
abbrev dktX5_allStones_1 : List UInt8 := dkwX5_allStones_1 ++ []
def dkwX5_allStones_0 : List UInt8 := [3, 60, 3, 61, 28, 42, 4, 182, 0, 65, 162, 0, 17, 27, 42, 28, 182, 0, 86, 96, 60, 132, 2, 1]
abbrev dktX5_allStones_0 : List UInt8 := dkwX5_allStones_0 ++ dktX5_allStones_1
theorem dksX5_allStones_0 : cX5_allStones.data.toList.drop 0 = dktX5_allStones_0 := by decide +kernel
theorem dksX5_allStones_1 : cX5_allStones.data.toList.drop 24 = dktX5_allStones_1 := dk_seg dksX5_allStones_0 24 rfl rfl
theorem dX5_allStones_0 : decode cX5_allStones 0 = .ok (.iconst 0, 1) := dk_3 (dk_at dksX5_allStones_0 0 rfl rfl)
theorem dX5_allStones_1 : decode cX5_allStones 1 = .ok (.istore_n 1, 1) := dk_60 (dk_at dksX5_allStones_0 1 rfl rfl)
theorem dX5_allStones_2 : decode cX5_allStones 2 = .ok (.iconst 0, 1) := dk_3 (dk_at dksX5_allStones_0 2 rfl rfl)
theorem dX5_allStones_3 : decode cX5_allStones 3 = .ok (.istore_n 2, 1) := dk_61 (dk_at dksX5_allStones_0 3 rfl rfl)
theorem dX5_allStones_4 : decode cX5_allStones 4 = .ok (.iload_n 2, 1) := dk_28 (dk_at dksX5_allStones_0 4 rfl rfl)
theorem dX5_allStones_5 : decode cX5_allStones 5 = .ok (.aload_n 0, 1) := dk_42 (dk_at dksX5_allStones_0 5 rfl rfl)
theorem dX5_allStones_6 : decode cX5_allStones 6 = .ok (.iconst 1, 1) := dk_4 (dk_at dksX5_allStones_0 6 rfl rfl)
theorem dX5_allStones_7 : decode cX5_allStones 7 = .ok (.invokevirtual 65, 3) := dk_182 0 65 (dk_at dksX5_allStones_0 7 rfl rfl)
theorem dX5_allStones_10 : decode cX5_allStones 10 = .ok (.if_icmp .ge 17, 3) := dk_162 0 17 (dk_at dksX5_allStones_0 10 rfl rfl)
theorem dX5_allStones_13 : decode cX5_allStones 13 = .ok (.iload_n 1, 1) := dk_27 (dk_at dksX5_allStones_0 13 rfl rfl)
theorem dX5_allStones_14 : decode cX5_allStones 14 = .ok (.aload_n 0, 1) := dk_42 (dk_at dksX5_allStones_0 14 rfl rfl)
theorem dX5_allStones_15 : decode cX5_allStones 15 = .ok (.iload_n 2, 1) := dk_28 (dk_at dksX5_allStones_0 15 rfl rfl)
theorem dX5_allStones_16 : decode cX5_allStones 16 = .ok (.invokevirtual 86, 3) := dk_182 0 86 (dk_at dksX5_allStones_0 16 rfl rfl)
theorem dX5_allStones_19 : decode cX5_allStones 19 = .ok (.iadd, 1) := dk_96 (dk_at dksX5_allStones_0 19 rfl rfl)
theorem dX5_allStones_20 : decode cX5_allStones 20 = .ok (.istore_n 1, 1) := dk_60 (dk_at dksX5_allStones_0 20 rfl rfl)
theorem dX5_allStones_21 : decode cX5_allStones 21 = .ok (.iinc 2 1, 3) := dk_132 2 1 (dk_at dksX5_allStones_0 21 rfl rfl)
theorem dX5_allStones_24 : decode cX5_allStones 24 = .ok (.goto (-20), 3) := dk_167 255 236 (dk_at dksX5_allStones_1 0 rfl rfl)
theorem dX5_allStones_27 : decode cX5_allStones 27 = .ok (.iload_n 1, 1) := dk_27 (dk_at dksX5_allStones_1 3 rfl rfl)
theorem dX5_allStones_28 : decode cX5_allStones 28 = .ok (.ireturn, 1) := dk_172 (dk_at dksX5_allStones_1 4 rfl rfl)
abbrev cX5_tally : ByteArray := prog_14_method_79_code
def yX5_tally : MethodName := ⟨RX5, "tally", "(I)I"⟩
def dkwX5_tally_1 : List UInt8 := [182, 0, 65, 167, 0, 4, 3, 172]
abbrev dktX5_tally_1 : List UInt8 := dkwX5_tally_1 ++ []
def dkwX5_tally_0 : List UInt8 := [42, 3, 181, 0, 56, 42, 27, 3, 16, 6, 184, 0, 165, 4, 182, 0, 161, 153, 0, 13, 42, 7, 27, 96]
abbrev dktX5_tally_0 : List UInt8 := dkwX5_tally_0 ++ dktX5_tally_1
theorem dksX5_tally_0 : cX5_tally.data.toList.drop 0 = dktX5_tally_0 := by decide +kernel
theorem dksX5_tally_1 : cX5_tally.data.toList.drop 24 = dktX5_tally_1 := dk_seg dksX5_tally_0 24 rfl rfl
theorem dX5_tally_0 : decode cX5_tally 0 = .ok (.aload_n 0, 1) := dk_42 (dk_at dksX5_tally_0 0 rfl rfl)
theorem dX5_tally_1 : decode cX5_tally 1 = .ok (.iconst 0, 1) := dk_3 (dk_at dksX5_tally_0 1 rfl rfl)
theorem dX5_tally_2 : decode cX5_tally 2 = .ok (.putfield 56, 3) := dk_181 0 56 (dk_at dksX5_tally_0 2 rfl rfl)
theorem dX5_tally_5 : decode cX5_tally 5 = .ok (.aload_n 0, 1) := dk_42 (dk_at dksX5_tally_0 5 rfl rfl)
theorem dX5_tally_6 : decode cX5_tally 6 = .ok (.iload_n 1, 1) := dk_27 (dk_at dksX5_tally_0 6 rfl rfl)
theorem dX5_tally_7 : decode cX5_tally 7 = .ok (.iconst 0, 1) := dk_3 (dk_at dksX5_tally_0 7 rfl rfl)
theorem dX5_tally_8 : decode cX5_tally 8 = .ok (.bipush 6, 2) := dk_16 6 (dk_at dksX5_tally_0 8 rfl rfl)
theorem dX5_tally_10 : decode cX5_tally 10 = .ok (.invokestatic 165, 3) := dk_184 0 165 (dk_at dksX5_tally_0 10 rfl rfl)
theorem dX5_tally_13 : decode cX5_tally 13 = .ok (.iconst 1, 1) := dk_4 (dk_at dksX5_tally_0 13 rfl rfl)
theorem dX5_tally_14 : decode cX5_tally 14 = .ok (.invokevirtual 161, 3) := dk_182 0 161 (dk_at dksX5_tally_0 14 rfl rfl)
theorem dX5_tally_17 : decode cX5_tally 17 = .ok (.ifCond .eq 13, 3) := dk_153 0 13 (dk_at dksX5_tally_0 17 rfl rfl)
theorem dX5_tally_20 : decode cX5_tally 20 = .ok (.aload_n 0, 1) := dk_42 (dk_at dksX5_tally_0 20 rfl rfl)
theorem dX5_tally_21 : decode cX5_tally 21 = .ok (.iconst 4, 1) := dk_7 (dk_at dksX5_tally_0 21 rfl rfl)
theorem dX5_tally_22 : decode cX5_tally 22 = .ok (.iload_n 1, 1) := dk_27 (dk_at dksX5_tally_0 22 rfl rfl)
theorem dX5_tally_23 : decode cX5_tally 23 = .ok (.iadd, 1) := dk_96 (dk_at dksX5_tally_0 23 rfl rfl)
theorem dX5_tally_24 : decode cX5_tally 24 = .ok (.invokevirtual 65, 3) := dk_182 0 65 (dk_at dksX5_tally_1 0 rfl rfl)
theorem dX5_tally_27 : decode cX5_tally 27 = .ok (.goto 4, 3) := dk_167 0 4 (dk_at dksX5_tally_1 3 rfl rfl)
theorem dX5_tally_30 : decode cX5_tally 30 = .ok (.iconst 0, 1) := dk_3 (dk_at dksX5_tally_1 6 rfl rfl)
theorem dX5_tally_31 : decode cX5_tally 31 = .ok (.ireturn, 1) := dk_172 (dk_at dksX5_tally_1 7 rfl rfl)
abbrev cX5_trader : ByteArray := prog_14_method_81_code
def yX5_trader : MethodName := ⟨RX5, "trader", "(II)I"⟩
def dkwX5_trader_4 : List UInt8 := [27, 2, 182, 1, 58, 172, 42, 27, 28, 6, 100, 182, 1, 58, 172]
abbrev dktX5_trader_4 : List UInt8 := dkwX5_trader_4 ++ []
def dkwX5_trader_3 : List UInt8 := [42, 16, 11, 27, 96, 182, 0, 65, 172, 42, 27, 3, 182, 1, 54, 172, 42, 27, 4, 182, 1, 54, 172, 42]
abbrev dktX5_trader_3 : List UInt8 := dkwX5_trader_3 ++ dktX5_trader_4
def dkwX5_trader_2 : List UInt8 := [170, 0, 0, 0, 59, 0, 0, 0, 0, 0, 0, 0, 3, 0, 0, 0, 29, 0, 0, 0, 38, 0, 0, 0, 45, 0, 0, 0, 52]
abbrev dktX5_trader_2 : List UInt8 := dkwX5_trader_2 ++ dktX5_trader_3
def dkwX5_trader_1 : List UInt8 := [184, 0, 165, 5, 182, 0, 161, 154, 0, 5, 3, 172, 28]
abbrev dktX5_trader_1 : List UInt8 := dkwX5_trader_1 ++ dktX5_trader_2
def dkwX5_trader_0 : List UInt8 := [42, 3, 181, 0, 56, 42, 42, 27, 182, 1, 51, 4, 182, 0, 161, 153, 0, 17, 42, 28, 3, 8]
abbrev dktX5_trader_0 : List UInt8 := dkwX5_trader_0 ++ dktX5_trader_1
theorem dksX5_trader_0 : cX5_trader.data.toList.drop 0 = dktX5_trader_0 := by decide +kernel
theorem dksX5_trader_1 : cX5_trader.data.toList.drop 22 = dktX5_trader_1 := dk_seg dksX5_trader_0 22 rfl rfl
theorem dksX5_trader_2 : cX5_trader.data.toList.drop 35 = dktX5_trader_2 := dk_seg dksX5_trader_1 13 rfl rfl
theorem dksX5_trader_3 : cX5_trader.data.toList.drop 64 = dktX5_trader_3 := dk_seg dksX5_trader_2 29 rfl rfl
theorem dksX5_trader_4 : cX5_trader.data.toList.drop 88 = dktX5_trader_4 := dk_seg dksX5_trader_3 24 rfl rfl
theorem dX5_trader_0 : decode cX5_trader 0 = .ok (.aload_n 0, 1) := dk_42 (dk_at dksX5_trader_0 0 rfl rfl)
theorem dX5_trader_1 : decode cX5_trader 1 = .ok (.iconst 0, 1) := dk_3 (dk_at dksX5_trader_0 1 rfl rfl)
theorem dX5_trader_2 : decode cX5_trader 2 = .ok (.putfield 56, 3) := dk_181 0 56 (dk_at dksX5_trader_0 2 rfl rfl)
theorem dX5_trader_5 : decode cX5_trader 5 = .ok (.aload_n 0, 1) := dk_42 (dk_at dksX5_trader_0 5 rfl rfl)
theorem dX5_trader_6 : decode cX5_trader 6 = .ok (.aload_n 0, 1) := dk_42 (dk_at dksX5_trader_0 6 rfl rfl)
theorem dX5_trader_7 : decode cX5_trader 7 = .ok (.iload_n 1, 1) := dk_27 (dk_at dksX5_trader_0 7 rfl rfl)
theorem dX5_trader_8 : decode cX5_trader 8 = .ok (.invokevirtual 307, 3) := dk_182 1 51 (dk_at dksX5_trader_0 8 rfl rfl)
theorem dX5_trader_11 : decode cX5_trader 11 = .ok (.iconst 1, 1) := dk_4 (dk_at dksX5_trader_0 11 rfl rfl)
theorem dX5_trader_12 : decode cX5_trader 12 = .ok (.invokevirtual 161, 3) := dk_182 0 161 (dk_at dksX5_trader_0 12 rfl rfl)
theorem dX5_trader_15 : decode cX5_trader 15 = .ok (.ifCond .eq 17, 3) := dk_153 0 17 (dk_at dksX5_trader_0 15 rfl rfl)
theorem dX5_trader_18 : decode cX5_trader 18 = .ok (.aload_n 0, 1) := dk_42 (dk_at dksX5_trader_0 18 rfl rfl)
theorem dX5_trader_19 : decode cX5_trader 19 = .ok (.iload_n 2, 1) := dk_28 (dk_at dksX5_trader_0 19 rfl rfl)
theorem dX5_trader_20 : decode cX5_trader 20 = .ok (.iconst 0, 1) := dk_3 (dk_at dksX5_trader_0 20 rfl rfl)
theorem dX5_trader_21 : decode cX5_trader 21 = .ok (.iconst 5, 1) := dk_8 (dk_at dksX5_trader_0 21 rfl rfl)
theorem dX5_trader_22 : decode cX5_trader 22 = .ok (.invokestatic 165, 3) := dk_184 0 165 (dk_at dksX5_trader_1 0 rfl rfl)
theorem dX5_trader_25 : decode cX5_trader 25 = .ok (.iconst 2, 1) := dk_5 (dk_at dksX5_trader_1 3 rfl rfl)
theorem dX5_trader_26 : decode cX5_trader 26 = .ok (.invokevirtual 161, 3) := dk_182 0 161 (dk_at dksX5_trader_1 4 rfl rfl)
theorem dX5_trader_29 : decode cX5_trader 29 = .ok (.ifCond .ne 5, 3) := dk_154 0 5 (dk_at dksX5_trader_1 7 rfl rfl)
theorem dX5_trader_32 : decode cX5_trader 32 = .ok (.iconst 0, 1) := dk_3 (dk_at dksX5_trader_1 10 rfl rfl)
theorem dX5_trader_33 : decode cX5_trader 33 = .ok (.ireturn, 1) := dk_172 (dk_at dksX5_trader_1 11 rfl rfl)
theorem dX5_trader_34 : decode cX5_trader 34 = .ok (.iload_n 2, 1) := dk_28 (dk_at dksX5_trader_1 12 rfl rfl)
theorem dX5_trader_35 : decode cX5_trader 35 = .ok (.tableswitch 59 0 3 #[29, 38, 45, 52], 29) := by decide +kernel
theorem dX5_trader_64 : decode cX5_trader 64 = .ok (.aload_n 0, 1) := dk_42 (dk_at dksX5_trader_3 0 rfl rfl)
theorem dX5_trader_65 : decode cX5_trader 65 = .ok (.bipush 11, 2) := dk_16 11 (dk_at dksX5_trader_3 1 rfl rfl)
theorem dX5_trader_67 : decode cX5_trader 67 = .ok (.iload_n 1, 1) := dk_27 (dk_at dksX5_trader_3 3 rfl rfl)
theorem dX5_trader_68 : decode cX5_trader 68 = .ok (.iadd, 1) := dk_96 (dk_at dksX5_trader_3 4 rfl rfl)
theorem dX5_trader_69 : decode cX5_trader 69 = .ok (.invokevirtual 65, 3) := dk_182 0 65 (dk_at dksX5_trader_3 5 rfl rfl)
theorem dX5_trader_72 : decode cX5_trader 72 = .ok (.ireturn, 1) := dk_172 (dk_at dksX5_trader_3 8 rfl rfl)
theorem dX5_trader_73 : decode cX5_trader 73 = .ok (.aload_n 0, 1) := dk_42 (dk_at dksX5_trader_3 9 rfl rfl)
theorem dX5_trader_74 : decode cX5_trader 74 = .ok (.iload_n 1, 1) := dk_27 (dk_at dksX5_trader_3 10 rfl rfl)
theorem dX5_trader_75 : decode cX5_trader 75 = .ok (.iconst 0, 1) := dk_3 (dk_at dksX5_trader_3 11 rfl rfl)
theorem dX5_trader_76 : decode cX5_trader 76 = .ok (.invokevirtual 310, 3) := dk_182 1 54 (dk_at dksX5_trader_3 12 rfl rfl)
theorem dX5_trader_79 : decode cX5_trader 79 = .ok (.ireturn, 1) := dk_172 (dk_at dksX5_trader_3 15 rfl rfl)
theorem dX5_trader_80 : decode cX5_trader 80 = .ok (.aload_n 0, 1) := dk_42 (dk_at dksX5_trader_3 16 rfl rfl)
theorem dX5_trader_81 : decode cX5_trader 81 = .ok (.iload_n 1, 1) := dk_27 (dk_at dksX5_trader_3 17 rfl rfl)
theorem dX5_trader_82 : decode cX5_trader 82 = .ok (.iconst 1, 1) := dk_4 (dk_at dksX5_trader_3 18 rfl rfl)
theorem dX5_trader_83 : decode cX5_trader 83 = .ok (.invokevirtual 310, 3) := dk_182 1 54 (dk_at dksX5_trader_3 19 rfl rfl)
theorem dX5_trader_86 : decode cX5_trader 86 = .ok (.ireturn, 1) := dk_172 (dk_at dksX5_trader_3 22 rfl rfl)
theorem dX5_trader_87 : decode cX5_trader 87 = .ok (.aload_n 0, 1) := dk_42 (dk_at dksX5_trader_3 23 rfl rfl)
theorem dX5_trader_88 : decode cX5_trader 88 = .ok (.iload_n 1, 1) := dk_27 (dk_at dksX5_trader_4 0 rfl rfl)
theorem dX5_trader_89 : decode cX5_trader 89 = .ok (.iconst (-1), 1) := dk_2 (dk_at dksX5_trader_4 1 rfl rfl)
theorem dX5_trader_90 : decode cX5_trader 90 = .ok (.invokevirtual 314, 3) := dk_182 1 58 (dk_at dksX5_trader_4 2 rfl rfl)
theorem dX5_trader_93 : decode cX5_trader 93 = .ok (.ireturn, 1) := dk_172 (dk_at dksX5_trader_4 5 rfl rfl)
theorem dX5_trader_94 : decode cX5_trader 94 = .ok (.aload_n 0, 1) := dk_42 (dk_at dksX5_trader_4 6 rfl rfl)
theorem dX5_trader_95 : decode cX5_trader 95 = .ok (.iload_n 1, 1) := dk_27 (dk_at dksX5_trader_4 7 rfl rfl)
theorem dX5_trader_96 : decode cX5_trader 96 = .ok (.iload_n 2, 1) := dk_28 (dk_at dksX5_trader_4 8 rfl rfl)
theorem dX5_trader_97 : decode cX5_trader 97 = .ok (.iconst 3, 1) := dk_6 (dk_at dksX5_trader_4 9 rfl rfl)
theorem dX5_trader_98 : decode cX5_trader 98 = .ok (.isub, 1) := dk_100 (dk_at dksX5_trader_4 10 rfl rfl)
theorem dX5_trader_99 : decode cX5_trader 99 = .ok (.invokevirtual 314, 3) := dk_182 1 58 (dk_at dksX5_trader_4 11 rfl rfl)
theorem dX5_trader_102 : decode cX5_trader 102 = .ok (.ireturn, 1) := dk_172 (dk_at dksX5_trader_4 14 rfl rfl)
abbrev cX5_ownedBy : ByteArray := prog_14_method_80_code
def yX5_ownedBy : MethodName := ⟨RX5, "ownedBy", "(IZ)I"⟩
def dkwX5_ownedBy_2 : List UInt8 := [132, 4, 1, 167, 255, 211, 29, 172]
abbrev dktX5_ownedBy_2 : List UInt8 := dkwX5_ownedBy_2 ++ []
def dkwX5_ownedBy_1 : List UInt8 := [159, 0, 7, 3, 167, 0, 17, 28, 153, 0, 12, 42, 21, 4, 182, 0, 86, 167, 0, 4, 4, 96, 62]
abbrev dktX5_ownedBy_1 : List UInt8 := dkwX5_ownedBy_1 ++ dktX5_ownedBy_2
def dkwX5_ownedBy_0 : List UInt8 := [3, 62, 3, 54, 4, 21, 4, 42, 4, 182, 0, 65, 162, 0, 41, 29, 42, 21, 4, 3, 182, 0, 69, 27]
abbrev dktX5_ownedBy_0 : List UInt8 := dkwX5_ownedBy_0 ++ dktX5_ownedBy_1
theorem dksX5_ownedBy_0 : cX5_ownedBy.data.toList.drop 0 = dktX5_ownedBy_0 := by decide +kernel
theorem dksX5_ownedBy_1 : cX5_ownedBy.data.toList.drop 24 = dktX5_ownedBy_1 := dk_seg dksX5_ownedBy_0 24 rfl rfl
theorem dksX5_ownedBy_2 : cX5_ownedBy.data.toList.drop 47 = dktX5_ownedBy_2 := dk_seg dksX5_ownedBy_1 23 rfl rfl
theorem dX5_ownedBy_0 : decode cX5_ownedBy 0 = .ok (.iconst 0, 1) := dk_3 (dk_at dksX5_ownedBy_0 0 rfl rfl)
theorem dX5_ownedBy_1 : decode cX5_ownedBy 1 = .ok (.istore_n 3, 1) := dk_62 (dk_at dksX5_ownedBy_0 1 rfl rfl)
theorem dX5_ownedBy_2 : decode cX5_ownedBy 2 = .ok (.iconst 0, 1) := dk_3 (dk_at dksX5_ownedBy_0 2 rfl rfl)
theorem dX5_ownedBy_3 : decode cX5_ownedBy 3 = .ok (.istore 4, 2) := dk_54 4 (dk_at dksX5_ownedBy_0 3 rfl rfl)
theorem dX5_ownedBy_5 : decode cX5_ownedBy 5 = .ok (.iload 4, 2) := dk_21 4 (dk_at dksX5_ownedBy_0 5 rfl rfl)
theorem dX5_ownedBy_7 : decode cX5_ownedBy 7 = .ok (.aload_n 0, 1) := dk_42 (dk_at dksX5_ownedBy_0 7 rfl rfl)
theorem dX5_ownedBy_8 : decode cX5_ownedBy 8 = .ok (.iconst 1, 1) := dk_4 (dk_at dksX5_ownedBy_0 8 rfl rfl)
theorem dX5_ownedBy_9 : decode cX5_ownedBy 9 = .ok (.invokevirtual 65, 3) := dk_182 0 65 (dk_at dksX5_ownedBy_0 9 rfl rfl)
theorem dX5_ownedBy_12 : decode cX5_ownedBy 12 = .ok (.if_icmp .ge 41, 3) := dk_162 0 41 (dk_at dksX5_ownedBy_0 12 rfl rfl)
theorem dX5_ownedBy_15 : decode cX5_ownedBy 15 = .ok (.iload_n 3, 1) := dk_29 (dk_at dksX5_ownedBy_0 15 rfl rfl)
theorem dX5_ownedBy_16 : decode cX5_ownedBy 16 = .ok (.aload_n 0, 1) := dk_42 (dk_at dksX5_ownedBy_0 16 rfl rfl)
theorem dX5_ownedBy_17 : decode cX5_ownedBy 17 = .ok (.iload 4, 2) := dk_21 4 (dk_at dksX5_ownedBy_0 17 rfl rfl)
theorem dX5_ownedBy_19 : decode cX5_ownedBy 19 = .ok (.iconst 0, 1) := dk_3 (dk_at dksX5_ownedBy_0 19 rfl rfl)
theorem dX5_ownedBy_20 : decode cX5_ownedBy 20 = .ok (.invokevirtual 69, 3) := dk_182 0 69 (dk_at dksX5_ownedBy_0 20 rfl rfl)
theorem dX5_ownedBy_23 : decode cX5_ownedBy 23 = .ok (.iload_n 1, 1) := dk_27 (dk_at dksX5_ownedBy_0 23 rfl rfl)
theorem dX5_ownedBy_24 : decode cX5_ownedBy 24 = .ok (.if_icmp .eq 7, 3) := dk_159 0 7 (dk_at dksX5_ownedBy_1 0 rfl rfl)
theorem dX5_ownedBy_27 : decode cX5_ownedBy 27 = .ok (.iconst 0, 1) := dk_3 (dk_at dksX5_ownedBy_1 3 rfl rfl)
theorem dX5_ownedBy_28 : decode cX5_ownedBy 28 = .ok (.goto 17, 3) := dk_167 0 17 (dk_at dksX5_ownedBy_1 4 rfl rfl)
theorem dX5_ownedBy_31 : decode cX5_ownedBy 31 = .ok (.iload_n 2, 1) := dk_28 (dk_at dksX5_ownedBy_1 7 rfl rfl)
theorem dX5_ownedBy_32 : decode cX5_ownedBy 32 = .ok (.ifCond .eq 12, 3) := dk_153 0 12 (dk_at dksX5_ownedBy_1 8 rfl rfl)
theorem dX5_ownedBy_35 : decode cX5_ownedBy 35 = .ok (.aload_n 0, 1) := dk_42 (dk_at dksX5_ownedBy_1 11 rfl rfl)
theorem dX5_ownedBy_36 : decode cX5_ownedBy 36 = .ok (.iload 4, 2) := dk_21 4 (dk_at dksX5_ownedBy_1 12 rfl rfl)
theorem dX5_ownedBy_38 : decode cX5_ownedBy 38 = .ok (.invokevirtual 86, 3) := dk_182 0 86 (dk_at dksX5_ownedBy_1 14 rfl rfl)
theorem dX5_ownedBy_41 : decode cX5_ownedBy 41 = .ok (.goto 4, 3) := dk_167 0 4 (dk_at dksX5_ownedBy_1 17 rfl rfl)
theorem dX5_ownedBy_44 : decode cX5_ownedBy 44 = .ok (.iconst 1, 1) := dk_4 (dk_at dksX5_ownedBy_1 20 rfl rfl)
theorem dX5_ownedBy_45 : decode cX5_ownedBy 45 = .ok (.iadd, 1) := dk_96 (dk_at dksX5_ownedBy_1 21 rfl rfl)
theorem dX5_ownedBy_46 : decode cX5_ownedBy 46 = .ok (.istore_n 3, 1) := dk_62 (dk_at dksX5_ownedBy_1 22 rfl rfl)
theorem dX5_ownedBy_47 : decode cX5_ownedBy 47 = .ok (.iinc 4 1, 3) := dk_132 4 1 (dk_at dksX5_ownedBy_2 0 rfl rfl)
theorem dX5_ownedBy_50 : decode cX5_ownedBy 50 = .ok (.goto (-45), 3) := dk_167 255 211 (dk_at dksX5_ownedBy_2 3 rfl rfl)
theorem dX5_ownedBy_53 : decode cX5_ownedBy 53 = .ok (.iload_n 3, 1) := dk_29 (dk_at dksX5_ownedBy_2 6 rfl rfl)
theorem dX5_ownedBy_54 : decode cX5_ownedBy 54 = .ok (.ireturn, 1) := dk_172 (dk_at dksX5_ownedBy_2 7 rfl rfl)
abbrev cX5_claimsOf : ByteArray := prog_14_method_48_code
def yX5_claimsOf : MethodName := ⟨RX5, "claimsOf", "(II)I"⟩
def dkwX5_claimsOf_2 : List UInt8 := [184, 0, 101, 96, 62, 132, 4, 1, 167, 255, 205, 29, 172]
abbrev dktX5_claimsOf_2 : List UInt8 := dkwX5_claimsOf_2 ++ []
def dkwX5_claimsOf_1 : List UInt8 := [160, 0, 23, 28, 2, 159, 0, 14, 42, 21, 4, 7, 182, 0, 73, 28, 160, 0, 7, 4, 167, 0, 4, 3]
abbrev dktX5_claimsOf_1 : List UInt8 := dkwX5_claimsOf_1 ++ dktX5_claimsOf_2
def dkwX5_claimsOf_0 : List UInt8 := [3, 62, 3, 54, 4, 21, 4, 42, 6, 182, 0, 65, 162, 0, 47, 29, 42, 21, 4, 3, 182, 0, 73, 27]
abbrev dktX5_claimsOf_0 : List UInt8 := dkwX5_claimsOf_0 ++ dktX5_claimsOf_1
theorem dksX5_claimsOf_0 : cX5_claimsOf.data.toList.drop 0 = dktX5_claimsOf_0 := by decide +kernel
theorem dksX5_claimsOf_1 : cX5_claimsOf.data.toList.drop 24 = dktX5_claimsOf_1 := dk_seg dksX5_claimsOf_0 24 rfl rfl
theorem dksX5_claimsOf_2 : cX5_claimsOf.data.toList.drop 48 = dktX5_claimsOf_2 := dk_seg dksX5_claimsOf_1 24 rfl rfl
theorem dX5_claimsOf_0 : decode cX5_claimsOf 0 = .ok (.iconst 0, 1) := dk_3 (dk_at dksX5_claimsOf_0 0 rfl rfl)
theorem dX5_claimsOf_1 : decode cX5_claimsOf 1 = .ok (.istore_n 3, 1) := dk_62 (dk_at dksX5_claimsOf_0 1 rfl rfl)
theorem dX5_claimsOf_2 : decode cX5_claimsOf 2 = .ok (.iconst 0, 1) := dk_3 (dk_at dksX5_claimsOf_0 2 rfl rfl)
theorem dX5_claimsOf_3 : decode cX5_claimsOf 3 = .ok (.istore 4, 2) := dk_54 4 (dk_at dksX5_claimsOf_0 3 rfl rfl)
theorem dX5_claimsOf_5 : decode cX5_claimsOf 5 = .ok (.iload 4, 2) := dk_21 4 (dk_at dksX5_claimsOf_0 5 rfl rfl)
theorem dX5_claimsOf_7 : decode cX5_claimsOf 7 = .ok (.aload_n 0, 1) := dk_42 (dk_at dksX5_claimsOf_0 7 rfl rfl)
theorem dX5_claimsOf_8 : decode cX5_claimsOf 8 = .ok (.iconst 3, 1) := dk_6 (dk_at dksX5_claimsOf_0 8 rfl rfl)
theorem dX5_claimsOf_9 : decode cX5_claimsOf 9 = .ok (.invokevirtual 65, 3) := dk_182 0 65 (dk_at dksX5_claimsOf_0 9 rfl rfl)
theorem dX5_claimsOf_12 : decode cX5_claimsOf 12 = .ok (.if_icmp .ge 47, 3) := dk_162 0 47 (dk_at dksX5_claimsOf_0 12 rfl rfl)
theorem dX5_claimsOf_15 : decode cX5_claimsOf 15 = .ok (.iload_n 3, 1) := dk_29 (dk_at dksX5_claimsOf_0 15 rfl rfl)
theorem dX5_claimsOf_16 : decode cX5_claimsOf 16 = .ok (.aload_n 0, 1) := dk_42 (dk_at dksX5_claimsOf_0 16 rfl rfl)
theorem dX5_claimsOf_17 : decode cX5_claimsOf 17 = .ok (.iload 4, 2) := dk_21 4 (dk_at dksX5_claimsOf_0 17 rfl rfl)
theorem dX5_claimsOf_19 : decode cX5_claimsOf 19 = .ok (.iconst 0, 1) := dk_3 (dk_at dksX5_claimsOf_0 19 rfl rfl)
theorem dX5_claimsOf_20 : decode cX5_claimsOf 20 = .ok (.invokevirtual 73, 3) := dk_182 0 73 (dk_at dksX5_claimsOf_0 20 rfl rfl)
theorem dX5_claimsOf_23 : decode cX5_claimsOf 23 = .ok (.iload_n 1, 1) := dk_27 (dk_at dksX5_claimsOf_0 23 rfl rfl)
theorem dX5_claimsOf_24 : decode cX5_claimsOf 24 = .ok (.if_icmp .ne 23, 3) := dk_160 0 23 (dk_at dksX5_claimsOf_1 0 rfl rfl)
theorem dX5_claimsOf_27 : decode cX5_claimsOf 27 = .ok (.iload_n 2, 1) := dk_28 (dk_at dksX5_claimsOf_1 3 rfl rfl)
theorem dX5_claimsOf_28 : decode cX5_claimsOf 28 = .ok (.iconst (-1), 1) := dk_2 (dk_at dksX5_claimsOf_1 4 rfl rfl)
theorem dX5_claimsOf_29 : decode cX5_claimsOf 29 = .ok (.if_icmp .eq 14, 3) := dk_159 0 14 (dk_at dksX5_claimsOf_1 5 rfl rfl)
theorem dX5_claimsOf_32 : decode cX5_claimsOf 32 = .ok (.aload_n 0, 1) := dk_42 (dk_at dksX5_claimsOf_1 8 rfl rfl)
theorem dX5_claimsOf_33 : decode cX5_claimsOf 33 = .ok (.iload 4, 2) := dk_21 4 (dk_at dksX5_claimsOf_1 9 rfl rfl)
theorem dX5_claimsOf_35 : decode cX5_claimsOf 35 = .ok (.iconst 4, 1) := dk_7 (dk_at dksX5_claimsOf_1 11 rfl rfl)
theorem dX5_claimsOf_36 : decode cX5_claimsOf 36 = .ok (.invokevirtual 73, 3) := dk_182 0 73 (dk_at dksX5_claimsOf_1 12 rfl rfl)
theorem dX5_claimsOf_39 : decode cX5_claimsOf 39 = .ok (.iload_n 2, 1) := dk_28 (dk_at dksX5_claimsOf_1 15 rfl rfl)
theorem dX5_claimsOf_40 : decode cX5_claimsOf 40 = .ok (.if_icmp .ne 7, 3) := dk_160 0 7 (dk_at dksX5_claimsOf_1 16 rfl rfl)
theorem dX5_claimsOf_43 : decode cX5_claimsOf 43 = .ok (.iconst 1, 1) := dk_4 (dk_at dksX5_claimsOf_1 19 rfl rfl)
theorem dX5_claimsOf_44 : decode cX5_claimsOf 44 = .ok (.goto 4, 3) := dk_167 0 4 (dk_at dksX5_claimsOf_1 20 rfl rfl)
theorem dX5_claimsOf_47 : decode cX5_claimsOf 47 = .ok (.iconst 0, 1) := dk_3 (dk_at dksX5_claimsOf_1 23 rfl rfl)
theorem dX5_claimsOf_48 : decode cX5_claimsOf 48 = .ok (.invokestatic 101, 3) := dk_184 0 101 (dk_at dksX5_claimsOf_2 0 rfl rfl)
theorem dX5_claimsOf_51 : decode cX5_claimsOf 51 = .ok (.iadd, 1) := dk_96 (dk_at dksX5_claimsOf_2 3 rfl rfl)
theorem dX5_claimsOf_52 : decode cX5_claimsOf 52 = .ok (.istore_n 3, 1) := dk_62 (dk_at dksX5_claimsOf_2 4 rfl rfl)
theorem dX5_claimsOf_53 : decode cX5_claimsOf 53 = .ok (.iinc 4 1, 3) := dk_132 4 1 (dk_at dksX5_claimsOf_2 5 rfl rfl)
theorem dX5_claimsOf_56 : decode cX5_claimsOf 56 = .ok (.goto (-51), 3) := dk_167 255 205 (dk_at dksX5_claimsOf_2 8 rfl rfl)
theorem dX5_claimsOf_59 : decode cX5_claimsOf 59 = .ok (.iload_n 3, 1) := dk_29 (dk_at dksX5_claimsOf_2 11 rfl rfl)
theorem dX5_claimsOf_60 : decode cX5_claimsOf 60 = .ok (.ireturn, 1) := dk_172 (dk_at dksX5_claimsOf_2 12 rfl rfl)
abbrev cX5_heap : ByteArray := prog_14_method_84_code
def yX5_heap : MethodName := ⟨RX5, "heap", "(II)I"⟩
def dkwX5_heap_5 : List UInt8 := [182, 1, 69, 172]
abbrev dktX5_heap_5 : List UInt8 := dkwX5_heap_5 ++ []
def dkwX5_heap_4 : List UInt8 := [182, 0, 92, 172, 42, 27, 182, 0, 111, 172, 42, 27, 182, 1, 66, 172, 42, 27, 182, 0, 120, 172, 42, 27]
abbrev dktX5_heap_4 : List UInt8 := dkwX5_heap_4 ++ dktX5_heap_5
def dkwX5_heap_3 : List UInt8 := [42, 27, 3, 182, 0, 69, 172, 42, 27, 4, 182, 0, 69, 172, 42, 27, 182, 0, 86, 172, 42, 27]
abbrev dktX5_heap_3 : List UInt8 := dkwX5_heap_3 ++ dktX5_heap_4
def dkwX5_heap_2 : List UInt8 := [170, 0, 0, 0, 0, 0, 0, 88, 0, 0, 0, 0, 0, 0, 0, 6, 0, 0, 0, 44, 0, 0, 0, 51, 0, 0, 0, 58, 0, 0, 0, 64, 0, 0, 0, 70, 0, 0, 0, 76, 0, 0, 0, 82]
abbrev dktX5_heap_2 : List UInt8 := dkwX5_heap_2 ++ dktX5_heap_3
def dkwX5_heap_1 : List UInt8 := [184, 0, 165, 5, 182, 0, 161, 154, 0, 5, 3, 172, 28]
abbrev dktX5_heap_1 : List UInt8 := dkwX5_heap_1 ++ dktX5_heap_2
def dkwX5_heap_0 : List UInt8 := [42, 3, 181, 0, 56, 42, 42, 27, 182, 1, 39, 4, 182, 0, 161, 153, 0, 18, 42, 28, 3, 16, 7]
abbrev dktX5_heap_0 : List UInt8 := dkwX5_heap_0 ++ dktX5_heap_1
theorem dksX5_heap_0 : cX5_heap.data.toList.drop 0 = dktX5_heap_0 := by decide +kernel
theorem dksX5_heap_1 : cX5_heap.data.toList.drop 23 = dktX5_heap_1 := dk_seg dksX5_heap_0 23 rfl rfl
theorem dksX5_heap_2 : cX5_heap.data.toList.drop 36 = dktX5_heap_2 := dk_seg dksX5_heap_1 13 rfl rfl
theorem dksX5_heap_3 : cX5_heap.data.toList.drop 80 = dktX5_heap_3 := dk_seg dksX5_heap_2 44 rfl rfl
theorem dksX5_heap_4 : cX5_heap.data.toList.drop 102 = dktX5_heap_4 := dk_seg dksX5_heap_3 22 rfl rfl
theorem dksX5_heap_5 : cX5_heap.data.toList.drop 126 = dktX5_heap_5 := dk_seg dksX5_heap_4 24 rfl rfl
theorem dX5_heap_0 : decode cX5_heap 0 = .ok (.aload_n 0, 1) := dk_42 (dk_at dksX5_heap_0 0 rfl rfl)
theorem dX5_heap_1 : decode cX5_heap 1 = .ok (.iconst 0, 1) := dk_3 (dk_at dksX5_heap_0 1 rfl rfl)
theorem dX5_heap_2 : decode cX5_heap 2 = .ok (.putfield 56, 3) := dk_181 0 56 (dk_at dksX5_heap_0 2 rfl rfl)
theorem dX5_heap_5 : decode cX5_heap 5 = .ok (.aload_n 0, 1) := dk_42 (dk_at dksX5_heap_0 5 rfl rfl)
theorem dX5_heap_6 : decode cX5_heap 6 = .ok (.aload_n 0, 1) := dk_42 (dk_at dksX5_heap_0 6 rfl rfl)
theorem dX5_heap_7 : decode cX5_heap 7 = .ok (.iload_n 1, 1) := dk_27 (dk_at dksX5_heap_0 7 rfl rfl)
theorem dX5_heap_8 : decode cX5_heap 8 = .ok (.invokevirtual 295, 3) := dk_182 1 39 (dk_at dksX5_heap_0 8 rfl rfl)
theorem dX5_heap_11 : decode cX5_heap 11 = .ok (.iconst 1, 1) := dk_4 (dk_at dksX5_heap_0 11 rfl rfl)
theorem dX5_heap_12 : decode cX5_heap 12 = .ok (.invokevirtual 161, 3) := dk_182 0 161 (dk_at dksX5_heap_0 12 rfl rfl)
theorem dX5_heap_15 : decode cX5_heap 15 = .ok (.ifCond .eq 18, 3) := dk_153 0 18 (dk_at dksX5_heap_0 15 rfl rfl)
theorem dX5_heap_18 : decode cX5_heap 18 = .ok (.aload_n 0, 1) := dk_42 (dk_at dksX5_heap_0 18 rfl rfl)
theorem dX5_heap_19 : decode cX5_heap 19 = .ok (.iload_n 2, 1) := dk_28 (dk_at dksX5_heap_0 19 rfl rfl)
theorem dX5_heap_20 : decode cX5_heap 20 = .ok (.iconst 0, 1) := dk_3 (dk_at dksX5_heap_0 20 rfl rfl)
theorem dX5_heap_21 : decode cX5_heap 21 = .ok (.bipush 7, 2) := dk_16 7 (dk_at dksX5_heap_0 21 rfl rfl)
theorem dX5_heap_23 : decode cX5_heap 23 = .ok (.invokestatic 165, 3) := dk_184 0 165 (dk_at dksX5_heap_1 0 rfl rfl)
theorem dX5_heap_26 : decode cX5_heap 26 = .ok (.iconst 2, 1) := dk_5 (dk_at dksX5_heap_1 3 rfl rfl)
theorem dX5_heap_27 : decode cX5_heap 27 = .ok (.invokevirtual 161, 3) := dk_182 0 161 (dk_at dksX5_heap_1 4 rfl rfl)
theorem dX5_heap_30 : decode cX5_heap 30 = .ok (.ifCond .ne 5, 3) := dk_154 0 5 (dk_at dksX5_heap_1 7 rfl rfl)
theorem dX5_heap_33 : decode cX5_heap 33 = .ok (.iconst 0, 1) := dk_3 (dk_at dksX5_heap_1 10 rfl rfl)
theorem dX5_heap_34 : decode cX5_heap 34 = .ok (.ireturn, 1) := dk_172 (dk_at dksX5_heap_1 11 rfl rfl)
theorem dX5_heap_35 : decode cX5_heap 35 = .ok (.iload_n 2, 1) := dk_28 (dk_at dksX5_heap_1 12 rfl rfl)
theorem dX5_heap_36 : decode cX5_heap 36 = .ok (.tableswitch 88 0 6 #[44, 51, 58, 64, 70, 76, 82], 44) := by decide +kernel
theorem dX5_heap_80 : decode cX5_heap 80 = .ok (.aload_n 0, 1) := dk_42 (dk_at dksX5_heap_3 0 rfl rfl)
theorem dX5_heap_81 : decode cX5_heap 81 = .ok (.iload_n 1, 1) := dk_27 (dk_at dksX5_heap_3 1 rfl rfl)
theorem dX5_heap_82 : decode cX5_heap 82 = .ok (.iconst 0, 1) := dk_3 (dk_at dksX5_heap_3 2 rfl rfl)
theorem dX5_heap_83 : decode cX5_heap 83 = .ok (.invokevirtual 69, 3) := dk_182 0 69 (dk_at dksX5_heap_3 3 rfl rfl)
theorem dX5_heap_86 : decode cX5_heap 86 = .ok (.ireturn, 1) := dk_172 (dk_at dksX5_heap_3 6 rfl rfl)
theorem dX5_heap_87 : decode cX5_heap 87 = .ok (.aload_n 0, 1) := dk_42 (dk_at dksX5_heap_3 7 rfl rfl)
theorem dX5_heap_88 : decode cX5_heap 88 = .ok (.iload_n 1, 1) := dk_27 (dk_at dksX5_heap_3 8 rfl rfl)
theorem dX5_heap_89 : decode cX5_heap 89 = .ok (.iconst 1, 1) := dk_4 (dk_at dksX5_heap_3 9 rfl rfl)
theorem dX5_heap_90 : decode cX5_heap 90 = .ok (.invokevirtual 69, 3) := dk_182 0 69 (dk_at dksX5_heap_3 10 rfl rfl)
theorem dX5_heap_93 : decode cX5_heap 93 = .ok (.ireturn, 1) := dk_172 (dk_at dksX5_heap_3 13 rfl rfl)
theorem dX5_heap_94 : decode cX5_heap 94 = .ok (.aload_n 0, 1) := dk_42 (dk_at dksX5_heap_3 14 rfl rfl)
theorem dX5_heap_95 : decode cX5_heap 95 = .ok (.iload_n 1, 1) := dk_27 (dk_at dksX5_heap_3 15 rfl rfl)
theorem dX5_heap_96 : decode cX5_heap 96 = .ok (.invokevirtual 86, 3) := dk_182 0 86 (dk_at dksX5_heap_3 16 rfl rfl)
theorem dX5_heap_99 : decode cX5_heap 99 = .ok (.ireturn, 1) := dk_172 (dk_at dksX5_heap_3 19 rfl rfl)
theorem dX5_heap_100 : decode cX5_heap 100 = .ok (.aload_n 0, 1) := dk_42 (dk_at dksX5_heap_3 20 rfl rfl)
theorem dX5_heap_101 : decode cX5_heap 101 = .ok (.iload_n 1, 1) := dk_27 (dk_at dksX5_heap_3 21 rfl rfl)
theorem dX5_heap_102 : decode cX5_heap 102 = .ok (.invokevirtual 92, 3) := dk_182 0 92 (dk_at dksX5_heap_4 0 rfl rfl)
theorem dX5_heap_105 : decode cX5_heap 105 = .ok (.ireturn, 1) := dk_172 (dk_at dksX5_heap_4 3 rfl rfl)
theorem dX5_heap_106 : decode cX5_heap 106 = .ok (.aload_n 0, 1) := dk_42 (dk_at dksX5_heap_4 4 rfl rfl)
theorem dX5_heap_107 : decode cX5_heap 107 = .ok (.iload_n 1, 1) := dk_27 (dk_at dksX5_heap_4 5 rfl rfl)
theorem dX5_heap_108 : decode cX5_heap 108 = .ok (.invokevirtual 111, 3) := dk_182 0 111 (dk_at dksX5_heap_4 6 rfl rfl)
theorem dX5_heap_111 : decode cX5_heap 111 = .ok (.ireturn, 1) := dk_172 (dk_at dksX5_heap_4 9 rfl rfl)
theorem dX5_heap_112 : decode cX5_heap 112 = .ok (.aload_n 0, 1) := dk_42 (dk_at dksX5_heap_4 10 rfl rfl)
theorem dX5_heap_113 : decode cX5_heap 113 = .ok (.iload_n 1, 1) := dk_27 (dk_at dksX5_heap_4 11 rfl rfl)
theorem dX5_heap_114 : decode cX5_heap 114 = .ok (.invokevirtual 322, 3) := dk_182 1 66 (dk_at dksX5_heap_4 12 rfl rfl)
theorem dX5_heap_117 : decode cX5_heap 117 = .ok (.ireturn, 1) := dk_172 (dk_at dksX5_heap_4 15 rfl rfl)
theorem dX5_heap_118 : decode cX5_heap 118 = .ok (.aload_n 0, 1) := dk_42 (dk_at dksX5_heap_4 16 rfl rfl)
theorem dX5_heap_119 : decode cX5_heap 119 = .ok (.iload_n 1, 1) := dk_27 (dk_at dksX5_heap_4 17 rfl rfl)
theorem dX5_heap_120 : decode cX5_heap 120 = .ok (.invokevirtual 120, 3) := dk_182 0 120 (dk_at dksX5_heap_4 18 rfl rfl)
theorem dX5_heap_123 : decode cX5_heap 123 = .ok (.ireturn, 1) := dk_172 (dk_at dksX5_heap_4 21 rfl rfl)
theorem dX5_heap_124 : decode cX5_heap 124 = .ok (.aload_n 0, 1) := dk_42 (dk_at dksX5_heap_4 22 rfl rfl)
theorem dX5_heap_125 : decode cX5_heap 125 = .ok (.iload_n 1, 1) := dk_27 (dk_at dksX5_heap_4 23 rfl rfl)
theorem dX5_heap_126 : decode cX5_heap 126 = .ok (.invokevirtual 325, 3) := dk_182 1 69 (dk_at dksX5_heap_5 0 rfl rfl)
theorem dX5_heap_129 : decode cX5_heap 129 = .ok (.ireturn, 1) := dk_172 (dk_at dksX5_heap_5 3 rfl rfl)
abbrev cX5_openWith : ByteArray := prog_14_method_82_code
def yX5_openWith : MethodName := ⟨RX5, "openWith", "(I)I"⟩
def dkwX5_openWith_2 : List UInt8 := [184, 0, 101, 96, 61, 132, 3, 1, 167, 255, 205, 28, 172]
abbrev dktX5_openWith_2 : List UInt8 := dkwX5_openWith_2 ++ []
def dkwX5_openWith_1 : List UInt8 := [3, 182, 0, 123, 27, 159, 0, 13, 42, 29, 4, 182, 0, 123, 27, 160, 0, 7, 4, 167, 0, 4, 3]
abbrev dktX5_openWith_1 : List UInt8 := dkwX5_openWith_1 ++ dktX5_openWith_2
def dkwX5_openWith_0 : List UInt8 := [3, 61, 3, 62, 29, 42, 6, 182, 0, 65, 162, 0, 48, 28, 42, 29, 182, 0, 130, 153, 0, 27, 42, 29]
abbrev dktX5_openWith_0 : List UInt8 := dkwX5_openWith_0 ++ dktX5_openWith_1
theorem dksX5_openWith_0 : cX5_openWith.data.toList.drop 0 = dktX5_openWith_0 := by decide +kernel
theorem dksX5_openWith_1 : cX5_openWith.data.toList.drop 24 = dktX5_openWith_1 := dk_seg dksX5_openWith_0 24 rfl rfl
theorem dksX5_openWith_2 : cX5_openWith.data.toList.drop 47 = dktX5_openWith_2 := dk_seg dksX5_openWith_1 23 rfl rfl
theorem dX5_openWith_0 : decode cX5_openWith 0 = .ok (.iconst 0, 1) := dk_3 (dk_at dksX5_openWith_0 0 rfl rfl)
theorem dX5_openWith_1 : decode cX5_openWith 1 = .ok (.istore_n 2, 1) := dk_61 (dk_at dksX5_openWith_0 1 rfl rfl)
theorem dX5_openWith_2 : decode cX5_openWith 2 = .ok (.iconst 0, 1) := dk_3 (dk_at dksX5_openWith_0 2 rfl rfl)
theorem dX5_openWith_3 : decode cX5_openWith 3 = .ok (.istore_n 3, 1) := dk_62 (dk_at dksX5_openWith_0 3 rfl rfl)
theorem dX5_openWith_4 : decode cX5_openWith 4 = .ok (.iload_n 3, 1) := dk_29 (dk_at dksX5_openWith_0 4 rfl rfl)
theorem dX5_openWith_5 : decode cX5_openWith 5 = .ok (.aload_n 0, 1) := dk_42 (dk_at dksX5_openWith_0 5 rfl rfl)
theorem dX5_openWith_6 : decode cX5_openWith 6 = .ok (.iconst 3, 1) := dk_6 (dk_at dksX5_openWith_0 6 rfl rfl)
theorem dX5_openWith_7 : decode cX5_openWith 7 = .ok (.invokevirtual 65, 3) := dk_182 0 65 (dk_at dksX5_openWith_0 7 rfl rfl)
theorem dX5_openWith_10 : decode cX5_openWith 10 = .ok (.if_icmp .ge 48, 3) := dk_162 0 48 (dk_at dksX5_openWith_0 10 rfl rfl)
theorem dX5_openWith_13 : decode cX5_openWith 13 = .ok (.iload_n 2, 1) := dk_28 (dk_at dksX5_openWith_0 13 rfl rfl)
theorem dX5_openWith_14 : decode cX5_openWith 14 = .ok (.aload_n 0, 1) := dk_42 (dk_at dksX5_openWith_0 14 rfl rfl)
theorem dX5_openWith_15 : decode cX5_openWith 15 = .ok (.iload_n 3, 1) := dk_29 (dk_at dksX5_openWith_0 15 rfl rfl)
theorem dX5_openWith_16 : decode cX5_openWith 16 = .ok (.invokevirtual 130, 3) := dk_182 0 130 (dk_at dksX5_openWith_0 16 rfl rfl)
theorem dX5_openWith_19 : decode cX5_openWith 19 = .ok (.ifCond .eq 27, 3) := dk_153 0 27 (dk_at dksX5_openWith_0 19 rfl rfl)
theorem dX5_openWith_22 : decode cX5_openWith 22 = .ok (.aload_n 0, 1) := dk_42 (dk_at dksX5_openWith_0 22 rfl rfl)
theorem dX5_openWith_23 : decode cX5_openWith 23 = .ok (.iload_n 3, 1) := dk_29 (dk_at dksX5_openWith_0 23 rfl rfl)
theorem dX5_openWith_24 : decode cX5_openWith 24 = .ok (.iconst 0, 1) := dk_3 (dk_at dksX5_openWith_1 0 rfl rfl)
theorem dX5_openWith_25 : decode cX5_openWith 25 = .ok (.invokevirtual 123, 3) := dk_182 0 123 (dk_at dksX5_openWith_1 1 rfl rfl)
theorem dX5_openWith_28 : decode cX5_openWith 28 = .ok (.iload_n 1, 1) := dk_27 (dk_at dksX5_openWith_1 4 rfl rfl)
theorem dX5_openWith_29 : decode cX5_openWith 29 = .ok (.if_icmp .eq 13, 3) := dk_159 0 13 (dk_at dksX5_openWith_1 5 rfl rfl)
theorem dX5_openWith_32 : decode cX5_openWith 32 = .ok (.aload_n 0, 1) := dk_42 (dk_at dksX5_openWith_1 8 rfl rfl)
theorem dX5_openWith_33 : decode cX5_openWith 33 = .ok (.iload_n 3, 1) := dk_29 (dk_at dksX5_openWith_1 9 rfl rfl)
theorem dX5_openWith_34 : decode cX5_openWith 34 = .ok (.iconst 1, 1) := dk_4 (dk_at dksX5_openWith_1 10 rfl rfl)
theorem dX5_openWith_35 : decode cX5_openWith 35 = .ok (.invokevirtual 123, 3) := dk_182 0 123 (dk_at dksX5_openWith_1 11 rfl rfl)
theorem dX5_openWith_38 : decode cX5_openWith 38 = .ok (.iload_n 1, 1) := dk_27 (dk_at dksX5_openWith_1 14 rfl rfl)
theorem dX5_openWith_39 : decode cX5_openWith 39 = .ok (.if_icmp .ne 7, 3) := dk_160 0 7 (dk_at dksX5_openWith_1 15 rfl rfl)
theorem dX5_openWith_42 : decode cX5_openWith 42 = .ok (.iconst 1, 1) := dk_4 (dk_at dksX5_openWith_1 18 rfl rfl)
theorem dX5_openWith_43 : decode cX5_openWith 43 = .ok (.goto 4, 3) := dk_167 0 4 (dk_at dksX5_openWith_1 19 rfl rfl)
theorem dX5_openWith_46 : decode cX5_openWith 46 = .ok (.iconst 0, 1) := dk_3 (dk_at dksX5_openWith_1 22 rfl rfl)
theorem dX5_openWith_47 : decode cX5_openWith 47 = .ok (.invokestatic 101, 3) := dk_184 0 101 (dk_at dksX5_openWith_2 0 rfl rfl)
theorem dX5_openWith_50 : decode cX5_openWith 50 = .ok (.iadd, 1) := dk_96 (dk_at dksX5_openWith_2 3 rfl rfl)
theorem dX5_openWith_51 : decode cX5_openWith 51 = .ok (.istore_n 2, 1) := dk_61 (dk_at dksX5_openWith_2 4 rfl rfl)
theorem dX5_openWith_52 : decode cX5_openWith 52 = .ok (.iinc 3 1, 3) := dk_132 3 1 (dk_at dksX5_openWith_2 5 rfl rfl)
theorem dX5_openWith_55 : decode cX5_openWith 55 = .ok (.goto (-51), 3) := dk_167 255 205 (dk_at dksX5_openWith_2 8 rfl rfl)
theorem dX5_openWith_58 : decode cX5_openWith 58 = .ok (.iload_n 2, 1) := dk_28 (dk_at dksX5_openWith_2 11 rfl rfl)
theorem dX5_openWith_59 : decode cX5_openWith 59 = .ok (.ireturn, 1) := dk_172 (dk_at dksX5_openWith_2 12 rfl rfl)
abbrev cX5_knownTo : ByteArray := prog_14_method_35_code
def yX5_knownTo : MethodName := ⟨RX5, "knownTo", "(I)I"⟩
def dkwX5_knownTo_2 : List UInt8 := [172]
abbrev dktX5_knownTo_2 : List UInt8 := dkwX5_knownTo_2 ++ []
def dkwX5_knownTo_1 : List UInt8 := [182, 0, 117, 2, 159, 0, 7, 4, 167, 0, 4, 3, 184, 0, 101, 96, 61, 132, 3, 1, 167, 255, 218, 28]
abbrev dktX5_knownTo_1 : List UInt8 := dkwX5_knownTo_1 ++ dktX5_knownTo_2
def dkwX5_knownTo_0 : List UInt8 := [3, 61, 3, 62, 29, 42, 4, 182, 0, 65, 162, 0, 35, 28, 29, 27, 159, 0, 17, 42, 27, 29]
abbrev dktX5_knownTo_0 : List UInt8 := dkwX5_knownTo_0 ++ dktX5_knownTo_1
theorem dksX5_knownTo_0 : cX5_knownTo.data.toList.drop 0 = dktX5_knownTo_0 := by decide +kernel
theorem dksX5_knownTo_1 : cX5_knownTo.data.toList.drop 22 = dktX5_knownTo_1 := dk_seg dksX5_knownTo_0 22 rfl rfl
theorem dksX5_knownTo_2 : cX5_knownTo.data.toList.drop 46 = dktX5_knownTo_2 := dk_seg dksX5_knownTo_1 24 rfl rfl
theorem dX5_knownTo_0 : decode cX5_knownTo 0 = .ok (.iconst 0, 1) := dk_3 (dk_at dksX5_knownTo_0 0 rfl rfl)
theorem dX5_knownTo_1 : decode cX5_knownTo 1 = .ok (.istore_n 2, 1) := dk_61 (dk_at dksX5_knownTo_0 1 rfl rfl)
theorem dX5_knownTo_2 : decode cX5_knownTo 2 = .ok (.iconst 0, 1) := dk_3 (dk_at dksX5_knownTo_0 2 rfl rfl)
theorem dX5_knownTo_3 : decode cX5_knownTo 3 = .ok (.istore_n 3, 1) := dk_62 (dk_at dksX5_knownTo_0 3 rfl rfl)
theorem dX5_knownTo_4 : decode cX5_knownTo 4 = .ok (.iload_n 3, 1) := dk_29 (dk_at dksX5_knownTo_0 4 rfl rfl)
theorem dX5_knownTo_5 : decode cX5_knownTo 5 = .ok (.aload_n 0, 1) := dk_42 (dk_at dksX5_knownTo_0 5 rfl rfl)
theorem dX5_knownTo_6 : decode cX5_knownTo 6 = .ok (.iconst 1, 1) := dk_4 (dk_at dksX5_knownTo_0 6 rfl rfl)
theorem dX5_knownTo_7 : decode cX5_knownTo 7 = .ok (.invokevirtual 65, 3) := dk_182 0 65 (dk_at dksX5_knownTo_0 7 rfl rfl)
theorem dX5_knownTo_10 : decode cX5_knownTo 10 = .ok (.if_icmp .ge 35, 3) := dk_162 0 35 (dk_at dksX5_knownTo_0 10 rfl rfl)
theorem dX5_knownTo_13 : decode cX5_knownTo 13 = .ok (.iload_n 2, 1) := dk_28 (dk_at dksX5_knownTo_0 13 rfl rfl)
theorem dX5_knownTo_14 : decode cX5_knownTo 14 = .ok (.iload_n 3, 1) := dk_29 (dk_at dksX5_knownTo_0 14 rfl rfl)
theorem dX5_knownTo_15 : decode cX5_knownTo 15 = .ok (.iload_n 1, 1) := dk_27 (dk_at dksX5_knownTo_0 15 rfl rfl)
theorem dX5_knownTo_16 : decode cX5_knownTo 16 = .ok (.if_icmp .eq 17, 3) := dk_159 0 17 (dk_at dksX5_knownTo_0 16 rfl rfl)
theorem dX5_knownTo_19 : decode cX5_knownTo 19 = .ok (.aload_n 0, 1) := dk_42 (dk_at dksX5_knownTo_0 19 rfl rfl)
theorem dX5_knownTo_20 : decode cX5_knownTo 20 = .ok (.iload_n 1, 1) := dk_27 (dk_at dksX5_knownTo_0 20 rfl rfl)
theorem dX5_knownTo_21 : decode cX5_knownTo 21 = .ok (.iload_n 3, 1) := dk_29 (dk_at dksX5_knownTo_0 21 rfl rfl)
theorem dX5_knownTo_22 : decode cX5_knownTo 22 = .ok (.invokevirtual 117, 3) := dk_182 0 117 (dk_at dksX5_knownTo_1 0 rfl rfl)
theorem dX5_knownTo_25 : decode cX5_knownTo 25 = .ok (.iconst (-1), 1) := dk_2 (dk_at dksX5_knownTo_1 3 rfl rfl)
theorem dX5_knownTo_26 : decode cX5_knownTo 26 = .ok (.if_icmp .eq 7, 3) := dk_159 0 7 (dk_at dksX5_knownTo_1 4 rfl rfl)
theorem dX5_knownTo_29 : decode cX5_knownTo 29 = .ok (.iconst 1, 1) := dk_4 (dk_at dksX5_knownTo_1 7 rfl rfl)
theorem dX5_knownTo_30 : decode cX5_knownTo 30 = .ok (.goto 4, 3) := dk_167 0 4 (dk_at dksX5_knownTo_1 8 rfl rfl)
theorem dX5_knownTo_33 : decode cX5_knownTo 33 = .ok (.iconst 0, 1) := dk_3 (dk_at dksX5_knownTo_1 11 rfl rfl)
theorem dX5_knownTo_34 : decode cX5_knownTo 34 = .ok (.invokestatic 101, 3) := dk_184 0 101 (dk_at dksX5_knownTo_1 12 rfl rfl)
theorem dX5_knownTo_37 : decode cX5_knownTo 37 = .ok (.iadd, 1) := dk_96 (dk_at dksX5_knownTo_1 15 rfl rfl)
theorem dX5_knownTo_38 : decode cX5_knownTo 38 = .ok (.istore_n 2, 1) := dk_61 (dk_at dksX5_knownTo_1 16 rfl rfl)
theorem dX5_knownTo_39 : decode cX5_knownTo 39 = .ok (.iinc 3 1, 3) := dk_132 3 1 (dk_at dksX5_knownTo_1 17 rfl rfl)
theorem dX5_knownTo_42 : decode cX5_knownTo 42 = .ok (.goto (-38), 3) := dk_167 255 218 (dk_at dksX5_knownTo_1 20 rfl rfl)
theorem dX5_knownTo_45 : decode cX5_knownTo 45 = .ok (.iload_n 2, 1) := dk_28 (dk_at dksX5_knownTo_1 23 rfl rfl)
theorem dX5_knownTo_46 : decode cX5_knownTo 46 = .ok (.ireturn, 1) := dk_172 (dk_at dksX5_knownTo_2 0 rfl rfl)
abbrev cX5_greatestRow : ByteArray := prog_14_method_83_code
def yX5_greatestRow : MethodName := ⟨RX5, "greatestRow", "(I)I"⟩
def dkwX5_greatestRow_1 : List UInt8 := [61, 132, 3, 1, 167, 255, 232, 28, 172]
abbrev dktX5_greatestRow_1 : List UInt8 := dkwX5_greatestRow_1 ++ []
def dkwX5_greatestRow_0 : List UInt8 := [3, 61, 3, 62, 29, 42, 27, 4, 182, 0, 69, 162, 0, 20, 28, 42, 27, 29, 182, 0, 80, 184, 1, 61]
abbrev dktX5_greatestRow_0 : List UInt8 := dkwX5_greatestRow_0 ++ dktX5_greatestRow_1
theorem dksX5_greatestRow_0 : cX5_greatestRow.data.toList.drop 0 = dktX5_greatestRow_0 := by decide +kernel
theorem dksX5_greatestRow_1 : cX5_greatestRow.data.toList.drop 24 = dktX5_greatestRow_1 := dk_seg dksX5_greatestRow_0 24 rfl rfl
theorem dX5_greatestRow_0 : decode cX5_greatestRow 0 = .ok (.iconst 0, 1) := dk_3 (dk_at dksX5_greatestRow_0 0 rfl rfl)
theorem dX5_greatestRow_1 : decode cX5_greatestRow 1 = .ok (.istore_n 2, 1) := dk_61 (dk_at dksX5_greatestRow_0 1 rfl rfl)
theorem dX5_greatestRow_2 : decode cX5_greatestRow 2 = .ok (.iconst 0, 1) := dk_3 (dk_at dksX5_greatestRow_0 2 rfl rfl)
theorem dX5_greatestRow_3 : decode cX5_greatestRow 3 = .ok (.istore_n 3, 1) := dk_62 (dk_at dksX5_greatestRow_0 3 rfl rfl)
theorem dX5_greatestRow_4 : decode cX5_greatestRow 4 = .ok (.iload_n 3, 1) := dk_29 (dk_at dksX5_greatestRow_0 4 rfl rfl)
theorem dX5_greatestRow_5 : decode cX5_greatestRow 5 = .ok (.aload_n 0, 1) := dk_42 (dk_at dksX5_greatestRow_0 5 rfl rfl)
theorem dX5_greatestRow_6 : decode cX5_greatestRow 6 = .ok (.iload_n 1, 1) := dk_27 (dk_at dksX5_greatestRow_0 6 rfl rfl)
theorem dX5_greatestRow_7 : decode cX5_greatestRow 7 = .ok (.iconst 1, 1) := dk_4 (dk_at dksX5_greatestRow_0 7 rfl rfl)
theorem dX5_greatestRow_8 : decode cX5_greatestRow 8 = .ok (.invokevirtual 69, 3) := dk_182 0 69 (dk_at dksX5_greatestRow_0 8 rfl rfl)
theorem dX5_greatestRow_11 : decode cX5_greatestRow 11 = .ok (.if_icmp .ge 20, 3) := dk_162 0 20 (dk_at dksX5_greatestRow_0 11 rfl rfl)
theorem dX5_greatestRow_14 : decode cX5_greatestRow 14 = .ok (.iload_n 2, 1) := dk_28 (dk_at dksX5_greatestRow_0 14 rfl rfl)
theorem dX5_greatestRow_15 : decode cX5_greatestRow 15 = .ok (.aload_n 0, 1) := dk_42 (dk_at dksX5_greatestRow_0 15 rfl rfl)
theorem dX5_greatestRow_16 : decode cX5_greatestRow 16 = .ok (.iload_n 1, 1) := dk_27 (dk_at dksX5_greatestRow_0 16 rfl rfl)
theorem dX5_greatestRow_17 : decode cX5_greatestRow 17 = .ok (.iload_n 3, 1) := dk_29 (dk_at dksX5_greatestRow_0 17 rfl rfl)
theorem dX5_greatestRow_18 : decode cX5_greatestRow 18 = .ok (.invokevirtual 80, 3) := dk_182 0 80 (dk_at dksX5_greatestRow_0 18 rfl rfl)
theorem dX5_greatestRow_21 : decode cX5_greatestRow 21 = .ok (.invokestatic 317, 3) := dk_184 1 61 (dk_at dksX5_greatestRow_0 21 rfl rfl)
theorem dX5_greatestRow_24 : decode cX5_greatestRow 24 = .ok (.istore_n 2, 1) := dk_61 (dk_at dksX5_greatestRow_1 0 rfl rfl)
theorem dX5_greatestRow_25 : decode cX5_greatestRow 25 = .ok (.iinc 3 1, 3) := dk_132 3 1 (dk_at dksX5_greatestRow_1 1 rfl rfl)
theorem dX5_greatestRow_28 : decode cX5_greatestRow 28 = .ok (.goto (-24), 3) := dk_167 255 232 (dk_at dksX5_greatestRow_1 4 rfl rfl)
theorem dX5_greatestRow_31 : decode cX5_greatestRow 31 = .ok (.iload_n 2, 1) := dk_28 (dk_at dksX5_greatestRow_1 7 rfl rfl)
theorem dX5_greatestRow_32 : decode cX5_greatestRow 32 = .ok (.ireturn, 1) := dk_172 (dk_at dksX5_greatestRow_1 8 rfl rfl)
abbrev cX5_row : ByteArray := prog_14_method_85_code
def yX5_row : MethodName := ⟨RX5, "row", "(III)I"⟩
def dkwX5_row_2 : List UInt8 := [167, 0, 17, 42, 27, 28, 182, 0, 80, 42, 5, 182, 0, 65, 184, 0, 83, 172]
abbrev dktX5_row_2 : List UInt8 := dkwX5_row_2 ++ []
def dkwX5_row_1 : List UInt8 := [184, 0, 165, 5, 182, 0, 161, 154, 0, 5, 3, 172, 29, 154, 0, 12, 42, 27, 28, 182, 0, 80]
abbrev dktX5_row_1 : List UInt8 := dkwX5_row_1 ++ dktX5_row_2
def dkwX5_row_0 : List UInt8 := [42, 3, 181, 0, 56, 42, 42, 27, 28, 182, 1, 72, 4, 182, 0, 161, 153, 0, 17, 42, 29, 3, 4]
abbrev dktX5_row_0 : List UInt8 := dkwX5_row_0 ++ dktX5_row_1
theorem dksX5_row_0 : cX5_row.data.toList.drop 0 = dktX5_row_0 := by decide +kernel
theorem dksX5_row_1 : cX5_row.data.toList.drop 23 = dktX5_row_1 := dk_seg dksX5_row_0 23 rfl rfl
theorem dksX5_row_2 : cX5_row.data.toList.drop 45 = dktX5_row_2 := dk_seg dksX5_row_1 22 rfl rfl
theorem dX5_row_0 : decode cX5_row 0 = .ok (.aload_n 0, 1) := dk_42 (dk_at dksX5_row_0 0 rfl rfl)
theorem dX5_row_1 : decode cX5_row 1 = .ok (.iconst 0, 1) := dk_3 (dk_at dksX5_row_0 1 rfl rfl)
theorem dX5_row_2 : decode cX5_row 2 = .ok (.putfield 56, 3) := dk_181 0 56 (dk_at dksX5_row_0 2 rfl rfl)
theorem dX5_row_5 : decode cX5_row 5 = .ok (.aload_n 0, 1) := dk_42 (dk_at dksX5_row_0 5 rfl rfl)
theorem dX5_row_6 : decode cX5_row 6 = .ok (.aload_n 0, 1) := dk_42 (dk_at dksX5_row_0 6 rfl rfl)
theorem dX5_row_7 : decode cX5_row 7 = .ok (.iload_n 1, 1) := dk_27 (dk_at dksX5_row_0 7 rfl rfl)
theorem dX5_row_8 : decode cX5_row 8 = .ok (.iload_n 2, 1) := dk_28 (dk_at dksX5_row_0 8 rfl rfl)
theorem dX5_row_9 : decode cX5_row 9 = .ok (.invokevirtual 328, 3) := dk_182 1 72 (dk_at dksX5_row_0 9 rfl rfl)
theorem dX5_row_12 : decode cX5_row 12 = .ok (.iconst 1, 1) := dk_4 (dk_at dksX5_row_0 12 rfl rfl)
theorem dX5_row_13 : decode cX5_row 13 = .ok (.invokevirtual 161, 3) := dk_182 0 161 (dk_at dksX5_row_0 13 rfl rfl)
theorem dX5_row_16 : decode cX5_row 16 = .ok (.ifCond .eq 17, 3) := dk_153 0 17 (dk_at dksX5_row_0 16 rfl rfl)
theorem dX5_row_19 : decode cX5_row 19 = .ok (.aload_n 0, 1) := dk_42 (dk_at dksX5_row_0 19 rfl rfl)
theorem dX5_row_20 : decode cX5_row 20 = .ok (.iload_n 3, 1) := dk_29 (dk_at dksX5_row_0 20 rfl rfl)
theorem dX5_row_21 : decode cX5_row 21 = .ok (.iconst 0, 1) := dk_3 (dk_at dksX5_row_0 21 rfl rfl)
theorem dX5_row_22 : decode cX5_row 22 = .ok (.iconst 1, 1) := dk_4 (dk_at dksX5_row_0 22 rfl rfl)
theorem dX5_row_23 : decode cX5_row 23 = .ok (.invokestatic 165, 3) := dk_184 0 165 (dk_at dksX5_row_1 0 rfl rfl)
theorem dX5_row_26 : decode cX5_row 26 = .ok (.iconst 2, 1) := dk_5 (dk_at dksX5_row_1 3 rfl rfl)
theorem dX5_row_27 : decode cX5_row 27 = .ok (.invokevirtual 161, 3) := dk_182 0 161 (dk_at dksX5_row_1 4 rfl rfl)
theorem dX5_row_30 : decode cX5_row 30 = .ok (.ifCond .ne 5, 3) := dk_154 0 5 (dk_at dksX5_row_1 7 rfl rfl)
theorem dX5_row_33 : decode cX5_row 33 = .ok (.iconst 0, 1) := dk_3 (dk_at dksX5_row_1 10 rfl rfl)
theorem dX5_row_34 : decode cX5_row 34 = .ok (.ireturn, 1) := dk_172 (dk_at dksX5_row_1 11 rfl rfl)
theorem dX5_row_35 : decode cX5_row 35 = .ok (.iload_n 3, 1) := dk_29 (dk_at dksX5_row_1 12 rfl rfl)
theorem dX5_row_36 : decode cX5_row 36 = .ok (.ifCond .ne 12, 3) := dk_154 0 12 (dk_at dksX5_row_1 13 rfl rfl)
theorem dX5_row_39 : decode cX5_row 39 = .ok (.aload_n 0, 1) := dk_42 (dk_at dksX5_row_1 16 rfl rfl)
theorem dX5_row_40 : decode cX5_row 40 = .ok (.iload_n 1, 1) := dk_27 (dk_at dksX5_row_1 17 rfl rfl)
theorem dX5_row_41 : decode cX5_row 41 = .ok (.iload_n 2, 1) := dk_28 (dk_at dksX5_row_1 18 rfl rfl)
theorem dX5_row_42 : decode cX5_row 42 = .ok (.invokevirtual 80, 3) := dk_182 0 80 (dk_at dksX5_row_1 19 rfl rfl)
theorem dX5_row_45 : decode cX5_row 45 = .ok (.goto 17, 3) := dk_167 0 17 (dk_at dksX5_row_2 0 rfl rfl)
theorem dX5_row_48 : decode cX5_row 48 = .ok (.aload_n 0, 1) := dk_42 (dk_at dksX5_row_2 3 rfl rfl)
theorem dX5_row_49 : decode cX5_row 49 = .ok (.iload_n 1, 1) := dk_27 (dk_at dksX5_row_2 4 rfl rfl)
theorem dX5_row_50 : decode cX5_row 50 = .ok (.iload_n 2, 1) := dk_28 (dk_at dksX5_row_2 5 rfl rfl)
theorem dX5_row_51 : decode cX5_row 51 = .ok (.invokevirtual 80, 3) := dk_182 0 80 (dk_at dksX5_row_2 6 rfl rfl)
theorem dX5_row_54 : decode cX5_row 54 = .ok (.aload_n 0, 1) := dk_42 (dk_at dksX5_row_2 9 rfl rfl)
theorem dX5_row_55 : decode cX5_row 55 = .ok (.iconst 2, 1) := dk_5 (dk_at dksX5_row_2 10 rfl rfl)
theorem dX5_row_56 : decode cX5_row 56 = .ok (.invokevirtual 65, 3) := dk_182 0 65 (dk_at dksX5_row_2 11 rfl rfl)
theorem dX5_row_59 : decode cX5_row 59 = .ok (.invokestatic 83, 3) := dk_184 0 83 (dk_at dksX5_row_2 14 rfl rfl)
theorem dX5_row_62 : decode cX5_row 62 = .ok (.ireturn, 1) := dk_172 (dk_at dksX5_row_2 17 rfl rfl)
abbrev cX5_claim : ByteArray := prog_14_method_86_code
def yX5_claim : MethodName := ⟨RX5, "claim", "(II)I"⟩
def dkwX5_claim_4 : List UInt8 := [182, 0, 137, 42, 27, 4, 182, 0, 137, 184, 0, 89, 167, 0, 11, 42, 27, 182, 1, 78, 184, 0, 101, 172]
abbrev dktX5_claim_4 : List UInt8 := dkwX5_claim_4 ++ []
def dkwX5_claim_3 : List UInt8 := [154, 0, 15, 28, 16, 8, 160, 0, 7, 2, 167, 0, 4, 3, 172, 28, 16, 8, 160, 0, 21, 42, 27, 3]
abbrev dktX5_claim_3 : List UInt8 := dkwX5_claim_3 ++ dktX5_claim_4
def dkwX5_claim_2 : List UInt8 := [172, 28, 16, 8, 162, 0, 13, 42, 27, 28, 16, 6, 100, 182, 0, 137, 172, 42, 27, 182, 0, 130]
abbrev dktX5_claim_2 : List UInt8 := dkwX5_claim_2 ++ dktX5_claim_3
def dkwX5_claim_1 : List UInt8 := [184, 0, 165, 5, 182, 0, 161, 154, 0, 5, 3, 172, 28, 16, 6, 162, 0, 10, 42, 27, 28, 182, 0, 73]
abbrev dktX5_claim_1 : List UInt8 := dkwX5_claim_1 ++ dktX5_claim_2
def dkwX5_claim_0 : List UInt8 := [42, 3, 181, 0, 56, 42, 42, 27, 182, 1, 75, 4, 182, 0, 161, 153, 0, 18, 42, 28, 3, 16, 9]
abbrev dktX5_claim_0 : List UInt8 := dkwX5_claim_0 ++ dktX5_claim_1
theorem dksX5_claim_0 : cX5_claim.data.toList.drop 0 = dktX5_claim_0 := by decide +kernel
theorem dksX5_claim_1 : cX5_claim.data.toList.drop 23 = dktX5_claim_1 := dk_seg dksX5_claim_0 23 rfl rfl
theorem dksX5_claim_2 : cX5_claim.data.toList.drop 47 = dktX5_claim_2 := dk_seg dksX5_claim_1 24 rfl rfl
theorem dksX5_claim_3 : cX5_claim.data.toList.drop 69 = dktX5_claim_3 := dk_seg dksX5_claim_2 22 rfl rfl
theorem dksX5_claim_4 : cX5_claim.data.toList.drop 93 = dktX5_claim_4 := dk_seg dksX5_claim_3 24 rfl rfl
theorem dX5_claim_0 : decode cX5_claim 0 = .ok (.aload_n 0, 1) := dk_42 (dk_at dksX5_claim_0 0 rfl rfl)
theorem dX5_claim_1 : decode cX5_claim 1 = .ok (.iconst 0, 1) := dk_3 (dk_at dksX5_claim_0 1 rfl rfl)
theorem dX5_claim_2 : decode cX5_claim 2 = .ok (.putfield 56, 3) := dk_181 0 56 (dk_at dksX5_claim_0 2 rfl rfl)
theorem dX5_claim_5 : decode cX5_claim 5 = .ok (.aload_n 0, 1) := dk_42 (dk_at dksX5_claim_0 5 rfl rfl)
theorem dX5_claim_6 : decode cX5_claim 6 = .ok (.aload_n 0, 1) := dk_42 (dk_at dksX5_claim_0 6 rfl rfl)
theorem dX5_claim_7 : decode cX5_claim 7 = .ok (.iload_n 1, 1) := dk_27 (dk_at dksX5_claim_0 7 rfl rfl)
theorem dX5_claim_8 : decode cX5_claim 8 = .ok (.invokevirtual 331, 3) := dk_182 1 75 (dk_at dksX5_claim_0 8 rfl rfl)
theorem dX5_claim_11 : decode cX5_claim 11 = .ok (.iconst 1, 1) := dk_4 (dk_at dksX5_claim_0 11 rfl rfl)
theorem dX5_claim_12 : decode cX5_claim 12 = .ok (.invokevirtual 161, 3) := dk_182 0 161 (dk_at dksX5_claim_0 12 rfl rfl)
theorem dX5_claim_15 : decode cX5_claim 15 = .ok (.ifCond .eq 18, 3) := dk_153 0 18 (dk_at dksX5_claim_0 15 rfl rfl)
theorem dX5_claim_18 : decode cX5_claim 18 = .ok (.aload_n 0, 1) := dk_42 (dk_at dksX5_claim_0 18 rfl rfl)
theorem dX5_claim_19 : decode cX5_claim 19 = .ok (.iload_n 2, 1) := dk_28 (dk_at dksX5_claim_0 19 rfl rfl)
theorem dX5_claim_20 : decode cX5_claim 20 = .ok (.iconst 0, 1) := dk_3 (dk_at dksX5_claim_0 20 rfl rfl)
theorem dX5_claim_21 : decode cX5_claim 21 = .ok (.bipush 9, 2) := dk_16 9 (dk_at dksX5_claim_0 21 rfl rfl)
theorem dX5_claim_23 : decode cX5_claim 23 = .ok (.invokestatic 165, 3) := dk_184 0 165 (dk_at dksX5_claim_1 0 rfl rfl)
theorem dX5_claim_26 : decode cX5_claim 26 = .ok (.iconst 2, 1) := dk_5 (dk_at dksX5_claim_1 3 rfl rfl)
theorem dX5_claim_27 : decode cX5_claim 27 = .ok (.invokevirtual 161, 3) := dk_182 0 161 (dk_at dksX5_claim_1 4 rfl rfl)
theorem dX5_claim_30 : decode cX5_claim 30 = .ok (.ifCond .ne 5, 3) := dk_154 0 5 (dk_at dksX5_claim_1 7 rfl rfl)
theorem dX5_claim_33 : decode cX5_claim 33 = .ok (.iconst 0, 1) := dk_3 (dk_at dksX5_claim_1 10 rfl rfl)
theorem dX5_claim_34 : decode cX5_claim 34 = .ok (.ireturn, 1) := dk_172 (dk_at dksX5_claim_1 11 rfl rfl)
theorem dX5_claim_35 : decode cX5_claim 35 = .ok (.iload_n 2, 1) := dk_28 (dk_at dksX5_claim_1 12 rfl rfl)
theorem dX5_claim_36 : decode cX5_claim 36 = .ok (.bipush 6, 2) := dk_16 6 (dk_at dksX5_claim_1 13 rfl rfl)
theorem dX5_claim_38 : decode cX5_claim 38 = .ok (.if_icmp .ge 10, 3) := dk_162 0 10 (dk_at dksX5_claim_1 15 rfl rfl)
theorem dX5_claim_41 : decode cX5_claim 41 = .ok (.aload_n 0, 1) := dk_42 (dk_at dksX5_claim_1 18 rfl rfl)
theorem dX5_claim_42 : decode cX5_claim 42 = .ok (.iload_n 1, 1) := dk_27 (dk_at dksX5_claim_1 19 rfl rfl)
theorem dX5_claim_43 : decode cX5_claim 43 = .ok (.iload_n 2, 1) := dk_28 (dk_at dksX5_claim_1 20 rfl rfl)
theorem dX5_claim_44 : decode cX5_claim 44 = .ok (.invokevirtual 73, 3) := dk_182 0 73 (dk_at dksX5_claim_1 21 rfl rfl)
theorem dX5_claim_47 : decode cX5_claim 47 = .ok (.ireturn, 1) := dk_172 (dk_at dksX5_claim_2 0 rfl rfl)
theorem dX5_claim_48 : decode cX5_claim 48 = .ok (.iload_n 2, 1) := dk_28 (dk_at dksX5_claim_2 1 rfl rfl)
theorem dX5_claim_49 : decode cX5_claim 49 = .ok (.bipush 8, 2) := dk_16 8 (dk_at dksX5_claim_2 2 rfl rfl)
theorem dX5_claim_51 : decode cX5_claim 51 = .ok (.if_icmp .ge 13, 3) := dk_162 0 13 (dk_at dksX5_claim_2 4 rfl rfl)
theorem dX5_claim_54 : decode cX5_claim 54 = .ok (.aload_n 0, 1) := dk_42 (dk_at dksX5_claim_2 7 rfl rfl)
theorem dX5_claim_55 : decode cX5_claim 55 = .ok (.iload_n 1, 1) := dk_27 (dk_at dksX5_claim_2 8 rfl rfl)
theorem dX5_claim_56 : decode cX5_claim 56 = .ok (.iload_n 2, 1) := dk_28 (dk_at dksX5_claim_2 9 rfl rfl)
theorem dX5_claim_57 : decode cX5_claim 57 = .ok (.bipush 6, 2) := dk_16 6 (dk_at dksX5_claim_2 10 rfl rfl)
theorem dX5_claim_59 : decode cX5_claim 59 = .ok (.isub, 1) := dk_100 (dk_at dksX5_claim_2 12 rfl rfl)
theorem dX5_claim_60 : decode cX5_claim 60 = .ok (.invokevirtual 137, 3) := dk_182 0 137 (dk_at dksX5_claim_2 13 rfl rfl)
theorem dX5_claim_63 : decode cX5_claim 63 = .ok (.ireturn, 1) := dk_172 (dk_at dksX5_claim_2 16 rfl rfl)
theorem dX5_claim_64 : decode cX5_claim 64 = .ok (.aload_n 0, 1) := dk_42 (dk_at dksX5_claim_2 17 rfl rfl)
theorem dX5_claim_65 : decode cX5_claim 65 = .ok (.iload_n 1, 1) := dk_27 (dk_at dksX5_claim_2 18 rfl rfl)
theorem dX5_claim_66 : decode cX5_claim 66 = .ok (.invokevirtual 130, 3) := dk_182 0 130 (dk_at dksX5_claim_2 19 rfl rfl)
theorem dX5_claim_69 : decode cX5_claim 69 = .ok (.ifCond .ne 15, 3) := dk_154 0 15 (dk_at dksX5_claim_3 0 rfl rfl)
theorem dX5_claim_72 : decode cX5_claim 72 = .ok (.iload_n 2, 1) := dk_28 (dk_at dksX5_claim_3 3 rfl rfl)
theorem dX5_claim_73 : decode cX5_claim 73 = .ok (.bipush 8, 2) := dk_16 8 (dk_at dksX5_claim_3 4 rfl rfl)
theorem dX5_claim_75 : decode cX5_claim 75 = .ok (.if_icmp .ne 7, 3) := dk_160 0 7 (dk_at dksX5_claim_3 6 rfl rfl)
theorem dX5_claim_78 : decode cX5_claim 78 = .ok (.iconst (-1), 1) := dk_2 (dk_at dksX5_claim_3 9 rfl rfl)
theorem dX5_claim_79 : decode cX5_claim 79 = .ok (.goto 4, 3) := dk_167 0 4 (dk_at dksX5_claim_3 10 rfl rfl)
theorem dX5_claim_82 : decode cX5_claim 82 = .ok (.iconst 0, 1) := dk_3 (dk_at dksX5_claim_3 13 rfl rfl)
theorem dX5_claim_83 : decode cX5_claim 83 = .ok (.ireturn, 1) := dk_172 (dk_at dksX5_claim_3 14 rfl rfl)
theorem dX5_claim_84 : decode cX5_claim 84 = .ok (.iload_n 2, 1) := dk_28 (dk_at dksX5_claim_3 15 rfl rfl)
theorem dX5_claim_85 : decode cX5_claim 85 = .ok (.bipush 8, 2) := dk_16 8 (dk_at dksX5_claim_3 16 rfl rfl)
theorem dX5_claim_87 : decode cX5_claim 87 = .ok (.if_icmp .ne 21, 3) := dk_160 0 21 (dk_at dksX5_claim_3 18 rfl rfl)
theorem dX5_claim_90 : decode cX5_claim 90 = .ok (.aload_n 0, 1) := dk_42 (dk_at dksX5_claim_3 21 rfl rfl)
theorem dX5_claim_91 : decode cX5_claim 91 = .ok (.iload_n 1, 1) := dk_27 (dk_at dksX5_claim_3 22 rfl rfl)
theorem dX5_claim_92 : decode cX5_claim 92 = .ok (.iconst 0, 1) := dk_3 (dk_at dksX5_claim_3 23 rfl rfl)
theorem dX5_claim_93 : decode cX5_claim 93 = .ok (.invokevirtual 137, 3) := dk_182 0 137 (dk_at dksX5_claim_4 0 rfl rfl)
theorem dX5_claim_96 : decode cX5_claim 96 = .ok (.aload_n 0, 1) := dk_42 (dk_at dksX5_claim_4 3 rfl rfl)
theorem dX5_claim_97 : decode cX5_claim 97 = .ok (.iload_n 1, 1) := dk_27 (dk_at dksX5_claim_4 4 rfl rfl)
theorem dX5_claim_98 : decode cX5_claim 98 = .ok (.iconst 1, 1) := dk_4 (dk_at dksX5_claim_4 5 rfl rfl)
theorem dX5_claim_99 : decode cX5_claim 99 = .ok (.invokevirtual 137, 3) := dk_182 0 137 (dk_at dksX5_claim_4 6 rfl rfl)
theorem dX5_claim_102 : decode cX5_claim 102 = .ok (.invokestatic 89, 3) := dk_184 0 89 (dk_at dksX5_claim_4 9 rfl rfl)
theorem dX5_claim_105 : decode cX5_claim 105 = .ok (.goto 11, 3) := dk_167 0 11 (dk_at dksX5_claim_4 12 rfl rfl)
theorem dX5_claim_108 : decode cX5_claim 108 = .ok (.aload_n 0, 1) := dk_42 (dk_at dksX5_claim_4 15 rfl rfl)
theorem dX5_claim_109 : decode cX5_claim 109 = .ok (.iload_n 1, 1) := dk_27 (dk_at dksX5_claim_4 16 rfl rfl)
theorem dX5_claim_110 : decode cX5_claim 110 = .ok (.invokevirtual 334, 3) := dk_182 1 78 (dk_at dksX5_claim_4 17 rfl rfl)
theorem dX5_claim_113 : decode cX5_claim 113 = .ok (.invokestatic 101, 3) := dk_184 0 101 (dk_at dksX5_claim_4 20 rfl rfl)
theorem dX5_claim_116 : decode cX5_claim 116 = .ok (.ireturn, 1) := dk_172 (dk_at dksX5_claim_4 23 rfl rfl)
abbrev cX5_paired : ByteArray := prog_14_method_87_code
def yX5_paired : MethodName := ⟨RX5, "paired", "(III)I"⟩
def dkwX5_paired_3 : List UInt8 := [182, 0, 126, 172]
abbrev dktX5_paired_3 : List UInt8 := dkwX5_paired_3 ++ []
def dkwX5_paired_2 : List UInt8 := [182, 0, 161, 153, 0, 13, 42, 21, 4, 5, 182, 0, 161, 154, 0, 5, 3, 172, 42, 27, 28, 29]
abbrev dktX5_paired_2 : List UInt8 := dkwX5_paired_2 ++ dktX5_paired_3
def dkwX5_paired_1 : List UInt8 := [153, 0, 17, 42, 42, 27, 28, 182, 0, 123, 29, 182, 1, 72, 153, 0, 7, 4, 167, 0, 4, 3, 4]
abbrev dktX5_paired_1 : List UInt8 := dkwX5_paired_1 ++ dktX5_paired_2
def dkwX5_paired_0 : List UInt8 := [42, 3, 181, 0, 56, 28, 3, 4, 184, 0, 165, 54, 4, 42, 42, 27, 182, 1, 75, 153, 0, 26, 21, 4]
abbrev dktX5_paired_0 : List UInt8 := dkwX5_paired_0 ++ dktX5_paired_1
theorem dksX5_paired_0 : cX5_paired.data.toList.drop 0 = dktX5_paired_0 := by decide +kernel
theorem dksX5_paired_1 : cX5_paired.data.toList.drop 24 = dktX5_paired_1 := dk_seg dksX5_paired_0 24 rfl rfl
theorem dksX5_paired_2 : cX5_paired.data.toList.drop 47 = dktX5_paired_2 := dk_seg dksX5_paired_1 23 rfl rfl
theorem dksX5_paired_3 : cX5_paired.data.toList.drop 69 = dktX5_paired_3 := dk_seg dksX5_paired_2 22 rfl rfl
theorem dX5_paired_0 : decode cX5_paired 0 = .ok (.aload_n 0, 1) := dk_42 (dk_at dksX5_paired_0 0 rfl rfl)
theorem dX5_paired_1 : decode cX5_paired 1 = .ok (.iconst 0, 1) := dk_3 (dk_at dksX5_paired_0 1 rfl rfl)
theorem dX5_paired_2 : decode cX5_paired 2 = .ok (.putfield 56, 3) := dk_181 0 56 (dk_at dksX5_paired_0 2 rfl rfl)
theorem dX5_paired_5 : decode cX5_paired 5 = .ok (.iload_n 2, 1) := dk_28 (dk_at dksX5_paired_0 5 rfl rfl)
theorem dX5_paired_6 : decode cX5_paired 6 = .ok (.iconst 0, 1) := dk_3 (dk_at dksX5_paired_0 6 rfl rfl)
theorem dX5_paired_7 : decode cX5_paired 7 = .ok (.iconst 1, 1) := dk_4 (dk_at dksX5_paired_0 7 rfl rfl)
theorem dX5_paired_8 : decode cX5_paired 8 = .ok (.invokestatic 165, 3) := dk_184 0 165 (dk_at dksX5_paired_0 8 rfl rfl)
theorem dX5_paired_11 : decode cX5_paired 11 = .ok (.istore 4, 2) := dk_54 4 (dk_at dksX5_paired_0 11 rfl rfl)
theorem dX5_paired_13 : decode cX5_paired 13 = .ok (.aload_n 0, 1) := dk_42 (dk_at dksX5_paired_0 13 rfl rfl)
theorem dX5_paired_14 : decode cX5_paired 14 = .ok (.aload_n 0, 1) := dk_42 (dk_at dksX5_paired_0 14 rfl rfl)
theorem dX5_paired_15 : decode cX5_paired 15 = .ok (.iload_n 1, 1) := dk_27 (dk_at dksX5_paired_0 15 rfl rfl)
theorem dX5_paired_16 : decode cX5_paired 16 = .ok (.invokevirtual 331, 3) := dk_182 1 75 (dk_at dksX5_paired_0 16 rfl rfl)
theorem dX5_paired_19 : decode cX5_paired 19 = .ok (.ifCond .eq 26, 3) := dk_153 0 26 (dk_at dksX5_paired_0 19 rfl rfl)
theorem dX5_paired_22 : decode cX5_paired 22 = .ok (.iload 4, 2) := dk_21 4 (dk_at dksX5_paired_0 22 rfl rfl)
theorem dX5_paired_24 : decode cX5_paired 24 = .ok (.ifCond .eq 17, 3) := dk_153 0 17 (dk_at dksX5_paired_1 0 rfl rfl)
theorem dX5_paired_27 : decode cX5_paired 27 = .ok (.aload_n 0, 1) := dk_42 (dk_at dksX5_paired_1 3 rfl rfl)
theorem dX5_paired_28 : decode cX5_paired 28 = .ok (.aload_n 0, 1) := dk_42 (dk_at dksX5_paired_1 4 rfl rfl)
theorem dX5_paired_29 : decode cX5_paired 29 = .ok (.iload_n 1, 1) := dk_27 (dk_at dksX5_paired_1 5 rfl rfl)
theorem dX5_paired_30 : decode cX5_paired 30 = .ok (.iload_n 2, 1) := dk_28 (dk_at dksX5_paired_1 6 rfl rfl)
theorem dX5_paired_31 : decode cX5_paired 31 = .ok (.invokevirtual 123, 3) := dk_182 0 123 (dk_at dksX5_paired_1 7 rfl rfl)
theorem dX5_paired_34 : decode cX5_paired 34 = .ok (.iload_n 3, 1) := dk_29 (dk_at dksX5_paired_1 10 rfl rfl)
theorem dX5_paired_35 : decode cX5_paired 35 = .ok (.invokevirtual 328, 3) := dk_182 1 72 (dk_at dksX5_paired_1 11 rfl rfl)
theorem dX5_paired_38 : decode cX5_paired 38 = .ok (.ifCond .eq 7, 3) := dk_153 0 7 (dk_at dksX5_paired_1 14 rfl rfl)
theorem dX5_paired_41 : decode cX5_paired 41 = .ok (.iconst 1, 1) := dk_4 (dk_at dksX5_paired_1 17 rfl rfl)
theorem dX5_paired_42 : decode cX5_paired 42 = .ok (.goto 4, 3) := dk_167 0 4 (dk_at dksX5_paired_1 18 rfl rfl)
theorem dX5_paired_45 : decode cX5_paired 45 = .ok (.iconst 0, 1) := dk_3 (dk_at dksX5_paired_1 21 rfl rfl)
theorem dX5_paired_46 : decode cX5_paired 46 = .ok (.iconst 1, 1) := dk_4 (dk_at dksX5_paired_1 22 rfl rfl)
theorem dX5_paired_47 : decode cX5_paired 47 = .ok (.invokevirtual 161, 3) := dk_182 0 161 (dk_at dksX5_paired_2 0 rfl rfl)
theorem dX5_paired_50 : decode cX5_paired 50 = .ok (.ifCond .eq 13, 3) := dk_153 0 13 (dk_at dksX5_paired_2 3 rfl rfl)
theorem dX5_paired_53 : decode cX5_paired 53 = .ok (.aload_n 0, 1) := dk_42 (dk_at dksX5_paired_2 6 rfl rfl)
theorem dX5_paired_54 : decode cX5_paired 54 = .ok (.iload 4, 2) := dk_21 4 (dk_at dksX5_paired_2 7 rfl rfl)
theorem dX5_paired_56 : decode cX5_paired 56 = .ok (.iconst 2, 1) := dk_5 (dk_at dksX5_paired_2 9 rfl rfl)
theorem dX5_paired_57 : decode cX5_paired 57 = .ok (.invokevirtual 161, 3) := dk_182 0 161 (dk_at dksX5_paired_2 10 rfl rfl)
theorem dX5_paired_60 : decode cX5_paired 60 = .ok (.ifCond .ne 5, 3) := dk_154 0 5 (dk_at dksX5_paired_2 13 rfl rfl)
theorem dX5_paired_63 : decode cX5_paired 63 = .ok (.iconst 0, 1) := dk_3 (dk_at dksX5_paired_2 16 rfl rfl)
theorem dX5_paired_64 : decode cX5_paired 64 = .ok (.ireturn, 1) := dk_172 (dk_at dksX5_paired_2 17 rfl rfl)
theorem dX5_paired_65 : decode cX5_paired 65 = .ok (.aload_n 0, 1) := dk_42 (dk_at dksX5_paired_2 18 rfl rfl)
theorem dX5_paired_66 : decode cX5_paired 66 = .ok (.iload_n 1, 1) := dk_27 (dk_at dksX5_paired_2 19 rfl rfl)
theorem dX5_paired_67 : decode cX5_paired 67 = .ok (.iload_n 2, 1) := dk_28 (dk_at dksX5_paired_2 20 rfl rfl)
theorem dX5_paired_68 : decode cX5_paired 68 = .ok (.iload_n 3, 1) := dk_29 (dk_at dksX5_paired_2 21 rfl rfl)
theorem dX5_paired_69 : decode cX5_paired 69 = .ok (.invokevirtual 126, 3) := dk_182 0 126 (dk_at dksX5_paired_3 0 rfl rfl)
theorem dX5_paired_72 : decode cX5_paired 72 = .ok (.ireturn, 1) := dk_172 (dk_at dksX5_paired_3 3 rfl rfl)
abbrev cX5_ranked : ByteArray := prog_14_method_88_code
def yX5_ranked : MethodName := ⟨RX5, "ranked", "(I)I"⟩
def dkwX5_ranked_4 : List UInt8 := [2, 172]
abbrev dktX5_ranked_4 : List UInt8 := dkwX5_ranked_4 ++ []
def dkwX5_ranked_3 : List UInt8 := [184, 0, 101, 96, 62, 132, 4, 1, 167, 255, 198, 29, 27, 160, 0, 5, 28, 172, 132, 2, 1, 167, 255, 171]
abbrev dktX5_ranked_3 : List UInt8 := dkwX5_ranked_3 ++ dktX5_ranked_4
def dkwX5_ranked_2 : List UInt8 := [21, 4, 182, 0, 86, 42, 28, 182, 0, 86, 160, 0, 13, 21, 4, 28, 162, 0, 7, 4, 167, 0, 4, 3]
abbrev dktX5_ranked_2 : List UInt8 := dkwX5_ranked_2 ++ dktX5_ranked_3
def dkwX5_ranked_1 : List UInt8 := [4, 182, 0, 65, 162, 0, 54, 29, 42, 21, 4, 182, 0, 86, 42, 28, 182, 0, 86, 163, 0, 23, 42]
abbrev dktX5_ranked_1 : List UInt8 := dkwX5_ranked_1 ++ dktX5_ranked_2
def dkwX5_ranked_0 : List UInt8 := [42, 3, 181, 0, 56, 3, 61, 28, 42, 4, 182, 0, 65, 162, 0, 82, 3, 62, 3, 54, 4, 21, 4, 42]
abbrev dktX5_ranked_0 : List UInt8 := dkwX5_ranked_0 ++ dktX5_ranked_1
theorem dksX5_ranked_0 : cX5_ranked.data.toList.drop 0 = dktX5_ranked_0 := by decide +kernel
theorem dksX5_ranked_1 : cX5_ranked.data.toList.drop 24 = dktX5_ranked_1 := dk_seg dksX5_ranked_0 24 rfl rfl
theorem dksX5_ranked_2 : cX5_ranked.data.toList.drop 47 = dktX5_ranked_2 := dk_seg dksX5_ranked_1 23 rfl rfl
theorem dksX5_ranked_3 : cX5_ranked.data.toList.drop 71 = dktX5_ranked_3 := dk_seg dksX5_ranked_2 24 rfl rfl
theorem dksX5_ranked_4 : cX5_ranked.data.toList.drop 95 = dktX5_ranked_4 := dk_seg dksX5_ranked_3 24 rfl rfl
theorem dX5_ranked_0 : decode cX5_ranked 0 = .ok (.aload_n 0, 1) := dk_42 (dk_at dksX5_ranked_0 0 rfl rfl)
theorem dX5_ranked_1 : decode cX5_ranked 1 = .ok (.iconst 0, 1) := dk_3 (dk_at dksX5_ranked_0 1 rfl rfl)
theorem dX5_ranked_2 : decode cX5_ranked 2 = .ok (.putfield 56, 3) := dk_181 0 56 (dk_at dksX5_ranked_0 2 rfl rfl)
theorem dX5_ranked_5 : decode cX5_ranked 5 = .ok (.iconst 0, 1) := dk_3 (dk_at dksX5_ranked_0 5 rfl rfl)
theorem dX5_ranked_6 : decode cX5_ranked 6 = .ok (.istore_n 2, 1) := dk_61 (dk_at dksX5_ranked_0 6 rfl rfl)
theorem dX5_ranked_7 : decode cX5_ranked 7 = .ok (.iload_n 2, 1) := dk_28 (dk_at dksX5_ranked_0 7 rfl rfl)
theorem dX5_ranked_8 : decode cX5_ranked 8 = .ok (.aload_n 0, 1) := dk_42 (dk_at dksX5_ranked_0 8 rfl rfl)
theorem dX5_ranked_9 : decode cX5_ranked 9 = .ok (.iconst 1, 1) := dk_4 (dk_at dksX5_ranked_0 9 rfl rfl)
theorem dX5_ranked_10 : decode cX5_ranked 10 = .ok (.invokevirtual 65, 3) := dk_182 0 65 (dk_at dksX5_ranked_0 10 rfl rfl)
theorem dX5_ranked_13 : decode cX5_ranked 13 = .ok (.if_icmp .ge 82, 3) := dk_162 0 82 (dk_at dksX5_ranked_0 13 rfl rfl)
theorem dX5_ranked_16 : decode cX5_ranked 16 = .ok (.iconst 0, 1) := dk_3 (dk_at dksX5_ranked_0 16 rfl rfl)
theorem dX5_ranked_17 : decode cX5_ranked 17 = .ok (.istore_n 3, 1) := dk_62 (dk_at dksX5_ranked_0 17 rfl rfl)
theorem dX5_ranked_18 : decode cX5_ranked 18 = .ok (.iconst 0, 1) := dk_3 (dk_at dksX5_ranked_0 18 rfl rfl)
theorem dX5_ranked_19 : decode cX5_ranked 19 = .ok (.istore 4, 2) := dk_54 4 (dk_at dksX5_ranked_0 19 rfl rfl)
theorem dX5_ranked_21 : decode cX5_ranked 21 = .ok (.iload 4, 2) := dk_21 4 (dk_at dksX5_ranked_0 21 rfl rfl)
theorem dX5_ranked_23 : decode cX5_ranked 23 = .ok (.aload_n 0, 1) := dk_42 (dk_at dksX5_ranked_0 23 rfl rfl)
theorem dX5_ranked_24 : decode cX5_ranked 24 = .ok (.iconst 1, 1) := dk_4 (dk_at dksX5_ranked_1 0 rfl rfl)
theorem dX5_ranked_25 : decode cX5_ranked 25 = .ok (.invokevirtual 65, 3) := dk_182 0 65 (dk_at dksX5_ranked_1 1 rfl rfl)
theorem dX5_ranked_28 : decode cX5_ranked 28 = .ok (.if_icmp .ge 54, 3) := dk_162 0 54 (dk_at dksX5_ranked_1 4 rfl rfl)
theorem dX5_ranked_31 : decode cX5_ranked 31 = .ok (.iload_n 3, 1) := dk_29 (dk_at dksX5_ranked_1 7 rfl rfl)
theorem dX5_ranked_32 : decode cX5_ranked 32 = .ok (.aload_n 0, 1) := dk_42 (dk_at dksX5_ranked_1 8 rfl rfl)
theorem dX5_ranked_33 : decode cX5_ranked 33 = .ok (.iload 4, 2) := dk_21 4 (dk_at dksX5_ranked_1 9 rfl rfl)
theorem dX5_ranked_35 : decode cX5_ranked 35 = .ok (.invokevirtual 86, 3) := dk_182 0 86 (dk_at dksX5_ranked_1 11 rfl rfl)
theorem dX5_ranked_38 : decode cX5_ranked 38 = .ok (.aload_n 0, 1) := dk_42 (dk_at dksX5_ranked_1 14 rfl rfl)
theorem dX5_ranked_39 : decode cX5_ranked 39 = .ok (.iload_n 2, 1) := dk_28 (dk_at dksX5_ranked_1 15 rfl rfl)
theorem dX5_ranked_40 : decode cX5_ranked 40 = .ok (.invokevirtual 86, 3) := dk_182 0 86 (dk_at dksX5_ranked_1 16 rfl rfl)
theorem dX5_ranked_43 : decode cX5_ranked 43 = .ok (.if_icmp .gt 23, 3) := dk_163 0 23 (dk_at dksX5_ranked_1 19 rfl rfl)
theorem dX5_ranked_46 : decode cX5_ranked 46 = .ok (.aload_n 0, 1) := dk_42 (dk_at dksX5_ranked_1 22 rfl rfl)
theorem dX5_ranked_47 : decode cX5_ranked 47 = .ok (.iload 4, 2) := dk_21 4 (dk_at dksX5_ranked_2 0 rfl rfl)
theorem dX5_ranked_49 : decode cX5_ranked 49 = .ok (.invokevirtual 86, 3) := dk_182 0 86 (dk_at dksX5_ranked_2 2 rfl rfl)
theorem dX5_ranked_52 : decode cX5_ranked 52 = .ok (.aload_n 0, 1) := dk_42 (dk_at dksX5_ranked_2 5 rfl rfl)
theorem dX5_ranked_53 : decode cX5_ranked 53 = .ok (.iload_n 2, 1) := dk_28 (dk_at dksX5_ranked_2 6 rfl rfl)
theorem dX5_ranked_54 : decode cX5_ranked 54 = .ok (.invokevirtual 86, 3) := dk_182 0 86 (dk_at dksX5_ranked_2 7 rfl rfl)
theorem dX5_ranked_57 : decode cX5_ranked 57 = .ok (.if_icmp .ne 13, 3) := dk_160 0 13 (dk_at dksX5_ranked_2 10 rfl rfl)
theorem dX5_ranked_60 : decode cX5_ranked 60 = .ok (.iload 4, 2) := dk_21 4 (dk_at dksX5_ranked_2 13 rfl rfl)
theorem dX5_ranked_62 : decode cX5_ranked 62 = .ok (.iload_n 2, 1) := dk_28 (dk_at dksX5_ranked_2 15 rfl rfl)
theorem dX5_ranked_63 : decode cX5_ranked 63 = .ok (.if_icmp .ge 7, 3) := dk_162 0 7 (dk_at dksX5_ranked_2 16 rfl rfl)
theorem dX5_ranked_66 : decode cX5_ranked 66 = .ok (.iconst 1, 1) := dk_4 (dk_at dksX5_ranked_2 19 rfl rfl)
theorem dX5_ranked_67 : decode cX5_ranked 67 = .ok (.goto 4, 3) := dk_167 0 4 (dk_at dksX5_ranked_2 20 rfl rfl)
theorem dX5_ranked_70 : decode cX5_ranked 70 = .ok (.iconst 0, 1) := dk_3 (dk_at dksX5_ranked_2 23 rfl rfl)
theorem dX5_ranked_71 : decode cX5_ranked 71 = .ok (.invokestatic 101, 3) := dk_184 0 101 (dk_at dksX5_ranked_3 0 rfl rfl)
theorem dX5_ranked_74 : decode cX5_ranked 74 = .ok (.iadd, 1) := dk_96 (dk_at dksX5_ranked_3 3 rfl rfl)
theorem dX5_ranked_75 : decode cX5_ranked 75 = .ok (.istore_n 3, 1) := dk_62 (dk_at dksX5_ranked_3 4 rfl rfl)
theorem dX5_ranked_76 : decode cX5_ranked 76 = .ok (.iinc 4 1, 3) := dk_132 4 1 (dk_at dksX5_ranked_3 5 rfl rfl)
theorem dX5_ranked_79 : decode cX5_ranked 79 = .ok (.goto (-58), 3) := dk_167 255 198 (dk_at dksX5_ranked_3 8 rfl rfl)
theorem dX5_ranked_82 : decode cX5_ranked 82 = .ok (.iload_n 3, 1) := dk_29 (dk_at dksX5_ranked_3 11 rfl rfl)
theorem dX5_ranked_83 : decode cX5_ranked 83 = .ok (.iload_n 1, 1) := dk_27 (dk_at dksX5_ranked_3 12 rfl rfl)
theorem dX5_ranked_84 : decode cX5_ranked 84 = .ok (.if_icmp .ne 5, 3) := dk_160 0 5 (dk_at dksX5_ranked_3 13 rfl rfl)
theorem dX5_ranked_87 : decode cX5_ranked 87 = .ok (.iload_n 2, 1) := dk_28 (dk_at dksX5_ranked_3 16 rfl rfl)
theorem dX5_ranked_88 : decode cX5_ranked 88 = .ok (.ireturn, 1) := dk_172 (dk_at dksX5_ranked_3 17 rfl rfl)
theorem dX5_ranked_89 : decode cX5_ranked 89 = .ok (.iinc 2 1, 3) := dk_132 2 1 (dk_at dksX5_ranked_3 18 rfl rfl)
theorem dX5_ranked_92 : decode cX5_ranked 92 = .ok (.goto (-85), 3) := dk_167 255 171 (dk_at dksX5_ranked_3 21 rfl rfl)
theorem dX5_ranked_95 : decode cX5_ranked 95 = .ok (.iconst (-1), 1) := dk_2 (dk_at dksX5_ranked_4 0 rfl rfl)
theorem dX5_ranked_96 : decode cX5_ranked 96 = .ok (.ireturn, 1) := dk_172 (dk_at dksX5_ranked_4 1 rfl rfl)
abbrev cX5_byEye : ByteArray := prog_14_method_89_code
def yX5_byEye : MethodName := ⟨RX5, "byEye", "(II)I"⟩
def dkwX5_byEye_1 : List UInt8 := [167, 0, 4, 3, 4, 182, 0, 161, 153, 0, 12, 42, 27, 28, 182, 0, 98, 167, 0, 4, 3, 172]
abbrev dktX5_byEye_1 : List UInt8 := dkwX5_byEye_1 ++ []
def dkwX5_byEye_0 : List UInt8 := [42, 3, 181, 0, 56, 42, 42, 27, 182, 1, 39, 153, 0, 15, 42, 28, 182, 1, 39, 153, 0, 7, 4]
abbrev dktX5_byEye_0 : List UInt8 := dkwX5_byEye_0 ++ dktX5_byEye_1
theorem dksX5_byEye_0 : cX5_byEye.data.toList.drop 0 = dktX5_byEye_0 := by decide +kernel
theorem dksX5_byEye_1 : cX5_byEye.data.toList.drop 23 = dktX5_byEye_1 := dk_seg dksX5_byEye_0 23 rfl rfl
theorem dX5_byEye_0 : decode cX5_byEye 0 = .ok (.aload_n 0, 1) := dk_42 (dk_at dksX5_byEye_0 0 rfl rfl)
theorem dX5_byEye_1 : decode cX5_byEye 1 = .ok (.iconst 0, 1) := dk_3 (dk_at dksX5_byEye_0 1 rfl rfl)
theorem dX5_byEye_2 : decode cX5_byEye 2 = .ok (.putfield 56, 3) := dk_181 0 56 (dk_at dksX5_byEye_0 2 rfl rfl)
theorem dX5_byEye_5 : decode cX5_byEye 5 = .ok (.aload_n 0, 1) := dk_42 (dk_at dksX5_byEye_0 5 rfl rfl)
theorem dX5_byEye_6 : decode cX5_byEye 6 = .ok (.aload_n 0, 1) := dk_42 (dk_at dksX5_byEye_0 6 rfl rfl)
theorem dX5_byEye_7 : decode cX5_byEye 7 = .ok (.iload_n 1, 1) := dk_27 (dk_at dksX5_byEye_0 7 rfl rfl)
theorem dX5_byEye_8 : decode cX5_byEye 8 = .ok (.invokevirtual 295, 3) := dk_182 1 39 (dk_at dksX5_byEye_0 8 rfl rfl)
theorem dX5_byEye_11 : decode cX5_byEye 11 = .ok (.ifCond .eq 15, 3) := dk_153 0 15 (dk_at dksX5_byEye_0 11 rfl rfl)
theorem dX5_byEye_14 : decode cX5_byEye 14 = .ok (.aload_n 0, 1) := dk_42 (dk_at dksX5_byEye_0 14 rfl rfl)
theorem dX5_byEye_15 : decode cX5_byEye 15 = .ok (.iload_n 2, 1) := dk_28 (dk_at dksX5_byEye_0 15 rfl rfl)
theorem dX5_byEye_16 : decode cX5_byEye 16 = .ok (.invokevirtual 295, 3) := dk_182 1 39 (dk_at dksX5_byEye_0 16 rfl rfl)
theorem dX5_byEye_19 : decode cX5_byEye 19 = .ok (.ifCond .eq 7, 3) := dk_153 0 7 (dk_at dksX5_byEye_0 19 rfl rfl)
theorem dX5_byEye_22 : decode cX5_byEye 22 = .ok (.iconst 1, 1) := dk_4 (dk_at dksX5_byEye_0 22 rfl rfl)
theorem dX5_byEye_23 : decode cX5_byEye 23 = .ok (.goto 4, 3) := dk_167 0 4 (dk_at dksX5_byEye_1 0 rfl rfl)
theorem dX5_byEye_26 : decode cX5_byEye 26 = .ok (.iconst 0, 1) := dk_3 (dk_at dksX5_byEye_1 3 rfl rfl)
theorem dX5_byEye_27 : decode cX5_byEye 27 = .ok (.iconst 1, 1) := dk_4 (dk_at dksX5_byEye_1 4 rfl rfl)
theorem dX5_byEye_28 : decode cX5_byEye 28 = .ok (.invokevirtual 161, 3) := dk_182 0 161 (dk_at dksX5_byEye_1 5 rfl rfl)
theorem dX5_byEye_31 : decode cX5_byEye 31 = .ok (.ifCond .eq 12, 3) := dk_153 0 12 (dk_at dksX5_byEye_1 8 rfl rfl)
theorem dX5_byEye_34 : decode cX5_byEye 34 = .ok (.aload_n 0, 1) := dk_42 (dk_at dksX5_byEye_1 11 rfl rfl)
theorem dX5_byEye_35 : decode cX5_byEye 35 = .ok (.iload_n 1, 1) := dk_27 (dk_at dksX5_byEye_1 12 rfl rfl)
theorem dX5_byEye_36 : decode cX5_byEye 36 = .ok (.iload_n 2, 1) := dk_28 (dk_at dksX5_byEye_1 13 rfl rfl)
theorem dX5_byEye_37 : decode cX5_byEye 37 = .ok (.invokevirtual 98, 3) := dk_182 0 98 (dk_at dksX5_byEye_1 14 rfl rfl)
theorem dX5_byEye_40 : decode cX5_byEye 40 = .ok (.goto 4, 3) := dk_167 0 4 (dk_at dksX5_byEye_1 17 rfl rfl)
theorem dX5_byEye_43 : decode cX5_byEye 43 = .ok (.iconst 0, 1) := dk_3 (dk_at dksX5_byEye_1 20 rfl rfl)
theorem dX5_byEye_44 : decode cX5_byEye 44 = .ok (.ireturn, 1) := dk_172 (dk_at dksX5_byEye_1 21 rfl rfl)
abbrev cX5_errors : ByteArray := prog_14_method_90_code
def yX5_errors : MethodName := ⟨RX5, "errors", "()I"⟩
def dkwX5_errors_0 : List UInt8 := [42, 3, 181, 0, 56, 42, 182, 1, 81, 172]
abbrev dktX5_errors_0 : List UInt8 := dkwX5_errors_0 ++ []
theorem dksX5_errors_0 : cX5_errors.data.toList.drop 0 = dktX5_errors_0 := by decide +kernel
theorem dX5_errors_0 : decode cX5_errors 0 = .ok (.aload_n 0, 1) := dk_42 (dk_at dksX5_errors_0 0 rfl rfl)
theorem dX5_errors_1 : decode cX5_errors 1 = .ok (.iconst 0, 1) := dk_3 (dk_at dksX5_errors_0 1 rfl rfl)
theorem dX5_errors_2 : decode cX5_errors 2 = .ok (.putfield 56, 3) := dk_181 0 56 (dk_at dksX5_errors_0 2 rfl rfl)
theorem dX5_errors_5 : decode cX5_errors 5 = .ok (.aload_n 0, 1) := dk_42 (dk_at dksX5_errors_0 5 rfl rfl)
theorem dX5_errors_6 : decode cX5_errors 6 = .ok (.invokevirtual 337, 3) := dk_182 1 81 (dk_at dksX5_errors_0 6 rfl rfl)
theorem dX5_errors_9 : decode cX5_errors 9 = .ok (.ireturn, 1) := dk_172 (dk_at dksX5_errors_0 9 rfl rfl)
abbrev cX5_allErrors : ByteArray := prog_14_method_28_code
def yX5_allErrors : MethodName := ⟨RX5, "allErrors", "()I"⟩
def dkwX5_allErrors_2 : List UInt8 := [132, 3, 1, 167, 255, 222, 132, 2, 1, 167, 255, 205, 27, 172]
abbrev dktX5_allErrors_2 : List UInt8 := dkwX5_allErrors_2 ++ []
def dkwX5_allErrors_1 : List UInt8 := [182, 0, 95, 42, 28, 29, 182, 0, 98, 159, 0, 7, 4, 167, 0, 4, 3, 184, 0, 101, 96, 60]
abbrev dktX5_allErrors_1 : List UInt8 := dkwX5_allErrors_1 ++ dktX5_allErrors_2
def dkwX5_allErrors_0 : List UInt8 := [3, 60, 3, 61, 28, 42, 4, 182, 0, 65, 162, 0, 48, 3, 62, 29, 28, 162, 0, 35, 27, 42, 28, 29]
abbrev dktX5_allErrors_0 : List UInt8 := dkwX5_allErrors_0 ++ dktX5_allErrors_1
theorem dksX5_allErrors_0 : cX5_allErrors.data.toList.drop 0 = dktX5_allErrors_0 := by decide +kernel
theorem dksX5_allErrors_1 : cX5_allErrors.data.toList.drop 24 = dktX5_allErrors_1 := dk_seg dksX5_allErrors_0 24 rfl rfl
theorem dksX5_allErrors_2 : cX5_allErrors.data.toList.drop 46 = dktX5_allErrors_2 := dk_seg dksX5_allErrors_1 22 rfl rfl
theorem dX5_allErrors_0 : decode cX5_allErrors 0 = .ok (.iconst 0, 1) := dk_3 (dk_at dksX5_allErrors_0 0 rfl rfl)
theorem dX5_allErrors_1 : decode cX5_allErrors 1 = .ok (.istore_n 1, 1) := dk_60 (dk_at dksX5_allErrors_0 1 rfl rfl)
theorem dX5_allErrors_2 : decode cX5_allErrors 2 = .ok (.iconst 0, 1) := dk_3 (dk_at dksX5_allErrors_0 2 rfl rfl)
theorem dX5_allErrors_3 : decode cX5_allErrors 3 = .ok (.istore_n 2, 1) := dk_61 (dk_at dksX5_allErrors_0 3 rfl rfl)
theorem dX5_allErrors_4 : decode cX5_allErrors 4 = .ok (.iload_n 2, 1) := dk_28 (dk_at dksX5_allErrors_0 4 rfl rfl)
theorem dX5_allErrors_5 : decode cX5_allErrors 5 = .ok (.aload_n 0, 1) := dk_42 (dk_at dksX5_allErrors_0 5 rfl rfl)
theorem dX5_allErrors_6 : decode cX5_allErrors 6 = .ok (.iconst 1, 1) := dk_4 (dk_at dksX5_allErrors_0 6 rfl rfl)
theorem dX5_allErrors_7 : decode cX5_allErrors 7 = .ok (.invokevirtual 65, 3) := dk_182 0 65 (dk_at dksX5_allErrors_0 7 rfl rfl)
theorem dX5_allErrors_10 : decode cX5_allErrors 10 = .ok (.if_icmp .ge 48, 3) := dk_162 0 48 (dk_at dksX5_allErrors_0 10 rfl rfl)
theorem dX5_allErrors_13 : decode cX5_allErrors 13 = .ok (.iconst 0, 1) := dk_3 (dk_at dksX5_allErrors_0 13 rfl rfl)
theorem dX5_allErrors_14 : decode cX5_allErrors 14 = .ok (.istore_n 3, 1) := dk_62 (dk_at dksX5_allErrors_0 14 rfl rfl)
theorem dX5_allErrors_15 : decode cX5_allErrors 15 = .ok (.iload_n 3, 1) := dk_29 (dk_at dksX5_allErrors_0 15 rfl rfl)
theorem dX5_allErrors_16 : decode cX5_allErrors 16 = .ok (.iload_n 2, 1) := dk_28 (dk_at dksX5_allErrors_0 16 rfl rfl)
theorem dX5_allErrors_17 : decode cX5_allErrors 17 = .ok (.if_icmp .ge 35, 3) := dk_162 0 35 (dk_at dksX5_allErrors_0 17 rfl rfl)
theorem dX5_allErrors_20 : decode cX5_allErrors 20 = .ok (.iload_n 1, 1) := dk_27 (dk_at dksX5_allErrors_0 20 rfl rfl)
theorem dX5_allErrors_21 : decode cX5_allErrors 21 = .ok (.aload_n 0, 1) := dk_42 (dk_at dksX5_allErrors_0 21 rfl rfl)
theorem dX5_allErrors_22 : decode cX5_allErrors 22 = .ok (.iload_n 2, 1) := dk_28 (dk_at dksX5_allErrors_0 22 rfl rfl)
theorem dX5_allErrors_23 : decode cX5_allErrors 23 = .ok (.iload_n 3, 1) := dk_29 (dk_at dksX5_allErrors_0 23 rfl rfl)
theorem dX5_allErrors_24 : decode cX5_allErrors 24 = .ok (.invokevirtual 95, 3) := dk_182 0 95 (dk_at dksX5_allErrors_1 0 rfl rfl)
theorem dX5_allErrors_27 : decode cX5_allErrors 27 = .ok (.aload_n 0, 1) := dk_42 (dk_at dksX5_allErrors_1 3 rfl rfl)
theorem dX5_allErrors_28 : decode cX5_allErrors 28 = .ok (.iload_n 2, 1) := dk_28 (dk_at dksX5_allErrors_1 4 rfl rfl)
theorem dX5_allErrors_29 : decode cX5_allErrors 29 = .ok (.iload_n 3, 1) := dk_29 (dk_at dksX5_allErrors_1 5 rfl rfl)
theorem dX5_allErrors_30 : decode cX5_allErrors 30 = .ok (.invokevirtual 98, 3) := dk_182 0 98 (dk_at dksX5_allErrors_1 6 rfl rfl)
theorem dX5_allErrors_33 : decode cX5_allErrors 33 = .ok (.if_icmp .eq 7, 3) := dk_159 0 7 (dk_at dksX5_allErrors_1 9 rfl rfl)
theorem dX5_allErrors_36 : decode cX5_allErrors 36 = .ok (.iconst 1, 1) := dk_4 (dk_at dksX5_allErrors_1 12 rfl rfl)
theorem dX5_allErrors_37 : decode cX5_allErrors 37 = .ok (.goto 4, 3) := dk_167 0 4 (dk_at dksX5_allErrors_1 13 rfl rfl)
theorem dX5_allErrors_40 : decode cX5_allErrors 40 = .ok (.iconst 0, 1) := dk_3 (dk_at dksX5_allErrors_1 16 rfl rfl)
theorem dX5_allErrors_41 : decode cX5_allErrors 41 = .ok (.invokestatic 101, 3) := dk_184 0 101 (dk_at dksX5_allErrors_1 17 rfl rfl)
theorem dX5_allErrors_44 : decode cX5_allErrors 44 = .ok (.iadd, 1) := dk_96 (dk_at dksX5_allErrors_1 20 rfl rfl)
theorem dX5_allErrors_45 : decode cX5_allErrors 45 = .ok (.istore_n 1, 1) := dk_60 (dk_at dksX5_allErrors_1 21 rfl rfl)
theorem dX5_allErrors_46 : decode cX5_allErrors 46 = .ok (.iinc 3 1, 3) := dk_132 3 1 (dk_at dksX5_allErrors_2 0 rfl rfl)
theorem dX5_allErrors_49 : decode cX5_allErrors 49 = .ok (.goto (-34), 3) := dk_167 255 222 (dk_at dksX5_allErrors_2 3 rfl rfl)
theorem dX5_allErrors_52 : decode cX5_allErrors 52 = .ok (.iinc 2 1, 3) := dk_132 2 1 (dk_at dksX5_allErrors_2 6 rfl rfl)
theorem dX5_allErrors_55 : decode cX5_allErrors 55 = .ok (.goto (-51), 3) := dk_167 255 205 (dk_at dksX5_allErrors_2 9 rfl rfl)
theorem dX5_allErrors_58 : decode cX5_allErrors 58 = .ok (.iload_n 1, 1) := dk_27 (dk_at dksX5_allErrors_2 12 rfl rfl)
theorem dX5_allErrors_59 : decode cX5_allErrors 59 = .ok (.ireturn, 1) := dk_172 (dk_at dksX5_allErrors_2 13 rfl rfl)
abbrev cX5_wordBySize : ByteArray := prog_14_method_26_code
def yX5_wordBySize : MethodName := ⟨RX5, "wordBySize", "(II)I"⟩
def dkwX5_wordBySize_0 : List UInt8 := [42, 27, 182, 0, 86, 42, 28, 182, 0, 86, 184, 0, 89, 172]
abbrev dktX5_wordBySize_0 : List UInt8 := dkwX5_wordBySize_0 ++ []
theorem dksX5_wordBySize_0 : cX5_wordBySize.data.toList.drop 0 = dktX5_wordBySize_0 := by decide +kernel
theorem dX5_wordBySize_0 : decode cX5_wordBySize 0 = .ok (.aload_n 0, 1) := dk_42 (dk_at dksX5_wordBySize_0 0 rfl rfl)
theorem dX5_wordBySize_1 : decode cX5_wordBySize 1 = .ok (.iload_n 1, 1) := dk_27 (dk_at dksX5_wordBySize_0 1 rfl rfl)
theorem dX5_wordBySize_2 : decode cX5_wordBySize 2 = .ok (.invokevirtual 86, 3) := dk_182 0 86 (dk_at dksX5_wordBySize_0 2 rfl rfl)
theorem dX5_wordBySize_5 : decode cX5_wordBySize 5 = .ok (.aload_n 0, 1) := dk_42 (dk_at dksX5_wordBySize_0 5 rfl rfl)
theorem dX5_wordBySize_6 : decode cX5_wordBySize 6 = .ok (.iload_n 2, 1) := dk_28 (dk_at dksX5_wordBySize_0 6 rfl rfl)
theorem dX5_wordBySize_7 : decode cX5_wordBySize 7 = .ok (.invokevirtual 86, 3) := dk_182 0 86 (dk_at dksX5_wordBySize_0 7 rfl rfl)
theorem dX5_wordBySize_10 : decode cX5_wordBySize 10 = .ok (.invokestatic 89, 3) := dk_184 0 89 (dk_at dksX5_wordBySize_0 10 rfl rfl)
theorem dX5_wordBySize_13 : decode cX5_wordBySize 13 = .ok (.ireturn, 1) := dk_172 (dk_at dksX5_wordBySize_0 13 rfl rfl)
abbrev cX5_fact : ByteArray := prog_14_method_91_code
def yX5_fact : MethodName := ⟨RX5, "fact", "(II)I"⟩
def dkwX5_fact_1 : List UInt8 := [167, 0, 4, 3, 4, 182, 0, 161, 153, 0, 12, 42, 27, 28, 182, 0, 108, 167, 0, 4, 3, 172]
abbrev dktX5_fact_1 : List UInt8 := dkwX5_fact_1 ++ []
def dkwX5_fact_0 : List UInt8 := [42, 3, 181, 0, 56, 42, 42, 27, 182, 1, 39, 153, 0, 15, 42, 28, 182, 1, 39, 153, 0, 7, 4]
abbrev dktX5_fact_0 : List UInt8 := dkwX5_fact_0 ++ dktX5_fact_1
theorem dksX5_fact_0 : cX5_fact.data.toList.drop 0 = dktX5_fact_0 := by decide +kernel
theorem dksX5_fact_1 : cX5_fact.data.toList.drop 23 = dktX5_fact_1 := dk_seg dksX5_fact_0 23 rfl rfl
theorem dX5_fact_0 : decode cX5_fact 0 = .ok (.aload_n 0, 1) := dk_42 (dk_at dksX5_fact_0 0 rfl rfl)
theorem dX5_fact_1 : decode cX5_fact 1 = .ok (.iconst 0, 1) := dk_3 (dk_at dksX5_fact_0 1 rfl rfl)
theorem dX5_fact_2 : decode cX5_fact 2 = .ok (.putfield 56, 3) := dk_181 0 56 (dk_at dksX5_fact_0 2 rfl rfl)
theorem dX5_fact_5 : decode cX5_fact 5 = .ok (.aload_n 0, 1) := dk_42 (dk_at dksX5_fact_0 5 rfl rfl)
theorem dX5_fact_6 : decode cX5_fact 6 = .ok (.aload_n 0, 1) := dk_42 (dk_at dksX5_fact_0 6 rfl rfl)
theorem dX5_fact_7 : decode cX5_fact 7 = .ok (.iload_n 1, 1) := dk_27 (dk_at dksX5_fact_0 7 rfl rfl)
theorem dX5_fact_8 : decode cX5_fact 8 = .ok (.invokevirtual 295, 3) := dk_182 1 39 (dk_at dksX5_fact_0 8 rfl rfl)
theorem dX5_fact_11 : decode cX5_fact 11 = .ok (.ifCond .eq 15, 3) := dk_153 0 15 (dk_at dksX5_fact_0 11 rfl rfl)
theorem dX5_fact_14 : decode cX5_fact 14 = .ok (.aload_n 0, 1) := dk_42 (dk_at dksX5_fact_0 14 rfl rfl)
theorem dX5_fact_15 : decode cX5_fact 15 = .ok (.iload_n 2, 1) := dk_28 (dk_at dksX5_fact_0 15 rfl rfl)
theorem dX5_fact_16 : decode cX5_fact 16 = .ok (.invokevirtual 295, 3) := dk_182 1 39 (dk_at dksX5_fact_0 16 rfl rfl)
theorem dX5_fact_19 : decode cX5_fact 19 = .ok (.ifCond .eq 7, 3) := dk_153 0 7 (dk_at dksX5_fact_0 19 rfl rfl)
theorem dX5_fact_22 : decode cX5_fact 22 = .ok (.iconst 1, 1) := dk_4 (dk_at dksX5_fact_0 22 rfl rfl)
theorem dX5_fact_23 : decode cX5_fact 23 = .ok (.goto 4, 3) := dk_167 0 4 (dk_at dksX5_fact_1 0 rfl rfl)
theorem dX5_fact_26 : decode cX5_fact 26 = .ok (.iconst 0, 1) := dk_3 (dk_at dksX5_fact_1 3 rfl rfl)
theorem dX5_fact_27 : decode cX5_fact 27 = .ok (.iconst 1, 1) := dk_4 (dk_at dksX5_fact_1 4 rfl rfl)
theorem dX5_fact_28 : decode cX5_fact 28 = .ok (.invokevirtual 161, 3) := dk_182 0 161 (dk_at dksX5_fact_1 5 rfl rfl)
theorem dX5_fact_31 : decode cX5_fact 31 = .ok (.ifCond .eq 12, 3) := dk_153 0 12 (dk_at dksX5_fact_1 8 rfl rfl)
theorem dX5_fact_34 : decode cX5_fact 34 = .ok (.aload_n 0, 1) := dk_42 (dk_at dksX5_fact_1 11 rfl rfl)
theorem dX5_fact_35 : decode cX5_fact 35 = .ok (.iload_n 1, 1) := dk_27 (dk_at dksX5_fact_1 12 rfl rfl)
theorem dX5_fact_36 : decode cX5_fact 36 = .ok (.iload_n 2, 1) := dk_28 (dk_at dksX5_fact_1 13 rfl rfl)
theorem dX5_fact_37 : decode cX5_fact 37 = .ok (.invokevirtual 108, 3) := dk_182 0 108 (dk_at dksX5_fact_1 14 rfl rfl)
theorem dX5_fact_40 : decode cX5_fact 40 = .ok (.goto 4, 3) := dk_167 0 4 (dk_at dksX5_fact_1 17 rfl rfl)
theorem dX5_fact_43 : decode cX5_fact 43 = .ok (.iconst 0, 1) := dk_3 (dk_at dksX5_fact_1 20 rfl rfl)
theorem dX5_fact_44 : decode cX5_fact 44 = .ok (.ireturn, 1) := dk_172 (dk_at dksX5_fact_1 21 rfl rfl)
abbrev cX5_known : ByteArray := prog_14_method_92_code
def yX5_known : MethodName := ⟨RX5, "known", "(II)I"⟩
def dkwX5_known_1 : List UInt8 := [167, 0, 4, 3, 4, 182, 0, 161, 153, 0, 12, 42, 27, 28, 182, 0, 117, 167, 0, 4, 3, 172]
abbrev dktX5_known_1 : List UInt8 := dkwX5_known_1 ++ []
def dkwX5_known_0 : List UInt8 := [42, 3, 181, 0, 56, 42, 42, 27, 182, 1, 39, 153, 0, 15, 42, 28, 182, 1, 39, 153, 0, 7, 4]
abbrev dktX5_known_0 : List UInt8 := dkwX5_known_0 ++ dktX5_known_1
theorem dksX5_known_0 : cX5_known.data.toList.drop 0 = dktX5_known_0 := by decide +kernel
theorem dksX5_known_1 : cX5_known.data.toList.drop 23 = dktX5_known_1 := dk_seg dksX5_known_0 23 rfl rfl
theorem dX5_known_0 : decode cX5_known 0 = .ok (.aload_n 0, 1) := dk_42 (dk_at dksX5_known_0 0 rfl rfl)
theorem dX5_known_1 : decode cX5_known 1 = .ok (.iconst 0, 1) := dk_3 (dk_at dksX5_known_0 1 rfl rfl)
theorem dX5_known_2 : decode cX5_known 2 = .ok (.putfield 56, 3) := dk_181 0 56 (dk_at dksX5_known_0 2 rfl rfl)
theorem dX5_known_5 : decode cX5_known 5 = .ok (.aload_n 0, 1) := dk_42 (dk_at dksX5_known_0 5 rfl rfl)
theorem dX5_known_6 : decode cX5_known 6 = .ok (.aload_n 0, 1) := dk_42 (dk_at dksX5_known_0 6 rfl rfl)
theorem dX5_known_7 : decode cX5_known 7 = .ok (.iload_n 1, 1) := dk_27 (dk_at dksX5_known_0 7 rfl rfl)
theorem dX5_known_8 : decode cX5_known 8 = .ok (.invokevirtual 295, 3) := dk_182 1 39 (dk_at dksX5_known_0 8 rfl rfl)
theorem dX5_known_11 : decode cX5_known 11 = .ok (.ifCond .eq 15, 3) := dk_153 0 15 (dk_at dksX5_known_0 11 rfl rfl)
theorem dX5_known_14 : decode cX5_known 14 = .ok (.aload_n 0, 1) := dk_42 (dk_at dksX5_known_0 14 rfl rfl)
theorem dX5_known_15 : decode cX5_known 15 = .ok (.iload_n 2, 1) := dk_28 (dk_at dksX5_known_0 15 rfl rfl)
theorem dX5_known_16 : decode cX5_known 16 = .ok (.invokevirtual 295, 3) := dk_182 1 39 (dk_at dksX5_known_0 16 rfl rfl)
theorem dX5_known_19 : decode cX5_known 19 = .ok (.ifCond .eq 7, 3) := dk_153 0 7 (dk_at dksX5_known_0 19 rfl rfl)
theorem dX5_known_22 : decode cX5_known 22 = .ok (.iconst 1, 1) := dk_4 (dk_at dksX5_known_0 22 rfl rfl)
theorem dX5_known_23 : decode cX5_known 23 = .ok (.goto 4, 3) := dk_167 0 4 (dk_at dksX5_known_1 0 rfl rfl)
theorem dX5_known_26 : decode cX5_known 26 = .ok (.iconst 0, 1) := dk_3 (dk_at dksX5_known_1 3 rfl rfl)
theorem dX5_known_27 : decode cX5_known 27 = .ok (.iconst 1, 1) := dk_4 (dk_at dksX5_known_1 4 rfl rfl)
theorem dX5_known_28 : decode cX5_known 28 = .ok (.invokevirtual 161, 3) := dk_182 0 161 (dk_at dksX5_known_1 5 rfl rfl)
theorem dX5_known_31 : decode cX5_known 31 = .ok (.ifCond .eq 12, 3) := dk_153 0 12 (dk_at dksX5_known_1 8 rfl rfl)
theorem dX5_known_34 : decode cX5_known 34 = .ok (.aload_n 0, 1) := dk_42 (dk_at dksX5_known_1 11 rfl rfl)
theorem dX5_known_35 : decode cX5_known 35 = .ok (.iload_n 1, 1) := dk_27 (dk_at dksX5_known_1 12 rfl rfl)
theorem dX5_known_36 : decode cX5_known 36 = .ok (.iload_n 2, 1) := dk_28 (dk_at dksX5_known_1 13 rfl rfl)
theorem dX5_known_37 : decode cX5_known 37 = .ok (.invokevirtual 117, 3) := dk_182 0 117 (dk_at dksX5_known_1 14 rfl rfl)
theorem dX5_known_40 : decode cX5_known 40 = .ok (.goto 4, 3) := dk_167 0 4 (dk_at dksX5_known_1 17 rfl rfl)
theorem dX5_known_43 : decode cX5_known 43 = .ok (.iconst 0, 1) := dk_3 (dk_at dksX5_known_1 20 rfl rfl)
theorem dX5_known_44 : decode cX5_known 44 = .ok (.ireturn, 1) := dk_172 (dk_at dksX5_known_1 21 rfl rfl)
abbrev cX5_why : ByteArray := prog_14_method_94_code
def yX5_why : MethodName := ⟨RX5, "why", "(III)I"⟩
def dkwX5_why_9 : List UInt8 := [182, 0, 98, 96, 172]
abbrev dktX5_why_9 : List UInt8 := dkwX5_why_9 ++ []
def dkwX5_why_8 : List UInt8 := [160, 0, 16, 17, 0, 200, 42, 180, 0, 20, 27, 46, 96, 167, 0, 13, 17, 1, 44, 42, 27, 28]
abbrev dktX5_why_8 : List UInt8 := dkwX5_why_8 ++ dktX5_why_9
def dkwX5_why_7 : List UInt8 := [167, 0, 50, 21, 5, 5, 160, 0, 15, 16, 100, 42, 27, 28, 182, 0, 108, 96, 167, 0, 32, 21, 5, 6]
abbrev dktX5_why_7 : List UInt8 := dkwX5_why_7 ++ dktX5_why_8
def dkwX5_why_6 : List UInt8 := [17, 1, 144, 42, 27, 21, 6, 182, 1, 84, 96, 167, 0, 4, 3, 172, 21, 5, 4, 160, 0, 7, 3]
abbrev dktX5_why_6 : List UInt8 := dkwX5_why_6 ++ dktX5_why_7
def dkwX5_why_5 : List UInt8 := [6, 160, 0, 10, 42, 28, 21, 6, 182, 0, 114, 29, 5, 160, 0, 25, 21, 5, 6, 160, 0, 17]
abbrev dktX5_why_5 : List UInt8 := dkwX5_why_5 ++ dktX5_why_6
def dkwX5_why_4 : List UInt8 := [54, 5, 29, 154, 0, 6, 21, 5, 172, 21, 4, 4, 160, 0, 7, 3, 167, 0, 4, 4, 54, 6, 21, 5]
abbrev dktX5_why_4 : List UInt8 := dkwX5_why_4 ++ dktX5_why_5
def dkwX5_why_3 : List UInt8 := [28, 182, 0, 108, 2, 159, 0, 7, 5, 167, 0, 14, 21, 4, 2, 159, 0, 7, 6, 167, 0, 4, 7]
abbrev dktX5_why_3 : List UInt8 := dkwX5_why_3 ++ dktX5_why_4
def dkwX5_why_2 : List UInt8 := [154, 0, 5, 3, 172, 42, 27, 28, 182, 0, 117, 54, 4, 27, 28, 160, 0, 7, 4, 167, 0, 28, 42, 27]
abbrev dktX5_why_2 : List UInt8 := dkwX5_why_2 ++ dktX5_why_3
def dkwX5_why_1 : List UInt8 := [167, 0, 4, 3, 4, 182, 0, 161, 153, 0, 17, 42, 29, 3, 5, 184, 0, 165, 5, 182, 0, 161]
abbrev dktX5_why_1 : List UInt8 := dkwX5_why_1 ++ dktX5_why_2
def dkwX5_why_0 : List UInt8 := [42, 3, 181, 0, 56, 42, 42, 27, 182, 1, 39, 153, 0, 15, 42, 28, 182, 1, 39, 153, 0, 7, 4]
abbrev dktX5_why_0 : List UInt8 := dkwX5_why_0 ++ dktX5_why_1
theorem dksX5_why_0 : cX5_why.data.toList.drop 0 = dktX5_why_0 := by decide +kernel
theorem dksX5_why_1 : cX5_why.data.toList.drop 23 = dktX5_why_1 := dk_seg dksX5_why_0 23 rfl rfl
theorem dksX5_why_2 : cX5_why.data.toList.drop 45 = dktX5_why_2 := dk_seg dksX5_why_1 22 rfl rfl
theorem dksX5_why_3 : cX5_why.data.toList.drop 69 = dktX5_why_3 := dk_seg dksX5_why_2 24 rfl rfl
theorem dksX5_why_4 : cX5_why.data.toList.drop 92 = dktX5_why_4 := dk_seg dksX5_why_3 23 rfl rfl
theorem dksX5_why_5 : cX5_why.data.toList.drop 116 = dktX5_why_5 := dk_seg dksX5_why_4 24 rfl rfl
theorem dksX5_why_6 : cX5_why.data.toList.drop 138 = dktX5_why_6 := dk_seg dksX5_why_5 22 rfl rfl
theorem dksX5_why_7 : cX5_why.data.toList.drop 161 = dktX5_why_7 := dk_seg dksX5_why_6 23 rfl rfl
theorem dksX5_why_8 : cX5_why.data.toList.drop 185 = dktX5_why_8 := dk_seg dksX5_why_7 24 rfl rfl
theorem dksX5_why_9 : cX5_why.data.toList.drop 207 = dktX5_why_9 := dk_seg dksX5_why_8 22 rfl rfl
theorem dX5_why_0 : decode cX5_why 0 = .ok (.aload_n 0, 1) := dk_42 (dk_at dksX5_why_0 0 rfl rfl)
theorem dX5_why_1 : decode cX5_why 1 = .ok (.iconst 0, 1) := dk_3 (dk_at dksX5_why_0 1 rfl rfl)
theorem dX5_why_2 : decode cX5_why 2 = .ok (.putfield 56, 3) := dk_181 0 56 (dk_at dksX5_why_0 2 rfl rfl)
theorem dX5_why_5 : decode cX5_why 5 = .ok (.aload_n 0, 1) := dk_42 (dk_at dksX5_why_0 5 rfl rfl)
theorem dX5_why_6 : decode cX5_why 6 = .ok (.aload_n 0, 1) := dk_42 (dk_at dksX5_why_0 6 rfl rfl)
theorem dX5_why_7 : decode cX5_why 7 = .ok (.iload_n 1, 1) := dk_27 (dk_at dksX5_why_0 7 rfl rfl)
theorem dX5_why_8 : decode cX5_why 8 = .ok (.invokevirtual 295, 3) := dk_182 1 39 (dk_at dksX5_why_0 8 rfl rfl)
theorem dX5_why_11 : decode cX5_why 11 = .ok (.ifCond .eq 15, 3) := dk_153 0 15 (dk_at dksX5_why_0 11 rfl rfl)
theorem dX5_why_14 : decode cX5_why 14 = .ok (.aload_n 0, 1) := dk_42 (dk_at dksX5_why_0 14 rfl rfl)
theorem dX5_why_15 : decode cX5_why 15 = .ok (.iload_n 2, 1) := dk_28 (dk_at dksX5_why_0 15 rfl rfl)
theorem dX5_why_16 : decode cX5_why 16 = .ok (.invokevirtual 295, 3) := dk_182 1 39 (dk_at dksX5_why_0 16 rfl rfl)
theorem dX5_why_19 : decode cX5_why 19 = .ok (.ifCond .eq 7, 3) := dk_153 0 7 (dk_at dksX5_why_0 19 rfl rfl)
theorem dX5_why_22 : decode cX5_why 22 = .ok (.iconst 1, 1) := dk_4 (dk_at dksX5_why_0 22 rfl rfl)
theorem dX5_why_23 : decode cX5_why 23 = .ok (.goto 4, 3) := dk_167 0 4 (dk_at dksX5_why_1 0 rfl rfl)
theorem dX5_why_26 : decode cX5_why 26 = .ok (.iconst 0, 1) := dk_3 (dk_at dksX5_why_1 3 rfl rfl)
theorem dX5_why_27 : decode cX5_why 27 = .ok (.iconst 1, 1) := dk_4 (dk_at dksX5_why_1 4 rfl rfl)
theorem dX5_why_28 : decode cX5_why 28 = .ok (.invokevirtual 161, 3) := dk_182 0 161 (dk_at dksX5_why_1 5 rfl rfl)
theorem dX5_why_31 : decode cX5_why 31 = .ok (.ifCond .eq 17, 3) := dk_153 0 17 (dk_at dksX5_why_1 8 rfl rfl)
theorem dX5_why_34 : decode cX5_why 34 = .ok (.aload_n 0, 1) := dk_42 (dk_at dksX5_why_1 11 rfl rfl)
theorem dX5_why_35 : decode cX5_why 35 = .ok (.iload_n 3, 1) := dk_29 (dk_at dksX5_why_1 12 rfl rfl)
theorem dX5_why_36 : decode cX5_why 36 = .ok (.iconst 0, 1) := dk_3 (dk_at dksX5_why_1 13 rfl rfl)
theorem dX5_why_37 : decode cX5_why 37 = .ok (.iconst 2, 1) := dk_5 (dk_at dksX5_why_1 14 rfl rfl)
theorem dX5_why_38 : decode cX5_why 38 = .ok (.invokestatic 165, 3) := dk_184 0 165 (dk_at dksX5_why_1 15 rfl rfl)
theorem dX5_why_41 : decode cX5_why 41 = .ok (.iconst 2, 1) := dk_5 (dk_at dksX5_why_1 18 rfl rfl)
theorem dX5_why_42 : decode cX5_why 42 = .ok (.invokevirtual 161, 3) := dk_182 0 161 (dk_at dksX5_why_1 19 rfl rfl)
theorem dX5_why_45 : decode cX5_why 45 = .ok (.ifCond .ne 5, 3) := dk_154 0 5 (dk_at dksX5_why_2 0 rfl rfl)
theorem dX5_why_48 : decode cX5_why 48 = .ok (.iconst 0, 1) := dk_3 (dk_at dksX5_why_2 3 rfl rfl)
theorem dX5_why_49 : decode cX5_why 49 = .ok (.ireturn, 1) := dk_172 (dk_at dksX5_why_2 4 rfl rfl)
theorem dX5_why_50 : decode cX5_why 50 = .ok (.aload_n 0, 1) := dk_42 (dk_at dksX5_why_2 5 rfl rfl)
theorem dX5_why_51 : decode cX5_why 51 = .ok (.iload_n 1, 1) := dk_27 (dk_at dksX5_why_2 6 rfl rfl)
theorem dX5_why_52 : decode cX5_why 52 = .ok (.iload_n 2, 1) := dk_28 (dk_at dksX5_why_2 7 rfl rfl)
theorem dX5_why_53 : decode cX5_why 53 = .ok (.invokevirtual 117, 3) := dk_182 0 117 (dk_at dksX5_why_2 8 rfl rfl)
theorem dX5_why_56 : decode cX5_why 56 = .ok (.istore 4, 2) := dk_54 4 (dk_at dksX5_why_2 11 rfl rfl)
theorem dX5_why_58 : decode cX5_why 58 = .ok (.iload_n 1, 1) := dk_27 (dk_at dksX5_why_2 13 rfl rfl)
theorem dX5_why_59 : decode cX5_why 59 = .ok (.iload_n 2, 1) := dk_28 (dk_at dksX5_why_2 14 rfl rfl)
theorem dX5_why_60 : decode cX5_why 60 = .ok (.if_icmp .ne 7, 3) := dk_160 0 7 (dk_at dksX5_why_2 15 rfl rfl)
theorem dX5_why_63 : decode cX5_why 63 = .ok (.iconst 1, 1) := dk_4 (dk_at dksX5_why_2 18 rfl rfl)
theorem dX5_why_64 : decode cX5_why 64 = .ok (.goto 28, 3) := dk_167 0 28 (dk_at dksX5_why_2 19 rfl rfl)
theorem dX5_why_67 : decode cX5_why 67 = .ok (.aload_n 0, 1) := dk_42 (dk_at dksX5_why_2 22 rfl rfl)
theorem dX5_why_68 : decode cX5_why 68 = .ok (.iload_n 1, 1) := dk_27 (dk_at dksX5_why_2 23 rfl rfl)
theorem dX5_why_69 : decode cX5_why 69 = .ok (.iload_n 2, 1) := dk_28 (dk_at dksX5_why_3 0 rfl rfl)
theorem dX5_why_70 : decode cX5_why 70 = .ok (.invokevirtual 108, 3) := dk_182 0 108 (dk_at dksX5_why_3 1 rfl rfl)
theorem dX5_why_73 : decode cX5_why 73 = .ok (.iconst (-1), 1) := dk_2 (dk_at dksX5_why_3 4 rfl rfl)
theorem dX5_why_74 : decode cX5_why 74 = .ok (.if_icmp .eq 7, 3) := dk_159 0 7 (dk_at dksX5_why_3 5 rfl rfl)
theorem dX5_why_77 : decode cX5_why 77 = .ok (.iconst 2, 1) := dk_5 (dk_at dksX5_why_3 8 rfl rfl)
theorem dX5_why_78 : decode cX5_why 78 = .ok (.goto 14, 3) := dk_167 0 14 (dk_at dksX5_why_3 9 rfl rfl)
theorem dX5_why_81 : decode cX5_why 81 = .ok (.iload 4, 2) := dk_21 4 (dk_at dksX5_why_3 12 rfl rfl)
theorem dX5_why_83 : decode cX5_why 83 = .ok (.iconst (-1), 1) := dk_2 (dk_at dksX5_why_3 14 rfl rfl)
theorem dX5_why_84 : decode cX5_why 84 = .ok (.if_icmp .eq 7, 3) := dk_159 0 7 (dk_at dksX5_why_3 15 rfl rfl)
theorem dX5_why_87 : decode cX5_why 87 = .ok (.iconst 3, 1) := dk_6 (dk_at dksX5_why_3 18 rfl rfl)
theorem dX5_why_88 : decode cX5_why 88 = .ok (.goto 4, 3) := dk_167 0 4 (dk_at dksX5_why_3 19 rfl rfl)
theorem dX5_why_91 : decode cX5_why 91 = .ok (.iconst 4, 1) := dk_7 (dk_at dksX5_why_3 22 rfl rfl)
theorem dX5_why_92 : decode cX5_why 92 = .ok (.istore 5, 2) := dk_54 5 (dk_at dksX5_why_4 0 rfl rfl)
theorem dX5_why_94 : decode cX5_why 94 = .ok (.iload_n 3, 1) := dk_29 (dk_at dksX5_why_4 2 rfl rfl)
theorem dX5_why_95 : decode cX5_why 95 = .ok (.ifCond .ne 6, 3) := dk_154 0 6 (dk_at dksX5_why_4 3 rfl rfl)
theorem dX5_why_98 : decode cX5_why 98 = .ok (.iload 5, 2) := dk_21 5 (dk_at dksX5_why_4 6 rfl rfl)
theorem dX5_why_100 : decode cX5_why 100 = .ok (.ireturn, 1) := dk_172 (dk_at dksX5_why_4 8 rfl rfl)
theorem dX5_why_101 : decode cX5_why 101 = .ok (.iload 4, 2) := dk_21 4 (dk_at dksX5_why_4 9 rfl rfl)
theorem dX5_why_103 : decode cX5_why 103 = .ok (.iconst 1, 1) := dk_4 (dk_at dksX5_why_4 11 rfl rfl)
theorem dX5_why_104 : decode cX5_why 104 = .ok (.if_icmp .ne 7, 3) := dk_160 0 7 (dk_at dksX5_why_4 12 rfl rfl)
theorem dX5_why_107 : decode cX5_why 107 = .ok (.iconst 0, 1) := dk_3 (dk_at dksX5_why_4 15 rfl rfl)
theorem dX5_why_108 : decode cX5_why 108 = .ok (.goto 4, 3) := dk_167 0 4 (dk_at dksX5_why_4 16 rfl rfl)
theorem dX5_why_111 : decode cX5_why 111 = .ok (.iconst 1, 1) := dk_4 (dk_at dksX5_why_4 19 rfl rfl)
theorem dX5_why_112 : decode cX5_why 112 = .ok (.istore 6, 2) := dk_54 6 (dk_at dksX5_why_4 20 rfl rfl)
theorem dX5_why_114 : decode cX5_why 114 = .ok (.iload 5, 2) := dk_21 5 (dk_at dksX5_why_4 22 rfl rfl)
theorem dX5_why_116 : decode cX5_why 116 = .ok (.iconst 3, 1) := dk_6 (dk_at dksX5_why_5 0 rfl rfl)
theorem dX5_why_117 : decode cX5_why 117 = .ok (.if_icmp .ne 10, 3) := dk_160 0 10 (dk_at dksX5_why_5 1 rfl rfl)
theorem dX5_why_120 : decode cX5_why 120 = .ok (.aload_n 0, 1) := dk_42 (dk_at dksX5_why_5 4 rfl rfl)
theorem dX5_why_121 : decode cX5_why 121 = .ok (.iload_n 2, 1) := dk_28 (dk_at dksX5_why_5 5 rfl rfl)
theorem dX5_why_122 : decode cX5_why 122 = .ok (.iload 6, 2) := dk_21 6 (dk_at dksX5_why_5 6 rfl rfl)
theorem dX5_why_124 : decode cX5_why 124 = .ok (.invokevirtual 114, 3) := dk_182 0 114 (dk_at dksX5_why_5 8 rfl rfl)
theorem dX5_why_127 : decode cX5_why 127 = .ok (.iload_n 3, 1) := dk_29 (dk_at dksX5_why_5 11 rfl rfl)
theorem dX5_why_128 : decode cX5_why 128 = .ok (.iconst 2, 1) := dk_5 (dk_at dksX5_why_5 12 rfl rfl)
theorem dX5_why_129 : decode cX5_why 129 = .ok (.if_icmp .ne 25, 3) := dk_160 0 25 (dk_at dksX5_why_5 13 rfl rfl)
theorem dX5_why_132 : decode cX5_why 132 = .ok (.iload 5, 2) := dk_21 5 (dk_at dksX5_why_5 16 rfl rfl)
theorem dX5_why_134 : decode cX5_why 134 = .ok (.iconst 3, 1) := dk_6 (dk_at dksX5_why_5 18 rfl rfl)
theorem dX5_why_135 : decode cX5_why 135 = .ok (.if_icmp .ne 17, 3) := dk_160 0 17 (dk_at dksX5_why_5 19 rfl rfl)
theorem dX5_why_138 : decode cX5_why 138 = .ok (.sipush 400, 3) := dk_17 1 144 (dk_at dksX5_why_6 0 rfl rfl)
theorem dX5_why_141 : decode cX5_why 141 = .ok (.aload_n 0, 1) := dk_42 (dk_at dksX5_why_6 3 rfl rfl)
theorem dX5_why_142 : decode cX5_why 142 = .ok (.iload_n 1, 1) := dk_27 (dk_at dksX5_why_6 4 rfl rfl)
theorem dX5_why_143 : decode cX5_why 143 = .ok (.iload 6, 2) := dk_21 6 (dk_at dksX5_why_6 5 rfl rfl)
theorem dX5_why_145 : decode cX5_why 145 = .ok (.invokevirtual 340, 3) := dk_182 1 84 (dk_at dksX5_why_6 7 rfl rfl)
theorem dX5_why_148 : decode cX5_why 148 = .ok (.iadd, 1) := dk_96 (dk_at dksX5_why_6 10 rfl rfl)
theorem dX5_why_149 : decode cX5_why 149 = .ok (.goto 4, 3) := dk_167 0 4 (dk_at dksX5_why_6 11 rfl rfl)
theorem dX5_why_152 : decode cX5_why 152 = .ok (.iconst 0, 1) := dk_3 (dk_at dksX5_why_6 14 rfl rfl)
theorem dX5_why_153 : decode cX5_why 153 = .ok (.ireturn, 1) := dk_172 (dk_at dksX5_why_6 15 rfl rfl)
theorem dX5_why_154 : decode cX5_why 154 = .ok (.iload 5, 2) := dk_21 5 (dk_at dksX5_why_6 16 rfl rfl)
theorem dX5_why_156 : decode cX5_why 156 = .ok (.iconst 1, 1) := dk_4 (dk_at dksX5_why_6 18 rfl rfl)
theorem dX5_why_157 : decode cX5_why 157 = .ok (.if_icmp .ne 7, 3) := dk_160 0 7 (dk_at dksX5_why_6 19 rfl rfl)
theorem dX5_why_160 : decode cX5_why 160 = .ok (.iconst 0, 1) := dk_3 (dk_at dksX5_why_6 22 rfl rfl)
theorem dX5_why_161 : decode cX5_why 161 = .ok (.goto 50, 3) := dk_167 0 50 (dk_at dksX5_why_7 0 rfl rfl)
theorem dX5_why_164 : decode cX5_why 164 = .ok (.iload 5, 2) := dk_21 5 (dk_at dksX5_why_7 3 rfl rfl)
theorem dX5_why_166 : decode cX5_why 166 = .ok (.iconst 2, 1) := dk_5 (dk_at dksX5_why_7 5 rfl rfl)
theorem dX5_why_167 : decode cX5_why 167 = .ok (.if_icmp .ne 15, 3) := dk_160 0 15 (dk_at dksX5_why_7 6 rfl rfl)
theorem dX5_why_170 : decode cX5_why 170 = .ok (.bipush 100, 2) := dk_16 100 (dk_at dksX5_why_7 9 rfl rfl)
theorem dX5_why_172 : decode cX5_why 172 = .ok (.aload_n 0, 1) := dk_42 (dk_at dksX5_why_7 11 rfl rfl)
theorem dX5_why_173 : decode cX5_why 173 = .ok (.iload_n 1, 1) := dk_27 (dk_at dksX5_why_7 12 rfl rfl)
theorem dX5_why_174 : decode cX5_why 174 = .ok (.iload_n 2, 1) := dk_28 (dk_at dksX5_why_7 13 rfl rfl)
theorem dX5_why_175 : decode cX5_why 175 = .ok (.invokevirtual 108, 3) := dk_182 0 108 (dk_at dksX5_why_7 14 rfl rfl)
theorem dX5_why_178 : decode cX5_why 178 = .ok (.iadd, 1) := dk_96 (dk_at dksX5_why_7 17 rfl rfl)
theorem dX5_why_179 : decode cX5_why 179 = .ok (.goto 32, 3) := dk_167 0 32 (dk_at dksX5_why_7 18 rfl rfl)
theorem dX5_why_182 : decode cX5_why 182 = .ok (.iload 5, 2) := dk_21 5 (dk_at dksX5_why_7 21 rfl rfl)
theorem dX5_why_184 : decode cX5_why 184 = .ok (.iconst 3, 1) := dk_6 (dk_at dksX5_why_7 23 rfl rfl)
theorem dX5_why_185 : decode cX5_why 185 = .ok (.if_icmp .ne 16, 3) := dk_160 0 16 (dk_at dksX5_why_8 0 rfl rfl)
theorem dX5_why_188 : decode cX5_why 188 = .ok (.sipush 200, 3) := dk_17 0 200 (dk_at dksX5_why_8 3 rfl rfl)
theorem dX5_why_191 : decode cX5_why 191 = .ok (.aload_n 0, 1) := dk_42 (dk_at dksX5_why_8 6 rfl rfl)
theorem dX5_why_192 : decode cX5_why 192 = .ok (.getfield 20, 3) := dk_180 0 20 (dk_at dksX5_why_8 7 rfl rfl)
theorem dX5_why_195 : decode cX5_why 195 = .ok (.iload_n 1, 1) := dk_27 (dk_at dksX5_why_8 10 rfl rfl)
theorem dX5_why_196 : decode cX5_why 196 = .ok (.iaload, 1) := dk_46 (dk_at dksX5_why_8 11 rfl rfl)
theorem dX5_why_197 : decode cX5_why 197 = .ok (.iadd, 1) := dk_96 (dk_at dksX5_why_8 12 rfl rfl)
theorem dX5_why_198 : decode cX5_why 198 = .ok (.goto 13, 3) := dk_167 0 13 (dk_at dksX5_why_8 13 rfl rfl)
theorem dX5_why_201 : decode cX5_why 201 = .ok (.sipush 300, 3) := dk_17 1 44 (dk_at dksX5_why_8 16 rfl rfl)
theorem dX5_why_204 : decode cX5_why 204 = .ok (.aload_n 0, 1) := dk_42 (dk_at dksX5_why_8 19 rfl rfl)
theorem dX5_why_205 : decode cX5_why 205 = .ok (.iload_n 1, 1) := dk_27 (dk_at dksX5_why_8 20 rfl rfl)
theorem dX5_why_206 : decode cX5_why 206 = .ok (.iload_n 2, 1) := dk_28 (dk_at dksX5_why_8 21 rfl rfl)
theorem dX5_why_207 : decode cX5_why 207 = .ok (.invokevirtual 98, 3) := dk_182 0 98 (dk_at dksX5_why_9 0 rfl rfl)
theorem dX5_why_210 : decode cX5_why 210 = .ok (.iadd, 1) := dk_96 (dk_at dksX5_why_9 3 rfl rfl)
theorem dX5_why_211 : decode cX5_why 211 = .ok (.ireturn, 1) := dk_172 (dk_at dksX5_why_9 4 rfl rfl)
abbrev cX5_secondOn : ByteArray := prog_14_method_93_code
def yX5_secondOn : MethodName := ⟨RX5, "secondOn", "(II)I"⟩
def dkwX5_secondOn_2 : List UInt8 := [172]
abbrev dktX5_secondOn_2 : List UInt8 := dkwX5_secondOn_2 ++ []
def dkwX5_secondOn_1 : List UInt8 := [182, 0, 108, 2, 159, 0, 13, 42, 27, 29, 182, 0, 108, 28, 160, 0, 9, 132, 3, 1, 167, 255, 216, 29]
abbrev dktX5_secondOn_1 : List UInt8 := dkwX5_secondOn_1 ++ dktX5_secondOn_2
def dkwX5_secondOn_0 : List UInt8 := [3, 62, 42, 180, 0, 20, 29, 46, 42, 180, 0, 20, 27, 46, 4, 100, 160, 0, 23, 42, 27, 29]
abbrev dktX5_secondOn_0 : List UInt8 := dkwX5_secondOn_0 ++ dktX5_secondOn_1
theorem dksX5_secondOn_0 : cX5_secondOn.data.toList.drop 0 = dktX5_secondOn_0 := by decide +kernel
theorem dksX5_secondOn_1 : cX5_secondOn.data.toList.drop 22 = dktX5_secondOn_1 := dk_seg dksX5_secondOn_0 22 rfl rfl
theorem dksX5_secondOn_2 : cX5_secondOn.data.toList.drop 46 = dktX5_secondOn_2 := dk_seg dksX5_secondOn_1 24 rfl rfl
theorem dX5_secondOn_0 : decode cX5_secondOn 0 = .ok (.iconst 0, 1) := dk_3 (dk_at dksX5_secondOn_0 0 rfl rfl)
theorem dX5_secondOn_1 : decode cX5_secondOn 1 = .ok (.istore_n 3, 1) := dk_62 (dk_at dksX5_secondOn_0 1 rfl rfl)
theorem dX5_secondOn_2 : decode cX5_secondOn 2 = .ok (.aload_n 0, 1) := dk_42 (dk_at dksX5_secondOn_0 2 rfl rfl)
theorem dX5_secondOn_3 : decode cX5_secondOn 3 = .ok (.getfield 20, 3) := dk_180 0 20 (dk_at dksX5_secondOn_0 3 rfl rfl)
theorem dX5_secondOn_6 : decode cX5_secondOn 6 = .ok (.iload_n 3, 1) := dk_29 (dk_at dksX5_secondOn_0 6 rfl rfl)
theorem dX5_secondOn_7 : decode cX5_secondOn 7 = .ok (.iaload, 1) := dk_46 (dk_at dksX5_secondOn_0 7 rfl rfl)
theorem dX5_secondOn_8 : decode cX5_secondOn 8 = .ok (.aload_n 0, 1) := dk_42 (dk_at dksX5_secondOn_0 8 rfl rfl)
theorem dX5_secondOn_9 : decode cX5_secondOn 9 = .ok (.getfield 20, 3) := dk_180 0 20 (dk_at dksX5_secondOn_0 9 rfl rfl)
theorem dX5_secondOn_12 : decode cX5_secondOn 12 = .ok (.iload_n 1, 1) := dk_27 (dk_at dksX5_secondOn_0 12 rfl rfl)
theorem dX5_secondOn_13 : decode cX5_secondOn 13 = .ok (.iaload, 1) := dk_46 (dk_at dksX5_secondOn_0 13 rfl rfl)
theorem dX5_secondOn_14 : decode cX5_secondOn 14 = .ok (.iconst 1, 1) := dk_4 (dk_at dksX5_secondOn_0 14 rfl rfl)
theorem dX5_secondOn_15 : decode cX5_secondOn 15 = .ok (.isub, 1) := dk_100 (dk_at dksX5_secondOn_0 15 rfl rfl)
theorem dX5_secondOn_16 : decode cX5_secondOn 16 = .ok (.if_icmp .ne 23, 3) := dk_160 0 23 (dk_at dksX5_secondOn_0 16 rfl rfl)
theorem dX5_secondOn_19 : decode cX5_secondOn 19 = .ok (.aload_n 0, 1) := dk_42 (dk_at dksX5_secondOn_0 19 rfl rfl)
theorem dX5_secondOn_20 : decode cX5_secondOn 20 = .ok (.iload_n 1, 1) := dk_27 (dk_at dksX5_secondOn_0 20 rfl rfl)
theorem dX5_secondOn_21 : decode cX5_secondOn 21 = .ok (.iload_n 3, 1) := dk_29 (dk_at dksX5_secondOn_0 21 rfl rfl)
theorem dX5_secondOn_22 : decode cX5_secondOn 22 = .ok (.invokevirtual 108, 3) := dk_182 0 108 (dk_at dksX5_secondOn_1 0 rfl rfl)
theorem dX5_secondOn_25 : decode cX5_secondOn 25 = .ok (.iconst (-1), 1) := dk_2 (dk_at dksX5_secondOn_1 3 rfl rfl)
theorem dX5_secondOn_26 : decode cX5_secondOn 26 = .ok (.if_icmp .eq 13, 3) := dk_159 0 13 (dk_at dksX5_secondOn_1 4 rfl rfl)
theorem dX5_secondOn_29 : decode cX5_secondOn 29 = .ok (.aload_n 0, 1) := dk_42 (dk_at dksX5_secondOn_1 7 rfl rfl)
theorem dX5_secondOn_30 : decode cX5_secondOn 30 = .ok (.iload_n 1, 1) := dk_27 (dk_at dksX5_secondOn_1 8 rfl rfl)
theorem dX5_secondOn_31 : decode cX5_secondOn 31 = .ok (.iload_n 3, 1) := dk_29 (dk_at dksX5_secondOn_1 9 rfl rfl)
theorem dX5_secondOn_32 : decode cX5_secondOn 32 = .ok (.invokevirtual 108, 3) := dk_182 0 108 (dk_at dksX5_secondOn_1 10 rfl rfl)
theorem dX5_secondOn_35 : decode cX5_secondOn 35 = .ok (.iload_n 2, 1) := dk_28 (dk_at dksX5_secondOn_1 13 rfl rfl)
theorem dX5_secondOn_36 : decode cX5_secondOn 36 = .ok (.if_icmp .ne 9, 3) := dk_160 0 9 (dk_at dksX5_secondOn_1 14 rfl rfl)
theorem dX5_secondOn_39 : decode cX5_secondOn 39 = .ok (.iinc 3 1, 3) := dk_132 3 1 (dk_at dksX5_secondOn_1 17 rfl rfl)
theorem dX5_secondOn_42 : decode cX5_secondOn 42 = .ok (.goto (-40), 3) := dk_167 255 216 (dk_at dksX5_secondOn_1 20 rfl rfl)
theorem dX5_secondOn_45 : decode cX5_secondOn 45 = .ok (.iload_n 3, 1) := dk_29 (dk_at dksX5_secondOn_1 23 rfl rfl)
theorem dX5_secondOn_46 : decode cX5_secondOn 46 = .ok (.ireturn, 1) := dk_172 (dk_at dksX5_secondOn_2 0 rfl rfl)
abbrev cX5_knownPairs : ByteArray := prog_14_method_95_code
def yX5_knownPairs : MethodName := ⟨RX5, "knownPairs", "()I"⟩
def dkwX5_knownPairs_0 : List UInt8 := [42, 3, 181, 0, 56, 42, 182, 1, 87, 172]
abbrev dktX5_knownPairs_0 : List UInt8 := dkwX5_knownPairs_0 ++ []
theorem dksX5_knownPairs_0 : cX5_knownPairs.data.toList.drop 0 = dktX5_knownPairs_0 := by decide +kernel
theorem dX5_knownPairs_0 : decode cX5_knownPairs 0 = .ok (.aload_n 0, 1) := dk_42 (dk_at dksX5_knownPairs_0 0 rfl rfl)
theorem dX5_knownPairs_1 : decode cX5_knownPairs 1 = .ok (.iconst 0, 1) := dk_3 (dk_at dksX5_knownPairs_0 1 rfl rfl)
theorem dX5_knownPairs_2 : decode cX5_knownPairs 2 = .ok (.putfield 56, 3) := dk_181 0 56 (dk_at dksX5_knownPairs_0 2 rfl rfl)
theorem dX5_knownPairs_5 : decode cX5_knownPairs 5 = .ok (.aload_n 0, 1) := dk_42 (dk_at dksX5_knownPairs_0 5 rfl rfl)
theorem dX5_knownPairs_6 : decode cX5_knownPairs 6 = .ok (.invokevirtual 343, 3) := dk_182 1 87 (dk_at dksX5_knownPairs_0 6 rfl rfl)
theorem dX5_knownPairs_9 : decode cX5_knownPairs 9 = .ok (.ireturn, 1) := dk_172 (dk_at dksX5_knownPairs_0 9 rfl rfl)
abbrev cX5_allKnown : ByteArray := prog_14_method_36_code
def yX5_allKnown : MethodName := ⟨RX5, "allKnown", "()I"⟩
def dkwX5_allKnown_1 : List UInt8 := [167, 255, 236, 27, 5, 108, 172]
abbrev dktX5_allKnown_1 : List UInt8 := dkwX5_allKnown_1 ++ []
def dkwX5_allKnown_0 : List UInt8 := [3, 60, 3, 61, 28, 42, 4, 182, 0, 65, 162, 0, 17, 27, 42, 28, 182, 0, 120, 96, 60, 132, 2, 1]
abbrev dktX5_allKnown_0 : List UInt8 := dkwX5_allKnown_0 ++ dktX5_allKnown_1
theorem dksX5_allKnown_0 : cX5_allKnown.data.toList.drop 0 = dktX5_allKnown_0 := by decide +kernel
theorem dksX5_allKnown_1 : cX5_allKnown.data.toList.drop 24 = dktX5_allKnown_1 := dk_seg dksX5_allKnown_0 24 rfl rfl
theorem dX5_allKnown_0 : decode cX5_allKnown 0 = .ok (.iconst 0, 1) := dk_3 (dk_at dksX5_allKnown_0 0 rfl rfl)
theorem dX5_allKnown_1 : decode cX5_allKnown 1 = .ok (.istore_n 1, 1) := dk_60 (dk_at dksX5_allKnown_0 1 rfl rfl)
theorem dX5_allKnown_2 : decode cX5_allKnown 2 = .ok (.iconst 0, 1) := dk_3 (dk_at dksX5_allKnown_0 2 rfl rfl)
theorem dX5_allKnown_3 : decode cX5_allKnown 3 = .ok (.istore_n 2, 1) := dk_61 (dk_at dksX5_allKnown_0 3 rfl rfl)
theorem dX5_allKnown_4 : decode cX5_allKnown 4 = .ok (.iload_n 2, 1) := dk_28 (dk_at dksX5_allKnown_0 4 rfl rfl)
theorem dX5_allKnown_5 : decode cX5_allKnown 5 = .ok (.aload_n 0, 1) := dk_42 (dk_at dksX5_allKnown_0 5 rfl rfl)
theorem dX5_allKnown_6 : decode cX5_allKnown 6 = .ok (.iconst 1, 1) := dk_4 (dk_at dksX5_allKnown_0 6 rfl rfl)
theorem dX5_allKnown_7 : decode cX5_allKnown 7 = .ok (.invokevirtual 65, 3) := dk_182 0 65 (dk_at dksX5_allKnown_0 7 rfl rfl)
theorem dX5_allKnown_10 : decode cX5_allKnown 10 = .ok (.if_icmp .ge 17, 3) := dk_162 0 17 (dk_at dksX5_allKnown_0 10 rfl rfl)
theorem dX5_allKnown_13 : decode cX5_allKnown 13 = .ok (.iload_n 1, 1) := dk_27 (dk_at dksX5_allKnown_0 13 rfl rfl)
theorem dX5_allKnown_14 : decode cX5_allKnown 14 = .ok (.aload_n 0, 1) := dk_42 (dk_at dksX5_allKnown_0 14 rfl rfl)
theorem dX5_allKnown_15 : decode cX5_allKnown 15 = .ok (.iload_n 2, 1) := dk_28 (dk_at dksX5_allKnown_0 15 rfl rfl)
theorem dX5_allKnown_16 : decode cX5_allKnown 16 = .ok (.invokevirtual 120, 3) := dk_182 0 120 (dk_at dksX5_allKnown_0 16 rfl rfl)
theorem dX5_allKnown_19 : decode cX5_allKnown 19 = .ok (.iadd, 1) := dk_96 (dk_at dksX5_allKnown_0 19 rfl rfl)
theorem dX5_allKnown_20 : decode cX5_allKnown 20 = .ok (.istore_n 1, 1) := dk_60 (dk_at dksX5_allKnown_0 20 rfl rfl)
theorem dX5_allKnown_21 : decode cX5_allKnown 21 = .ok (.iinc 2 1, 3) := dk_132 2 1 (dk_at dksX5_allKnown_0 21 rfl rfl)
theorem dX5_allKnown_24 : decode cX5_allKnown 24 = .ok (.goto (-20), 3) := dk_167 255 236 (dk_at dksX5_allKnown_1 0 rfl rfl)
theorem dX5_allKnown_27 : decode cX5_allKnown 27 = .ok (.iload_n 1, 1) := dk_27 (dk_at dksX5_allKnown_1 3 rfl rfl)
theorem dX5_allKnown_28 : decode cX5_allKnown 28 = .ok (.iconst 2, 1) := dk_5 (dk_at dksX5_allKnown_1 4 rfl rfl)
theorem dX5_allKnown_29 : decode cX5_allKnown 29 = .ok (.idiv, 1) := dk_108 (dk_at dksX5_allKnown_1 5 rfl rfl)
theorem dX5_allKnown_30 : decode cX5_allKnown 30 = .ok (.ireturn, 1) := dk_172 (dk_at dksX5_allKnown_1 6 rfl rfl)
abbrev cX5_seemsRight : ByteArray := prog_14_method_96_code
def yX5_seemsRight : MethodName := ⟨RX5, "seemsRight", "(I)Z"⟩
def dkwX5_seemsRight_2 : List UInt8 := [167, 0, 4, 3, 172]
abbrev dktX5_seemsRight_2 : List UInt8 := dkwX5_seemsRight_2 ++ []
def dkwX5_seemsRight_1 : List UInt8 := [182, 0, 123, 42, 27, 4, 182, 0, 123, 182, 0, 98, 42, 27, 6, 182, 0, 73, 160, 0, 7, 4]
abbrev dktX5_seemsRight_1 : List UInt8 := dkwX5_seemsRight_1 ++ dktX5_seemsRight_2
def dkwX5_seemsRight_0 : List UInt8 := [42, 3, 181, 0, 56, 42, 42, 27, 182, 1, 75, 4, 182, 0, 161, 153, 0, 32, 42, 42, 27, 3]
abbrev dktX5_seemsRight_0 : List UInt8 := dkwX5_seemsRight_0 ++ dktX5_seemsRight_1
theorem dksX5_seemsRight_0 : cX5_seemsRight.data.toList.drop 0 = dktX5_seemsRight_0 := by decide +kernel
theorem dksX5_seemsRight_1 : cX5_seemsRight.data.toList.drop 22 = dktX5_seemsRight_1 := dk_seg dksX5_seemsRight_0 22 rfl rfl
theorem dksX5_seemsRight_2 : cX5_seemsRight.data.toList.drop 44 = dktX5_seemsRight_2 := dk_seg dksX5_seemsRight_1 22 rfl rfl
theorem dX5_seemsRight_0 : decode cX5_seemsRight 0 = .ok (.aload_n 0, 1) := dk_42 (dk_at dksX5_seemsRight_0 0 rfl rfl)
theorem dX5_seemsRight_1 : decode cX5_seemsRight 1 = .ok (.iconst 0, 1) := dk_3 (dk_at dksX5_seemsRight_0 1 rfl rfl)
theorem dX5_seemsRight_2 : decode cX5_seemsRight 2 = .ok (.putfield 56, 3) := dk_181 0 56 (dk_at dksX5_seemsRight_0 2 rfl rfl)
theorem dX5_seemsRight_5 : decode cX5_seemsRight 5 = .ok (.aload_n 0, 1) := dk_42 (dk_at dksX5_seemsRight_0 5 rfl rfl)
theorem dX5_seemsRight_6 : decode cX5_seemsRight 6 = .ok (.aload_n 0, 1) := dk_42 (dk_at dksX5_seemsRight_0 6 rfl rfl)
theorem dX5_seemsRight_7 : decode cX5_seemsRight 7 = .ok (.iload_n 1, 1) := dk_27 (dk_at dksX5_seemsRight_0 7 rfl rfl)
theorem dX5_seemsRight_8 : decode cX5_seemsRight 8 = .ok (.invokevirtual 331, 3) := dk_182 1 75 (dk_at dksX5_seemsRight_0 8 rfl rfl)
theorem dX5_seemsRight_11 : decode cX5_seemsRight 11 = .ok (.iconst 1, 1) := dk_4 (dk_at dksX5_seemsRight_0 11 rfl rfl)
theorem dX5_seemsRight_12 : decode cX5_seemsRight 12 = .ok (.invokevirtual 161, 3) := dk_182 0 161 (dk_at dksX5_seemsRight_0 12 rfl rfl)
theorem dX5_seemsRight_15 : decode cX5_seemsRight 15 = .ok (.ifCond .eq 32, 3) := dk_153 0 32 (dk_at dksX5_seemsRight_0 15 rfl rfl)
theorem dX5_seemsRight_18 : decode cX5_seemsRight 18 = .ok (.aload_n 0, 1) := dk_42 (dk_at dksX5_seemsRight_0 18 rfl rfl)
theorem dX5_seemsRight_19 : decode cX5_seemsRight 19 = .ok (.aload_n 0, 1) := dk_42 (dk_at dksX5_seemsRight_0 19 rfl rfl)
theorem dX5_seemsRight_20 : decode cX5_seemsRight 20 = .ok (.iload_n 1, 1) := dk_27 (dk_at dksX5_seemsRight_0 20 rfl rfl)
theorem dX5_seemsRight_21 : decode cX5_seemsRight 21 = .ok (.iconst 0, 1) := dk_3 (dk_at dksX5_seemsRight_0 21 rfl rfl)
theorem dX5_seemsRight_22 : decode cX5_seemsRight 22 = .ok (.invokevirtual 123, 3) := dk_182 0 123 (dk_at dksX5_seemsRight_1 0 rfl rfl)
theorem dX5_seemsRight_25 : decode cX5_seemsRight 25 = .ok (.aload_n 0, 1) := dk_42 (dk_at dksX5_seemsRight_1 3 rfl rfl)
theorem dX5_seemsRight_26 : decode cX5_seemsRight 26 = .ok (.iload_n 1, 1) := dk_27 (dk_at dksX5_seemsRight_1 4 rfl rfl)
theorem dX5_seemsRight_27 : decode cX5_seemsRight 27 = .ok (.iconst 1, 1) := dk_4 (dk_at dksX5_seemsRight_1 5 rfl rfl)
theorem dX5_seemsRight_28 : decode cX5_seemsRight 28 = .ok (.invokevirtual 123, 3) := dk_182 0 123 (dk_at dksX5_seemsRight_1 6 rfl rfl)
theorem dX5_seemsRight_31 : decode cX5_seemsRight 31 = .ok (.invokevirtual 98, 3) := dk_182 0 98 (dk_at dksX5_seemsRight_1 9 rfl rfl)
theorem dX5_seemsRight_34 : decode cX5_seemsRight 34 = .ok (.aload_n 0, 1) := dk_42 (dk_at dksX5_seemsRight_1 12 rfl rfl)
theorem dX5_seemsRight_35 : decode cX5_seemsRight 35 = .ok (.iload_n 1, 1) := dk_27 (dk_at dksX5_seemsRight_1 13 rfl rfl)
theorem dX5_seemsRight_36 : decode cX5_seemsRight 36 = .ok (.iconst 3, 1) := dk_6 (dk_at dksX5_seemsRight_1 14 rfl rfl)
theorem dX5_seemsRight_37 : decode cX5_seemsRight 37 = .ok (.invokevirtual 73, 3) := dk_182 0 73 (dk_at dksX5_seemsRight_1 15 rfl rfl)
theorem dX5_seemsRight_40 : decode cX5_seemsRight 40 = .ok (.if_icmp .ne 7, 3) := dk_160 0 7 (dk_at dksX5_seemsRight_1 18 rfl rfl)
theorem dX5_seemsRight_43 : decode cX5_seemsRight 43 = .ok (.iconst 1, 1) := dk_4 (dk_at dksX5_seemsRight_1 21 rfl rfl)
theorem dX5_seemsRight_44 : decode cX5_seemsRight 44 = .ok (.goto 4, 3) := dk_167 0 4 (dk_at dksX5_seemsRight_2 0 rfl rfl)
theorem dX5_seemsRight_47 : decode cX5_seemsRight 47 = .ok (.iconst 0, 1) := dk_3 (dk_at dksX5_seemsRight_2 3 rfl rfl)
theorem dX5_seemsRight_48 : decode cX5_seemsRight 48 = .ok (.ireturn, 1) := dk_172 (dk_at dksX5_seemsRight_2 4 rfl rfl)
abbrev cX5_nextPair : ByteArray := prog_14_method_98_code
def yX5_nextPair : MethodName := ⟨RX5, "nextPair", "(II)I"⟩
def dkwX5_nextPair_3 : List UInt8 := [2, 167, 0, 10, 16, 10, 29, 104, 21, 4, 96, 172]
abbrev dktX5_nextPair_3 : List UInt8 := dkwX5_nextPair_3 ++ []
def dkwX5_nextPair_2 : List UInt8 := [182, 1, 90, 62, 42, 27, 4, 28, 182, 1, 90, 54, 4, 29, 2, 159, 0, 9, 21, 4, 2, 160, 0, 7]
abbrev dktX5_nextPair_2 : List UInt8 := dkwX5_nextPair_2 ++ dktX5_nextPair_3
def dkwX5_nextPair_1 : List UInt8 := [153, 0, 7, 28, 156, 0, 16, 42, 180, 0, 56, 154, 0, 7, 2, 167, 0, 4, 3, 172, 42, 27, 3, 28]
abbrev dktX5_nextPair_1 : List UInt8 := dkwX5_nextPair_1 ++ dktX5_nextPair_2
def dkwX5_nextPair_0 : List UInt8 := [42, 3, 181, 0, 56, 42, 42, 27, 182, 1, 75, 4, 182, 0, 161, 153, 0, 15, 42, 27, 182, 0, 130]
abbrev dktX5_nextPair_0 : List UInt8 := dkwX5_nextPair_0 ++ dktX5_nextPair_1
theorem dksX5_nextPair_0 : cX5_nextPair.data.toList.drop 0 = dktX5_nextPair_0 := by decide +kernel
theorem dksX5_nextPair_1 : cX5_nextPair.data.toList.drop 23 = dktX5_nextPair_1 := dk_seg dksX5_nextPair_0 23 rfl rfl
theorem dksX5_nextPair_2 : cX5_nextPair.data.toList.drop 47 = dktX5_nextPair_2 := dk_seg dksX5_nextPair_1 24 rfl rfl
theorem dksX5_nextPair_3 : cX5_nextPair.data.toList.drop 71 = dktX5_nextPair_3 := dk_seg dksX5_nextPair_2 24 rfl rfl
theorem dX5_nextPair_0 : decode cX5_nextPair 0 = .ok (.aload_n 0, 1) := dk_42 (dk_at dksX5_nextPair_0 0 rfl rfl)
theorem dX5_nextPair_1 : decode cX5_nextPair 1 = .ok (.iconst 0, 1) := dk_3 (dk_at dksX5_nextPair_0 1 rfl rfl)
theorem dX5_nextPair_2 : decode cX5_nextPair 2 = .ok (.putfield 56, 3) := dk_181 0 56 (dk_at dksX5_nextPair_0 2 rfl rfl)
theorem dX5_nextPair_5 : decode cX5_nextPair 5 = .ok (.aload_n 0, 1) := dk_42 (dk_at dksX5_nextPair_0 5 rfl rfl)
theorem dX5_nextPair_6 : decode cX5_nextPair 6 = .ok (.aload_n 0, 1) := dk_42 (dk_at dksX5_nextPair_0 6 rfl rfl)
theorem dX5_nextPair_7 : decode cX5_nextPair 7 = .ok (.iload_n 1, 1) := dk_27 (dk_at dksX5_nextPair_0 7 rfl rfl)
theorem dX5_nextPair_8 : decode cX5_nextPair 8 = .ok (.invokevirtual 331, 3) := dk_182 1 75 (dk_at dksX5_nextPair_0 8 rfl rfl)
theorem dX5_nextPair_11 : decode cX5_nextPair 11 = .ok (.iconst 1, 1) := dk_4 (dk_at dksX5_nextPair_0 11 rfl rfl)
theorem dX5_nextPair_12 : decode cX5_nextPair 12 = .ok (.invokevirtual 161, 3) := dk_182 0 161 (dk_at dksX5_nextPair_0 12 rfl rfl)
theorem dX5_nextPair_15 : decode cX5_nextPair 15 = .ok (.ifCond .eq 15, 3) := dk_153 0 15 (dk_at dksX5_nextPair_0 15 rfl rfl)
theorem dX5_nextPair_18 : decode cX5_nextPair 18 = .ok (.aload_n 0, 1) := dk_42 (dk_at dksX5_nextPair_0 18 rfl rfl)
theorem dX5_nextPair_19 : decode cX5_nextPair 19 = .ok (.iload_n 1, 1) := dk_27 (dk_at dksX5_nextPair_0 19 rfl rfl)
theorem dX5_nextPair_20 : decode cX5_nextPair 20 = .ok (.invokevirtual 130, 3) := dk_182 0 130 (dk_at dksX5_nextPair_0 20 rfl rfl)
theorem dX5_nextPair_23 : decode cX5_nextPair 23 = .ok (.ifCond .eq 7, 3) := dk_153 0 7 (dk_at dksX5_nextPair_1 0 rfl rfl)
theorem dX5_nextPair_26 : decode cX5_nextPair 26 = .ok (.iload_n 2, 1) := dk_28 (dk_at dksX5_nextPair_1 3 rfl rfl)
theorem dX5_nextPair_27 : decode cX5_nextPair 27 = .ok (.ifCond .ge 16, 3) := dk_156 0 16 (dk_at dksX5_nextPair_1 4 rfl rfl)
theorem dX5_nextPair_30 : decode cX5_nextPair 30 = .ok (.aload_n 0, 1) := dk_42 (dk_at dksX5_nextPair_1 7 rfl rfl)
theorem dX5_nextPair_31 : decode cX5_nextPair 31 = .ok (.getfield 56, 3) := dk_180 0 56 (dk_at dksX5_nextPair_1 8 rfl rfl)
theorem dX5_nextPair_34 : decode cX5_nextPair 34 = .ok (.ifCond .ne 7, 3) := dk_154 0 7 (dk_at dksX5_nextPair_1 11 rfl rfl)
theorem dX5_nextPair_37 : decode cX5_nextPair 37 = .ok (.iconst (-1), 1) := dk_2 (dk_at dksX5_nextPair_1 14 rfl rfl)
theorem dX5_nextPair_38 : decode cX5_nextPair 38 = .ok (.goto 4, 3) := dk_167 0 4 (dk_at dksX5_nextPair_1 15 rfl rfl)
theorem dX5_nextPair_41 : decode cX5_nextPair 41 = .ok (.iconst 0, 1) := dk_3 (dk_at dksX5_nextPair_1 18 rfl rfl)
theorem dX5_nextPair_42 : decode cX5_nextPair 42 = .ok (.ireturn, 1) := dk_172 (dk_at dksX5_nextPair_1 19 rfl rfl)
theorem dX5_nextPair_43 : decode cX5_nextPair 43 = .ok (.aload_n 0, 1) := dk_42 (dk_at dksX5_nextPair_1 20 rfl rfl)
theorem dX5_nextPair_44 : decode cX5_nextPair 44 = .ok (.iload_n 1, 1) := dk_27 (dk_at dksX5_nextPair_1 21 rfl rfl)
theorem dX5_nextPair_45 : decode cX5_nextPair 45 = .ok (.iconst 0, 1) := dk_3 (dk_at dksX5_nextPair_1 22 rfl rfl)
theorem dX5_nextPair_46 : decode cX5_nextPair 46 = .ok (.iload_n 2, 1) := dk_28 (dk_at dksX5_nextPair_1 23 rfl rfl)
theorem dX5_nextPair_47 : decode cX5_nextPair 47 = .ok (.invokevirtual 346, 3) := dk_182 1 90 (dk_at dksX5_nextPair_2 0 rfl rfl)
theorem dX5_nextPair_50 : decode cX5_nextPair 50 = .ok (.istore_n 3, 1) := dk_62 (dk_at dksX5_nextPair_2 3 rfl rfl)
theorem dX5_nextPair_51 : decode cX5_nextPair 51 = .ok (.aload_n 0, 1) := dk_42 (dk_at dksX5_nextPair_2 4 rfl rfl)
theorem dX5_nextPair_52 : decode cX5_nextPair 52 = .ok (.iload_n 1, 1) := dk_27 (dk_at dksX5_nextPair_2 5 rfl rfl)
theorem dX5_nextPair_53 : decode cX5_nextPair 53 = .ok (.iconst 1, 1) := dk_4 (dk_at dksX5_nextPair_2 6 rfl rfl)
theorem dX5_nextPair_54 : decode cX5_nextPair 54 = .ok (.iload_n 2, 1) := dk_28 (dk_at dksX5_nextPair_2 7 rfl rfl)
theorem dX5_nextPair_55 : decode cX5_nextPair 55 = .ok (.invokevirtual 346, 3) := dk_182 1 90 (dk_at dksX5_nextPair_2 8 rfl rfl)
theorem dX5_nextPair_58 : decode cX5_nextPair 58 = .ok (.istore 4, 2) := dk_54 4 (dk_at dksX5_nextPair_2 11 rfl rfl)
theorem dX5_nextPair_60 : decode cX5_nextPair 60 = .ok (.iload_n 3, 1) := dk_29 (dk_at dksX5_nextPair_2 13 rfl rfl)
theorem dX5_nextPair_61 : decode cX5_nextPair 61 = .ok (.iconst (-1), 1) := dk_2 (dk_at dksX5_nextPair_2 14 rfl rfl)
theorem dX5_nextPair_62 : decode cX5_nextPair 62 = .ok (.if_icmp .eq 9, 3) := dk_159 0 9 (dk_at dksX5_nextPair_2 15 rfl rfl)
theorem dX5_nextPair_65 : decode cX5_nextPair 65 = .ok (.iload 4, 2) := dk_21 4 (dk_at dksX5_nextPair_2 18 rfl rfl)
theorem dX5_nextPair_67 : decode cX5_nextPair 67 = .ok (.iconst (-1), 1) := dk_2 (dk_at dksX5_nextPair_2 20 rfl rfl)
theorem dX5_nextPair_68 : decode cX5_nextPair 68 = .ok (.if_icmp .ne 7, 3) := dk_160 0 7 (dk_at dksX5_nextPair_2 21 rfl rfl)
theorem dX5_nextPair_71 : decode cX5_nextPair 71 = .ok (.iconst (-1), 1) := dk_2 (dk_at dksX5_nextPair_3 0 rfl rfl)
theorem dX5_nextPair_72 : decode cX5_nextPair 72 = .ok (.goto 10, 3) := dk_167 0 10 (dk_at dksX5_nextPair_3 1 rfl rfl)
theorem dX5_nextPair_75 : decode cX5_nextPair 75 = .ok (.bipush 10, 2) := dk_16 10 (dk_at dksX5_nextPair_3 4 rfl rfl)
theorem dX5_nextPair_77 : decode cX5_nextPair 77 = .ok (.iload_n 3, 1) := dk_29 (dk_at dksX5_nextPair_3 6 rfl rfl)
theorem dX5_nextPair_78 : decode cX5_nextPair 78 = .ok (.imul, 1) := dk_104 (dk_at dksX5_nextPair_3 7 rfl rfl)
theorem dX5_nextPair_79 : decode cX5_nextPair 79 = .ok (.iload 4, 2) := dk_21 4 (dk_at dksX5_nextPair_3 8 rfl rfl)
theorem dX5_nextPair_81 : decode cX5_nextPair 81 = .ok (.iadd, 1) := dk_96 (dk_at dksX5_nextPair_3 10 rfl rfl)
theorem dX5_nextPair_82 : decode cX5_nextPair 82 = .ok (.ireturn, 1) := dk_172 (dk_at dksX5_nextPair_3 11 rfl rfl)
abbrev cX5_rowAt : ByteArray := prog_14_method_97_code
def yX5_rowAt : MethodName := ⟨RX5, "rowAt", "(III)I"⟩
def dkwX5_rowAt_2 : List UInt8 := [100, 54, 4, 132, 5, 1, 167, 255, 208, 2, 172]
abbrev dktX5_rowAt_2 : List UInt8 := dkwX5_rowAt_2 ++ []
def dkwX5_rowAt_1 : List UInt8 := [42, 27, 28, 21, 5, 182, 0, 134, 162, 0, 6, 21, 5, 172, 21, 4, 42, 27, 28, 21, 5, 182, 0, 134]
abbrev dktX5_rowAt_1 : List UInt8 := dkwX5_rowAt_1 ++ dktX5_rowAt_2
def dkwX5_rowAt_0 : List UInt8 := [29, 54, 4, 3, 54, 5, 21, 5, 42, 42, 27, 28, 182, 0, 123, 4, 182, 0, 69, 162, 0, 38, 21, 4]
abbrev dktX5_rowAt_0 : List UInt8 := dkwX5_rowAt_0 ++ dktX5_rowAt_1
theorem dksX5_rowAt_0 : cX5_rowAt.data.toList.drop 0 = dktX5_rowAt_0 := by decide +kernel
theorem dksX5_rowAt_1 : cX5_rowAt.data.toList.drop 24 = dktX5_rowAt_1 := dk_seg dksX5_rowAt_0 24 rfl rfl
theorem dksX5_rowAt_2 : cX5_rowAt.data.toList.drop 48 = dktX5_rowAt_2 := dk_seg dksX5_rowAt_1 24 rfl rfl
theorem dX5_rowAt_0 : decode cX5_rowAt 0 = .ok (.iload_n 3, 1) := dk_29 (dk_at dksX5_rowAt_0 0 rfl rfl)
theorem dX5_rowAt_1 : decode cX5_rowAt 1 = .ok (.istore 4, 2) := dk_54 4 (dk_at dksX5_rowAt_0 1 rfl rfl)
theorem dX5_rowAt_3 : decode cX5_rowAt 3 = .ok (.iconst 0, 1) := dk_3 (dk_at dksX5_rowAt_0 3 rfl rfl)
theorem dX5_rowAt_4 : decode cX5_rowAt 4 = .ok (.istore 5, 2) := dk_54 5 (dk_at dksX5_rowAt_0 4 rfl rfl)
theorem dX5_rowAt_6 : decode cX5_rowAt 6 = .ok (.iload 5, 2) := dk_21 5 (dk_at dksX5_rowAt_0 6 rfl rfl)
theorem dX5_rowAt_8 : decode cX5_rowAt 8 = .ok (.aload_n 0, 1) := dk_42 (dk_at dksX5_rowAt_0 8 rfl rfl)
theorem dX5_rowAt_9 : decode cX5_rowAt 9 = .ok (.aload_n 0, 1) := dk_42 (dk_at dksX5_rowAt_0 9 rfl rfl)
theorem dX5_rowAt_10 : decode cX5_rowAt 10 = .ok (.iload_n 1, 1) := dk_27 (dk_at dksX5_rowAt_0 10 rfl rfl)
theorem dX5_rowAt_11 : decode cX5_rowAt 11 = .ok (.iload_n 2, 1) := dk_28 (dk_at dksX5_rowAt_0 11 rfl rfl)
theorem dX5_rowAt_12 : decode cX5_rowAt 12 = .ok (.invokevirtual 123, 3) := dk_182 0 123 (dk_at dksX5_rowAt_0 12 rfl rfl)
theorem dX5_rowAt_15 : decode cX5_rowAt 15 = .ok (.iconst 1, 1) := dk_4 (dk_at dksX5_rowAt_0 15 rfl rfl)
theorem dX5_rowAt_16 : decode cX5_rowAt 16 = .ok (.invokevirtual 69, 3) := dk_182 0 69 (dk_at dksX5_rowAt_0 16 rfl rfl)
theorem dX5_rowAt_19 : decode cX5_rowAt 19 = .ok (.if_icmp .ge 38, 3) := dk_162 0 38 (dk_at dksX5_rowAt_0 19 rfl rfl)
theorem dX5_rowAt_22 : decode cX5_rowAt 22 = .ok (.iload 4, 2) := dk_21 4 (dk_at dksX5_rowAt_0 22 rfl rfl)
theorem dX5_rowAt_24 : decode cX5_rowAt 24 = .ok (.aload_n 0, 1) := dk_42 (dk_at dksX5_rowAt_1 0 rfl rfl)
theorem dX5_rowAt_25 : decode cX5_rowAt 25 = .ok (.iload_n 1, 1) := dk_27 (dk_at dksX5_rowAt_1 1 rfl rfl)
theorem dX5_rowAt_26 : decode cX5_rowAt 26 = .ok (.iload_n 2, 1) := dk_28 (dk_at dksX5_rowAt_1 2 rfl rfl)
theorem dX5_rowAt_27 : decode cX5_rowAt 27 = .ok (.iload 5, 2) := dk_21 5 (dk_at dksX5_rowAt_1 3 rfl rfl)
theorem dX5_rowAt_29 : decode cX5_rowAt 29 = .ok (.invokevirtual 134, 3) := dk_182 0 134 (dk_at dksX5_rowAt_1 5 rfl rfl)
theorem dX5_rowAt_32 : decode cX5_rowAt 32 = .ok (.if_icmp .ge 6, 3) := dk_162 0 6 (dk_at dksX5_rowAt_1 8 rfl rfl)
theorem dX5_rowAt_35 : decode cX5_rowAt 35 = .ok (.iload 5, 2) := dk_21 5 (dk_at dksX5_rowAt_1 11 rfl rfl)
theorem dX5_rowAt_37 : decode cX5_rowAt 37 = .ok (.ireturn, 1) := dk_172 (dk_at dksX5_rowAt_1 13 rfl rfl)
theorem dX5_rowAt_38 : decode cX5_rowAt 38 = .ok (.iload 4, 2) := dk_21 4 (dk_at dksX5_rowAt_1 14 rfl rfl)
theorem dX5_rowAt_40 : decode cX5_rowAt 40 = .ok (.aload_n 0, 1) := dk_42 (dk_at dksX5_rowAt_1 16 rfl rfl)
theorem dX5_rowAt_41 : decode cX5_rowAt 41 = .ok (.iload_n 1, 1) := dk_27 (dk_at dksX5_rowAt_1 17 rfl rfl)
theorem dX5_rowAt_42 : decode cX5_rowAt 42 = .ok (.iload_n 2, 1) := dk_28 (dk_at dksX5_rowAt_1 18 rfl rfl)
theorem dX5_rowAt_43 : decode cX5_rowAt 43 = .ok (.iload 5, 2) := dk_21 5 (dk_at dksX5_rowAt_1 19 rfl rfl)
theorem dX5_rowAt_45 : decode cX5_rowAt 45 = .ok (.invokevirtual 134, 3) := dk_182 0 134 (dk_at dksX5_rowAt_1 21 rfl rfl)
theorem dX5_rowAt_48 : decode cX5_rowAt 48 = .ok (.isub, 1) := dk_100 (dk_at dksX5_rowAt_2 0 rfl rfl)
theorem dX5_rowAt_49 : decode cX5_rowAt 49 = .ok (.istore 4, 2) := dk_54 4 (dk_at dksX5_rowAt_2 1 rfl rfl)
theorem dX5_rowAt_51 : decode cX5_rowAt 51 = .ok (.iinc 5 1, 3) := dk_132 5 1 (dk_at dksX5_rowAt_2 3 rfl rfl)
theorem dX5_rowAt_54 : decode cX5_rowAt 54 = .ok (.goto (-48), 3) := dk_167 255 208 (dk_at dksX5_rowAt_2 6 rfl rfl)
theorem dX5_rowAt_57 : decode cX5_rowAt 57 = .ok (.iconst (-1), 1) := dk_2 (dk_at dksX5_rowAt_2 9 rfl rfl)
theorem dX5_rowAt_58 : decode cX5_rowAt 58 = .ok (.ireturn, 1) := dk_172 (dk_at dksX5_rowAt_2 10 rfl rfl)
abbrev cX5_group : ByteArray := prog_14_method_100_code
def yX5_group : MethodName := ⟨RX5, "group", "(I)I"⟩
def dkwX5_group_1 : List UInt8 := [167, 0, 4, 3, 172]
abbrev dktX5_group_1 : List UInt8 := dkwX5_group_1 ++ []
def dkwX5_group_0 : List UInt8 := [42, 3, 181, 0, 56, 42, 42, 27, 182, 1, 39, 4, 182, 0, 161, 153, 0, 11, 42, 27, 182, 1, 93]
abbrev dktX5_group_0 : List UInt8 := dkwX5_group_0 ++ dktX5_group_1
theorem dksX5_group_0 : cX5_group.data.toList.drop 0 = dktX5_group_0 := by decide +kernel
theorem dksX5_group_1 : cX5_group.data.toList.drop 23 = dktX5_group_1 := dk_seg dksX5_group_0 23 rfl rfl
theorem dX5_group_0 : decode cX5_group 0 = .ok (.aload_n 0, 1) := dk_42 (dk_at dksX5_group_0 0 rfl rfl)
theorem dX5_group_1 : decode cX5_group 1 = .ok (.iconst 0, 1) := dk_3 (dk_at dksX5_group_0 1 rfl rfl)
theorem dX5_group_2 : decode cX5_group 2 = .ok (.putfield 56, 3) := dk_181 0 56 (dk_at dksX5_group_0 2 rfl rfl)
theorem dX5_group_5 : decode cX5_group 5 = .ok (.aload_n 0, 1) := dk_42 (dk_at dksX5_group_0 5 rfl rfl)
theorem dX5_group_6 : decode cX5_group 6 = .ok (.aload_n 0, 1) := dk_42 (dk_at dksX5_group_0 6 rfl rfl)
theorem dX5_group_7 : decode cX5_group 7 = .ok (.iload_n 1, 1) := dk_27 (dk_at dksX5_group_0 7 rfl rfl)
theorem dX5_group_8 : decode cX5_group 8 = .ok (.invokevirtual 295, 3) := dk_182 1 39 (dk_at dksX5_group_0 8 rfl rfl)
theorem dX5_group_11 : decode cX5_group 11 = .ok (.iconst 1, 1) := dk_4 (dk_at dksX5_group_0 11 rfl rfl)
theorem dX5_group_12 : decode cX5_group 12 = .ok (.invokevirtual 161, 3) := dk_182 0 161 (dk_at dksX5_group_0 12 rfl rfl)
theorem dX5_group_15 : decode cX5_group 15 = .ok (.ifCond .eq 11, 3) := dk_153 0 11 (dk_at dksX5_group_0 15 rfl rfl)
theorem dX5_group_18 : decode cX5_group 18 = .ok (.aload_n 0, 1) := dk_42 (dk_at dksX5_group_0 18 rfl rfl)
theorem dX5_group_19 : decode cX5_group 19 = .ok (.iload_n 1, 1) := dk_27 (dk_at dksX5_group_0 19 rfl rfl)
theorem dX5_group_20 : decode cX5_group 20 = .ok (.invokevirtual 349, 3) := dk_182 1 93 (dk_at dksX5_group_0 20 rfl rfl)
theorem dX5_group_23 : decode cX5_group 23 = .ok (.goto 4, 3) := dk_167 0 4 (dk_at dksX5_group_1 0 rfl rfl)
theorem dX5_group_26 : decode cX5_group 26 = .ok (.iconst 0, 1) := dk_3 (dk_at dksX5_group_1 3 rfl rfl)
theorem dX5_group_27 : decode cX5_group 27 = .ok (.ireturn, 1) := dk_172 (dk_at dksX5_group_1 4 rfl rfl)
abbrev cX5_groupOf : ByteArray := prog_14_method_99_code
def yX5_groupOf : MethodName := ⟨RX5, "groupOf", "(I)I"⟩
def dkwX5_groupOf_0 : List UInt8 := [3, 61, 42, 27, 28, 182, 0, 117, 5, 159, 0, 9, 132, 2, 1, 167, 255, 243, 28, 172]
abbrev dktX5_groupOf_0 : List UInt8 := dkwX5_groupOf_0 ++ []
theorem dksX5_groupOf_0 : cX5_groupOf.data.toList.drop 0 = dktX5_groupOf_0 := by decide +kernel
theorem dX5_groupOf_0 : decode cX5_groupOf 0 = .ok (.iconst 0, 1) := dk_3 (dk_at dksX5_groupOf_0 0 rfl rfl)
theorem dX5_groupOf_1 : decode cX5_groupOf 1 = .ok (.istore_n 2, 1) := dk_61 (dk_at dksX5_groupOf_0 1 rfl rfl)
theorem dX5_groupOf_2 : decode cX5_groupOf 2 = .ok (.aload_n 0, 1) := dk_42 (dk_at dksX5_groupOf_0 2 rfl rfl)
theorem dX5_groupOf_3 : decode cX5_groupOf 3 = .ok (.iload_n 1, 1) := dk_27 (dk_at dksX5_groupOf_0 3 rfl rfl)
theorem dX5_groupOf_4 : decode cX5_groupOf 4 = .ok (.iload_n 2, 1) := dk_28 (dk_at dksX5_groupOf_0 4 rfl rfl)
theorem dX5_groupOf_5 : decode cX5_groupOf 5 = .ok (.invokevirtual 117, 3) := dk_182 0 117 (dk_at dksX5_groupOf_0 5 rfl rfl)
theorem dX5_groupOf_8 : decode cX5_groupOf 8 = .ok (.iconst 2, 1) := dk_5 (dk_at dksX5_groupOf_0 8 rfl rfl)
theorem dX5_groupOf_9 : decode cX5_groupOf 9 = .ok (.if_icmp .eq 9, 3) := dk_159 0 9 (dk_at dksX5_groupOf_0 9 rfl rfl)
theorem dX5_groupOf_12 : decode cX5_groupOf 12 = .ok (.iinc 2 1, 3) := dk_132 2 1 (dk_at dksX5_groupOf_0 12 rfl rfl)
theorem dX5_groupOf_15 : decode cX5_groupOf 15 = .ok (.goto (-13), 3) := dk_167 255 243 (dk_at dksX5_groupOf_0 15 rfl rfl)
theorem dX5_groupOf_18 : decode cX5_groupOf 18 = .ok (.iload_n 2, 1) := dk_28 (dk_at dksX5_groupOf_0 18 rfl rfl)
theorem dX5_groupOf_19 : decode cX5_groupOf 19 = .ok (.ireturn, 1) := dk_172 (dk_at dksX5_groupOf_0 19 rfl rfl)
abbrev cX5_groups : ByteArray := prog_14_method_101_code
def yX5_groups : MethodName := ⟨RX5, "groups", "()I"⟩
def dkwX5_groups_1 : List UInt8 := [28, 160, 0, 7, 4, 167, 0, 4, 3, 184, 0, 101, 96, 60, 132, 2, 1, 167, 255, 224, 27, 172]
abbrev dktX5_groups_1 : List UInt8 := dkwX5_groups_1 ++ []
def dkwX5_groups_0 : List UInt8 := [42, 3, 181, 0, 56, 3, 60, 3, 61, 28, 42, 4, 182, 0, 65, 162, 0, 29, 27, 42, 28, 182, 1, 93]
abbrev dktX5_groups_0 : List UInt8 := dkwX5_groups_0 ++ dktX5_groups_1
theorem dksX5_groups_0 : cX5_groups.data.toList.drop 0 = dktX5_groups_0 := by decide +kernel
theorem dksX5_groups_1 : cX5_groups.data.toList.drop 24 = dktX5_groups_1 := dk_seg dksX5_groups_0 24 rfl rfl
theorem dX5_groups_0 : decode cX5_groups 0 = .ok (.aload_n 0, 1) := dk_42 (dk_at dksX5_groups_0 0 rfl rfl)
theorem dX5_groups_1 : decode cX5_groups 1 = .ok (.iconst 0, 1) := dk_3 (dk_at dksX5_groups_0 1 rfl rfl)
theorem dX5_groups_2 : decode cX5_groups 2 = .ok (.putfield 56, 3) := dk_181 0 56 (dk_at dksX5_groups_0 2 rfl rfl)
theorem dX5_groups_5 : decode cX5_groups 5 = .ok (.iconst 0, 1) := dk_3 (dk_at dksX5_groups_0 5 rfl rfl)
theorem dX5_groups_6 : decode cX5_groups 6 = .ok (.istore_n 1, 1) := dk_60 (dk_at dksX5_groups_0 6 rfl rfl)
theorem dX5_groups_7 : decode cX5_groups 7 = .ok (.iconst 0, 1) := dk_3 (dk_at dksX5_groups_0 7 rfl rfl)
theorem dX5_groups_8 : decode cX5_groups 8 = .ok (.istore_n 2, 1) := dk_61 (dk_at dksX5_groups_0 8 rfl rfl)
theorem dX5_groups_9 : decode cX5_groups 9 = .ok (.iload_n 2, 1) := dk_28 (dk_at dksX5_groups_0 9 rfl rfl)
theorem dX5_groups_10 : decode cX5_groups 10 = .ok (.aload_n 0, 1) := dk_42 (dk_at dksX5_groups_0 10 rfl rfl)
theorem dX5_groups_11 : decode cX5_groups 11 = .ok (.iconst 1, 1) := dk_4 (dk_at dksX5_groups_0 11 rfl rfl)
theorem dX5_groups_12 : decode cX5_groups 12 = .ok (.invokevirtual 65, 3) := dk_182 0 65 (dk_at dksX5_groups_0 12 rfl rfl)
theorem dX5_groups_15 : decode cX5_groups 15 = .ok (.if_icmp .ge 29, 3) := dk_162 0 29 (dk_at dksX5_groups_0 15 rfl rfl)
theorem dX5_groups_18 : decode cX5_groups 18 = .ok (.iload_n 1, 1) := dk_27 (dk_at dksX5_groups_0 18 rfl rfl)
theorem dX5_groups_19 : decode cX5_groups 19 = .ok (.aload_n 0, 1) := dk_42 (dk_at dksX5_groups_0 19 rfl rfl)
theorem dX5_groups_20 : decode cX5_groups 20 = .ok (.iload_n 2, 1) := dk_28 (dk_at dksX5_groups_0 20 rfl rfl)
theorem dX5_groups_21 : decode cX5_groups 21 = .ok (.invokevirtual 349, 3) := dk_182 1 93 (dk_at dksX5_groups_0 21 rfl rfl)
theorem dX5_groups_24 : decode cX5_groups 24 = .ok (.iload_n 2, 1) := dk_28 (dk_at dksX5_groups_1 0 rfl rfl)
theorem dX5_groups_25 : decode cX5_groups 25 = .ok (.if_icmp .ne 7, 3) := dk_160 0 7 (dk_at dksX5_groups_1 1 rfl rfl)
theorem dX5_groups_28 : decode cX5_groups 28 = .ok (.iconst 1, 1) := dk_4 (dk_at dksX5_groups_1 4 rfl rfl)
theorem dX5_groups_29 : decode cX5_groups 29 = .ok (.goto 4, 3) := dk_167 0 4 (dk_at dksX5_groups_1 5 rfl rfl)
theorem dX5_groups_32 : decode cX5_groups 32 = .ok (.iconst 0, 1) := dk_3 (dk_at dksX5_groups_1 8 rfl rfl)
theorem dX5_groups_33 : decode cX5_groups 33 = .ok (.invokestatic 101, 3) := dk_184 0 101 (dk_at dksX5_groups_1 9 rfl rfl)
theorem dX5_groups_36 : decode cX5_groups 36 = .ok (.iadd, 1) := dk_96 (dk_at dksX5_groups_1 12 rfl rfl)
theorem dX5_groups_37 : decode cX5_groups 37 = .ok (.istore_n 1, 1) := dk_60 (dk_at dksX5_groups_1 13 rfl rfl)
theorem dX5_groups_38 : decode cX5_groups 38 = .ok (.iinc 2 1, 3) := dk_132 2 1 (dk_at dksX5_groups_1 14 rfl rfl)
theorem dX5_groups_41 : decode cX5_groups 41 = .ok (.goto (-32), 3) := dk_167 255 224 (dk_at dksX5_groups_1 17 rfl rfl)
theorem dX5_groups_44 : decode cX5_groups 44 = .ok (.iload_n 1, 1) := dk_27 (dk_at dksX5_groups_1 20 rfl rfl)
theorem dX5_groups_45 : decode cX5_groups 45 = .ok (.ireturn, 1) := dk_172 (dk_at dksX5_groups_1 21 rfl rfl)
abbrev cX5_longestRow : ByteArray := prog_14_method_102_code
def yX5_longestRow : MethodName := ⟨RX5, "longestRow", "()I"⟩
def dkwX5_longestRow_5 : List UInt8 := [180, 0, 36, 29, 46, 184, 1, 61, 60, 132, 3, 1, 167, 255, 173, 132, 2, 1, 167, 255, 156, 27, 172]
abbrev dktX5_longestRow_5 : List UInt8 := dkwX5_longestRow_5 ++ []
def dkwX5_longestRow_4 : List UInt8 := [180, 0, 36, 29, 42, 180, 0, 36, 21, 4, 46, 4, 96, 79, 132, 4, 1, 167, 255, 202, 27, 42]
abbrev dktX5_longestRow_4 : List UInt8 := dkwX5_longestRow_4 ++ dktX5_longestRow_5
def dkwX5_longestRow_3 : List UInt8 := [21, 4, 46, 42, 180, 0, 36, 29, 46, 161, 0, 28, 42, 29, 21, 4, 182, 0, 117, 154, 0, 18, 42]
abbrev dktX5_longestRow_3 : List UInt8 := dkwX5_longestRow_3 ++ dktX5_longestRow_4
def dkwX5_longestRow_2 : List UInt8 := [182, 0, 65, 162, 0, 80, 3, 54, 4, 21, 4, 42, 4, 182, 0, 65, 162, 0, 50, 42, 180, 0, 36]
abbrev dktX5_longestRow_2 : List UInt8 := dkwX5_longestRow_2 ++ dktX5_longestRow_3
def dkwX5_longestRow_1 : List UInt8 := [79, 132, 2, 1, 167, 255, 237, 3, 61, 28, 42, 4, 182, 0, 65, 162, 0, 97, 3, 62, 29, 42, 4]
abbrev dktX5_longestRow_1 : List UInt8 := dkwX5_longestRow_1 ++ dktX5_longestRow_2
def dkwX5_longestRow_0 : List UInt8 := [42, 3, 181, 0, 56, 4, 60, 3, 61, 28, 42, 4, 182, 0, 65, 162, 0, 16, 42, 180, 0, 36, 28, 4]
abbrev dktX5_longestRow_0 : List UInt8 := dkwX5_longestRow_0 ++ dktX5_longestRow_1
theorem dksX5_longestRow_0 : cX5_longestRow.data.toList.drop 0 = dktX5_longestRow_0 := by decide +kernel
theorem dksX5_longestRow_1 : cX5_longestRow.data.toList.drop 24 = dktX5_longestRow_1 := dk_seg dksX5_longestRow_0 24 rfl rfl
theorem dksX5_longestRow_2 : cX5_longestRow.data.toList.drop 47 = dktX5_longestRow_2 := dk_seg dksX5_longestRow_1 23 rfl rfl
theorem dksX5_longestRow_3 : cX5_longestRow.data.toList.drop 70 = dktX5_longestRow_3 := dk_seg dksX5_longestRow_2 23 rfl rfl
theorem dksX5_longestRow_4 : cX5_longestRow.data.toList.drop 93 = dktX5_longestRow_4 := dk_seg dksX5_longestRow_3 23 rfl rfl
theorem dksX5_longestRow_5 : cX5_longestRow.data.toList.drop 115 = dktX5_longestRow_5 := dk_seg dksX5_longestRow_4 22 rfl rfl
theorem dX5_longestRow_0 : decode cX5_longestRow 0 = .ok (.aload_n 0, 1) := dk_42 (dk_at dksX5_longestRow_0 0 rfl rfl)
theorem dX5_longestRow_1 : decode cX5_longestRow 1 = .ok (.iconst 0, 1) := dk_3 (dk_at dksX5_longestRow_0 1 rfl rfl)
theorem dX5_longestRow_2 : decode cX5_longestRow 2 = .ok (.putfield 56, 3) := dk_181 0 56 (dk_at dksX5_longestRow_0 2 rfl rfl)
theorem dX5_longestRow_5 : decode cX5_longestRow 5 = .ok (.iconst 1, 1) := dk_4 (dk_at dksX5_longestRow_0 5 rfl rfl)
theorem dX5_longestRow_6 : decode cX5_longestRow 6 = .ok (.istore_n 1, 1) := dk_60 (dk_at dksX5_longestRow_0 6 rfl rfl)
theorem dX5_longestRow_7 : decode cX5_longestRow 7 = .ok (.iconst 0, 1) := dk_3 (dk_at dksX5_longestRow_0 7 rfl rfl)
theorem dX5_longestRow_8 : decode cX5_longestRow 8 = .ok (.istore_n 2, 1) := dk_61 (dk_at dksX5_longestRow_0 8 rfl rfl)
theorem dX5_longestRow_9 : decode cX5_longestRow 9 = .ok (.iload_n 2, 1) := dk_28 (dk_at dksX5_longestRow_0 9 rfl rfl)
theorem dX5_longestRow_10 : decode cX5_longestRow 10 = .ok (.aload_n 0, 1) := dk_42 (dk_at dksX5_longestRow_0 10 rfl rfl)
theorem dX5_longestRow_11 : decode cX5_longestRow 11 = .ok (.iconst 1, 1) := dk_4 (dk_at dksX5_longestRow_0 11 rfl rfl)
theorem dX5_longestRow_12 : decode cX5_longestRow 12 = .ok (.invokevirtual 65, 3) := dk_182 0 65 (dk_at dksX5_longestRow_0 12 rfl rfl)
theorem dX5_longestRow_15 : decode cX5_longestRow 15 = .ok (.if_icmp .ge 16, 3) := dk_162 0 16 (dk_at dksX5_longestRow_0 15 rfl rfl)
theorem dX5_longestRow_18 : decode cX5_longestRow 18 = .ok (.aload_n 0, 1) := dk_42 (dk_at dksX5_longestRow_0 18 rfl rfl)
theorem dX5_longestRow_19 : decode cX5_longestRow 19 = .ok (.getfield 36, 3) := dk_180 0 36 (dk_at dksX5_longestRow_0 19 rfl rfl)
theorem dX5_longestRow_22 : decode cX5_longestRow 22 = .ok (.iload_n 2, 1) := dk_28 (dk_at dksX5_longestRow_0 22 rfl rfl)
theorem dX5_longestRow_23 : decode cX5_longestRow 23 = .ok (.iconst 1, 1) := dk_4 (dk_at dksX5_longestRow_0 23 rfl rfl)
theorem dX5_longestRow_24 : decode cX5_longestRow 24 = .ok (.iastore, 1) := dk_79 (dk_at dksX5_longestRow_1 0 rfl rfl)
theorem dX5_longestRow_25 : decode cX5_longestRow 25 = .ok (.iinc 2 1, 3) := dk_132 2 1 (dk_at dksX5_longestRow_1 1 rfl rfl)
theorem dX5_longestRow_28 : decode cX5_longestRow 28 = .ok (.goto (-19), 3) := dk_167 255 237 (dk_at dksX5_longestRow_1 4 rfl rfl)
theorem dX5_longestRow_31 : decode cX5_longestRow 31 = .ok (.iconst 0, 1) := dk_3 (dk_at dksX5_longestRow_1 7 rfl rfl)
theorem dX5_longestRow_32 : decode cX5_longestRow 32 = .ok (.istore_n 2, 1) := dk_61 (dk_at dksX5_longestRow_1 8 rfl rfl)
theorem dX5_longestRow_33 : decode cX5_longestRow 33 = .ok (.iload_n 2, 1) := dk_28 (dk_at dksX5_longestRow_1 9 rfl rfl)
theorem dX5_longestRow_34 : decode cX5_longestRow 34 = .ok (.aload_n 0, 1) := dk_42 (dk_at dksX5_longestRow_1 10 rfl rfl)
theorem dX5_longestRow_35 : decode cX5_longestRow 35 = .ok (.iconst 1, 1) := dk_4 (dk_at dksX5_longestRow_1 11 rfl rfl)
theorem dX5_longestRow_36 : decode cX5_longestRow 36 = .ok (.invokevirtual 65, 3) := dk_182 0 65 (dk_at dksX5_longestRow_1 12 rfl rfl)
theorem dX5_longestRow_39 : decode cX5_longestRow 39 = .ok (.if_icmp .ge 97, 3) := dk_162 0 97 (dk_at dksX5_longestRow_1 15 rfl rfl)
theorem dX5_longestRow_42 : decode cX5_longestRow 42 = .ok (.iconst 0, 1) := dk_3 (dk_at dksX5_longestRow_1 18 rfl rfl)
theorem dX5_longestRow_43 : decode cX5_longestRow 43 = .ok (.istore_n 3, 1) := dk_62 (dk_at dksX5_longestRow_1 19 rfl rfl)
theorem dX5_longestRow_44 : decode cX5_longestRow 44 = .ok (.iload_n 3, 1) := dk_29 (dk_at dksX5_longestRow_1 20 rfl rfl)
theorem dX5_longestRow_45 : decode cX5_longestRow 45 = .ok (.aload_n 0, 1) := dk_42 (dk_at dksX5_longestRow_1 21 rfl rfl)
theorem dX5_longestRow_46 : decode cX5_longestRow 46 = .ok (.iconst 1, 1) := dk_4 (dk_at dksX5_longestRow_1 22 rfl rfl)
theorem dX5_longestRow_47 : decode cX5_longestRow 47 = .ok (.invokevirtual 65, 3) := dk_182 0 65 (dk_at dksX5_longestRow_2 0 rfl rfl)
theorem dX5_longestRow_50 : decode cX5_longestRow 50 = .ok (.if_icmp .ge 80, 3) := dk_162 0 80 (dk_at dksX5_longestRow_2 3 rfl rfl)
theorem dX5_longestRow_53 : decode cX5_longestRow 53 = .ok (.iconst 0, 1) := dk_3 (dk_at dksX5_longestRow_2 6 rfl rfl)
theorem dX5_longestRow_54 : decode cX5_longestRow 54 = .ok (.istore 4, 2) := dk_54 4 (dk_at dksX5_longestRow_2 7 rfl rfl)
theorem dX5_longestRow_56 : decode cX5_longestRow 56 = .ok (.iload 4, 2) := dk_21 4 (dk_at dksX5_longestRow_2 9 rfl rfl)
theorem dX5_longestRow_58 : decode cX5_longestRow 58 = .ok (.aload_n 0, 1) := dk_42 (dk_at dksX5_longestRow_2 11 rfl rfl)
theorem dX5_longestRow_59 : decode cX5_longestRow 59 = .ok (.iconst 1, 1) := dk_4 (dk_at dksX5_longestRow_2 12 rfl rfl)
theorem dX5_longestRow_60 : decode cX5_longestRow 60 = .ok (.invokevirtual 65, 3) := dk_182 0 65 (dk_at dksX5_longestRow_2 13 rfl rfl)
theorem dX5_longestRow_63 : decode cX5_longestRow 63 = .ok (.if_icmp .ge 50, 3) := dk_162 0 50 (dk_at dksX5_longestRow_2 16 rfl rfl)
theorem dX5_longestRow_66 : decode cX5_longestRow 66 = .ok (.aload_n 0, 1) := dk_42 (dk_at dksX5_longestRow_2 19 rfl rfl)
theorem dX5_longestRow_67 : decode cX5_longestRow 67 = .ok (.getfield 36, 3) := dk_180 0 36 (dk_at dksX5_longestRow_2 20 rfl rfl)
theorem dX5_longestRow_70 : decode cX5_longestRow 70 = .ok (.iload 4, 2) := dk_21 4 (dk_at dksX5_longestRow_3 0 rfl rfl)
theorem dX5_longestRow_72 : decode cX5_longestRow 72 = .ok (.iaload, 1) := dk_46 (dk_at dksX5_longestRow_3 2 rfl rfl)
theorem dX5_longestRow_73 : decode cX5_longestRow 73 = .ok (.aload_n 0, 1) := dk_42 (dk_at dksX5_longestRow_3 3 rfl rfl)
theorem dX5_longestRow_74 : decode cX5_longestRow 74 = .ok (.getfield 36, 3) := dk_180 0 36 (dk_at dksX5_longestRow_3 4 rfl rfl)
theorem dX5_longestRow_77 : decode cX5_longestRow 77 = .ok (.iload_n 3, 1) := dk_29 (dk_at dksX5_longestRow_3 7 rfl rfl)
theorem dX5_longestRow_78 : decode cX5_longestRow 78 = .ok (.iaload, 1) := dk_46 (dk_at dksX5_longestRow_3 8 rfl rfl)
theorem dX5_longestRow_79 : decode cX5_longestRow 79 = .ok (.if_icmp .lt 28, 3) := dk_161 0 28 (dk_at dksX5_longestRow_3 9 rfl rfl)
theorem dX5_longestRow_82 : decode cX5_longestRow 82 = .ok (.aload_n 0, 1) := dk_42 (dk_at dksX5_longestRow_3 12 rfl rfl)
theorem dX5_longestRow_83 : decode cX5_longestRow 83 = .ok (.iload_n 3, 1) := dk_29 (dk_at dksX5_longestRow_3 13 rfl rfl)
theorem dX5_longestRow_84 : decode cX5_longestRow 84 = .ok (.iload 4, 2) := dk_21 4 (dk_at dksX5_longestRow_3 14 rfl rfl)
theorem dX5_longestRow_86 : decode cX5_longestRow 86 = .ok (.invokevirtual 117, 3) := dk_182 0 117 (dk_at dksX5_longestRow_3 16 rfl rfl)
theorem dX5_longestRow_89 : decode cX5_longestRow 89 = .ok (.ifCond .ne 18, 3) := dk_154 0 18 (dk_at dksX5_longestRow_3 19 rfl rfl)
theorem dX5_longestRow_92 : decode cX5_longestRow 92 = .ok (.aload_n 0, 1) := dk_42 (dk_at dksX5_longestRow_3 22 rfl rfl)
theorem dX5_longestRow_93 : decode cX5_longestRow 93 = .ok (.getfield 36, 3) := dk_180 0 36 (dk_at dksX5_longestRow_4 0 rfl rfl)
theorem dX5_longestRow_96 : decode cX5_longestRow 96 = .ok (.iload_n 3, 1) := dk_29 (dk_at dksX5_longestRow_4 3 rfl rfl)
theorem dX5_longestRow_97 : decode cX5_longestRow 97 = .ok (.aload_n 0, 1) := dk_42 (dk_at dksX5_longestRow_4 4 rfl rfl)
theorem dX5_longestRow_98 : decode cX5_longestRow 98 = .ok (.getfield 36, 3) := dk_180 0 36 (dk_at dksX5_longestRow_4 5 rfl rfl)
theorem dX5_longestRow_101 : decode cX5_longestRow 101 = .ok (.iload 4, 2) := dk_21 4 (dk_at dksX5_longestRow_4 8 rfl rfl)
theorem dX5_longestRow_103 : decode cX5_longestRow 103 = .ok (.iaload, 1) := dk_46 (dk_at dksX5_longestRow_4 10 rfl rfl)
theorem dX5_longestRow_104 : decode cX5_longestRow 104 = .ok (.iconst 1, 1) := dk_4 (dk_at dksX5_longestRow_4 11 rfl rfl)
theorem dX5_longestRow_105 : decode cX5_longestRow 105 = .ok (.iadd, 1) := dk_96 (dk_at dksX5_longestRow_4 12 rfl rfl)
theorem dX5_longestRow_106 : decode cX5_longestRow 106 = .ok (.iastore, 1) := dk_79 (dk_at dksX5_longestRow_4 13 rfl rfl)
theorem dX5_longestRow_107 : decode cX5_longestRow 107 = .ok (.iinc 4 1, 3) := dk_132 4 1 (dk_at dksX5_longestRow_4 14 rfl rfl)
theorem dX5_longestRow_110 : decode cX5_longestRow 110 = .ok (.goto (-54), 3) := dk_167 255 202 (dk_at dksX5_longestRow_4 17 rfl rfl)
theorem dX5_longestRow_113 : decode cX5_longestRow 113 = .ok (.iload_n 1, 1) := dk_27 (dk_at dksX5_longestRow_4 20 rfl rfl)
theorem dX5_longestRow_114 : decode cX5_longestRow 114 = .ok (.aload_n 0, 1) := dk_42 (dk_at dksX5_longestRow_4 21 rfl rfl)
theorem dX5_longestRow_115 : decode cX5_longestRow 115 = .ok (.getfield 36, 3) := dk_180 0 36 (dk_at dksX5_longestRow_5 0 rfl rfl)
theorem dX5_longestRow_118 : decode cX5_longestRow 118 = .ok (.iload_n 3, 1) := dk_29 (dk_at dksX5_longestRow_5 3 rfl rfl)
theorem dX5_longestRow_119 : decode cX5_longestRow 119 = .ok (.iaload, 1) := dk_46 (dk_at dksX5_longestRow_5 4 rfl rfl)
theorem dX5_longestRow_120 : decode cX5_longestRow 120 = .ok (.invokestatic 317, 3) := dk_184 1 61 (dk_at dksX5_longestRow_5 5 rfl rfl)
theorem dX5_longestRow_123 : decode cX5_longestRow 123 = .ok (.istore_n 1, 1) := dk_60 (dk_at dksX5_longestRow_5 8 rfl rfl)
theorem dX5_longestRow_124 : decode cX5_longestRow 124 = .ok (.iinc 3 1, 3) := dk_132 3 1 (dk_at dksX5_longestRow_5 9 rfl rfl)
theorem dX5_longestRow_127 : decode cX5_longestRow 127 = .ok (.goto (-83), 3) := dk_167 255 173 (dk_at dksX5_longestRow_5 12 rfl rfl)
theorem dX5_longestRow_130 : decode cX5_longestRow 130 = .ok (.iinc 2 1, 3) := dk_132 2 1 (dk_at dksX5_longestRow_5 15 rfl rfl)
theorem dX5_longestRow_133 : decode cX5_longestRow 133 = .ok (.goto (-100), 3) := dk_167 255 156 (dk_at dksX5_longestRow_5 18 rfl rfl)
theorem dX5_longestRow_136 : decode cX5_longestRow 136 = .ok (.iload_n 1, 1) := dk_27 (dk_at dksX5_longestRow_5 21 rfl rfl)
theorem dX5_longestRow_137 : decode cX5_longestRow 137 = .ok (.ireturn, 1) := dk_172 (dk_at dksX5_longestRow_5 22 rfl rfl)
abbrev cX5_swappable : ByteArray := prog_14_method_103_code
def yX5_swappable : MethodName := ⟨RX5, "swappable", "()I"⟩
def dkwX5_swappable_3 : List UInt8 := [132, 2, 1, 167, 255, 195, 27, 172]
abbrev dktX5_swappable_3 : List UInt8 := dkwX5_swappable_3 ++ []
def dkwX5_swappable_2 : List UInt8 := [182, 0, 117, 5, 160, 0, 7, 4, 167, 0, 4, 3, 184, 0, 101, 96, 60, 132, 3, 1, 167, 255, 212]
abbrev dktX5_swappable_2 : List UInt8 := dkwX5_swappable_2 ++ dktX5_swappable_3
def dkwX5_swappable_1 : List UInt8 := [162, 0, 45, 27, 42, 28, 3, 182, 0, 69, 42, 29, 3, 182, 0, 69, 159, 0, 17, 42, 28, 29]
abbrev dktX5_swappable_1 : List UInt8 := dkwX5_swappable_1 ++ dktX5_swappable_2
def dkwX5_swappable_0 : List UInt8 := [42, 3, 181, 0, 56, 3, 60, 3, 61, 28, 42, 4, 182, 0, 65, 162, 0, 58, 3, 62, 29, 28]
abbrev dktX5_swappable_0 : List UInt8 := dkwX5_swappable_0 ++ dktX5_swappable_1
theorem dksX5_swappable_0 : cX5_swappable.data.toList.drop 0 = dktX5_swappable_0 := by decide +kernel
theorem dksX5_swappable_1 : cX5_swappable.data.toList.drop 22 = dktX5_swappable_1 := dk_seg dksX5_swappable_0 22 rfl rfl
theorem dksX5_swappable_2 : cX5_swappable.data.toList.drop 44 = dktX5_swappable_2 := dk_seg dksX5_swappable_1 22 rfl rfl
theorem dksX5_swappable_3 : cX5_swappable.data.toList.drop 67 = dktX5_swappable_3 := dk_seg dksX5_swappable_2 23 rfl rfl
theorem dX5_swappable_0 : decode cX5_swappable 0 = .ok (.aload_n 0, 1) := dk_42 (dk_at dksX5_swappable_0 0 rfl rfl)
theorem dX5_swappable_1 : decode cX5_swappable 1 = .ok (.iconst 0, 1) := dk_3 (dk_at dksX5_swappable_0 1 rfl rfl)
theorem dX5_swappable_2 : decode cX5_swappable 2 = .ok (.putfield 56, 3) := dk_181 0 56 (dk_at dksX5_swappable_0 2 rfl rfl)
theorem dX5_swappable_5 : decode cX5_swappable 5 = .ok (.iconst 0, 1) := dk_3 (dk_at dksX5_swappable_0 5 rfl rfl)
theorem dX5_swappable_6 : decode cX5_swappable 6 = .ok (.istore_n 1, 1) := dk_60 (dk_at dksX5_swappable_0 6 rfl rfl)
theorem dX5_swappable_7 : decode cX5_swappable 7 = .ok (.iconst 0, 1) := dk_3 (dk_at dksX5_swappable_0 7 rfl rfl)
theorem dX5_swappable_8 : decode cX5_swappable 8 = .ok (.istore_n 2, 1) := dk_61 (dk_at dksX5_swappable_0 8 rfl rfl)
theorem dX5_swappable_9 : decode cX5_swappable 9 = .ok (.iload_n 2, 1) := dk_28 (dk_at dksX5_swappable_0 9 rfl rfl)
theorem dX5_swappable_10 : decode cX5_swappable 10 = .ok (.aload_n 0, 1) := dk_42 (dk_at dksX5_swappable_0 10 rfl rfl)
theorem dX5_swappable_11 : decode cX5_swappable 11 = .ok (.iconst 1, 1) := dk_4 (dk_at dksX5_swappable_0 11 rfl rfl)
theorem dX5_swappable_12 : decode cX5_swappable 12 = .ok (.invokevirtual 65, 3) := dk_182 0 65 (dk_at dksX5_swappable_0 12 rfl rfl)
theorem dX5_swappable_15 : decode cX5_swappable 15 = .ok (.if_icmp .ge 58, 3) := dk_162 0 58 (dk_at dksX5_swappable_0 15 rfl rfl)
theorem dX5_swappable_18 : decode cX5_swappable 18 = .ok (.iconst 0, 1) := dk_3 (dk_at dksX5_swappable_0 18 rfl rfl)
theorem dX5_swappable_19 : decode cX5_swappable 19 = .ok (.istore_n 3, 1) := dk_62 (dk_at dksX5_swappable_0 19 rfl rfl)
theorem dX5_swappable_20 : decode cX5_swappable 20 = .ok (.iload_n 3, 1) := dk_29 (dk_at dksX5_swappable_0 20 rfl rfl)
theorem dX5_swappable_21 : decode cX5_swappable 21 = .ok (.iload_n 2, 1) := dk_28 (dk_at dksX5_swappable_0 21 rfl rfl)
theorem dX5_swappable_22 : decode cX5_swappable 22 = .ok (.if_icmp .ge 45, 3) := dk_162 0 45 (dk_at dksX5_swappable_1 0 rfl rfl)
theorem dX5_swappable_25 : decode cX5_swappable 25 = .ok (.iload_n 1, 1) := dk_27 (dk_at dksX5_swappable_1 3 rfl rfl)
theorem dX5_swappable_26 : decode cX5_swappable 26 = .ok (.aload_n 0, 1) := dk_42 (dk_at dksX5_swappable_1 4 rfl rfl)
theorem dX5_swappable_27 : decode cX5_swappable 27 = .ok (.iload_n 2, 1) := dk_28 (dk_at dksX5_swappable_1 5 rfl rfl)
theorem dX5_swappable_28 : decode cX5_swappable 28 = .ok (.iconst 0, 1) := dk_3 (dk_at dksX5_swappable_1 6 rfl rfl)
theorem dX5_swappable_29 : decode cX5_swappable 29 = .ok (.invokevirtual 69, 3) := dk_182 0 69 (dk_at dksX5_swappable_1 7 rfl rfl)
theorem dX5_swappable_32 : decode cX5_swappable 32 = .ok (.aload_n 0, 1) := dk_42 (dk_at dksX5_swappable_1 10 rfl rfl)
theorem dX5_swappable_33 : decode cX5_swappable 33 = .ok (.iload_n 3, 1) := dk_29 (dk_at dksX5_swappable_1 11 rfl rfl)
theorem dX5_swappable_34 : decode cX5_swappable 34 = .ok (.iconst 0, 1) := dk_3 (dk_at dksX5_swappable_1 12 rfl rfl)
theorem dX5_swappable_35 : decode cX5_swappable 35 = .ok (.invokevirtual 69, 3) := dk_182 0 69 (dk_at dksX5_swappable_1 13 rfl rfl)
theorem dX5_swappable_38 : decode cX5_swappable 38 = .ok (.if_icmp .eq 17, 3) := dk_159 0 17 (dk_at dksX5_swappable_1 16 rfl rfl)
theorem dX5_swappable_41 : decode cX5_swappable 41 = .ok (.aload_n 0, 1) := dk_42 (dk_at dksX5_swappable_1 19 rfl rfl)
theorem dX5_swappable_42 : decode cX5_swappable 42 = .ok (.iload_n 2, 1) := dk_28 (dk_at dksX5_swappable_1 20 rfl rfl)
theorem dX5_swappable_43 : decode cX5_swappable 43 = .ok (.iload_n 3, 1) := dk_29 (dk_at dksX5_swappable_1 21 rfl rfl)
theorem dX5_swappable_44 : decode cX5_swappable 44 = .ok (.invokevirtual 117, 3) := dk_182 0 117 (dk_at dksX5_swappable_2 0 rfl rfl)
theorem dX5_swappable_47 : decode cX5_swappable 47 = .ok (.iconst 2, 1) := dk_5 (dk_at dksX5_swappable_2 3 rfl rfl)
theorem dX5_swappable_48 : decode cX5_swappable 48 = .ok (.if_icmp .ne 7, 3) := dk_160 0 7 (dk_at dksX5_swappable_2 4 rfl rfl)
theorem dX5_swappable_51 : decode cX5_swappable 51 = .ok (.iconst 1, 1) := dk_4 (dk_at dksX5_swappable_2 7 rfl rfl)
theorem dX5_swappable_52 : decode cX5_swappable 52 = .ok (.goto 4, 3) := dk_167 0 4 (dk_at dksX5_swappable_2 8 rfl rfl)
theorem dX5_swappable_55 : decode cX5_swappable 55 = .ok (.iconst 0, 1) := dk_3 (dk_at dksX5_swappable_2 11 rfl rfl)
theorem dX5_swappable_56 : decode cX5_swappable 56 = .ok (.invokestatic 101, 3) := dk_184 0 101 (dk_at dksX5_swappable_2 12 rfl rfl)
theorem dX5_swappable_59 : decode cX5_swappable 59 = .ok (.iadd, 1) := dk_96 (dk_at dksX5_swappable_2 15 rfl rfl)
theorem dX5_swappable_60 : decode cX5_swappable 60 = .ok (.istore_n 1, 1) := dk_60 (dk_at dksX5_swappable_2 16 rfl rfl)
theorem dX5_swappable_61 : decode cX5_swappable 61 = .ok (.iinc 3 1, 3) := dk_132 3 1 (dk_at dksX5_swappable_2 17 rfl rfl)
theorem dX5_swappable_64 : decode cX5_swappable 64 = .ok (.goto (-44), 3) := dk_167 255 212 (dk_at dksX5_swappable_2 20 rfl rfl)
theorem dX5_swappable_67 : decode cX5_swappable 67 = .ok (.iinc 2 1, 3) := dk_132 2 1 (dk_at dksX5_swappable_3 0 rfl rfl)
theorem dX5_swappable_70 : decode cX5_swappable 70 = .ok (.goto (-61), 3) := dk_167 255 195 (dk_at dksX5_swappable_3 3 rfl rfl)
theorem dX5_swappable_73 : decode cX5_swappable 73 = .ok (.iload_n 1, 1) := dk_27 (dk_at dksX5_swappable_3 6 rfl rfl)
theorem dX5_swappable_74 : decode cX5_swappable 74 = .ok (.ireturn, 1) := dk_172 (dk_at dksX5_swappable_3 7 rfl rfl)
abbrev cX5_unproved : ByteArray := prog_14_method_104_code
def yX5_unproved : MethodName := ⟨RX5, "unproved", "(I)I"⟩
def dkwX5_unproved_4 : List UInt8 := [167, 0, 4, 3, 184, 0, 101, 96, 61, 132, 4, 1, 167, 255, 186, 132, 3, 1, 167, 255, 168, 28, 172]
abbrev dktX5_unproved_4 : List UInt8 := dkwX5_unproved_4 ++ []
def dkwX5_unproved_3 : List UInt8 := [182, 0, 86, 42, 21, 4, 182, 0, 86, 160, 0, 18, 42, 29, 21, 4, 182, 0, 117, 5, 159, 0, 7, 4]
abbrev dktX5_unproved_3 : List UInt8 := dkwX5_unproved_3 ++ dktX5_unproved_4
def dkwX5_unproved_2 : List UInt8 := [29, 3, 182, 0, 69, 27, 160, 0, 43, 42, 21, 4, 3, 182, 0, 69, 27, 159, 0, 32, 42, 29]
abbrev dktX5_unproved_2 : List UInt8 := dkwX5_unproved_2 ++ dktX5_unproved_3
def dkwX5_unproved_1 : List UInt8 := [29, 42, 4, 182, 0, 65, 162, 0, 85, 3, 54, 4, 21, 4, 42, 4, 182, 0, 65, 162, 0, 66, 28, 42]
abbrev dktX5_unproved_1 : List UInt8 := dkwX5_unproved_1 ++ dktX5_unproved_2
def dkwX5_unproved_0 : List UInt8 := [42, 3, 181, 0, 56, 42, 42, 27, 182, 1, 51, 4, 182, 0, 161, 154, 0, 5, 3, 172, 3, 61, 3, 62]
abbrev dktX5_unproved_0 : List UInt8 := dkwX5_unproved_0 ++ dktX5_unproved_1
theorem dksX5_unproved_0 : cX5_unproved.data.toList.drop 0 = dktX5_unproved_0 := by decide +kernel
theorem dksX5_unproved_1 : cX5_unproved.data.toList.drop 24 = dktX5_unproved_1 := dk_seg dksX5_unproved_0 24 rfl rfl
theorem dksX5_unproved_2 : cX5_unproved.data.toList.drop 48 = dktX5_unproved_2 := dk_seg dksX5_unproved_1 24 rfl rfl
theorem dksX5_unproved_3 : cX5_unproved.data.toList.drop 70 = dktX5_unproved_3 := dk_seg dksX5_unproved_2 22 rfl rfl
theorem dksX5_unproved_4 : cX5_unproved.data.toList.drop 94 = dktX5_unproved_4 := dk_seg dksX5_unproved_3 24 rfl rfl
theorem dX5_unproved_0 : decode cX5_unproved 0 = .ok (.aload_n 0, 1) := dk_42 (dk_at dksX5_unproved_0 0 rfl rfl)
theorem dX5_unproved_1 : decode cX5_unproved 1 = .ok (.iconst 0, 1) := dk_3 (dk_at dksX5_unproved_0 1 rfl rfl)
theorem dX5_unproved_2 : decode cX5_unproved 2 = .ok (.putfield 56, 3) := dk_181 0 56 (dk_at dksX5_unproved_0 2 rfl rfl)
theorem dX5_unproved_5 : decode cX5_unproved 5 = .ok (.aload_n 0, 1) := dk_42 (dk_at dksX5_unproved_0 5 rfl rfl)
theorem dX5_unproved_6 : decode cX5_unproved 6 = .ok (.aload_n 0, 1) := dk_42 (dk_at dksX5_unproved_0 6 rfl rfl)
theorem dX5_unproved_7 : decode cX5_unproved 7 = .ok (.iload_n 1, 1) := dk_27 (dk_at dksX5_unproved_0 7 rfl rfl)
theorem dX5_unproved_8 : decode cX5_unproved 8 = .ok (.invokevirtual 307, 3) := dk_182 1 51 (dk_at dksX5_unproved_0 8 rfl rfl)
theorem dX5_unproved_11 : decode cX5_unproved 11 = .ok (.iconst 1, 1) := dk_4 (dk_at dksX5_unproved_0 11 rfl rfl)
theorem dX5_unproved_12 : decode cX5_unproved 12 = .ok (.invokevirtual 161, 3) := dk_182 0 161 (dk_at dksX5_unproved_0 12 rfl rfl)
theorem dX5_unproved_15 : decode cX5_unproved 15 = .ok (.ifCond .ne 5, 3) := dk_154 0 5 (dk_at dksX5_unproved_0 15 rfl rfl)
theorem dX5_unproved_18 : decode cX5_unproved 18 = .ok (.iconst 0, 1) := dk_3 (dk_at dksX5_unproved_0 18 rfl rfl)
theorem dX5_unproved_19 : decode cX5_unproved 19 = .ok (.ireturn, 1) := dk_172 (dk_at dksX5_unproved_0 19 rfl rfl)
theorem dX5_unproved_20 : decode cX5_unproved 20 = .ok (.iconst 0, 1) := dk_3 (dk_at dksX5_unproved_0 20 rfl rfl)
theorem dX5_unproved_21 : decode cX5_unproved 21 = .ok (.istore_n 2, 1) := dk_61 (dk_at dksX5_unproved_0 21 rfl rfl)
theorem dX5_unproved_22 : decode cX5_unproved 22 = .ok (.iconst 0, 1) := dk_3 (dk_at dksX5_unproved_0 22 rfl rfl)
theorem dX5_unproved_23 : decode cX5_unproved 23 = .ok (.istore_n 3, 1) := dk_62 (dk_at dksX5_unproved_0 23 rfl rfl)
theorem dX5_unproved_24 : decode cX5_unproved 24 = .ok (.iload_n 3, 1) := dk_29 (dk_at dksX5_unproved_1 0 rfl rfl)
theorem dX5_unproved_25 : decode cX5_unproved 25 = .ok (.aload_n 0, 1) := dk_42 (dk_at dksX5_unproved_1 1 rfl rfl)
theorem dX5_unproved_26 : decode cX5_unproved 26 = .ok (.iconst 1, 1) := dk_4 (dk_at dksX5_unproved_1 2 rfl rfl)
theorem dX5_unproved_27 : decode cX5_unproved 27 = .ok (.invokevirtual 65, 3) := dk_182 0 65 (dk_at dksX5_unproved_1 3 rfl rfl)
theorem dX5_unproved_30 : decode cX5_unproved 30 = .ok (.if_icmp .ge 85, 3) := dk_162 0 85 (dk_at dksX5_unproved_1 6 rfl rfl)
theorem dX5_unproved_33 : decode cX5_unproved 33 = .ok (.iconst 0, 1) := dk_3 (dk_at dksX5_unproved_1 9 rfl rfl)
theorem dX5_unproved_34 : decode cX5_unproved 34 = .ok (.istore 4, 2) := dk_54 4 (dk_at dksX5_unproved_1 10 rfl rfl)
theorem dX5_unproved_36 : decode cX5_unproved 36 = .ok (.iload 4, 2) := dk_21 4 (dk_at dksX5_unproved_1 12 rfl rfl)
theorem dX5_unproved_38 : decode cX5_unproved 38 = .ok (.aload_n 0, 1) := dk_42 (dk_at dksX5_unproved_1 14 rfl rfl)
theorem dX5_unproved_39 : decode cX5_unproved 39 = .ok (.iconst 1, 1) := dk_4 (dk_at dksX5_unproved_1 15 rfl rfl)
theorem dX5_unproved_40 : decode cX5_unproved 40 = .ok (.invokevirtual 65, 3) := dk_182 0 65 (dk_at dksX5_unproved_1 16 rfl rfl)
theorem dX5_unproved_43 : decode cX5_unproved 43 = .ok (.if_icmp .ge 66, 3) := dk_162 0 66 (dk_at dksX5_unproved_1 19 rfl rfl)
theorem dX5_unproved_46 : decode cX5_unproved 46 = .ok (.iload_n 2, 1) := dk_28 (dk_at dksX5_unproved_1 22 rfl rfl)
theorem dX5_unproved_47 : decode cX5_unproved 47 = .ok (.aload_n 0, 1) := dk_42 (dk_at dksX5_unproved_1 23 rfl rfl)
theorem dX5_unproved_48 : decode cX5_unproved 48 = .ok (.iload_n 3, 1) := dk_29 (dk_at dksX5_unproved_2 0 rfl rfl)
theorem dX5_unproved_49 : decode cX5_unproved 49 = .ok (.iconst 0, 1) := dk_3 (dk_at dksX5_unproved_2 1 rfl rfl)
theorem dX5_unproved_50 : decode cX5_unproved 50 = .ok (.invokevirtual 69, 3) := dk_182 0 69 (dk_at dksX5_unproved_2 2 rfl rfl)
theorem dX5_unproved_53 : decode cX5_unproved 53 = .ok (.iload_n 1, 1) := dk_27 (dk_at dksX5_unproved_2 5 rfl rfl)
theorem dX5_unproved_54 : decode cX5_unproved 54 = .ok (.if_icmp .ne 43, 3) := dk_160 0 43 (dk_at dksX5_unproved_2 6 rfl rfl)
theorem dX5_unproved_57 : decode cX5_unproved 57 = .ok (.aload_n 0, 1) := dk_42 (dk_at dksX5_unproved_2 9 rfl rfl)
theorem dX5_unproved_58 : decode cX5_unproved 58 = .ok (.iload 4, 2) := dk_21 4 (dk_at dksX5_unproved_2 10 rfl rfl)
theorem dX5_unproved_60 : decode cX5_unproved 60 = .ok (.iconst 0, 1) := dk_3 (dk_at dksX5_unproved_2 12 rfl rfl)
theorem dX5_unproved_61 : decode cX5_unproved 61 = .ok (.invokevirtual 69, 3) := dk_182 0 69 (dk_at dksX5_unproved_2 13 rfl rfl)
theorem dX5_unproved_64 : decode cX5_unproved 64 = .ok (.iload_n 1, 1) := dk_27 (dk_at dksX5_unproved_2 16 rfl rfl)
theorem dX5_unproved_65 : decode cX5_unproved 65 = .ok (.if_icmp .eq 32, 3) := dk_159 0 32 (dk_at dksX5_unproved_2 17 rfl rfl)
theorem dX5_unproved_68 : decode cX5_unproved 68 = .ok (.aload_n 0, 1) := dk_42 (dk_at dksX5_unproved_2 20 rfl rfl)
theorem dX5_unproved_69 : decode cX5_unproved 69 = .ok (.iload_n 3, 1) := dk_29 (dk_at dksX5_unproved_2 21 rfl rfl)
theorem dX5_unproved_70 : decode cX5_unproved 70 = .ok (.invokevirtual 86, 3) := dk_182 0 86 (dk_at dksX5_unproved_3 0 rfl rfl)
theorem dX5_unproved_73 : decode cX5_unproved 73 = .ok (.aload_n 0, 1) := dk_42 (dk_at dksX5_unproved_3 3 rfl rfl)
theorem dX5_unproved_74 : decode cX5_unproved 74 = .ok (.iload 4, 2) := dk_21 4 (dk_at dksX5_unproved_3 4 rfl rfl)
theorem dX5_unproved_76 : decode cX5_unproved 76 = .ok (.invokevirtual 86, 3) := dk_182 0 86 (dk_at dksX5_unproved_3 6 rfl rfl)
theorem dX5_unproved_79 : decode cX5_unproved 79 = .ok (.if_icmp .ne 18, 3) := dk_160 0 18 (dk_at dksX5_unproved_3 9 rfl rfl)
theorem dX5_unproved_82 : decode cX5_unproved 82 = .ok (.aload_n 0, 1) := dk_42 (dk_at dksX5_unproved_3 12 rfl rfl)
theorem dX5_unproved_83 : decode cX5_unproved 83 = .ok (.iload_n 3, 1) := dk_29 (dk_at dksX5_unproved_3 13 rfl rfl)
theorem dX5_unproved_84 : decode cX5_unproved 84 = .ok (.iload 4, 2) := dk_21 4 (dk_at dksX5_unproved_3 14 rfl rfl)
theorem dX5_unproved_86 : decode cX5_unproved 86 = .ok (.invokevirtual 117, 3) := dk_182 0 117 (dk_at dksX5_unproved_3 16 rfl rfl)
theorem dX5_unproved_89 : decode cX5_unproved 89 = .ok (.iconst 2, 1) := dk_5 (dk_at dksX5_unproved_3 19 rfl rfl)
theorem dX5_unproved_90 : decode cX5_unproved 90 = .ok (.if_icmp .eq 7, 3) := dk_159 0 7 (dk_at dksX5_unproved_3 20 rfl rfl)
theorem dX5_unproved_93 : decode cX5_unproved 93 = .ok (.iconst 1, 1) := dk_4 (dk_at dksX5_unproved_3 23 rfl rfl)
theorem dX5_unproved_94 : decode cX5_unproved 94 = .ok (.goto 4, 3) := dk_167 0 4 (dk_at dksX5_unproved_4 0 rfl rfl)
theorem dX5_unproved_97 : decode cX5_unproved 97 = .ok (.iconst 0, 1) := dk_3 (dk_at dksX5_unproved_4 3 rfl rfl)
theorem dX5_unproved_98 : decode cX5_unproved 98 = .ok (.invokestatic 101, 3) := dk_184 0 101 (dk_at dksX5_unproved_4 4 rfl rfl)
theorem dX5_unproved_101 : decode cX5_unproved 101 = .ok (.iadd, 1) := dk_96 (dk_at dksX5_unproved_4 7 rfl rfl)
theorem dX5_unproved_102 : decode cX5_unproved 102 = .ok (.istore_n 2, 1) := dk_61 (dk_at dksX5_unproved_4 8 rfl rfl)
theorem dX5_unproved_103 : decode cX5_unproved 103 = .ok (.iinc 4 1, 3) := dk_132 4 1 (dk_at dksX5_unproved_4 9 rfl rfl)
theorem dX5_unproved_106 : decode cX5_unproved 106 = .ok (.goto (-70), 3) := dk_167 255 186 (dk_at dksX5_unproved_4 12 rfl rfl)
theorem dX5_unproved_109 : decode cX5_unproved 109 = .ok (.iinc 3 1, 3) := dk_132 3 1 (dk_at dksX5_unproved_4 15 rfl rfl)
theorem dX5_unproved_112 : decode cX5_unproved 112 = .ok (.goto (-88), 3) := dk_167 255 168 (dk_at dksX5_unproved_4 18 rfl rfl)
theorem dX5_unproved_115 : decode cX5_unproved 115 = .ok (.iload_n 2, 1) := dk_28 (dk_at dksX5_unproved_4 21 rfl rfl)
theorem dX5_unproved_116 : decode cX5_unproved 116 = .ok (.ireturn, 1) := dk_172 (dk_at dksX5_unproved_4 22 rfl rfl)
abbrev cX5_turnsLeft : ByteArray := prog_14_method_105_code
def yX5_turnsLeft : MethodName := ⟨RX5, "turnsLeft", "(I)I"⟩
def dkwX5_turnsLeft_1 : List UInt8 := [153, 0, 21, 42, 27, 3, 182, 0, 137, 42, 27, 4, 182, 0, 137, 184, 1, 96, 167, 0, 4, 3, 172]
abbrev dktX5_turnsLeft_1 : List UInt8 := dkwX5_turnsLeft_1 ++ []
def dkwX5_turnsLeft_0 : List UInt8 := [42, 3, 181, 0, 56, 42, 42, 27, 182, 1, 75, 4, 182, 0, 161, 153, 0, 29, 42, 27, 182, 0, 130]
abbrev dktX5_turnsLeft_0 : List UInt8 := dkwX5_turnsLeft_0 ++ dktX5_turnsLeft_1
theorem dksX5_turnsLeft_0 : cX5_turnsLeft.data.toList.drop 0 = dktX5_turnsLeft_0 := by decide +kernel
theorem dksX5_turnsLeft_1 : cX5_turnsLeft.data.toList.drop 23 = dktX5_turnsLeft_1 := dk_seg dksX5_turnsLeft_0 23 rfl rfl
theorem dX5_turnsLeft_0 : decode cX5_turnsLeft 0 = .ok (.aload_n 0, 1) := dk_42 (dk_at dksX5_turnsLeft_0 0 rfl rfl)
theorem dX5_turnsLeft_1 : decode cX5_turnsLeft 1 = .ok (.iconst 0, 1) := dk_3 (dk_at dksX5_turnsLeft_0 1 rfl rfl)
theorem dX5_turnsLeft_2 : decode cX5_turnsLeft 2 = .ok (.putfield 56, 3) := dk_181 0 56 (dk_at dksX5_turnsLeft_0 2 rfl rfl)
theorem dX5_turnsLeft_5 : decode cX5_turnsLeft 5 = .ok (.aload_n 0, 1) := dk_42 (dk_at dksX5_turnsLeft_0 5 rfl rfl)
theorem dX5_turnsLeft_6 : decode cX5_turnsLeft 6 = .ok (.aload_n 0, 1) := dk_42 (dk_at dksX5_turnsLeft_0 6 rfl rfl)
theorem dX5_turnsLeft_7 : decode cX5_turnsLeft 7 = .ok (.iload_n 1, 1) := dk_27 (dk_at dksX5_turnsLeft_0 7 rfl rfl)
theorem dX5_turnsLeft_8 : decode cX5_turnsLeft 8 = .ok (.invokevirtual 331, 3) := dk_182 1 75 (dk_at dksX5_turnsLeft_0 8 rfl rfl)
theorem dX5_turnsLeft_11 : decode cX5_turnsLeft 11 = .ok (.iconst 1, 1) := dk_4 (dk_at dksX5_turnsLeft_0 11 rfl rfl)
theorem dX5_turnsLeft_12 : decode cX5_turnsLeft 12 = .ok (.invokevirtual 161, 3) := dk_182 0 161 (dk_at dksX5_turnsLeft_0 12 rfl rfl)
theorem dX5_turnsLeft_15 : decode cX5_turnsLeft 15 = .ok (.ifCond .eq 29, 3) := dk_153 0 29 (dk_at dksX5_turnsLeft_0 15 rfl rfl)
theorem dX5_turnsLeft_18 : decode cX5_turnsLeft 18 = .ok (.aload_n 0, 1) := dk_42 (dk_at dksX5_turnsLeft_0 18 rfl rfl)
theorem dX5_turnsLeft_19 : decode cX5_turnsLeft 19 = .ok (.iload_n 1, 1) := dk_27 (dk_at dksX5_turnsLeft_0 19 rfl rfl)
theorem dX5_turnsLeft_20 : decode cX5_turnsLeft 20 = .ok (.invokevirtual 130, 3) := dk_182 0 130 (dk_at dksX5_turnsLeft_0 20 rfl rfl)
theorem dX5_turnsLeft_23 : decode cX5_turnsLeft 23 = .ok (.ifCond .eq 21, 3) := dk_153 0 21 (dk_at dksX5_turnsLeft_1 0 rfl rfl)
theorem dX5_turnsLeft_26 : decode cX5_turnsLeft 26 = .ok (.aload_n 0, 1) := dk_42 (dk_at dksX5_turnsLeft_1 3 rfl rfl)
theorem dX5_turnsLeft_27 : decode cX5_turnsLeft 27 = .ok (.iload_n 1, 1) := dk_27 (dk_at dksX5_turnsLeft_1 4 rfl rfl)
theorem dX5_turnsLeft_28 : decode cX5_turnsLeft 28 = .ok (.iconst 0, 1) := dk_3 (dk_at dksX5_turnsLeft_1 5 rfl rfl)
theorem dX5_turnsLeft_29 : decode cX5_turnsLeft 29 = .ok (.invokevirtual 137, 3) := dk_182 0 137 (dk_at dksX5_turnsLeft_1 6 rfl rfl)
theorem dX5_turnsLeft_32 : decode cX5_turnsLeft 32 = .ok (.aload_n 0, 1) := dk_42 (dk_at dksX5_turnsLeft_1 9 rfl rfl)
theorem dX5_turnsLeft_33 : decode cX5_turnsLeft 33 = .ok (.iload_n 1, 1) := dk_27 (dk_at dksX5_turnsLeft_1 10 rfl rfl)
theorem dX5_turnsLeft_34 : decode cX5_turnsLeft 34 = .ok (.iconst 1, 1) := dk_4 (dk_at dksX5_turnsLeft_1 11 rfl rfl)
theorem dX5_turnsLeft_35 : decode cX5_turnsLeft 35 = .ok (.invokevirtual 137, 3) := dk_182 0 137 (dk_at dksX5_turnsLeft_1 12 rfl rfl)
theorem dX5_turnsLeft_38 : decode cX5_turnsLeft 38 = .ok (.invokestatic 352, 3) := dk_184 1 96 (dk_at dksX5_turnsLeft_1 15 rfl rfl)
theorem dX5_turnsLeft_41 : decode cX5_turnsLeft 41 = .ok (.goto 4, 3) := dk_167 0 4 (dk_at dksX5_turnsLeft_1 18 rfl rfl)
theorem dX5_turnsLeft_44 : decode cX5_turnsLeft 44 = .ok (.iconst 0, 1) := dk_3 (dk_at dksX5_turnsLeft_1 21 rfl rfl)
theorem dX5_turnsLeft_45 : decode cX5_turnsLeft 45 = .ok (.ireturn, 1) := dk_172 (dk_at dksX5_turnsLeft_1 22 rfl rfl)
abbrev cX5_nearest : ByteArray := prog_14_method_106_code
def yX5_nearest : MethodName := ⟨RX5, "nearest", "(I)I"⟩
def dkwX5_nearest_3 : List UInt8 := [162, 0, 5, 29, 61, 132, 3, 1, 167, 255, 201, 28, 172]
abbrev dktX5_nearest_3 : List UInt8 := dkwX5_nearest_3 ++ []
def dkwX5_nearest_2 : List UInt8 := [42, 27, 182, 0, 86, 100, 184, 1, 99, 42, 28, 182, 0, 86, 42, 27, 182, 0, 86, 100, 184, 1, 99]
abbrev dktX5_nearest_2 : List UInt8 := dkwX5_nearest_2 ++ dktX5_nearest_3
def dkwX5_nearest_1 : List UInt8 := [29, 42, 4, 182, 0, 65, 162, 0, 52, 29, 27, 159, 0, 41, 28, 2, 159, 0, 34, 42, 29, 182, 0, 86]
abbrev dktX5_nearest_1 : List UInt8 := dkwX5_nearest_1 ++ dktX5_nearest_2
def dkwX5_nearest_0 : List UInt8 := [42, 3, 181, 0, 56, 42, 42, 27, 182, 1, 39, 4, 182, 0, 161, 154, 0, 5, 3, 172, 2, 61, 3, 62]
abbrev dktX5_nearest_0 : List UInt8 := dkwX5_nearest_0 ++ dktX5_nearest_1
theorem dksX5_nearest_0 : cX5_nearest.data.toList.drop 0 = dktX5_nearest_0 := by decide +kernel
theorem dksX5_nearest_1 : cX5_nearest.data.toList.drop 24 = dktX5_nearest_1 := dk_seg dksX5_nearest_0 24 rfl rfl
theorem dksX5_nearest_2 : cX5_nearest.data.toList.drop 48 = dktX5_nearest_2 := dk_seg dksX5_nearest_1 24 rfl rfl
theorem dksX5_nearest_3 : cX5_nearest.data.toList.drop 71 = dktX5_nearest_3 := dk_seg dksX5_nearest_2 23 rfl rfl
theorem dX5_nearest_0 : decode cX5_nearest 0 = .ok (.aload_n 0, 1) := dk_42 (dk_at dksX5_nearest_0 0 rfl rfl)
theorem dX5_nearest_1 : decode cX5_nearest 1 = .ok (.iconst 0, 1) := dk_3 (dk_at dksX5_nearest_0 1 rfl rfl)
theorem dX5_nearest_2 : decode cX5_nearest 2 = .ok (.putfield 56, 3) := dk_181 0 56 (dk_at dksX5_nearest_0 2 rfl rfl)
theorem dX5_nearest_5 : decode cX5_nearest 5 = .ok (.aload_n 0, 1) := dk_42 (dk_at dksX5_nearest_0 5 rfl rfl)
theorem dX5_nearest_6 : decode cX5_nearest 6 = .ok (.aload_n 0, 1) := dk_42 (dk_at dksX5_nearest_0 6 rfl rfl)
theorem dX5_nearest_7 : decode cX5_nearest 7 = .ok (.iload_n 1, 1) := dk_27 (dk_at dksX5_nearest_0 7 rfl rfl)
theorem dX5_nearest_8 : decode cX5_nearest 8 = .ok (.invokevirtual 295, 3) := dk_182 1 39 (dk_at dksX5_nearest_0 8 rfl rfl)
theorem dX5_nearest_11 : decode cX5_nearest 11 = .ok (.iconst 1, 1) := dk_4 (dk_at dksX5_nearest_0 11 rfl rfl)
theorem dX5_nearest_12 : decode cX5_nearest 12 = .ok (.invokevirtual 161, 3) := dk_182 0 161 (dk_at dksX5_nearest_0 12 rfl rfl)
theorem dX5_nearest_15 : decode cX5_nearest 15 = .ok (.ifCond .ne 5, 3) := dk_154 0 5 (dk_at dksX5_nearest_0 15 rfl rfl)
theorem dX5_nearest_18 : decode cX5_nearest 18 = .ok (.iconst 0, 1) := dk_3 (dk_at dksX5_nearest_0 18 rfl rfl)
theorem dX5_nearest_19 : decode cX5_nearest 19 = .ok (.ireturn, 1) := dk_172 (dk_at dksX5_nearest_0 19 rfl rfl)
theorem dX5_nearest_20 : decode cX5_nearest 20 = .ok (.iconst (-1), 1) := dk_2 (dk_at dksX5_nearest_0 20 rfl rfl)
theorem dX5_nearest_21 : decode cX5_nearest 21 = .ok (.istore_n 2, 1) := dk_61 (dk_at dksX5_nearest_0 21 rfl rfl)
theorem dX5_nearest_22 : decode cX5_nearest 22 = .ok (.iconst 0, 1) := dk_3 (dk_at dksX5_nearest_0 22 rfl rfl)
theorem dX5_nearest_23 : decode cX5_nearest 23 = .ok (.istore_n 3, 1) := dk_62 (dk_at dksX5_nearest_0 23 rfl rfl)
theorem dX5_nearest_24 : decode cX5_nearest 24 = .ok (.iload_n 3, 1) := dk_29 (dk_at dksX5_nearest_1 0 rfl rfl)
theorem dX5_nearest_25 : decode cX5_nearest 25 = .ok (.aload_n 0, 1) := dk_42 (dk_at dksX5_nearest_1 1 rfl rfl)
theorem dX5_nearest_26 : decode cX5_nearest 26 = .ok (.iconst 1, 1) := dk_4 (dk_at dksX5_nearest_1 2 rfl rfl)
theorem dX5_nearest_27 : decode cX5_nearest 27 = .ok (.invokevirtual 65, 3) := dk_182 0 65 (dk_at dksX5_nearest_1 3 rfl rfl)
theorem dX5_nearest_30 : decode cX5_nearest 30 = .ok (.if_icmp .ge 52, 3) := dk_162 0 52 (dk_at dksX5_nearest_1 6 rfl rfl)
theorem dX5_nearest_33 : decode cX5_nearest 33 = .ok (.iload_n 3, 1) := dk_29 (dk_at dksX5_nearest_1 9 rfl rfl)
theorem dX5_nearest_34 : decode cX5_nearest 34 = .ok (.iload_n 1, 1) := dk_27 (dk_at dksX5_nearest_1 10 rfl rfl)
theorem dX5_nearest_35 : decode cX5_nearest 35 = .ok (.if_icmp .eq 41, 3) := dk_159 0 41 (dk_at dksX5_nearest_1 11 rfl rfl)
theorem dX5_nearest_38 : decode cX5_nearest 38 = .ok (.iload_n 2, 1) := dk_28 (dk_at dksX5_nearest_1 14 rfl rfl)
theorem dX5_nearest_39 : decode cX5_nearest 39 = .ok (.iconst (-1), 1) := dk_2 (dk_at dksX5_nearest_1 15 rfl rfl)
theorem dX5_nearest_40 : decode cX5_nearest 40 = .ok (.if_icmp .eq 34, 3) := dk_159 0 34 (dk_at dksX5_nearest_1 16 rfl rfl)
theorem dX5_nearest_43 : decode cX5_nearest 43 = .ok (.aload_n 0, 1) := dk_42 (dk_at dksX5_nearest_1 19 rfl rfl)
theorem dX5_nearest_44 : decode cX5_nearest 44 = .ok (.iload_n 3, 1) := dk_29 (dk_at dksX5_nearest_1 20 rfl rfl)
theorem dX5_nearest_45 : decode cX5_nearest 45 = .ok (.invokevirtual 86, 3) := dk_182 0 86 (dk_at dksX5_nearest_1 21 rfl rfl)
theorem dX5_nearest_48 : decode cX5_nearest 48 = .ok (.aload_n 0, 1) := dk_42 (dk_at dksX5_nearest_2 0 rfl rfl)
theorem dX5_nearest_49 : decode cX5_nearest 49 = .ok (.iload_n 1, 1) := dk_27 (dk_at dksX5_nearest_2 1 rfl rfl)
theorem dX5_nearest_50 : decode cX5_nearest 50 = .ok (.invokevirtual 86, 3) := dk_182 0 86 (dk_at dksX5_nearest_2 2 rfl rfl)
theorem dX5_nearest_53 : decode cX5_nearest 53 = .ok (.isub, 1) := dk_100 (dk_at dksX5_nearest_2 5 rfl rfl)
theorem dX5_nearest_54 : decode cX5_nearest 54 = .ok (.invokestatic 355, 3) := dk_184 1 99 (dk_at dksX5_nearest_2 6 rfl rfl)
theorem dX5_nearest_57 : decode cX5_nearest 57 = .ok (.aload_n 0, 1) := dk_42 (dk_at dksX5_nearest_2 9 rfl rfl)
theorem dX5_nearest_58 : decode cX5_nearest 58 = .ok (.iload_n 2, 1) := dk_28 (dk_at dksX5_nearest_2 10 rfl rfl)
theorem dX5_nearest_59 : decode cX5_nearest 59 = .ok (.invokevirtual 86, 3) := dk_182 0 86 (dk_at dksX5_nearest_2 11 rfl rfl)
theorem dX5_nearest_62 : decode cX5_nearest 62 = .ok (.aload_n 0, 1) := dk_42 (dk_at dksX5_nearest_2 14 rfl rfl)
theorem dX5_nearest_63 : decode cX5_nearest 63 = .ok (.iload_n 1, 1) := dk_27 (dk_at dksX5_nearest_2 15 rfl rfl)
theorem dX5_nearest_64 : decode cX5_nearest 64 = .ok (.invokevirtual 86, 3) := dk_182 0 86 (dk_at dksX5_nearest_2 16 rfl rfl)
theorem dX5_nearest_67 : decode cX5_nearest 67 = .ok (.isub, 1) := dk_100 (dk_at dksX5_nearest_2 19 rfl rfl)
theorem dX5_nearest_68 : decode cX5_nearest 68 = .ok (.invokestatic 355, 3) := dk_184 1 99 (dk_at dksX5_nearest_2 20 rfl rfl)
theorem dX5_nearest_71 : decode cX5_nearest 71 = .ok (.if_icmp .ge 5, 3) := dk_162 0 5 (dk_at dksX5_nearest_3 0 rfl rfl)
theorem dX5_nearest_74 : decode cX5_nearest 74 = .ok (.iload_n 3, 1) := dk_29 (dk_at dksX5_nearest_3 3 rfl rfl)
theorem dX5_nearest_75 : decode cX5_nearest 75 = .ok (.istore_n 2, 1) := dk_61 (dk_at dksX5_nearest_3 4 rfl rfl)
theorem dX5_nearest_76 : decode cX5_nearest 76 = .ok (.iinc 3 1, 3) := dk_132 3 1 (dk_at dksX5_nearest_3 5 rfl rfl)
theorem dX5_nearest_79 : decode cX5_nearest 79 = .ok (.goto (-55), 3) := dk_167 255 201 (dk_at dksX5_nearest_3 8 rfl rfl)
theorem dX5_nearest_82 : decode cX5_nearest 82 = .ok (.iload_n 2, 1) := dk_28 (dk_at dksX5_nearest_3 11 rfl rfl)
theorem dX5_nearest_83 : decode cX5_nearest 83 = .ok (.ireturn, 1) := dk_172 (dk_at dksX5_nearest_3 12 rfl rfl)
abbrev cX5_refusals : ByteArray := prog_14_method_107_code
def yX5_refusals : MethodName := ⟨RX5, "refusals", "(I)I"⟩
def dkwX5_refusals_1 : List UInt8 := [27, 46, 167, 0, 4, 3, 172]
abbrev dktX5_refusals_1 : List UInt8 := dkwX5_refusals_1 ++ []
def dkwX5_refusals_0 : List UInt8 := [42, 3, 181, 0, 56, 42, 27, 4, 16, 9, 184, 0, 165, 4, 182, 0, 161, 153, 0, 12, 42, 180, 0, 17]
abbrev dktX5_refusals_0 : List UInt8 := dkwX5_refusals_0 ++ dktX5_refusals_1
theorem dksX5_refusals_0 : cX5_refusals.data.toList.drop 0 = dktX5_refusals_0 := by decide +kernel
theorem dksX5_refusals_1 : cX5_refusals.data.toList.drop 24 = dktX5_refusals_1 := dk_seg dksX5_refusals_0 24 rfl rfl
theorem dX5_refusals_0 : decode cX5_refusals 0 = .ok (.aload_n 0, 1) := dk_42 (dk_at dksX5_refusals_0 0 rfl rfl)
theorem dX5_refusals_1 : decode cX5_refusals 1 = .ok (.iconst 0, 1) := dk_3 (dk_at dksX5_refusals_0 1 rfl rfl)
theorem dX5_refusals_2 : decode cX5_refusals 2 = .ok (.putfield 56, 3) := dk_181 0 56 (dk_at dksX5_refusals_0 2 rfl rfl)
theorem dX5_refusals_5 : decode cX5_refusals 5 = .ok (.aload_n 0, 1) := dk_42 (dk_at dksX5_refusals_0 5 rfl rfl)
theorem dX5_refusals_6 : decode cX5_refusals 6 = .ok (.iload_n 1, 1) := dk_27 (dk_at dksX5_refusals_0 6 rfl rfl)
theorem dX5_refusals_7 : decode cX5_refusals 7 = .ok (.iconst 1, 1) := dk_4 (dk_at dksX5_refusals_0 7 rfl rfl)
theorem dX5_refusals_8 : decode cX5_refusals 8 = .ok (.bipush 9, 2) := dk_16 9 (dk_at dksX5_refusals_0 8 rfl rfl)
theorem dX5_refusals_10 : decode cX5_refusals 10 = .ok (.invokestatic 165, 3) := dk_184 0 165 (dk_at dksX5_refusals_0 10 rfl rfl)
theorem dX5_refusals_13 : decode cX5_refusals 13 = .ok (.iconst 1, 1) := dk_4 (dk_at dksX5_refusals_0 13 rfl rfl)
theorem dX5_refusals_14 : decode cX5_refusals 14 = .ok (.invokevirtual 161, 3) := dk_182 0 161 (dk_at dksX5_refusals_0 14 rfl rfl)
theorem dX5_refusals_17 : decode cX5_refusals 17 = .ok (.ifCond .eq 12, 3) := dk_153 0 12 (dk_at dksX5_refusals_0 17 rfl rfl)
theorem dX5_refusals_20 : decode cX5_refusals 20 = .ok (.aload_n 0, 1) := dk_42 (dk_at dksX5_refusals_0 20 rfl rfl)
theorem dX5_refusals_21 : decode cX5_refusals 21 = .ok (.getfield 17, 3) := dk_180 0 17 (dk_at dksX5_refusals_0 21 rfl rfl)
theorem dX5_refusals_24 : decode cX5_refusals 24 = .ok (.iload_n 1, 1) := dk_27 (dk_at dksX5_refusals_1 0 rfl rfl)
theorem dX5_refusals_25 : decode cX5_refusals 25 = .ok (.iaload, 1) := dk_46 (dk_at dksX5_refusals_1 1 rfl rfl)
theorem dX5_refusals_26 : decode cX5_refusals 26 = .ok (.goto 4, 3) := dk_167 0 4 (dk_at dksX5_refusals_1 2 rfl rfl)
theorem dX5_refusals_29 : decode cX5_refusals 29 = .ok (.iconst 0, 1) := dk_3 (dk_at dksX5_refusals_1 5 rfl rfl)
theorem dX5_refusals_30 : decode cX5_refusals 30 = .ok (.ireturn, 1) := dk_172 (dk_at dksX5_refusals_1 6 rfl rfl)
abbrev cX5_gap : ByteArray := prog_14_method_109_code
def yX5_gap : MethodName := ⟨RX5, "gap", "()I"⟩
def dkwX5_gap_6 : List UInt8 := [96, 60, 132, 2, 1, 167, 255, 224, 27, 172]
abbrev dktX5_gap_6 : List UInt8 := dkwX5_gap_6 ++ []
def dkwX5_gap_5 : List UInt8 := [182, 0, 65, 162, 0, 29, 27, 42, 28, 182, 0, 130, 153, 0, 11, 42, 28, 182, 1, 102, 167, 0, 4, 3]
abbrev dktX5_gap_5 : List UInt8 := dkwX5_gap_5 ++ dktX5_gap_6
def dkwX5_gap_4 : List UInt8 := [184, 0, 101, 96, 60, 132, 3, 1, 167, 255, 176, 132, 2, 1, 167, 255, 159, 3, 61, 28, 42, 6]
abbrev dktX5_gap_4 : List UInt8 := dkwX5_gap_4 ++ dktX5_gap_5
def dkwX5_gap_3 : List UInt8 := [159, 0, 22, 42, 28, 29, 182, 0, 117, 42, 28, 29, 182, 0, 95, 159, 0, 7, 4, 167, 0, 4, 3]
abbrev dktX5_gap_3 : List UInt8 := dkwX5_gap_3 ++ dktX5_gap_4
def dkwX5_gap_2 : List UInt8 := [182, 0, 95, 159, 0, 7, 4, 167, 0, 4, 3, 184, 0, 101, 96, 60, 27, 42, 28, 29, 182, 0, 117, 2]
abbrev dktX5_gap_2 : List UInt8 := dkwX5_gap_2 ++ dktX5_gap_3
def dkwX5_gap_1 : List UInt8 := [162, 0, 81, 27, 42, 28, 29, 182, 0, 108, 2, 159, 0, 22, 42, 28, 29, 182, 0, 108, 42, 28, 29]
abbrev dktX5_gap_1 : List UInt8 := dkwX5_gap_1 ++ dktX5_gap_2
def dkwX5_gap_0 : List UInt8 := [42, 3, 181, 0, 56, 3, 60, 3, 61, 28, 42, 4, 182, 0, 65, 162, 0, 94, 3, 62, 29, 28]
abbrev dktX5_gap_0 : List UInt8 := dkwX5_gap_0 ++ dktX5_gap_1
theorem dksX5_gap_0 : cX5_gap.data.toList.drop 0 = dktX5_gap_0 := by decide +kernel
theorem dksX5_gap_1 : cX5_gap.data.toList.drop 22 = dktX5_gap_1 := dk_seg dksX5_gap_0 22 rfl rfl
theorem dksX5_gap_2 : cX5_gap.data.toList.drop 45 = dktX5_gap_2 := dk_seg dksX5_gap_1 23 rfl rfl
theorem dksX5_gap_3 : cX5_gap.data.toList.drop 69 = dktX5_gap_3 := dk_seg dksX5_gap_2 24 rfl rfl
theorem dksX5_gap_4 : cX5_gap.data.toList.drop 92 = dktX5_gap_4 := dk_seg dksX5_gap_3 23 rfl rfl
theorem dksX5_gap_5 : cX5_gap.data.toList.drop 114 = dktX5_gap_5 := dk_seg dksX5_gap_4 22 rfl rfl
theorem dksX5_gap_6 : cX5_gap.data.toList.drop 138 = dktX5_gap_6 := dk_seg dksX5_gap_5 24 rfl rfl
theorem dX5_gap_0 : decode cX5_gap 0 = .ok (.aload_n 0, 1) := dk_42 (dk_at dksX5_gap_0 0 rfl rfl)
theorem dX5_gap_1 : decode cX5_gap 1 = .ok (.iconst 0, 1) := dk_3 (dk_at dksX5_gap_0 1 rfl rfl)
theorem dX5_gap_2 : decode cX5_gap 2 = .ok (.putfield 56, 3) := dk_181 0 56 (dk_at dksX5_gap_0 2 rfl rfl)
theorem dX5_gap_5 : decode cX5_gap 5 = .ok (.iconst 0, 1) := dk_3 (dk_at dksX5_gap_0 5 rfl rfl)
theorem dX5_gap_6 : decode cX5_gap 6 = .ok (.istore_n 1, 1) := dk_60 (dk_at dksX5_gap_0 6 rfl rfl)
theorem dX5_gap_7 : decode cX5_gap 7 = .ok (.iconst 0, 1) := dk_3 (dk_at dksX5_gap_0 7 rfl rfl)
theorem dX5_gap_8 : decode cX5_gap 8 = .ok (.istore_n 2, 1) := dk_61 (dk_at dksX5_gap_0 8 rfl rfl)
theorem dX5_gap_9 : decode cX5_gap 9 = .ok (.iload_n 2, 1) := dk_28 (dk_at dksX5_gap_0 9 rfl rfl)
theorem dX5_gap_10 : decode cX5_gap 10 = .ok (.aload_n 0, 1) := dk_42 (dk_at dksX5_gap_0 10 rfl rfl)
theorem dX5_gap_11 : decode cX5_gap 11 = .ok (.iconst 1, 1) := dk_4 (dk_at dksX5_gap_0 11 rfl rfl)
theorem dX5_gap_12 : decode cX5_gap 12 = .ok (.invokevirtual 65, 3) := dk_182 0 65 (dk_at dksX5_gap_0 12 rfl rfl)
theorem dX5_gap_15 : decode cX5_gap 15 = .ok (.if_icmp .ge 94, 3) := dk_162 0 94 (dk_at dksX5_gap_0 15 rfl rfl)
theorem dX5_gap_18 : decode cX5_gap 18 = .ok (.iconst 0, 1) := dk_3 (dk_at dksX5_gap_0 18 rfl rfl)
theorem dX5_gap_19 : decode cX5_gap 19 = .ok (.istore_n 3, 1) := dk_62 (dk_at dksX5_gap_0 19 rfl rfl)
theorem dX5_gap_20 : decode cX5_gap 20 = .ok (.iload_n 3, 1) := dk_29 (dk_at dksX5_gap_0 20 rfl rfl)
theorem dX5_gap_21 : decode cX5_gap 21 = .ok (.iload_n 2, 1) := dk_28 (dk_at dksX5_gap_0 21 rfl rfl)
theorem dX5_gap_22 : decode cX5_gap 22 = .ok (.if_icmp .ge 81, 3) := dk_162 0 81 (dk_at dksX5_gap_1 0 rfl rfl)
theorem dX5_gap_25 : decode cX5_gap 25 = .ok (.iload_n 1, 1) := dk_27 (dk_at dksX5_gap_1 3 rfl rfl)
theorem dX5_gap_26 : decode cX5_gap 26 = .ok (.aload_n 0, 1) := dk_42 (dk_at dksX5_gap_1 4 rfl rfl)
theorem dX5_gap_27 : decode cX5_gap 27 = .ok (.iload_n 2, 1) := dk_28 (dk_at dksX5_gap_1 5 rfl rfl)
theorem dX5_gap_28 : decode cX5_gap 28 = .ok (.iload_n 3, 1) := dk_29 (dk_at dksX5_gap_1 6 rfl rfl)
theorem dX5_gap_29 : decode cX5_gap 29 = .ok (.invokevirtual 108, 3) := dk_182 0 108 (dk_at dksX5_gap_1 7 rfl rfl)
theorem dX5_gap_32 : decode cX5_gap 32 = .ok (.iconst (-1), 1) := dk_2 (dk_at dksX5_gap_1 10 rfl rfl)
theorem dX5_gap_33 : decode cX5_gap 33 = .ok (.if_icmp .eq 22, 3) := dk_159 0 22 (dk_at dksX5_gap_1 11 rfl rfl)
theorem dX5_gap_36 : decode cX5_gap 36 = .ok (.aload_n 0, 1) := dk_42 (dk_at dksX5_gap_1 14 rfl rfl)
theorem dX5_gap_37 : decode cX5_gap 37 = .ok (.iload_n 2, 1) := dk_28 (dk_at dksX5_gap_1 15 rfl rfl)
theorem dX5_gap_38 : decode cX5_gap 38 = .ok (.iload_n 3, 1) := dk_29 (dk_at dksX5_gap_1 16 rfl rfl)
theorem dX5_gap_39 : decode cX5_gap 39 = .ok (.invokevirtual 108, 3) := dk_182 0 108 (dk_at dksX5_gap_1 17 rfl rfl)
theorem dX5_gap_42 : decode cX5_gap 42 = .ok (.aload_n 0, 1) := dk_42 (dk_at dksX5_gap_1 20 rfl rfl)
theorem dX5_gap_43 : decode cX5_gap 43 = .ok (.iload_n 2, 1) := dk_28 (dk_at dksX5_gap_1 21 rfl rfl)
theorem dX5_gap_44 : decode cX5_gap 44 = .ok (.iload_n 3, 1) := dk_29 (dk_at dksX5_gap_1 22 rfl rfl)
theorem dX5_gap_45 : decode cX5_gap 45 = .ok (.invokevirtual 95, 3) := dk_182 0 95 (dk_at dksX5_gap_2 0 rfl rfl)
theorem dX5_gap_48 : decode cX5_gap 48 = .ok (.if_icmp .eq 7, 3) := dk_159 0 7 (dk_at dksX5_gap_2 3 rfl rfl)
theorem dX5_gap_51 : decode cX5_gap 51 = .ok (.iconst 1, 1) := dk_4 (dk_at dksX5_gap_2 6 rfl rfl)
theorem dX5_gap_52 : decode cX5_gap 52 = .ok (.goto 4, 3) := dk_167 0 4 (dk_at dksX5_gap_2 7 rfl rfl)
theorem dX5_gap_55 : decode cX5_gap 55 = .ok (.iconst 0, 1) := dk_3 (dk_at dksX5_gap_2 10 rfl rfl)
theorem dX5_gap_56 : decode cX5_gap 56 = .ok (.invokestatic 101, 3) := dk_184 0 101 (dk_at dksX5_gap_2 11 rfl rfl)
theorem dX5_gap_59 : decode cX5_gap 59 = .ok (.iadd, 1) := dk_96 (dk_at dksX5_gap_2 14 rfl rfl)
theorem dX5_gap_60 : decode cX5_gap 60 = .ok (.istore_n 1, 1) := dk_60 (dk_at dksX5_gap_2 15 rfl rfl)
theorem dX5_gap_61 : decode cX5_gap 61 = .ok (.iload_n 1, 1) := dk_27 (dk_at dksX5_gap_2 16 rfl rfl)
theorem dX5_gap_62 : decode cX5_gap 62 = .ok (.aload_n 0, 1) := dk_42 (dk_at dksX5_gap_2 17 rfl rfl)
theorem dX5_gap_63 : decode cX5_gap 63 = .ok (.iload_n 2, 1) := dk_28 (dk_at dksX5_gap_2 18 rfl rfl)
theorem dX5_gap_64 : decode cX5_gap 64 = .ok (.iload_n 3, 1) := dk_29 (dk_at dksX5_gap_2 19 rfl rfl)
theorem dX5_gap_65 : decode cX5_gap 65 = .ok (.invokevirtual 117, 3) := dk_182 0 117 (dk_at dksX5_gap_2 20 rfl rfl)
theorem dX5_gap_68 : decode cX5_gap 68 = .ok (.iconst (-1), 1) := dk_2 (dk_at dksX5_gap_2 23 rfl rfl)
theorem dX5_gap_69 : decode cX5_gap 69 = .ok (.if_icmp .eq 22, 3) := dk_159 0 22 (dk_at dksX5_gap_3 0 rfl rfl)
theorem dX5_gap_72 : decode cX5_gap 72 = .ok (.aload_n 0, 1) := dk_42 (dk_at dksX5_gap_3 3 rfl rfl)
theorem dX5_gap_73 : decode cX5_gap 73 = .ok (.iload_n 2, 1) := dk_28 (dk_at dksX5_gap_3 4 rfl rfl)
theorem dX5_gap_74 : decode cX5_gap 74 = .ok (.iload_n 3, 1) := dk_29 (dk_at dksX5_gap_3 5 rfl rfl)
theorem dX5_gap_75 : decode cX5_gap 75 = .ok (.invokevirtual 117, 3) := dk_182 0 117 (dk_at dksX5_gap_3 6 rfl rfl)
theorem dX5_gap_78 : decode cX5_gap 78 = .ok (.aload_n 0, 1) := dk_42 (dk_at dksX5_gap_3 9 rfl rfl)
theorem dX5_gap_79 : decode cX5_gap 79 = .ok (.iload_n 2, 1) := dk_28 (dk_at dksX5_gap_3 10 rfl rfl)
theorem dX5_gap_80 : decode cX5_gap 80 = .ok (.iload_n 3, 1) := dk_29 (dk_at dksX5_gap_3 11 rfl rfl)
theorem dX5_gap_81 : decode cX5_gap 81 = .ok (.invokevirtual 95, 3) := dk_182 0 95 (dk_at dksX5_gap_3 12 rfl rfl)
theorem dX5_gap_84 : decode cX5_gap 84 = .ok (.if_icmp .eq 7, 3) := dk_159 0 7 (dk_at dksX5_gap_3 15 rfl rfl)
theorem dX5_gap_87 : decode cX5_gap 87 = .ok (.iconst 1, 1) := dk_4 (dk_at dksX5_gap_3 18 rfl rfl)
theorem dX5_gap_88 : decode cX5_gap 88 = .ok (.goto 4, 3) := dk_167 0 4 (dk_at dksX5_gap_3 19 rfl rfl)
theorem dX5_gap_91 : decode cX5_gap 91 = .ok (.iconst 0, 1) := dk_3 (dk_at dksX5_gap_3 22 rfl rfl)
theorem dX5_gap_92 : decode cX5_gap 92 = .ok (.invokestatic 101, 3) := dk_184 0 101 (dk_at dksX5_gap_4 0 rfl rfl)
theorem dX5_gap_95 : decode cX5_gap 95 = .ok (.iadd, 1) := dk_96 (dk_at dksX5_gap_4 3 rfl rfl)
theorem dX5_gap_96 : decode cX5_gap 96 = .ok (.istore_n 1, 1) := dk_60 (dk_at dksX5_gap_4 4 rfl rfl)
theorem dX5_gap_97 : decode cX5_gap 97 = .ok (.iinc 3 1, 3) := dk_132 3 1 (dk_at dksX5_gap_4 5 rfl rfl)
theorem dX5_gap_100 : decode cX5_gap 100 = .ok (.goto (-80), 3) := dk_167 255 176 (dk_at dksX5_gap_4 8 rfl rfl)
theorem dX5_gap_103 : decode cX5_gap 103 = .ok (.iinc 2 1, 3) := dk_132 2 1 (dk_at dksX5_gap_4 11 rfl rfl)
theorem dX5_gap_106 : decode cX5_gap 106 = .ok (.goto (-97), 3) := dk_167 255 159 (dk_at dksX5_gap_4 14 rfl rfl)
theorem dX5_gap_109 : decode cX5_gap 109 = .ok (.iconst 0, 1) := dk_3 (dk_at dksX5_gap_4 17 rfl rfl)
theorem dX5_gap_110 : decode cX5_gap 110 = .ok (.istore_n 2, 1) := dk_61 (dk_at dksX5_gap_4 18 rfl rfl)
theorem dX5_gap_111 : decode cX5_gap 111 = .ok (.iload_n 2, 1) := dk_28 (dk_at dksX5_gap_4 19 rfl rfl)
theorem dX5_gap_112 : decode cX5_gap 112 = .ok (.aload_n 0, 1) := dk_42 (dk_at dksX5_gap_4 20 rfl rfl)
theorem dX5_gap_113 : decode cX5_gap 113 = .ok (.iconst 3, 1) := dk_6 (dk_at dksX5_gap_4 21 rfl rfl)
theorem dX5_gap_114 : decode cX5_gap 114 = .ok (.invokevirtual 65, 3) := dk_182 0 65 (dk_at dksX5_gap_5 0 rfl rfl)
theorem dX5_gap_117 : decode cX5_gap 117 = .ok (.if_icmp .ge 29, 3) := dk_162 0 29 (dk_at dksX5_gap_5 3 rfl rfl)
theorem dX5_gap_120 : decode cX5_gap 120 = .ok (.iload_n 1, 1) := dk_27 (dk_at dksX5_gap_5 6 rfl rfl)
theorem dX5_gap_121 : decode cX5_gap 121 = .ok (.aload_n 0, 1) := dk_42 (dk_at dksX5_gap_5 7 rfl rfl)
theorem dX5_gap_122 : decode cX5_gap 122 = .ok (.iload_n 2, 1) := dk_28 (dk_at dksX5_gap_5 8 rfl rfl)
theorem dX5_gap_123 : decode cX5_gap 123 = .ok (.invokevirtual 130, 3) := dk_182 0 130 (dk_at dksX5_gap_5 9 rfl rfl)
theorem dX5_gap_126 : decode cX5_gap 126 = .ok (.ifCond .eq 11, 3) := dk_153 0 11 (dk_at dksX5_gap_5 12 rfl rfl)
theorem dX5_gap_129 : decode cX5_gap 129 = .ok (.aload_n 0, 1) := dk_42 (dk_at dksX5_gap_5 15 rfl rfl)
theorem dX5_gap_130 : decode cX5_gap 130 = .ok (.iload_n 2, 1) := dk_28 (dk_at dksX5_gap_5 16 rfl rfl)
theorem dX5_gap_131 : decode cX5_gap 131 = .ok (.invokevirtual 358, 3) := dk_182 1 102 (dk_at dksX5_gap_5 17 rfl rfl)
theorem dX5_gap_134 : decode cX5_gap 134 = .ok (.goto 4, 3) := dk_167 0 4 (dk_at dksX5_gap_5 20 rfl rfl)
theorem dX5_gap_137 : decode cX5_gap 137 = .ok (.iconst 0, 1) := dk_3 (dk_at dksX5_gap_5 23 rfl rfl)
theorem dX5_gap_138 : decode cX5_gap 138 = .ok (.iadd, 1) := dk_96 (dk_at dksX5_gap_6 0 rfl rfl)
theorem dX5_gap_139 : decode cX5_gap 139 = .ok (.istore_n 1, 1) := dk_60 (dk_at dksX5_gap_6 1 rfl rfl)
theorem dX5_gap_140 : decode cX5_gap 140 = .ok (.iinc 2 1, 3) := dk_132 2 1 (dk_at dksX5_gap_6 2 rfl rfl)
theorem dX5_gap_143 : decode cX5_gap 143 = .ok (.goto (-32), 3) := dk_167 255 224 (dk_at dksX5_gap_6 5 rfl rfl)
theorem dX5_gap_146 : decode cX5_gap 146 = .ok (.iload_n 1, 1) := dk_27 (dk_at dksX5_gap_6 8 rfl rfl)
theorem dX5_gap_147 : decode cX5_gap 147 = .ok (.ireturn, 1) := dk_172 (dk_at dksX5_gap_6 9 rfl rfl)
abbrev cX5_overPaired : ByteArray := prog_14_method_108_code
def yX5_overPaired : MethodName := ⟨RX5, "overPaired", "(I)I"⟩
def dkwX5_overPaired_2 : List UInt8 := [184, 0, 101, 96, 61, 132, 4, 1, 167, 255, 215, 132, 3, 1, 167, 255, 201, 28, 172]
abbrev dktX5_overPaired_2 : List UInt8 := dkwX5_overPaired_2 ++ []
def dkwX5_overPaired_1 : List UInt8 := [182, 0, 69, 162, 0, 31, 28, 42, 27, 29, 21, 4, 182, 0, 134, 156, 0, 7, 4, 167, 0, 4, 3]
abbrev dktX5_overPaired_1 : List UInt8 := dkwX5_overPaired_1 ++ dktX5_overPaired_2
def dkwX5_overPaired_0 : List UInt8 := [3, 61, 3, 62, 29, 5, 162, 0, 56, 3, 54, 4, 21, 4, 42, 42, 27, 29, 182, 0, 123, 4]
abbrev dktX5_overPaired_0 : List UInt8 := dkwX5_overPaired_0 ++ dktX5_overPaired_1
theorem dksX5_overPaired_0 : cX5_overPaired.data.toList.drop 0 = dktX5_overPaired_0 := by decide +kernel
theorem dksX5_overPaired_1 : cX5_overPaired.data.toList.drop 22 = dktX5_overPaired_1 := dk_seg dksX5_overPaired_0 22 rfl rfl
theorem dksX5_overPaired_2 : cX5_overPaired.data.toList.drop 45 = dktX5_overPaired_2 := dk_seg dksX5_overPaired_1 23 rfl rfl
theorem dX5_overPaired_0 : decode cX5_overPaired 0 = .ok (.iconst 0, 1) := dk_3 (dk_at dksX5_overPaired_0 0 rfl rfl)
theorem dX5_overPaired_1 : decode cX5_overPaired 1 = .ok (.istore_n 2, 1) := dk_61 (dk_at dksX5_overPaired_0 1 rfl rfl)
theorem dX5_overPaired_2 : decode cX5_overPaired 2 = .ok (.iconst 0, 1) := dk_3 (dk_at dksX5_overPaired_0 2 rfl rfl)
theorem dX5_overPaired_3 : decode cX5_overPaired 3 = .ok (.istore_n 3, 1) := dk_62 (dk_at dksX5_overPaired_0 3 rfl rfl)
theorem dX5_overPaired_4 : decode cX5_overPaired 4 = .ok (.iload_n 3, 1) := dk_29 (dk_at dksX5_overPaired_0 4 rfl rfl)
theorem dX5_overPaired_5 : decode cX5_overPaired 5 = .ok (.iconst 2, 1) := dk_5 (dk_at dksX5_overPaired_0 5 rfl rfl)
theorem dX5_overPaired_6 : decode cX5_overPaired 6 = .ok (.if_icmp .ge 56, 3) := dk_162 0 56 (dk_at dksX5_overPaired_0 6 rfl rfl)
theorem dX5_overPaired_9 : decode cX5_overPaired 9 = .ok (.iconst 0, 1) := dk_3 (dk_at dksX5_overPaired_0 9 rfl rfl)
theorem dX5_overPaired_10 : decode cX5_overPaired 10 = .ok (.istore 4, 2) := dk_54 4 (dk_at dksX5_overPaired_0 10 rfl rfl)
theorem dX5_overPaired_12 : decode cX5_overPaired 12 = .ok (.iload 4, 2) := dk_21 4 (dk_at dksX5_overPaired_0 12 rfl rfl)
theorem dX5_overPaired_14 : decode cX5_overPaired 14 = .ok (.aload_n 0, 1) := dk_42 (dk_at dksX5_overPaired_0 14 rfl rfl)
theorem dX5_overPaired_15 : decode cX5_overPaired 15 = .ok (.aload_n 0, 1) := dk_42 (dk_at dksX5_overPaired_0 15 rfl rfl)
theorem dX5_overPaired_16 : decode cX5_overPaired 16 = .ok (.iload_n 1, 1) := dk_27 (dk_at dksX5_overPaired_0 16 rfl rfl)
theorem dX5_overPaired_17 : decode cX5_overPaired 17 = .ok (.iload_n 3, 1) := dk_29 (dk_at dksX5_overPaired_0 17 rfl rfl)
theorem dX5_overPaired_18 : decode cX5_overPaired 18 = .ok (.invokevirtual 123, 3) := dk_182 0 123 (dk_at dksX5_overPaired_0 18 rfl rfl)
theorem dX5_overPaired_21 : decode cX5_overPaired 21 = .ok (.iconst 1, 1) := dk_4 (dk_at dksX5_overPaired_0 21 rfl rfl)
theorem dX5_overPaired_22 : decode cX5_overPaired 22 = .ok (.invokevirtual 69, 3) := dk_182 0 69 (dk_at dksX5_overPaired_1 0 rfl rfl)
theorem dX5_overPaired_25 : decode cX5_overPaired 25 = .ok (.if_icmp .ge 31, 3) := dk_162 0 31 (dk_at dksX5_overPaired_1 3 rfl rfl)
theorem dX5_overPaired_28 : decode cX5_overPaired 28 = .ok (.iload_n 2, 1) := dk_28 (dk_at dksX5_overPaired_1 6 rfl rfl)
theorem dX5_overPaired_29 : decode cX5_overPaired 29 = .ok (.aload_n 0, 1) := dk_42 (dk_at dksX5_overPaired_1 7 rfl rfl)
theorem dX5_overPaired_30 : decode cX5_overPaired 30 = .ok (.iload_n 1, 1) := dk_27 (dk_at dksX5_overPaired_1 8 rfl rfl)
theorem dX5_overPaired_31 : decode cX5_overPaired 31 = .ok (.iload_n 3, 1) := dk_29 (dk_at dksX5_overPaired_1 9 rfl rfl)
theorem dX5_overPaired_32 : decode cX5_overPaired 32 = .ok (.iload 4, 2) := dk_21 4 (dk_at dksX5_overPaired_1 10 rfl rfl)
theorem dX5_overPaired_34 : decode cX5_overPaired 34 = .ok (.invokevirtual 134, 3) := dk_182 0 134 (dk_at dksX5_overPaired_1 12 rfl rfl)
theorem dX5_overPaired_37 : decode cX5_overPaired 37 = .ok (.ifCond .ge 7, 3) := dk_156 0 7 (dk_at dksX5_overPaired_1 15 rfl rfl)
theorem dX5_overPaired_40 : decode cX5_overPaired 40 = .ok (.iconst 1, 1) := dk_4 (dk_at dksX5_overPaired_1 18 rfl rfl)
theorem dX5_overPaired_41 : decode cX5_overPaired 41 = .ok (.goto 4, 3) := dk_167 0 4 (dk_at dksX5_overPaired_1 19 rfl rfl)
theorem dX5_overPaired_44 : decode cX5_overPaired 44 = .ok (.iconst 0, 1) := dk_3 (dk_at dksX5_overPaired_1 22 rfl rfl)
theorem dX5_overPaired_45 : decode cX5_overPaired 45 = .ok (.invokestatic 101, 3) := dk_184 0 101 (dk_at dksX5_overPaired_2 0 rfl rfl)
theorem dX5_overPaired_48 : decode cX5_overPaired 48 = .ok (.iadd, 1) := dk_96 (dk_at dksX5_overPaired_2 3 rfl rfl)
theorem dX5_overPaired_49 : decode cX5_overPaired 49 = .ok (.istore_n 2, 1) := dk_61 (dk_at dksX5_overPaired_2 4 rfl rfl)
theorem dX5_overPaired_50 : decode cX5_overPaired 50 = .ok (.iinc 4 1, 3) := dk_132 4 1 (dk_at dksX5_overPaired_2 5 rfl rfl)
theorem dX5_overPaired_53 : decode cX5_overPaired 53 = .ok (.goto (-41), 3) := dk_167 255 215 (dk_at dksX5_overPaired_2 8 rfl rfl)
theorem dX5_overPaired_56 : decode cX5_overPaired 56 = .ok (.iinc 3 1, 3) := dk_132 3 1 (dk_at dksX5_overPaired_2 11 rfl rfl)
theorem dX5_overPaired_59 : decode cX5_overPaired 59 = .ok (.goto (-55), 3) := dk_167 255 201 (dk_at dksX5_overPaired_2 14 rfl rfl)
theorem dX5_overPaired_62 : decode cX5_overPaired 62 = .ok (.iload_n 2, 1) := dk_28 (dk_at dksX5_overPaired_2 17 rfl rfl)
theorem dX5_overPaired_63 : decode cX5_overPaired 63 = .ok (.ireturn, 1) := dk_172 (dk_at dksX5_overPaired_2 18 rfl rfl)
abbrev cX5_honesty : ByteArray := prog_14_method_110_code
def yX5_honesty : MethodName := ⟨RX5, "honesty", "(I)F"⟩
def dkwX5_honesty_2 : List UInt8 := [182, 1, 58, 134, 28, 134, 110, 174]
abbrev dktX5_honesty_2 : List UInt8 := dkwX5_honesty_2 ++ []
def dkwX5_honesty_1 : List UInt8 := [182, 1, 58, 42, 27, 5, 182, 1, 58, 96, 61, 28, 154, 0, 7, 12, 167, 0, 13, 42, 27, 4]
abbrev dktX5_honesty_1 : List UInt8 := dkwX5_honesty_1 ++ dktX5_honesty_2
def dkwX5_honesty_0 : List UInt8 := [42, 3, 181, 0, 56, 42, 42, 27, 182, 1, 51, 4, 182, 0, 161, 154, 0, 5, 11, 174, 42, 27, 4]
abbrev dktX5_honesty_0 : List UInt8 := dkwX5_honesty_0 ++ dktX5_honesty_1
theorem dksX5_honesty_0 : cX5_honesty.data.toList.drop 0 = dktX5_honesty_0 := by decide +kernel
theorem dksX5_honesty_1 : cX5_honesty.data.toList.drop 23 = dktX5_honesty_1 := dk_seg dksX5_honesty_0 23 rfl rfl
theorem dksX5_honesty_2 : cX5_honesty.data.toList.drop 45 = dktX5_honesty_2 := dk_seg dksX5_honesty_1 22 rfl rfl
theorem dX5_honesty_0 : decode cX5_honesty 0 = .ok (.aload_n 0, 1) := dk_42 (dk_at dksX5_honesty_0 0 rfl rfl)
theorem dX5_honesty_1 : decode cX5_honesty 1 = .ok (.iconst 0, 1) := dk_3 (dk_at dksX5_honesty_0 1 rfl rfl)
theorem dX5_honesty_2 : decode cX5_honesty 2 = .ok (.putfield 56, 3) := dk_181 0 56 (dk_at dksX5_honesty_0 2 rfl rfl)
theorem dX5_honesty_5 : decode cX5_honesty 5 = .ok (.aload_n 0, 1) := dk_42 (dk_at dksX5_honesty_0 5 rfl rfl)
theorem dX5_honesty_6 : decode cX5_honesty 6 = .ok (.aload_n 0, 1) := dk_42 (dk_at dksX5_honesty_0 6 rfl rfl)
theorem dX5_honesty_7 : decode cX5_honesty 7 = .ok (.iload_n 1, 1) := dk_27 (dk_at dksX5_honesty_0 7 rfl rfl)
theorem dX5_honesty_8 : decode cX5_honesty 8 = .ok (.invokevirtual 307, 3) := dk_182 1 51 (dk_at dksX5_honesty_0 8 rfl rfl)
theorem dX5_honesty_11 : decode cX5_honesty 11 = .ok (.iconst 1, 1) := dk_4 (dk_at dksX5_honesty_0 11 rfl rfl)
theorem dX5_honesty_12 : decode cX5_honesty 12 = .ok (.invokevirtual 161, 3) := dk_182 0 161 (dk_at dksX5_honesty_0 12 rfl rfl)
theorem dX5_honesty_15 : decode cX5_honesty 15 = .ok (.ifCond .ne 5, 3) := dk_154 0 5 (dk_at dksX5_honesty_0 15 rfl rfl)
theorem dX5_honesty_18 : decode cX5_honesty 18 = .ok (.fconst 0, 1) := dk_11 (dk_at dksX5_honesty_0 18 rfl rfl)
theorem dX5_honesty_19 : decode cX5_honesty 19 = .ok (.freturn, 1) := dk_174 (dk_at dksX5_honesty_0 19 rfl rfl)
theorem dX5_honesty_20 : decode cX5_honesty 20 = .ok (.aload_n 0, 1) := dk_42 (dk_at dksX5_honesty_0 20 rfl rfl)
theorem dX5_honesty_21 : decode cX5_honesty 21 = .ok (.iload_n 1, 1) := dk_27 (dk_at dksX5_honesty_0 21 rfl rfl)
theorem dX5_honesty_22 : decode cX5_honesty 22 = .ok (.iconst 1, 1) := dk_4 (dk_at dksX5_honesty_0 22 rfl rfl)
theorem dX5_honesty_23 : decode cX5_honesty 23 = .ok (.invokevirtual 314, 3) := dk_182 1 58 (dk_at dksX5_honesty_1 0 rfl rfl)
theorem dX5_honesty_26 : decode cX5_honesty 26 = .ok (.aload_n 0, 1) := dk_42 (dk_at dksX5_honesty_1 3 rfl rfl)
theorem dX5_honesty_27 : decode cX5_honesty 27 = .ok (.iload_n 1, 1) := dk_27 (dk_at dksX5_honesty_1 4 rfl rfl)
theorem dX5_honesty_28 : decode cX5_honesty 28 = .ok (.iconst 2, 1) := dk_5 (dk_at dksX5_honesty_1 5 rfl rfl)
theorem dX5_honesty_29 : decode cX5_honesty 29 = .ok (.invokevirtual 314, 3) := dk_182 1 58 (dk_at dksX5_honesty_1 6 rfl rfl)
theorem dX5_honesty_32 : decode cX5_honesty 32 = .ok (.iadd, 1) := dk_96 (dk_at dksX5_honesty_1 9 rfl rfl)
theorem dX5_honesty_33 : decode cX5_honesty 33 = .ok (.istore_n 2, 1) := dk_61 (dk_at dksX5_honesty_1 10 rfl rfl)
theorem dX5_honesty_34 : decode cX5_honesty 34 = .ok (.iload_n 2, 1) := dk_28 (dk_at dksX5_honesty_1 11 rfl rfl)
theorem dX5_honesty_35 : decode cX5_honesty 35 = .ok (.ifCond .ne 7, 3) := dk_154 0 7 (dk_at dksX5_honesty_1 12 rfl rfl)
theorem dX5_honesty_38 : decode cX5_honesty 38 = .ok (.fconst 1, 1) := dk_12 (dk_at dksX5_honesty_1 15 rfl rfl)
theorem dX5_honesty_39 : decode cX5_honesty 39 = .ok (.goto 13, 3) := dk_167 0 13 (dk_at dksX5_honesty_1 16 rfl rfl)
theorem dX5_honesty_42 : decode cX5_honesty 42 = .ok (.aload_n 0, 1) := dk_42 (dk_at dksX5_honesty_1 19 rfl rfl)
theorem dX5_honesty_43 : decode cX5_honesty 43 = .ok (.iload_n 1, 1) := dk_27 (dk_at dksX5_honesty_1 20 rfl rfl)
theorem dX5_honesty_44 : decode cX5_honesty 44 = .ok (.iconst 1, 1) := dk_4 (dk_at dksX5_honesty_1 21 rfl rfl)
theorem dX5_honesty_45 : decode cX5_honesty 45 = .ok (.invokevirtual 314, 3) := dk_182 1 58 (dk_at dksX5_honesty_2 0 rfl rfl)
theorem dX5_honesty_48 : decode cX5_honesty 48 = .ok (.i2f, 1) := dk_134 (dk_at dksX5_honesty_2 3 rfl rfl)
theorem dX5_honesty_49 : decode cX5_honesty 49 = .ok (.iload_n 2, 1) := dk_28 (dk_at dksX5_honesty_2 4 rfl rfl)
theorem dX5_honesty_50 : decode cX5_honesty 50 = .ok (.i2f, 1) := dk_134 (dk_at dksX5_honesty_2 5 rfl rfl)
theorem dX5_honesty_51 : decode cX5_honesty 51 = .ok (.fdiv, 1) := dk_110 (dk_at dksX5_honesty_2 6 rfl rfl)
theorem dX5_honesty_52 : decode cX5_honesty 52 = .ok (.freturn, 1) := dk_174 (dk_at dksX5_honesty_2 7 rfl rfl)
abbrev cX5_meanTurns : ByteArray := prog_14_method_111_code
def yX5_meanTurns : MethodName := ⟨RX5, "meanTurns", "()D"⟩
def dkwX5_meanTurns_3 : List UInt8 := [28, 135, 111, 175]
abbrev dktX5_meanTurns_3 : List UInt8 := dkwX5_meanTurns_3 ++ []
def dkwX5_meanTurns_2 : List UInt8 := [182, 0, 73, 96, 60, 132, 2, 1, 132, 3, 1, 167, 255, 209, 28, 154, 0, 7, 14, 167, 0, 8, 27, 135]
abbrev dktX5_meanTurns_2 : List UInt8 := dkwX5_meanTurns_2 ++ dktX5_meanTurns_3
def dkwX5_meanTurns_1 : List UInt8 := [182, 0, 73, 4, 159, 0, 16, 42, 29, 7, 182, 0, 73, 5, 159, 0, 6, 167, 0, 15, 27, 42, 29, 8]
abbrev dktX5_meanTurns_1 : List UInt8 := dkwX5_meanTurns_1 ++ dktX5_meanTurns_2
def dkwX5_meanTurns_0 : List UInt8 := [42, 3, 181, 0, 56, 3, 60, 3, 61, 3, 62, 29, 42, 6, 182, 0, 65, 162, 0, 44, 42, 29, 7]
abbrev dktX5_meanTurns_0 : List UInt8 := dkwX5_meanTurns_0 ++ dktX5_meanTurns_1
theorem dksX5_meanTurns_0 : cX5_meanTurns.data.toList.drop 0 = dktX5_meanTurns_0 := by decide +kernel
theorem dksX5_meanTurns_1 : cX5_meanTurns.data.toList.drop 23 = dktX5_meanTurns_1 := dk_seg dksX5_meanTurns_0 23 rfl rfl
theorem dksX5_meanTurns_2 : cX5_meanTurns.data.toList.drop 47 = dktX5_meanTurns_2 := dk_seg dksX5_meanTurns_1 24 rfl rfl
theorem dksX5_meanTurns_3 : cX5_meanTurns.data.toList.drop 71 = dktX5_meanTurns_3 := dk_seg dksX5_meanTurns_2 24 rfl rfl
theorem dX5_meanTurns_0 : decode cX5_meanTurns 0 = .ok (.aload_n 0, 1) := dk_42 (dk_at dksX5_meanTurns_0 0 rfl rfl)
theorem dX5_meanTurns_1 : decode cX5_meanTurns 1 = .ok (.iconst 0, 1) := dk_3 (dk_at dksX5_meanTurns_0 1 rfl rfl)
theorem dX5_meanTurns_2 : decode cX5_meanTurns 2 = .ok (.putfield 56, 3) := dk_181 0 56 (dk_at dksX5_meanTurns_0 2 rfl rfl)
theorem dX5_meanTurns_5 : decode cX5_meanTurns 5 = .ok (.iconst 0, 1) := dk_3 (dk_at dksX5_meanTurns_0 5 rfl rfl)
theorem dX5_meanTurns_6 : decode cX5_meanTurns 6 = .ok (.istore_n 1, 1) := dk_60 (dk_at dksX5_meanTurns_0 6 rfl rfl)
theorem dX5_meanTurns_7 : decode cX5_meanTurns 7 = .ok (.iconst 0, 1) := dk_3 (dk_at dksX5_meanTurns_0 7 rfl rfl)
theorem dX5_meanTurns_8 : decode cX5_meanTurns 8 = .ok (.istore_n 2, 1) := dk_61 (dk_at dksX5_meanTurns_0 8 rfl rfl)
theorem dX5_meanTurns_9 : decode cX5_meanTurns 9 = .ok (.iconst 0, 1) := dk_3 (dk_at dksX5_meanTurns_0 9 rfl rfl)
theorem dX5_meanTurns_10 : decode cX5_meanTurns 10 = .ok (.istore_n 3, 1) := dk_62 (dk_at dksX5_meanTurns_0 10 rfl rfl)
theorem dX5_meanTurns_11 : decode cX5_meanTurns 11 = .ok (.iload_n 3, 1) := dk_29 (dk_at dksX5_meanTurns_0 11 rfl rfl)
theorem dX5_meanTurns_12 : decode cX5_meanTurns 12 = .ok (.aload_n 0, 1) := dk_42 (dk_at dksX5_meanTurns_0 12 rfl rfl)
theorem dX5_meanTurns_13 : decode cX5_meanTurns 13 = .ok (.iconst 3, 1) := dk_6 (dk_at dksX5_meanTurns_0 13 rfl rfl)
theorem dX5_meanTurns_14 : decode cX5_meanTurns 14 = .ok (.invokevirtual 65, 3) := dk_182 0 65 (dk_at dksX5_meanTurns_0 14 rfl rfl)
theorem dX5_meanTurns_17 : decode cX5_meanTurns 17 = .ok (.if_icmp .ge 44, 3) := dk_162 0 44 (dk_at dksX5_meanTurns_0 17 rfl rfl)
theorem dX5_meanTurns_20 : decode cX5_meanTurns 20 = .ok (.aload_n 0, 1) := dk_42 (dk_at dksX5_meanTurns_0 20 rfl rfl)
theorem dX5_meanTurns_21 : decode cX5_meanTurns 21 = .ok (.iload_n 3, 1) := dk_29 (dk_at dksX5_meanTurns_0 21 rfl rfl)
theorem dX5_meanTurns_22 : decode cX5_meanTurns 22 = .ok (.iconst 4, 1) := dk_7 (dk_at dksX5_meanTurns_0 22 rfl rfl)
theorem dX5_meanTurns_23 : decode cX5_meanTurns 23 = .ok (.invokevirtual 73, 3) := dk_182 0 73 (dk_at dksX5_meanTurns_1 0 rfl rfl)
theorem dX5_meanTurns_26 : decode cX5_meanTurns 26 = .ok (.iconst 1, 1) := dk_4 (dk_at dksX5_meanTurns_1 3 rfl rfl)
theorem dX5_meanTurns_27 : decode cX5_meanTurns 27 = .ok (.if_icmp .eq 16, 3) := dk_159 0 16 (dk_at dksX5_meanTurns_1 4 rfl rfl)
theorem dX5_meanTurns_30 : decode cX5_meanTurns 30 = .ok (.aload_n 0, 1) := dk_42 (dk_at dksX5_meanTurns_1 7 rfl rfl)
theorem dX5_meanTurns_31 : decode cX5_meanTurns 31 = .ok (.iload_n 3, 1) := dk_29 (dk_at dksX5_meanTurns_1 8 rfl rfl)
theorem dX5_meanTurns_32 : decode cX5_meanTurns 32 = .ok (.iconst 4, 1) := dk_7 (dk_at dksX5_meanTurns_1 9 rfl rfl)
theorem dX5_meanTurns_33 : decode cX5_meanTurns 33 = .ok (.invokevirtual 73, 3) := dk_182 0 73 (dk_at dksX5_meanTurns_1 10 rfl rfl)
theorem dX5_meanTurns_36 : decode cX5_meanTurns 36 = .ok (.iconst 2, 1) := dk_5 (dk_at dksX5_meanTurns_1 13 rfl rfl)
theorem dX5_meanTurns_37 : decode cX5_meanTurns 37 = .ok (.if_icmp .eq 6, 3) := dk_159 0 6 (dk_at dksX5_meanTurns_1 14 rfl rfl)
theorem dX5_meanTurns_40 : decode cX5_meanTurns 40 = .ok (.goto 15, 3) := dk_167 0 15 (dk_at dksX5_meanTurns_1 17 rfl rfl)
theorem dX5_meanTurns_43 : decode cX5_meanTurns 43 = .ok (.iload_n 1, 1) := dk_27 (dk_at dksX5_meanTurns_1 20 rfl rfl)
theorem dX5_meanTurns_44 : decode cX5_meanTurns 44 = .ok (.aload_n 0, 1) := dk_42 (dk_at dksX5_meanTurns_1 21 rfl rfl)
theorem dX5_meanTurns_45 : decode cX5_meanTurns 45 = .ok (.iload_n 3, 1) := dk_29 (dk_at dksX5_meanTurns_1 22 rfl rfl)
theorem dX5_meanTurns_46 : decode cX5_meanTurns 46 = .ok (.iconst 5, 1) := dk_8 (dk_at dksX5_meanTurns_1 23 rfl rfl)
theorem dX5_meanTurns_47 : decode cX5_meanTurns 47 = .ok (.invokevirtual 73, 3) := dk_182 0 73 (dk_at dksX5_meanTurns_2 0 rfl rfl)
theorem dX5_meanTurns_50 : decode cX5_meanTurns 50 = .ok (.iadd, 1) := dk_96 (dk_at dksX5_meanTurns_2 3 rfl rfl)
theorem dX5_meanTurns_51 : decode cX5_meanTurns 51 = .ok (.istore_n 1, 1) := dk_60 (dk_at dksX5_meanTurns_2 4 rfl rfl)
theorem dX5_meanTurns_52 : decode cX5_meanTurns 52 = .ok (.iinc 2 1, 3) := dk_132 2 1 (dk_at dksX5_meanTurns_2 5 rfl rfl)
theorem dX5_meanTurns_55 : decode cX5_meanTurns 55 = .ok (.iinc 3 1, 3) := dk_132 3 1 (dk_at dksX5_meanTurns_2 8 rfl rfl)
theorem dX5_meanTurns_58 : decode cX5_meanTurns 58 = .ok (.goto (-47), 3) := dk_167 255 209 (dk_at dksX5_meanTurns_2 11 rfl rfl)
theorem dX5_meanTurns_61 : decode cX5_meanTurns 61 = .ok (.iload_n 2, 1) := dk_28 (dk_at dksX5_meanTurns_2 14 rfl rfl)
theorem dX5_meanTurns_62 : decode cX5_meanTurns 62 = .ok (.ifCond .ne 7, 3) := dk_154 0 7 (dk_at dksX5_meanTurns_2 15 rfl rfl)
theorem dX5_meanTurns_65 : decode cX5_meanTurns 65 = .ok (.dconst 0, 1) := dk_14 (dk_at dksX5_meanTurns_2 18 rfl rfl)
theorem dX5_meanTurns_66 : decode cX5_meanTurns 66 = .ok (.goto 8, 3) := dk_167 0 8 (dk_at dksX5_meanTurns_2 19 rfl rfl)
theorem dX5_meanTurns_69 : decode cX5_meanTurns 69 = .ok (.iload_n 1, 1) := dk_27 (dk_at dksX5_meanTurns_2 22 rfl rfl)
theorem dX5_meanTurns_70 : decode cX5_meanTurns 70 = .ok (.i2d, 1) := dk_135 (dk_at dksX5_meanTurns_2 23 rfl rfl)
theorem dX5_meanTurns_71 : decode cX5_meanTurns 71 = .ok (.iload_n 2, 1) := dk_28 (dk_at dksX5_meanTurns_3 0 rfl rfl)
theorem dX5_meanTurns_72 : decode cX5_meanTurns 72 = .ok (.i2d, 1) := dk_135 (dk_at dksX5_meanTurns_3 1 rfl rfl)
theorem dX5_meanTurns_73 : decode cX5_meanTurns 73 = .ok (.ddiv, 1) := dk_111 (dk_at dksX5_meanTurns_3 2 rfl rfl)
theorem dX5_meanTurns_74 : decode cX5_meanTurns 74 = .ok (.dreturn, 1) := dk_175 (dk_at dksX5_meanTurns_3 3 rfl rfl)
abbrev cX5_ifPut : ByteArray := prog_14_method_112_code
def yX5_ifPut : MethodName := ⟨RX5, "ifPut", "(IIII)I"⟩
def dkwX5_ifPut_4 : List UInt8 := [21, 4, 154, 0, 11, 42, 27, 182, 0, 86, 167, 0, 7, 42, 182, 1, 81, 182, 1, 108, 172]
abbrev dktX5_ifPut_4 : List UInt8 := dkwX5_ifPut_4 ++ []
def dkwX5_ifPut_3 : List UInt8 := [3, 167, 0, 8, 42, 27, 182, 0, 111, 172, 42, 182, 1, 105, 42, 27, 5, 28, 96, 29, 182, 0, 76, 42]
abbrev dktX5_ifPut_3 : List UInt8 := dkwX5_ifPut_3 ++ dktX5_ifPut_4
def dkwX5_ifPut_2 : List UInt8 := [182, 0, 161, 154, 0, 5, 3, 172, 21, 4, 4, 160, 0, 23, 29, 42, 27, 28, 182, 0, 80, 160, 0, 7]
abbrev dktX5_ifPut_2 : List UInt8 := dkwX5_ifPut_2 ++ dktX5_ifPut_3
def dkwX5_ifPut_1 : List UInt8 := [184, 0, 165, 153, 0, 17, 21, 4, 3, 5, 184, 0, 165, 153, 0, 7, 4, 167, 0, 4, 3, 5]
abbrev dktX5_ifPut_1 : List UInt8 := dkwX5_ifPut_1 ++ dktX5_ifPut_2
def dkwX5_ifPut_0 : List UInt8 := [42, 3, 181, 0, 56, 42, 42, 27, 28, 182, 1, 72, 4, 182, 0, 161, 153, 0, 36, 42, 29, 3, 16, 9]
abbrev dktX5_ifPut_0 : List UInt8 := dkwX5_ifPut_0 ++ dktX5_ifPut_1
theorem dksX5_ifPut_0 : cX5_ifPut.data.toList.drop 0 = dktX5_ifPut_0 := by decide +kernel
theorem dksX5_ifPut_1 : cX5_ifPut.data.toList.drop 24 = dktX5_ifPut_1 := dk_seg dksX5_ifPut_0 24 rfl rfl
theorem dksX5_ifPut_2 : cX5_ifPut.data.toList.drop 46 = dktX5_ifPut_2 := dk_seg dksX5_ifPut_1 22 rfl rfl
theorem dksX5_ifPut_3 : cX5_ifPut.data.toList.drop 70 = dktX5_ifPut_3 := dk_seg dksX5_ifPut_2 24 rfl rfl
theorem dksX5_ifPut_4 : cX5_ifPut.data.toList.drop 94 = dktX5_ifPut_4 := dk_seg dksX5_ifPut_3 24 rfl rfl
theorem dX5_ifPut_0 : decode cX5_ifPut 0 = .ok (.aload_n 0, 1) := dk_42 (dk_at dksX5_ifPut_0 0 rfl rfl)
theorem dX5_ifPut_1 : decode cX5_ifPut 1 = .ok (.iconst 0, 1) := dk_3 (dk_at dksX5_ifPut_0 1 rfl rfl)
theorem dX5_ifPut_2 : decode cX5_ifPut 2 = .ok (.putfield 56, 3) := dk_181 0 56 (dk_at dksX5_ifPut_0 2 rfl rfl)
theorem dX5_ifPut_5 : decode cX5_ifPut 5 = .ok (.aload_n 0, 1) := dk_42 (dk_at dksX5_ifPut_0 5 rfl rfl)
theorem dX5_ifPut_6 : decode cX5_ifPut 6 = .ok (.aload_n 0, 1) := dk_42 (dk_at dksX5_ifPut_0 6 rfl rfl)
theorem dX5_ifPut_7 : decode cX5_ifPut 7 = .ok (.iload_n 1, 1) := dk_27 (dk_at dksX5_ifPut_0 7 rfl rfl)
theorem dX5_ifPut_8 : decode cX5_ifPut 8 = .ok (.iload_n 2, 1) := dk_28 (dk_at dksX5_ifPut_0 8 rfl rfl)
theorem dX5_ifPut_9 : decode cX5_ifPut 9 = .ok (.invokevirtual 328, 3) := dk_182 1 72 (dk_at dksX5_ifPut_0 9 rfl rfl)
theorem dX5_ifPut_12 : decode cX5_ifPut 12 = .ok (.iconst 1, 1) := dk_4 (dk_at dksX5_ifPut_0 12 rfl rfl)
theorem dX5_ifPut_13 : decode cX5_ifPut 13 = .ok (.invokevirtual 161, 3) := dk_182 0 161 (dk_at dksX5_ifPut_0 13 rfl rfl)
theorem dX5_ifPut_16 : decode cX5_ifPut 16 = .ok (.ifCond .eq 36, 3) := dk_153 0 36 (dk_at dksX5_ifPut_0 16 rfl rfl)
theorem dX5_ifPut_19 : decode cX5_ifPut 19 = .ok (.aload_n 0, 1) := dk_42 (dk_at dksX5_ifPut_0 19 rfl rfl)
theorem dX5_ifPut_20 : decode cX5_ifPut 20 = .ok (.iload_n 3, 1) := dk_29 (dk_at dksX5_ifPut_0 20 rfl rfl)
theorem dX5_ifPut_21 : decode cX5_ifPut 21 = .ok (.iconst 0, 1) := dk_3 (dk_at dksX5_ifPut_0 21 rfl rfl)
theorem dX5_ifPut_22 : decode cX5_ifPut 22 = .ok (.bipush 9, 2) := dk_16 9 (dk_at dksX5_ifPut_0 22 rfl rfl)
theorem dX5_ifPut_24 : decode cX5_ifPut 24 = .ok (.invokestatic 165, 3) := dk_184 0 165 (dk_at dksX5_ifPut_1 0 rfl rfl)
theorem dX5_ifPut_27 : decode cX5_ifPut 27 = .ok (.ifCond .eq 17, 3) := dk_153 0 17 (dk_at dksX5_ifPut_1 3 rfl rfl)
theorem dX5_ifPut_30 : decode cX5_ifPut 30 = .ok (.iload 4, 2) := dk_21 4 (dk_at dksX5_ifPut_1 6 rfl rfl)
theorem dX5_ifPut_32 : decode cX5_ifPut 32 = .ok (.iconst 0, 1) := dk_3 (dk_at dksX5_ifPut_1 8 rfl rfl)
theorem dX5_ifPut_33 : decode cX5_ifPut 33 = .ok (.iconst 2, 1) := dk_5 (dk_at dksX5_ifPut_1 9 rfl rfl)
theorem dX5_ifPut_34 : decode cX5_ifPut 34 = .ok (.invokestatic 165, 3) := dk_184 0 165 (dk_at dksX5_ifPut_1 10 rfl rfl)
theorem dX5_ifPut_37 : decode cX5_ifPut 37 = .ok (.ifCond .eq 7, 3) := dk_153 0 7 (dk_at dksX5_ifPut_1 13 rfl rfl)
theorem dX5_ifPut_40 : decode cX5_ifPut 40 = .ok (.iconst 1, 1) := dk_4 (dk_at dksX5_ifPut_1 16 rfl rfl)
theorem dX5_ifPut_41 : decode cX5_ifPut 41 = .ok (.goto 4, 3) := dk_167 0 4 (dk_at dksX5_ifPut_1 17 rfl rfl)
theorem dX5_ifPut_44 : decode cX5_ifPut 44 = .ok (.iconst 0, 1) := dk_3 (dk_at dksX5_ifPut_1 20 rfl rfl)
theorem dX5_ifPut_45 : decode cX5_ifPut 45 = .ok (.iconst 2, 1) := dk_5 (dk_at dksX5_ifPut_1 21 rfl rfl)
theorem dX5_ifPut_46 : decode cX5_ifPut 46 = .ok (.invokevirtual 161, 3) := dk_182 0 161 (dk_at dksX5_ifPut_2 0 rfl rfl)
theorem dX5_ifPut_49 : decode cX5_ifPut 49 = .ok (.ifCond .ne 5, 3) := dk_154 0 5 (dk_at dksX5_ifPut_2 3 rfl rfl)
theorem dX5_ifPut_52 : decode cX5_ifPut 52 = .ok (.iconst 0, 1) := dk_3 (dk_at dksX5_ifPut_2 6 rfl rfl)
theorem dX5_ifPut_53 : decode cX5_ifPut 53 = .ok (.ireturn, 1) := dk_172 (dk_at dksX5_ifPut_2 7 rfl rfl)
theorem dX5_ifPut_54 : decode cX5_ifPut 54 = .ok (.iload 4, 2) := dk_21 4 (dk_at dksX5_ifPut_2 8 rfl rfl)
theorem dX5_ifPut_56 : decode cX5_ifPut 56 = .ok (.iconst 1, 1) := dk_4 (dk_at dksX5_ifPut_2 10 rfl rfl)
theorem dX5_ifPut_57 : decode cX5_ifPut 57 = .ok (.if_icmp .ne 23, 3) := dk_160 0 23 (dk_at dksX5_ifPut_2 11 rfl rfl)
theorem dX5_ifPut_60 : decode cX5_ifPut 60 = .ok (.iload_n 3, 1) := dk_29 (dk_at dksX5_ifPut_2 14 rfl rfl)
theorem dX5_ifPut_61 : decode cX5_ifPut 61 = .ok (.aload_n 0, 1) := dk_42 (dk_at dksX5_ifPut_2 15 rfl rfl)
theorem dX5_ifPut_62 : decode cX5_ifPut 62 = .ok (.iload_n 1, 1) := dk_27 (dk_at dksX5_ifPut_2 16 rfl rfl)
theorem dX5_ifPut_63 : decode cX5_ifPut 63 = .ok (.iload_n 2, 1) := dk_28 (dk_at dksX5_ifPut_2 17 rfl rfl)
theorem dX5_ifPut_64 : decode cX5_ifPut 64 = .ok (.invokevirtual 80, 3) := dk_182 0 80 (dk_at dksX5_ifPut_2 18 rfl rfl)
theorem dX5_ifPut_67 : decode cX5_ifPut 67 = .ok (.if_icmp .ne 7, 3) := dk_160 0 7 (dk_at dksX5_ifPut_2 21 rfl rfl)
theorem dX5_ifPut_70 : decode cX5_ifPut 70 = .ok (.iconst 0, 1) := dk_3 (dk_at dksX5_ifPut_3 0 rfl rfl)
theorem dX5_ifPut_71 : decode cX5_ifPut 71 = .ok (.goto 8, 3) := dk_167 0 8 (dk_at dksX5_ifPut_3 1 rfl rfl)
theorem dX5_ifPut_74 : decode cX5_ifPut 74 = .ok (.aload_n 0, 1) := dk_42 (dk_at dksX5_ifPut_3 4 rfl rfl)
theorem dX5_ifPut_75 : decode cX5_ifPut 75 = .ok (.iload_n 1, 1) := dk_27 (dk_at dksX5_ifPut_3 5 rfl rfl)
theorem dX5_ifPut_76 : decode cX5_ifPut 76 = .ok (.invokevirtual 111, 3) := dk_182 0 111 (dk_at dksX5_ifPut_3 6 rfl rfl)
theorem dX5_ifPut_79 : decode cX5_ifPut 79 = .ok (.ireturn, 1) := dk_172 (dk_at dksX5_ifPut_3 9 rfl rfl)
theorem dX5_ifPut_80 : decode cX5_ifPut 80 = .ok (.aload_n 0, 1) := dk_42 (dk_at dksX5_ifPut_3 10 rfl rfl)
theorem dX5_ifPut_81 : decode cX5_ifPut 81 = .ok (.invokevirtual 361, 3) := dk_182 1 105 (dk_at dksX5_ifPut_3 11 rfl rfl)
theorem dX5_ifPut_84 : decode cX5_ifPut 84 = .ok (.aload_n 0, 1) := dk_42 (dk_at dksX5_ifPut_3 14 rfl rfl)
theorem dX5_ifPut_85 : decode cX5_ifPut 85 = .ok (.iload_n 1, 1) := dk_27 (dk_at dksX5_ifPut_3 15 rfl rfl)
theorem dX5_ifPut_86 : decode cX5_ifPut 86 = .ok (.iconst 2, 1) := dk_5 (dk_at dksX5_ifPut_3 16 rfl rfl)
theorem dX5_ifPut_87 : decode cX5_ifPut 87 = .ok (.iload_n 2, 1) := dk_28 (dk_at dksX5_ifPut_3 17 rfl rfl)
theorem dX5_ifPut_88 : decode cX5_ifPut 88 = .ok (.iadd, 1) := dk_96 (dk_at dksX5_ifPut_3 18 rfl rfl)
theorem dX5_ifPut_89 : decode cX5_ifPut 89 = .ok (.iload_n 3, 1) := dk_29 (dk_at dksX5_ifPut_3 19 rfl rfl)
theorem dX5_ifPut_90 : decode cX5_ifPut 90 = .ok (.invokevirtual 76, 3) := dk_182 0 76 (dk_at dksX5_ifPut_3 20 rfl rfl)
theorem dX5_ifPut_93 : decode cX5_ifPut 93 = .ok (.aload_n 0, 1) := dk_42 (dk_at dksX5_ifPut_3 23 rfl rfl)
theorem dX5_ifPut_94 : decode cX5_ifPut 94 = .ok (.iload 4, 2) := dk_21 4 (dk_at dksX5_ifPut_4 0 rfl rfl)
theorem dX5_ifPut_96 : decode cX5_ifPut 96 = .ok (.ifCond .ne 11, 3) := dk_154 0 11 (dk_at dksX5_ifPut_4 2 rfl rfl)
theorem dX5_ifPut_99 : decode cX5_ifPut 99 = .ok (.aload_n 0, 1) := dk_42 (dk_at dksX5_ifPut_4 5 rfl rfl)
theorem dX5_ifPut_100 : decode cX5_ifPut 100 = .ok (.iload_n 1, 1) := dk_27 (dk_at dksX5_ifPut_4 6 rfl rfl)
theorem dX5_ifPut_101 : decode cX5_ifPut 101 = .ok (.invokevirtual 86, 3) := dk_182 0 86 (dk_at dksX5_ifPut_4 7 rfl rfl)
theorem dX5_ifPut_104 : decode cX5_ifPut 104 = .ok (.goto 7, 3) := dk_167 0 7 (dk_at dksX5_ifPut_4 10 rfl rfl)
theorem dX5_ifPut_107 : decode cX5_ifPut 107 = .ok (.aload_n 0, 1) := dk_42 (dk_at dksX5_ifPut_4 13 rfl rfl)
theorem dX5_ifPut_108 : decode cX5_ifPut 108 = .ok (.invokevirtual 337, 3) := dk_182 1 81 (dk_at dksX5_ifPut_4 14 rfl rfl)
theorem dX5_ifPut_111 : decode cX5_ifPut 111 = .ok (.invokevirtual 364, 3) := dk_182 1 108 (dk_at dksX5_ifPut_4 17 rfl rfl)
theorem dX5_ifPut_114 : decode cX5_ifPut 114 = .ok (.ireturn, 1) := dk_172 (dk_at dksX5_ifPut_4 20 rfl rfl)
abbrev cX5_tries : ByteArray := prog_14_method_49_code
def yX5_tries : MethodName := ⟨RX5, "tries", "()V"⟩
def dkwX5_tries_0 : List UInt8 := [42, 3, 16, 9, 182, 0, 155, 42, 16, 9, 181, 0, 59, 177]
abbrev dktX5_tries_0 : List UInt8 := dkwX5_tries_0 ++ []
theorem dksX5_tries_0 : cX5_tries.data.toList.drop 0 = dktX5_tries_0 := by decide +kernel
theorem dX5_tries_0 : decode cX5_tries 0 = .ok (.aload_n 0, 1) := dk_42 (dk_at dksX5_tries_0 0 rfl rfl)
theorem dX5_tries_1 : decode cX5_tries 1 = .ok (.iconst 0, 1) := dk_3 (dk_at dksX5_tries_0 1 rfl rfl)
theorem dX5_tries_2 : decode cX5_tries 2 = .ok (.bipush 9, 2) := dk_16 9 (dk_at dksX5_tries_0 2 rfl rfl)
theorem dX5_tries_4 : decode cX5_tries 4 = .ok (.invokevirtual 155, 3) := dk_182 0 155 (dk_at dksX5_tries_0 4 rfl rfl)
theorem dX5_tries_7 : decode cX5_tries 7 = .ok (.aload_n 0, 1) := dk_42 (dk_at dksX5_tries_0 7 rfl rfl)
theorem dX5_tries_8 : decode cX5_tries 8 = .ok (.bipush 9, 2) := dk_16 9 (dk_at dksX5_tries_0 8 rfl rfl)
theorem dX5_tries_10 : decode cX5_tries 10 = .ok (.putfield 59, 3) := dk_181 0 59 (dk_at dksX5_tries_0 10 rfl rfl)
theorem dX5_tries_13 : decode cX5_tries 13 = .ok (.return_, 1) := dk_177 (dk_at dksX5_tries_0 13 rfl rfl)
abbrev cX5_isBack : ByteArray := prog_14_method_50_code
def yX5_isBack : MethodName := ⟨RX5, "isBack", "(I)I"⟩
def dkwX5_isBack_0 : List UInt8 := [42, 3, 181, 0, 59, 27, 172]
abbrev dktX5_isBack_0 : List UInt8 := dkwX5_isBack_0 ++ []
theorem dksX5_isBack_0 : cX5_isBack.data.toList.drop 0 = dktX5_isBack_0 := by decide +kernel
theorem dX5_isBack_0 : decode cX5_isBack 0 = .ok (.aload_n 0, 1) := dk_42 (dk_at dksX5_isBack_0 0 rfl rfl)
theorem dX5_isBack_1 : decode cX5_isBack 1 = .ok (.iconst 0, 1) := dk_3 (dk_at dksX5_isBack_0 1 rfl rfl)
theorem dX5_isBack_2 : decode cX5_isBack 2 = .ok (.putfield 59, 3) := dk_181 0 59 (dk_at dksX5_isBack_0 2 rfl rfl)
theorem dX5_isBack_5 : decode cX5_isBack 5 = .ok (.iload_n 1, 1) := dk_27 (dk_at dksX5_isBack_0 5 rfl rfl)
theorem dX5_isBack_6 : decode cX5_isBack 6 = .ok (.ireturn, 1) := dk_172 (dk_at dksX5_isBack_0 6 rfl rfl)
abbrev cX5_ifShown : ByteArray := prog_14_method_114_code
def yX5_ifShown : MethodName := ⟨RX5, "ifShown", "(II)I"⟩
def dkwX5_ifShown_2 : List UInt8 := [182, 1, 111, 172]
abbrev dktX5_ifShown_2 : List UInt8 := dkwX5_ifShown_2 ++ []
def dkwX5_ifShown_1 : List UInt8 := [167, 0, 4, 3, 4, 182, 0, 161, 153, 0, 8, 27, 28, 160, 0, 7, 3, 167, 0, 9, 42, 27, 28]
abbrev dktX5_ifShown_1 : List UInt8 := dkwX5_ifShown_1 ++ dktX5_ifShown_2
def dkwX5_ifShown_0 : List UInt8 := [42, 3, 181, 0, 56, 42, 42, 27, 182, 1, 39, 153, 0, 15, 42, 28, 182, 1, 39, 153, 0, 7, 4]
abbrev dktX5_ifShown_0 : List UInt8 := dkwX5_ifShown_0 ++ dktX5_ifShown_1
theorem dksX5_ifShown_0 : cX5_ifShown.data.toList.drop 0 = dktX5_ifShown_0 := by decide +kernel
theorem dksX5_ifShown_1 : cX5_ifShown.data.toList.drop 23 = dktX5_ifShown_1 := dk_seg dksX5_ifShown_0 23 rfl rfl
theorem dksX5_ifShown_2 : cX5_ifShown.data.toList.drop 46 = dktX5_ifShown_2 := dk_seg dksX5_ifShown_1 23 rfl rfl
theorem dX5_ifShown_0 : decode cX5_ifShown 0 = .ok (.aload_n 0, 1) := dk_42 (dk_at dksX5_ifShown_0 0 rfl rfl)
theorem dX5_ifShown_1 : decode cX5_ifShown 1 = .ok (.iconst 0, 1) := dk_3 (dk_at dksX5_ifShown_0 1 rfl rfl)
theorem dX5_ifShown_2 : decode cX5_ifShown 2 = .ok (.putfield 56, 3) := dk_181 0 56 (dk_at dksX5_ifShown_0 2 rfl rfl)
theorem dX5_ifShown_5 : decode cX5_ifShown 5 = .ok (.aload_n 0, 1) := dk_42 (dk_at dksX5_ifShown_0 5 rfl rfl)
theorem dX5_ifShown_6 : decode cX5_ifShown 6 = .ok (.aload_n 0, 1) := dk_42 (dk_at dksX5_ifShown_0 6 rfl rfl)
theorem dX5_ifShown_7 : decode cX5_ifShown 7 = .ok (.iload_n 1, 1) := dk_27 (dk_at dksX5_ifShown_0 7 rfl rfl)
theorem dX5_ifShown_8 : decode cX5_ifShown 8 = .ok (.invokevirtual 295, 3) := dk_182 1 39 (dk_at dksX5_ifShown_0 8 rfl rfl)
theorem dX5_ifShown_11 : decode cX5_ifShown 11 = .ok (.ifCond .eq 15, 3) := dk_153 0 15 (dk_at dksX5_ifShown_0 11 rfl rfl)
theorem dX5_ifShown_14 : decode cX5_ifShown 14 = .ok (.aload_n 0, 1) := dk_42 (dk_at dksX5_ifShown_0 14 rfl rfl)
theorem dX5_ifShown_15 : decode cX5_ifShown 15 = .ok (.iload_n 2, 1) := dk_28 (dk_at dksX5_ifShown_0 15 rfl rfl)
theorem dX5_ifShown_16 : decode cX5_ifShown 16 = .ok (.invokevirtual 295, 3) := dk_182 1 39 (dk_at dksX5_ifShown_0 16 rfl rfl)
theorem dX5_ifShown_19 : decode cX5_ifShown 19 = .ok (.ifCond .eq 7, 3) := dk_153 0 7 (dk_at dksX5_ifShown_0 19 rfl rfl)
theorem dX5_ifShown_22 : decode cX5_ifShown 22 = .ok (.iconst 1, 1) := dk_4 (dk_at dksX5_ifShown_0 22 rfl rfl)
theorem dX5_ifShown_23 : decode cX5_ifShown 23 = .ok (.goto 4, 3) := dk_167 0 4 (dk_at dksX5_ifShown_1 0 rfl rfl)
theorem dX5_ifShown_26 : decode cX5_ifShown 26 = .ok (.iconst 0, 1) := dk_3 (dk_at dksX5_ifShown_1 3 rfl rfl)
theorem dX5_ifShown_27 : decode cX5_ifShown 27 = .ok (.iconst 1, 1) := dk_4 (dk_at dksX5_ifShown_1 4 rfl rfl)
theorem dX5_ifShown_28 : decode cX5_ifShown 28 = .ok (.invokevirtual 161, 3) := dk_182 0 161 (dk_at dksX5_ifShown_1 5 rfl rfl)
theorem dX5_ifShown_31 : decode cX5_ifShown 31 = .ok (.ifCond .eq 8, 3) := dk_153 0 8 (dk_at dksX5_ifShown_1 8 rfl rfl)
theorem dX5_ifShown_34 : decode cX5_ifShown 34 = .ok (.iload_n 1, 1) := dk_27 (dk_at dksX5_ifShown_1 11 rfl rfl)
theorem dX5_ifShown_35 : decode cX5_ifShown 35 = .ok (.iload_n 2, 1) := dk_28 (dk_at dksX5_ifShown_1 12 rfl rfl)
theorem dX5_ifShown_36 : decode cX5_ifShown 36 = .ok (.if_icmp .ne 7, 3) := dk_160 0 7 (dk_at dksX5_ifShown_1 13 rfl rfl)
theorem dX5_ifShown_39 : decode cX5_ifShown 39 = .ok (.iconst 0, 1) := dk_3 (dk_at dksX5_ifShown_1 16 rfl rfl)
theorem dX5_ifShown_40 : decode cX5_ifShown 40 = .ok (.goto 9, 3) := dk_167 0 9 (dk_at dksX5_ifShown_1 17 rfl rfl)
theorem dX5_ifShown_43 : decode cX5_ifShown 43 = .ok (.aload_n 0, 1) := dk_42 (dk_at dksX5_ifShown_1 20 rfl rfl)
theorem dX5_ifShown_44 : decode cX5_ifShown 44 = .ok (.iload_n 1, 1) := dk_27 (dk_at dksX5_ifShown_1 21 rfl rfl)
theorem dX5_ifShown_45 : decode cX5_ifShown 45 = .ok (.iload_n 2, 1) := dk_28 (dk_at dksX5_ifShown_1 22 rfl rfl)
theorem dX5_ifShown_46 : decode cX5_ifShown 46 = .ok (.invokevirtual 367, 3) := dk_182 1 111 (dk_at dksX5_ifShown_2 0 rfl rfl)
theorem dX5_ifShown_49 : decode cX5_ifShown 49 = .ok (.ireturn, 1) := dk_172 (dk_at dksX5_ifShown_2 3 rfl rfl)
abbrev cX5_shown : ByteArray := prog_14_method_113_code
def yX5_shown : MethodName := ⟨RX5, "shown", "(II)I"⟩
def dkwX5_shown_1 : List UInt8 := [172]
abbrev dktX5_shown_1 : List UInt8 := dkwX5_shown_1 ++ []
def dkwX5_shown_0 : List UInt8 := [42, 182, 1, 105, 42, 27, 28, 42, 27, 28, 182, 0, 95, 182, 0, 149, 42, 42, 182, 1, 87, 182, 1, 108]
abbrev dktX5_shown_0 : List UInt8 := dkwX5_shown_0 ++ dktX5_shown_1
theorem dksX5_shown_0 : cX5_shown.data.toList.drop 0 = dktX5_shown_0 := by decide +kernel
theorem dksX5_shown_1 : cX5_shown.data.toList.drop 24 = dktX5_shown_1 := dk_seg dksX5_shown_0 24 rfl rfl
theorem dX5_shown_0 : decode cX5_shown 0 = .ok (.aload_n 0, 1) := dk_42 (dk_at dksX5_shown_0 0 rfl rfl)
theorem dX5_shown_1 : decode cX5_shown 1 = .ok (.invokevirtual 361, 3) := dk_182 1 105 (dk_at dksX5_shown_0 1 rfl rfl)
theorem dX5_shown_4 : decode cX5_shown 4 = .ok (.aload_n 0, 1) := dk_42 (dk_at dksX5_shown_0 4 rfl rfl)
theorem dX5_shown_5 : decode cX5_shown 5 = .ok (.iload_n 1, 1) := dk_27 (dk_at dksX5_shown_0 5 rfl rfl)
theorem dX5_shown_6 : decode cX5_shown 6 = .ok (.iload_n 2, 1) := dk_28 (dk_at dksX5_shown_0 6 rfl rfl)
theorem dX5_shown_7 : decode cX5_shown 7 = .ok (.aload_n 0, 1) := dk_42 (dk_at dksX5_shown_0 7 rfl rfl)
theorem dX5_shown_8 : decode cX5_shown 8 = .ok (.iload_n 1, 1) := dk_27 (dk_at dksX5_shown_0 8 rfl rfl)
theorem dX5_shown_9 : decode cX5_shown 9 = .ok (.iload_n 2, 1) := dk_28 (dk_at dksX5_shown_0 9 rfl rfl)
theorem dX5_shown_10 : decode cX5_shown 10 = .ok (.invokevirtual 95, 3) := dk_182 0 95 (dk_at dksX5_shown_0 10 rfl rfl)
theorem dX5_shown_13 : decode cX5_shown 13 = .ok (.invokevirtual 149, 3) := dk_182 0 149 (dk_at dksX5_shown_0 13 rfl rfl)
theorem dX5_shown_16 : decode cX5_shown 16 = .ok (.aload_n 0, 1) := dk_42 (dk_at dksX5_shown_0 16 rfl rfl)
theorem dX5_shown_17 : decode cX5_shown 17 = .ok (.aload_n 0, 1) := dk_42 (dk_at dksX5_shown_0 17 rfl rfl)
theorem dX5_shown_18 : decode cX5_shown 18 = .ok (.invokevirtual 343, 3) := dk_182 1 87 (dk_at dksX5_shown_0 18 rfl rfl)
theorem dX5_shown_21 : decode cX5_shown 21 = .ok (.invokevirtual 364, 3) := dk_182 1 108 (dk_at dksX5_shown_0 21 rfl rfl)
theorem dX5_shown_24 : decode cX5_shown 24 = .ok (.ireturn, 1) := dk_172 (dk_at dksX5_shown_1 0 rfl rfl)
abbrev cX5_bestProof : ByteArray := prog_14_method_115_code
def yX5_bestProof : MethodName := ⟨RX5, "bestProof", "()I"⟩
def dkwX5_bestProof_3 : List UInt8 := [167, 255, 214, 132, 3, 1, 167, 255, 194, 27, 172]
abbrev dktX5_bestProof_3 : List UInt8 := dkwX5_bestProof_3 ++ []
def dkwX5_bestProof_2 : List UInt8 := [21, 5, 28, 163, 0, 6, 167, 0, 14, 16, 10, 29, 104, 21, 4, 96, 60, 21, 5, 61, 132, 4, 1]
abbrev dktX5_bestProof_2 : List UInt8 := dkwX5_bestProof_2 ++ dktX5_bestProof_3
def dkwX5_bestProof_1 : List UInt8 := [4, 96, 54, 4, 21, 4, 42, 4, 182, 0, 65, 162, 0, 38, 42, 29, 21, 4, 182, 1, 111, 54, 5]
abbrev dktX5_bestProof_1 : List UInt8 := dkwX5_bestProof_1 ++ dktX5_bestProof_2
def dkwX5_bestProof_0 : List UInt8 := [42, 3, 181, 0, 56, 2, 60, 42, 182, 1, 87, 61, 3, 62, 29, 42, 4, 182, 0, 65, 162, 0, 59, 29]
abbrev dktX5_bestProof_0 : List UInt8 := dkwX5_bestProof_0 ++ dktX5_bestProof_1
theorem dksX5_bestProof_0 : cX5_bestProof.data.toList.drop 0 = dktX5_bestProof_0 := by decide +kernel
theorem dksX5_bestProof_1 : cX5_bestProof.data.toList.drop 24 = dktX5_bestProof_1 := dk_seg dksX5_bestProof_0 24 rfl rfl
theorem dksX5_bestProof_2 : cX5_bestProof.data.toList.drop 47 = dktX5_bestProof_2 := dk_seg dksX5_bestProof_1 23 rfl rfl
theorem dksX5_bestProof_3 : cX5_bestProof.data.toList.drop 70 = dktX5_bestProof_3 := dk_seg dksX5_bestProof_2 23 rfl rfl
theorem dX5_bestProof_0 : decode cX5_bestProof 0 = .ok (.aload_n 0, 1) := dk_42 (dk_at dksX5_bestProof_0 0 rfl rfl)
theorem dX5_bestProof_1 : decode cX5_bestProof 1 = .ok (.iconst 0, 1) := dk_3 (dk_at dksX5_bestProof_0 1 rfl rfl)
theorem dX5_bestProof_2 : decode cX5_bestProof 2 = .ok (.putfield 56, 3) := dk_181 0 56 (dk_at dksX5_bestProof_0 2 rfl rfl)
theorem dX5_bestProof_5 : decode cX5_bestProof 5 = .ok (.iconst (-1), 1) := dk_2 (dk_at dksX5_bestProof_0 5 rfl rfl)
theorem dX5_bestProof_6 : decode cX5_bestProof 6 = .ok (.istore_n 1, 1) := dk_60 (dk_at dksX5_bestProof_0 6 rfl rfl)
theorem dX5_bestProof_7 : decode cX5_bestProof 7 = .ok (.aload_n 0, 1) := dk_42 (dk_at dksX5_bestProof_0 7 rfl rfl)
theorem dX5_bestProof_8 : decode cX5_bestProof 8 = .ok (.invokevirtual 343, 3) := dk_182 1 87 (dk_at dksX5_bestProof_0 8 rfl rfl)
theorem dX5_bestProof_11 : decode cX5_bestProof 11 = .ok (.istore_n 2, 1) := dk_61 (dk_at dksX5_bestProof_0 11 rfl rfl)
theorem dX5_bestProof_12 : decode cX5_bestProof 12 = .ok (.iconst 0, 1) := dk_3 (dk_at dksX5_bestProof_0 12 rfl rfl)
theorem dX5_bestProof_13 : decode cX5_bestProof 13 = .ok (.istore_n 3, 1) := dk_62 (dk_at dksX5_bestProof_0 13 rfl rfl)
theorem dX5_bestProof_14 : decode cX5_bestProof 14 = .ok (.iload_n 3, 1) := dk_29 (dk_at dksX5_bestProof_0 14 rfl rfl)
theorem dX5_bestProof_15 : decode cX5_bestProof 15 = .ok (.aload_n 0, 1) := dk_42 (dk_at dksX5_bestProof_0 15 rfl rfl)
theorem dX5_bestProof_16 : decode cX5_bestProof 16 = .ok (.iconst 1, 1) := dk_4 (dk_at dksX5_bestProof_0 16 rfl rfl)
theorem dX5_bestProof_17 : decode cX5_bestProof 17 = .ok (.invokevirtual 65, 3) := dk_182 0 65 (dk_at dksX5_bestProof_0 17 rfl rfl)
theorem dX5_bestProof_20 : decode cX5_bestProof 20 = .ok (.if_icmp .ge 59, 3) := dk_162 0 59 (dk_at dksX5_bestProof_0 20 rfl rfl)
theorem dX5_bestProof_23 : decode cX5_bestProof 23 = .ok (.iload_n 3, 1) := dk_29 (dk_at dksX5_bestProof_0 23 rfl rfl)
theorem dX5_bestProof_24 : decode cX5_bestProof 24 = .ok (.iconst 1, 1) := dk_4 (dk_at dksX5_bestProof_1 0 rfl rfl)
theorem dX5_bestProof_25 : decode cX5_bestProof 25 = .ok (.iadd, 1) := dk_96 (dk_at dksX5_bestProof_1 1 rfl rfl)
theorem dX5_bestProof_26 : decode cX5_bestProof 26 = .ok (.istore 4, 2) := dk_54 4 (dk_at dksX5_bestProof_1 2 rfl rfl)
theorem dX5_bestProof_28 : decode cX5_bestProof 28 = .ok (.iload 4, 2) := dk_21 4 (dk_at dksX5_bestProof_1 4 rfl rfl)
theorem dX5_bestProof_30 : decode cX5_bestProof 30 = .ok (.aload_n 0, 1) := dk_42 (dk_at dksX5_bestProof_1 6 rfl rfl)
theorem dX5_bestProof_31 : decode cX5_bestProof 31 = .ok (.iconst 1, 1) := dk_4 (dk_at dksX5_bestProof_1 7 rfl rfl)
theorem dX5_bestProof_32 : decode cX5_bestProof 32 = .ok (.invokevirtual 65, 3) := dk_182 0 65 (dk_at dksX5_bestProof_1 8 rfl rfl)
theorem dX5_bestProof_35 : decode cX5_bestProof 35 = .ok (.if_icmp .ge 38, 3) := dk_162 0 38 (dk_at dksX5_bestProof_1 11 rfl rfl)
theorem dX5_bestProof_38 : decode cX5_bestProof 38 = .ok (.aload_n 0, 1) := dk_42 (dk_at dksX5_bestProof_1 14 rfl rfl)
theorem dX5_bestProof_39 : decode cX5_bestProof 39 = .ok (.iload_n 3, 1) := dk_29 (dk_at dksX5_bestProof_1 15 rfl rfl)
theorem dX5_bestProof_40 : decode cX5_bestProof 40 = .ok (.iload 4, 2) := dk_21 4 (dk_at dksX5_bestProof_1 16 rfl rfl)
theorem dX5_bestProof_42 : decode cX5_bestProof 42 = .ok (.invokevirtual 367, 3) := dk_182 1 111 (dk_at dksX5_bestProof_1 18 rfl rfl)
theorem dX5_bestProof_45 : decode cX5_bestProof 45 = .ok (.istore 5, 2) := dk_54 5 (dk_at dksX5_bestProof_1 21 rfl rfl)
theorem dX5_bestProof_47 : decode cX5_bestProof 47 = .ok (.iload 5, 2) := dk_21 5 (dk_at dksX5_bestProof_2 0 rfl rfl)
theorem dX5_bestProof_49 : decode cX5_bestProof 49 = .ok (.iload_n 2, 1) := dk_28 (dk_at dksX5_bestProof_2 2 rfl rfl)
theorem dX5_bestProof_50 : decode cX5_bestProof 50 = .ok (.if_icmp .gt 6, 3) := dk_163 0 6 (dk_at dksX5_bestProof_2 3 rfl rfl)
theorem dX5_bestProof_53 : decode cX5_bestProof 53 = .ok (.goto 14, 3) := dk_167 0 14 (dk_at dksX5_bestProof_2 6 rfl rfl)
theorem dX5_bestProof_56 : decode cX5_bestProof 56 = .ok (.bipush 10, 2) := dk_16 10 (dk_at dksX5_bestProof_2 9 rfl rfl)
theorem dX5_bestProof_58 : decode cX5_bestProof 58 = .ok (.iload_n 3, 1) := dk_29 (dk_at dksX5_bestProof_2 11 rfl rfl)
theorem dX5_bestProof_59 : decode cX5_bestProof 59 = .ok (.imul, 1) := dk_104 (dk_at dksX5_bestProof_2 12 rfl rfl)
theorem dX5_bestProof_60 : decode cX5_bestProof 60 = .ok (.iload 4, 2) := dk_21 4 (dk_at dksX5_bestProof_2 13 rfl rfl)
theorem dX5_bestProof_62 : decode cX5_bestProof 62 = .ok (.iadd, 1) := dk_96 (dk_at dksX5_bestProof_2 15 rfl rfl)
theorem dX5_bestProof_63 : decode cX5_bestProof 63 = .ok (.istore_n 1, 1) := dk_60 (dk_at dksX5_bestProof_2 16 rfl rfl)
theorem dX5_bestProof_64 : decode cX5_bestProof 64 = .ok (.iload 5, 2) := dk_21 5 (dk_at dksX5_bestProof_2 17 rfl rfl)
theorem dX5_bestProof_66 : decode cX5_bestProof 66 = .ok (.istore_n 2, 1) := dk_61 (dk_at dksX5_bestProof_2 19 rfl rfl)
theorem dX5_bestProof_67 : decode cX5_bestProof 67 = .ok (.iinc 4 1, 3) := dk_132 4 1 (dk_at dksX5_bestProof_2 20 rfl rfl)
theorem dX5_bestProof_70 : decode cX5_bestProof 70 = .ok (.goto (-42), 3) := dk_167 255 214 (dk_at dksX5_bestProof_3 0 rfl rfl)
theorem dX5_bestProof_73 : decode cX5_bestProof 73 = .ok (.iinc 3 1, 3) := dk_132 3 1 (dk_at dksX5_bestProof_3 3 rfl rfl)
theorem dX5_bestProof_76 : decode cX5_bestProof 76 = .ok (.goto (-62), 3) := dk_167 255 194 (dk_at dksX5_bestProof_3 6 rfl rfl)
theorem dX5_bestProof_79 : decode cX5_bestProof 79 = .ok (.iload_n 1, 1) := dk_27 (dk_at dksX5_bestProof_3 9 rfl rfl)
theorem dX5_bestProof_80 : decode cX5_bestProof 80 = .ok (.ireturn, 1) := dk_172 (dk_at dksX5_bestProof_3 10 rfl rfl)
abbrev cX5_ifEye : ByteArray := prog_14_method_116_code
def yX5_ifEye : MethodName := ⟨RX5, "ifEye", "(I)I"⟩
def dkwX5_ifEye_1 : List UInt8 := [182, 1, 105, 42, 5, 27, 182, 0, 42, 42, 42, 182, 1, 81, 182, 1, 108, 172]
abbrev dktX5_ifEye_1 : List UInt8 := dkwX5_ifEye_1 ++ []
def dkwX5_ifEye_0 : List UInt8 := [42, 3, 181, 0, 56, 42, 27, 3, 16, 9, 184, 0, 165, 4, 182, 0, 161, 154, 0, 5, 3, 172, 42]
abbrev dktX5_ifEye_0 : List UInt8 := dkwX5_ifEye_0 ++ dktX5_ifEye_1
theorem dksX5_ifEye_0 : cX5_ifEye.data.toList.drop 0 = dktX5_ifEye_0 := by decide +kernel
theorem dksX5_ifEye_1 : cX5_ifEye.data.toList.drop 23 = dktX5_ifEye_1 := dk_seg dksX5_ifEye_0 23 rfl rfl
theorem dX5_ifEye_0 : decode cX5_ifEye 0 = .ok (.aload_n 0, 1) := dk_42 (dk_at dksX5_ifEye_0 0 rfl rfl)
theorem dX5_ifEye_1 : decode cX5_ifEye 1 = .ok (.iconst 0, 1) := dk_3 (dk_at dksX5_ifEye_0 1 rfl rfl)
theorem dX5_ifEye_2 : decode cX5_ifEye 2 = .ok (.putfield 56, 3) := dk_181 0 56 (dk_at dksX5_ifEye_0 2 rfl rfl)
theorem dX5_ifEye_5 : decode cX5_ifEye 5 = .ok (.aload_n 0, 1) := dk_42 (dk_at dksX5_ifEye_0 5 rfl rfl)
theorem dX5_ifEye_6 : decode cX5_ifEye 6 = .ok (.iload_n 1, 1) := dk_27 (dk_at dksX5_ifEye_0 6 rfl rfl)
theorem dX5_ifEye_7 : decode cX5_ifEye 7 = .ok (.iconst 0, 1) := dk_3 (dk_at dksX5_ifEye_0 7 rfl rfl)
theorem dX5_ifEye_8 : decode cX5_ifEye 8 = .ok (.bipush 9, 2) := dk_16 9 (dk_at dksX5_ifEye_0 8 rfl rfl)
theorem dX5_ifEye_10 : decode cX5_ifEye 10 = .ok (.invokestatic 165, 3) := dk_184 0 165 (dk_at dksX5_ifEye_0 10 rfl rfl)
theorem dX5_ifEye_13 : decode cX5_ifEye 13 = .ok (.iconst 1, 1) := dk_4 (dk_at dksX5_ifEye_0 13 rfl rfl)
theorem dX5_ifEye_14 : decode cX5_ifEye 14 = .ok (.invokevirtual 161, 3) := dk_182 0 161 (dk_at dksX5_ifEye_0 14 rfl rfl)
theorem dX5_ifEye_17 : decode cX5_ifEye 17 = .ok (.ifCond .ne 5, 3) := dk_154 0 5 (dk_at dksX5_ifEye_0 17 rfl rfl)
theorem dX5_ifEye_20 : decode cX5_ifEye 20 = .ok (.iconst 0, 1) := dk_3 (dk_at dksX5_ifEye_0 20 rfl rfl)
theorem dX5_ifEye_21 : decode cX5_ifEye 21 = .ok (.ireturn, 1) := dk_172 (dk_at dksX5_ifEye_0 21 rfl rfl)
theorem dX5_ifEye_22 : decode cX5_ifEye 22 = .ok (.aload_n 0, 1) := dk_42 (dk_at dksX5_ifEye_0 22 rfl rfl)
theorem dX5_ifEye_23 : decode cX5_ifEye 23 = .ok (.invokevirtual 361, 3) := dk_182 1 105 (dk_at dksX5_ifEye_1 0 rfl rfl)
theorem dX5_ifEye_26 : decode cX5_ifEye 26 = .ok (.aload_n 0, 1) := dk_42 (dk_at dksX5_ifEye_1 3 rfl rfl)
theorem dX5_ifEye_27 : decode cX5_ifEye 27 = .ok (.iconst 2, 1) := dk_5 (dk_at dksX5_ifEye_1 4 rfl rfl)
theorem dX5_ifEye_28 : decode cX5_ifEye 28 = .ok (.iload_n 1, 1) := dk_27 (dk_at dksX5_ifEye_1 5 rfl rfl)
theorem dX5_ifEye_29 : decode cX5_ifEye 29 = .ok (.invokevirtual 42, 3) := dk_182 0 42 (dk_at dksX5_ifEye_1 6 rfl rfl)
theorem dX5_ifEye_32 : decode cX5_ifEye 32 = .ok (.aload_n 0, 1) := dk_42 (dk_at dksX5_ifEye_1 9 rfl rfl)
theorem dX5_ifEye_33 : decode cX5_ifEye 33 = .ok (.aload_n 0, 1) := dk_42 (dk_at dksX5_ifEye_1 10 rfl rfl)
theorem dX5_ifEye_34 : decode cX5_ifEye 34 = .ok (.invokevirtual 337, 3) := dk_182 1 81 (dk_at dksX5_ifEye_1 11 rfl rfl)
theorem dX5_ifEye_37 : decode cX5_ifEye 37 = .ok (.invokevirtual 364, 3) := dk_182 1 108 (dk_at dksX5_ifEye_1 14 rfl rfl)
theorem dX5_ifEye_40 : decode cX5_ifEye 40 = .ok (.ireturn, 1) := dk_172 (dk_at dksX5_ifEye_1 17 rfl rfl)
abbrev cX5_write : ByteArray := prog_14_method_127_code
def yX5_write : MethodName := ⟨RX5, "write", "(I)I"⟩
def dkwX5_write_3 : List UInt8 := [5, 160, 0, 8, 16, 61, 167, 0, 5, 16, 63, 79, 132, 2, 1, 167, 255, 201, 42, 180, 1, 132, 172]
abbrev dktX5_write_3 : List UInt8 := dkwX5_write_3 ++ []
def dkwX5_write_2 : List UInt8 := [180, 0, 39, 28, 29, 154, 0, 8, 16, 62, 167, 0, 25, 29, 4, 160, 0, 8, 16, 60, 167, 0, 15, 29]
abbrev dktX5_write_2 : List UInt8 := dkwX5_write_2 ++ dktX5_write_3
def dkwX5_write_1 : List UInt8 := [182, 0, 65, 181, 1, 132, 3, 61, 28, 42, 180, 1, 132, 162, 0, 53, 42, 27, 28, 182, 0, 117, 62, 42]
abbrev dktX5_write_1 : List UInt8 := dkwX5_write_1 ++ dktX5_write_2
def dkwX5_write_0 : List UInt8 := [42, 3, 181, 0, 56, 42, 42, 27, 182, 1, 39, 4, 182, 0, 161, 154, 0, 5, 3, 172, 42, 42, 4]
abbrev dktX5_write_0 : List UInt8 := dkwX5_write_0 ++ dktX5_write_1
theorem dksX5_write_0 : cX5_write.data.toList.drop 0 = dktX5_write_0 := by decide +kernel
theorem dksX5_write_1 : cX5_write.data.toList.drop 23 = dktX5_write_1 := dk_seg dksX5_write_0 23 rfl rfl
theorem dksX5_write_2 : cX5_write.data.toList.drop 47 = dktX5_write_2 := dk_seg dksX5_write_1 24 rfl rfl
theorem dksX5_write_3 : cX5_write.data.toList.drop 71 = dktX5_write_3 := dk_seg dksX5_write_2 24 rfl rfl
theorem dX5_write_0 : decode cX5_write 0 = .ok (.aload_n 0, 1) := dk_42 (dk_at dksX5_write_0 0 rfl rfl)
theorem dX5_write_1 : decode cX5_write 1 = .ok (.iconst 0, 1) := dk_3 (dk_at dksX5_write_0 1 rfl rfl)
theorem dX5_write_2 : decode cX5_write 2 = .ok (.putfield 56, 3) := dk_181 0 56 (dk_at dksX5_write_0 2 rfl rfl)
theorem dX5_write_5 : decode cX5_write 5 = .ok (.aload_n 0, 1) := dk_42 (dk_at dksX5_write_0 5 rfl rfl)
theorem dX5_write_6 : decode cX5_write 6 = .ok (.aload_n 0, 1) := dk_42 (dk_at dksX5_write_0 6 rfl rfl)
theorem dX5_write_7 : decode cX5_write 7 = .ok (.iload_n 1, 1) := dk_27 (dk_at dksX5_write_0 7 rfl rfl)
theorem dX5_write_8 : decode cX5_write 8 = .ok (.invokevirtual 295, 3) := dk_182 1 39 (dk_at dksX5_write_0 8 rfl rfl)
theorem dX5_write_11 : decode cX5_write 11 = .ok (.iconst 1, 1) := dk_4 (dk_at dksX5_write_0 11 rfl rfl)
theorem dX5_write_12 : decode cX5_write 12 = .ok (.invokevirtual 161, 3) := dk_182 0 161 (dk_at dksX5_write_0 12 rfl rfl)
theorem dX5_write_15 : decode cX5_write 15 = .ok (.ifCond .ne 5, 3) := dk_154 0 5 (dk_at dksX5_write_0 15 rfl rfl)
theorem dX5_write_18 : decode cX5_write 18 = .ok (.iconst 0, 1) := dk_3 (dk_at dksX5_write_0 18 rfl rfl)
theorem dX5_write_19 : decode cX5_write 19 = .ok (.ireturn, 1) := dk_172 (dk_at dksX5_write_0 19 rfl rfl)
theorem dX5_write_20 : decode cX5_write 20 = .ok (.aload_n 0, 1) := dk_42 (dk_at dksX5_write_0 20 rfl rfl)
theorem dX5_write_21 : decode cX5_write 21 = .ok (.aload_n 0, 1) := dk_42 (dk_at dksX5_write_0 21 rfl rfl)
theorem dX5_write_22 : decode cX5_write 22 = .ok (.iconst 1, 1) := dk_4 (dk_at dksX5_write_0 22 rfl rfl)
theorem dX5_write_23 : decode cX5_write 23 = .ok (.invokevirtual 65, 3) := dk_182 0 65 (dk_at dksX5_write_1 0 rfl rfl)
theorem dX5_write_26 : decode cX5_write 26 = .ok (.putfield 388, 3) := dk_181 1 132 (dk_at dksX5_write_1 3 rfl rfl)
theorem dX5_write_29 : decode cX5_write 29 = .ok (.iconst 0, 1) := dk_3 (dk_at dksX5_write_1 6 rfl rfl)
theorem dX5_write_30 : decode cX5_write 30 = .ok (.istore_n 2, 1) := dk_61 (dk_at dksX5_write_1 7 rfl rfl)
theorem dX5_write_31 : decode cX5_write 31 = .ok (.iload_n 2, 1) := dk_28 (dk_at dksX5_write_1 8 rfl rfl)
theorem dX5_write_32 : decode cX5_write 32 = .ok (.aload_n 0, 1) := dk_42 (dk_at dksX5_write_1 9 rfl rfl)
theorem dX5_write_33 : decode cX5_write 33 = .ok (.getfield 388, 3) := dk_180 1 132 (dk_at dksX5_write_1 10 rfl rfl)
theorem dX5_write_36 : decode cX5_write 36 = .ok (.if_icmp .ge 53, 3) := dk_162 0 53 (dk_at dksX5_write_1 13 rfl rfl)
theorem dX5_write_39 : decode cX5_write 39 = .ok (.aload_n 0, 1) := dk_42 (dk_at dksX5_write_1 16 rfl rfl)
theorem dX5_write_40 : decode cX5_write 40 = .ok (.iload_n 1, 1) := dk_27 (dk_at dksX5_write_1 17 rfl rfl)
theorem dX5_write_41 : decode cX5_write 41 = .ok (.iload_n 2, 1) := dk_28 (dk_at dksX5_write_1 18 rfl rfl)
theorem dX5_write_42 : decode cX5_write 42 = .ok (.invokevirtual 117, 3) := dk_182 0 117 (dk_at dksX5_write_1 19 rfl rfl)
theorem dX5_write_45 : decode cX5_write 45 = .ok (.istore_n 3, 1) := dk_62 (dk_at dksX5_write_1 22 rfl rfl)
theorem dX5_write_46 : decode cX5_write 46 = .ok (.aload_n 0, 1) := dk_42 (dk_at dksX5_write_1 23 rfl rfl)
theorem dX5_write_47 : decode cX5_write 47 = .ok (.getfield 39, 3) := dk_180 0 39 (dk_at dksX5_write_2 0 rfl rfl)
theorem dX5_write_50 : decode cX5_write 50 = .ok (.iload_n 2, 1) := dk_28 (dk_at dksX5_write_2 3 rfl rfl)
theorem dX5_write_51 : decode cX5_write 51 = .ok (.iload_n 3, 1) := dk_29 (dk_at dksX5_write_2 4 rfl rfl)
theorem dX5_write_52 : decode cX5_write 52 = .ok (.ifCond .ne 8, 3) := dk_154 0 8 (dk_at dksX5_write_2 5 rfl rfl)
theorem dX5_write_55 : decode cX5_write 55 = .ok (.bipush 62, 2) := dk_16 62 (dk_at dksX5_write_2 8 rfl rfl)
theorem dX5_write_57 : decode cX5_write 57 = .ok (.goto 25, 3) := dk_167 0 25 (dk_at dksX5_write_2 10 rfl rfl)
theorem dX5_write_60 : decode cX5_write 60 = .ok (.iload_n 3, 1) := dk_29 (dk_at dksX5_write_2 13 rfl rfl)
theorem dX5_write_61 : decode cX5_write 61 = .ok (.iconst 1, 1) := dk_4 (dk_at dksX5_write_2 14 rfl rfl)
theorem dX5_write_62 : decode cX5_write 62 = .ok (.if_icmp .ne 8, 3) := dk_160 0 8 (dk_at dksX5_write_2 15 rfl rfl)
theorem dX5_write_65 : decode cX5_write 65 = .ok (.bipush 60, 2) := dk_16 60 (dk_at dksX5_write_2 18 rfl rfl)
theorem dX5_write_67 : decode cX5_write 67 = .ok (.goto 15, 3) := dk_167 0 15 (dk_at dksX5_write_2 20 rfl rfl)
theorem dX5_write_70 : decode cX5_write 70 = .ok (.iload_n 3, 1) := dk_29 (dk_at dksX5_write_2 23 rfl rfl)
theorem dX5_write_71 : decode cX5_write 71 = .ok (.iconst 2, 1) := dk_5 (dk_at dksX5_write_3 0 rfl rfl)
theorem dX5_write_72 : decode cX5_write 72 = .ok (.if_icmp .ne 8, 3) := dk_160 0 8 (dk_at dksX5_write_3 1 rfl rfl)
theorem dX5_write_75 : decode cX5_write 75 = .ok (.bipush 61, 2) := dk_16 61 (dk_at dksX5_write_3 4 rfl rfl)
theorem dX5_write_77 : decode cX5_write 77 = .ok (.goto 5, 3) := dk_167 0 5 (dk_at dksX5_write_3 6 rfl rfl)
theorem dX5_write_80 : decode cX5_write 80 = .ok (.bipush 63, 2) := dk_16 63 (dk_at dksX5_write_3 9 rfl rfl)
theorem dX5_write_82 : decode cX5_write 82 = .ok (.iastore, 1) := dk_79 (dk_at dksX5_write_3 11 rfl rfl)
theorem dX5_write_83 : decode cX5_write 83 = .ok (.iinc 2 1, 3) := dk_132 2 1 (dk_at dksX5_write_3 12 rfl rfl)
theorem dX5_write_86 : decode cX5_write 86 = .ok (.goto (-55), 3) := dk_167 255 201 (dk_at dksX5_write_3 15 rfl rfl)
theorem dX5_write_89 : decode cX5_write 89 = .ok (.aload_n 0, 1) := dk_42 (dk_at dksX5_write_3 18 rfl rfl)
theorem dX5_write_90 : decode cX5_write 90 = .ok (.getfield 388, 3) := dk_180 1 132 (dk_at dksX5_write_3 19 rfl rfl)
theorem dX5_write_93 : decode cX5_write 93 = .ok (.ireturn, 1) := dk_172 (dk_at dksX5_write_3 22 rfl rfl)
abbrev cX5_output : ByteArray := prog_14_method_128_code
def yX5_output : MethodName := ⟨RX5, "output", "(I)I"⟩
def dkwX5_output_1 : List UInt8 := [46, 167, 0, 4, 2, 172]
abbrev dktX5_output_1 : List UInt8 := dkwX5_output_1 ++ []
def dkwX5_output_0 : List UInt8 := [42, 3, 181, 0, 56, 27, 3, 42, 180, 1, 132, 4, 100, 184, 0, 165, 153, 0, 12, 42, 180, 0, 39, 27]
abbrev dktX5_output_0 : List UInt8 := dkwX5_output_0 ++ dktX5_output_1
theorem dksX5_output_0 : cX5_output.data.toList.drop 0 = dktX5_output_0 := by decide +kernel
theorem dksX5_output_1 : cX5_output.data.toList.drop 24 = dktX5_output_1 := dk_seg dksX5_output_0 24 rfl rfl
theorem dX5_output_0 : decode cX5_output 0 = .ok (.aload_n 0, 1) := dk_42 (dk_at dksX5_output_0 0 rfl rfl)
theorem dX5_output_1 : decode cX5_output 1 = .ok (.iconst 0, 1) := dk_3 (dk_at dksX5_output_0 1 rfl rfl)
theorem dX5_output_2 : decode cX5_output 2 = .ok (.putfield 56, 3) := dk_181 0 56 (dk_at dksX5_output_0 2 rfl rfl)
theorem dX5_output_5 : decode cX5_output 5 = .ok (.iload_n 1, 1) := dk_27 (dk_at dksX5_output_0 5 rfl rfl)
theorem dX5_output_6 : decode cX5_output 6 = .ok (.iconst 0, 1) := dk_3 (dk_at dksX5_output_0 6 rfl rfl)
theorem dX5_output_7 : decode cX5_output 7 = .ok (.aload_n 0, 1) := dk_42 (dk_at dksX5_output_0 7 rfl rfl)
theorem dX5_output_8 : decode cX5_output 8 = .ok (.getfield 388, 3) := dk_180 1 132 (dk_at dksX5_output_0 8 rfl rfl)
theorem dX5_output_11 : decode cX5_output 11 = .ok (.iconst 1, 1) := dk_4 (dk_at dksX5_output_0 11 rfl rfl)
theorem dX5_output_12 : decode cX5_output 12 = .ok (.isub, 1) := dk_100 (dk_at dksX5_output_0 12 rfl rfl)
theorem dX5_output_13 : decode cX5_output 13 = .ok (.invokestatic 165, 3) := dk_184 0 165 (dk_at dksX5_output_0 13 rfl rfl)
theorem dX5_output_16 : decode cX5_output 16 = .ok (.ifCond .eq 12, 3) := dk_153 0 12 (dk_at dksX5_output_0 16 rfl rfl)
theorem dX5_output_19 : decode cX5_output 19 = .ok (.aload_n 0, 1) := dk_42 (dk_at dksX5_output_0 19 rfl rfl)
theorem dX5_output_20 : decode cX5_output 20 = .ok (.getfield 39, 3) := dk_180 0 39 (dk_at dksX5_output_0 20 rfl rfl)
theorem dX5_output_23 : decode cX5_output 23 = .ok (.iload_n 1, 1) := dk_27 (dk_at dksX5_output_0 23 rfl rfl)
theorem dX5_output_24 : decode cX5_output 24 = .ok (.iaload, 1) := dk_46 (dk_at dksX5_output_1 0 rfl rfl)
theorem dX5_output_25 : decode cX5_output 25 = .ok (.goto 4, 3) := dk_167 0 4 (dk_at dksX5_output_1 1 rfl rfl)
theorem dX5_output_28 : decode cX5_output 28 = .ok (.iconst (-1), 1) := dk_2 (dk_at dksX5_output_1 4 rfl rfl)
theorem dX5_output_29 : decode cX5_output 29 = .ok (.ireturn, 1) := dk_172 (dk_at dksX5_output_1 5 rfl rfl)
abbrev cX5_undo : ByteArray := prog_14_method_129_code
def yX5_undo : MethodName := ⟨RX5, "undo", "()I"⟩
def dkwX5_undo_1 : List UInt8 := [42, 4, 42, 180, 0, 234, 96, 3, 182, 0, 155, 42, 180, 0, 234, 172]
abbrev dktX5_undo_1 : List UInt8 := dkwX5_undo_1 ++ []
def dkwX5_undo_0 : List UInt8 := [42, 3, 181, 0, 56, 42, 180, 0, 234, 154, 0, 5, 2, 172, 42, 89, 180, 0, 234, 4, 100, 181, 0, 234]
abbrev dktX5_undo_0 : List UInt8 := dkwX5_undo_0 ++ dktX5_undo_1
theorem dksX5_undo_0 : cX5_undo.data.toList.drop 0 = dktX5_undo_0 := by decide +kernel
theorem dksX5_undo_1 : cX5_undo.data.toList.drop 24 = dktX5_undo_1 := dk_seg dksX5_undo_0 24 rfl rfl
theorem dX5_undo_0 : decode cX5_undo 0 = .ok (.aload_n 0, 1) := dk_42 (dk_at dksX5_undo_0 0 rfl rfl)
theorem dX5_undo_1 : decode cX5_undo 1 = .ok (.iconst 0, 1) := dk_3 (dk_at dksX5_undo_0 1 rfl rfl)
theorem dX5_undo_2 : decode cX5_undo 2 = .ok (.putfield 56, 3) := dk_181 0 56 (dk_at dksX5_undo_0 2 rfl rfl)
theorem dX5_undo_5 : decode cX5_undo 5 = .ok (.aload_n 0, 1) := dk_42 (dk_at dksX5_undo_0 5 rfl rfl)
theorem dX5_undo_6 : decode cX5_undo 6 = .ok (.getfield 234, 3) := dk_180 0 234 (dk_at dksX5_undo_0 6 rfl rfl)
theorem dX5_undo_9 : decode cX5_undo 9 = .ok (.ifCond .ne 5, 3) := dk_154 0 5 (dk_at dksX5_undo_0 9 rfl rfl)
theorem dX5_undo_12 : decode cX5_undo 12 = .ok (.iconst (-1), 1) := dk_2 (dk_at dksX5_undo_0 12 rfl rfl)
theorem dX5_undo_13 : decode cX5_undo 13 = .ok (.ireturn, 1) := dk_172 (dk_at dksX5_undo_0 13 rfl rfl)
theorem dX5_undo_14 : decode cX5_undo 14 = .ok (.aload_n 0, 1) := dk_42 (dk_at dksX5_undo_0 14 rfl rfl)
theorem dX5_undo_15 : decode cX5_undo 15 = .ok (.dup, 1) := dk_89 (dk_at dksX5_undo_0 15 rfl rfl)
theorem dX5_undo_16 : decode cX5_undo 16 = .ok (.getfield 234, 3) := dk_180 0 234 (dk_at dksX5_undo_0 16 rfl rfl)
theorem dX5_undo_19 : decode cX5_undo 19 = .ok (.iconst 1, 1) := dk_4 (dk_at dksX5_undo_0 19 rfl rfl)
theorem dX5_undo_20 : decode cX5_undo 20 = .ok (.isub, 1) := dk_100 (dk_at dksX5_undo_0 20 rfl rfl)
theorem dX5_undo_21 : decode cX5_undo 21 = .ok (.putfield 234, 3) := dk_181 0 234 (dk_at dksX5_undo_0 21 rfl rfl)
theorem dX5_undo_24 : decode cX5_undo 24 = .ok (.aload_n 0, 1) := dk_42 (dk_at dksX5_undo_1 0 rfl rfl)
theorem dX5_undo_25 : decode cX5_undo 25 = .ok (.iconst 1, 1) := dk_4 (dk_at dksX5_undo_1 1 rfl rfl)
theorem dX5_undo_26 : decode cX5_undo 26 = .ok (.aload_n 0, 1) := dk_42 (dk_at dksX5_undo_1 2 rfl rfl)
theorem dX5_undo_27 : decode cX5_undo 27 = .ok (.getfield 234, 3) := dk_180 0 234 (dk_at dksX5_undo_1 3 rfl rfl)
theorem dX5_undo_30 : decode cX5_undo 30 = .ok (.iadd, 1) := dk_96 (dk_at dksX5_undo_1 6 rfl rfl)
theorem dX5_undo_31 : decode cX5_undo 31 = .ok (.iconst 0, 1) := dk_3 (dk_at dksX5_undo_1 7 rfl rfl)
theorem dX5_undo_32 : decode cX5_undo 32 = .ok (.invokevirtual 155, 3) := dk_182 0 155 (dk_at dksX5_undo_1 8 rfl rfl)
theorem dX5_undo_35 : decode cX5_undo 35 = .ok (.aload_n 0, 1) := dk_42 (dk_at dksX5_undo_1 11 rfl rfl)
theorem dX5_undo_36 : decode cX5_undo 36 = .ok (.getfield 234, 3) := dk_180 0 234 (dk_at dksX5_undo_1 12 rfl rfl)
theorem dX5_undo_39 : decode cX5_undo 39 = .ok (.ireturn, 1) := dk_172 (dk_at dksX5_undo_1 15 rfl rfl)
abbrev cX5_save : ByteArray := prog_14_method_130_code
def yX5_save : MethodName := ⟨RX5, "save", "(I)V"⟩
def dkwX5_save_1 : List UInt8 := [27, 96, 182, 0, 155, 42, 180, 0, 13, 27, 4, 84, 177]
abbrev dktX5_save_1 : List UInt8 := dkwX5_save_1 ++ []
def dkwX5_save_0 : List UInt8 := [42, 3, 181, 0, 56, 42, 27, 3, 4, 184, 0, 165, 4, 182, 0, 161, 154, 0, 4, 177, 42, 3, 16, 7]
abbrev dktX5_save_0 : List UInt8 := dkwX5_save_0 ++ dktX5_save_1
theorem dksX5_save_0 : cX5_save.data.toList.drop 0 = dktX5_save_0 := by decide +kernel
theorem dksX5_save_1 : cX5_save.data.toList.drop 24 = dktX5_save_1 := dk_seg dksX5_save_0 24 rfl rfl
theorem dX5_save_0 : decode cX5_save 0 = .ok (.aload_n 0, 1) := dk_42 (dk_at dksX5_save_0 0 rfl rfl)
theorem dX5_save_1 : decode cX5_save 1 = .ok (.iconst 0, 1) := dk_3 (dk_at dksX5_save_0 1 rfl rfl)
theorem dX5_save_2 : decode cX5_save 2 = .ok (.putfield 56, 3) := dk_181 0 56 (dk_at dksX5_save_0 2 rfl rfl)
theorem dX5_save_5 : decode cX5_save 5 = .ok (.aload_n 0, 1) := dk_42 (dk_at dksX5_save_0 5 rfl rfl)
theorem dX5_save_6 : decode cX5_save 6 = .ok (.iload_n 1, 1) := dk_27 (dk_at dksX5_save_0 6 rfl rfl)
theorem dX5_save_7 : decode cX5_save 7 = .ok (.iconst 0, 1) := dk_3 (dk_at dksX5_save_0 7 rfl rfl)
theorem dX5_save_8 : decode cX5_save 8 = .ok (.iconst 1, 1) := dk_4 (dk_at dksX5_save_0 8 rfl rfl)
theorem dX5_save_9 : decode cX5_save 9 = .ok (.invokestatic 165, 3) := dk_184 0 165 (dk_at dksX5_save_0 9 rfl rfl)
theorem dX5_save_12 : decode cX5_save 12 = .ok (.iconst 1, 1) := dk_4 (dk_at dksX5_save_0 12 rfl rfl)
theorem dX5_save_13 : decode cX5_save 13 = .ok (.invokevirtual 161, 3) := dk_182 0 161 (dk_at dksX5_save_0 13 rfl rfl)
theorem dX5_save_16 : decode cX5_save 16 = .ok (.ifCond .ne 4, 3) := dk_154 0 4 (dk_at dksX5_save_0 16 rfl rfl)
theorem dX5_save_19 : decode cX5_save 19 = .ok (.return_, 1) := dk_177 (dk_at dksX5_save_0 19 rfl rfl)
theorem dX5_save_20 : decode cX5_save 20 = .ok (.aload_n 0, 1) := dk_42 (dk_at dksX5_save_0 20 rfl rfl)
theorem dX5_save_21 : decode cX5_save 21 = .ok (.iconst 0, 1) := dk_3 (dk_at dksX5_save_0 21 rfl rfl)
theorem dX5_save_22 : decode cX5_save 22 = .ok (.bipush 7, 2) := dk_16 7 (dk_at dksX5_save_0 22 rfl rfl)
theorem dX5_save_24 : decode cX5_save 24 = .ok (.iload_n 1, 1) := dk_27 (dk_at dksX5_save_1 0 rfl rfl)
theorem dX5_save_25 : decode cX5_save 25 = .ok (.iadd, 1) := dk_96 (dk_at dksX5_save_1 1 rfl rfl)
theorem dX5_save_26 : decode cX5_save 26 = .ok (.invokevirtual 155, 3) := dk_182 0 155 (dk_at dksX5_save_1 2 rfl rfl)
theorem dX5_save_29 : decode cX5_save 29 = .ok (.aload_n 0, 1) := dk_42 (dk_at dksX5_save_1 5 rfl rfl)
theorem dX5_save_30 : decode cX5_save 30 = .ok (.getfield 13, 3) := dk_180 0 13 (dk_at dksX5_save_1 6 rfl rfl)
theorem dX5_save_33 : decode cX5_save 33 = .ok (.iload_n 1, 1) := dk_27 (dk_at dksX5_save_1 9 rfl rfl)
theorem dX5_save_34 : decode cX5_save 34 = .ok (.iconst 1, 1) := dk_4 (dk_at dksX5_save_1 10 rfl rfl)
theorem dX5_save_35 : decode cX5_save 35 = .ok (.bastore, 1) := dk_84 (dk_at dksX5_save_1 11 rfl rfl)
theorem dX5_save_36 : decode cX5_save 36 = .ok (.return_, 1) := dk_177 (dk_at dksX5_save_1 12 rfl rfl)
abbrev cX5_restore : ByteArray := prog_14_method_131_code
def yX5_restore : MethodName := ⟨RX5, "restore", "(I)V"⟩
def dkwX5_restore_2 : List UInt8 := [181, 0, 234, 177]
abbrev dktX5_restore_2 : List UInt8 := dkwX5_restore_2 ++ []
def dkwX5_restore_1 : List UInt8 := [180, 0, 13, 27, 51, 5, 182, 0, 161, 154, 0, 4, 177, 42, 16, 7, 27, 96, 3, 182, 0, 155, 42, 3]
abbrev dktX5_restore_1 : List UInt8 := dkwX5_restore_1 ++ dktX5_restore_2
def dkwX5_restore_0 : List UInt8 := [42, 3, 181, 0, 56, 27, 3, 4, 184, 0, 165, 61, 42, 28, 4, 182, 0, 161, 153, 0, 17, 42, 42]
abbrev dktX5_restore_0 : List UInt8 := dkwX5_restore_0 ++ dktX5_restore_1
theorem dksX5_restore_0 : cX5_restore.data.toList.drop 0 = dktX5_restore_0 := by decide +kernel
theorem dksX5_restore_1 : cX5_restore.data.toList.drop 23 = dktX5_restore_1 := dk_seg dksX5_restore_0 23 rfl rfl
theorem dksX5_restore_2 : cX5_restore.data.toList.drop 47 = dktX5_restore_2 := dk_seg dksX5_restore_1 24 rfl rfl
theorem dX5_restore_0 : decode cX5_restore 0 = .ok (.aload_n 0, 1) := dk_42 (dk_at dksX5_restore_0 0 rfl rfl)
theorem dX5_restore_1 : decode cX5_restore 1 = .ok (.iconst 0, 1) := dk_3 (dk_at dksX5_restore_0 1 rfl rfl)
theorem dX5_restore_2 : decode cX5_restore 2 = .ok (.putfield 56, 3) := dk_181 0 56 (dk_at dksX5_restore_0 2 rfl rfl)
theorem dX5_restore_5 : decode cX5_restore 5 = .ok (.iload_n 1, 1) := dk_27 (dk_at dksX5_restore_0 5 rfl rfl)
theorem dX5_restore_6 : decode cX5_restore 6 = .ok (.iconst 0, 1) := dk_3 (dk_at dksX5_restore_0 6 rfl rfl)
theorem dX5_restore_7 : decode cX5_restore 7 = .ok (.iconst 1, 1) := dk_4 (dk_at dksX5_restore_0 7 rfl rfl)
theorem dX5_restore_8 : decode cX5_restore 8 = .ok (.invokestatic 165, 3) := dk_184 0 165 (dk_at dksX5_restore_0 8 rfl rfl)
theorem dX5_restore_11 : decode cX5_restore 11 = .ok (.istore_n 2, 1) := dk_61 (dk_at dksX5_restore_0 11 rfl rfl)
theorem dX5_restore_12 : decode cX5_restore 12 = .ok (.aload_n 0, 1) := dk_42 (dk_at dksX5_restore_0 12 rfl rfl)
theorem dX5_restore_13 : decode cX5_restore 13 = .ok (.iload_n 2, 1) := dk_28 (dk_at dksX5_restore_0 13 rfl rfl)
theorem dX5_restore_14 : decode cX5_restore 14 = .ok (.iconst 1, 1) := dk_4 (dk_at dksX5_restore_0 14 rfl rfl)
theorem dX5_restore_15 : decode cX5_restore 15 = .ok (.invokevirtual 161, 3) := dk_182 0 161 (dk_at dksX5_restore_0 15 rfl rfl)
theorem dX5_restore_18 : decode cX5_restore 18 = .ok (.ifCond .eq 17, 3) := dk_153 0 17 (dk_at dksX5_restore_0 18 rfl rfl)
theorem dX5_restore_21 : decode cX5_restore 21 = .ok (.aload_n 0, 1) := dk_42 (dk_at dksX5_restore_0 21 rfl rfl)
theorem dX5_restore_22 : decode cX5_restore 22 = .ok (.aload_n 0, 1) := dk_42 (dk_at dksX5_restore_0 22 rfl rfl)
theorem dX5_restore_23 : decode cX5_restore 23 = .ok (.getfield 13, 3) := dk_180 0 13 (dk_at dksX5_restore_1 0 rfl rfl)
theorem dX5_restore_26 : decode cX5_restore 26 = .ok (.iload_n 1, 1) := dk_27 (dk_at dksX5_restore_1 3 rfl rfl)
theorem dX5_restore_27 : decode cX5_restore 27 = .ok (.baload, 1) := dk_51 (dk_at dksX5_restore_1 4 rfl rfl)
theorem dX5_restore_28 : decode cX5_restore 28 = .ok (.iconst 2, 1) := dk_5 (dk_at dksX5_restore_1 5 rfl rfl)
theorem dX5_restore_29 : decode cX5_restore 29 = .ok (.invokevirtual 161, 3) := dk_182 0 161 (dk_at dksX5_restore_1 6 rfl rfl)
theorem dX5_restore_32 : decode cX5_restore 32 = .ok (.ifCond .ne 4, 3) := dk_154 0 4 (dk_at dksX5_restore_1 9 rfl rfl)
theorem dX5_restore_35 : decode cX5_restore 35 = .ok (.return_, 1) := dk_177 (dk_at dksX5_restore_1 12 rfl rfl)
theorem dX5_restore_36 : decode cX5_restore 36 = .ok (.aload_n 0, 1) := dk_42 (dk_at dksX5_restore_1 13 rfl rfl)
theorem dX5_restore_37 : decode cX5_restore 37 = .ok (.bipush 7, 2) := dk_16 7 (dk_at dksX5_restore_1 14 rfl rfl)
theorem dX5_restore_39 : decode cX5_restore 39 = .ok (.iload_n 1, 1) := dk_27 (dk_at dksX5_restore_1 16 rfl rfl)
theorem dX5_restore_40 : decode cX5_restore 40 = .ok (.iadd, 1) := dk_96 (dk_at dksX5_restore_1 17 rfl rfl)
theorem dX5_restore_41 : decode cX5_restore 41 = .ok (.iconst 0, 1) := dk_3 (dk_at dksX5_restore_1 18 rfl rfl)
theorem dX5_restore_42 : decode cX5_restore 42 = .ok (.invokevirtual 155, 3) := dk_182 0 155 (dk_at dksX5_restore_1 19 rfl rfl)
theorem dX5_restore_45 : decode cX5_restore 45 = .ok (.aload_n 0, 1) := dk_42 (dk_at dksX5_restore_1 22 rfl rfl)
theorem dX5_restore_46 : decode cX5_restore 46 = .ok (.iconst 0, 1) := dk_3 (dk_at dksX5_restore_1 23 rfl rfl)
theorem dX5_restore_47 : decode cX5_restore 47 = .ok (.putfield 234, 3) := dk_181 0 234 (dk_at dksX5_restore_2 0 rfl rfl)
theorem dX5_restore_50 : decode cX5_restore 50 = .ok (.return_, 1) := dk_177 (dk_at dksX5_restore_2 3 rfl rfl)
theorem q121 : (Jvm.Cond.initialized "TongueProofsModel") ∈ lw_all := lw_g (lw_at lw_m1 11 rfl) rfl
theorem q1063 : (Jvm.Cond.selects "TongueProofsModel" ({ cls := "java/lang/Object", name := "getClass", desc := "()Ljava/lang/Class;" } : Jvm.MethodName) ({ cls := "java/lang/Object", name := "getClass", desc := "()Ljava/lang/Class;" } : Jvm.MethodName)) ∈ lw_all := lw_g (lw_at lw_m4 233 rfl) rfl
theorem q2067 : (Jvm.Cond.instantiable "TongueProofsModel" (21 : Nat)) ∈ lw_all := lw_g (lw_at lw_m9 37 rfl) rfl
theorem q2069 : (Jvm.Cond.instanceMethod ({ cls := "TongueProofsModel", name := "<init>", desc := "()V" } : Jvm.MethodName)) ∈ lw_all := lw_g (lw_at lw_m9 39 rfl) rfl
theorem q2070 : (Jvm.Cond.code ({ cls := "TongueProofsModel", name := "<init>", desc := "()V" } : Jvm.MethodName) prog_14_method_1_code (1 : Nat) (Option.none : Option Jvm.ClassFile.FieldType)) ∈ lw_all := lw_g (lw_at lw_m9 40 rfl) rfl
theorem q2071 : (Jvm.Cond.methodLink "TongueProofsModel" (1 : Nat) ({ cls := "java/lang/Object", name := "<init>", desc := "()V" } : Jvm.MethodName)) ∈ lw_all := lw_g (lw_at lw_m9 41 rfl) rfl
theorem q2072 : (Jvm.Cond.methodLink "TongueProofsModel" (42 : Nat) ({ cls := "TongueProofsModel", name := "lay", desc := "(II)V" } : Jvm.MethodName)) ∈ lw_all := lw_g (lw_at lw_m9 42 rfl) rfl
theorem q2073 : (Jvm.Cond.privateMethod ({ cls := "TongueProofsModel", name := "lay", desc := "(II)V" } : Jvm.MethodName)) ∈ lw_tbl := lw_at lw_m9 43 rfl
theorem q2074 : (Jvm.Cond.instanceMethod ({ cls := "TongueProofsModel", name := "lay", desc := "(II)V" } : Jvm.MethodName)) ∈ lw_all := lw_g (lw_at lw_m9 44 rfl) rfl
theorem q2075 : (Jvm.Cond.code ({ cls := "TongueProofsModel", name := "lay", desc := "(II)V" } : Jvm.MethodName) prog_14_method_4_code (3 : Nat) (Option.none : Option Jvm.ClassFile.FieldType)) ∈ lw_all := lw_g (lw_at lw_m9 45 rfl) rfl
theorem q2076 : (Jvm.Cond.methodLink "TongueProofsModel" (46 : Nat) ({ cls := "TongueProofsModel", name := "opens", desc := "()V" } : Jvm.MethodName)) ∈ lw_all := lw_g (lw_at lw_m9 46 rfl) rfl
theorem q2077 : (Jvm.Cond.privateMethod ({ cls := "TongueProofsModel", name := "opens", desc := "()V" } : Jvm.MethodName)) ∈ lw_tbl := lw_at lw_m9 47 rfl
theorem q2078 : (Jvm.Cond.instanceMethod ({ cls := "TongueProofsModel", name := "opens", desc := "()V" } : Jvm.MethodName)) ∈ lw_all := lw_g (lw_at lw_m9 48 rfl) rfl
theorem q2079 : (Jvm.Cond.code ({ cls := "TongueProofsModel", name := "opens", desc := "()V" } : Jvm.MethodName) prog_14_method_18_code (2 : Nat) (Option.none : Option Jvm.ClassFile.FieldType)) ∈ lw_all := lw_g (lw_at lw_m9 49 rfl) rfl
theorem q2080 : (Jvm.Cond.methodLink "TongueProofsModel" (49 : Nat) ({ cls := "TongueProofsModel", name := "newHeap", desc := "(I)V" } : Jvm.MethodName)) ∈ lw_all := lw_g (lw_at lw_m9 50 rfl) rfl
theorem q2081 : (Jvm.Cond.privateMethod ({ cls := "TongueProofsModel", name := "newHeap", desc := "(I)V" } : Jvm.MethodName)) ∈ lw_tbl := lw_at lw_m9 51 rfl
theorem q2082 : (Jvm.Cond.instanceMethod ({ cls := "TongueProofsModel", name := "newHeap", desc := "(I)V" } : Jvm.MethodName)) ∈ lw_all := lw_g (lw_at lw_m9 52 rfl) rfl
theorem q2083 : (Jvm.Cond.code ({ cls := "TongueProofsModel", name := "newHeap", desc := "(I)V" } : Jvm.MethodName) prog_14_method_19_code (2 : Nat) (Option.none : Option Jvm.ClassFile.FieldType)) ∈ lw_all := lw_g (lw_at lw_m9 53 rfl) rfl
theorem q2084 : (Jvm.Cond.methodLink "TongueProofsModel" (65 : Nat) ({ cls := "TongueProofsModel", name := "get", desc := "(I)I" } : Jvm.MethodName)) ∈ lw_all := lw_g (lw_at lw_m9 54 rfl) rfl
theorem q2085 : (Jvm.Cond.privateMethod ({ cls := "TongueProofsModel", name := "get", desc := "(I)I" } : Jvm.MethodName)) ∈ lw_tbl := lw_at lw_m9 55 rfl
theorem q2086 : (Jvm.Cond.instanceMethod ({ cls := "TongueProofsModel", name := "get", desc := "(I)I" } : Jvm.MethodName)) ∈ lw_all := lw_g (lw_at lw_m9 56 rfl) rfl
theorem q2087 : (Jvm.Cond.code ({ cls := "TongueProofsModel", name := "get", desc := "(I)I" } : Jvm.MethodName) prog_14_method_3_code (2 : Nat) (Option.some Jvm.ClassFile.FieldType.int)) ∈ lw_all := lw_g (lw_at lw_m9 57 rfl) rfl
theorem q2088 : (Jvm.Cond.methodLink "TongueProofsModel" (76 : Nat) ({ cls := "TongueProofsModel", name := "layHeap", desc := "(III)V" } : Jvm.MethodName)) ∈ lw_all := lw_g (lw_at lw_m9 58 rfl) rfl
theorem q2089 : (Jvm.Cond.privateMethod ({ cls := "TongueProofsModel", name := "layHeap", desc := "(III)V" } : Jvm.MethodName)) ∈ lw_tbl := lw_at lw_m9 59 rfl
theorem q2090 : (Jvm.Cond.instanceMethod ({ cls := "TongueProofsModel", name := "layHeap", desc := "(III)V" } : Jvm.MethodName)) ∈ lw_all := lw_g (lw_at lw_m9 60 rfl) rfl
theorem q2091 : (Jvm.Cond.code ({ cls := "TongueProofsModel", name := "layHeap", desc := "(III)V" } : Jvm.MethodName) prog_14_method_12_code (4 : Nat) (Option.none : Option Jvm.ClassFile.FieldType)) ∈ lw_all := lw_g (lw_at lw_m9 61 rfl) rfl
theorem q2092 : (Jvm.Cond.methodLink "TongueProofsModel" (62 : Nat) ({ cls := "TongueProofsModel", name := "adds", desc := "(II)V" } : Jvm.MethodName)) ∈ lw_all := lw_g (lw_at lw_m9 62 rfl) rfl
theorem q2093 : (Jvm.Cond.privateMethod ({ cls := "TongueProofsModel", name := "adds", desc := "(II)V" } : Jvm.MethodName)) ∈ lw_tbl := lw_at lw_m9 63 rfl
theorem q2094 : (Jvm.Cond.instanceMethod ({ cls := "TongueProofsModel", name := "adds", desc := "(II)V" } : Jvm.MethodName)) ∈ lw_all := lw_g (lw_at lw_m9 64 rfl) rfl
theorem q2095 : (Jvm.Cond.code ({ cls := "TongueProofsModel", name := "adds", desc := "(II)V" } : Jvm.MethodName) prog_14_method_5_code (3 : Nat) (Option.none : Option Jvm.ClassFile.FieldType)) ∈ lw_all := lw_g (lw_at lw_m9 65 rfl) rfl
theorem q2096 : (Jvm.Cond.methodLink "TongueProofsModel" (53 : Nat) ({ cls := "TongueProofsModel", name := "newRow", desc := "(I)V" } : Jvm.MethodName)) ∈ lw_all := lw_g (lw_at lw_m9 66 rfl) rfl
theorem q2097 : (Jvm.Cond.privateMethod ({ cls := "TongueProofsModel", name := "newRow", desc := "(I)V" } : Jvm.MethodName)) ∈ lw_tbl := lw_at lw_m9 67 rfl
theorem q2098 : (Jvm.Cond.instanceMethod ({ cls := "TongueProofsModel", name := "newRow", desc := "(I)V" } : Jvm.MethodName)) ∈ lw_all := lw_g (lw_at lw_m9 68 rfl) rfl
theorem q2099 : (Jvm.Cond.code ({ cls := "TongueProofsModel", name := "newRow", desc := "(I)V" } : Jvm.MethodName) prog_14_method_20_code (3 : Nat) (Option.none : Option Jvm.ClassFile.FieldType)) ∈ lw_all := lw_g (lw_at lw_m9 69 rfl) rfl
theorem q2100 : (Jvm.Cond.methodLink "TongueProofsModel" (69 : Nat) ({ cls := "TongueProofsModel", name := "hp", desc := "(II)I" } : Jvm.MethodName)) ∈ lw_all := lw_g (lw_at lw_m9 70 rfl) rfl
theorem q2101 : (Jvm.Cond.privateMethod ({ cls := "TongueProofsModel", name := "hp", desc := "(II)I" } : Jvm.MethodName)) ∈ lw_tbl := lw_at lw_m9 71 rfl
theorem q2102 : (Jvm.Cond.instanceMethod ({ cls := "TongueProofsModel", name := "hp", desc := "(II)I" } : Jvm.MethodName)) ∈ lw_all := lw_g (lw_at lw_m9 72 rfl) rfl
theorem q2103 : (Jvm.Cond.code ({ cls := "TongueProofsModel", name := "hp", desc := "(II)I" } : Jvm.MethodName) prog_14_method_11_code (3 : Nat) (Option.some Jvm.ClassFile.FieldType.int)) ∈ lw_all := lw_g (lw_at lw_m9 73 rfl) rfl
theorem q2104 : (Jvm.Cond.fieldLink "TongueProofsModel" (7 : Nat) "TongueProofsModel" "s" "[I") ∈ lw_all := lw_g (lw_at lw_m9 74 rfl) rfl
theorem q2105 : (Jvm.Cond.fieldLink "TongueProofsModel" (13 : Nat) "TongueProofsModel" "isSaved" "[Z") ∈ lw_all := lw_g (lw_at lw_m9 75 rfl) rfl
theorem q2106 : (Jvm.Cond.fieldLink "TongueProofsModel" (17 : Nat) "TongueProofsModel" "refused" "[I") ∈ lw_all := lw_g (lw_at lw_m9 76 rfl) rfl
theorem q2107 : (Jvm.Cond.fieldLink "TongueProofsModel" (59 : Nat) "TongueProofsModel" "o" "I") ∈ lw_all := lw_g (lw_at lw_m9 77 rfl) rfl
theorem q2108 : (Jvm.Cond.fieldLink "TongueProofsModel" (234 : Nat) "TongueProofsModel" "undos" "I") ∈ lw_all := lw_g (lw_at lw_m9 78 rfl) rfl
theorem q2109 : (Jvm.Cond.fieldLink "TongueProofsModel" (56 : Nat) "TongueProofsModel" "thrown" "I") ∈ lw_all := lw_g (lw_at lw_m9 79 rfl) rfl
theorem q2110 : (Jvm.Cond.fieldLink "TongueProofsModel" (20 : Nat) "TongueProofsModel" "far" "[I") ∈ lw_all := lw_g (lw_at lw_m9 80 rfl) rfl
theorem q2111 : (Jvm.Cond.fieldLink "TongueProofsModel" (23 : Nat) "TongueProofsModel" "isStrict" "[Z") ∈ lw_all := lw_g (lw_at lw_m9 81 rfl) rfl
theorem q2112 : (Jvm.Cond.fieldLink "TongueProofsModel" (26 : Nat) "TongueProofsModel" "text" "[I") ∈ lw_all := lw_g (lw_at lw_m9 82 rfl) rfl
theorem q2113 : (Jvm.Cond.fieldLink "TongueProofsModel" (158 : Nat) "TongueProofsModel" "length" "I") ∈ lw_all := lw_g (lw_at lw_m9 83 rfl) rfl
theorem q2114 : (Jvm.Cond.fieldLink "TongueProofsModel" (186 : Nat) "TongueProofsModel" "code" "I") ∈ lw_all := lw_g (lw_at lw_m9 84 rfl) rfl
theorem q2115 : (Jvm.Cond.fieldLink "TongueProofsModel" (29 : Nat) "TongueProofsModel" "position" "I") ∈ lw_all := lw_g (lw_at lw_m9 85 rfl) rfl
theorem q2116 : (Jvm.Cond.fieldLink "TongueProofsModel" (169 : Nat) "TongueProofsModel" "at" "I") ∈ lw_all := lw_g (lw_at lw_m9 86 rfl) rfl
theorem q2117 : (Jvm.Cond.fieldLink "TongueProofsModel" (176 : Nat) "TongueProofsModel" "begin" "I") ∈ lw_all := lw_g (lw_at lw_m9 87 rfl) rfl
theorem q2118 : (Jvm.Cond.fieldLink "TongueProofsModel" (179 : Nat) "TongueProofsModel" "token" "I") ∈ lw_all := lw_g (lw_at lw_m9 88 rfl) rfl
theorem q2119 : (Jvm.Cond.fieldLink "TongueProofsModel" (182 : Nat) "TongueProofsModel" "number" "I") ∈ lw_all := lw_g (lw_at lw_m9 89 rfl) rfl
theorem q2120 : (Jvm.Cond.fieldLink "TongueProofsModel" (33 : Nat) "TongueProofsModel" "command" "[I") ∈ lw_all := lw_g (lw_at lw_m9 90 rfl) rfl
theorem q2121 : (Jvm.Cond.fieldLink "TongueProofsModel" (265 : Nat) "TongueProofsModel" "commands" "I") ∈ lw_all := lw_g (lw_at lw_m9 91 rfl) rfl
theorem q2122 : (Jvm.Cond.fieldLink "TongueProofsModel" (36 : Nat) "TongueProofsModel" "rowFrom" "[I") ∈ lw_all := lw_g (lw_at lw_m9 92 rfl) rfl
theorem q2123 : (Jvm.Cond.fieldLink "TongueProofsModel" (39 : Nat) "TongueProofsModel" "out" "[I") ∈ lw_all := lw_g (lw_at lw_m9 93 rfl) rfl
theorem q2124 : (Jvm.Cond.fieldLink "TongueProofsModel" (388 : Nat) "TongueProofsModel" "written" "I") ∈ lw_all := lw_g (lw_at lw_m9 94 rfl) rfl
theorem q2125 : (Jvm.Cond.laysFinal "TongueProofsModel" "TongueProofsModel" "s" "[I") ∈ lw_all := lw_g (lw_at lw_m9 95 rfl) rfl
theorem q2126 : (Jvm.Cond.soleField "TongueProofsModel" "s") ∈ lw_all := lw_g (lw_at lw_m9 96 rfl) rfl
theorem q2127 : (Jvm.Cond.laysFinal "TongueProofsModel" "TongueProofsModel" "isSaved" "[Z") ∈ lw_all := lw_g (lw_at lw_m9 97 rfl) rfl
theorem q2128 : (Jvm.Cond.soleField "TongueProofsModel" "isSaved") ∈ lw_all := lw_g (lw_at lw_m9 98 rfl) rfl
theorem q2129 : (Jvm.Cond.laysFinal "TongueProofsModel" "TongueProofsModel" "refused" "[I") ∈ lw_all := lw_g (lw_at lw_m9 99 rfl) rfl
theorem q2130 : (Jvm.Cond.soleField "TongueProofsModel" "refused") ∈ lw_all := lw_g (lw_at lw_m9 100 rfl) rfl
theorem q2131 : (Jvm.Cond.lays "TongueProofsModel" "TongueProofsModel" "o" "I") ∈ lw_all := lw_g (lw_at lw_m9 101 rfl) rfl
theorem q2132 : (Jvm.Cond.soleField "TongueProofsModel" "o") ∈ lw_all := lw_g (lw_at lw_m9 102 rfl) rfl
theorem q2133 : (Jvm.Cond.lays "TongueProofsModel" "TongueProofsModel" "undos" "I") ∈ lw_all := lw_g (lw_at lw_m9 103 rfl) rfl
theorem q2134 : (Jvm.Cond.soleField "TongueProofsModel" "undos") ∈ lw_all := lw_g (lw_at lw_m9 104 rfl) rfl
theorem q2135 : (Jvm.Cond.lays "TongueProofsModel" "TongueProofsModel" "thrown" "I") ∈ lw_all := lw_g (lw_at lw_m9 105 rfl) rfl
theorem q2136 : (Jvm.Cond.soleField "TongueProofsModel" "thrown") ∈ lw_all := lw_g (lw_at lw_m9 106 rfl) rfl
theorem q2137 : (Jvm.Cond.laysFinal "TongueProofsModel" "TongueProofsModel" "far" "[I") ∈ lw_all := lw_g (lw_at lw_m9 107 rfl) rfl
theorem q2138 : (Jvm.Cond.soleField "TongueProofsModel" "far") ∈ lw_all := lw_g (lw_at lw_m9 108 rfl) rfl
theorem q2139 : (Jvm.Cond.laysFinal "TongueProofsModel" "TongueProofsModel" "isStrict" "[Z") ∈ lw_all := lw_g (lw_at lw_m9 109 rfl) rfl
theorem q2140 : (Jvm.Cond.soleField "TongueProofsModel" "isStrict") ∈ lw_all := lw_g (lw_at lw_m9 110 rfl) rfl
theorem q2141 : (Jvm.Cond.laysFinal "TongueProofsModel" "TongueProofsModel" "text" "[I") ∈ lw_all := lw_g (lw_at lw_m9 111 rfl) rfl
theorem q2142 : (Jvm.Cond.soleField "TongueProofsModel" "text") ∈ lw_all := lw_g (lw_at lw_m9 112 rfl) rfl
theorem q2143 : (Jvm.Cond.lays "TongueProofsModel" "TongueProofsModel" "length" "I") ∈ lw_all := lw_g (lw_at lw_m9 113 rfl) rfl
theorem q2144 : (Jvm.Cond.soleField "TongueProofsModel" "length") ∈ lw_all := lw_g (lw_at lw_m9 114 rfl) rfl
theorem q2145 : (Jvm.Cond.lays "TongueProofsModel" "TongueProofsModel" "code" "I") ∈ lw_all := lw_g (lw_at lw_m9 115 rfl) rfl
theorem q2146 : (Jvm.Cond.soleField "TongueProofsModel" "code") ∈ lw_all := lw_g (lw_at lw_m9 116 rfl) rfl
theorem q2147 : (Jvm.Cond.lays "TongueProofsModel" "TongueProofsModel" "position" "I") ∈ lw_all := lw_g (lw_at lw_m9 117 rfl) rfl
theorem q2148 : (Jvm.Cond.soleField "TongueProofsModel" "position") ∈ lw_all := lw_g (lw_at lw_m9 118 rfl) rfl
theorem q2149 : (Jvm.Cond.lays "TongueProofsModel" "TongueProofsModel" "at" "I") ∈ lw_all := lw_g (lw_at lw_m9 119 rfl) rfl
theorem q2150 : (Jvm.Cond.soleField "TongueProofsModel" "at") ∈ lw_all := lw_g (lw_at lw_m9 120 rfl) rfl
theorem q2151 : (Jvm.Cond.lays "TongueProofsModel" "TongueProofsModel" "begin" "I") ∈ lw_all := lw_g (lw_at lw_m9 121 rfl) rfl
theorem q2152 : (Jvm.Cond.soleField "TongueProofsModel" "begin") ∈ lw_all := lw_g (lw_at lw_m9 122 rfl) rfl
theorem q2153 : (Jvm.Cond.lays "TongueProofsModel" "TongueProofsModel" "token" "I") ∈ lw_all := lw_g (lw_at lw_m9 123 rfl) rfl
theorem q2154 : (Jvm.Cond.soleField "TongueProofsModel" "token") ∈ lw_all := lw_g (lw_at lw_m9 124 rfl) rfl
theorem q2155 : (Jvm.Cond.lays "TongueProofsModel" "TongueProofsModel" "number" "I") ∈ lw_all := lw_g (lw_at lw_m9 125 rfl) rfl
theorem q2156 : (Jvm.Cond.soleField "TongueProofsModel" "number") ∈ lw_all := lw_g (lw_at lw_m9 126 rfl) rfl
theorem q2157 : (Jvm.Cond.laysFinal "TongueProofsModel" "TongueProofsModel" "command" "[I") ∈ lw_all := lw_g (lw_at lw_m9 127 rfl) rfl
theorem q2158 : (Jvm.Cond.soleField "TongueProofsModel" "command") ∈ lw_all := lw_g (lw_at lw_m9 128 rfl) rfl
theorem q2159 : (Jvm.Cond.lays "TongueProofsModel" "TongueProofsModel" "commands" "I") ∈ lw_all := lw_g (lw_at lw_m9 129 rfl) rfl
theorem q2160 : (Jvm.Cond.soleField "TongueProofsModel" "commands") ∈ lw_all := lw_g (lw_at lw_m9 130 rfl) rfl
theorem q2161 : (Jvm.Cond.laysFinal "TongueProofsModel" "TongueProofsModel" "rowFrom" "[I") ∈ lw_all := lw_g (lw_at lw_m9 131 rfl) rfl
theorem q2162 : (Jvm.Cond.soleField "TongueProofsModel" "rowFrom") ∈ lw_all := lw_g (lw_at lw_m9 132 rfl) rfl
theorem q2163 : (Jvm.Cond.laysFinal "TongueProofsModel" "TongueProofsModel" "out" "[I") ∈ lw_all := lw_g (lw_at lw_m9 133 rfl) rfl
theorem q2164 : (Jvm.Cond.soleField "TongueProofsModel" "out") ∈ lw_all := lw_g (lw_at lw_m9 134 rfl) rfl
theorem q2165 : (Jvm.Cond.lays "TongueProofsModel" "TongueProofsModel" "written" "I") ∈ lw_all := lw_g (lw_at lw_m9 135 rfl) rfl
theorem q2166 : (Jvm.Cond.soleField "TongueProofsModel" "written") ∈ lw_all := lw_g (lw_at lw_m9 136 rfl) rfl
theorem q2167 : (Jvm.Cond.superclass "TongueProofsModel" "java/lang/Object") ∈ lw_all := lw_g (lw_at lw_m9 137 rfl) rfl
theorem q2170 : (Jvm.Cond.instanceMethod ({ cls := "TongueProofsModel", name := "thrown", desc := "()I" } : Jvm.MethodName)) ∈ lw_all := lw_g (lw_at lw_m9 140 rfl) rfl
theorem q2171 : (Jvm.Cond.selects "TongueProofsModel" ({ cls := "TongueProofsModel", name := "thrown", desc := "()I" } : Jvm.MethodName) ({ cls := "TongueProofsModel", name := "thrown", desc := "()I" } : Jvm.MethodName)) ∈ lw_all := lw_g (lw_at lw_m9 141 rfl) rfl
theorem q2172 : (Jvm.Cond.code ({ cls := "TongueProofsModel", name := "thrown", desc := "()I" } : Jvm.MethodName) prog_14_method_2_code (1 : Nat) (Option.some Jvm.ClassFile.FieldType.int)) ∈ lw_all := lw_g (lw_at lw_m9 142 rfl) rfl
theorem q2174 : (Jvm.Cond.instanceMethod ({ cls := "TongueProofsModel", name := "appendText", desc := "(I)I" } : Jvm.MethodName)) ∈ lw_all := lw_g (lw_at lw_m9 144 rfl) rfl
theorem q2175 : (Jvm.Cond.selects "TongueProofsModel" ({ cls := "TongueProofsModel", name := "appendText", desc := "(I)I" } : Jvm.MethodName) ({ cls := "TongueProofsModel", name := "appendText", desc := "(I)I" } : Jvm.MethodName)) ∈ lw_all := lw_g (lw_at lw_m9 145 rfl) rfl
theorem q2176 : (Jvm.Cond.code ({ cls := "TongueProofsModel", name := "appendText", desc := "(I)I" } : Jvm.MethodName) prog_14_method_51_code (3 : Nat) (Option.some Jvm.ClassFile.FieldType.int)) ∈ lw_all := lw_g (lw_at lw_m9 146 rfl) rfl
theorem q2177 : (Jvm.Cond.methodLink "TongueProofsModel" (161 : Nat) ({ cls := "TongueProofsModel", name := "holds", desc := "(ZI)Z" } : Jvm.MethodName)) ∈ lw_all := lw_g (lw_at lw_m9 147 rfl) rfl
theorem q2178 : (Jvm.Cond.privateMethod ({ cls := "TongueProofsModel", name := "holds", desc := "(ZI)Z" } : Jvm.MethodName)) ∈ lw_tbl := lw_at lw_m9 148 rfl
theorem q2179 : (Jvm.Cond.instanceMethod ({ cls := "TongueProofsModel", name := "holds", desc := "(ZI)Z" } : Jvm.MethodName)) ∈ lw_all := lw_g (lw_at lw_m9 149 rfl) rfl
theorem q2180 : (Jvm.Cond.code ({ cls := "TongueProofsModel", name := "holds", desc := "(ZI)Z" } : Jvm.MethodName) prog_14_method_10_code (3 : Nat) (Option.some Jvm.ClassFile.FieldType.boolean)) ∈ lw_all := lw_g (lw_at lw_m9 150 rfl) rfl
theorem q2182 : (Jvm.Cond.instanceMethod ({ cls := "TongueProofsModel", name := "truncateText", desc := "(I)I" } : Jvm.MethodName)) ∈ lw_all := lw_g (lw_at lw_m9 152 rfl) rfl
theorem q2183 : (Jvm.Cond.selects "TongueProofsModel" ({ cls := "TongueProofsModel", name := "truncateText", desc := "(I)I" } : Jvm.MethodName) ({ cls := "TongueProofsModel", name := "truncateText", desc := "(I)I" } : Jvm.MethodName)) ∈ lw_all := lw_g (lw_at lw_m9 153 rfl) rfl
theorem q2184 : (Jvm.Cond.code ({ cls := "TongueProofsModel", name := "truncateText", desc := "(I)I" } : Jvm.MethodName) prog_14_method_52_code (2 : Nat) (Option.some Jvm.ClassFile.FieldType.int)) ∈ lw_all := lw_g (lw_at lw_m9 154 rfl) rfl
theorem q2185 : (Jvm.Cond.methodLink "TongueProofsModel" (165 : Nat) ({ cls := "TongueProofsModel", name := "in", desc := "(III)Z" } : Jvm.MethodName)) ∈ lw_all := lw_g (lw_at lw_m9 155 rfl) rfl
theorem q2186 : (Jvm.Cond.static ({ cls := "TongueProofsModel", name := "in", desc := "(III)Z" } : Jvm.MethodName)) ∈ lw_all := lw_g (lw_at lw_m9 156 rfl) rfl
theorem q2187 : (Jvm.Cond.code ({ cls := "TongueProofsModel", name := "in", desc := "(III)Z" } : Jvm.MethodName) prog_14_method_8_code (3 : Nat) (Option.some Jvm.ClassFile.FieldType.boolean)) ∈ lw_all := lw_g (lw_at lw_m9 157 rfl) rfl
theorem q2189 : (Jvm.Cond.instanceMethod ({ cls := "TongueProofsModel", name := "load", desc := "()I" } : Jvm.MethodName)) ∈ lw_all := lw_g (lw_at lw_m9 159 rfl) rfl
theorem q2190 : (Jvm.Cond.selects "TongueProofsModel" ({ cls := "TongueProofsModel", name := "load", desc := "()I" } : Jvm.MethodName) ({ cls := "TongueProofsModel", name := "load", desc := "()I" } : Jvm.MethodName)) ∈ lw_all := lw_g (lw_at lw_m9 160 rfl) rfl
theorem q2191 : (Jvm.Cond.code ({ cls := "TongueProofsModel", name := "load", desc := "()I" } : Jvm.MethodName) prog_14_method_64_code (2 : Nat) (Option.some Jvm.ClassFile.FieldType.int)) ∈ lw_all := lw_g (lw_at lw_m9 161 rfl) rfl
theorem q2192 : (Jvm.Cond.methodLink "TongueProofsModel" (222 : Nat) ({ cls := "TongueProofsModel", name := "starts", desc := "()V" } : Jvm.MethodName)) ∈ lw_all := lw_g (lw_at lw_m9 162 rfl) rfl
theorem q2193 : (Jvm.Cond.privateMethod ({ cls := "TongueProofsModel", name := "starts", desc := "()V" } : Jvm.MethodName)) ∈ lw_tbl := lw_at lw_m9 163 rfl
theorem q2194 : (Jvm.Cond.instanceMethod ({ cls := "TongueProofsModel", name := "starts", desc := "()V" } : Jvm.MethodName)) ∈ lw_all := lw_g (lw_at lw_m9 164 rfl) rfl
theorem q2195 : (Jvm.Cond.code ({ cls := "TongueProofsModel", name := "starts", desc := "()V" } : Jvm.MethodName) prog_14_method_62_code (1 : Nat) (Option.none : Option Jvm.ClassFile.FieldType)) ∈ lw_all := lw_g (lw_at lw_m9 165 rfl) rfl
theorem q2196 : (Jvm.Cond.methodLink "TongueProofsModel" (198 : Nat) ({ cls := "TongueProofsModel", name := "next", desc := "()V" } : Jvm.MethodName)) ∈ lw_all := lw_g (lw_at lw_m9 166 rfl) rfl
theorem q2197 : (Jvm.Cond.privateMethod ({ cls := "TongueProofsModel", name := "next", desc := "()V" } : Jvm.MethodName)) ∈ lw_tbl := lw_at lw_m9 167 rfl
theorem q2198 : (Jvm.Cond.instanceMethod ({ cls := "TongueProofsModel", name := "next", desc := "()V" } : Jvm.MethodName)) ∈ lw_all := lw_g (lw_at lw_m9 168 rfl) rfl
theorem q2199 : (Jvm.Cond.code ({ cls := "TongueProofsModel", name := "next", desc := "()V" } : Jvm.MethodName) prog_14_method_54_code (1 : Nat) (Option.none : Option Jvm.ClassFile.FieldType)) ∈ lw_all := lw_g (lw_at lw_m9 169 rfl) rfl
theorem q2200 : (Jvm.Cond.methodLink "TongueProofsModel" (172 : Nat) ({ cls := "TongueProofsModel", name := "isByte", desc := "(II)Z" } : Jvm.MethodName)) ∈ lw_all := lw_g (lw_at lw_m9 170 rfl) rfl
theorem q2201 : (Jvm.Cond.privateMethod ({ cls := "TongueProofsModel", name := "isByte", desc := "(II)Z" } : Jvm.MethodName)) ∈ lw_tbl := lw_at lw_m9 171 rfl
theorem q2202 : (Jvm.Cond.instanceMethod ({ cls := "TongueProofsModel", name := "isByte", desc := "(II)Z" } : Jvm.MethodName)) ∈ lw_all := lw_g (lw_at lw_m9 172 rfl) rfl
theorem q2203 : (Jvm.Cond.code ({ cls := "TongueProofsModel", name := "isByte", desc := "(II)Z" } : Jvm.MethodName) prog_14_method_53_code (3 : Nat) (Option.some Jvm.ClassFile.FieldType.boolean)) ∈ lw_all := lw_g (lw_at lw_m9 173 rfl) rfl
theorem q2204 : (Jvm.Cond.constant "TongueProofsModel" (185 : Nat) (999999 : Int32)) ∈ lw_all := lw_g (lw_at lw_m9 174 rfl) rfl
theorem q2205 : (Jvm.Cond.stringRef "TongueProofsModel" (225 : Nat) "tongue") ∈ lw_tbl := lw_at lw_m9 175 rfl
theorem q2206 : (Jvm.Cond.methodLink "TongueProofsModel" (227 : Nat) ({ cls := "TongueProofsModel", name := "mustWord", desc := "(Ljava/lang/String;)V" } : Jvm.MethodName)) ∈ lw_all := lw_g (lw_at lw_m9 176 rfl) rfl
theorem q2207 : (Jvm.Cond.privateMethod ({ cls := "TongueProofsModel", name := "mustWord", desc := "(Ljava/lang/String;)V" } : Jvm.MethodName)) ∈ lw_tbl := lw_at lw_m9 177 rfl
theorem q2208 : (Jvm.Cond.instanceMethod ({ cls := "TongueProofsModel", name := "mustWord", desc := "(Ljava/lang/String;)V" } : Jvm.MethodName)) ∈ lw_all := lw_g (lw_at lw_m9 178 rfl) rfl
theorem q2209 : (Jvm.Cond.code ({ cls := "TongueProofsModel", name := "mustWord", desc := "(Ljava/lang/String;)V" } : Jvm.MethodName) prog_14_method_58_code (2 : Nat) (Option.none : Option Jvm.ClassFile.FieldType)) ∈ lw_all := lw_g (lw_at lw_m9 179 rfl) rfl
theorem q2210 : (Jvm.Cond.methodLink "TongueProofsModel" (201 : Nat) ({ cls := "TongueProofsModel", name := "isWord", desc := "(Ljava/lang/String;)Z" } : Jvm.MethodName)) ∈ lw_all := lw_g (lw_at lw_m9 180 rfl) rfl
theorem q2211 : (Jvm.Cond.privateMethod ({ cls := "TongueProofsModel", name := "isWord", desc := "(Ljava/lang/String;)Z" } : Jvm.MethodName)) ∈ lw_tbl := lw_at lw_m9 181 rfl
theorem q2212 : (Jvm.Cond.instanceMethod ({ cls := "TongueProofsModel", name := "isWord", desc := "(Ljava/lang/String;)Z" } : Jvm.MethodName)) ∈ lw_all := lw_g (lw_at lw_m9 182 rfl) rfl
theorem q2213 : (Jvm.Cond.code ({ cls := "TongueProofsModel", name := "isWord", desc := "(Ljava/lang/String;)Z" } : Jvm.MethodName) prog_14_method_56_code (3 : Nat) (Option.some Jvm.ClassFile.FieldType.boolean)) ∈ lw_all := lw_g (lw_at lw_m9 183 rfl) rfl
theorem q2214 : (Jvm.Cond.methodLink "TongueProofsModel" (189 : Nat) ({ cls := "java/lang/String", name := "length", desc := "()I" } : Jvm.MethodName)) ∈ lw_all := lw_g (lw_at lw_m9 184 rfl) rfl
theorem q2215 : (Jvm.Cond.methodLink "TongueProofsModel" (194 : Nat) ({ cls := "java/lang/String", name := "charAt", desc := "(I)C" } : Jvm.MethodName)) ∈ lw_all := lw_g (lw_at lw_m9 185 rfl) rfl
theorem q2216 : (Jvm.Cond.methodLink "TongueProofsModel" (205 : Nat) ({ cls := "TongueProofsModel", name := "must", desc := "(ZI)Z" } : Jvm.MethodName)) ∈ lw_all := lw_g (lw_at lw_m9 186 rfl) rfl
theorem q2217 : (Jvm.Cond.privateMethod ({ cls := "TongueProofsModel", name := "must", desc := "(ZI)Z" } : Jvm.MethodName)) ∈ lw_tbl := lw_at lw_m9 187 rfl
theorem q2218 : (Jvm.Cond.instanceMethod ({ cls := "TongueProofsModel", name := "must", desc := "(ZI)Z" } : Jvm.MethodName)) ∈ lw_all := lw_g (lw_at lw_m9 188 rfl) rfl
theorem q2219 : (Jvm.Cond.code ({ cls := "TongueProofsModel", name := "must", desc := "(ZI)Z" } : Jvm.MethodName) prog_14_method_55_code (3 : Nat) (Option.some Jvm.ClassFile.FieldType.boolean)) ∈ lw_all := lw_g (lw_at lw_m9 189 rfl) rfl
theorem q2220 : (Jvm.Cond.methodLink "TongueProofsModel" (208 : Nat) ({ cls := "TongueProofsModel", name := "goesOn", desc := "()V" } : Jvm.MethodName)) ∈ lw_all := lw_g (lw_at lw_m9 190 rfl) rfl
theorem q2221 : (Jvm.Cond.privateMethod ({ cls := "TongueProofsModel", name := "goesOn", desc := "()V" } : Jvm.MethodName)) ∈ lw_tbl := lw_at lw_m9 191 rfl
theorem q2222 : (Jvm.Cond.instanceMethod ({ cls := "TongueProofsModel", name := "goesOn", desc := "()V" } : Jvm.MethodName)) ∈ lw_all := lw_g (lw_at lw_m9 192 rfl) rfl
theorem q2223 : (Jvm.Cond.code ({ cls := "TongueProofsModel", name := "goesOn", desc := "()V" } : Jvm.MethodName) prog_14_method_57_code (1 : Nat) (Option.none : Option Jvm.ClassFile.FieldType)) ∈ lw_all := lw_g (lw_at lw_m9 193 rfl) rfl
theorem q2224 : (Jvm.Cond.methodLink "TongueProofsModel" (216 : Nat) ({ cls := "TongueProofsModel", name := "reads", desc := "(II)I" } : Jvm.MethodName)) ∈ lw_all := lw_g (lw_at lw_m9 194 rfl) rfl
theorem q2225 : (Jvm.Cond.privateMethod ({ cls := "TongueProofsModel", name := "reads", desc := "(II)I" } : Jvm.MethodName)) ∈ lw_tbl := lw_at lw_m9 195 rfl
theorem q2226 : (Jvm.Cond.instanceMethod ({ cls := "TongueProofsModel", name := "reads", desc := "(II)I" } : Jvm.MethodName)) ∈ lw_all := lw_g (lw_at lw_m9 196 rfl) rfl
theorem q2227 : (Jvm.Cond.code ({ cls := "TongueProofsModel", name := "reads", desc := "(II)I" } : Jvm.MethodName) prog_14_method_61_code (4 : Nat) (Option.some Jvm.ClassFile.FieldType.int)) ∈ lw_all := lw_g (lw_at lw_m9 197 rfl) rfl
theorem q2228 : (Jvm.Cond.methodLink "TongueProofsModel" (211 : Nat) ({ cls := "TongueProofsModel", name := "looks", desc := "(II)I" } : Jvm.MethodName)) ∈ lw_all := lw_g (lw_at lw_m9 198 rfl) rfl
theorem q2229 : (Jvm.Cond.privateMethod ({ cls := "TongueProofsModel", name := "looks", desc := "(II)I" } : Jvm.MethodName)) ∈ lw_tbl := lw_at lw_m9 199 rfl
theorem q2230 : (Jvm.Cond.instanceMethod ({ cls := "TongueProofsModel", name := "looks", desc := "(II)I" } : Jvm.MethodName)) ∈ lw_all := lw_g (lw_at lw_m9 200 rfl) rfl
theorem q2231 : (Jvm.Cond.code ({ cls := "TongueProofsModel", name := "looks", desc := "(II)I" } : Jvm.MethodName) prog_14_method_60_code (3 : Nat) (Option.some Jvm.ClassFile.FieldType.int)) ∈ lw_all := lw_g (lw_at lw_m9 201 rfl) rfl
theorem q2232 : (Jvm.Cond.methodLink "TongueProofsModel" (219 : Nat) ({ cls := "TongueProofsModel", name := "endsLine", desc := "()V" } : Jvm.MethodName)) ∈ lw_all := lw_g (lw_at lw_m9 202 rfl) rfl
theorem q2233 : (Jvm.Cond.privateMethod ({ cls := "TongueProofsModel", name := "endsLine", desc := "()V" } : Jvm.MethodName)) ∈ lw_tbl := lw_at lw_m9 203 rfl
theorem q2234 : (Jvm.Cond.instanceMethod ({ cls := "TongueProofsModel", name := "endsLine", desc := "()V" } : Jvm.MethodName)) ∈ lw_all := lw_g (lw_at lw_m9 204 rfl) rfl
theorem q2235 : (Jvm.Cond.code ({ cls := "TongueProofsModel", name := "endsLine", desc := "()V" } : Jvm.MethodName) prog_14_method_59_code (1 : Nat) (Option.none : Option Jvm.ClassFile.FieldType)) ∈ lw_all := lw_g (lw_at lw_m9 205 rfl) rfl
theorem q2236 : (Jvm.Cond.methodLink "TongueProofsModel" (231 : Nat) ({ cls := "TongueProofsModel", name := "readsHeap", desc := "()V" } : Jvm.MethodName)) ∈ lw_all := lw_g (lw_at lw_m9 206 rfl) rfl
theorem q2237 : (Jvm.Cond.privateMethod ({ cls := "TongueProofsModel", name := "readsHeap", desc := "()V" } : Jvm.MethodName)) ∈ lw_tbl := lw_at lw_m9 207 rfl
theorem q2238 : (Jvm.Cond.instanceMethod ({ cls := "TongueProofsModel", name := "readsHeap", desc := "()V" } : Jvm.MethodName)) ∈ lw_all := lw_g (lw_at lw_m9 208 rfl) rfl
theorem q2239 : (Jvm.Cond.code ({ cls := "TongueProofsModel", name := "readsHeap", desc := "()V" } : Jvm.MethodName) prog_14_method_63_code (3 : Nat) (Option.none : Option Jvm.ClassFile.FieldType)) ∈ lw_all := lw_g (lw_at lw_m9 209 rfl) rfl
theorem q2240 : (Jvm.Cond.stringRef "TongueProofsModel" (214 : Nat) "heap") ∈ lw_tbl := lw_at lw_m9 210 rfl
theorem q2241 : (Jvm.Cond.methodLink "TongueProofsModel" (155 : Nat) ({ cls := "TongueProofsModel", name := "copies", desc := "(II)V" } : Jvm.MethodName)) ∈ lw_all := lw_g (lw_at lw_m9 211 rfl) rfl
theorem q2242 : (Jvm.Cond.privateMethod ({ cls := "TongueProofsModel", name := "copies", desc := "(II)V" } : Jvm.MethodName)) ∈ lw_tbl := lw_at lw_m9 212 rfl
theorem q2243 : (Jvm.Cond.instanceMethod ({ cls := "TongueProofsModel", name := "copies", desc := "(II)V" } : Jvm.MethodName)) ∈ lw_all := lw_g (lw_at lw_m9 213 rfl) rfl
theorem q2244 : (Jvm.Cond.code ({ cls := "TongueProofsModel", name := "copies", desc := "(II)V" } : Jvm.MethodName) prog_14_method_7_code (4 : Nat) (Option.none : Option Jvm.ClassFile.FieldType)) ∈ lw_all := lw_g (lw_at lw_m9 214 rfl) rfl
theorem q2246 : (Jvm.Cond.instanceMethod ({ cls := "TongueProofsModel", name := "play", desc := "()I" } : Jvm.MethodName)) ∈ lw_all := lw_g (lw_at lw_m9 216 rfl) rfl
theorem q2247 : (Jvm.Cond.selects "TongueProofsModel" ({ cls := "TongueProofsModel", name := "play", desc := "()I" } : Jvm.MethodName) ({ cls := "TongueProofsModel", name := "play", desc := "()I" } : Jvm.MethodName)) ∈ lw_all := lw_g (lw_at lw_m9 217 rfl) rfl
theorem q2248 : (Jvm.Cond.code ({ cls := "TongueProofsModel", name := "play", desc := "()I" } : Jvm.MethodName) prog_14_method_70_code (4 : Nat) (Option.some Jvm.ClassFile.FieldType.int)) ∈ lw_all := lw_g (lw_at lw_m9 218 rfl) rfl
theorem q2249 : (Jvm.Cond.methodLink "TongueProofsModel" (289 : Nat) ({ cls := "TongueProofsModel", name := "readsCommand", desc := "()V" } : Jvm.MethodName)) ∈ lw_all := lw_g (lw_at lw_m9 219 rfl) rfl
theorem q2250 : (Jvm.Cond.privateMethod ({ cls := "TongueProofsModel", name := "readsCommand", desc := "()V" } : Jvm.MethodName)) ∈ lw_tbl := lw_at lw_m9 220 rfl
theorem q2251 : (Jvm.Cond.instanceMethod ({ cls := "TongueProofsModel", name := "readsCommand", desc := "()V" } : Jvm.MethodName)) ∈ lw_all := lw_g (lw_at lw_m9 221 rfl) rfl
theorem q2252 : (Jvm.Cond.code ({ cls := "TongueProofsModel", name := "readsCommand", desc := "()V" } : Jvm.MethodName) prog_14_method_68_code (2 : Nat) (Option.none : Option Jvm.ClassFile.FieldType)) ∈ lw_all := lw_g (lw_at lw_m9 222 rfl) rfl
theorem q2253 : (Jvm.Cond.methodLink "TongueProofsModel" (262 : Nat) ({ cls := "TongueProofsModel", name := "commandHere", desc := "()I" } : Jvm.MethodName)) ∈ lw_all := lw_g (lw_at lw_m9 223 rfl) rfl
theorem q2254 : (Jvm.Cond.privateMethod ({ cls := "TongueProofsModel", name := "commandHere", desc := "()I" } : Jvm.MethodName)) ∈ lw_tbl := lw_at lw_m9 224 rfl
theorem q2255 : (Jvm.Cond.instanceMethod ({ cls := "TongueProofsModel", name := "commandHere", desc := "()I" } : Jvm.MethodName)) ∈ lw_all := lw_g (lw_at lw_m9 225 rfl) rfl
theorem q2256 : (Jvm.Cond.code ({ cls := "TongueProofsModel", name := "commandHere", desc := "()I" } : Jvm.MethodName) prog_14_method_65_code (1 : Nat) (Option.some Jvm.ClassFile.FieldType.int)) ∈ lw_all := lw_g (lw_at lw_m9 226 rfl) rfl
theorem q2257 : (Jvm.Cond.stringRef "TongueProofsModel" (237 : Nat) "say") ∈ lw_tbl := lw_at lw_m9 227 rfl
theorem q2258 : (Jvm.Cond.stringRef "TongueProofsModel" (239 : Nat) "pair") ∈ lw_tbl := lw_at lw_m9 228 rfl
theorem q2259 : (Jvm.Cond.stringRef "TongueProofsModel" (241 : Nat) "match") ∈ lw_tbl := lw_at lw_m9 229 rfl
theorem q2260 : (Jvm.Cond.stringRef "TongueProofsModel" (243 : Nat) "close") ∈ lw_tbl := lw_at lw_m9 230 rfl
theorem q2261 : (Jvm.Cond.stringRef "TongueProofsModel" (245 : Nat) "drop") ∈ lw_tbl := lw_at lw_m9 231 rfl
theorem q2262 : (Jvm.Cond.stringRef "TongueProofsModel" (247 : Nat) "put") ∈ lw_tbl := lw_at lw_m9 232 rfl
theorem q2263 : (Jvm.Cond.stringRef "TongueProofsModel" (249 : Nat) "swap") ∈ lw_tbl := lw_at lw_m9 233 rfl
theorem q2264 : (Jvm.Cond.stringRef "TongueProofsModel" (251 : Nat) "eye") ∈ lw_tbl := lw_at lw_m9 234 rfl
theorem q2265 : (Jvm.Cond.methodLink "TongueProofsModel" (268 : Nat) ({ cls := "TongueProofsModel", name := "readsNumbers", desc := "(II)V" } : Jvm.MethodName)) ∈ lw_all := lw_g (lw_at lw_m9 235 rfl) rfl
theorem q2266 : (Jvm.Cond.privateMethod ({ cls := "TongueProofsModel", name := "readsNumbers", desc := "(II)V" } : Jvm.MethodName)) ∈ lw_tbl := lw_at lw_m9 236 rfl
theorem q2267 : (Jvm.Cond.instanceMethod ({ cls := "TongueProofsModel", name := "readsNumbers", desc := "(II)V" } : Jvm.MethodName)) ∈ lw_all := lw_g (lw_at lw_m9 237 rfl) rfl
theorem q2268 : (Jvm.Cond.code ({ cls := "TongueProofsModel", name := "readsNumbers", desc := "(II)V" } : Jvm.MethodName) prog_14_method_67_code (3 : Nat) (Option.none : Option Jvm.ClassFile.FieldType)) ∈ lw_all := lw_g (lw_at lw_m9 238 rfl) rfl
theorem q2269 : (Jvm.Cond.methodLink "TongueProofsModel" (259 : Nat) ({ cls := "TongueProofsModel", name := "readsWord", desc := "()I" } : Jvm.MethodName)) ∈ lw_all := lw_g (lw_at lw_m9 239 rfl) rfl
theorem q2270 : (Jvm.Cond.privateMethod ({ cls := "TongueProofsModel", name := "readsWord", desc := "()I" } : Jvm.MethodName)) ∈ lw_tbl := lw_at lw_m10 0 rfl
theorem q2271 : (Jvm.Cond.instanceMethod ({ cls := "TongueProofsModel", name := "readsWord", desc := "()I" } : Jvm.MethodName)) ∈ lw_all := lw_g (lw_at lw_m10 1 rfl) rfl
theorem q2272 : (Jvm.Cond.code ({ cls := "TongueProofsModel", name := "readsWord", desc := "()I" } : Jvm.MethodName) prog_14_method_66_code (2 : Nat) (Option.some Jvm.ClassFile.FieldType.int)) ∈ lw_all := lw_g (lw_at lw_m10 2 rfl) rfl
theorem q2273 : (Jvm.Cond.stringRef "TongueProofsModel" (253 : Nat) "more") ∈ lw_tbl := lw_at lw_m10 3 rfl
theorem q2274 : (Jvm.Cond.stringRef "TongueProofsModel" (255 : Nat) "less") ∈ lw_tbl := lw_at lw_m10 4 rfl
theorem q2275 : (Jvm.Cond.stringRef "TongueProofsModel" (257 : Nat) "like") ∈ lw_tbl := lw_at lw_m10 5 rfl
theorem q2276 : (Jvm.Cond.methodLink "TongueProofsModel" (292 : Nat) ({ cls := "TongueProofsModel", name := "acts", desc := "(I)I" } : Jvm.MethodName)) ∈ lw_all := lw_g (lw_at lw_m10 6 rfl) rfl
theorem q2277 : (Jvm.Cond.privateMethod ({ cls := "TongueProofsModel", name := "acts", desc := "(I)I" } : Jvm.MethodName)) ∈ lw_tbl := lw_at lw_m10 7 rfl
theorem q2278 : (Jvm.Cond.instanceMethod ({ cls := "TongueProofsModel", name := "acts", desc := "(I)I" } : Jvm.MethodName)) ∈ lw_all := lw_g (lw_at lw_m10 8 rfl) rfl
theorem q2279 : (Jvm.Cond.code ({ cls := "TongueProofsModel", name := "acts", desc := "(I)I" } : Jvm.MethodName) prog_14_method_69_code (5 : Nat) (Option.some Jvm.ClassFile.FieldType.int)) ∈ lw_all := lw_g (lw_at lw_m10 9 rfl) rfl
theorem q2280 : (Jvm.Cond.methodLink "TongueProofsModel" (271 : Nat) ({ cls := "TongueProofsModel", name := "say", desc := "(IIII)I" } : Jvm.MethodName)) ∈ lw_all := lw_g (lw_at lw_m10 10 rfl) rfl
theorem q2281 : (Jvm.Cond.instanceMethod ({ cls := "TongueProofsModel", name := "say", desc := "(IIII)I" } : Jvm.MethodName)) ∈ lw_all := lw_g (lw_at lw_m10 11 rfl) rfl
theorem q2282 : (Jvm.Cond.selects "TongueProofsModel" ({ cls := "TongueProofsModel", name := "say", desc := "(IIII)I" } : Jvm.MethodName) ({ cls := "TongueProofsModel", name := "say", desc := "(IIII)I" } : Jvm.MethodName)) ∈ lw_all := lw_g (lw_at lw_m10 12 rfl) rfl
theorem q2283 : (Jvm.Cond.code ({ cls := "TongueProofsModel", name := "say", desc := "(IIII)I" } : Jvm.MethodName) prog_14_method_119_code (7 : Nat) (Option.some Jvm.ClassFile.FieldType.int)) ∈ lw_all := lw_g (lw_at lw_m10 13 rfl) rfl
theorem q2284 : (Jvm.Cond.methodLink "TongueProofsModel" (307 : Nat) ({ cls := "TongueProofsModel", name := "isTrader", desc := "(I)Z" } : Jvm.MethodName)) ∈ lw_all := lw_g (lw_at lw_m10 14 rfl) rfl
theorem q2285 : (Jvm.Cond.privateMethod ({ cls := "TongueProofsModel", name := "isTrader", desc := "(I)Z" } : Jvm.MethodName)) ∈ lw_tbl := lw_at lw_m10 15 rfl
theorem q2286 : (Jvm.Cond.instanceMethod ({ cls := "TongueProofsModel", name := "isTrader", desc := "(I)Z" } : Jvm.MethodName)) ∈ lw_all := lw_g (lw_at lw_m10 16 rfl) rfl
theorem q2287 : (Jvm.Cond.code ({ cls := "TongueProofsModel", name := "isTrader", desc := "(I)Z" } : Jvm.MethodName) prog_14_method_73_code (2 : Nat) (Option.some Jvm.ClassFile.FieldType.boolean)) ∈ lw_all := lw_g (lw_at lw_m10 17 rfl) rfl
theorem q2288 : (Jvm.Cond.methodLink "TongueProofsModel" (295 : Nat) ({ cls := "TongueProofsModel", name := "isHeap", desc := "(I)Z" } : Jvm.MethodName)) ∈ lw_all := lw_g (lw_at lw_m10 18 rfl) rfl
theorem q2289 : (Jvm.Cond.privateMethod ({ cls := "TongueProofsModel", name := "isHeap", desc := "(I)Z" } : Jvm.MethodName)) ∈ lw_tbl := lw_at lw_m10 19 rfl
theorem q2290 : (Jvm.Cond.instanceMethod ({ cls := "TongueProofsModel", name := "isHeap", desc := "(I)Z" } : Jvm.MethodName)) ∈ lw_all := lw_g (lw_at lw_m10 20 rfl) rfl
theorem q2291 : (Jvm.Cond.code ({ cls := "TongueProofsModel", name := "isHeap", desc := "(I)Z" } : Jvm.MethodName) prog_14_method_74_code (2 : Nat) (Option.some Jvm.ClassFile.FieldType.boolean)) ∈ lw_all := lw_g (lw_at lw_m10 21 rfl) rfl
theorem q2292 : (Jvm.Cond.methodLink "TongueProofsModel" (370 : Nat) ({ cls := "TongueProofsModel", name := "refuses", desc := "(I)I" } : Jvm.MethodName)) ∈ lw_all := lw_g (lw_at lw_m10 22 rfl) rfl
theorem q2293 : (Jvm.Cond.privateMethod ({ cls := "TongueProofsModel", name := "refuses", desc := "(I)I" } : Jvm.MethodName)) ∈ lw_tbl := lw_at lw_m10 23 rfl
theorem q2294 : (Jvm.Cond.instanceMethod ({ cls := "TongueProofsModel", name := "refuses", desc := "(I)I" } : Jvm.MethodName)) ∈ lw_all := lw_g (lw_at lw_m10 24 rfl) rfl
theorem q2295 : (Jvm.Cond.code ({ cls := "TongueProofsModel", name := "refuses", desc := "(I)I" } : Jvm.MethodName) prog_14_method_118_code (2 : Nat) (Option.some Jvm.ClassFile.FieldType.int)) ∈ lw_all := lw_g (lw_at lw_m10 25 rfl) rfl
theorem q2296 : (Jvm.Cond.methodLink "TongueProofsModel" (373 : Nat) ({ cls := "TongueProofsModel", name := "keeps", desc := "()V" } : Jvm.MethodName)) ∈ lw_all := lw_g (lw_at lw_m10 26 rfl) rfl
theorem q2297 : (Jvm.Cond.privateMethod ({ cls := "TongueProofsModel", name := "keeps", desc := "()V" } : Jvm.MethodName)) ∈ lw_tbl := lw_at lw_m10 27 rfl
theorem q2298 : (Jvm.Cond.instanceMethod ({ cls := "TongueProofsModel", name := "keeps", desc := "()V" } : Jvm.MethodName)) ∈ lw_all := lw_g (lw_at lw_m10 28 rfl) rfl
theorem q2299 : (Jvm.Cond.code ({ cls := "TongueProofsModel", name := "keeps", desc := "()V" } : Jvm.MethodName) prog_14_method_117_code (2 : Nat) (Option.none : Option Jvm.ClassFile.FieldType)) ∈ lw_all := lw_g (lw_at lw_m10 29 rfl) rfl
theorem q2300 : (Jvm.Cond.methodLink "TongueProofsModel" (146 : Nat) ({ cls := "TongueProofsModel", name := "layClaim", desc := "(III)V" } : Jvm.MethodName)) ∈ lw_all := lw_g (lw_at lw_m10 30 rfl) rfl
theorem q2301 : (Jvm.Cond.privateMethod ({ cls := "TongueProofsModel", name := "layClaim", desc := "(III)V" } : Jvm.MethodName)) ∈ lw_tbl := lw_at lw_m10 31 rfl
theorem q2302 : (Jvm.Cond.instanceMethod ({ cls := "TongueProofsModel", name := "layClaim", desc := "(III)V" } : Jvm.MethodName)) ∈ lw_all := lw_g (lw_at lw_m10 32 rfl) rfl
theorem q2303 : (Jvm.Cond.code ({ cls := "TongueProofsModel", name := "layClaim", desc := "(III)V" } : Jvm.MethodName) prog_14_method_14_code (4 : Nat) (Option.none : Option Jvm.ClassFile.FieldType)) ∈ lw_all := lw_g (lw_at lw_m10 33 rfl) rfl
theorem q2304 : (Jvm.Cond.methodLink "TongueProofsModel" (274 : Nat) ({ cls := "TongueProofsModel", name := "pair", desc := "(III)I" } : Jvm.MethodName)) ∈ lw_all := lw_g (lw_at lw_m10 34 rfl) rfl
theorem q2305 : (Jvm.Cond.instanceMethod ({ cls := "TongueProofsModel", name := "pair", desc := "(III)I" } : Jvm.MethodName)) ∈ lw_all := lw_g (lw_at lw_m10 35 rfl) rfl
theorem q2306 : (Jvm.Cond.selects "TongueProofsModel" ({ cls := "TongueProofsModel", name := "pair", desc := "(III)I" } : Jvm.MethodName) ({ cls := "TongueProofsModel", name := "pair", desc := "(III)I" } : Jvm.MethodName)) ∈ lw_all := lw_g (lw_at lw_m10 36 rfl) rfl
theorem q2307 : (Jvm.Cond.code ({ cls := "TongueProofsModel", name := "pair", desc := "(III)I" } : Jvm.MethodName) prog_14_method_120_code (4 : Nat) (Option.some Jvm.ClassFile.FieldType.int)) ∈ lw_all := lw_g (lw_at lw_m10 37 rfl) rfl
theorem q2308 : (Jvm.Cond.methodLink "TongueProofsModel" (331 : Nat) ({ cls := "TongueProofsModel", name := "isClaim", desc := "(I)Z" } : Jvm.MethodName)) ∈ lw_all := lw_g (lw_at lw_m10 38 rfl) rfl
theorem q2309 : (Jvm.Cond.privateMethod ({ cls := "TongueProofsModel", name := "isClaim", desc := "(I)Z" } : Jvm.MethodName)) ∈ lw_tbl := lw_at lw_m10 39 rfl
theorem q2310 : (Jvm.Cond.instanceMethod ({ cls := "TongueProofsModel", name := "isClaim", desc := "(I)Z" } : Jvm.MethodName)) ∈ lw_all := lw_g (lw_at lw_m10 40 rfl) rfl
theorem q2311 : (Jvm.Cond.code ({ cls := "TongueProofsModel", name := "isClaim", desc := "(I)Z" } : Jvm.MethodName) prog_14_method_76_code (2 : Nat) (Option.some Jvm.ClassFile.FieldType.boolean)) ∈ lw_all := lw_g (lw_at lw_m10 41 rfl) rfl
theorem q2312 : (Jvm.Cond.methodLink "TongueProofsModel" (123 : Nat) ({ cls := "TongueProofsModel", name := "sideOf", desc := "(II)I" } : Jvm.MethodName)) ∈ lw_all := lw_g (lw_at lw_m10 42 rfl) rfl
theorem q2313 : (Jvm.Cond.privateMethod ({ cls := "TongueProofsModel", name := "sideOf", desc := "(II)I" } : Jvm.MethodName)) ∈ lw_tbl := lw_at lw_m10 43 rfl
theorem q2314 : (Jvm.Cond.instanceMethod ({ cls := "TongueProofsModel", name := "sideOf", desc := "(II)I" } : Jvm.MethodName)) ∈ lw_all := lw_g (lw_at lw_m10 44 rfl) rfl
theorem q2315 : (Jvm.Cond.code ({ cls := "TongueProofsModel", name := "sideOf", desc := "(II)I" } : Jvm.MethodName) prog_14_method_37_code (3 : Nat) (Option.some Jvm.ClassFile.FieldType.int)) ∈ lw_all := lw_g (lw_at lw_m10 45 rfl) rfl
theorem q2316 : (Jvm.Cond.methodLink "TongueProofsModel" (73 : Nat) ({ cls := "TongueProofsModel", name := "cl", desc := "(II)I" } : Jvm.MethodName)) ∈ lw_all := lw_g (lw_at lw_m10 46 rfl) rfl
theorem q2317 : (Jvm.Cond.privateMethod ({ cls := "TongueProofsModel", name := "cl", desc := "(II)I" } : Jvm.MethodName)) ∈ lw_tbl := lw_at lw_m10 47 rfl
theorem q2318 : (Jvm.Cond.instanceMethod ({ cls := "TongueProofsModel", name := "cl", desc := "(II)I" } : Jvm.MethodName)) ∈ lw_all := lw_g (lw_at lw_m10 48 rfl) rfl
theorem q2319 : (Jvm.Cond.code ({ cls := "TongueProofsModel", name := "cl", desc := "(II)I" } : Jvm.MethodName) prog_14_method_13_code (3 : Nat) (Option.some Jvm.ClassFile.FieldType.int)) ∈ lw_all := lw_g (lw_at lw_m10 49 rfl) rfl
theorem q2320 : (Jvm.Cond.methodLink "TongueProofsModel" (328 : Nat) ({ cls := "TongueProofsModel", name := "isRow", desc := "(II)Z" } : Jvm.MethodName)) ∈ lw_all := lw_g (lw_at lw_m10 50 rfl) rfl
theorem q2321 : (Jvm.Cond.privateMethod ({ cls := "TongueProofsModel", name := "isRow", desc := "(II)Z" } : Jvm.MethodName)) ∈ lw_tbl := lw_at lw_m10 51 rfl
theorem q2322 : (Jvm.Cond.instanceMethod ({ cls := "TongueProofsModel", name := "isRow", desc := "(II)Z" } : Jvm.MethodName)) ∈ lw_all := lw_g (lw_at lw_m10 52 rfl) rfl
theorem q2323 : (Jvm.Cond.code ({ cls := "TongueProofsModel", name := "isRow", desc := "(II)Z" } : Jvm.MethodName) prog_14_method_75_code (3 : Nat) (Option.some Jvm.ClassFile.FieldType.boolean)) ∈ lw_all := lw_g (lw_at lw_m10 53 rfl) rfl
theorem q2324 : (Jvm.Cond.methodLink "TongueProofsModel" (130 : Nat) ({ cls := "TongueProofsModel", name := "isOpen", desc := "(I)Z" } : Jvm.MethodName)) ∈ lw_all := lw_g (lw_at lw_m10 54 rfl) rfl
theorem q2325 : (Jvm.Cond.privateMethod ({ cls := "TongueProofsModel", name := "isOpen", desc := "(I)Z" } : Jvm.MethodName)) ∈ lw_tbl := lw_at lw_m10 55 rfl
theorem q2326 : (Jvm.Cond.instanceMethod ({ cls := "TongueProofsModel", name := "isOpen", desc := "(I)Z" } : Jvm.MethodName)) ∈ lw_all := lw_g (lw_at lw_m10 56 rfl) rfl
theorem q2327 : (Jvm.Cond.code ({ cls := "TongueProofsModel", name := "isOpen", desc := "(I)Z" } : Jvm.MethodName) prog_14_method_38_code (2 : Nat) (Option.some Jvm.ClassFile.FieldType.boolean)) ∈ lw_all := lw_g (lw_at lw_m10 57 rfl) rfl
theorem q2328 : (Jvm.Cond.methodLink "TongueProofsModel" (134 : Nat) ({ cls := "TongueProofsModel", name := "leftIn", desc := "(III)I" } : Jvm.MethodName)) ∈ lw_all := lw_g (lw_at lw_m10 58 rfl) rfl
theorem q2329 : (Jvm.Cond.privateMethod ({ cls := "TongueProofsModel", name := "leftIn", desc := "(III)I" } : Jvm.MethodName)) ∈ lw_tbl := lw_at lw_m10 59 rfl
theorem q2330 : (Jvm.Cond.instanceMethod ({ cls := "TongueProofsModel", name := "leftIn", desc := "(III)I" } : Jvm.MethodName)) ∈ lw_all := lw_g (lw_at lw_m10 60 rfl) rfl
theorem q2331 : (Jvm.Cond.code ({ cls := "TongueProofsModel", name := "leftIn", desc := "(III)I" } : Jvm.MethodName) prog_14_method_39_code (4 : Nat) (Option.some Jvm.ClassFile.FieldType.int)) ∈ lw_all := lw_g (lw_at lw_m10 61 rfl) rfl
theorem q2332 : (Jvm.Cond.methodLink "TongueProofsModel" (80 : Nat) ({ cls := "TongueProofsModel", name := "stones", desc := "(II)I" } : Jvm.MethodName)) ∈ lw_all := lw_g (lw_at lw_m10 62 rfl) rfl
theorem q2333 : (Jvm.Cond.privateMethod ({ cls := "TongueProofsModel", name := "stones", desc := "(II)I" } : Jvm.MethodName)) ∈ lw_tbl := lw_at lw_m10 63 rfl
theorem q2334 : (Jvm.Cond.instanceMethod ({ cls := "TongueProofsModel", name := "stones", desc := "(II)I" } : Jvm.MethodName)) ∈ lw_all := lw_g (lw_at lw_m10 64 rfl) rfl
theorem q2335 : (Jvm.Cond.code ({ cls := "TongueProofsModel", name := "stones", desc := "(II)I" } : Jvm.MethodName) prog_14_method_16_code (3 : Nat) (Option.some Jvm.ClassFile.FieldType.int)) ∈ lw_all := lw_g (lw_at lw_m10 65 rfl) rfl
theorem q2336 : (Jvm.Cond.methodLink "TongueProofsModel" (126 : Nat) ({ cls := "TongueProofsModel", name := "pairedOf", desc := "(III)I" } : Jvm.MethodName)) ∈ lw_all := lw_g (lw_at lw_m10 66 rfl) rfl
theorem q2337 : (Jvm.Cond.privateMethod ({ cls := "TongueProofsModel", name := "pairedOf", desc := "(III)I" } : Jvm.MethodName)) ∈ lw_tbl := lw_at lw_m10 67 rfl
theorem q2338 : (Jvm.Cond.instanceMethod ({ cls := "TongueProofsModel", name := "pairedOf", desc := "(III)I" } : Jvm.MethodName)) ∈ lw_all := lw_g (lw_at lw_m10 68 rfl) rfl
theorem q2339 : (Jvm.Cond.code ({ cls := "TongueProofsModel", name := "pairedOf", desc := "(III)I" } : Jvm.MethodName) prog_14_method_17_code (4 : Nat) (Option.some Jvm.ClassFile.FieldType.int)) ∈ lw_all := lw_g (lw_at lw_m10 69 rfl) rfl
theorem q2340 : (Jvm.Cond.methodLink "TongueProofsModel" (376 : Nat) ({ cls := "TongueProofsModel", name := "pairs", desc := "(III)V" } : Jvm.MethodName)) ∈ lw_all := lw_g (lw_at lw_m10 70 rfl) rfl
theorem q2341 : (Jvm.Cond.privateMethod ({ cls := "TongueProofsModel", name := "pairs", desc := "(III)V" } : Jvm.MethodName)) ∈ lw_tbl := lw_at lw_m10 71 rfl
theorem q2342 : (Jvm.Cond.instanceMethod ({ cls := "TongueProofsModel", name := "pairs", desc := "(III)V" } : Jvm.MethodName)) ∈ lw_all := lw_g (lw_at lw_m10 72 rfl) rfl
theorem q2343 : (Jvm.Cond.code ({ cls := "TongueProofsModel", name := "pairs", desc := "(III)V" } : Jvm.MethodName) prog_14_method_42_code (4 : Nat) (Option.none : Option Jvm.ClassFile.FieldType)) ∈ lw_all := lw_g (lw_at lw_m10 73 rfl) rfl
theorem q2344 : (Jvm.Cond.methodLink "TongueProofsModel" (140 : Nat) ({ cls := "TongueProofsModel", name := "addsClaim", desc := "(III)V" } : Jvm.MethodName)) ∈ lw_all := lw_g (lw_at lw_m10 74 rfl) rfl
theorem q2345 : (Jvm.Cond.privateMethod ({ cls := "TongueProofsModel", name := "addsClaim", desc := "(III)V" } : Jvm.MethodName)) ∈ lw_tbl := lw_at lw_m10 75 rfl
theorem q2346 : (Jvm.Cond.instanceMethod ({ cls := "TongueProofsModel", name := "addsClaim", desc := "(III)V" } : Jvm.MethodName)) ∈ lw_all := lw_g (lw_at lw_m10 76 rfl) rfl
theorem q2347 : (Jvm.Cond.code ({ cls := "TongueProofsModel", name := "addsClaim", desc := "(III)V" } : Jvm.MethodName) prog_14_method_15_code (4 : Nat) (Option.none : Option Jvm.ClassFile.FieldType)) ∈ lw_all := lw_g (lw_at lw_m10 77 rfl) rfl
theorem q2348 : (Jvm.Cond.methodLink "TongueProofsModel" (143 : Nat) ({ cls := "TongueProofsModel", name := "tallies", desc := "(II)V" } : Jvm.MethodName)) ∈ lw_all := lw_g (lw_at lw_m10 78 rfl) rfl
theorem q2349 : (Jvm.Cond.privateMethod ({ cls := "TongueProofsModel", name := "tallies", desc := "(II)V" } : Jvm.MethodName)) ∈ lw_tbl := lw_at lw_m10 79 rfl
theorem q2350 : (Jvm.Cond.instanceMethod ({ cls := "TongueProofsModel", name := "tallies", desc := "(II)V" } : Jvm.MethodName)) ∈ lw_all := lw_g (lw_at lw_m10 80 rfl) rfl
theorem q2351 : (Jvm.Cond.code ({ cls := "TongueProofsModel", name := "tallies", desc := "(II)V" } : Jvm.MethodName) prog_14_method_6_code (3 : Nat) (Option.none : Option Jvm.ClassFile.FieldType)) ∈ lw_all := lw_g (lw_at lw_m10 81 rfl) rfl
theorem q2352 : (Jvm.Cond.methodLink "TongueProofsModel" (137 : Nat) ({ cls := "TongueProofsModel", name := "leftOf", desc := "(II)I" } : Jvm.MethodName)) ∈ lw_all := lw_g (lw_at lw_m10 82 rfl) rfl
theorem q2353 : (Jvm.Cond.privateMethod ({ cls := "TongueProofsModel", name := "leftOf", desc := "(II)I" } : Jvm.MethodName)) ∈ lw_tbl := lw_at lw_m10 83 rfl
theorem q2354 : (Jvm.Cond.instanceMethod ({ cls := "TongueProofsModel", name := "leftOf", desc := "(II)I" } : Jvm.MethodName)) ∈ lw_all := lw_g (lw_at lw_m10 84 rfl) rfl
theorem q2355 : (Jvm.Cond.code ({ cls := "TongueProofsModel", name := "leftOf", desc := "(II)I" } : Jvm.MethodName) prog_14_method_40_code (5 : Nat) (Option.some Jvm.ClassFile.FieldType.int)) ∈ lw_all := lw_g (lw_at lw_m10 85 rfl) rfl
theorem q2356 : (Jvm.Cond.methodLink "TongueProofsModel" (276 : Nat) ({ cls := "TongueProofsModel", name := "match", desc := "(I)I" } : Jvm.MethodName)) ∈ lw_all := lw_g (lw_at lw_m10 86 rfl) rfl
theorem q2357 : (Jvm.Cond.instanceMethod ({ cls := "TongueProofsModel", name := "match", desc := "(I)I" } : Jvm.MethodName)) ∈ lw_all := lw_g (lw_at lw_m10 87 rfl) rfl
theorem q2358 : (Jvm.Cond.selects "TongueProofsModel" ({ cls := "TongueProofsModel", name := "match", desc := "(I)I" } : Jvm.MethodName) ({ cls := "TongueProofsModel", name := "match", desc := "(I)I" } : Jvm.MethodName)) ∈ lw_all := lw_g (lw_at lw_m10 88 rfl) rfl
theorem q2359 : (Jvm.Cond.code ({ cls := "TongueProofsModel", name := "match", desc := "(I)I" } : Jvm.MethodName) prog_14_method_121_code (3 : Nat) (Option.some Jvm.ClassFile.FieldType.int)) ∈ lw_all := lw_g (lw_at lw_m10 89 rfl) rfl
theorem q2360 : (Jvm.Cond.methodLink "TongueProofsModel" (334 : Nat) ({ cls := "TongueProofsModel", name := "isEnded", desc := "(I)Z" } : Jvm.MethodName)) ∈ lw_all := lw_g (lw_at lw_m10 90 rfl) rfl
theorem q2361 : (Jvm.Cond.privateMethod ({ cls := "TongueProofsModel", name := "isEnded", desc := "(I)Z" } : Jvm.MethodName)) ∈ lw_tbl := lw_at lw_m10 91 rfl
theorem q2362 : (Jvm.Cond.instanceMethod ({ cls := "TongueProofsModel", name := "isEnded", desc := "(I)Z" } : Jvm.MethodName)) ∈ lw_all := lw_g (lw_at lw_m10 92 rfl) rfl
theorem q2363 : (Jvm.Cond.code ({ cls := "TongueProofsModel", name := "isEnded", desc := "(I)Z" } : Jvm.MethodName) prog_14_method_41_code (2 : Nat) (Option.some Jvm.ClassFile.FieldType.boolean)) ∈ lw_all := lw_g (lw_at lw_m10 93 rfl) rfl
theorem q2364 : (Jvm.Cond.methodLink "TongueProofsModel" (379 : Nat) ({ cls := "TongueProofsModel", name := "lowestLeft", desc := "(II)I" } : Jvm.MethodName)) ∈ lw_all := lw_g (lw_at lw_m10 94 rfl) rfl
theorem q2365 : (Jvm.Cond.privateMethod ({ cls := "TongueProofsModel", name := "lowestLeft", desc := "(II)I" } : Jvm.MethodName)) ∈ lw_tbl := lw_at lw_m10 95 rfl
theorem q2366 : (Jvm.Cond.instanceMethod ({ cls := "TongueProofsModel", name := "lowestLeft", desc := "(II)I" } : Jvm.MethodName)) ∈ lw_all := lw_g (lw_at lw_m10 96 rfl) rfl
theorem q2367 : (Jvm.Cond.code ({ cls := "TongueProofsModel", name := "lowestLeft", desc := "(II)I" } : Jvm.MethodName) prog_14_method_43_code (4 : Nat) (Option.some Jvm.ClassFile.FieldType.int)) ∈ lw_all := lw_g (lw_at lw_m10 97 rfl) rfl
theorem q2368 : (Jvm.Cond.methodLink "TongueProofsModel" (278 : Nat) ({ cls := "TongueProofsModel", name := "close", desc := "(I)I" } : Jvm.MethodName)) ∈ lw_all := lw_g (lw_at lw_m10 98 rfl) rfl
theorem q2369 : (Jvm.Cond.instanceMethod ({ cls := "TongueProofsModel", name := "close", desc := "(I)I" } : Jvm.MethodName)) ∈ lw_all := lw_g (lw_at lw_m10 99 rfl) rfl
theorem q2370 : (Jvm.Cond.selects "TongueProofsModel" ({ cls := "TongueProofsModel", name := "close", desc := "(I)I" } : Jvm.MethodName) ({ cls := "TongueProofsModel", name := "close", desc := "(I)I" } : Jvm.MethodName)) ∈ lw_all := lw_g (lw_at lw_m10 100 rfl) rfl
theorem q2371 : (Jvm.Cond.code ({ cls := "TongueProofsModel", name := "close", desc := "(I)I" } : Jvm.MethodName) prog_14_method_122_code (8 : Nat) (Option.some Jvm.ClassFile.FieldType.int)) ∈ lw_all := lw_g (lw_at lw_m10 101 rfl) rfl
theorem q2372 : (Jvm.Cond.methodLink "TongueProofsModel" (89 : Nat) ({ cls := "TongueProofsModel", name := "word", desc := "(II)I" } : Jvm.MethodName)) ∈ lw_all := lw_g (lw_at lw_m10 102 rfl) rfl
theorem q2373 : (Jvm.Cond.static ({ cls := "TongueProofsModel", name := "word", desc := "(II)I" } : Jvm.MethodName)) ∈ lw_all := lw_g (lw_at lw_m10 103 rfl) rfl
theorem q2374 : (Jvm.Cond.code ({ cls := "TongueProofsModel", name := "word", desc := "(II)I" } : Jvm.MethodName) prog_14_method_24_code (2 : Nat) (Option.some Jvm.ClassFile.FieldType.int)) ∈ lw_all := lw_g (lw_at lw_m10 104 rfl) rfl
theorem q2375 : (Jvm.Cond.methodLink "TongueProofsModel" (98 : Nat) ({ cls := "TongueProofsModel", name := "wordByEye", desc := "(II)I" } : Jvm.MethodName)) ∈ lw_all := lw_g (lw_at lw_m10 105 rfl) rfl
theorem q2376 : (Jvm.Cond.privateMethod ({ cls := "TongueProofsModel", name := "wordByEye", desc := "(II)I" } : Jvm.MethodName)) ∈ lw_tbl := lw_at lw_m10 106 rfl
theorem q2377 : (Jvm.Cond.instanceMethod ({ cls := "TongueProofsModel", name := "wordByEye", desc := "(II)I" } : Jvm.MethodName)) ∈ lw_all := lw_g (lw_at lw_m10 107 rfl) rfl
theorem q2378 : (Jvm.Cond.code ({ cls := "TongueProofsModel", name := "wordByEye", desc := "(II)I" } : Jvm.MethodName) prog_14_method_27_code (3 : Nat) (Option.some Jvm.ClassFile.FieldType.int)) ∈ lw_all := lw_g (lw_at lw_m10 108 rfl) rfl
theorem q2379 : (Jvm.Cond.methodLink "TongueProofsModel" (92 : Nat) ({ cls := "TongueProofsModel", name := "lookOf", desc := "(I)I" } : Jvm.MethodName)) ∈ lw_all := lw_g (lw_at lw_m10 109 rfl) rfl
theorem q2380 : (Jvm.Cond.privateMethod ({ cls := "TongueProofsModel", name := "lookOf", desc := "(I)I" } : Jvm.MethodName)) ∈ lw_tbl := lw_at lw_m10 110 rfl
theorem q2381 : (Jvm.Cond.instanceMethod ({ cls := "TongueProofsModel", name := "lookOf", desc := "(I)I" } : Jvm.MethodName)) ∈ lw_all := lw_g (lw_at lw_m10 111 rfl) rfl
theorem q2382 : (Jvm.Cond.code ({ cls := "TongueProofsModel", name := "lookOf", desc := "(I)I" } : Jvm.MethodName) prog_14_method_23_code (4 : Nat) (Option.some Jvm.ClassFile.FieldType.int)) ∈ lw_all := lw_g (lw_at lw_m10 112 rfl) rfl
theorem q2383 : (Jvm.Cond.methodLink "TongueProofsModel" (83 : Nat) ({ cls := "TongueProofsModel", name := "sightOf", desc := "(II)I" } : Jvm.MethodName)) ∈ lw_all := lw_g (lw_at lw_m10 113 rfl) rfl
theorem q2384 : (Jvm.Cond.static ({ cls := "TongueProofsModel", name := "sightOf", desc := "(II)I" } : Jvm.MethodName)) ∈ lw_all := lw_g (lw_at lw_m10 114 rfl) rfl
theorem q2385 : (Jvm.Cond.code ({ cls := "TongueProofsModel", name := "sightOf", desc := "(II)I" } : Jvm.MethodName) prog_14_method_22_code (2 : Nat) (Option.some Jvm.ClassFile.FieldType.int)) ∈ lw_all := lw_g (lw_at lw_m10 115 rfl) rfl
theorem q2386 : (Jvm.Cond.methodLink "TongueProofsModel" (382 : Nat) ({ cls := "TongueProofsModel", name := "ends", desc := "(II)V" } : Jvm.MethodName)) ∈ lw_all := lw_g (lw_at lw_m10 116 rfl) rfl
theorem q2387 : (Jvm.Cond.privateMethod ({ cls := "TongueProofsModel", name := "ends", desc := "(II)V" } : Jvm.MethodName)) ∈ lw_tbl := lw_at lw_m10 117 rfl
theorem q2388 : (Jvm.Cond.instanceMethod ({ cls := "TongueProofsModel", name := "ends", desc := "(II)V" } : Jvm.MethodName)) ∈ lw_all := lw_g (lw_at lw_m10 118 rfl) rfl
theorem q2389 : (Jvm.Cond.code ({ cls := "TongueProofsModel", name := "ends", desc := "(II)V" } : Jvm.MethodName) prog_14_method_44_code (4 : Nat) (Option.none : Option Jvm.ClassFile.FieldType)) ∈ lw_all := lw_g (lw_at lw_m10 119 rfl) rfl
theorem q2390 : (Jvm.Cond.methodLink "TongueProofsModel" (352 : Nat) ({ cls := "java/lang/Math", name := "min", desc := "(II)I" } : Jvm.MethodName)) ∈ lw_all := lw_g (lw_at lw_m10 120 rfl) rfl
theorem q2391 : (Jvm.Cond.methodLink "TongueProofsModel" (317 : Nat) ({ cls := "java/lang/Math", name := "max", desc := "(II)I" } : Jvm.MethodName)) ∈ lw_all := lw_g (lw_at lw_m10 121 rfl) rfl
theorem q2392 : (Jvm.Cond.methodLink "TongueProofsModel" (149 : Nat) ({ cls := "TongueProofsModel", name := "layFact", desc := "(III)V" } : Jvm.MethodName)) ∈ lw_all := lw_g (lw_at lw_m10 122 rfl) rfl
theorem q2393 : (Jvm.Cond.privateMethod ({ cls := "TongueProofsModel", name := "layFact", desc := "(III)V" } : Jvm.MethodName)) ∈ lw_tbl := lw_at lw_m10 123 rfl
theorem q2394 : (Jvm.Cond.instanceMethod ({ cls := "TongueProofsModel", name := "layFact", desc := "(III)V" } : Jvm.MethodName)) ∈ lw_all := lw_g (lw_at lw_m10 124 rfl) rfl
theorem q2395 : (Jvm.Cond.code ({ cls := "TongueProofsModel", name := "layFact", desc := "(III)V" } : Jvm.MethodName) prog_14_method_30_code (4 : Nat) (Option.none : Option Jvm.ClassFile.FieldType)) ∈ lw_all := lw_g (lw_at lw_m10 125 rfl) rfl
theorem q2396 : (Jvm.Cond.methodLink "TongueProofsModel" (105 : Nat) ({ cls := "TongueProofsModel", name := "turned", desc := "(I)I" } : Jvm.MethodName)) ∈ lw_all := lw_g (lw_at lw_m10 126 rfl) rfl
theorem q2397 : (Jvm.Cond.static ({ cls := "TongueProofsModel", name := "turned", desc := "(I)I" } : Jvm.MethodName)) ∈ lw_all := lw_g (lw_at lw_m10 127 rfl) rfl
theorem q2398 : (Jvm.Cond.code ({ cls := "TongueProofsModel", name := "turned", desc := "(I)I" } : Jvm.MethodName) prog_14_method_25_code (1 : Nat) (Option.some Jvm.ClassFile.FieldType.int)) ∈ lw_all := lw_g (lw_at lw_m10 128 rfl) rfl
theorem q2399 : (Jvm.Cond.methodLink "TongueProofsModel" (101 : Nat) ({ cls := "TongueProofsModel", name := "one", desc := "(Z)I" } : Jvm.MethodName)) ∈ lw_all := lw_g (lw_at lw_m10 129 rfl) rfl
theorem q2400 : (Jvm.Cond.static ({ cls := "TongueProofsModel", name := "one", desc := "(Z)I" } : Jvm.MethodName)) ∈ lw_all := lw_g (lw_at lw_m10 130 rfl) rfl
theorem q2401 : (Jvm.Cond.code ({ cls := "TongueProofsModel", name := "one", desc := "(Z)I" } : Jvm.MethodName) prog_14_method_9_code (1 : Nat) (Option.some Jvm.ClassFile.FieldType.int)) ∈ lw_all := lw_g (lw_at lw_m10 131 rfl) rfl
theorem q2402 : (Jvm.Cond.methodLink "TongueProofsModel" (280 : Nat) ({ cls := "TongueProofsModel", name := "drop", desc := "(I)I" } : Jvm.MethodName)) ∈ lw_all := lw_g (lw_at lw_m10 132 rfl) rfl
theorem q2403 : (Jvm.Cond.instanceMethod ({ cls := "TongueProofsModel", name := "drop", desc := "(I)I" } : Jvm.MethodName)) ∈ lw_all := lw_g (lw_at lw_m10 133 rfl) rfl
theorem q2404 : (Jvm.Cond.selects "TongueProofsModel" ({ cls := "TongueProofsModel", name := "drop", desc := "(I)I" } : Jvm.MethodName) ({ cls := "TongueProofsModel", name := "drop", desc := "(I)I" } : Jvm.MethodName)) ∈ lw_all := lw_g (lw_at lw_m10 134 rfl) rfl
theorem q2405 : (Jvm.Cond.code ({ cls := "TongueProofsModel", name := "drop", desc := "(I)I" } : Jvm.MethodName) prog_14_method_123_code (2 : Nat) (Option.some Jvm.ClassFile.FieldType.int)) ∈ lw_all := lw_g (lw_at lw_m10 135 rfl) rfl
theorem q2406 : (Jvm.Cond.methodLink "TongueProofsModel" (298 : Nat) ({ cls := "TongueProofsModel", name := "claimsThat", desc := "(I)I" } : Jvm.MethodName)) ∈ lw_all := lw_g (lw_at lw_m10 136 rfl) rfl
theorem q2407 : (Jvm.Cond.privateMethod ({ cls := "TongueProofsModel", name := "claimsThat", desc := "(I)I" } : Jvm.MethodName)) ∈ lw_tbl := lw_at lw_m10 137 rfl
theorem q2408 : (Jvm.Cond.instanceMethod ({ cls := "TongueProofsModel", name := "claimsThat", desc := "(I)I" } : Jvm.MethodName)) ∈ lw_all := lw_g (lw_at lw_m10 138 rfl) rfl
theorem q2409 : (Jvm.Cond.code ({ cls := "TongueProofsModel", name := "claimsThat", desc := "(I)I" } : Jvm.MethodName) prog_14_method_47_code (4 : Nat) (Option.some Jvm.ClassFile.FieldType.int)) ∈ lw_all := lw_g (lw_at lw_m10 139 rfl) rfl
theorem q2410 : (Jvm.Cond.methodLink "TongueProofsModel" (282 : Nat) ({ cls := "TongueProofsModel", name := "put", desc := "(III)I" } : Jvm.MethodName)) ∈ lw_all := lw_g (lw_at lw_m10 140 rfl) rfl
theorem q2411 : (Jvm.Cond.instanceMethod ({ cls := "TongueProofsModel", name := "put", desc := "(III)I" } : Jvm.MethodName)) ∈ lw_all := lw_g (lw_at lw_m10 141 rfl) rfl
theorem q2412 : (Jvm.Cond.selects "TongueProofsModel" ({ cls := "TongueProofsModel", name := "put", desc := "(III)I" } : Jvm.MethodName) ({ cls := "TongueProofsModel", name := "put", desc := "(III)I" } : Jvm.MethodName)) ∈ lw_all := lw_g (lw_at lw_m10 142 rfl) rfl
theorem q2413 : (Jvm.Cond.code ({ cls := "TongueProofsModel", name := "put", desc := "(III)I" } : Jvm.MethodName) prog_14_method_124_code (4 : Nat) (Option.some Jvm.ClassFile.FieldType.int)) ∈ lw_all := lw_g (lw_at lw_m10 143 rfl) rfl
theorem q2414 : (Jvm.Cond.methodLink "TongueProofsModel" (385 : Nat) ({ cls := "TongueProofsModel", name := "changes", desc := "(I)V" } : Jvm.MethodName)) ∈ lw_all := lw_g (lw_at lw_m10 144 rfl) rfl
theorem q2415 : (Jvm.Cond.privateMethod ({ cls := "TongueProofsModel", name := "changes", desc := "(I)V" } : Jvm.MethodName)) ∈ lw_tbl := lw_at lw_m10 145 rfl
theorem q2416 : (Jvm.Cond.instanceMethod ({ cls := "TongueProofsModel", name := "changes", desc := "(I)V" } : Jvm.MethodName)) ∈ lw_all := lw_g (lw_at lw_m10 146 rfl) rfl
theorem q2417 : (Jvm.Cond.code ({ cls := "TongueProofsModel", name := "changes", desc := "(I)V" } : Jvm.MethodName) prog_14_method_45_code (3 : Nat) (Option.none : Option Jvm.ClassFile.FieldType)) ∈ lw_all := lw_g (lw_at lw_m10 147 rfl) rfl
theorem q2418 : (Jvm.Cond.methodLink "TongueProofsModel" (108 : Nat) ({ cls := "TongueProofsModel", name := "factOf", desc := "(II)I" } : Jvm.MethodName)) ∈ lw_all := lw_g (lw_at lw_m10 148 rfl) rfl
theorem q2419 : (Jvm.Cond.privateMethod ({ cls := "TongueProofsModel", name := "factOf", desc := "(II)I" } : Jvm.MethodName)) ∈ lw_tbl := lw_at lw_m10 149 rfl
theorem q2420 : (Jvm.Cond.instanceMethod ({ cls := "TongueProofsModel", name := "factOf", desc := "(II)I" } : Jvm.MethodName)) ∈ lw_all := lw_g (lw_at lw_m10 150 rfl) rfl
theorem q2421 : (Jvm.Cond.code ({ cls := "TongueProofsModel", name := "factOf", desc := "(II)I" } : Jvm.MethodName) prog_14_method_29_code (3 : Nat) (Option.some Jvm.ClassFile.FieldType.int)) ∈ lw_all := lw_g (lw_at lw_m10 151 rfl) rfl
theorem q2422 : (Jvm.Cond.methodLink "TongueProofsModel" (152 : Nat) ({ cls := "TongueProofsModel", name := "beginsAnew", desc := "(I)V" } : Jvm.MethodName)) ∈ lw_all := lw_g (lw_at lw_m10 152 rfl) rfl
theorem q2423 : (Jvm.Cond.privateMethod ({ cls := "TongueProofsModel", name := "beginsAnew", desc := "(I)V" } : Jvm.MethodName)) ∈ lw_tbl := lw_at lw_m10 153 rfl
theorem q2424 : (Jvm.Cond.instanceMethod ({ cls := "TongueProofsModel", name := "beginsAnew", desc := "(I)V" } : Jvm.MethodName)) ∈ lw_all := lw_g (lw_at lw_m10 154 rfl) rfl
theorem q2425 : (Jvm.Cond.code ({ cls := "TongueProofsModel", name := "beginsAnew", desc := "(I)V" } : Jvm.MethodName) prog_14_method_46_code (4 : Nat) (Option.none : Option Jvm.ClassFile.FieldType)) ∈ lw_all := lw_g (lw_at lw_m10 155 rfl) rfl
theorem q2426 : (Jvm.Cond.methodLink "TongueProofsModel" (86 : Nat) ({ cls := "TongueProofsModel", name := "sizeOf", desc := "(I)I" } : Jvm.MethodName)) ∈ lw_all := lw_g (lw_at lw_m10 156 rfl) rfl
theorem q2427 : (Jvm.Cond.privateMethod ({ cls := "TongueProofsModel", name := "sizeOf", desc := "(I)I" } : Jvm.MethodName)) ∈ lw_tbl := lw_at lw_m10 157 rfl
theorem q2428 : (Jvm.Cond.instanceMethod ({ cls := "TongueProofsModel", name := "sizeOf", desc := "(I)I" } : Jvm.MethodName)) ∈ lw_all := lw_g (lw_at lw_m10 158 rfl) rfl
theorem q2429 : (Jvm.Cond.code ({ cls := "TongueProofsModel", name := "sizeOf", desc := "(I)I" } : Jvm.MethodName) prog_14_method_21_code (4 : Nat) (Option.some Jvm.ClassFile.FieldType.int)) ∈ lw_all := lw_g (lw_at lw_m10 159 rfl) rfl
theorem q2430 : (Jvm.Cond.methodLink "TongueProofsModel" (284 : Nat) ({ cls := "TongueProofsModel", name := "swap", desc := "(II)I" } : Jvm.MethodName)) ∈ lw_all := lw_g (lw_at lw_m10 160 rfl) rfl
theorem q2431 : (Jvm.Cond.instanceMethod ({ cls := "TongueProofsModel", name := "swap", desc := "(II)I" } : Jvm.MethodName)) ∈ lw_all := lw_g (lw_at lw_m10 161 rfl) rfl
theorem q2432 : (Jvm.Cond.selects "TongueProofsModel" ({ cls := "TongueProofsModel", name := "swap", desc := "(II)I" } : Jvm.MethodName) ({ cls := "TongueProofsModel", name := "swap", desc := "(II)I" } : Jvm.MethodName)) ∈ lw_all := lw_g (lw_at lw_m10 162 rfl) rfl
theorem q2433 : (Jvm.Cond.code ({ cls := "TongueProofsModel", name := "swap", desc := "(II)I" } : Jvm.MethodName) prog_14_method_125_code (5 : Nat) (Option.some Jvm.ClassFile.FieldType.int)) ∈ lw_all := lw_g (lw_at lw_m10 163 rfl) rfl
theorem q2434 : (Jvm.Cond.methodLink "TongueProofsModel" (117 : Nat) ({ cls := "TongueProofsModel", name := "knownOf", desc := "(II)I" } : Jvm.MethodName)) ∈ lw_all := lw_g (lw_at lw_m10 164 rfl) rfl
theorem q2435 : (Jvm.Cond.privateMethod ({ cls := "TongueProofsModel", name := "knownOf", desc := "(II)I" } : Jvm.MethodName)) ∈ lw_tbl := lw_at lw_m10 165 rfl
theorem q2436 : (Jvm.Cond.instanceMethod ({ cls := "TongueProofsModel", name := "knownOf", desc := "(II)I" } : Jvm.MethodName)) ∈ lw_all := lw_g (lw_at lw_m10 166 rfl) rfl
theorem q2437 : (Jvm.Cond.code ({ cls := "TongueProofsModel", name := "knownOf", desc := "(II)I" } : Jvm.MethodName) prog_14_method_34_code (3 : Nat) (Option.some Jvm.ClassFile.FieldType.int)) ∈ lw_all := lw_g (lw_at lw_m10 167 rfl) rfl
theorem q2438 : (Jvm.Cond.methodLink "TongueProofsModel" (114 : Nat) ({ cls := "TongueProofsModel", name := "walks", desc := "(II)V" } : Jvm.MethodName)) ∈ lw_all := lw_g (lw_at lw_m10 168 rfl) rfl
theorem q2439 : (Jvm.Cond.privateMethod ({ cls := "TongueProofsModel", name := "walks", desc := "(II)V" } : Jvm.MethodName)) ∈ lw_tbl := lw_at lw_m10 169 rfl
theorem q2440 : (Jvm.Cond.instanceMethod ({ cls := "TongueProofsModel", name := "walks", desc := "(II)V" } : Jvm.MethodName)) ∈ lw_all := lw_g (lw_at lw_m10 170 rfl) rfl
theorem q2441 : (Jvm.Cond.code ({ cls := "TongueProofsModel", name := "walks", desc := "(II)V" } : Jvm.MethodName) prog_14_method_33_code (8 : Nat) (Option.none : Option Jvm.ClassFile.FieldType)) ∈ lw_all := lw_g (lw_at lw_m10 171 rfl) rfl
theorem q2442 : (Jvm.Cond.methodLink "TongueProofsModel" (286 : Nat) ({ cls := "TongueProofsModel", name := "setEye", desc := "(I)I" } : Jvm.MethodName)) ∈ lw_all := lw_g (lw_at lw_m10 172 rfl) rfl
theorem q2443 : (Jvm.Cond.instanceMethod ({ cls := "TongueProofsModel", name := "setEye", desc := "(I)I" } : Jvm.MethodName)) ∈ lw_all := lw_g (lw_at lw_m10 173 rfl) rfl
theorem q2444 : (Jvm.Cond.selects "TongueProofsModel" ({ cls := "TongueProofsModel", name := "setEye", desc := "(I)I" } : Jvm.MethodName) ({ cls := "TongueProofsModel", name := "setEye", desc := "(I)I" } : Jvm.MethodName)) ∈ lw_all := lw_g (lw_at lw_m10 174 rfl) rfl
theorem q2445 : (Jvm.Cond.code ({ cls := "TongueProofsModel", name := "setEye", desc := "(I)I" } : Jvm.MethodName) prog_14_method_126_code (3 : Nat) (Option.some Jvm.ClassFile.FieldType.int)) ∈ lw_all := lw_g (lw_at lw_m10 175 rfl) rfl
theorem q2447 : (Jvm.Cond.instanceMethod ({ cls := "TongueProofsModel", name := "errorCode", desc := "()I" } : Jvm.MethodName)) ∈ lw_all := lw_g (lw_at lw_m10 177 rfl) rfl
theorem q2448 : (Jvm.Cond.selects "TongueProofsModel" ({ cls := "TongueProofsModel", name := "errorCode", desc := "()I" } : Jvm.MethodName) ({ cls := "TongueProofsModel", name := "errorCode", desc := "()I" } : Jvm.MethodName)) ∈ lw_all := lw_g (lw_at lw_m10 178 rfl) rfl
theorem q2449 : (Jvm.Cond.code ({ cls := "TongueProofsModel", name := "errorCode", desc := "()I" } : Jvm.MethodName) prog_14_method_71_code (1 : Nat) (Option.some Jvm.ClassFile.FieldType.int)) ∈ lw_all := lw_g (lw_at lw_m10 179 rfl) rfl
theorem q2451 : (Jvm.Cond.instanceMethod ({ cls := "TongueProofsModel", name := "errorPosition", desc := "()I" } : Jvm.MethodName)) ∈ lw_all := lw_g (lw_at lw_m10 181 rfl) rfl
theorem q2452 : (Jvm.Cond.selects "TongueProofsModel" ({ cls := "TongueProofsModel", name := "errorPosition", desc := "()I" } : Jvm.MethodName) ({ cls := "TongueProofsModel", name := "errorPosition", desc := "()I" } : Jvm.MethodName)) ∈ lw_all := lw_g (lw_at lw_m10 182 rfl) rfl
theorem q2453 : (Jvm.Cond.code ({ cls := "TongueProofsModel", name := "errorPosition", desc := "()I" } : Jvm.MethodName) prog_14_method_72_code (1 : Nat) (Option.some Jvm.ClassFile.FieldType.int)) ∈ lw_all := lw_g (lw_at lw_m10 183 rfl) rfl
theorem q2455 : (Jvm.Cond.instanceMethod ({ cls := "TongueProofsModel", name := "count", desc := "(I)I" } : Jvm.MethodName)) ∈ lw_all := lw_g (lw_at lw_m10 185 rfl) rfl
theorem q2456 : (Jvm.Cond.selects "TongueProofsModel" ({ cls := "TongueProofsModel", name := "count", desc := "(I)I" } : Jvm.MethodName) ({ cls := "TongueProofsModel", name := "count", desc := "(I)I" } : Jvm.MethodName)) ∈ lw_all := lw_g (lw_at lw_m10 186 rfl) rfl
theorem q2457 : (Jvm.Cond.code ({ cls := "TongueProofsModel", name := "count", desc := "(I)I" } : Jvm.MethodName) prog_14_method_78_code (2 : Nat) (Option.some Jvm.ClassFile.FieldType.int)) ∈ lw_all := lw_g (lw_at lw_m10 187 rfl) rfl
theorem q2458 : (Jvm.Cond.methodLink "TongueProofsModel" (301 : Nat) ({ cls := "TongueProofsModel", name := "allFacts", desc := "()I" } : Jvm.MethodName)) ∈ lw_all := lw_g (lw_at lw_m10 188 rfl) rfl
theorem q2459 : (Jvm.Cond.privateMethod ({ cls := "TongueProofsModel", name := "allFacts", desc := "()I" } : Jvm.MethodName)) ∈ lw_tbl := lw_at lw_m10 189 rfl
theorem q2460 : (Jvm.Cond.instanceMethod ({ cls := "TongueProofsModel", name := "allFacts", desc := "()I" } : Jvm.MethodName)) ∈ lw_all := lw_g (lw_at lw_m10 190 rfl) rfl
theorem q2461 : (Jvm.Cond.code ({ cls := "TongueProofsModel", name := "allFacts", desc := "()I" } : Jvm.MethodName) prog_14_method_32_code (3 : Nat) (Option.some Jvm.ClassFile.FieldType.int)) ∈ lw_all := lw_g (lw_at lw_m10 191 rfl) rfl
theorem q2462 : (Jvm.Cond.methodLink "TongueProofsModel" (111 : Nat) ({ cls := "TongueProofsModel", name := "factsWith", desc := "(I)I" } : Jvm.MethodName)) ∈ lw_all := lw_g (lw_at lw_m10 192 rfl) rfl
theorem q2463 : (Jvm.Cond.privateMethod ({ cls := "TongueProofsModel", name := "factsWith", desc := "(I)I" } : Jvm.MethodName)) ∈ lw_tbl := lw_at lw_m10 193 rfl
theorem q2464 : (Jvm.Cond.instanceMethod ({ cls := "TongueProofsModel", name := "factsWith", desc := "(I)I" } : Jvm.MethodName)) ∈ lw_all := lw_g (lw_at lw_m10 194 rfl) rfl
theorem q2465 : (Jvm.Cond.code ({ cls := "TongueProofsModel", name := "factsWith", desc := "(I)I" } : Jvm.MethodName) prog_14_method_31_code (4 : Nat) (Option.some Jvm.ClassFile.FieldType.int)) ∈ lw_all := lw_g (lw_at lw_m10 195 rfl) rfl
theorem q2466 : (Jvm.Cond.methodLink "TongueProofsModel" (304 : Nat) ({ cls := "TongueProofsModel", name := "allStones", desc := "()I" } : Jvm.MethodName)) ∈ lw_all := lw_g (lw_at lw_m10 196 rfl) rfl
theorem q2467 : (Jvm.Cond.privateMethod ({ cls := "TongueProofsModel", name := "allStones", desc := "()I" } : Jvm.MethodName)) ∈ lw_tbl := lw_at lw_m10 197 rfl
theorem q2468 : (Jvm.Cond.instanceMethod ({ cls := "TongueProofsModel", name := "allStones", desc := "()I" } : Jvm.MethodName)) ∈ lw_all := lw_g (lw_at lw_m10 198 rfl) rfl
theorem q2469 : (Jvm.Cond.code ({ cls := "TongueProofsModel", name := "allStones", desc := "()I" } : Jvm.MethodName) prog_14_method_77_code (3 : Nat) (Option.some Jvm.ClassFile.FieldType.int)) ∈ lw_all := lw_g (lw_at lw_m10 199 rfl) rfl
theorem q2471 : (Jvm.Cond.instanceMethod ({ cls := "TongueProofsModel", name := "tally", desc := "(I)I" } : Jvm.MethodName)) ∈ lw_all := lw_g (lw_at lw_m10 201 rfl) rfl
theorem q2472 : (Jvm.Cond.selects "TongueProofsModel" ({ cls := "TongueProofsModel", name := "tally", desc := "(I)I" } : Jvm.MethodName) ({ cls := "TongueProofsModel", name := "tally", desc := "(I)I" } : Jvm.MethodName)) ∈ lw_all := lw_g (lw_at lw_m10 202 rfl) rfl
theorem q2473 : (Jvm.Cond.code ({ cls := "TongueProofsModel", name := "tally", desc := "(I)I" } : Jvm.MethodName) prog_14_method_79_code (2 : Nat) (Option.some Jvm.ClassFile.FieldType.int)) ∈ lw_all := lw_g (lw_at lw_m10 203 rfl) rfl
theorem q2475 : (Jvm.Cond.instanceMethod ({ cls := "TongueProofsModel", name := "trader", desc := "(II)I" } : Jvm.MethodName)) ∈ lw_all := lw_g (lw_at lw_m10 205 rfl) rfl
theorem q2476 : (Jvm.Cond.selects "TongueProofsModel" ({ cls := "TongueProofsModel", name := "trader", desc := "(II)I" } : Jvm.MethodName) ({ cls := "TongueProofsModel", name := "trader", desc := "(II)I" } : Jvm.MethodName)) ∈ lw_all := lw_g (lw_at lw_m10 206 rfl) rfl
theorem q2477 : (Jvm.Cond.code ({ cls := "TongueProofsModel", name := "trader", desc := "(II)I" } : Jvm.MethodName) prog_14_method_81_code (3 : Nat) (Option.some Jvm.ClassFile.FieldType.int)) ∈ lw_all := lw_g (lw_at lw_m10 207 rfl) rfl
theorem q2478 : (Jvm.Cond.methodLink "TongueProofsModel" (310 : Nat) ({ cls := "TongueProofsModel", name := "ownedBy", desc := "(IZ)I" } : Jvm.MethodName)) ∈ lw_all := lw_g (lw_at lw_m10 208 rfl) rfl
theorem q2479 : (Jvm.Cond.privateMethod ({ cls := "TongueProofsModel", name := "ownedBy", desc := "(IZ)I" } : Jvm.MethodName)) ∈ lw_tbl := lw_at lw_m10 209 rfl
theorem q2480 : (Jvm.Cond.instanceMethod ({ cls := "TongueProofsModel", name := "ownedBy", desc := "(IZ)I" } : Jvm.MethodName)) ∈ lw_all := lw_g (lw_at lw_m10 210 rfl) rfl
theorem q2481 : (Jvm.Cond.code ({ cls := "TongueProofsModel", name := "ownedBy", desc := "(IZ)I" } : Jvm.MethodName) prog_14_method_80_code (5 : Nat) (Option.some Jvm.ClassFile.FieldType.int)) ∈ lw_all := lw_g (lw_at lw_m10 211 rfl) rfl
theorem q2482 : (Jvm.Cond.methodLink "TongueProofsModel" (314 : Nat) ({ cls := "TongueProofsModel", name := "claimsOf", desc := "(II)I" } : Jvm.MethodName)) ∈ lw_all := lw_g (lw_at lw_m10 212 rfl) rfl
theorem q2483 : (Jvm.Cond.privateMethod ({ cls := "TongueProofsModel", name := "claimsOf", desc := "(II)I" } : Jvm.MethodName)) ∈ lw_tbl := lw_at lw_m10 213 rfl
theorem q2484 : (Jvm.Cond.instanceMethod ({ cls := "TongueProofsModel", name := "claimsOf", desc := "(II)I" } : Jvm.MethodName)) ∈ lw_all := lw_g (lw_at lw_m10 214 rfl) rfl
theorem q2485 : (Jvm.Cond.code ({ cls := "TongueProofsModel", name := "claimsOf", desc := "(II)I" } : Jvm.MethodName) prog_14_method_48_code (5 : Nat) (Option.some Jvm.ClassFile.FieldType.int)) ∈ lw_all := lw_g (lw_at lw_m10 215 rfl) rfl
theorem q2487 : (Jvm.Cond.instanceMethod ({ cls := "TongueProofsModel", name := "heap", desc := "(II)I" } : Jvm.MethodName)) ∈ lw_all := lw_g (lw_at lw_m10 217 rfl) rfl
theorem q2488 : (Jvm.Cond.selects "TongueProofsModel" ({ cls := "TongueProofsModel", name := "heap", desc := "(II)I" } : Jvm.MethodName) ({ cls := "TongueProofsModel", name := "heap", desc := "(II)I" } : Jvm.MethodName)) ∈ lw_all := lw_g (lw_at lw_m10 218 rfl) rfl
theorem q2489 : (Jvm.Cond.code ({ cls := "TongueProofsModel", name := "heap", desc := "(II)I" } : Jvm.MethodName) prog_14_method_84_code (3 : Nat) (Option.some Jvm.ClassFile.FieldType.int)) ∈ lw_all := lw_g (lw_at lw_m10 219 rfl) rfl
theorem q2490 : (Jvm.Cond.methodLink "TongueProofsModel" (322 : Nat) ({ cls := "TongueProofsModel", name := "openWith", desc := "(I)I" } : Jvm.MethodName)) ∈ lw_all := lw_g (lw_at lw_m10 220 rfl) rfl
theorem q2491 : (Jvm.Cond.privateMethod ({ cls := "TongueProofsModel", name := "openWith", desc := "(I)I" } : Jvm.MethodName)) ∈ lw_tbl := lw_at lw_m10 221 rfl
theorem q2492 : (Jvm.Cond.instanceMethod ({ cls := "TongueProofsModel", name := "openWith", desc := "(I)I" } : Jvm.MethodName)) ∈ lw_all := lw_g (lw_at lw_m10 222 rfl) rfl
theorem q2493 : (Jvm.Cond.code ({ cls := "TongueProofsModel", name := "openWith", desc := "(I)I" } : Jvm.MethodName) prog_14_method_82_code (4 : Nat) (Option.some Jvm.ClassFile.FieldType.int)) ∈ lw_all := lw_g (lw_at lw_m10 223 rfl) rfl
theorem q2494 : (Jvm.Cond.methodLink "TongueProofsModel" (120 : Nat) ({ cls := "TongueProofsModel", name := "knownTo", desc := "(I)I" } : Jvm.MethodName)) ∈ lw_all := lw_g (lw_at lw_m10 224 rfl) rfl
theorem q2495 : (Jvm.Cond.privateMethod ({ cls := "TongueProofsModel", name := "knownTo", desc := "(I)I" } : Jvm.MethodName)) ∈ lw_tbl := lw_at lw_m10 225 rfl
theorem q2496 : (Jvm.Cond.instanceMethod ({ cls := "TongueProofsModel", name := "knownTo", desc := "(I)I" } : Jvm.MethodName)) ∈ lw_all := lw_g (lw_at lw_m10 226 rfl) rfl
theorem q2497 : (Jvm.Cond.code ({ cls := "TongueProofsModel", name := "knownTo", desc := "(I)I" } : Jvm.MethodName) prog_14_method_35_code (4 : Nat) (Option.some Jvm.ClassFile.FieldType.int)) ∈ lw_all := lw_g (lw_at lw_m10 227 rfl) rfl
theorem q2498 : (Jvm.Cond.methodLink "TongueProofsModel" (325 : Nat) ({ cls := "TongueProofsModel", name := "greatestRow", desc := "(I)I" } : Jvm.MethodName)) ∈ lw_all := lw_g (lw_at lw_m10 228 rfl) rfl
theorem q2499 : (Jvm.Cond.privateMethod ({ cls := "TongueProofsModel", name := "greatestRow", desc := "(I)I" } : Jvm.MethodName)) ∈ lw_tbl := lw_at lw_m10 229 rfl
theorem q2500 : (Jvm.Cond.instanceMethod ({ cls := "TongueProofsModel", name := "greatestRow", desc := "(I)I" } : Jvm.MethodName)) ∈ lw_all := lw_g (lw_at lw_m10 230 rfl) rfl
theorem q2501 : (Jvm.Cond.code ({ cls := "TongueProofsModel", name := "greatestRow", desc := "(I)I" } : Jvm.MethodName) prog_14_method_83_code (4 : Nat) (Option.some Jvm.ClassFile.FieldType.int)) ∈ lw_all := lw_g (lw_at lw_m10 231 rfl) rfl
theorem q2503 : (Jvm.Cond.instanceMethod ({ cls := "TongueProofsModel", name := "row", desc := "(III)I" } : Jvm.MethodName)) ∈ lw_all := lw_g (lw_at lw_m10 233 rfl) rfl
theorem q2504 : (Jvm.Cond.selects "TongueProofsModel" ({ cls := "TongueProofsModel", name := "row", desc := "(III)I" } : Jvm.MethodName) ({ cls := "TongueProofsModel", name := "row", desc := "(III)I" } : Jvm.MethodName)) ∈ lw_all := lw_g (lw_at lw_m10 234 rfl) rfl
theorem q2505 : (Jvm.Cond.code ({ cls := "TongueProofsModel", name := "row", desc := "(III)I" } : Jvm.MethodName) prog_14_method_85_code (4 : Nat) (Option.some Jvm.ClassFile.FieldType.int)) ∈ lw_all := lw_g (lw_at lw_m10 235 rfl) rfl
theorem q2507 : (Jvm.Cond.instanceMethod ({ cls := "TongueProofsModel", name := "claim", desc := "(II)I" } : Jvm.MethodName)) ∈ lw_all := lw_g (lw_at lw_m10 237 rfl) rfl
theorem q2508 : (Jvm.Cond.selects "TongueProofsModel" ({ cls := "TongueProofsModel", name := "claim", desc := "(II)I" } : Jvm.MethodName) ({ cls := "TongueProofsModel", name := "claim", desc := "(II)I" } : Jvm.MethodName)) ∈ lw_all := lw_g (lw_at lw_m10 238 rfl) rfl
theorem q2509 : (Jvm.Cond.code ({ cls := "TongueProofsModel", name := "claim", desc := "(II)I" } : Jvm.MethodName) prog_14_method_86_code (3 : Nat) (Option.some Jvm.ClassFile.FieldType.int)) ∈ lw_all := lw_g (lw_at lw_m10 239 rfl) rfl
theorem q2511 : (Jvm.Cond.instanceMethod ({ cls := "TongueProofsModel", name := "paired", desc := "(III)I" } : Jvm.MethodName)) ∈ lw_all := lw_g (lw_at lw_m11 1 rfl) rfl
theorem q2512 : (Jvm.Cond.selects "TongueProofsModel" ({ cls := "TongueProofsModel", name := "paired", desc := "(III)I" } : Jvm.MethodName) ({ cls := "TongueProofsModel", name := "paired", desc := "(III)I" } : Jvm.MethodName)) ∈ lw_all := lw_g (lw_at lw_m11 2 rfl) rfl
theorem q2513 : (Jvm.Cond.code ({ cls := "TongueProofsModel", name := "paired", desc := "(III)I" } : Jvm.MethodName) prog_14_method_87_code (5 : Nat) (Option.some Jvm.ClassFile.FieldType.int)) ∈ lw_all := lw_g (lw_at lw_m11 3 rfl) rfl
theorem q2515 : (Jvm.Cond.instanceMethod ({ cls := "TongueProofsModel", name := "ranked", desc := "(I)I" } : Jvm.MethodName)) ∈ lw_all := lw_g (lw_at lw_m11 5 rfl) rfl
theorem q2516 : (Jvm.Cond.selects "TongueProofsModel" ({ cls := "TongueProofsModel", name := "ranked", desc := "(I)I" } : Jvm.MethodName) ({ cls := "TongueProofsModel", name := "ranked", desc := "(I)I" } : Jvm.MethodName)) ∈ lw_all := lw_g (lw_at lw_m11 6 rfl) rfl
theorem q2517 : (Jvm.Cond.code ({ cls := "TongueProofsModel", name := "ranked", desc := "(I)I" } : Jvm.MethodName) prog_14_method_88_code (5 : Nat) (Option.some Jvm.ClassFile.FieldType.int)) ∈ lw_all := lw_g (lw_at lw_m11 7 rfl) rfl
theorem q2519 : (Jvm.Cond.instanceMethod ({ cls := "TongueProofsModel", name := "byEye", desc := "(II)I" } : Jvm.MethodName)) ∈ lw_all := lw_g (lw_at lw_m11 9 rfl) rfl
theorem q2520 : (Jvm.Cond.selects "TongueProofsModel" ({ cls := "TongueProofsModel", name := "byEye", desc := "(II)I" } : Jvm.MethodName) ({ cls := "TongueProofsModel", name := "byEye", desc := "(II)I" } : Jvm.MethodName)) ∈ lw_all := lw_g (lw_at lw_m11 10 rfl) rfl
theorem q2521 : (Jvm.Cond.code ({ cls := "TongueProofsModel", name := "byEye", desc := "(II)I" } : Jvm.MethodName) prog_14_method_89_code (3 : Nat) (Option.some Jvm.ClassFile.FieldType.int)) ∈ lw_all := lw_g (lw_at lw_m11 11 rfl) rfl
theorem q2523 : (Jvm.Cond.instanceMethod ({ cls := "TongueProofsModel", name := "errors", desc := "()I" } : Jvm.MethodName)) ∈ lw_all := lw_g (lw_at lw_m11 13 rfl) rfl
theorem q2524 : (Jvm.Cond.selects "TongueProofsModel" ({ cls := "TongueProofsModel", name := "errors", desc := "()I" } : Jvm.MethodName) ({ cls := "TongueProofsModel", name := "errors", desc := "()I" } : Jvm.MethodName)) ∈ lw_all := lw_g (lw_at lw_m11 14 rfl) rfl
theorem q2525 : (Jvm.Cond.code ({ cls := "TongueProofsModel", name := "errors", desc := "()I" } : Jvm.MethodName) prog_14_method_90_code (1 : Nat) (Option.some Jvm.ClassFile.FieldType.int)) ∈ lw_all := lw_g (lw_at lw_m11 15 rfl) rfl
theorem q2526 : (Jvm.Cond.methodLink "TongueProofsModel" (337 : Nat) ({ cls := "TongueProofsModel", name := "allErrors", desc := "()I" } : Jvm.MethodName)) ∈ lw_all := lw_g (lw_at lw_m11 16 rfl) rfl
theorem q2527 : (Jvm.Cond.privateMethod ({ cls := "TongueProofsModel", name := "allErrors", desc := "()I" } : Jvm.MethodName)) ∈ lw_tbl := lw_at lw_m11 17 rfl
theorem q2528 : (Jvm.Cond.instanceMethod ({ cls := "TongueProofsModel", name := "allErrors", desc := "()I" } : Jvm.MethodName)) ∈ lw_all := lw_g (lw_at lw_m11 18 rfl) rfl
theorem q2529 : (Jvm.Cond.code ({ cls := "TongueProofsModel", name := "allErrors", desc := "()I" } : Jvm.MethodName) prog_14_method_28_code (4 : Nat) (Option.some Jvm.ClassFile.FieldType.int)) ∈ lw_all := lw_g (lw_at lw_m11 19 rfl) rfl
theorem q2530 : (Jvm.Cond.methodLink "TongueProofsModel" (95 : Nat) ({ cls := "TongueProofsModel", name := "wordBySize", desc := "(II)I" } : Jvm.MethodName)) ∈ lw_all := lw_g (lw_at lw_m11 20 rfl) rfl
theorem q2531 : (Jvm.Cond.privateMethod ({ cls := "TongueProofsModel", name := "wordBySize", desc := "(II)I" } : Jvm.MethodName)) ∈ lw_tbl := lw_at lw_m11 21 rfl
theorem q2532 : (Jvm.Cond.instanceMethod ({ cls := "TongueProofsModel", name := "wordBySize", desc := "(II)I" } : Jvm.MethodName)) ∈ lw_all := lw_g (lw_at lw_m11 22 rfl) rfl
theorem q2533 : (Jvm.Cond.code ({ cls := "TongueProofsModel", name := "wordBySize", desc := "(II)I" } : Jvm.MethodName) prog_14_method_26_code (3 : Nat) (Option.some Jvm.ClassFile.FieldType.int)) ∈ lw_all := lw_g (lw_at lw_m11 23 rfl) rfl
theorem q2535 : (Jvm.Cond.instanceMethod ({ cls := "TongueProofsModel", name := "fact", desc := "(II)I" } : Jvm.MethodName)) ∈ lw_all := lw_g (lw_at lw_m11 25 rfl) rfl
theorem q2536 : (Jvm.Cond.selects "TongueProofsModel" ({ cls := "TongueProofsModel", name := "fact", desc := "(II)I" } : Jvm.MethodName) ({ cls := "TongueProofsModel", name := "fact", desc := "(II)I" } : Jvm.MethodName)) ∈ lw_all := lw_g (lw_at lw_m11 26 rfl) rfl
theorem q2537 : (Jvm.Cond.code ({ cls := "TongueProofsModel", name := "fact", desc := "(II)I" } : Jvm.MethodName) prog_14_method_91_code (3 : Nat) (Option.some Jvm.ClassFile.FieldType.int)) ∈ lw_all := lw_g (lw_at lw_m11 27 rfl) rfl
theorem q2539 : (Jvm.Cond.instanceMethod ({ cls := "TongueProofsModel", name := "known", desc := "(II)I" } : Jvm.MethodName)) ∈ lw_all := lw_g (lw_at lw_m11 29 rfl) rfl
theorem q2540 : (Jvm.Cond.selects "TongueProofsModel" ({ cls := "TongueProofsModel", name := "known", desc := "(II)I" } : Jvm.MethodName) ({ cls := "TongueProofsModel", name := "known", desc := "(II)I" } : Jvm.MethodName)) ∈ lw_all := lw_g (lw_at lw_m11 30 rfl) rfl
theorem q2541 : (Jvm.Cond.code ({ cls := "TongueProofsModel", name := "known", desc := "(II)I" } : Jvm.MethodName) prog_14_method_92_code (3 : Nat) (Option.some Jvm.ClassFile.FieldType.int)) ∈ lw_all := lw_g (lw_at lw_m11 31 rfl) rfl
theorem q2543 : (Jvm.Cond.instanceMethod ({ cls := "TongueProofsModel", name := "why", desc := "(III)I" } : Jvm.MethodName)) ∈ lw_all := lw_g (lw_at lw_m11 33 rfl) rfl
theorem q2544 : (Jvm.Cond.selects "TongueProofsModel" ({ cls := "TongueProofsModel", name := "why", desc := "(III)I" } : Jvm.MethodName) ({ cls := "TongueProofsModel", name := "why", desc := "(III)I" } : Jvm.MethodName)) ∈ lw_all := lw_g (lw_at lw_m11 34 rfl) rfl
theorem q2545 : (Jvm.Cond.code ({ cls := "TongueProofsModel", name := "why", desc := "(III)I" } : Jvm.MethodName) prog_14_method_94_code (7 : Nat) (Option.some Jvm.ClassFile.FieldType.int)) ∈ lw_all := lw_g (lw_at lw_m11 35 rfl) rfl
theorem q2546 : (Jvm.Cond.methodLink "TongueProofsModel" (340 : Nat) ({ cls := "TongueProofsModel", name := "secondOn", desc := "(II)I" } : Jvm.MethodName)) ∈ lw_all := lw_g (lw_at lw_m11 36 rfl) rfl
theorem q2547 : (Jvm.Cond.privateMethod ({ cls := "TongueProofsModel", name := "secondOn", desc := "(II)I" } : Jvm.MethodName)) ∈ lw_tbl := lw_at lw_m11 37 rfl
theorem q2548 : (Jvm.Cond.instanceMethod ({ cls := "TongueProofsModel", name := "secondOn", desc := "(II)I" } : Jvm.MethodName)) ∈ lw_all := lw_g (lw_at lw_m11 38 rfl) rfl
theorem q2549 : (Jvm.Cond.code ({ cls := "TongueProofsModel", name := "secondOn", desc := "(II)I" } : Jvm.MethodName) prog_14_method_93_code (4 : Nat) (Option.some Jvm.ClassFile.FieldType.int)) ∈ lw_all := lw_g (lw_at lw_m11 39 rfl) rfl
theorem q2551 : (Jvm.Cond.instanceMethod ({ cls := "TongueProofsModel", name := "knownPairs", desc := "()I" } : Jvm.MethodName)) ∈ lw_all := lw_g (lw_at lw_m11 41 rfl) rfl
theorem q2552 : (Jvm.Cond.selects "TongueProofsModel" ({ cls := "TongueProofsModel", name := "knownPairs", desc := "()I" } : Jvm.MethodName) ({ cls := "TongueProofsModel", name := "knownPairs", desc := "()I" } : Jvm.MethodName)) ∈ lw_all := lw_g (lw_at lw_m11 42 rfl) rfl
theorem q2553 : (Jvm.Cond.code ({ cls := "TongueProofsModel", name := "knownPairs", desc := "()I" } : Jvm.MethodName) prog_14_method_95_code (1 : Nat) (Option.some Jvm.ClassFile.FieldType.int)) ∈ lw_all := lw_g (lw_at lw_m11 43 rfl) rfl
theorem q2554 : (Jvm.Cond.methodLink "TongueProofsModel" (343 : Nat) ({ cls := "TongueProofsModel", name := "allKnown", desc := "()I" } : Jvm.MethodName)) ∈ lw_all := lw_g (lw_at lw_m11 44 rfl) rfl
theorem q2555 : (Jvm.Cond.privateMethod ({ cls := "TongueProofsModel", name := "allKnown", desc := "()I" } : Jvm.MethodName)) ∈ lw_tbl := lw_at lw_m11 45 rfl
theorem q2556 : (Jvm.Cond.instanceMethod ({ cls := "TongueProofsModel", name := "allKnown", desc := "()I" } : Jvm.MethodName)) ∈ lw_all := lw_g (lw_at lw_m11 46 rfl) rfl
theorem q2557 : (Jvm.Cond.code ({ cls := "TongueProofsModel", name := "allKnown", desc := "()I" } : Jvm.MethodName) prog_14_method_36_code (3 : Nat) (Option.some Jvm.ClassFile.FieldType.int)) ∈ lw_all := lw_g (lw_at lw_m11 47 rfl) rfl
theorem q2559 : (Jvm.Cond.instanceMethod ({ cls := "TongueProofsModel", name := "seemsRight", desc := "(I)Z" } : Jvm.MethodName)) ∈ lw_all := lw_g (lw_at lw_m11 49 rfl) rfl
theorem q2560 : (Jvm.Cond.selects "TongueProofsModel" ({ cls := "TongueProofsModel", name := "seemsRight", desc := "(I)Z" } : Jvm.MethodName) ({ cls := "TongueProofsModel", name := "seemsRight", desc := "(I)Z" } : Jvm.MethodName)) ∈ lw_all := lw_g (lw_at lw_m11 50 rfl) rfl
theorem q2561 : (Jvm.Cond.code ({ cls := "TongueProofsModel", name := "seemsRight", desc := "(I)Z" } : Jvm.MethodName) prog_14_method_96_code (2 : Nat) (Option.some Jvm.ClassFile.FieldType.boolean)) ∈ lw_all := lw_g (lw_at lw_m11 51 rfl) rfl
theorem q2563 : (Jvm.Cond.instanceMethod ({ cls := "TongueProofsModel", name := "nextPair", desc := "(II)I" } : Jvm.MethodName)) ∈ lw_all := lw_g (lw_at lw_m11 53 rfl) rfl
theorem q2564 : (Jvm.Cond.selects "TongueProofsModel" ({ cls := "TongueProofsModel", name := "nextPair", desc := "(II)I" } : Jvm.MethodName) ({ cls := "TongueProofsModel", name := "nextPair", desc := "(II)I" } : Jvm.MethodName)) ∈ lw_all := lw_g (lw_at lw_m11 54 rfl) rfl
theorem q2565 : (Jvm.Cond.code ({ cls := "TongueProofsModel", name := "nextPair", desc := "(II)I" } : Jvm.MethodName) prog_14_method_98_code (5 : Nat) (Option.some Jvm.ClassFile.FieldType.int)) ∈ lw_all := lw_g (lw_at lw_m11 55 rfl) rfl
theorem q2566 : (Jvm.Cond.methodLink "TongueProofsModel" (346 : Nat) ({ cls := "TongueProofsModel", name := "rowAt", desc := "(III)I" } : Jvm.MethodName)) ∈ lw_all := lw_g (lw_at lw_m11 56 rfl) rfl
theorem q2567 : (Jvm.Cond.privateMethod ({ cls := "TongueProofsModel", name := "rowAt", desc := "(III)I" } : Jvm.MethodName)) ∈ lw_tbl := lw_at lw_m11 57 rfl
theorem q2568 : (Jvm.Cond.instanceMethod ({ cls := "TongueProofsModel", name := "rowAt", desc := "(III)I" } : Jvm.MethodName)) ∈ lw_all := lw_g (lw_at lw_m11 58 rfl) rfl
theorem q2569 : (Jvm.Cond.code ({ cls := "TongueProofsModel", name := "rowAt", desc := "(III)I" } : Jvm.MethodName) prog_14_method_97_code (6 : Nat) (Option.some Jvm.ClassFile.FieldType.int)) ∈ lw_all := lw_g (lw_at lw_m11 59 rfl) rfl
theorem q2571 : (Jvm.Cond.instanceMethod ({ cls := "TongueProofsModel", name := "group", desc := "(I)I" } : Jvm.MethodName)) ∈ lw_all := lw_g (lw_at lw_m11 61 rfl) rfl
theorem q2572 : (Jvm.Cond.selects "TongueProofsModel" ({ cls := "TongueProofsModel", name := "group", desc := "(I)I" } : Jvm.MethodName) ({ cls := "TongueProofsModel", name := "group", desc := "(I)I" } : Jvm.MethodName)) ∈ lw_all := lw_g (lw_at lw_m11 62 rfl) rfl
theorem q2573 : (Jvm.Cond.code ({ cls := "TongueProofsModel", name := "group", desc := "(I)I" } : Jvm.MethodName) prog_14_method_100_code (2 : Nat) (Option.some Jvm.ClassFile.FieldType.int)) ∈ lw_all := lw_g (lw_at lw_m11 63 rfl) rfl
theorem q2574 : (Jvm.Cond.methodLink "TongueProofsModel" (349 : Nat) ({ cls := "TongueProofsModel", name := "groupOf", desc := "(I)I" } : Jvm.MethodName)) ∈ lw_all := lw_g (lw_at lw_m11 64 rfl) rfl
theorem q2575 : (Jvm.Cond.privateMethod ({ cls := "TongueProofsModel", name := "groupOf", desc := "(I)I" } : Jvm.MethodName)) ∈ lw_tbl := lw_at lw_m11 65 rfl
theorem q2576 : (Jvm.Cond.instanceMethod ({ cls := "TongueProofsModel", name := "groupOf", desc := "(I)I" } : Jvm.MethodName)) ∈ lw_all := lw_g (lw_at lw_m11 66 rfl) rfl
theorem q2577 : (Jvm.Cond.code ({ cls := "TongueProofsModel", name := "groupOf", desc := "(I)I" } : Jvm.MethodName) prog_14_method_99_code (3 : Nat) (Option.some Jvm.ClassFile.FieldType.int)) ∈ lw_all := lw_g (lw_at lw_m11 67 rfl) rfl
theorem q2579 : (Jvm.Cond.instanceMethod ({ cls := "TongueProofsModel", name := "groups", desc := "()I" } : Jvm.MethodName)) ∈ lw_all := lw_g (lw_at lw_m11 69 rfl) rfl
theorem q2580 : (Jvm.Cond.selects "TongueProofsModel" ({ cls := "TongueProofsModel", name := "groups", desc := "()I" } : Jvm.MethodName) ({ cls := "TongueProofsModel", name := "groups", desc := "()I" } : Jvm.MethodName)) ∈ lw_all := lw_g (lw_at lw_m11 70 rfl) rfl
theorem q2581 : (Jvm.Cond.code ({ cls := "TongueProofsModel", name := "groups", desc := "()I" } : Jvm.MethodName) prog_14_method_101_code (3 : Nat) (Option.some Jvm.ClassFile.FieldType.int)) ∈ lw_all := lw_g (lw_at lw_m11 71 rfl) rfl
theorem q2583 : (Jvm.Cond.instanceMethod ({ cls := "TongueProofsModel", name := "longestRow", desc := "()I" } : Jvm.MethodName)) ∈ lw_all := lw_g (lw_at lw_m11 73 rfl) rfl
theorem q2584 : (Jvm.Cond.selects "TongueProofsModel" ({ cls := "TongueProofsModel", name := "longestRow", desc := "()I" } : Jvm.MethodName) ({ cls := "TongueProofsModel", name := "longestRow", desc := "()I" } : Jvm.MethodName)) ∈ lw_all := lw_g (lw_at lw_m11 74 rfl) rfl
theorem q2585 : (Jvm.Cond.code ({ cls := "TongueProofsModel", name := "longestRow", desc := "()I" } : Jvm.MethodName) prog_14_method_102_code (5 : Nat) (Option.some Jvm.ClassFile.FieldType.int)) ∈ lw_all := lw_g (lw_at lw_m11 75 rfl) rfl
theorem q2587 : (Jvm.Cond.instanceMethod ({ cls := "TongueProofsModel", name := "swappable", desc := "()I" } : Jvm.MethodName)) ∈ lw_all := lw_g (lw_at lw_m11 77 rfl) rfl
theorem q2588 : (Jvm.Cond.selects "TongueProofsModel" ({ cls := "TongueProofsModel", name := "swappable", desc := "()I" } : Jvm.MethodName) ({ cls := "TongueProofsModel", name := "swappable", desc := "()I" } : Jvm.MethodName)) ∈ lw_all := lw_g (lw_at lw_m11 78 rfl) rfl
theorem q2589 : (Jvm.Cond.code ({ cls := "TongueProofsModel", name := "swappable", desc := "()I" } : Jvm.MethodName) prog_14_method_103_code (4 : Nat) (Option.some Jvm.ClassFile.FieldType.int)) ∈ lw_all := lw_g (lw_at lw_m11 79 rfl) rfl
theorem q2591 : (Jvm.Cond.instanceMethod ({ cls := "TongueProofsModel", name := "unproved", desc := "(I)I" } : Jvm.MethodName)) ∈ lw_all := lw_g (lw_at lw_m11 81 rfl) rfl
theorem q2592 : (Jvm.Cond.selects "TongueProofsModel" ({ cls := "TongueProofsModel", name := "unproved", desc := "(I)I" } : Jvm.MethodName) ({ cls := "TongueProofsModel", name := "unproved", desc := "(I)I" } : Jvm.MethodName)) ∈ lw_all := lw_g (lw_at lw_m11 82 rfl) rfl
theorem q2593 : (Jvm.Cond.code ({ cls := "TongueProofsModel", name := "unproved", desc := "(I)I" } : Jvm.MethodName) prog_14_method_104_code (5 : Nat) (Option.some Jvm.ClassFile.FieldType.int)) ∈ lw_all := lw_g (lw_at lw_m11 83 rfl) rfl
theorem q2595 : (Jvm.Cond.instanceMethod ({ cls := "TongueProofsModel", name := "turnsLeft", desc := "(I)I" } : Jvm.MethodName)) ∈ lw_all := lw_g (lw_at lw_m11 85 rfl) rfl
theorem q2596 : (Jvm.Cond.selects "TongueProofsModel" ({ cls := "TongueProofsModel", name := "turnsLeft", desc := "(I)I" } : Jvm.MethodName) ({ cls := "TongueProofsModel", name := "turnsLeft", desc := "(I)I" } : Jvm.MethodName)) ∈ lw_all := lw_g (lw_at lw_m11 86 rfl) rfl
theorem q2597 : (Jvm.Cond.code ({ cls := "TongueProofsModel", name := "turnsLeft", desc := "(I)I" } : Jvm.MethodName) prog_14_method_105_code (2 : Nat) (Option.some Jvm.ClassFile.FieldType.int)) ∈ lw_all := lw_g (lw_at lw_m11 87 rfl) rfl
theorem q2599 : (Jvm.Cond.instanceMethod ({ cls := "TongueProofsModel", name := "nearest", desc := "(I)I" } : Jvm.MethodName)) ∈ lw_all := lw_g (lw_at lw_m11 89 rfl) rfl
theorem q2600 : (Jvm.Cond.selects "TongueProofsModel" ({ cls := "TongueProofsModel", name := "nearest", desc := "(I)I" } : Jvm.MethodName) ({ cls := "TongueProofsModel", name := "nearest", desc := "(I)I" } : Jvm.MethodName)) ∈ lw_all := lw_g (lw_at lw_m11 90 rfl) rfl
theorem q2601 : (Jvm.Cond.code ({ cls := "TongueProofsModel", name := "nearest", desc := "(I)I" } : Jvm.MethodName) prog_14_method_106_code (4 : Nat) (Option.some Jvm.ClassFile.FieldType.int)) ∈ lw_all := lw_g (lw_at lw_m11 91 rfl) rfl
theorem q2602 : (Jvm.Cond.methodLink "TongueProofsModel" (355 : Nat) ({ cls := "java/lang/Math", name := "abs", desc := "(I)I" } : Jvm.MethodName)) ∈ lw_all := lw_g (lw_at lw_m11 92 rfl) rfl
theorem q2604 : (Jvm.Cond.instanceMethod ({ cls := "TongueProofsModel", name := "refusals", desc := "(I)I" } : Jvm.MethodName)) ∈ lw_all := lw_g (lw_at lw_m11 94 rfl) rfl
theorem q2605 : (Jvm.Cond.selects "TongueProofsModel" ({ cls := "TongueProofsModel", name := "refusals", desc := "(I)I" } : Jvm.MethodName) ({ cls := "TongueProofsModel", name := "refusals", desc := "(I)I" } : Jvm.MethodName)) ∈ lw_all := lw_g (lw_at lw_m11 95 rfl) rfl
theorem q2606 : (Jvm.Cond.code ({ cls := "TongueProofsModel", name := "refusals", desc := "(I)I" } : Jvm.MethodName) prog_14_method_107_code (2 : Nat) (Option.some Jvm.ClassFile.FieldType.int)) ∈ lw_all := lw_g (lw_at lw_m11 96 rfl) rfl
theorem q2608 : (Jvm.Cond.instanceMethod ({ cls := "TongueProofsModel", name := "gap", desc := "()I" } : Jvm.MethodName)) ∈ lw_all := lw_g (lw_at lw_m11 98 rfl) rfl
theorem q2609 : (Jvm.Cond.selects "TongueProofsModel" ({ cls := "TongueProofsModel", name := "gap", desc := "()I" } : Jvm.MethodName) ({ cls := "TongueProofsModel", name := "gap", desc := "()I" } : Jvm.MethodName)) ∈ lw_all := lw_g (lw_at lw_m11 99 rfl) rfl
theorem q2610 : (Jvm.Cond.code ({ cls := "TongueProofsModel", name := "gap", desc := "()I" } : Jvm.MethodName) prog_14_method_109_code (4 : Nat) (Option.some Jvm.ClassFile.FieldType.int)) ∈ lw_all := lw_g (lw_at lw_m11 100 rfl) rfl
theorem q2611 : (Jvm.Cond.methodLink "TongueProofsModel" (358 : Nat) ({ cls := "TongueProofsModel", name := "overPaired", desc := "(I)I" } : Jvm.MethodName)) ∈ lw_all := lw_g (lw_at lw_m11 101 rfl) rfl
theorem q2612 : (Jvm.Cond.privateMethod ({ cls := "TongueProofsModel", name := "overPaired", desc := "(I)I" } : Jvm.MethodName)) ∈ lw_tbl := lw_at lw_m11 102 rfl
theorem q2613 : (Jvm.Cond.instanceMethod ({ cls := "TongueProofsModel", name := "overPaired", desc := "(I)I" } : Jvm.MethodName)) ∈ lw_all := lw_g (lw_at lw_m11 103 rfl) rfl
theorem q2614 : (Jvm.Cond.code ({ cls := "TongueProofsModel", name := "overPaired", desc := "(I)I" } : Jvm.MethodName) prog_14_method_108_code (5 : Nat) (Option.some Jvm.ClassFile.FieldType.int)) ∈ lw_all := lw_g (lw_at lw_m11 104 rfl) rfl
theorem q2616 : (Jvm.Cond.instanceMethod ({ cls := "TongueProofsModel", name := "honesty", desc := "(I)F" } : Jvm.MethodName)) ∈ lw_all := lw_g (lw_at lw_m11 106 rfl) rfl
theorem q2617 : (Jvm.Cond.selects "TongueProofsModel" ({ cls := "TongueProofsModel", name := "honesty", desc := "(I)F" } : Jvm.MethodName) ({ cls := "TongueProofsModel", name := "honesty", desc := "(I)F" } : Jvm.MethodName)) ∈ lw_all := lw_g (lw_at lw_m11 107 rfl) rfl
theorem q2618 : (Jvm.Cond.code ({ cls := "TongueProofsModel", name := "honesty", desc := "(I)F" } : Jvm.MethodName) prog_14_method_110_code (3 : Nat) (Option.some Jvm.ClassFile.FieldType.float)) ∈ lw_all := lw_g (lw_at lw_m11 108 rfl) rfl
theorem q2620 : (Jvm.Cond.instanceMethod ({ cls := "TongueProofsModel", name := "meanTurns", desc := "()D" } : Jvm.MethodName)) ∈ lw_all := lw_g (lw_at lw_m11 110 rfl) rfl
theorem q2621 : (Jvm.Cond.selects "TongueProofsModel" ({ cls := "TongueProofsModel", name := "meanTurns", desc := "()D" } : Jvm.MethodName) ({ cls := "TongueProofsModel", name := "meanTurns", desc := "()D" } : Jvm.MethodName)) ∈ lw_all := lw_g (lw_at lw_m11 111 rfl) rfl
theorem q2622 : (Jvm.Cond.code ({ cls := "TongueProofsModel", name := "meanTurns", desc := "()D" } : Jvm.MethodName) prog_14_method_111_code (4 : Nat) (Option.some Jvm.ClassFile.FieldType.double)) ∈ lw_all := lw_g (lw_at lw_m11 112 rfl) rfl
theorem q2624 : (Jvm.Cond.instanceMethod ({ cls := "TongueProofsModel", name := "ifPut", desc := "(IIII)I" } : Jvm.MethodName)) ∈ lw_all := lw_g (lw_at lw_m11 114 rfl) rfl
theorem q2625 : (Jvm.Cond.selects "TongueProofsModel" ({ cls := "TongueProofsModel", name := "ifPut", desc := "(IIII)I" } : Jvm.MethodName) ({ cls := "TongueProofsModel", name := "ifPut", desc := "(IIII)I" } : Jvm.MethodName)) ∈ lw_all := lw_g (lw_at lw_m11 115 rfl) rfl
theorem q2626 : (Jvm.Cond.code ({ cls := "TongueProofsModel", name := "ifPut", desc := "(IIII)I" } : Jvm.MethodName) prog_14_method_112_code (5 : Nat) (Option.some Jvm.ClassFile.FieldType.int)) ∈ lw_all := lw_g (lw_at lw_m11 116 rfl) rfl
theorem q2627 : (Jvm.Cond.methodLink "TongueProofsModel" (361 : Nat) ({ cls := "TongueProofsModel", name := "tries", desc := "()V" } : Jvm.MethodName)) ∈ lw_all := lw_g (lw_at lw_m11 117 rfl) rfl
theorem q2628 : (Jvm.Cond.privateMethod ({ cls := "TongueProofsModel", name := "tries", desc := "()V" } : Jvm.MethodName)) ∈ lw_tbl := lw_at lw_m11 118 rfl
theorem q2629 : (Jvm.Cond.instanceMethod ({ cls := "TongueProofsModel", name := "tries", desc := "()V" } : Jvm.MethodName)) ∈ lw_all := lw_g (lw_at lw_m11 119 rfl) rfl
theorem q2630 : (Jvm.Cond.code ({ cls := "TongueProofsModel", name := "tries", desc := "()V" } : Jvm.MethodName) prog_14_method_49_code (1 : Nat) (Option.none : Option Jvm.ClassFile.FieldType)) ∈ lw_all := lw_g (lw_at lw_m11 120 rfl) rfl
theorem q2631 : (Jvm.Cond.methodLink "TongueProofsModel" (364 : Nat) ({ cls := "TongueProofsModel", name := "isBack", desc := "(I)I" } : Jvm.MethodName)) ∈ lw_all := lw_g (lw_at lw_m11 121 rfl) rfl
theorem q2632 : (Jvm.Cond.privateMethod ({ cls := "TongueProofsModel", name := "isBack", desc := "(I)I" } : Jvm.MethodName)) ∈ lw_tbl := lw_at lw_m11 122 rfl
theorem q2633 : (Jvm.Cond.instanceMethod ({ cls := "TongueProofsModel", name := "isBack", desc := "(I)I" } : Jvm.MethodName)) ∈ lw_all := lw_g (lw_at lw_m11 123 rfl) rfl
theorem q2634 : (Jvm.Cond.code ({ cls := "TongueProofsModel", name := "isBack", desc := "(I)I" } : Jvm.MethodName) prog_14_method_50_code (2 : Nat) (Option.some Jvm.ClassFile.FieldType.int)) ∈ lw_all := lw_g (lw_at lw_m11 124 rfl) rfl
theorem q2636 : (Jvm.Cond.instanceMethod ({ cls := "TongueProofsModel", name := "ifShown", desc := "(II)I" } : Jvm.MethodName)) ∈ lw_all := lw_g (lw_at lw_m11 126 rfl) rfl
theorem q2637 : (Jvm.Cond.selects "TongueProofsModel" ({ cls := "TongueProofsModel", name := "ifShown", desc := "(II)I" } : Jvm.MethodName) ({ cls := "TongueProofsModel", name := "ifShown", desc := "(II)I" } : Jvm.MethodName)) ∈ lw_all := lw_g (lw_at lw_m11 127 rfl) rfl
theorem q2638 : (Jvm.Cond.code ({ cls := "TongueProofsModel", name := "ifShown", desc := "(II)I" } : Jvm.MethodName) prog_14_method_114_code (3 : Nat) (Option.some Jvm.ClassFile.FieldType.int)) ∈ lw_all := lw_g (lw_at lw_m11 128 rfl) rfl
theorem q2639 : (Jvm.Cond.methodLink "TongueProofsModel" (367 : Nat) ({ cls := "TongueProofsModel", name := "shown", desc := "(II)I" } : Jvm.MethodName)) ∈ lw_all := lw_g (lw_at lw_m11 129 rfl) rfl
theorem q2640 : (Jvm.Cond.privateMethod ({ cls := "TongueProofsModel", name := "shown", desc := "(II)I" } : Jvm.MethodName)) ∈ lw_tbl := lw_at lw_m11 130 rfl
theorem q2641 : (Jvm.Cond.instanceMethod ({ cls := "TongueProofsModel", name := "shown", desc := "(II)I" } : Jvm.MethodName)) ∈ lw_all := lw_g (lw_at lw_m11 131 rfl) rfl
theorem q2642 : (Jvm.Cond.code ({ cls := "TongueProofsModel", name := "shown", desc := "(II)I" } : Jvm.MethodName) prog_14_method_113_code (3 : Nat) (Option.some Jvm.ClassFile.FieldType.int)) ∈ lw_all := lw_g (lw_at lw_m11 132 rfl) rfl
theorem q2644 : (Jvm.Cond.instanceMethod ({ cls := "TongueProofsModel", name := "bestProof", desc := "()I" } : Jvm.MethodName)) ∈ lw_all := lw_g (lw_at lw_m11 134 rfl) rfl
theorem q2645 : (Jvm.Cond.selects "TongueProofsModel" ({ cls := "TongueProofsModel", name := "bestProof", desc := "()I" } : Jvm.MethodName) ({ cls := "TongueProofsModel", name := "bestProof", desc := "()I" } : Jvm.MethodName)) ∈ lw_all := lw_g (lw_at lw_m11 135 rfl) rfl
theorem q2646 : (Jvm.Cond.code ({ cls := "TongueProofsModel", name := "bestProof", desc := "()I" } : Jvm.MethodName) prog_14_method_115_code (6 : Nat) (Option.some Jvm.ClassFile.FieldType.int)) ∈ lw_all := lw_g (lw_at lw_m11 136 rfl) rfl
theorem q2648 : (Jvm.Cond.instanceMethod ({ cls := "TongueProofsModel", name := "ifEye", desc := "(I)I" } : Jvm.MethodName)) ∈ lw_all := lw_g (lw_at lw_m11 138 rfl) rfl
theorem q2649 : (Jvm.Cond.selects "TongueProofsModel" ({ cls := "TongueProofsModel", name := "ifEye", desc := "(I)I" } : Jvm.MethodName) ({ cls := "TongueProofsModel", name := "ifEye", desc := "(I)I" } : Jvm.MethodName)) ∈ lw_all := lw_g (lw_at lw_m11 139 rfl) rfl
theorem q2650 : (Jvm.Cond.code ({ cls := "TongueProofsModel", name := "ifEye", desc := "(I)I" } : Jvm.MethodName) prog_14_method_116_code (2 : Nat) (Option.some Jvm.ClassFile.FieldType.int)) ∈ lw_all := lw_g (lw_at lw_m11 140 rfl) rfl
theorem q2660 : (Jvm.Cond.instanceMethod ({ cls := "TongueProofsModel", name := "write", desc := "(I)I" } : Jvm.MethodName)) ∈ lw_all := lw_g (lw_at lw_m11 150 rfl) rfl
theorem q2661 : (Jvm.Cond.selects "TongueProofsModel" ({ cls := "TongueProofsModel", name := "write", desc := "(I)I" } : Jvm.MethodName) ({ cls := "TongueProofsModel", name := "write", desc := "(I)I" } : Jvm.MethodName)) ∈ lw_all := lw_g (lw_at lw_m11 151 rfl) rfl
theorem q2662 : (Jvm.Cond.code ({ cls := "TongueProofsModel", name := "write", desc := "(I)I" } : Jvm.MethodName) prog_14_method_127_code (4 : Nat) (Option.some Jvm.ClassFile.FieldType.int)) ∈ lw_all := lw_g (lw_at lw_m11 152 rfl) rfl
theorem q2664 : (Jvm.Cond.instanceMethod ({ cls := "TongueProofsModel", name := "output", desc := "(I)I" } : Jvm.MethodName)) ∈ lw_all := lw_g (lw_at lw_m11 154 rfl) rfl
theorem q2665 : (Jvm.Cond.selects "TongueProofsModel" ({ cls := "TongueProofsModel", name := "output", desc := "(I)I" } : Jvm.MethodName) ({ cls := "TongueProofsModel", name := "output", desc := "(I)I" } : Jvm.MethodName)) ∈ lw_all := lw_g (lw_at lw_m11 155 rfl) rfl
theorem q2666 : (Jvm.Cond.code ({ cls := "TongueProofsModel", name := "output", desc := "(I)I" } : Jvm.MethodName) prog_14_method_128_code (2 : Nat) (Option.some Jvm.ClassFile.FieldType.int)) ∈ lw_all := lw_g (lw_at lw_m11 156 rfl) rfl
theorem q2668 : (Jvm.Cond.instanceMethod ({ cls := "TongueProofsModel", name := "undo", desc := "()I" } : Jvm.MethodName)) ∈ lw_all := lw_g (lw_at lw_m11 158 rfl) rfl
theorem q2669 : (Jvm.Cond.selects "TongueProofsModel" ({ cls := "TongueProofsModel", name := "undo", desc := "()I" } : Jvm.MethodName) ({ cls := "TongueProofsModel", name := "undo", desc := "()I" } : Jvm.MethodName)) ∈ lw_all := lw_g (lw_at lw_m11 159 rfl) rfl
theorem q2670 : (Jvm.Cond.code ({ cls := "TongueProofsModel", name := "undo", desc := "()I" } : Jvm.MethodName) prog_14_method_129_code (1 : Nat) (Option.some Jvm.ClassFile.FieldType.int)) ∈ lw_all := lw_g (lw_at lw_m11 160 rfl) rfl
theorem q2672 : (Jvm.Cond.instanceMethod ({ cls := "TongueProofsModel", name := "save", desc := "(I)V" } : Jvm.MethodName)) ∈ lw_all := lw_g (lw_at lw_m11 162 rfl) rfl
theorem q2673 : (Jvm.Cond.selects "TongueProofsModel" ({ cls := "TongueProofsModel", name := "save", desc := "(I)V" } : Jvm.MethodName) ({ cls := "TongueProofsModel", name := "save", desc := "(I)V" } : Jvm.MethodName)) ∈ lw_all := lw_g (lw_at lw_m11 163 rfl) rfl
theorem q2674 : (Jvm.Cond.code ({ cls := "TongueProofsModel", name := "save", desc := "(I)V" } : Jvm.MethodName) prog_14_method_130_code (2 : Nat) (Option.none : Option Jvm.ClassFile.FieldType)) ∈ lw_all := lw_g (lw_at lw_m11 164 rfl) rfl
theorem q2676 : (Jvm.Cond.instanceMethod ({ cls := "TongueProofsModel", name := "restore", desc := "(I)V" } : Jvm.MethodName)) ∈ lw_all := lw_g (lw_at lw_m11 166 rfl) rfl
theorem q2677 : (Jvm.Cond.selects "TongueProofsModel" ({ cls := "TongueProofsModel", name := "restore", desc := "(I)V" } : Jvm.MethodName) ({ cls := "TongueProofsModel", name := "restore", desc := "(I)V" } : Jvm.MethodName)) ∈ lw_all := lw_g (lw_at lw_m11 167 rfl) rfl
theorem q2678 : (Jvm.Cond.code ({ cls := "TongueProofsModel", name := "restore", desc := "(I)V" } : Jvm.MethodName) prog_14_method_131_code (3 : Nat) (Option.none : Option Jvm.ClassFile.FieldType)) ∈ lw_all := lw_g (lw_at lw_m11 168 rfl) rfl
theorem q2706 : (Jvm.Cond.castable "TongueProofsModel" "java/lang/Object") ∈ lw_tbl := lw_at lw_m11 196 rfl
theorem in_X5 : ∀ w ∈ wsX50, w ∈ lw_all := lw_in wsX50 [2125, 2127, 2129, 2131, 2133, 2135, 2137, 2139, 2141, 2143, 2145, 2147, 2149, 2151, 2153, 2155, 2157, 2159, 2161, 2163, 2165] (by decide +kernel) (by decide +kernel)
/-! the law's own entry -/
abbrev cL_law : ByteArray := code
def dkwL_law_110 : List UInt8 := [167, 245, 85, 4, 172]
abbrev dktL_law_110 : List UInt8 := dkwL_law_110 ++ []
def dkwL_law_109 : List UInt8 := [4, 96, 46, 182, 1, 52, 44, 182, 0, 137, 21, 6, 159, 0, 5, 3, 172, 167, 0, 3, 132, 5, 5]
abbrev dktL_law_109 : List UInt8 := dkwL_law_109 ++ dktL_law_110
def dkwL_law_108 : List UInt8 := [159, 0, 5, 3, 172, 167, 0, 39, 43, 42, 21, 5, 4, 96, 46, 184, 1, 50, 54, 6, 44, 42, 21, 5]
abbrev dktL_law_108 : List UInt8 := dkwL_law_108 ++ dktL_law_109
def dkwL_law_107 : List UInt8 := [46, 184, 1, 46, 54, 6, 44, 42, 21, 5, 4, 96, 46, 182, 1, 49, 44, 182, 0, 137, 21, 6]
abbrev dktL_law_107 : List UInt8 := dkwL_law_107 ++ dktL_law_108
def dkwL_law_106 : List UInt8 := [159, 0, 90, 3, 172, 43, 182, 1, 42, 44, 182, 1, 45, 159, 0, 77, 3, 172, 43, 42, 21, 5, 4, 96]
abbrev dktL_law_106 : List UInt8 := dkwL_law_106 ++ dktL_law_107
def dkwL_law_105 : List UInt8 := [167, 0, 113, 43, 42, 21, 5, 4, 96, 46, 182, 1, 38, 44, 42, 21, 5, 4, 96, 46, 182, 1, 41]
abbrev dktL_law_105 : List UInt8 := dkwL_law_105 ++ dktL_law_106
def dkwL_law_104 : List UInt8 := [21, 6, 159, 0, 5, 3, 172, 21, 6, 154, 0, 15, 45, 3, 47, 21, 7, 133, 148, 153, 0, 5, 3, 172]
abbrev dktL_law_104 : List UInt8 := dkwL_law_104 ++ dktL_law_105
def dkwL_law_103 : List UInt8 := [46, 45, 184, 1, 35, 54, 6, 44, 42, 21, 5, 4, 96, 46, 182, 1, 37, 54, 7, 44, 182, 0, 137]
abbrev dktL_law_103 : List UInt8 := dkwL_law_103 ++ dktL_law_104
def dkwL_law_102 : List UInt8 := [154, 0, 15, 45, 3, 47, 21, 7, 133, 148, 153, 0, 5, 3, 172, 167, 0, 169, 43, 42, 21, 5, 4, 96]
abbrev dktL_law_102 : List UInt8 := dkwL_law_102 ++ dktL_law_103
def dkwL_law_101 : List UInt8 := [21, 5, 4, 96, 46, 182, 1, 34, 54, 7, 44, 182, 0, 137, 21, 6, 159, 0, 5, 3, 172, 21, 6]
abbrev dktL_law_101 : List UInt8 := dkwL_law_101 ++ dktL_law_102
def dkwL_law_100 : List UInt8 := [153, 0, 5, 3, 172, 167, 0, 225, 43, 42, 21, 5, 4, 96, 46, 45, 184, 1, 32, 54, 6, 44, 42]
abbrev dktL_law_100 : List UInt8 := dkwL_law_100 ++ dktL_law_101
def dkwL_law_99 : List UInt8 := [182, 0, 137, 21, 6, 159, 0, 5, 3, 172, 21, 6, 154, 0, 15, 45, 3, 47, 21, 7, 133, 148]
abbrev dktL_law_99 : List UInt8 := dkwL_law_99 ++ dktL_law_100
def dkwL_law_98 : List UInt8 := [184, 1, 29, 54, 6, 44, 42, 21, 5, 4, 96, 46, 42, 21, 5, 5, 96, 46, 182, 1, 31, 54, 7, 44]
abbrev dktL_law_98 : List UInt8 := dkwL_law_98 ++ dktL_law_99
def dkwL_law_97 : List UInt8 := [153, 0, 5, 3, 172, 167, 1, 37, 43, 42, 21, 5, 4, 96, 46, 42, 21, 5, 5, 96, 46, 45]
abbrev dktL_law_97 : List UInt8 := dkwL_law_97 ++ dktL_law_98
def dkwL_law_96 : List UInt8 := [182, 0, 137, 21, 6, 159, 0, 5, 3, 172, 21, 6, 154, 0, 15, 45, 3, 47, 21, 7, 133, 148]
abbrev dktL_law_96 : List UInt8 := dkwL_law_96 ++ dktL_law_97
def dkwL_law_95 : List UInt8 := [42, 21, 5, 4, 96, 46, 42, 21, 5, 5, 96, 46, 42, 21, 5, 6, 96, 46, 182, 1, 28, 54, 7, 44]
abbrev dktL_law_95 : List UInt8 := dkwL_law_95 ++ dktL_law_96
def dkwL_law_94 : List UInt8 := [21, 5, 4, 96, 46, 42, 21, 5, 5, 96, 46, 42, 21, 5, 6, 96, 46, 45, 184, 1, 26, 54, 6, 44]
abbrev dktL_law_94 : List UInt8 := dkwL_law_94 ++ dktL_law_95
def dkwL_law_93 : List UInt8 := [172, 21, 6, 154, 0, 15, 45, 3, 47, 21, 7, 133, 148, 153, 0, 5, 3, 172, 167, 1, 117, 43, 42]
abbrev dktL_law_93 : List UInt8 := dkwL_law_93 ++ dktL_law_94
def dkwL_law_92 : List UInt8 := [54, 6, 44, 42, 21, 5, 4, 96, 46, 182, 1, 25, 54, 7, 44, 182, 0, 137, 21, 6, 159, 0, 5, 3]
abbrev dktL_law_92 : List UInt8 := dkwL_law_92 ++ dktL_law_93
def dkwL_law_91 : List UInt8 := [21, 7, 133, 148, 153, 0, 5, 3, 172, 167, 1, 173, 43, 42, 21, 5, 4, 96, 46, 45, 184, 1, 23]
abbrev dktL_law_91 : List UInt8 := dkwL_law_91 ++ dktL_law_92
def dkwL_law_90 : List UInt8 := [182, 1, 22, 54, 7, 44, 182, 0, 137, 21, 6, 159, 0, 5, 3, 172, 21, 6, 154, 0, 15, 45, 3, 47]
abbrev dktL_law_90 : List UInt8 := dkwL_law_90 ++ dktL_law_91
def dkwL_law_89 : List UInt8 := [167, 1, 229, 43, 42, 21, 5, 4, 96, 46, 45, 184, 1, 20, 54, 6, 44, 42, 21, 5, 4, 96, 46]
abbrev dktL_law_89 : List UInt8 := dkwL_law_89 ++ dktL_law_90
def dkwL_law_88 : List UInt8 := [21, 6, 159, 0, 5, 3, 172, 21, 6, 154, 0, 15, 45, 3, 47, 21, 7, 133, 148, 153, 0, 5, 3, 172]
abbrev dktL_law_88 : List UInt8 := dkwL_law_88 ++ dktL_law_89
def dkwL_law_87 : List UInt8 := [46, 45, 184, 1, 17, 54, 6, 44, 42, 21, 5, 4, 96, 46, 182, 1, 19, 54, 7, 44, 182, 0, 137]
abbrev dktL_law_87 : List UInt8 := dkwL_law_87 ++ dktL_law_88
def dkwL_law_86 : List UInt8 := [154, 0, 15, 45, 3, 47, 21, 7, 133, 148, 153, 0, 5, 3, 172, 167, 2, 29, 43, 42, 21, 5, 4, 96]
abbrev dktL_law_86 : List UInt8 := dkwL_law_86 ++ dktL_law_87
def dkwL_law_85 : List UInt8 := [21, 5, 6, 96, 46, 182, 1, 16, 54, 7, 44, 182, 0, 137, 21, 6, 159, 0, 5, 3, 172, 21, 6]
abbrev dktL_law_85 : List UInt8 := dkwL_law_85 ++ dktL_law_86
def dkwL_law_84 : List UInt8 := [6, 96, 46, 45, 184, 1, 14, 54, 6, 44, 42, 21, 5, 4, 96, 46, 42, 21, 5, 5, 96, 46, 42]
abbrev dktL_law_84 : List UInt8 := dkwL_law_84 ++ dktL_law_85
def dkwL_law_83 : List UInt8 := [153, 0, 5, 3, 172, 167, 2, 109, 43, 42, 21, 5, 4, 96, 46, 42, 21, 5, 5, 96, 46, 42, 21, 5]
abbrev dktL_law_83 : List UInt8 := dkwL_law_83 ++ dktL_law_84
def dkwL_law_82 : List UInt8 := [182, 0, 137, 21, 6, 159, 0, 5, 3, 172, 21, 6, 154, 0, 15, 45, 3, 47, 21, 7, 133, 148]
abbrev dktL_law_82 : List UInt8 := dkwL_law_82 ++ dktL_law_83
def dkwL_law_81 : List UInt8 := [21, 5, 5, 96, 46, 42, 21, 5, 6, 96, 46, 42, 21, 5, 7, 96, 46, 182, 1, 13, 54, 7, 44]
abbrev dktL_law_81 : List UInt8 := dkwL_law_81 ++ dktL_law_82
def dkwL_law_80 : List UInt8 := [6, 96, 46, 42, 21, 5, 7, 96, 46, 45, 184, 1, 11, 54, 6, 44, 42, 21, 5, 4, 96, 46, 42]
abbrev dktL_law_80 : List UInt8 := dkwL_law_80 ++ dktL_law_81
def dkwL_law_79 : List UInt8 := [153, 0, 5, 3, 172, 167, 2, 201, 43, 42, 21, 5, 4, 96, 46, 42, 21, 5, 5, 96, 46, 42, 21, 5]
abbrev dktL_law_79 : List UInt8 := dkwL_law_79 ++ dktL_law_80
def dkwL_law_78 : List UInt8 := [182, 0, 137, 21, 6, 159, 0, 5, 3, 172, 21, 6, 154, 0, 15, 45, 3, 47, 21, 7, 133, 148]
abbrev dktL_law_78 : List UInt8 := dkwL_law_78 ++ dktL_law_79
def dkwL_law_77 : List UInt8 := [21, 5, 4, 96, 46, 45, 184, 1, 8, 54, 6, 44, 42, 21, 5, 4, 96, 46, 182, 1, 10, 54, 7, 44]
abbrev dktL_law_77 : List UInt8 := dkwL_law_77 ++ dktL_law_78
def dkwL_law_76 : List UInt8 := [153, 0, 5, 3, 172, 167, 3, 14, 43, 182, 1, 4, 44, 182, 1, 7, 159, 3, 3, 3, 172, 43, 42]
abbrev dktL_law_76 : List UInt8 := dkwL_law_76 ++ dktL_law_77
def dkwL_law_75 : List UInt8 := [182, 0, 137, 21, 6, 159, 0, 5, 3, 172, 21, 6, 154, 0, 15, 45, 3, 47, 21, 7, 133, 148]
abbrev dktL_law_75 : List UInt8 := dkwL_law_75 ++ dktL_law_76
def dkwL_law_74 : List UInt8 := [184, 1, 1, 54, 6, 44, 42, 21, 5, 4, 96, 46, 42, 21, 5, 5, 96, 46, 182, 1, 3, 54, 7, 44]
abbrev dktL_law_74 : List UInt8 := dkwL_law_74 ++ dktL_law_75
def dkwL_law_73 : List UInt8 := [153, 0, 5, 3, 172, 167, 3, 82, 43, 42, 21, 5, 4, 96, 46, 42, 21, 5, 5, 96, 46, 45]
abbrev dktL_law_73 : List UInt8 := dkwL_law_73 ++ dktL_law_74
def dkwL_law_72 : List UInt8 := [44, 182, 0, 137, 21, 6, 159, 0, 5, 3, 172, 21, 6, 154, 0, 15, 45, 3, 47, 21, 7, 133, 148]
abbrev dktL_law_72 : List UInt8 := dkwL_law_72 ++ dktL_law_73
def dkwL_law_71 : List UInt8 := [46, 42, 21, 5, 5, 96, 46, 42, 21, 5, 6, 96, 46, 42, 21, 5, 7, 96, 46, 182, 1, 0, 54, 7]
abbrev dktL_law_71 : List UInt8 := dkwL_law_71 ++ dktL_law_72
def dkwL_law_70 : List UInt8 := [42, 21, 5, 6, 96, 46, 42, 21, 5, 7, 96, 46, 45, 184, 0, 253, 54, 6, 44, 42, 21, 5, 4, 96]
abbrev dktL_law_70 : List UInt8 := dkwL_law_70 ++ dktL_law_71
def dkwL_law_69 : List UInt8 := [24, 8, 151, 154, 0, 5, 3, 172, 167, 3, 174, 43, 42, 21, 5, 4, 96, 46, 42, 21, 5, 5, 96, 46]
abbrev dktL_law_69 : List UInt8 := dkwL_law_69 ++ dktL_law_70
def dkwL_law_68 : List UInt8 := [182, 0, 252, 57, 8, 24, 6, 24, 8, 151, 153, 0, 21, 24, 6, 24, 6, 151, 153, 0, 11, 24, 8]
abbrev dktL_law_68 : List UInt8 := dkwL_law_68 ++ dktL_law_69
def dkwL_law_67 : List UInt8 := [153, 0, 11, 23, 7, 23, 7, 149, 154, 0, 5, 3, 172, 167, 3, 215, 43, 182, 0, 248, 57, 6, 44]
abbrev dktL_law_67 : List UInt8 := dkwL_law_67 ++ dktL_law_68
def dkwL_law_66 : List UInt8 := [154, 0, 36, 25, 4, 3, 49, 23, 7, 141, 151, 153, 0, 25, 25, 4, 3, 49, 25, 4, 3, 49, 151]
abbrev dktL_law_66 : List UInt8 := dkwL_law_66 ++ dktL_law_67
def dkwL_law_65 : List UInt8 := [21, 5, 4, 96, 46, 182, 0, 247, 56, 7, 44, 182, 0, 137, 21, 6, 159, 0, 5, 3, 172, 21, 6]
abbrev dktL_law_65 : List UInt8 := dkwL_law_65 ++ dktL_law_66
def dkwL_law_64 : List UInt8 := [182, 0, 243, 159, 4, 39, 3, 172, 43, 42, 21, 5, 4, 96, 46, 25, 4, 184, 0, 244, 54, 6, 44, 42]
abbrev dktL_law_64 : List UInt8 := dkwL_law_64 ++ dktL_law_65
def dkwL_law_63 : List UInt8 := [154, 0, 15, 45, 3, 47, 21, 7, 133, 148, 153, 0, 5, 3, 172, 167, 4, 50, 43, 182, 0, 240, 44]
abbrev dktL_law_63 : List UInt8 := dkwL_law_63 ++ dktL_law_64
def dkwL_law_62 : List UInt8 := [21, 5, 4, 96, 46, 182, 0, 239, 54, 7, 44, 182, 0, 137, 21, 6, 159, 0, 5, 3, 172, 21, 6]
abbrev dktL_law_62 : List UInt8 := dkwL_law_62 ++ dktL_law_63
def dkwL_law_61 : List UInt8 := [153, 0, 5, 3, 172, 167, 4, 106, 43, 42, 21, 5, 4, 96, 46, 45, 184, 0, 237, 54, 6, 44, 42]
abbrev dktL_law_61 : List UInt8 := dkwL_law_61 ++ dktL_law_62
def dkwL_law_60 : List UInt8 := [182, 0, 137, 21, 6, 159, 0, 5, 3, 172, 21, 6, 154, 0, 15, 45, 3, 47, 21, 7, 133, 148]
abbrev dktL_law_60 : List UInt8 := dkwL_law_60 ++ dktL_law_61
def dkwL_law_59 : List UInt8 := [21, 5, 4, 96, 46, 45, 184, 0, 234, 54, 6, 44, 42, 21, 5, 4, 96, 46, 182, 0, 236, 54, 7, 44]
abbrev dktL_law_59 : List UInt8 := dkwL_law_59 ++ dktL_law_60
def dkwL_law_58 : List UInt8 := [172, 21, 6, 154, 0, 15, 45, 3, 47, 21, 7, 133, 148, 153, 0, 5, 3, 172, 167, 4, 162, 43, 42]
abbrev dktL_law_58 : List UInt8 := dkwL_law_58 ++ dktL_law_59
def dkwL_law_57 : List UInt8 := [54, 6, 44, 42, 21, 5, 4, 96, 46, 182, 0, 233, 54, 7, 44, 182, 0, 137, 21, 6, 159, 0, 5, 3]
abbrev dktL_law_57 : List UInt8 := dkwL_law_57 ++ dktL_law_58
def dkwL_law_56 : List UInt8 := [47, 21, 7, 133, 148, 153, 0, 5, 3, 172, 167, 4, 218, 43, 42, 21, 5, 4, 96, 46, 45, 184, 0, 231]
abbrev dktL_law_56 : List UInt8 := dkwL_law_56 ++ dktL_law_57
def dkwL_law_55 : List UInt8 := [46, 182, 0, 230, 54, 7, 44, 182, 0, 137, 21, 6, 159, 0, 5, 3, 172, 21, 6, 154, 0, 15, 45, 3]
abbrev dktL_law_55 : List UInt8 := dkwL_law_55 ++ dktL_law_56
def dkwL_law_54 : List UInt8 := [159, 5, 20, 3, 172, 43, 42, 21, 5, 4, 96, 46, 45, 184, 0, 228, 54, 6, 44, 42, 21, 5, 4, 96]
abbrev dktL_law_54 : List UInt8 := dkwL_law_54 ++ dktL_law_55
def dkwL_law_53 : List UInt8 := [172, 43, 182, 0, 220, 44, 182, 0, 223, 159, 5, 33, 3, 172, 43, 182, 0, 224, 44, 182, 0, 227]
abbrev dktL_law_53 : List UInt8 := dkwL_law_53 ++ dktL_law_54
def dkwL_law_52 : List UInt8 := [21, 7, 133, 148, 153, 0, 5, 3, 172, 167, 5, 57, 43, 182, 0, 216, 44, 182, 0, 219, 159, 5, 46, 3]
abbrev dktL_law_52 : List UInt8 := dkwL_law_52 ++ dktL_law_53
def dkwL_law_51 : List UInt8 := [182, 0, 215, 54, 7, 44, 182, 0, 137, 21, 6, 159, 0, 5, 3, 172, 21, 6, 154, 0, 15, 45, 3, 47]
abbrev dktL_law_51 : List UInt8 := dkwL_law_51 ++ dktL_law_52
def dkwL_law_50 : List UInt8 := [167, 5, 113, 43, 42, 21, 5, 4, 96, 46, 45, 184, 0, 213, 54, 6, 44, 42, 21, 5, 4, 96, 46]
abbrev dktL_law_50 : List UInt8 := dkwL_law_50 ++ dktL_law_51
def dkwL_law_49 : List UInt8 := [159, 0, 5, 3, 172, 21, 6, 154, 0, 15, 45, 3, 47, 21, 7, 133, 148, 153, 0, 5, 3, 172]
abbrev dktL_law_49 : List UInt8 := dkwL_law_49 ++ dktL_law_50
def dkwL_law_48 : List UInt8 := [21, 5, 4, 96, 46, 42, 21, 5, 5, 96, 46, 182, 0, 212, 54, 7, 44, 182, 0, 137, 21, 6]
abbrev dktL_law_48 : List UInt8 := dkwL_law_48 ++ dktL_law_49
def dkwL_law_47 : List UInt8 := [167, 5, 181, 43, 42, 21, 5, 4, 96, 46, 42, 21, 5, 5, 96, 46, 45, 184, 0, 210, 54, 6, 44, 42]
abbrev dktL_law_47 : List UInt8 := dkwL_law_47 ++ dktL_law_48
def dkwL_law_46 : List UInt8 := [154, 0, 22, 45, 3, 47, 21, 7, 153, 0, 7, 10, 167, 0, 4, 9, 148, 153, 0, 5, 3, 172]
abbrev dktL_law_46 : List UInt8 := dkwL_law_46 ++ dktL_law_47
def dkwL_law_45 : List UInt8 := [21, 5, 4, 96, 46, 182, 0, 209, 54, 7, 44, 182, 0, 137, 21, 6, 159, 0, 5, 3, 172, 21, 6]
abbrev dktL_law_45 : List UInt8 := dkwL_law_45 ++ dktL_law_46
def dkwL_law_44 : List UInt8 := [182, 0, 206, 159, 5, 246, 3, 172, 43, 42, 21, 5, 4, 96, 46, 45, 184, 0, 207, 54, 6, 44, 42]
abbrev dktL_law_44 : List UInt8 := dkwL_law_44 ++ dktL_law_45
def dkwL_law_43 : List UInt8 := [154, 0, 15, 45, 3, 47, 21, 7, 133, 148, 153, 0, 5, 3, 172, 167, 6, 1, 43, 182, 0, 203, 44]
abbrev dktL_law_43 : List UInt8 := dkwL_law_43 ++ dktL_law_44
def dkwL_law_42 : List UInt8 := [42, 21, 5, 6, 96, 46, 182, 0, 202, 54, 7, 44, 182, 0, 137, 21, 6, 159, 0, 5, 3, 172, 21, 6]
abbrev dktL_law_42 : List UInt8 := dkwL_law_42 ++ dktL_law_43
def dkwL_law_41 : List UInt8 := [21, 5, 6, 96, 46, 45, 184, 0, 200, 54, 6, 44, 42, 21, 5, 4, 96, 46, 42, 21, 5, 5, 96, 46]
abbrev dktL_law_41 : List UInt8 := dkwL_law_41 ++ dktL_law_42
def dkwL_law_40 : List UInt8 := [148, 153, 0, 5, 3, 172, 167, 6, 81, 43, 42, 21, 5, 4, 96, 46, 42, 21, 5, 5, 96, 46, 42]
abbrev dktL_law_40 : List UInt8 := dkwL_law_40 ++ dktL_law_41
def dkwL_law_39 : List UInt8 := [54, 7, 44, 182, 0, 137, 21, 6, 159, 0, 5, 3, 172, 21, 6, 154, 0, 15, 45, 3, 47, 21, 7, 133]
abbrev dktL_law_39 : List UInt8 := dkwL_law_39 ++ dktL_law_40
def dkwL_law_38 : List UInt8 := [46, 45, 184, 0, 197, 54, 6, 44, 42, 21, 5, 4, 96, 46, 42, 21, 5, 5, 96, 46, 182, 0, 199]
abbrev dktL_law_38 : List UInt8 := dkwL_law_38 ++ dktL_law_39
def dkwL_law_37 : List UInt8 := [21, 7, 133, 148, 153, 0, 5, 3, 172, 167, 6, 149, 43, 42, 21, 5, 4, 96, 46, 42, 21, 5, 5, 96]
abbrev dktL_law_37 : List UInt8 := dkwL_law_37 ++ dktL_law_38
def dkwL_law_36 : List UInt8 := [182, 0, 196, 54, 7, 44, 182, 0, 137, 21, 6, 159, 0, 5, 3, 172, 21, 6, 154, 0, 15, 45, 3, 47]
abbrev dktL_law_36 : List UInt8 := dkwL_law_36 ++ dktL_law_37
def dkwL_law_35 : List UInt8 := [21, 5, 5, 96, 46, 45, 184, 0, 194, 54, 6, 44, 42, 21, 5, 4, 96, 46, 42, 21, 5, 5, 96, 46]
abbrev dktL_law_35 : List UInt8 := dkwL_law_35 ++ dktL_law_36
def dkwL_law_34 : List UInt8 := [167, 6, 230, 43, 182, 0, 190, 44, 182, 0, 193, 159, 6, 219, 3, 172, 43, 42, 21, 5, 4, 96, 46, 42]
abbrev dktL_law_34 : List UInt8 := dkwL_law_34 ++ dktL_law_35
def dkwL_law_33 : List UInt8 := [159, 0, 5, 3, 172, 21, 6, 154, 0, 15, 45, 3, 47, 21, 7, 133, 148, 153, 0, 5, 3, 172]
abbrev dktL_law_33 : List UInt8 := dkwL_law_33 ++ dktL_law_34
def dkwL_law_32 : List UInt8 := [44, 42, 21, 5, 4, 96, 46, 42, 21, 5, 5, 96, 46, 182, 0, 189, 54, 7, 44, 182, 0, 137, 21, 6]
abbrev dktL_law_32 : List UInt8 := dkwL_law_32 ++ dktL_law_33
def dkwL_law_31 : List UInt8 := [159, 7, 44, 3, 172, 43, 42, 21, 5, 4, 96, 46, 42, 21, 5, 5, 96, 46, 45, 184, 0, 187, 54, 6]
abbrev dktL_law_31 : List UInt8 := dkwL_law_31 ++ dktL_law_32
def dkwL_law_30 : List UInt8 := [167, 7, 67, 43, 42, 21, 5, 4, 96, 46, 182, 0, 183, 44, 42, 21, 5, 4, 96, 46, 182, 0, 186]
abbrev dktL_law_30 : List UInt8 := dkwL_law_30 ++ dktL_law_31
def dkwL_law_29 : List UInt8 := [21, 6, 159, 0, 5, 3, 172, 21, 6, 154, 0, 15, 45, 3, 47, 21, 7, 133, 148, 153, 0, 5, 3, 172]
abbrev dktL_law_29 : List UInt8 := dkwL_law_29 ++ dktL_law_30
def dkwL_law_28 : List UInt8 := [96, 46, 42, 21, 5, 5, 96, 46, 42, 21, 5, 6, 96, 46, 182, 0, 182, 54, 7, 44, 182, 0, 137]
abbrev dktL_law_28 : List UInt8 := dkwL_law_28 ++ dktL_law_29
def dkwL_law_27 : List UInt8 := [46, 42, 21, 5, 5, 96, 46, 42, 21, 5, 6, 96, 46, 45, 184, 0, 180, 54, 6, 44, 42, 21, 5, 4]
abbrev dktL_law_27 : List UInt8 := dkwL_law_27 ++ dktL_law_28
def dkwL_law_26 : List UInt8 := [154, 0, 15, 45, 3, 47, 21, 7, 133, 148, 153, 0, 5, 3, 172, 167, 7, 147, 43, 42, 21, 5, 4, 96]
abbrev dktL_law_26 : List UInt8 := dkwL_law_26 ++ dktL_law_27
def dkwL_law_25 : List UInt8 := [21, 5, 5, 96, 46, 182, 0, 179, 54, 7, 44, 182, 0, 137, 21, 6, 159, 0, 5, 3, 172, 21, 6]
abbrev dktL_law_25 : List UInt8 := dkwL_law_25 ++ dktL_law_26
def dkwL_law_24 : List UInt8 := [4, 96, 46, 42, 21, 5, 5, 96, 46, 45, 184, 0, 177, 54, 6, 44, 42, 21, 5, 4, 96, 46, 42]
abbrev dktL_law_24 : List UInt8 := dkwL_law_24 ++ dktL_law_25
def dkwL_law_23 : List UInt8 := [21, 6, 154, 0, 15, 45, 3, 47, 21, 7, 133, 148, 153, 0, 5, 3, 172, 167, 7, 215, 43, 42, 21, 5]
abbrev dktL_law_23 : List UInt8 := dkwL_law_23 ++ dktL_law_24
def dkwL_law_22 : List UInt8 := [96, 46, 42, 21, 5, 6, 96, 46, 182, 0, 176, 54, 7, 44, 182, 0, 137, 21, 6, 159, 0, 5, 3, 172]
abbrev dktL_law_22 : List UInt8 := dkwL_law_22 ++ dktL_law_23
def dkwL_law_21 : List UInt8 := [46, 42, 21, 5, 6, 96, 46, 45, 184, 0, 173, 54, 6, 44, 42, 21, 5, 4, 96, 46, 42, 21, 5, 5]
abbrev dktL_law_21 : List UInt8 := dkwL_law_21 ++ dktL_law_22
def dkwL_law_20 : List UInt8 := [21, 7, 133, 148, 153, 0, 5, 3, 172, 167, 8, 39, 43, 42, 21, 5, 4, 96, 46, 42, 21, 5, 5, 96]
abbrev dktL_law_20 : List UInt8 := dkwL_law_20 ++ dktL_law_21
def dkwL_law_19 : List UInt8 := [182, 0, 172, 54, 7, 44, 182, 0, 137, 21, 6, 159, 0, 5, 3, 172, 21, 6, 154, 0, 15, 45, 3, 47]
abbrev dktL_law_19 : List UInt8 := dkwL_law_19 ++ dktL_law_20
def dkwL_law_18 : List UInt8 := [5, 96, 46, 45, 184, 0, 170, 54, 6, 44, 42, 21, 5, 4, 96, 46, 42, 21, 5, 5, 96, 46]
abbrev dktL_law_18 : List UInt8 := dkwL_law_18 ++ dktL_law_19
def dkwL_law_17 : List UInt8 := [3, 47, 21, 7, 133, 148, 153, 0, 5, 3, 172, 167, 8, 107, 43, 42, 21, 5, 4, 96, 46, 42, 21, 5]
abbrev dktL_law_17 : List UInt8 := dkwL_law_17 ++ dktL_law_18
def dkwL_law_16 : List UInt8 := [96, 46, 182, 0, 169, 54, 7, 44, 182, 0, 137, 21, 6, 159, 0, 5, 3, 172, 21, 6, 154, 0, 15, 45]
abbrev dktL_law_16 : List UInt8 := dkwL_law_16 ++ dktL_law_17
def dkwL_law_15 : List UInt8 := [46, 42, 21, 5, 5, 96, 46, 45, 184, 0, 166, 54, 6, 44, 42, 21, 5, 4, 96, 46, 42, 21, 5, 5]
abbrev dktL_law_15 : List UInt8 := dkwL_law_15 ++ dktL_law_16
def dkwL_law_14 : List UInt8 := [154, 0, 15, 45, 3, 47, 21, 7, 133, 148, 153, 0, 5, 3, 172, 167, 8, 175, 43, 42, 21, 5, 4, 96]
abbrev dktL_law_14 : List UInt8 := dkwL_law_14 ++ dktL_law_15
def dkwL_law_13 : List UInt8 := [21, 5, 4, 96, 46, 182, 0, 165, 54, 7, 44, 182, 0, 137, 21, 6, 159, 0, 5, 3, 172, 21, 6]
abbrev dktL_law_13 : List UInt8 := dkwL_law_13 ++ dktL_law_14
def dkwL_law_12 : List UInt8 := [148, 153, 0, 5, 3, 172, 167, 8, 231, 43, 42, 21, 5, 4, 96, 46, 45, 184, 0, 163, 54, 6, 44, 42]
abbrev dktL_law_12 : List UInt8 := dkwL_law_12 ++ dktL_law_13
def dkwL_law_11 : List UInt8 := [54, 7, 44, 182, 0, 137, 21, 6, 159, 0, 5, 3, 172, 21, 6, 154, 0, 15, 45, 3, 47, 21, 7, 133]
abbrev dktL_law_11 : List UInt8 := dkwL_law_11 ++ dktL_law_12
def dkwL_law_10 : List UInt8 := [172, 43, 42, 21, 5, 4, 96, 46, 45, 184, 0, 160, 54, 6, 44, 42, 21, 5, 4, 96, 46, 182, 0, 162]
abbrev dktL_law_10 : List UInt8 := dkwL_law_10 ++ dktL_law_11
def dkwL_law_9 : List UInt8 := [182, 0, 152, 44, 182, 0, 155, 159, 9, 46, 3, 172, 43, 182, 0, 156, 44, 182, 0, 159, 159, 9, 33, 3]
abbrev dktL_law_9 : List UInt8 := dkwL_law_9 ++ dktL_law_10
def dkwL_law_8 : List UInt8 := [182, 0, 147, 159, 9, 72, 3, 172, 43, 182, 0, 148, 44, 182, 0, 151, 159, 9, 59, 3, 172, 43]
abbrev dktL_law_8 : List UInt8 := dkwL_law_8 ++ dktL_law_9
def dkwL_law_7 : List UInt8 := [154, 0, 15, 45, 3, 47, 21, 7, 133, 148, 153, 0, 5, 3, 172, 167, 9, 83, 43, 182, 0, 144, 44]
abbrev dktL_law_7 : List UInt8 := dkwL_law_7 ++ dktL_law_8
def dkwL_law_6 : List UInt8 := [21, 5, 4, 96, 46, 182, 0, 143, 54, 7, 44, 182, 0, 137, 21, 6, 159, 0, 5, 3, 172, 21, 6]
abbrev dktL_law_6 : List UInt8 := dkwL_law_6 ++ dktL_law_7
def dkwL_law_5 : List UInt8 := [148, 153, 0, 5, 3, 172, 167, 9, 139, 43, 42, 21, 5, 4, 96, 46, 45, 184, 0, 141, 54, 6, 44, 42]
abbrev dktL_law_5 : List UInt8 := dkwL_law_5 ++ dktL_law_6
def dkwL_law_4 : List UInt8 := [54, 7, 44, 182, 0, 137, 21, 6, 159, 0, 5, 3, 172, 21, 6, 154, 0, 15, 45, 3, 47, 21, 7, 133]
abbrev dktL_law_4 : List UInt8 := dkwL_law_4 ++ dktL_law_5
def dkwL_law_3 : List UInt8 := [43, 42, 21, 5, 4, 96, 46, 45, 184, 0, 131, 54, 6, 44, 42, 21, 5, 4, 96, 46, 182, 0, 136]
abbrev dktL_law_3 : List UInt8 := dkwL_law_3 ++ dktL_law_4
def dkwL_law_2 : List UInt8 := [170, 0, 0, 0, 0, 0, 10, 152, 0, 0, 0, 0, 0, 0, 0, 49, 0, 0, 0, 216, 0, 0, 1, 16, 0, 0, 1, 72, 0, 0, 1, 85, 0, 0, 1, 98, 0, 0, 1, 111, 0, 0, 1, 124, 0, 0, 1, 180, 0, 0, 1, 236, 0, 0, 2, 48, 0, 0, 2, 116, 0, 0, 2, 196, 0, 0, 3, 8, 0, 0, 3, 88, 0, 0, 3, 113, 0, 0, 3, 181, 0, 0, 3, 194, 0, 0, 4, 6, 0, 0, 4, 74, 0, 0, 4, 154, 0, 0, 4, 167, 0, 0, 4, 230, 0, 0, 5, 42, 0, 0, 5, 98, 0, 0, 5, 111, 0, 0, 5, 124, 0, 0, 5, 137, 0, 0, 5, 193, 0, 0, 5, 249, 0, 0, 6, 49, 0, 0, 6, 105, 0, 0, 6, 118, 0, 0, 6, 196, 0, 0, 6, 237, 0, 0, 7, 73, 0, 0, 7, 141, 0, 0, 7, 154, 0, 0, 7, 210, 0, 0, 8, 46, 0, 0, 8, 126, 0, 0, 8, 182, 0, 0, 8, 238, 0, 0, 9, 38, 0, 0, 9, 118, 0, 0, 9, 186, 0, 0, 9, 242, 0, 0, 10, 42, 0, 0, 10, 67, 0, 0, 10, 80, 0, 0, 10, 116]
abbrev dktL_law_2 : List UInt8 := dkwL_law_2 ++ dktL_law_3
def dkwL_law_1 : List UInt8 := [58, 4, 3, 54, 5, 21, 5, 42, 190, 8, 100, 163, 10, 168, 42, 21, 5, 46, 16, 63, 126]
abbrev dktL_law_1 : List UInt8 := dkwL_law_1 ++ dktL_law_2
def dkwL_law_0 : List UInt8 := [187, 0, 8, 89, 183, 0, 127, 76, 187, 0, 128, 89, 183, 0, 130, 77, 4, 188, 11, 78, 4, 188, 7]
abbrev dktL_law_0 : List UInt8 := dkwL_law_0 ++ dktL_law_1
theorem dksL_law_0 : cL_law.data.toList.drop 0 = dktL_law_0 := by decide +kernel
theorem dksL_law_1 : cL_law.data.toList.drop 23 = dktL_law_1 := dk_seg dksL_law_0 23 rfl rfl
theorem dksL_law_2 : cL_law.data.toList.drop 44 = dktL_law_2 := dk_seg dksL_law_1 21 rfl rfl
theorem dksL_law_3 : cL_law.data.toList.drop 260 = dktL_law_3 := dk_seg dksL_law_2 216 rfl rfl
theorem dksL_law_4 : cL_law.data.toList.drop 283 = dktL_law_4 := dk_seg dksL_law_3 23 rfl rfl
theorem dksL_law_5 : cL_law.data.toList.drop 307 = dktL_law_5 := dk_seg dksL_law_4 24 rfl rfl
theorem dksL_law_6 : cL_law.data.toList.drop 331 = dktL_law_6 := dk_seg dksL_law_5 24 rfl rfl
theorem dksL_law_7 : cL_law.data.toList.drop 354 = dktL_law_7 := dk_seg dksL_law_6 23 rfl rfl
theorem dksL_law_8 : cL_law.data.toList.drop 377 = dktL_law_8 := dk_seg dksL_law_7 23 rfl rfl
theorem dksL_law_9 : cL_law.data.toList.drop 399 = dktL_law_9 := dk_seg dksL_law_8 22 rfl rfl
theorem dksL_law_10 : cL_law.data.toList.drop 423 = dktL_law_10 := dk_seg dksL_law_9 24 rfl rfl
theorem dksL_law_11 : cL_law.data.toList.drop 447 = dktL_law_11 := dk_seg dksL_law_10 24 rfl rfl
theorem dksL_law_12 : cL_law.data.toList.drop 471 = dktL_law_12 := dk_seg dksL_law_11 24 rfl rfl
theorem dksL_law_13 : cL_law.data.toList.drop 495 = dktL_law_13 := dk_seg dksL_law_12 24 rfl rfl
theorem dksL_law_14 : cL_law.data.toList.drop 518 = dktL_law_14 := dk_seg dksL_law_13 23 rfl rfl
theorem dksL_law_15 : cL_law.data.toList.drop 542 = dktL_law_15 := dk_seg dksL_law_14 24 rfl rfl
theorem dksL_law_16 : cL_law.data.toList.drop 566 = dktL_law_16 := dk_seg dksL_law_15 24 rfl rfl
theorem dksL_law_17 : cL_law.data.toList.drop 590 = dktL_law_17 := dk_seg dksL_law_16 24 rfl rfl
theorem dksL_law_18 : cL_law.data.toList.drop 614 = dktL_law_18 := dk_seg dksL_law_17 24 rfl rfl
theorem dksL_law_19 : cL_law.data.toList.drop 636 = dktL_law_19 := dk_seg dksL_law_18 22 rfl rfl
theorem dksL_law_20 : cL_law.data.toList.drop 660 = dktL_law_20 := dk_seg dksL_law_19 24 rfl rfl
theorem dksL_law_21 : cL_law.data.toList.drop 684 = dktL_law_21 := dk_seg dksL_law_20 24 rfl rfl
theorem dksL_law_22 : cL_law.data.toList.drop 708 = dktL_law_22 := dk_seg dksL_law_21 24 rfl rfl
theorem dksL_law_23 : cL_law.data.toList.drop 732 = dktL_law_23 := dk_seg dksL_law_22 24 rfl rfl
theorem dksL_law_24 : cL_law.data.toList.drop 756 = dktL_law_24 := dk_seg dksL_law_23 24 rfl rfl
theorem dksL_law_25 : cL_law.data.toList.drop 779 = dktL_law_25 := dk_seg dksL_law_24 23 rfl rfl
theorem dksL_law_26 : cL_law.data.toList.drop 802 = dktL_law_26 := dk_seg dksL_law_25 23 rfl rfl
theorem dksL_law_27 : cL_law.data.toList.drop 826 = dktL_law_27 := dk_seg dksL_law_26 24 rfl rfl
theorem dksL_law_28 : cL_law.data.toList.drop 850 = dktL_law_28 := dk_seg dksL_law_27 24 rfl rfl
theorem dksL_law_29 : cL_law.data.toList.drop 873 = dktL_law_29 := dk_seg dksL_law_28 23 rfl rfl
theorem dksL_law_30 : cL_law.data.toList.drop 897 = dktL_law_30 := dk_seg dksL_law_29 24 rfl rfl
theorem dksL_law_31 : cL_law.data.toList.drop 920 = dktL_law_31 := dk_seg dksL_law_30 23 rfl rfl
theorem dksL_law_32 : cL_law.data.toList.drop 944 = dktL_law_32 := dk_seg dksL_law_31 24 rfl rfl
theorem dksL_law_33 : cL_law.data.toList.drop 968 = dktL_law_33 := dk_seg dksL_law_32 24 rfl rfl
theorem dksL_law_34 : cL_law.data.toList.drop 990 = dktL_law_34 := dk_seg dksL_law_33 22 rfl rfl
theorem dksL_law_35 : cL_law.data.toList.drop 1014 = dktL_law_35 := dk_seg dksL_law_34 24 rfl rfl
theorem dksL_law_36 : cL_law.data.toList.drop 1038 = dktL_law_36 := dk_seg dksL_law_35 24 rfl rfl
theorem dksL_law_37 : cL_law.data.toList.drop 1062 = dktL_law_37 := dk_seg dksL_law_36 24 rfl rfl
theorem dksL_law_38 : cL_law.data.toList.drop 1086 = dktL_law_38 := dk_seg dksL_law_37 24 rfl rfl
theorem dksL_law_39 : cL_law.data.toList.drop 1109 = dktL_law_39 := dk_seg dksL_law_38 23 rfl rfl
theorem dksL_law_40 : cL_law.data.toList.drop 1133 = dktL_law_40 := dk_seg dksL_law_39 24 rfl rfl
theorem dksL_law_41 : cL_law.data.toList.drop 1156 = dktL_law_41 := dk_seg dksL_law_40 23 rfl rfl
theorem dksL_law_42 : cL_law.data.toList.drop 1180 = dktL_law_42 := dk_seg dksL_law_41 24 rfl rfl
theorem dksL_law_43 : cL_law.data.toList.drop 1204 = dktL_law_43 := dk_seg dksL_law_42 24 rfl rfl
theorem dksL_law_44 : cL_law.data.toList.drop 1227 = dktL_law_44 := dk_seg dksL_law_43 23 rfl rfl
theorem dksL_law_45 : cL_law.data.toList.drop 1250 = dktL_law_45 := dk_seg dksL_law_44 23 rfl rfl
theorem dksL_law_46 : cL_law.data.toList.drop 1273 = dktL_law_46 := dk_seg dksL_law_45 23 rfl rfl
theorem dksL_law_47 : cL_law.data.toList.drop 1295 = dktL_law_47 := dk_seg dksL_law_46 22 rfl rfl
theorem dksL_law_48 : cL_law.data.toList.drop 1319 = dktL_law_48 := dk_seg dksL_law_47 24 rfl rfl
theorem dksL_law_49 : cL_law.data.toList.drop 1341 = dktL_law_49 := dk_seg dksL_law_48 22 rfl rfl
theorem dksL_law_50 : cL_law.data.toList.drop 1363 = dktL_law_50 := dk_seg dksL_law_49 22 rfl rfl
theorem dksL_law_51 : cL_law.data.toList.drop 1386 = dktL_law_51 := dk_seg dksL_law_50 23 rfl rfl
theorem dksL_law_52 : cL_law.data.toList.drop 1410 = dktL_law_52 := dk_seg dksL_law_51 24 rfl rfl
theorem dksL_law_53 : cL_law.data.toList.drop 1434 = dktL_law_53 := dk_seg dksL_law_52 24 rfl rfl
theorem dksL_law_54 : cL_law.data.toList.drop 1456 = dktL_law_54 := dk_seg dksL_law_53 22 rfl rfl
theorem dksL_law_55 : cL_law.data.toList.drop 1480 = dktL_law_55 := dk_seg dksL_law_54 24 rfl rfl
theorem dksL_law_56 : cL_law.data.toList.drop 1504 = dktL_law_56 := dk_seg dksL_law_55 24 rfl rfl
theorem dksL_law_57 : cL_law.data.toList.drop 1528 = dktL_law_57 := dk_seg dksL_law_56 24 rfl rfl
theorem dksL_law_58 : cL_law.data.toList.drop 1552 = dktL_law_58 := dk_seg dksL_law_57 24 rfl rfl
theorem dksL_law_59 : cL_law.data.toList.drop 1575 = dktL_law_59 := dk_seg dksL_law_58 23 rfl rfl
theorem dksL_law_60 : cL_law.data.toList.drop 1599 = dktL_law_60 := dk_seg dksL_law_59 24 rfl rfl
theorem dksL_law_61 : cL_law.data.toList.drop 1621 = dktL_law_61 := dk_seg dksL_law_60 22 rfl rfl
theorem dksL_law_62 : cL_law.data.toList.drop 1644 = dktL_law_62 := dk_seg dksL_law_61 23 rfl rfl
theorem dksL_law_63 : cL_law.data.toList.drop 1667 = dktL_law_63 := dk_seg dksL_law_62 23 rfl rfl
theorem dksL_law_64 : cL_law.data.toList.drop 1690 = dktL_law_64 := dk_seg dksL_law_63 23 rfl rfl
theorem dksL_law_65 : cL_law.data.toList.drop 1714 = dktL_law_65 := dk_seg dksL_law_64 24 rfl rfl
theorem dksL_law_66 : cL_law.data.toList.drop 1737 = dktL_law_66 := dk_seg dksL_law_65 23 rfl rfl
theorem dksL_law_67 : cL_law.data.toList.drop 1760 = dktL_law_67 := dk_seg dksL_law_66 23 rfl rfl
theorem dksL_law_68 : cL_law.data.toList.drop 1783 = dktL_law_68 := dk_seg dksL_law_67 23 rfl rfl
theorem dksL_law_69 : cL_law.data.toList.drop 1806 = dktL_law_69 := dk_seg dksL_law_68 23 rfl rfl
theorem dksL_law_70 : cL_law.data.toList.drop 1830 = dktL_law_70 := dk_seg dksL_law_69 24 rfl rfl
theorem dksL_law_71 : cL_law.data.toList.drop 1854 = dktL_law_71 := dk_seg dksL_law_70 24 rfl rfl
theorem dksL_law_72 : cL_law.data.toList.drop 1878 = dktL_law_72 := dk_seg dksL_law_71 24 rfl rfl
theorem dksL_law_73 : cL_law.data.toList.drop 1901 = dktL_law_73 := dk_seg dksL_law_72 23 rfl rfl
theorem dksL_law_74 : cL_law.data.toList.drop 1923 = dktL_law_74 := dk_seg dksL_law_73 22 rfl rfl
theorem dksL_law_75 : cL_law.data.toList.drop 1947 = dktL_law_75 := dk_seg dksL_law_74 24 rfl rfl
theorem dksL_law_76 : cL_law.data.toList.drop 1969 = dktL_law_76 := dk_seg dksL_law_75 22 rfl rfl
theorem dksL_law_77 : cL_law.data.toList.drop 1992 = dktL_law_77 := dk_seg dksL_law_76 23 rfl rfl
theorem dksL_law_78 : cL_law.data.toList.drop 2016 = dktL_law_78 := dk_seg dksL_law_77 24 rfl rfl
theorem dksL_law_79 : cL_law.data.toList.drop 2038 = dktL_law_79 := dk_seg dksL_law_78 22 rfl rfl
theorem dksL_law_80 : cL_law.data.toList.drop 2062 = dktL_law_80 := dk_seg dksL_law_79 24 rfl rfl
theorem dksL_law_81 : cL_law.data.toList.drop 2085 = dktL_law_81 := dk_seg dksL_law_80 23 rfl rfl
theorem dksL_law_82 : cL_law.data.toList.drop 2108 = dktL_law_82 := dk_seg dksL_law_81 23 rfl rfl
theorem dksL_law_83 : cL_law.data.toList.drop 2130 = dktL_law_83 := dk_seg dksL_law_82 22 rfl rfl
theorem dksL_law_84 : cL_law.data.toList.drop 2154 = dktL_law_84 := dk_seg dksL_law_83 24 rfl rfl
theorem dksL_law_85 : cL_law.data.toList.drop 2177 = dktL_law_85 := dk_seg dksL_law_84 23 rfl rfl
theorem dksL_law_86 : cL_law.data.toList.drop 2200 = dktL_law_86 := dk_seg dksL_law_85 23 rfl rfl
theorem dksL_law_87 : cL_law.data.toList.drop 2224 = dktL_law_87 := dk_seg dksL_law_86 24 rfl rfl
theorem dksL_law_88 : cL_law.data.toList.drop 2247 = dktL_law_88 := dk_seg dksL_law_87 23 rfl rfl
theorem dksL_law_89 : cL_law.data.toList.drop 2271 = dktL_law_89 := dk_seg dksL_law_88 24 rfl rfl
theorem dksL_law_90 : cL_law.data.toList.drop 2294 = dktL_law_90 := dk_seg dksL_law_89 23 rfl rfl
theorem dksL_law_91 : cL_law.data.toList.drop 2318 = dktL_law_91 := dk_seg dksL_law_90 24 rfl rfl
theorem dksL_law_92 : cL_law.data.toList.drop 2341 = dktL_law_92 := dk_seg dksL_law_91 23 rfl rfl
theorem dksL_law_93 : cL_law.data.toList.drop 2365 = dktL_law_93 := dk_seg dksL_law_92 24 rfl rfl
theorem dksL_law_94 : cL_law.data.toList.drop 2388 = dktL_law_94 := dk_seg dksL_law_93 23 rfl rfl
theorem dksL_law_95 : cL_law.data.toList.drop 2412 = dktL_law_95 := dk_seg dksL_law_94 24 rfl rfl
theorem dksL_law_96 : cL_law.data.toList.drop 2436 = dktL_law_96 := dk_seg dksL_law_95 24 rfl rfl
theorem dksL_law_97 : cL_law.data.toList.drop 2458 = dktL_law_97 := dk_seg dksL_law_96 22 rfl rfl
theorem dksL_law_98 : cL_law.data.toList.drop 2480 = dktL_law_98 := dk_seg dksL_law_97 22 rfl rfl
theorem dksL_law_99 : cL_law.data.toList.drop 2504 = dktL_law_99 := dk_seg dksL_law_98 24 rfl rfl
theorem dksL_law_100 : cL_law.data.toList.drop 2526 = dktL_law_100 := dk_seg dksL_law_99 22 rfl rfl
theorem dksL_law_101 : cL_law.data.toList.drop 2549 = dktL_law_101 := dk_seg dksL_law_100 23 rfl rfl
theorem dksL_law_102 : cL_law.data.toList.drop 2572 = dktL_law_102 := dk_seg dksL_law_101 23 rfl rfl
theorem dksL_law_103 : cL_law.data.toList.drop 2596 = dktL_law_103 := dk_seg dksL_law_102 24 rfl rfl
theorem dksL_law_104 : cL_law.data.toList.drop 2619 = dktL_law_104 := dk_seg dksL_law_103 23 rfl rfl
theorem dksL_law_105 : cL_law.data.toList.drop 2643 = dktL_law_105 := dk_seg dksL_law_104 24 rfl rfl
theorem dksL_law_106 : cL_law.data.toList.drop 2666 = dktL_law_106 := dk_seg dksL_law_105 23 rfl rfl
theorem dksL_law_107 : cL_law.data.toList.drop 2690 = dktL_law_107 := dk_seg dksL_law_106 24 rfl rfl
theorem dksL_law_108 : cL_law.data.toList.drop 2712 = dktL_law_108 := dk_seg dksL_law_107 22 rfl rfl
theorem dksL_law_109 : cL_law.data.toList.drop 2736 = dktL_law_109 := dk_seg dksL_law_108 24 rfl rfl
theorem dksL_law_110 : cL_law.data.toList.drop 2759 = dktL_law_110 := dk_seg dksL_law_109 23 rfl rfl
theorem dL_law_0 : decode cL_law 0 = .ok (.new 8, 3) := dk_187 0 8 (dk_at dksL_law_0 0 rfl rfl)
theorem dL_law_3 : decode cL_law 3 = .ok (.dup, 1) := dk_89 (dk_at dksL_law_0 3 rfl rfl)
theorem dL_law_4 : decode cL_law 4 = .ok (.invokespecial 127, 3) := dk_183 0 127 (dk_at dksL_law_0 4 rfl rfl)
theorem dL_law_7 : decode cL_law 7 = .ok (.astore_n 1, 1) := dk_76 (dk_at dksL_law_0 7 rfl rfl)
theorem dL_law_8 : decode cL_law 8 = .ok (.new 128, 3) := dk_187 0 128 (dk_at dksL_law_0 8 rfl rfl)
theorem dL_law_11 : decode cL_law 11 = .ok (.dup, 1) := dk_89 (dk_at dksL_law_0 11 rfl rfl)
theorem dL_law_12 : decode cL_law 12 = .ok (.invokespecial 130, 3) := dk_183 0 130 (dk_at dksL_law_0 12 rfl rfl)
theorem dL_law_15 : decode cL_law 15 = .ok (.astore_n 2, 1) := dk_77 (dk_at dksL_law_0 15 rfl rfl)
theorem dL_law_16 : decode cL_law 16 = .ok (.iconst 1, 1) := dk_4 (dk_at dksL_law_0 16 rfl rfl)
theorem dL_law_17 : decode cL_law 17 = .ok (.newarray .long, 2) := dk_188_11 (dk_at dksL_law_0 17 rfl rfl)
theorem dL_law_19 : decode cL_law 19 = .ok (.astore_n 3, 1) := dk_78 (dk_at dksL_law_0 19 rfl rfl)
theorem dL_law_20 : decode cL_law 20 = .ok (.iconst 1, 1) := dk_4 (dk_at dksL_law_0 20 rfl rfl)
theorem dL_law_21 : decode cL_law 21 = .ok (.newarray .double, 2) := dk_188_7 (dk_at dksL_law_0 21 rfl rfl)
theorem dL_law_23 : decode cL_law 23 = .ok (.astore 4, 2) := dk_58 4 (dk_at dksL_law_1 0 rfl rfl)
theorem dL_law_25 : decode cL_law 25 = .ok (.iconst 0, 1) := dk_3 (dk_at dksL_law_1 2 rfl rfl)
theorem dL_law_26 : decode cL_law 26 = .ok (.istore 5, 2) := dk_54 5 (dk_at dksL_law_1 3 rfl rfl)
theorem dL_law_28 : decode cL_law 28 = .ok (.iload 5, 2) := dk_21 5 (dk_at dksL_law_1 5 rfl rfl)
theorem dL_law_30 : decode cL_law 30 = .ok (.aload_n 0, 1) := dk_42 (dk_at dksL_law_1 7 rfl rfl)
theorem dL_law_31 : decode cL_law 31 = .ok (.arraylength, 1) := dk_190 (dk_at dksL_law_1 8 rfl rfl)
theorem dL_law_32 : decode cL_law 32 = .ok (.iconst 5, 1) := dk_8 (dk_at dksL_law_1 9 rfl rfl)
theorem dL_law_33 : decode cL_law 33 = .ok (.isub, 1) := dk_100 (dk_at dksL_law_1 10 rfl rfl)
theorem dL_law_34 : decode cL_law 34 = .ok (.if_icmp .gt 2728, 3) := dk_163 10 168 (dk_at dksL_law_1 11 rfl rfl)
theorem dL_law_37 : decode cL_law 37 = .ok (.aload_n 0, 1) := dk_42 (dk_at dksL_law_1 14 rfl rfl)
theorem dL_law_38 : decode cL_law 38 = .ok (.iload 5, 2) := dk_21 5 (dk_at dksL_law_1 15 rfl rfl)
theorem dL_law_40 : decode cL_law 40 = .ok (.iaload, 1) := dk_46 (dk_at dksL_law_1 17 rfl rfl)
theorem dL_law_41 : decode cL_law 41 = .ok (.bipush 63, 2) := dk_16 63 (dk_at dksL_law_1 18 rfl rfl)
theorem dL_law_43 : decode cL_law 43 = .ok (.iand, 1) := dk_126 (dk_at dksL_law_1 20 rfl rfl)
theorem dL_law_44 : decode cL_law 44 = .ok (.tableswitch 2712 0 49 #[216, 272, 328, 341, 354, 367, 380, 436, 492, 560, 628, 708, 776, 856, 881, 949, 962, 1030, 1098, 1178, 1191, 1254, 1322, 1378, 1391, 1404, 1417, 1473, 1529, 1585, 1641, 1654, 1732, 1773, 1865, 1933, 1946, 2002, 2094, 2174, 2230, 2286, 2342, 2422, 2490, 2546, 2602, 2627, 2640, 2676], 216) := by decide +kernel
theorem dL_law_260 : decode cL_law 260 = .ok (.aload_n 1, 1) := dk_43 (dk_at dksL_law_3 0 rfl rfl)
theorem dL_law_261 : decode cL_law 261 = .ok (.aload_n 0, 1) := dk_42 (dk_at dksL_law_3 1 rfl rfl)
theorem dL_law_262 : decode cL_law 262 = .ok (.iload 5, 2) := dk_21 5 (dk_at dksL_law_3 2 rfl rfl)
theorem dL_law_264 : decode cL_law 264 = .ok (.iconst 1, 1) := dk_4 (dk_at dksL_law_3 4 rfl rfl)
theorem dL_law_265 : decode cL_law 265 = .ok (.iadd, 1) := dk_96 (dk_at dksL_law_3 5 rfl rfl)
theorem dL_law_266 : decode cL_law 266 = .ok (.iaload, 1) := dk_46 (dk_at dksL_law_3 6 rfl rfl)
theorem dL_law_267 : decode cL_law 267 = .ok (.aload_n 3, 1) := dk_45 (dk_at dksL_law_3 7 rfl rfl)
theorem dL_law_268 : decode cL_law 268 = .ok (.invokestatic 131, 3) := dk_184 0 131 (dk_at dksL_law_3 8 rfl rfl)
theorem dL_law_271 : decode cL_law 271 = .ok (.istore 6, 2) := dk_54 6 (dk_at dksL_law_3 11 rfl rfl)
theorem dL_law_273 : decode cL_law 273 = .ok (.aload_n 2, 1) := dk_44 (dk_at dksL_law_3 13 rfl rfl)
theorem dL_law_274 : decode cL_law 274 = .ok (.aload_n 0, 1) := dk_42 (dk_at dksL_law_3 14 rfl rfl)
theorem dL_law_275 : decode cL_law 275 = .ok (.iload 5, 2) := dk_21 5 (dk_at dksL_law_3 15 rfl rfl)
theorem dL_law_277 : decode cL_law 277 = .ok (.iconst 1, 1) := dk_4 (dk_at dksL_law_3 17 rfl rfl)
theorem dL_law_278 : decode cL_law 278 = .ok (.iadd, 1) := dk_96 (dk_at dksL_law_3 18 rfl rfl)
theorem dL_law_279 : decode cL_law 279 = .ok (.iaload, 1) := dk_46 (dk_at dksL_law_3 19 rfl rfl)
theorem dL_law_280 : decode cL_law 280 = .ok (.invokevirtual 136, 3) := dk_182 0 136 (dk_at dksL_law_3 20 rfl rfl)
theorem dL_law_283 : decode cL_law 283 = .ok (.istore 7, 2) := dk_54 7 (dk_at dksL_law_4 0 rfl rfl)
theorem dL_law_285 : decode cL_law 285 = .ok (.aload_n 2, 1) := dk_44 (dk_at dksL_law_4 2 rfl rfl)
theorem dL_law_286 : decode cL_law 286 = .ok (.invokevirtual 137, 3) := dk_182 0 137 (dk_at dksL_law_4 3 rfl rfl)
theorem dL_law_289 : decode cL_law 289 = .ok (.iload 6, 2) := dk_21 6 (dk_at dksL_law_4 6 rfl rfl)
theorem dL_law_291 : decode cL_law 291 = .ok (.if_icmp .eq 5, 3) := dk_159 0 5 (dk_at dksL_law_4 8 rfl rfl)
theorem dL_law_294 : decode cL_law 294 = .ok (.iconst 0, 1) := dk_3 (dk_at dksL_law_4 11 rfl rfl)
theorem dL_law_295 : decode cL_law 295 = .ok (.ireturn, 1) := dk_172 (dk_at dksL_law_4 12 rfl rfl)
theorem dL_law_296 : decode cL_law 296 = .ok (.iload 6, 2) := dk_21 6 (dk_at dksL_law_4 13 rfl rfl)
theorem dL_law_298 : decode cL_law 298 = .ok (.ifCond .ne 15, 3) := dk_154 0 15 (dk_at dksL_law_4 15 rfl rfl)
theorem dL_law_301 : decode cL_law 301 = .ok (.aload_n 3, 1) := dk_45 (dk_at dksL_law_4 18 rfl rfl)
theorem dL_law_302 : decode cL_law 302 = .ok (.iconst 0, 1) := dk_3 (dk_at dksL_law_4 19 rfl rfl)
theorem dL_law_303 : decode cL_law 303 = .ok (.laload, 1) := dk_47 (dk_at dksL_law_4 20 rfl rfl)
theorem dL_law_304 : decode cL_law 304 = .ok (.iload 7, 2) := dk_21 7 (dk_at dksL_law_4 21 rfl rfl)
theorem dL_law_306 : decode cL_law 306 = .ok (.i2l, 1) := dk_133 (dk_at dksL_law_4 23 rfl rfl)
theorem dL_law_307 : decode cL_law 307 = .ok (.lcmp, 1) := dk_148 (dk_at dksL_law_5 0 rfl rfl)
theorem dL_law_308 : decode cL_law 308 = .ok (.ifCond .eq 5, 3) := dk_153 0 5 (dk_at dksL_law_5 1 rfl rfl)
theorem dL_law_311 : decode cL_law 311 = .ok (.iconst 0, 1) := dk_3 (dk_at dksL_law_5 4 rfl rfl)
theorem dL_law_312 : decode cL_law 312 = .ok (.ireturn, 1) := dk_172 (dk_at dksL_law_5 5 rfl rfl)
theorem dL_law_313 : decode cL_law 313 = .ok (.goto 2443, 3) := dk_167 9 139 (dk_at dksL_law_5 6 rfl rfl)
theorem dL_law_316 : decode cL_law 316 = .ok (.aload_n 1, 1) := dk_43 (dk_at dksL_law_5 9 rfl rfl)
theorem dL_law_317 : decode cL_law 317 = .ok (.aload_n 0, 1) := dk_42 (dk_at dksL_law_5 10 rfl rfl)
theorem dL_law_318 : decode cL_law 318 = .ok (.iload 5, 2) := dk_21 5 (dk_at dksL_law_5 11 rfl rfl)
theorem dL_law_320 : decode cL_law 320 = .ok (.iconst 1, 1) := dk_4 (dk_at dksL_law_5 13 rfl rfl)
theorem dL_law_321 : decode cL_law 321 = .ok (.iadd, 1) := dk_96 (dk_at dksL_law_5 14 rfl rfl)
theorem dL_law_322 : decode cL_law 322 = .ok (.iaload, 1) := dk_46 (dk_at dksL_law_5 15 rfl rfl)
theorem dL_law_323 : decode cL_law 323 = .ok (.aload_n 3, 1) := dk_45 (dk_at dksL_law_5 16 rfl rfl)
theorem dL_law_324 : decode cL_law 324 = .ok (.invokestatic 141, 3) := dk_184 0 141 (dk_at dksL_law_5 17 rfl rfl)
theorem dL_law_327 : decode cL_law 327 = .ok (.istore 6, 2) := dk_54 6 (dk_at dksL_law_5 20 rfl rfl)
theorem dL_law_329 : decode cL_law 329 = .ok (.aload_n 2, 1) := dk_44 (dk_at dksL_law_5 22 rfl rfl)
theorem dL_law_330 : decode cL_law 330 = .ok (.aload_n 0, 1) := dk_42 (dk_at dksL_law_5 23 rfl rfl)
theorem dL_law_331 : decode cL_law 331 = .ok (.iload 5, 2) := dk_21 5 (dk_at dksL_law_6 0 rfl rfl)
theorem dL_law_333 : decode cL_law 333 = .ok (.iconst 1, 1) := dk_4 (dk_at dksL_law_6 2 rfl rfl)
theorem dL_law_334 : decode cL_law 334 = .ok (.iadd, 1) := dk_96 (dk_at dksL_law_6 3 rfl rfl)
theorem dL_law_335 : decode cL_law 335 = .ok (.iaload, 1) := dk_46 (dk_at dksL_law_6 4 rfl rfl)
theorem dL_law_336 : decode cL_law 336 = .ok (.invokevirtual 143, 3) := dk_182 0 143 (dk_at dksL_law_6 5 rfl rfl)
theorem dL_law_339 : decode cL_law 339 = .ok (.istore 7, 2) := dk_54 7 (dk_at dksL_law_6 8 rfl rfl)
theorem dL_law_341 : decode cL_law 341 = .ok (.aload_n 2, 1) := dk_44 (dk_at dksL_law_6 10 rfl rfl)
theorem dL_law_342 : decode cL_law 342 = .ok (.invokevirtual 137, 3) := dk_182 0 137 (dk_at dksL_law_6 11 rfl rfl)
theorem dL_law_345 : decode cL_law 345 = .ok (.iload 6, 2) := dk_21 6 (dk_at dksL_law_6 14 rfl rfl)
theorem dL_law_347 : decode cL_law 347 = .ok (.if_icmp .eq 5, 3) := dk_159 0 5 (dk_at dksL_law_6 16 rfl rfl)
theorem dL_law_350 : decode cL_law 350 = .ok (.iconst 0, 1) := dk_3 (dk_at dksL_law_6 19 rfl rfl)
theorem dL_law_351 : decode cL_law 351 = .ok (.ireturn, 1) := dk_172 (dk_at dksL_law_6 20 rfl rfl)
theorem dL_law_352 : decode cL_law 352 = .ok (.iload 6, 2) := dk_21 6 (dk_at dksL_law_6 21 rfl rfl)
theorem dL_law_354 : decode cL_law 354 = .ok (.ifCond .ne 15, 3) := dk_154 0 15 (dk_at dksL_law_7 0 rfl rfl)
theorem dL_law_357 : decode cL_law 357 = .ok (.aload_n 3, 1) := dk_45 (dk_at dksL_law_7 3 rfl rfl)
theorem dL_law_358 : decode cL_law 358 = .ok (.iconst 0, 1) := dk_3 (dk_at dksL_law_7 4 rfl rfl)
theorem dL_law_359 : decode cL_law 359 = .ok (.laload, 1) := dk_47 (dk_at dksL_law_7 5 rfl rfl)
theorem dL_law_360 : decode cL_law 360 = .ok (.iload 7, 2) := dk_21 7 (dk_at dksL_law_7 6 rfl rfl)
theorem dL_law_362 : decode cL_law 362 = .ok (.i2l, 1) := dk_133 (dk_at dksL_law_7 8 rfl rfl)
theorem dL_law_363 : decode cL_law 363 = .ok (.lcmp, 1) := dk_148 (dk_at dksL_law_7 9 rfl rfl)
theorem dL_law_364 : decode cL_law 364 = .ok (.ifCond .eq 5, 3) := dk_153 0 5 (dk_at dksL_law_7 10 rfl rfl)
theorem dL_law_367 : decode cL_law 367 = .ok (.iconst 0, 1) := dk_3 (dk_at dksL_law_7 13 rfl rfl)
theorem dL_law_368 : decode cL_law 368 = .ok (.ireturn, 1) := dk_172 (dk_at dksL_law_7 14 rfl rfl)
theorem dL_law_369 : decode cL_law 369 = .ok (.goto 2387, 3) := dk_167 9 83 (dk_at dksL_law_7 15 rfl rfl)
theorem dL_law_372 : decode cL_law 372 = .ok (.aload_n 1, 1) := dk_43 (dk_at dksL_law_7 18 rfl rfl)
theorem dL_law_373 : decode cL_law 373 = .ok (.invokevirtual 144, 3) := dk_182 0 144 (dk_at dksL_law_7 19 rfl rfl)
theorem dL_law_376 : decode cL_law 376 = .ok (.aload_n 2, 1) := dk_44 (dk_at dksL_law_7 22 rfl rfl)
theorem dL_law_377 : decode cL_law 377 = .ok (.invokevirtual 147, 3) := dk_182 0 147 (dk_at dksL_law_8 0 rfl rfl)
theorem dL_law_380 : decode cL_law 380 = .ok (.if_icmp .eq 2376, 3) := dk_159 9 72 (dk_at dksL_law_8 3 rfl rfl)
theorem dL_law_383 : decode cL_law 383 = .ok (.iconst 0, 1) := dk_3 (dk_at dksL_law_8 6 rfl rfl)
theorem dL_law_384 : decode cL_law 384 = .ok (.ireturn, 1) := dk_172 (dk_at dksL_law_8 7 rfl rfl)
theorem dL_law_385 : decode cL_law 385 = .ok (.aload_n 1, 1) := dk_43 (dk_at dksL_law_8 8 rfl rfl)
theorem dL_law_386 : decode cL_law 386 = .ok (.invokevirtual 148, 3) := dk_182 0 148 (dk_at dksL_law_8 9 rfl rfl)
theorem dL_law_389 : decode cL_law 389 = .ok (.aload_n 2, 1) := dk_44 (dk_at dksL_law_8 12 rfl rfl)
theorem dL_law_390 : decode cL_law 390 = .ok (.invokevirtual 151, 3) := dk_182 0 151 (dk_at dksL_law_8 13 rfl rfl)
theorem dL_law_393 : decode cL_law 393 = .ok (.if_icmp .eq 2363, 3) := dk_159 9 59 (dk_at dksL_law_8 16 rfl rfl)
theorem dL_law_396 : decode cL_law 396 = .ok (.iconst 0, 1) := dk_3 (dk_at dksL_law_8 19 rfl rfl)
theorem dL_law_397 : decode cL_law 397 = .ok (.ireturn, 1) := dk_172 (dk_at dksL_law_8 20 rfl rfl)
theorem dL_law_398 : decode cL_law 398 = .ok (.aload_n 1, 1) := dk_43 (dk_at dksL_law_8 21 rfl rfl)
theorem dL_law_399 : decode cL_law 399 = .ok (.invokevirtual 152, 3) := dk_182 0 152 (dk_at dksL_law_9 0 rfl rfl)
theorem dL_law_402 : decode cL_law 402 = .ok (.aload_n 2, 1) := dk_44 (dk_at dksL_law_9 3 rfl rfl)
theorem dL_law_403 : decode cL_law 403 = .ok (.invokevirtual 155, 3) := dk_182 0 155 (dk_at dksL_law_9 4 rfl rfl)
theorem dL_law_406 : decode cL_law 406 = .ok (.if_icmp .eq 2350, 3) := dk_159 9 46 (dk_at dksL_law_9 7 rfl rfl)
theorem dL_law_409 : decode cL_law 409 = .ok (.iconst 0, 1) := dk_3 (dk_at dksL_law_9 10 rfl rfl)
theorem dL_law_410 : decode cL_law 410 = .ok (.ireturn, 1) := dk_172 (dk_at dksL_law_9 11 rfl rfl)
theorem dL_law_411 : decode cL_law 411 = .ok (.aload_n 1, 1) := dk_43 (dk_at dksL_law_9 12 rfl rfl)
theorem dL_law_412 : decode cL_law 412 = .ok (.invokevirtual 156, 3) := dk_182 0 156 (dk_at dksL_law_9 13 rfl rfl)
theorem dL_law_415 : decode cL_law 415 = .ok (.aload_n 2, 1) := dk_44 (dk_at dksL_law_9 16 rfl rfl)
theorem dL_law_416 : decode cL_law 416 = .ok (.invokevirtual 159, 3) := dk_182 0 159 (dk_at dksL_law_9 17 rfl rfl)
theorem dL_law_419 : decode cL_law 419 = .ok (.if_icmp .eq 2337, 3) := dk_159 9 33 (dk_at dksL_law_9 20 rfl rfl)
theorem dL_law_422 : decode cL_law 422 = .ok (.iconst 0, 1) := dk_3 (dk_at dksL_law_9 23 rfl rfl)
theorem dL_law_423 : decode cL_law 423 = .ok (.ireturn, 1) := dk_172 (dk_at dksL_law_10 0 rfl rfl)
theorem dL_law_424 : decode cL_law 424 = .ok (.aload_n 1, 1) := dk_43 (dk_at dksL_law_10 1 rfl rfl)
theorem dL_law_425 : decode cL_law 425 = .ok (.aload_n 0, 1) := dk_42 (dk_at dksL_law_10 2 rfl rfl)
theorem dL_law_426 : decode cL_law 426 = .ok (.iload 5, 2) := dk_21 5 (dk_at dksL_law_10 3 rfl rfl)
theorem dL_law_428 : decode cL_law 428 = .ok (.iconst 1, 1) := dk_4 (dk_at dksL_law_10 5 rfl rfl)
theorem dL_law_429 : decode cL_law 429 = .ok (.iadd, 1) := dk_96 (dk_at dksL_law_10 6 rfl rfl)
theorem dL_law_430 : decode cL_law 430 = .ok (.iaload, 1) := dk_46 (dk_at dksL_law_10 7 rfl rfl)
theorem dL_law_431 : decode cL_law 431 = .ok (.aload_n 3, 1) := dk_45 (dk_at dksL_law_10 8 rfl rfl)
theorem dL_law_432 : decode cL_law 432 = .ok (.invokestatic 160, 3) := dk_184 0 160 (dk_at dksL_law_10 9 rfl rfl)
theorem dL_law_435 : decode cL_law 435 = .ok (.istore 6, 2) := dk_54 6 (dk_at dksL_law_10 12 rfl rfl)
theorem dL_law_437 : decode cL_law 437 = .ok (.aload_n 2, 1) := dk_44 (dk_at dksL_law_10 14 rfl rfl)
theorem dL_law_438 : decode cL_law 438 = .ok (.aload_n 0, 1) := dk_42 (dk_at dksL_law_10 15 rfl rfl)
theorem dL_law_439 : decode cL_law 439 = .ok (.iload 5, 2) := dk_21 5 (dk_at dksL_law_10 16 rfl rfl)
theorem dL_law_441 : decode cL_law 441 = .ok (.iconst 1, 1) := dk_4 (dk_at dksL_law_10 18 rfl rfl)
theorem dL_law_442 : decode cL_law 442 = .ok (.iadd, 1) := dk_96 (dk_at dksL_law_10 19 rfl rfl)
theorem dL_law_443 : decode cL_law 443 = .ok (.iaload, 1) := dk_46 (dk_at dksL_law_10 20 rfl rfl)
theorem dL_law_444 : decode cL_law 444 = .ok (.invokevirtual 162, 3) := dk_182 0 162 (dk_at dksL_law_10 21 rfl rfl)
theorem dL_law_447 : decode cL_law 447 = .ok (.istore 7, 2) := dk_54 7 (dk_at dksL_law_11 0 rfl rfl)
theorem dL_law_449 : decode cL_law 449 = .ok (.aload_n 2, 1) := dk_44 (dk_at dksL_law_11 2 rfl rfl)
theorem dL_law_450 : decode cL_law 450 = .ok (.invokevirtual 137, 3) := dk_182 0 137 (dk_at dksL_law_11 3 rfl rfl)
theorem dL_law_453 : decode cL_law 453 = .ok (.iload 6, 2) := dk_21 6 (dk_at dksL_law_11 6 rfl rfl)
theorem dL_law_455 : decode cL_law 455 = .ok (.if_icmp .eq 5, 3) := dk_159 0 5 (dk_at dksL_law_11 8 rfl rfl)
theorem dL_law_458 : decode cL_law 458 = .ok (.iconst 0, 1) := dk_3 (dk_at dksL_law_11 11 rfl rfl)
theorem dL_law_459 : decode cL_law 459 = .ok (.ireturn, 1) := dk_172 (dk_at dksL_law_11 12 rfl rfl)
theorem dL_law_460 : decode cL_law 460 = .ok (.iload 6, 2) := dk_21 6 (dk_at dksL_law_11 13 rfl rfl)
theorem dL_law_462 : decode cL_law 462 = .ok (.ifCond .ne 15, 3) := dk_154 0 15 (dk_at dksL_law_11 15 rfl rfl)
theorem dL_law_465 : decode cL_law 465 = .ok (.aload_n 3, 1) := dk_45 (dk_at dksL_law_11 18 rfl rfl)
theorem dL_law_466 : decode cL_law 466 = .ok (.iconst 0, 1) := dk_3 (dk_at dksL_law_11 19 rfl rfl)
theorem dL_law_467 : decode cL_law 467 = .ok (.laload, 1) := dk_47 (dk_at dksL_law_11 20 rfl rfl)
theorem dL_law_468 : decode cL_law 468 = .ok (.iload 7, 2) := dk_21 7 (dk_at dksL_law_11 21 rfl rfl)
theorem dL_law_470 : decode cL_law 470 = .ok (.i2l, 1) := dk_133 (dk_at dksL_law_11 23 rfl rfl)
theorem dL_law_471 : decode cL_law 471 = .ok (.lcmp, 1) := dk_148 (dk_at dksL_law_12 0 rfl rfl)
theorem dL_law_472 : decode cL_law 472 = .ok (.ifCond .eq 5, 3) := dk_153 0 5 (dk_at dksL_law_12 1 rfl rfl)
theorem dL_law_475 : decode cL_law 475 = .ok (.iconst 0, 1) := dk_3 (dk_at dksL_law_12 4 rfl rfl)
theorem dL_law_476 : decode cL_law 476 = .ok (.ireturn, 1) := dk_172 (dk_at dksL_law_12 5 rfl rfl)
theorem dL_law_477 : decode cL_law 477 = .ok (.goto 2279, 3) := dk_167 8 231 (dk_at dksL_law_12 6 rfl rfl)
theorem dL_law_480 : decode cL_law 480 = .ok (.aload_n 1, 1) := dk_43 (dk_at dksL_law_12 9 rfl rfl)
theorem dL_law_481 : decode cL_law 481 = .ok (.aload_n 0, 1) := dk_42 (dk_at dksL_law_12 10 rfl rfl)
theorem dL_law_482 : decode cL_law 482 = .ok (.iload 5, 2) := dk_21 5 (dk_at dksL_law_12 11 rfl rfl)
theorem dL_law_484 : decode cL_law 484 = .ok (.iconst 1, 1) := dk_4 (dk_at dksL_law_12 13 rfl rfl)
theorem dL_law_485 : decode cL_law 485 = .ok (.iadd, 1) := dk_96 (dk_at dksL_law_12 14 rfl rfl)
theorem dL_law_486 : decode cL_law 486 = .ok (.iaload, 1) := dk_46 (dk_at dksL_law_12 15 rfl rfl)
theorem dL_law_487 : decode cL_law 487 = .ok (.aload_n 3, 1) := dk_45 (dk_at dksL_law_12 16 rfl rfl)
theorem dL_law_488 : decode cL_law 488 = .ok (.invokestatic 163, 3) := dk_184 0 163 (dk_at dksL_law_12 17 rfl rfl)
theorem dL_law_491 : decode cL_law 491 = .ok (.istore 6, 2) := dk_54 6 (dk_at dksL_law_12 20 rfl rfl)
theorem dL_law_493 : decode cL_law 493 = .ok (.aload_n 2, 1) := dk_44 (dk_at dksL_law_12 22 rfl rfl)
theorem dL_law_494 : decode cL_law 494 = .ok (.aload_n 0, 1) := dk_42 (dk_at dksL_law_12 23 rfl rfl)
theorem dL_law_495 : decode cL_law 495 = .ok (.iload 5, 2) := dk_21 5 (dk_at dksL_law_13 0 rfl rfl)
theorem dL_law_497 : decode cL_law 497 = .ok (.iconst 1, 1) := dk_4 (dk_at dksL_law_13 2 rfl rfl)
theorem dL_law_498 : decode cL_law 498 = .ok (.iadd, 1) := dk_96 (dk_at dksL_law_13 3 rfl rfl)
theorem dL_law_499 : decode cL_law 499 = .ok (.iaload, 1) := dk_46 (dk_at dksL_law_13 4 rfl rfl)
theorem dL_law_500 : decode cL_law 500 = .ok (.invokevirtual 165, 3) := dk_182 0 165 (dk_at dksL_law_13 5 rfl rfl)
theorem dL_law_503 : decode cL_law 503 = .ok (.istore 7, 2) := dk_54 7 (dk_at dksL_law_13 8 rfl rfl)
theorem dL_law_505 : decode cL_law 505 = .ok (.aload_n 2, 1) := dk_44 (dk_at dksL_law_13 10 rfl rfl)
theorem dL_law_506 : decode cL_law 506 = .ok (.invokevirtual 137, 3) := dk_182 0 137 (dk_at dksL_law_13 11 rfl rfl)
theorem dL_law_509 : decode cL_law 509 = .ok (.iload 6, 2) := dk_21 6 (dk_at dksL_law_13 14 rfl rfl)
theorem dL_law_511 : decode cL_law 511 = .ok (.if_icmp .eq 5, 3) := dk_159 0 5 (dk_at dksL_law_13 16 rfl rfl)
theorem dL_law_514 : decode cL_law 514 = .ok (.iconst 0, 1) := dk_3 (dk_at dksL_law_13 19 rfl rfl)
theorem dL_law_515 : decode cL_law 515 = .ok (.ireturn, 1) := dk_172 (dk_at dksL_law_13 20 rfl rfl)
theorem dL_law_516 : decode cL_law 516 = .ok (.iload 6, 2) := dk_21 6 (dk_at dksL_law_13 21 rfl rfl)
theorem dL_law_518 : decode cL_law 518 = .ok (.ifCond .ne 15, 3) := dk_154 0 15 (dk_at dksL_law_14 0 rfl rfl)
theorem dL_law_521 : decode cL_law 521 = .ok (.aload_n 3, 1) := dk_45 (dk_at dksL_law_14 3 rfl rfl)
theorem dL_law_522 : decode cL_law 522 = .ok (.iconst 0, 1) := dk_3 (dk_at dksL_law_14 4 rfl rfl)
theorem dL_law_523 : decode cL_law 523 = .ok (.laload, 1) := dk_47 (dk_at dksL_law_14 5 rfl rfl)
theorem dL_law_524 : decode cL_law 524 = .ok (.iload 7, 2) := dk_21 7 (dk_at dksL_law_14 6 rfl rfl)
theorem dL_law_526 : decode cL_law 526 = .ok (.i2l, 1) := dk_133 (dk_at dksL_law_14 8 rfl rfl)
theorem dL_law_527 : decode cL_law 527 = .ok (.lcmp, 1) := dk_148 (dk_at dksL_law_14 9 rfl rfl)
theorem dL_law_528 : decode cL_law 528 = .ok (.ifCond .eq 5, 3) := dk_153 0 5 (dk_at dksL_law_14 10 rfl rfl)
theorem dL_law_531 : decode cL_law 531 = .ok (.iconst 0, 1) := dk_3 (dk_at dksL_law_14 13 rfl rfl)
theorem dL_law_532 : decode cL_law 532 = .ok (.ireturn, 1) := dk_172 (dk_at dksL_law_14 14 rfl rfl)
theorem dL_law_533 : decode cL_law 533 = .ok (.goto 2223, 3) := dk_167 8 175 (dk_at dksL_law_14 15 rfl rfl)
theorem dL_law_536 : decode cL_law 536 = .ok (.aload_n 1, 1) := dk_43 (dk_at dksL_law_14 18 rfl rfl)
theorem dL_law_537 : decode cL_law 537 = .ok (.aload_n 0, 1) := dk_42 (dk_at dksL_law_14 19 rfl rfl)
theorem dL_law_538 : decode cL_law 538 = .ok (.iload 5, 2) := dk_21 5 (dk_at dksL_law_14 20 rfl rfl)
theorem dL_law_540 : decode cL_law 540 = .ok (.iconst 1, 1) := dk_4 (dk_at dksL_law_14 22 rfl rfl)
theorem dL_law_541 : decode cL_law 541 = .ok (.iadd, 1) := dk_96 (dk_at dksL_law_14 23 rfl rfl)
theorem dL_law_542 : decode cL_law 542 = .ok (.iaload, 1) := dk_46 (dk_at dksL_law_15 0 rfl rfl)
theorem dL_law_543 : decode cL_law 543 = .ok (.aload_n 0, 1) := dk_42 (dk_at dksL_law_15 1 rfl rfl)
theorem dL_law_544 : decode cL_law 544 = .ok (.iload 5, 2) := dk_21 5 (dk_at dksL_law_15 2 rfl rfl)
theorem dL_law_546 : decode cL_law 546 = .ok (.iconst 2, 1) := dk_5 (dk_at dksL_law_15 4 rfl rfl)
theorem dL_law_547 : decode cL_law 547 = .ok (.iadd, 1) := dk_96 (dk_at dksL_law_15 5 rfl rfl)
theorem dL_law_548 : decode cL_law 548 = .ok (.iaload, 1) := dk_46 (dk_at dksL_law_15 6 rfl rfl)
theorem dL_law_549 : decode cL_law 549 = .ok (.aload_n 3, 1) := dk_45 (dk_at dksL_law_15 7 rfl rfl)
theorem dL_law_550 : decode cL_law 550 = .ok (.invokestatic 166, 3) := dk_184 0 166 (dk_at dksL_law_15 8 rfl rfl)
theorem dL_law_553 : decode cL_law 553 = .ok (.istore 6, 2) := dk_54 6 (dk_at dksL_law_15 11 rfl rfl)
theorem dL_law_555 : decode cL_law 555 = .ok (.aload_n 2, 1) := dk_44 (dk_at dksL_law_15 13 rfl rfl)
theorem dL_law_556 : decode cL_law 556 = .ok (.aload_n 0, 1) := dk_42 (dk_at dksL_law_15 14 rfl rfl)
theorem dL_law_557 : decode cL_law 557 = .ok (.iload 5, 2) := dk_21 5 (dk_at dksL_law_15 15 rfl rfl)
theorem dL_law_559 : decode cL_law 559 = .ok (.iconst 1, 1) := dk_4 (dk_at dksL_law_15 17 rfl rfl)
theorem dL_law_560 : decode cL_law 560 = .ok (.iadd, 1) := dk_96 (dk_at dksL_law_15 18 rfl rfl)
theorem dL_law_561 : decode cL_law 561 = .ok (.iaload, 1) := dk_46 (dk_at dksL_law_15 19 rfl rfl)
theorem dL_law_562 : decode cL_law 562 = .ok (.aload_n 0, 1) := dk_42 (dk_at dksL_law_15 20 rfl rfl)
theorem dL_law_563 : decode cL_law 563 = .ok (.iload 5, 2) := dk_21 5 (dk_at dksL_law_15 21 rfl rfl)
theorem dL_law_565 : decode cL_law 565 = .ok (.iconst 2, 1) := dk_5 (dk_at dksL_law_15 23 rfl rfl)
theorem dL_law_566 : decode cL_law 566 = .ok (.iadd, 1) := dk_96 (dk_at dksL_law_16 0 rfl rfl)
theorem dL_law_567 : decode cL_law 567 = .ok (.iaload, 1) := dk_46 (dk_at dksL_law_16 1 rfl rfl)
theorem dL_law_568 : decode cL_law 568 = .ok (.invokevirtual 169, 3) := dk_182 0 169 (dk_at dksL_law_16 2 rfl rfl)
theorem dL_law_571 : decode cL_law 571 = .ok (.istore 7, 2) := dk_54 7 (dk_at dksL_law_16 5 rfl rfl)
theorem dL_law_573 : decode cL_law 573 = .ok (.aload_n 2, 1) := dk_44 (dk_at dksL_law_16 7 rfl rfl)
theorem dL_law_574 : decode cL_law 574 = .ok (.invokevirtual 137, 3) := dk_182 0 137 (dk_at dksL_law_16 8 rfl rfl)
theorem dL_law_577 : decode cL_law 577 = .ok (.iload 6, 2) := dk_21 6 (dk_at dksL_law_16 11 rfl rfl)
theorem dL_law_579 : decode cL_law 579 = .ok (.if_icmp .eq 5, 3) := dk_159 0 5 (dk_at dksL_law_16 13 rfl rfl)
theorem dL_law_582 : decode cL_law 582 = .ok (.iconst 0, 1) := dk_3 (dk_at dksL_law_16 16 rfl rfl)
theorem dL_law_583 : decode cL_law 583 = .ok (.ireturn, 1) := dk_172 (dk_at dksL_law_16 17 rfl rfl)
theorem dL_law_584 : decode cL_law 584 = .ok (.iload 6, 2) := dk_21 6 (dk_at dksL_law_16 18 rfl rfl)
theorem dL_law_586 : decode cL_law 586 = .ok (.ifCond .ne 15, 3) := dk_154 0 15 (dk_at dksL_law_16 20 rfl rfl)
theorem dL_law_589 : decode cL_law 589 = .ok (.aload_n 3, 1) := dk_45 (dk_at dksL_law_16 23 rfl rfl)
theorem dL_law_590 : decode cL_law 590 = .ok (.iconst 0, 1) := dk_3 (dk_at dksL_law_17 0 rfl rfl)
theorem dL_law_591 : decode cL_law 591 = .ok (.laload, 1) := dk_47 (dk_at dksL_law_17 1 rfl rfl)
theorem dL_law_592 : decode cL_law 592 = .ok (.iload 7, 2) := dk_21 7 (dk_at dksL_law_17 2 rfl rfl)
theorem dL_law_594 : decode cL_law 594 = .ok (.i2l, 1) := dk_133 (dk_at dksL_law_17 4 rfl rfl)
theorem dL_law_595 : decode cL_law 595 = .ok (.lcmp, 1) := dk_148 (dk_at dksL_law_17 5 rfl rfl)
theorem dL_law_596 : decode cL_law 596 = .ok (.ifCond .eq 5, 3) := dk_153 0 5 (dk_at dksL_law_17 6 rfl rfl)
theorem dL_law_599 : decode cL_law 599 = .ok (.iconst 0, 1) := dk_3 (dk_at dksL_law_17 9 rfl rfl)
theorem dL_law_600 : decode cL_law 600 = .ok (.ireturn, 1) := dk_172 (dk_at dksL_law_17 10 rfl rfl)
theorem dL_law_601 : decode cL_law 601 = .ok (.goto 2155, 3) := dk_167 8 107 (dk_at dksL_law_17 11 rfl rfl)
theorem dL_law_604 : decode cL_law 604 = .ok (.aload_n 1, 1) := dk_43 (dk_at dksL_law_17 14 rfl rfl)
theorem dL_law_605 : decode cL_law 605 = .ok (.aload_n 0, 1) := dk_42 (dk_at dksL_law_17 15 rfl rfl)
theorem dL_law_606 : decode cL_law 606 = .ok (.iload 5, 2) := dk_21 5 (dk_at dksL_law_17 16 rfl rfl)
theorem dL_law_608 : decode cL_law 608 = .ok (.iconst 1, 1) := dk_4 (dk_at dksL_law_17 18 rfl rfl)
theorem dL_law_609 : decode cL_law 609 = .ok (.iadd, 1) := dk_96 (dk_at dksL_law_17 19 rfl rfl)
theorem dL_law_610 : decode cL_law 610 = .ok (.iaload, 1) := dk_46 (dk_at dksL_law_17 20 rfl rfl)
theorem dL_law_611 : decode cL_law 611 = .ok (.aload_n 0, 1) := dk_42 (dk_at dksL_law_17 21 rfl rfl)
theorem dL_law_612 : decode cL_law 612 = .ok (.iload 5, 2) := dk_21 5 (dk_at dksL_law_17 22 rfl rfl)
theorem dL_law_614 : decode cL_law 614 = .ok (.iconst 2, 1) := dk_5 (dk_at dksL_law_18 0 rfl rfl)
theorem dL_law_615 : decode cL_law 615 = .ok (.iadd, 1) := dk_96 (dk_at dksL_law_18 1 rfl rfl)
theorem dL_law_616 : decode cL_law 616 = .ok (.iaload, 1) := dk_46 (dk_at dksL_law_18 2 rfl rfl)
theorem dL_law_617 : decode cL_law 617 = .ok (.aload_n 3, 1) := dk_45 (dk_at dksL_law_18 3 rfl rfl)
theorem dL_law_618 : decode cL_law 618 = .ok (.invokestatic 170, 3) := dk_184 0 170 (dk_at dksL_law_18 4 rfl rfl)
theorem dL_law_621 : decode cL_law 621 = .ok (.istore 6, 2) := dk_54 6 (dk_at dksL_law_18 7 rfl rfl)
theorem dL_law_623 : decode cL_law 623 = .ok (.aload_n 2, 1) := dk_44 (dk_at dksL_law_18 9 rfl rfl)
theorem dL_law_624 : decode cL_law 624 = .ok (.aload_n 0, 1) := dk_42 (dk_at dksL_law_18 10 rfl rfl)
theorem dL_law_625 : decode cL_law 625 = .ok (.iload 5, 2) := dk_21 5 (dk_at dksL_law_18 11 rfl rfl)
theorem dL_law_627 : decode cL_law 627 = .ok (.iconst 1, 1) := dk_4 (dk_at dksL_law_18 13 rfl rfl)
theorem dL_law_628 : decode cL_law 628 = .ok (.iadd, 1) := dk_96 (dk_at dksL_law_18 14 rfl rfl)
theorem dL_law_629 : decode cL_law 629 = .ok (.iaload, 1) := dk_46 (dk_at dksL_law_18 15 rfl rfl)
theorem dL_law_630 : decode cL_law 630 = .ok (.aload_n 0, 1) := dk_42 (dk_at dksL_law_18 16 rfl rfl)
theorem dL_law_631 : decode cL_law 631 = .ok (.iload 5, 2) := dk_21 5 (dk_at dksL_law_18 17 rfl rfl)
theorem dL_law_633 : decode cL_law 633 = .ok (.iconst 2, 1) := dk_5 (dk_at dksL_law_18 19 rfl rfl)
theorem dL_law_634 : decode cL_law 634 = .ok (.iadd, 1) := dk_96 (dk_at dksL_law_18 20 rfl rfl)
theorem dL_law_635 : decode cL_law 635 = .ok (.iaload, 1) := dk_46 (dk_at dksL_law_18 21 rfl rfl)
theorem dL_law_636 : decode cL_law 636 = .ok (.invokevirtual 172, 3) := dk_182 0 172 (dk_at dksL_law_19 0 rfl rfl)
theorem dL_law_639 : decode cL_law 639 = .ok (.istore 7, 2) := dk_54 7 (dk_at dksL_law_19 3 rfl rfl)
theorem dL_law_641 : decode cL_law 641 = .ok (.aload_n 2, 1) := dk_44 (dk_at dksL_law_19 5 rfl rfl)
theorem dL_law_642 : decode cL_law 642 = .ok (.invokevirtual 137, 3) := dk_182 0 137 (dk_at dksL_law_19 6 rfl rfl)
theorem dL_law_645 : decode cL_law 645 = .ok (.iload 6, 2) := dk_21 6 (dk_at dksL_law_19 9 rfl rfl)
theorem dL_law_647 : decode cL_law 647 = .ok (.if_icmp .eq 5, 3) := dk_159 0 5 (dk_at dksL_law_19 11 rfl rfl)
theorem dL_law_650 : decode cL_law 650 = .ok (.iconst 0, 1) := dk_3 (dk_at dksL_law_19 14 rfl rfl)
theorem dL_law_651 : decode cL_law 651 = .ok (.ireturn, 1) := dk_172 (dk_at dksL_law_19 15 rfl rfl)
theorem dL_law_652 : decode cL_law 652 = .ok (.iload 6, 2) := dk_21 6 (dk_at dksL_law_19 16 rfl rfl)
theorem dL_law_654 : decode cL_law 654 = .ok (.ifCond .ne 15, 3) := dk_154 0 15 (dk_at dksL_law_19 18 rfl rfl)
theorem dL_law_657 : decode cL_law 657 = .ok (.aload_n 3, 1) := dk_45 (dk_at dksL_law_19 21 rfl rfl)
theorem dL_law_658 : decode cL_law 658 = .ok (.iconst 0, 1) := dk_3 (dk_at dksL_law_19 22 rfl rfl)
theorem dL_law_659 : decode cL_law 659 = .ok (.laload, 1) := dk_47 (dk_at dksL_law_19 23 rfl rfl)
theorem dL_law_660 : decode cL_law 660 = .ok (.iload 7, 2) := dk_21 7 (dk_at dksL_law_20 0 rfl rfl)
theorem dL_law_662 : decode cL_law 662 = .ok (.i2l, 1) := dk_133 (dk_at dksL_law_20 2 rfl rfl)
theorem dL_law_663 : decode cL_law 663 = .ok (.lcmp, 1) := dk_148 (dk_at dksL_law_20 3 rfl rfl)
theorem dL_law_664 : decode cL_law 664 = .ok (.ifCond .eq 5, 3) := dk_153 0 5 (dk_at dksL_law_20 4 rfl rfl)
theorem dL_law_667 : decode cL_law 667 = .ok (.iconst 0, 1) := dk_3 (dk_at dksL_law_20 7 rfl rfl)
theorem dL_law_668 : decode cL_law 668 = .ok (.ireturn, 1) := dk_172 (dk_at dksL_law_20 8 rfl rfl)
theorem dL_law_669 : decode cL_law 669 = .ok (.goto 2087, 3) := dk_167 8 39 (dk_at dksL_law_20 9 rfl rfl)
theorem dL_law_672 : decode cL_law 672 = .ok (.aload_n 1, 1) := dk_43 (dk_at dksL_law_20 12 rfl rfl)
theorem dL_law_673 : decode cL_law 673 = .ok (.aload_n 0, 1) := dk_42 (dk_at dksL_law_20 13 rfl rfl)
theorem dL_law_674 : decode cL_law 674 = .ok (.iload 5, 2) := dk_21 5 (dk_at dksL_law_20 14 rfl rfl)
theorem dL_law_676 : decode cL_law 676 = .ok (.iconst 1, 1) := dk_4 (dk_at dksL_law_20 16 rfl rfl)
theorem dL_law_677 : decode cL_law 677 = .ok (.iadd, 1) := dk_96 (dk_at dksL_law_20 17 rfl rfl)
theorem dL_law_678 : decode cL_law 678 = .ok (.iaload, 1) := dk_46 (dk_at dksL_law_20 18 rfl rfl)
theorem dL_law_679 : decode cL_law 679 = .ok (.aload_n 0, 1) := dk_42 (dk_at dksL_law_20 19 rfl rfl)
theorem dL_law_680 : decode cL_law 680 = .ok (.iload 5, 2) := dk_21 5 (dk_at dksL_law_20 20 rfl rfl)
theorem dL_law_682 : decode cL_law 682 = .ok (.iconst 2, 1) := dk_5 (dk_at dksL_law_20 22 rfl rfl)
theorem dL_law_683 : decode cL_law 683 = .ok (.iadd, 1) := dk_96 (dk_at dksL_law_20 23 rfl rfl)
theorem dL_law_684 : decode cL_law 684 = .ok (.iaload, 1) := dk_46 (dk_at dksL_law_21 0 rfl rfl)
theorem dL_law_685 : decode cL_law 685 = .ok (.aload_n 0, 1) := dk_42 (dk_at dksL_law_21 1 rfl rfl)
theorem dL_law_686 : decode cL_law 686 = .ok (.iload 5, 2) := dk_21 5 (dk_at dksL_law_21 2 rfl rfl)
theorem dL_law_688 : decode cL_law 688 = .ok (.iconst 3, 1) := dk_6 (dk_at dksL_law_21 4 rfl rfl)
theorem dL_law_689 : decode cL_law 689 = .ok (.iadd, 1) := dk_96 (dk_at dksL_law_21 5 rfl rfl)
theorem dL_law_690 : decode cL_law 690 = .ok (.iaload, 1) := dk_46 (dk_at dksL_law_21 6 rfl rfl)
theorem dL_law_691 : decode cL_law 691 = .ok (.aload_n 3, 1) := dk_45 (dk_at dksL_law_21 7 rfl rfl)
theorem dL_law_692 : decode cL_law 692 = .ok (.invokestatic 173, 3) := dk_184 0 173 (dk_at dksL_law_21 8 rfl rfl)
theorem dL_law_695 : decode cL_law 695 = .ok (.istore 6, 2) := dk_54 6 (dk_at dksL_law_21 11 rfl rfl)
theorem dL_law_697 : decode cL_law 697 = .ok (.aload_n 2, 1) := dk_44 (dk_at dksL_law_21 13 rfl rfl)
theorem dL_law_698 : decode cL_law 698 = .ok (.aload_n 0, 1) := dk_42 (dk_at dksL_law_21 14 rfl rfl)
theorem dL_law_699 : decode cL_law 699 = .ok (.iload 5, 2) := dk_21 5 (dk_at dksL_law_21 15 rfl rfl)
theorem dL_law_701 : decode cL_law 701 = .ok (.iconst 1, 1) := dk_4 (dk_at dksL_law_21 17 rfl rfl)
theorem dL_law_702 : decode cL_law 702 = .ok (.iadd, 1) := dk_96 (dk_at dksL_law_21 18 rfl rfl)
theorem dL_law_703 : decode cL_law 703 = .ok (.iaload, 1) := dk_46 (dk_at dksL_law_21 19 rfl rfl)
theorem dL_law_704 : decode cL_law 704 = .ok (.aload_n 0, 1) := dk_42 (dk_at dksL_law_21 20 rfl rfl)
theorem dL_law_705 : decode cL_law 705 = .ok (.iload 5, 2) := dk_21 5 (dk_at dksL_law_21 21 rfl rfl)
theorem dL_law_707 : decode cL_law 707 = .ok (.iconst 2, 1) := dk_5 (dk_at dksL_law_21 23 rfl rfl)
theorem dL_law_708 : decode cL_law 708 = .ok (.iadd, 1) := dk_96 (dk_at dksL_law_22 0 rfl rfl)
theorem dL_law_709 : decode cL_law 709 = .ok (.iaload, 1) := dk_46 (dk_at dksL_law_22 1 rfl rfl)
theorem dL_law_710 : decode cL_law 710 = .ok (.aload_n 0, 1) := dk_42 (dk_at dksL_law_22 2 rfl rfl)
theorem dL_law_711 : decode cL_law 711 = .ok (.iload 5, 2) := dk_21 5 (dk_at dksL_law_22 3 rfl rfl)
theorem dL_law_713 : decode cL_law 713 = .ok (.iconst 3, 1) := dk_6 (dk_at dksL_law_22 5 rfl rfl)
theorem dL_law_714 : decode cL_law 714 = .ok (.iadd, 1) := dk_96 (dk_at dksL_law_22 6 rfl rfl)
theorem dL_law_715 : decode cL_law 715 = .ok (.iaload, 1) := dk_46 (dk_at dksL_law_22 7 rfl rfl)
theorem dL_law_716 : decode cL_law 716 = .ok (.invokevirtual 176, 3) := dk_182 0 176 (dk_at dksL_law_22 8 rfl rfl)
theorem dL_law_719 : decode cL_law 719 = .ok (.istore 7, 2) := dk_54 7 (dk_at dksL_law_22 11 rfl rfl)
theorem dL_law_721 : decode cL_law 721 = .ok (.aload_n 2, 1) := dk_44 (dk_at dksL_law_22 13 rfl rfl)
theorem dL_law_722 : decode cL_law 722 = .ok (.invokevirtual 137, 3) := dk_182 0 137 (dk_at dksL_law_22 14 rfl rfl)
theorem dL_law_725 : decode cL_law 725 = .ok (.iload 6, 2) := dk_21 6 (dk_at dksL_law_22 17 rfl rfl)
theorem dL_law_727 : decode cL_law 727 = .ok (.if_icmp .eq 5, 3) := dk_159 0 5 (dk_at dksL_law_22 19 rfl rfl)
theorem dL_law_730 : decode cL_law 730 = .ok (.iconst 0, 1) := dk_3 (dk_at dksL_law_22 22 rfl rfl)
theorem dL_law_731 : decode cL_law 731 = .ok (.ireturn, 1) := dk_172 (dk_at dksL_law_22 23 rfl rfl)
theorem dL_law_732 : decode cL_law 732 = .ok (.iload 6, 2) := dk_21 6 (dk_at dksL_law_23 0 rfl rfl)
theorem dL_law_734 : decode cL_law 734 = .ok (.ifCond .ne 15, 3) := dk_154 0 15 (dk_at dksL_law_23 2 rfl rfl)
theorem dL_law_737 : decode cL_law 737 = .ok (.aload_n 3, 1) := dk_45 (dk_at dksL_law_23 5 rfl rfl)
theorem dL_law_738 : decode cL_law 738 = .ok (.iconst 0, 1) := dk_3 (dk_at dksL_law_23 6 rfl rfl)
theorem dL_law_739 : decode cL_law 739 = .ok (.laload, 1) := dk_47 (dk_at dksL_law_23 7 rfl rfl)
theorem dL_law_740 : decode cL_law 740 = .ok (.iload 7, 2) := dk_21 7 (dk_at dksL_law_23 8 rfl rfl)
theorem dL_law_742 : decode cL_law 742 = .ok (.i2l, 1) := dk_133 (dk_at dksL_law_23 10 rfl rfl)
theorem dL_law_743 : decode cL_law 743 = .ok (.lcmp, 1) := dk_148 (dk_at dksL_law_23 11 rfl rfl)
theorem dL_law_744 : decode cL_law 744 = .ok (.ifCond .eq 5, 3) := dk_153 0 5 (dk_at dksL_law_23 12 rfl rfl)
theorem dL_law_747 : decode cL_law 747 = .ok (.iconst 0, 1) := dk_3 (dk_at dksL_law_23 15 rfl rfl)
theorem dL_law_748 : decode cL_law 748 = .ok (.ireturn, 1) := dk_172 (dk_at dksL_law_23 16 rfl rfl)
theorem dL_law_749 : decode cL_law 749 = .ok (.goto 2007, 3) := dk_167 7 215 (dk_at dksL_law_23 17 rfl rfl)
theorem dL_law_752 : decode cL_law 752 = .ok (.aload_n 1, 1) := dk_43 (dk_at dksL_law_23 20 rfl rfl)
theorem dL_law_753 : decode cL_law 753 = .ok (.aload_n 0, 1) := dk_42 (dk_at dksL_law_23 21 rfl rfl)
theorem dL_law_754 : decode cL_law 754 = .ok (.iload 5, 2) := dk_21 5 (dk_at dksL_law_23 22 rfl rfl)
theorem dL_law_756 : decode cL_law 756 = .ok (.iconst 1, 1) := dk_4 (dk_at dksL_law_24 0 rfl rfl)
theorem dL_law_757 : decode cL_law 757 = .ok (.iadd, 1) := dk_96 (dk_at dksL_law_24 1 rfl rfl)
theorem dL_law_758 : decode cL_law 758 = .ok (.iaload, 1) := dk_46 (dk_at dksL_law_24 2 rfl rfl)
theorem dL_law_759 : decode cL_law 759 = .ok (.aload_n 0, 1) := dk_42 (dk_at dksL_law_24 3 rfl rfl)
theorem dL_law_760 : decode cL_law 760 = .ok (.iload 5, 2) := dk_21 5 (dk_at dksL_law_24 4 rfl rfl)
theorem dL_law_762 : decode cL_law 762 = .ok (.iconst 2, 1) := dk_5 (dk_at dksL_law_24 6 rfl rfl)
theorem dL_law_763 : decode cL_law 763 = .ok (.iadd, 1) := dk_96 (dk_at dksL_law_24 7 rfl rfl)
theorem dL_law_764 : decode cL_law 764 = .ok (.iaload, 1) := dk_46 (dk_at dksL_law_24 8 rfl rfl)
theorem dL_law_765 : decode cL_law 765 = .ok (.aload_n 3, 1) := dk_45 (dk_at dksL_law_24 9 rfl rfl)
theorem dL_law_766 : decode cL_law 766 = .ok (.invokestatic 177, 3) := dk_184 0 177 (dk_at dksL_law_24 10 rfl rfl)
theorem dL_law_769 : decode cL_law 769 = .ok (.istore 6, 2) := dk_54 6 (dk_at dksL_law_24 13 rfl rfl)
theorem dL_law_771 : decode cL_law 771 = .ok (.aload_n 2, 1) := dk_44 (dk_at dksL_law_24 15 rfl rfl)
theorem dL_law_772 : decode cL_law 772 = .ok (.aload_n 0, 1) := dk_42 (dk_at dksL_law_24 16 rfl rfl)
theorem dL_law_773 : decode cL_law 773 = .ok (.iload 5, 2) := dk_21 5 (dk_at dksL_law_24 17 rfl rfl)
theorem dL_law_775 : decode cL_law 775 = .ok (.iconst 1, 1) := dk_4 (dk_at dksL_law_24 19 rfl rfl)
theorem dL_law_776 : decode cL_law 776 = .ok (.iadd, 1) := dk_96 (dk_at dksL_law_24 20 rfl rfl)
theorem dL_law_777 : decode cL_law 777 = .ok (.iaload, 1) := dk_46 (dk_at dksL_law_24 21 rfl rfl)
theorem dL_law_778 : decode cL_law 778 = .ok (.aload_n 0, 1) := dk_42 (dk_at dksL_law_24 22 rfl rfl)
theorem dL_law_779 : decode cL_law 779 = .ok (.iload 5, 2) := dk_21 5 (dk_at dksL_law_25 0 rfl rfl)
theorem dL_law_781 : decode cL_law 781 = .ok (.iconst 2, 1) := dk_5 (dk_at dksL_law_25 2 rfl rfl)
theorem dL_law_782 : decode cL_law 782 = .ok (.iadd, 1) := dk_96 (dk_at dksL_law_25 3 rfl rfl)
theorem dL_law_783 : decode cL_law 783 = .ok (.iaload, 1) := dk_46 (dk_at dksL_law_25 4 rfl rfl)
theorem dL_law_784 : decode cL_law 784 = .ok (.invokevirtual 179, 3) := dk_182 0 179 (dk_at dksL_law_25 5 rfl rfl)
theorem dL_law_787 : decode cL_law 787 = .ok (.istore 7, 2) := dk_54 7 (dk_at dksL_law_25 8 rfl rfl)
theorem dL_law_789 : decode cL_law 789 = .ok (.aload_n 2, 1) := dk_44 (dk_at dksL_law_25 10 rfl rfl)
theorem dL_law_790 : decode cL_law 790 = .ok (.invokevirtual 137, 3) := dk_182 0 137 (dk_at dksL_law_25 11 rfl rfl)
theorem dL_law_793 : decode cL_law 793 = .ok (.iload 6, 2) := dk_21 6 (dk_at dksL_law_25 14 rfl rfl)
theorem dL_law_795 : decode cL_law 795 = .ok (.if_icmp .eq 5, 3) := dk_159 0 5 (dk_at dksL_law_25 16 rfl rfl)
theorem dL_law_798 : decode cL_law 798 = .ok (.iconst 0, 1) := dk_3 (dk_at dksL_law_25 19 rfl rfl)
theorem dL_law_799 : decode cL_law 799 = .ok (.ireturn, 1) := dk_172 (dk_at dksL_law_25 20 rfl rfl)
theorem dL_law_800 : decode cL_law 800 = .ok (.iload 6, 2) := dk_21 6 (dk_at dksL_law_25 21 rfl rfl)
theorem dL_law_802 : decode cL_law 802 = .ok (.ifCond .ne 15, 3) := dk_154 0 15 (dk_at dksL_law_26 0 rfl rfl)
theorem dL_law_805 : decode cL_law 805 = .ok (.aload_n 3, 1) := dk_45 (dk_at dksL_law_26 3 rfl rfl)
theorem dL_law_806 : decode cL_law 806 = .ok (.iconst 0, 1) := dk_3 (dk_at dksL_law_26 4 rfl rfl)
theorem dL_law_807 : decode cL_law 807 = .ok (.laload, 1) := dk_47 (dk_at dksL_law_26 5 rfl rfl)
theorem dL_law_808 : decode cL_law 808 = .ok (.iload 7, 2) := dk_21 7 (dk_at dksL_law_26 6 rfl rfl)
theorem dL_law_810 : decode cL_law 810 = .ok (.i2l, 1) := dk_133 (dk_at dksL_law_26 8 rfl rfl)
theorem dL_law_811 : decode cL_law 811 = .ok (.lcmp, 1) := dk_148 (dk_at dksL_law_26 9 rfl rfl)
theorem dL_law_812 : decode cL_law 812 = .ok (.ifCond .eq 5, 3) := dk_153 0 5 (dk_at dksL_law_26 10 rfl rfl)
theorem dL_law_815 : decode cL_law 815 = .ok (.iconst 0, 1) := dk_3 (dk_at dksL_law_26 13 rfl rfl)
theorem dL_law_816 : decode cL_law 816 = .ok (.ireturn, 1) := dk_172 (dk_at dksL_law_26 14 rfl rfl)
theorem dL_law_817 : decode cL_law 817 = .ok (.goto 1939, 3) := dk_167 7 147 (dk_at dksL_law_26 15 rfl rfl)
theorem dL_law_820 : decode cL_law 820 = .ok (.aload_n 1, 1) := dk_43 (dk_at dksL_law_26 18 rfl rfl)
theorem dL_law_821 : decode cL_law 821 = .ok (.aload_n 0, 1) := dk_42 (dk_at dksL_law_26 19 rfl rfl)
theorem dL_law_822 : decode cL_law 822 = .ok (.iload 5, 2) := dk_21 5 (dk_at dksL_law_26 20 rfl rfl)
theorem dL_law_824 : decode cL_law 824 = .ok (.iconst 1, 1) := dk_4 (dk_at dksL_law_26 22 rfl rfl)
theorem dL_law_825 : decode cL_law 825 = .ok (.iadd, 1) := dk_96 (dk_at dksL_law_26 23 rfl rfl)
theorem dL_law_826 : decode cL_law 826 = .ok (.iaload, 1) := dk_46 (dk_at dksL_law_27 0 rfl rfl)
theorem dL_law_827 : decode cL_law 827 = .ok (.aload_n 0, 1) := dk_42 (dk_at dksL_law_27 1 rfl rfl)
theorem dL_law_828 : decode cL_law 828 = .ok (.iload 5, 2) := dk_21 5 (dk_at dksL_law_27 2 rfl rfl)
theorem dL_law_830 : decode cL_law 830 = .ok (.iconst 2, 1) := dk_5 (dk_at dksL_law_27 4 rfl rfl)
theorem dL_law_831 : decode cL_law 831 = .ok (.iadd, 1) := dk_96 (dk_at dksL_law_27 5 rfl rfl)
theorem dL_law_832 : decode cL_law 832 = .ok (.iaload, 1) := dk_46 (dk_at dksL_law_27 6 rfl rfl)
theorem dL_law_833 : decode cL_law 833 = .ok (.aload_n 0, 1) := dk_42 (dk_at dksL_law_27 7 rfl rfl)
theorem dL_law_834 : decode cL_law 834 = .ok (.iload 5, 2) := dk_21 5 (dk_at dksL_law_27 8 rfl rfl)
theorem dL_law_836 : decode cL_law 836 = .ok (.iconst 3, 1) := dk_6 (dk_at dksL_law_27 10 rfl rfl)
theorem dL_law_837 : decode cL_law 837 = .ok (.iadd, 1) := dk_96 (dk_at dksL_law_27 11 rfl rfl)
theorem dL_law_838 : decode cL_law 838 = .ok (.iaload, 1) := dk_46 (dk_at dksL_law_27 12 rfl rfl)
theorem dL_law_839 : decode cL_law 839 = .ok (.aload_n 3, 1) := dk_45 (dk_at dksL_law_27 13 rfl rfl)
theorem dL_law_840 : decode cL_law 840 = .ok (.invokestatic 180, 3) := dk_184 0 180 (dk_at dksL_law_27 14 rfl rfl)
theorem dL_law_843 : decode cL_law 843 = .ok (.istore 6, 2) := dk_54 6 (dk_at dksL_law_27 17 rfl rfl)
theorem dL_law_845 : decode cL_law 845 = .ok (.aload_n 2, 1) := dk_44 (dk_at dksL_law_27 19 rfl rfl)
theorem dL_law_846 : decode cL_law 846 = .ok (.aload_n 0, 1) := dk_42 (dk_at dksL_law_27 20 rfl rfl)
theorem dL_law_847 : decode cL_law 847 = .ok (.iload 5, 2) := dk_21 5 (dk_at dksL_law_27 21 rfl rfl)
theorem dL_law_849 : decode cL_law 849 = .ok (.iconst 1, 1) := dk_4 (dk_at dksL_law_27 23 rfl rfl)
theorem dL_law_850 : decode cL_law 850 = .ok (.iadd, 1) := dk_96 (dk_at dksL_law_28 0 rfl rfl)
theorem dL_law_851 : decode cL_law 851 = .ok (.iaload, 1) := dk_46 (dk_at dksL_law_28 1 rfl rfl)
theorem dL_law_852 : decode cL_law 852 = .ok (.aload_n 0, 1) := dk_42 (dk_at dksL_law_28 2 rfl rfl)
theorem dL_law_853 : decode cL_law 853 = .ok (.iload 5, 2) := dk_21 5 (dk_at dksL_law_28 3 rfl rfl)
theorem dL_law_855 : decode cL_law 855 = .ok (.iconst 2, 1) := dk_5 (dk_at dksL_law_28 5 rfl rfl)
theorem dL_law_856 : decode cL_law 856 = .ok (.iadd, 1) := dk_96 (dk_at dksL_law_28 6 rfl rfl)
theorem dL_law_857 : decode cL_law 857 = .ok (.iaload, 1) := dk_46 (dk_at dksL_law_28 7 rfl rfl)
theorem dL_law_858 : decode cL_law 858 = .ok (.aload_n 0, 1) := dk_42 (dk_at dksL_law_28 8 rfl rfl)
theorem dL_law_859 : decode cL_law 859 = .ok (.iload 5, 2) := dk_21 5 (dk_at dksL_law_28 9 rfl rfl)
theorem dL_law_861 : decode cL_law 861 = .ok (.iconst 3, 1) := dk_6 (dk_at dksL_law_28 11 rfl rfl)
theorem dL_law_862 : decode cL_law 862 = .ok (.iadd, 1) := dk_96 (dk_at dksL_law_28 12 rfl rfl)
theorem dL_law_863 : decode cL_law 863 = .ok (.iaload, 1) := dk_46 (dk_at dksL_law_28 13 rfl rfl)
theorem dL_law_864 : decode cL_law 864 = .ok (.invokevirtual 182, 3) := dk_182 0 182 (dk_at dksL_law_28 14 rfl rfl)
theorem dL_law_867 : decode cL_law 867 = .ok (.istore 7, 2) := dk_54 7 (dk_at dksL_law_28 17 rfl rfl)
theorem dL_law_869 : decode cL_law 869 = .ok (.aload_n 2, 1) := dk_44 (dk_at dksL_law_28 19 rfl rfl)
theorem dL_law_870 : decode cL_law 870 = .ok (.invokevirtual 137, 3) := dk_182 0 137 (dk_at dksL_law_28 20 rfl rfl)
theorem dL_law_873 : decode cL_law 873 = .ok (.iload 6, 2) := dk_21 6 (dk_at dksL_law_29 0 rfl rfl)
theorem dL_law_875 : decode cL_law 875 = .ok (.if_icmp .eq 5, 3) := dk_159 0 5 (dk_at dksL_law_29 2 rfl rfl)
theorem dL_law_878 : decode cL_law 878 = .ok (.iconst 0, 1) := dk_3 (dk_at dksL_law_29 5 rfl rfl)
theorem dL_law_879 : decode cL_law 879 = .ok (.ireturn, 1) := dk_172 (dk_at dksL_law_29 6 rfl rfl)
theorem dL_law_880 : decode cL_law 880 = .ok (.iload 6, 2) := dk_21 6 (dk_at dksL_law_29 7 rfl rfl)
theorem dL_law_882 : decode cL_law 882 = .ok (.ifCond .ne 15, 3) := dk_154 0 15 (dk_at dksL_law_29 9 rfl rfl)
theorem dL_law_885 : decode cL_law 885 = .ok (.aload_n 3, 1) := dk_45 (dk_at dksL_law_29 12 rfl rfl)
theorem dL_law_886 : decode cL_law 886 = .ok (.iconst 0, 1) := dk_3 (dk_at dksL_law_29 13 rfl rfl)
theorem dL_law_887 : decode cL_law 887 = .ok (.laload, 1) := dk_47 (dk_at dksL_law_29 14 rfl rfl)
theorem dL_law_888 : decode cL_law 888 = .ok (.iload 7, 2) := dk_21 7 (dk_at dksL_law_29 15 rfl rfl)
theorem dL_law_890 : decode cL_law 890 = .ok (.i2l, 1) := dk_133 (dk_at dksL_law_29 17 rfl rfl)
theorem dL_law_891 : decode cL_law 891 = .ok (.lcmp, 1) := dk_148 (dk_at dksL_law_29 18 rfl rfl)
theorem dL_law_892 : decode cL_law 892 = .ok (.ifCond .eq 5, 3) := dk_153 0 5 (dk_at dksL_law_29 19 rfl rfl)
theorem dL_law_895 : decode cL_law 895 = .ok (.iconst 0, 1) := dk_3 (dk_at dksL_law_29 22 rfl rfl)
theorem dL_law_896 : decode cL_law 896 = .ok (.ireturn, 1) := dk_172 (dk_at dksL_law_29 23 rfl rfl)
theorem dL_law_897 : decode cL_law 897 = .ok (.goto 1859, 3) := dk_167 7 67 (dk_at dksL_law_30 0 rfl rfl)
theorem dL_law_900 : decode cL_law 900 = .ok (.aload_n 1, 1) := dk_43 (dk_at dksL_law_30 3 rfl rfl)
theorem dL_law_901 : decode cL_law 901 = .ok (.aload_n 0, 1) := dk_42 (dk_at dksL_law_30 4 rfl rfl)
theorem dL_law_902 : decode cL_law 902 = .ok (.iload 5, 2) := dk_21 5 (dk_at dksL_law_30 5 rfl rfl)
theorem dL_law_904 : decode cL_law 904 = .ok (.iconst 1, 1) := dk_4 (dk_at dksL_law_30 7 rfl rfl)
theorem dL_law_905 : decode cL_law 905 = .ok (.iadd, 1) := dk_96 (dk_at dksL_law_30 8 rfl rfl)
theorem dL_law_906 : decode cL_law 906 = .ok (.iaload, 1) := dk_46 (dk_at dksL_law_30 9 rfl rfl)
theorem dL_law_907 : decode cL_law 907 = .ok (.invokevirtual 183, 3) := dk_182 0 183 (dk_at dksL_law_30 10 rfl rfl)
theorem dL_law_910 : decode cL_law 910 = .ok (.aload_n 2, 1) := dk_44 (dk_at dksL_law_30 13 rfl rfl)
theorem dL_law_911 : decode cL_law 911 = .ok (.aload_n 0, 1) := dk_42 (dk_at dksL_law_30 14 rfl rfl)
theorem dL_law_912 : decode cL_law 912 = .ok (.iload 5, 2) := dk_21 5 (dk_at dksL_law_30 15 rfl rfl)
theorem dL_law_914 : decode cL_law 914 = .ok (.iconst 1, 1) := dk_4 (dk_at dksL_law_30 17 rfl rfl)
theorem dL_law_915 : decode cL_law 915 = .ok (.iadd, 1) := dk_96 (dk_at dksL_law_30 18 rfl rfl)
theorem dL_law_916 : decode cL_law 916 = .ok (.iaload, 1) := dk_46 (dk_at dksL_law_30 19 rfl rfl)
theorem dL_law_917 : decode cL_law 917 = .ok (.invokevirtual 186, 3) := dk_182 0 186 (dk_at dksL_law_30 20 rfl rfl)
theorem dL_law_920 : decode cL_law 920 = .ok (.if_icmp .eq 1836, 3) := dk_159 7 44 (dk_at dksL_law_31 0 rfl rfl)
theorem dL_law_923 : decode cL_law 923 = .ok (.iconst 0, 1) := dk_3 (dk_at dksL_law_31 3 rfl rfl)
theorem dL_law_924 : decode cL_law 924 = .ok (.ireturn, 1) := dk_172 (dk_at dksL_law_31 4 rfl rfl)
theorem dL_law_925 : decode cL_law 925 = .ok (.aload_n 1, 1) := dk_43 (dk_at dksL_law_31 5 rfl rfl)
theorem dL_law_926 : decode cL_law 926 = .ok (.aload_n 0, 1) := dk_42 (dk_at dksL_law_31 6 rfl rfl)
theorem dL_law_927 : decode cL_law 927 = .ok (.iload 5, 2) := dk_21 5 (dk_at dksL_law_31 7 rfl rfl)
theorem dL_law_929 : decode cL_law 929 = .ok (.iconst 1, 1) := dk_4 (dk_at dksL_law_31 9 rfl rfl)
theorem dL_law_930 : decode cL_law 930 = .ok (.iadd, 1) := dk_96 (dk_at dksL_law_31 10 rfl rfl)
theorem dL_law_931 : decode cL_law 931 = .ok (.iaload, 1) := dk_46 (dk_at dksL_law_31 11 rfl rfl)
theorem dL_law_932 : decode cL_law 932 = .ok (.aload_n 0, 1) := dk_42 (dk_at dksL_law_31 12 rfl rfl)
theorem dL_law_933 : decode cL_law 933 = .ok (.iload 5, 2) := dk_21 5 (dk_at dksL_law_31 13 rfl rfl)
theorem dL_law_935 : decode cL_law 935 = .ok (.iconst 2, 1) := dk_5 (dk_at dksL_law_31 15 rfl rfl)
theorem dL_law_936 : decode cL_law 936 = .ok (.iadd, 1) := dk_96 (dk_at dksL_law_31 16 rfl rfl)
theorem dL_law_937 : decode cL_law 937 = .ok (.iaload, 1) := dk_46 (dk_at dksL_law_31 17 rfl rfl)
theorem dL_law_938 : decode cL_law 938 = .ok (.aload_n 3, 1) := dk_45 (dk_at dksL_law_31 18 rfl rfl)
theorem dL_law_939 : decode cL_law 939 = .ok (.invokestatic 187, 3) := dk_184 0 187 (dk_at dksL_law_31 19 rfl rfl)
theorem dL_law_942 : decode cL_law 942 = .ok (.istore 6, 2) := dk_54 6 (dk_at dksL_law_31 22 rfl rfl)
theorem dL_law_944 : decode cL_law 944 = .ok (.aload_n 2, 1) := dk_44 (dk_at dksL_law_32 0 rfl rfl)
theorem dL_law_945 : decode cL_law 945 = .ok (.aload_n 0, 1) := dk_42 (dk_at dksL_law_32 1 rfl rfl)
theorem dL_law_946 : decode cL_law 946 = .ok (.iload 5, 2) := dk_21 5 (dk_at dksL_law_32 2 rfl rfl)
theorem dL_law_948 : decode cL_law 948 = .ok (.iconst 1, 1) := dk_4 (dk_at dksL_law_32 4 rfl rfl)
theorem dL_law_949 : decode cL_law 949 = .ok (.iadd, 1) := dk_96 (dk_at dksL_law_32 5 rfl rfl)
theorem dL_law_950 : decode cL_law 950 = .ok (.iaload, 1) := dk_46 (dk_at dksL_law_32 6 rfl rfl)
theorem dL_law_951 : decode cL_law 951 = .ok (.aload_n 0, 1) := dk_42 (dk_at dksL_law_32 7 rfl rfl)
theorem dL_law_952 : decode cL_law 952 = .ok (.iload 5, 2) := dk_21 5 (dk_at dksL_law_32 8 rfl rfl)
theorem dL_law_954 : decode cL_law 954 = .ok (.iconst 2, 1) := dk_5 (dk_at dksL_law_32 10 rfl rfl)
theorem dL_law_955 : decode cL_law 955 = .ok (.iadd, 1) := dk_96 (dk_at dksL_law_32 11 rfl rfl)
theorem dL_law_956 : decode cL_law 956 = .ok (.iaload, 1) := dk_46 (dk_at dksL_law_32 12 rfl rfl)
theorem dL_law_957 : decode cL_law 957 = .ok (.invokevirtual 189, 3) := dk_182 0 189 (dk_at dksL_law_32 13 rfl rfl)
theorem dL_law_960 : decode cL_law 960 = .ok (.istore 7, 2) := dk_54 7 (dk_at dksL_law_32 16 rfl rfl)
theorem dL_law_962 : decode cL_law 962 = .ok (.aload_n 2, 1) := dk_44 (dk_at dksL_law_32 18 rfl rfl)
theorem dL_law_963 : decode cL_law 963 = .ok (.invokevirtual 137, 3) := dk_182 0 137 (dk_at dksL_law_32 19 rfl rfl)
theorem dL_law_966 : decode cL_law 966 = .ok (.iload 6, 2) := dk_21 6 (dk_at dksL_law_32 22 rfl rfl)
theorem dL_law_968 : decode cL_law 968 = .ok (.if_icmp .eq 5, 3) := dk_159 0 5 (dk_at dksL_law_33 0 rfl rfl)
theorem dL_law_971 : decode cL_law 971 = .ok (.iconst 0, 1) := dk_3 (dk_at dksL_law_33 3 rfl rfl)
theorem dL_law_972 : decode cL_law 972 = .ok (.ireturn, 1) := dk_172 (dk_at dksL_law_33 4 rfl rfl)
theorem dL_law_973 : decode cL_law 973 = .ok (.iload 6, 2) := dk_21 6 (dk_at dksL_law_33 5 rfl rfl)
theorem dL_law_975 : decode cL_law 975 = .ok (.ifCond .ne 15, 3) := dk_154 0 15 (dk_at dksL_law_33 7 rfl rfl)
theorem dL_law_978 : decode cL_law 978 = .ok (.aload_n 3, 1) := dk_45 (dk_at dksL_law_33 10 rfl rfl)
theorem dL_law_979 : decode cL_law 979 = .ok (.iconst 0, 1) := dk_3 (dk_at dksL_law_33 11 rfl rfl)
theorem dL_law_980 : decode cL_law 980 = .ok (.laload, 1) := dk_47 (dk_at dksL_law_33 12 rfl rfl)
theorem dL_law_981 : decode cL_law 981 = .ok (.iload 7, 2) := dk_21 7 (dk_at dksL_law_33 13 rfl rfl)
theorem dL_law_983 : decode cL_law 983 = .ok (.i2l, 1) := dk_133 (dk_at dksL_law_33 15 rfl rfl)
theorem dL_law_984 : decode cL_law 984 = .ok (.lcmp, 1) := dk_148 (dk_at dksL_law_33 16 rfl rfl)
theorem dL_law_985 : decode cL_law 985 = .ok (.ifCond .eq 5, 3) := dk_153 0 5 (dk_at dksL_law_33 17 rfl rfl)
theorem dL_law_988 : decode cL_law 988 = .ok (.iconst 0, 1) := dk_3 (dk_at dksL_law_33 20 rfl rfl)
theorem dL_law_989 : decode cL_law 989 = .ok (.ireturn, 1) := dk_172 (dk_at dksL_law_33 21 rfl rfl)
theorem dL_law_990 : decode cL_law 990 = .ok (.goto 1766, 3) := dk_167 6 230 (dk_at dksL_law_34 0 rfl rfl)
theorem dL_law_993 : decode cL_law 993 = .ok (.aload_n 1, 1) := dk_43 (dk_at dksL_law_34 3 rfl rfl)
theorem dL_law_994 : decode cL_law 994 = .ok (.invokevirtual 190, 3) := dk_182 0 190 (dk_at dksL_law_34 4 rfl rfl)
theorem dL_law_997 : decode cL_law 997 = .ok (.aload_n 2, 1) := dk_44 (dk_at dksL_law_34 7 rfl rfl)
theorem dL_law_998 : decode cL_law 998 = .ok (.invokevirtual 193, 3) := dk_182 0 193 (dk_at dksL_law_34 8 rfl rfl)
theorem dL_law_1001 : decode cL_law 1001 = .ok (.if_icmp .eq 1755, 3) := dk_159 6 219 (dk_at dksL_law_34 11 rfl rfl)
theorem dL_law_1004 : decode cL_law 1004 = .ok (.iconst 0, 1) := dk_3 (dk_at dksL_law_34 14 rfl rfl)
theorem dL_law_1005 : decode cL_law 1005 = .ok (.ireturn, 1) := dk_172 (dk_at dksL_law_34 15 rfl rfl)
theorem dL_law_1006 : decode cL_law 1006 = .ok (.aload_n 1, 1) := dk_43 (dk_at dksL_law_34 16 rfl rfl)
theorem dL_law_1007 : decode cL_law 1007 = .ok (.aload_n 0, 1) := dk_42 (dk_at dksL_law_34 17 rfl rfl)
theorem dL_law_1008 : decode cL_law 1008 = .ok (.iload 5, 2) := dk_21 5 (dk_at dksL_law_34 18 rfl rfl)
theorem dL_law_1010 : decode cL_law 1010 = .ok (.iconst 1, 1) := dk_4 (dk_at dksL_law_34 20 rfl rfl)
theorem dL_law_1011 : decode cL_law 1011 = .ok (.iadd, 1) := dk_96 (dk_at dksL_law_34 21 rfl rfl)
theorem dL_law_1012 : decode cL_law 1012 = .ok (.iaload, 1) := dk_46 (dk_at dksL_law_34 22 rfl rfl)
theorem dL_law_1013 : decode cL_law 1013 = .ok (.aload_n 0, 1) := dk_42 (dk_at dksL_law_34 23 rfl rfl)
theorem dL_law_1014 : decode cL_law 1014 = .ok (.iload 5, 2) := dk_21 5 (dk_at dksL_law_35 0 rfl rfl)
theorem dL_law_1016 : decode cL_law 1016 = .ok (.iconst 2, 1) := dk_5 (dk_at dksL_law_35 2 rfl rfl)
theorem dL_law_1017 : decode cL_law 1017 = .ok (.iadd, 1) := dk_96 (dk_at dksL_law_35 3 rfl rfl)
theorem dL_law_1018 : decode cL_law 1018 = .ok (.iaload, 1) := dk_46 (dk_at dksL_law_35 4 rfl rfl)
theorem dL_law_1019 : decode cL_law 1019 = .ok (.aload_n 3, 1) := dk_45 (dk_at dksL_law_35 5 rfl rfl)
theorem dL_law_1020 : decode cL_law 1020 = .ok (.invokestatic 194, 3) := dk_184 0 194 (dk_at dksL_law_35 6 rfl rfl)
theorem dL_law_1023 : decode cL_law 1023 = .ok (.istore 6, 2) := dk_54 6 (dk_at dksL_law_35 9 rfl rfl)
theorem dL_law_1025 : decode cL_law 1025 = .ok (.aload_n 2, 1) := dk_44 (dk_at dksL_law_35 11 rfl rfl)
theorem dL_law_1026 : decode cL_law 1026 = .ok (.aload_n 0, 1) := dk_42 (dk_at dksL_law_35 12 rfl rfl)
theorem dL_law_1027 : decode cL_law 1027 = .ok (.iload 5, 2) := dk_21 5 (dk_at dksL_law_35 13 rfl rfl)
theorem dL_law_1029 : decode cL_law 1029 = .ok (.iconst 1, 1) := dk_4 (dk_at dksL_law_35 15 rfl rfl)
theorem dL_law_1030 : decode cL_law 1030 = .ok (.iadd, 1) := dk_96 (dk_at dksL_law_35 16 rfl rfl)
theorem dL_law_1031 : decode cL_law 1031 = .ok (.iaload, 1) := dk_46 (dk_at dksL_law_35 17 rfl rfl)
theorem dL_law_1032 : decode cL_law 1032 = .ok (.aload_n 0, 1) := dk_42 (dk_at dksL_law_35 18 rfl rfl)
theorem dL_law_1033 : decode cL_law 1033 = .ok (.iload 5, 2) := dk_21 5 (dk_at dksL_law_35 19 rfl rfl)
theorem dL_law_1035 : decode cL_law 1035 = .ok (.iconst 2, 1) := dk_5 (dk_at dksL_law_35 21 rfl rfl)
theorem dL_law_1036 : decode cL_law 1036 = .ok (.iadd, 1) := dk_96 (dk_at dksL_law_35 22 rfl rfl)
theorem dL_law_1037 : decode cL_law 1037 = .ok (.iaload, 1) := dk_46 (dk_at dksL_law_35 23 rfl rfl)
theorem dL_law_1038 : decode cL_law 1038 = .ok (.invokevirtual 196, 3) := dk_182 0 196 (dk_at dksL_law_36 0 rfl rfl)
theorem dL_law_1041 : decode cL_law 1041 = .ok (.istore 7, 2) := dk_54 7 (dk_at dksL_law_36 3 rfl rfl)
theorem dL_law_1043 : decode cL_law 1043 = .ok (.aload_n 2, 1) := dk_44 (dk_at dksL_law_36 5 rfl rfl)
theorem dL_law_1044 : decode cL_law 1044 = .ok (.invokevirtual 137, 3) := dk_182 0 137 (dk_at dksL_law_36 6 rfl rfl)
theorem dL_law_1047 : decode cL_law 1047 = .ok (.iload 6, 2) := dk_21 6 (dk_at dksL_law_36 9 rfl rfl)
theorem dL_law_1049 : decode cL_law 1049 = .ok (.if_icmp .eq 5, 3) := dk_159 0 5 (dk_at dksL_law_36 11 rfl rfl)
theorem dL_law_1052 : decode cL_law 1052 = .ok (.iconst 0, 1) := dk_3 (dk_at dksL_law_36 14 rfl rfl)
theorem dL_law_1053 : decode cL_law 1053 = .ok (.ireturn, 1) := dk_172 (dk_at dksL_law_36 15 rfl rfl)
theorem dL_law_1054 : decode cL_law 1054 = .ok (.iload 6, 2) := dk_21 6 (dk_at dksL_law_36 16 rfl rfl)
theorem dL_law_1056 : decode cL_law 1056 = .ok (.ifCond .ne 15, 3) := dk_154 0 15 (dk_at dksL_law_36 18 rfl rfl)
theorem dL_law_1059 : decode cL_law 1059 = .ok (.aload_n 3, 1) := dk_45 (dk_at dksL_law_36 21 rfl rfl)
theorem dL_law_1060 : decode cL_law 1060 = .ok (.iconst 0, 1) := dk_3 (dk_at dksL_law_36 22 rfl rfl)
theorem dL_law_1061 : decode cL_law 1061 = .ok (.laload, 1) := dk_47 (dk_at dksL_law_36 23 rfl rfl)
theorem dL_law_1062 : decode cL_law 1062 = .ok (.iload 7, 2) := dk_21 7 (dk_at dksL_law_37 0 rfl rfl)
theorem dL_law_1064 : decode cL_law 1064 = .ok (.i2l, 1) := dk_133 (dk_at dksL_law_37 2 rfl rfl)
theorem dL_law_1065 : decode cL_law 1065 = .ok (.lcmp, 1) := dk_148 (dk_at dksL_law_37 3 rfl rfl)
theorem dL_law_1066 : decode cL_law 1066 = .ok (.ifCond .eq 5, 3) := dk_153 0 5 (dk_at dksL_law_37 4 rfl rfl)
theorem dL_law_1069 : decode cL_law 1069 = .ok (.iconst 0, 1) := dk_3 (dk_at dksL_law_37 7 rfl rfl)
theorem dL_law_1070 : decode cL_law 1070 = .ok (.ireturn, 1) := dk_172 (dk_at dksL_law_37 8 rfl rfl)
theorem dL_law_1071 : decode cL_law 1071 = .ok (.goto 1685, 3) := dk_167 6 149 (dk_at dksL_law_37 9 rfl rfl)
theorem dL_law_1074 : decode cL_law 1074 = .ok (.aload_n 1, 1) := dk_43 (dk_at dksL_law_37 12 rfl rfl)
theorem dL_law_1075 : decode cL_law 1075 = .ok (.aload_n 0, 1) := dk_42 (dk_at dksL_law_37 13 rfl rfl)
theorem dL_law_1076 : decode cL_law 1076 = .ok (.iload 5, 2) := dk_21 5 (dk_at dksL_law_37 14 rfl rfl)
theorem dL_law_1078 : decode cL_law 1078 = .ok (.iconst 1, 1) := dk_4 (dk_at dksL_law_37 16 rfl rfl)
theorem dL_law_1079 : decode cL_law 1079 = .ok (.iadd, 1) := dk_96 (dk_at dksL_law_37 17 rfl rfl)
theorem dL_law_1080 : decode cL_law 1080 = .ok (.iaload, 1) := dk_46 (dk_at dksL_law_37 18 rfl rfl)
theorem dL_law_1081 : decode cL_law 1081 = .ok (.aload_n 0, 1) := dk_42 (dk_at dksL_law_37 19 rfl rfl)
theorem dL_law_1082 : decode cL_law 1082 = .ok (.iload 5, 2) := dk_21 5 (dk_at dksL_law_37 20 rfl rfl)
theorem dL_law_1084 : decode cL_law 1084 = .ok (.iconst 2, 1) := dk_5 (dk_at dksL_law_37 22 rfl rfl)
theorem dL_law_1085 : decode cL_law 1085 = .ok (.iadd, 1) := dk_96 (dk_at dksL_law_37 23 rfl rfl)
theorem dL_law_1086 : decode cL_law 1086 = .ok (.iaload, 1) := dk_46 (dk_at dksL_law_38 0 rfl rfl)
theorem dL_law_1087 : decode cL_law 1087 = .ok (.aload_n 3, 1) := dk_45 (dk_at dksL_law_38 1 rfl rfl)
theorem dL_law_1088 : decode cL_law 1088 = .ok (.invokestatic 197, 3) := dk_184 0 197 (dk_at dksL_law_38 2 rfl rfl)
theorem dL_law_1091 : decode cL_law 1091 = .ok (.istore 6, 2) := dk_54 6 (dk_at dksL_law_38 5 rfl rfl)
theorem dL_law_1093 : decode cL_law 1093 = .ok (.aload_n 2, 1) := dk_44 (dk_at dksL_law_38 7 rfl rfl)
theorem dL_law_1094 : decode cL_law 1094 = .ok (.aload_n 0, 1) := dk_42 (dk_at dksL_law_38 8 rfl rfl)
theorem dL_law_1095 : decode cL_law 1095 = .ok (.iload 5, 2) := dk_21 5 (dk_at dksL_law_38 9 rfl rfl)
theorem dL_law_1097 : decode cL_law 1097 = .ok (.iconst 1, 1) := dk_4 (dk_at dksL_law_38 11 rfl rfl)
theorem dL_law_1098 : decode cL_law 1098 = .ok (.iadd, 1) := dk_96 (dk_at dksL_law_38 12 rfl rfl)
theorem dL_law_1099 : decode cL_law 1099 = .ok (.iaload, 1) := dk_46 (dk_at dksL_law_38 13 rfl rfl)
theorem dL_law_1100 : decode cL_law 1100 = .ok (.aload_n 0, 1) := dk_42 (dk_at dksL_law_38 14 rfl rfl)
theorem dL_law_1101 : decode cL_law 1101 = .ok (.iload 5, 2) := dk_21 5 (dk_at dksL_law_38 15 rfl rfl)
theorem dL_law_1103 : decode cL_law 1103 = .ok (.iconst 2, 1) := dk_5 (dk_at dksL_law_38 17 rfl rfl)
theorem dL_law_1104 : decode cL_law 1104 = .ok (.iadd, 1) := dk_96 (dk_at dksL_law_38 18 rfl rfl)
theorem dL_law_1105 : decode cL_law 1105 = .ok (.iaload, 1) := dk_46 (dk_at dksL_law_38 19 rfl rfl)
theorem dL_law_1106 : decode cL_law 1106 = .ok (.invokevirtual 199, 3) := dk_182 0 199 (dk_at dksL_law_38 20 rfl rfl)
theorem dL_law_1109 : decode cL_law 1109 = .ok (.istore 7, 2) := dk_54 7 (dk_at dksL_law_39 0 rfl rfl)
theorem dL_law_1111 : decode cL_law 1111 = .ok (.aload_n 2, 1) := dk_44 (dk_at dksL_law_39 2 rfl rfl)
theorem dL_law_1112 : decode cL_law 1112 = .ok (.invokevirtual 137, 3) := dk_182 0 137 (dk_at dksL_law_39 3 rfl rfl)
theorem dL_law_1115 : decode cL_law 1115 = .ok (.iload 6, 2) := dk_21 6 (dk_at dksL_law_39 6 rfl rfl)
theorem dL_law_1117 : decode cL_law 1117 = .ok (.if_icmp .eq 5, 3) := dk_159 0 5 (dk_at dksL_law_39 8 rfl rfl)
theorem dL_law_1120 : decode cL_law 1120 = .ok (.iconst 0, 1) := dk_3 (dk_at dksL_law_39 11 rfl rfl)
theorem dL_law_1121 : decode cL_law 1121 = .ok (.ireturn, 1) := dk_172 (dk_at dksL_law_39 12 rfl rfl)
theorem dL_law_1122 : decode cL_law 1122 = .ok (.iload 6, 2) := dk_21 6 (dk_at dksL_law_39 13 rfl rfl)
theorem dL_law_1124 : decode cL_law 1124 = .ok (.ifCond .ne 15, 3) := dk_154 0 15 (dk_at dksL_law_39 15 rfl rfl)
theorem dL_law_1127 : decode cL_law 1127 = .ok (.aload_n 3, 1) := dk_45 (dk_at dksL_law_39 18 rfl rfl)
theorem dL_law_1128 : decode cL_law 1128 = .ok (.iconst 0, 1) := dk_3 (dk_at dksL_law_39 19 rfl rfl)
theorem dL_law_1129 : decode cL_law 1129 = .ok (.laload, 1) := dk_47 (dk_at dksL_law_39 20 rfl rfl)
theorem dL_law_1130 : decode cL_law 1130 = .ok (.iload 7, 2) := dk_21 7 (dk_at dksL_law_39 21 rfl rfl)
theorem dL_law_1132 : decode cL_law 1132 = .ok (.i2l, 1) := dk_133 (dk_at dksL_law_39 23 rfl rfl)
theorem dL_law_1133 : decode cL_law 1133 = .ok (.lcmp, 1) := dk_148 (dk_at dksL_law_40 0 rfl rfl)
theorem dL_law_1134 : decode cL_law 1134 = .ok (.ifCond .eq 5, 3) := dk_153 0 5 (dk_at dksL_law_40 1 rfl rfl)
theorem dL_law_1137 : decode cL_law 1137 = .ok (.iconst 0, 1) := dk_3 (dk_at dksL_law_40 4 rfl rfl)
theorem dL_law_1138 : decode cL_law 1138 = .ok (.ireturn, 1) := dk_172 (dk_at dksL_law_40 5 rfl rfl)
theorem dL_law_1139 : decode cL_law 1139 = .ok (.goto 1617, 3) := dk_167 6 81 (dk_at dksL_law_40 6 rfl rfl)
theorem dL_law_1142 : decode cL_law 1142 = .ok (.aload_n 1, 1) := dk_43 (dk_at dksL_law_40 9 rfl rfl)
theorem dL_law_1143 : decode cL_law 1143 = .ok (.aload_n 0, 1) := dk_42 (dk_at dksL_law_40 10 rfl rfl)
theorem dL_law_1144 : decode cL_law 1144 = .ok (.iload 5, 2) := dk_21 5 (dk_at dksL_law_40 11 rfl rfl)
theorem dL_law_1146 : decode cL_law 1146 = .ok (.iconst 1, 1) := dk_4 (dk_at dksL_law_40 13 rfl rfl)
theorem dL_law_1147 : decode cL_law 1147 = .ok (.iadd, 1) := dk_96 (dk_at dksL_law_40 14 rfl rfl)
theorem dL_law_1148 : decode cL_law 1148 = .ok (.iaload, 1) := dk_46 (dk_at dksL_law_40 15 rfl rfl)
theorem dL_law_1149 : decode cL_law 1149 = .ok (.aload_n 0, 1) := dk_42 (dk_at dksL_law_40 16 rfl rfl)
theorem dL_law_1150 : decode cL_law 1150 = .ok (.iload 5, 2) := dk_21 5 (dk_at dksL_law_40 17 rfl rfl)
theorem dL_law_1152 : decode cL_law 1152 = .ok (.iconst 2, 1) := dk_5 (dk_at dksL_law_40 19 rfl rfl)
theorem dL_law_1153 : decode cL_law 1153 = .ok (.iadd, 1) := dk_96 (dk_at dksL_law_40 20 rfl rfl)
theorem dL_law_1154 : decode cL_law 1154 = .ok (.iaload, 1) := dk_46 (dk_at dksL_law_40 21 rfl rfl)
theorem dL_law_1155 : decode cL_law 1155 = .ok (.aload_n 0, 1) := dk_42 (dk_at dksL_law_40 22 rfl rfl)
theorem dL_law_1156 : decode cL_law 1156 = .ok (.iload 5, 2) := dk_21 5 (dk_at dksL_law_41 0 rfl rfl)
theorem dL_law_1158 : decode cL_law 1158 = .ok (.iconst 3, 1) := dk_6 (dk_at dksL_law_41 2 rfl rfl)
theorem dL_law_1159 : decode cL_law 1159 = .ok (.iadd, 1) := dk_96 (dk_at dksL_law_41 3 rfl rfl)
theorem dL_law_1160 : decode cL_law 1160 = .ok (.iaload, 1) := dk_46 (dk_at dksL_law_41 4 rfl rfl)
theorem dL_law_1161 : decode cL_law 1161 = .ok (.aload_n 3, 1) := dk_45 (dk_at dksL_law_41 5 rfl rfl)
theorem dL_law_1162 : decode cL_law 1162 = .ok (.invokestatic 200, 3) := dk_184 0 200 (dk_at dksL_law_41 6 rfl rfl)
theorem dL_law_1165 : decode cL_law 1165 = .ok (.istore 6, 2) := dk_54 6 (dk_at dksL_law_41 9 rfl rfl)
theorem dL_law_1167 : decode cL_law 1167 = .ok (.aload_n 2, 1) := dk_44 (dk_at dksL_law_41 11 rfl rfl)
theorem dL_law_1168 : decode cL_law 1168 = .ok (.aload_n 0, 1) := dk_42 (dk_at dksL_law_41 12 rfl rfl)
theorem dL_law_1169 : decode cL_law 1169 = .ok (.iload 5, 2) := dk_21 5 (dk_at dksL_law_41 13 rfl rfl)
theorem dL_law_1171 : decode cL_law 1171 = .ok (.iconst 1, 1) := dk_4 (dk_at dksL_law_41 15 rfl rfl)
theorem dL_law_1172 : decode cL_law 1172 = .ok (.iadd, 1) := dk_96 (dk_at dksL_law_41 16 rfl rfl)
theorem dL_law_1173 : decode cL_law 1173 = .ok (.iaload, 1) := dk_46 (dk_at dksL_law_41 17 rfl rfl)
theorem dL_law_1174 : decode cL_law 1174 = .ok (.aload_n 0, 1) := dk_42 (dk_at dksL_law_41 18 rfl rfl)
theorem dL_law_1175 : decode cL_law 1175 = .ok (.iload 5, 2) := dk_21 5 (dk_at dksL_law_41 19 rfl rfl)
theorem dL_law_1177 : decode cL_law 1177 = .ok (.iconst 2, 1) := dk_5 (dk_at dksL_law_41 21 rfl rfl)
theorem dL_law_1178 : decode cL_law 1178 = .ok (.iadd, 1) := dk_96 (dk_at dksL_law_41 22 rfl rfl)
theorem dL_law_1179 : decode cL_law 1179 = .ok (.iaload, 1) := dk_46 (dk_at dksL_law_41 23 rfl rfl)
theorem dL_law_1180 : decode cL_law 1180 = .ok (.aload_n 0, 1) := dk_42 (dk_at dksL_law_42 0 rfl rfl)
theorem dL_law_1181 : decode cL_law 1181 = .ok (.iload 5, 2) := dk_21 5 (dk_at dksL_law_42 1 rfl rfl)
theorem dL_law_1183 : decode cL_law 1183 = .ok (.iconst 3, 1) := dk_6 (dk_at dksL_law_42 3 rfl rfl)
theorem dL_law_1184 : decode cL_law 1184 = .ok (.iadd, 1) := dk_96 (dk_at dksL_law_42 4 rfl rfl)
theorem dL_law_1185 : decode cL_law 1185 = .ok (.iaload, 1) := dk_46 (dk_at dksL_law_42 5 rfl rfl)
theorem dL_law_1186 : decode cL_law 1186 = .ok (.invokevirtual 202, 3) := dk_182 0 202 (dk_at dksL_law_42 6 rfl rfl)
theorem dL_law_1189 : decode cL_law 1189 = .ok (.istore 7, 2) := dk_54 7 (dk_at dksL_law_42 9 rfl rfl)
theorem dL_law_1191 : decode cL_law 1191 = .ok (.aload_n 2, 1) := dk_44 (dk_at dksL_law_42 11 rfl rfl)
theorem dL_law_1192 : decode cL_law 1192 = .ok (.invokevirtual 137, 3) := dk_182 0 137 (dk_at dksL_law_42 12 rfl rfl)
theorem dL_law_1195 : decode cL_law 1195 = .ok (.iload 6, 2) := dk_21 6 (dk_at dksL_law_42 15 rfl rfl)
theorem dL_law_1197 : decode cL_law 1197 = .ok (.if_icmp .eq 5, 3) := dk_159 0 5 (dk_at dksL_law_42 17 rfl rfl)
theorem dL_law_1200 : decode cL_law 1200 = .ok (.iconst 0, 1) := dk_3 (dk_at dksL_law_42 20 rfl rfl)
theorem dL_law_1201 : decode cL_law 1201 = .ok (.ireturn, 1) := dk_172 (dk_at dksL_law_42 21 rfl rfl)
theorem dL_law_1202 : decode cL_law 1202 = .ok (.iload 6, 2) := dk_21 6 (dk_at dksL_law_42 22 rfl rfl)
theorem dL_law_1204 : decode cL_law 1204 = .ok (.ifCond .ne 15, 3) := dk_154 0 15 (dk_at dksL_law_43 0 rfl rfl)
theorem dL_law_1207 : decode cL_law 1207 = .ok (.aload_n 3, 1) := dk_45 (dk_at dksL_law_43 3 rfl rfl)
theorem dL_law_1208 : decode cL_law 1208 = .ok (.iconst 0, 1) := dk_3 (dk_at dksL_law_43 4 rfl rfl)
theorem dL_law_1209 : decode cL_law 1209 = .ok (.laload, 1) := dk_47 (dk_at dksL_law_43 5 rfl rfl)
theorem dL_law_1210 : decode cL_law 1210 = .ok (.iload 7, 2) := dk_21 7 (dk_at dksL_law_43 6 rfl rfl)
theorem dL_law_1212 : decode cL_law 1212 = .ok (.i2l, 1) := dk_133 (dk_at dksL_law_43 8 rfl rfl)
theorem dL_law_1213 : decode cL_law 1213 = .ok (.lcmp, 1) := dk_148 (dk_at dksL_law_43 9 rfl rfl)
theorem dL_law_1214 : decode cL_law 1214 = .ok (.ifCond .eq 5, 3) := dk_153 0 5 (dk_at dksL_law_43 10 rfl rfl)
theorem dL_law_1217 : decode cL_law 1217 = .ok (.iconst 0, 1) := dk_3 (dk_at dksL_law_43 13 rfl rfl)
theorem dL_law_1218 : decode cL_law 1218 = .ok (.ireturn, 1) := dk_172 (dk_at dksL_law_43 14 rfl rfl)
theorem dL_law_1219 : decode cL_law 1219 = .ok (.goto 1537, 3) := dk_167 6 1 (dk_at dksL_law_43 15 rfl rfl)
theorem dL_law_1222 : decode cL_law 1222 = .ok (.aload_n 1, 1) := dk_43 (dk_at dksL_law_43 18 rfl rfl)
theorem dL_law_1223 : decode cL_law 1223 = .ok (.invokevirtual 203, 3) := dk_182 0 203 (dk_at dksL_law_43 19 rfl rfl)
theorem dL_law_1226 : decode cL_law 1226 = .ok (.aload_n 2, 1) := dk_44 (dk_at dksL_law_43 22 rfl rfl)
theorem dL_law_1227 : decode cL_law 1227 = .ok (.invokevirtual 206, 3) := dk_182 0 206 (dk_at dksL_law_44 0 rfl rfl)
theorem dL_law_1230 : decode cL_law 1230 = .ok (.if_icmp .eq 1526, 3) := dk_159 5 246 (dk_at dksL_law_44 3 rfl rfl)
theorem dL_law_1233 : decode cL_law 1233 = .ok (.iconst 0, 1) := dk_3 (dk_at dksL_law_44 6 rfl rfl)
theorem dL_law_1234 : decode cL_law 1234 = .ok (.ireturn, 1) := dk_172 (dk_at dksL_law_44 7 rfl rfl)
theorem dL_law_1235 : decode cL_law 1235 = .ok (.aload_n 1, 1) := dk_43 (dk_at dksL_law_44 8 rfl rfl)
theorem dL_law_1236 : decode cL_law 1236 = .ok (.aload_n 0, 1) := dk_42 (dk_at dksL_law_44 9 rfl rfl)
theorem dL_law_1237 : decode cL_law 1237 = .ok (.iload 5, 2) := dk_21 5 (dk_at dksL_law_44 10 rfl rfl)
theorem dL_law_1239 : decode cL_law 1239 = .ok (.iconst 1, 1) := dk_4 (dk_at dksL_law_44 12 rfl rfl)
theorem dL_law_1240 : decode cL_law 1240 = .ok (.iadd, 1) := dk_96 (dk_at dksL_law_44 13 rfl rfl)
theorem dL_law_1241 : decode cL_law 1241 = .ok (.iaload, 1) := dk_46 (dk_at dksL_law_44 14 rfl rfl)
theorem dL_law_1242 : decode cL_law 1242 = .ok (.aload_n 3, 1) := dk_45 (dk_at dksL_law_44 15 rfl rfl)
theorem dL_law_1243 : decode cL_law 1243 = .ok (.invokestatic 207, 3) := dk_184 0 207 (dk_at dksL_law_44 16 rfl rfl)
theorem dL_law_1246 : decode cL_law 1246 = .ok (.istore 6, 2) := dk_54 6 (dk_at dksL_law_44 19 rfl rfl)
theorem dL_law_1248 : decode cL_law 1248 = .ok (.aload_n 2, 1) := dk_44 (dk_at dksL_law_44 21 rfl rfl)
theorem dL_law_1249 : decode cL_law 1249 = .ok (.aload_n 0, 1) := dk_42 (dk_at dksL_law_44 22 rfl rfl)
theorem dL_law_1250 : decode cL_law 1250 = .ok (.iload 5, 2) := dk_21 5 (dk_at dksL_law_45 0 rfl rfl)
theorem dL_law_1252 : decode cL_law 1252 = .ok (.iconst 1, 1) := dk_4 (dk_at dksL_law_45 2 rfl rfl)
theorem dL_law_1253 : decode cL_law 1253 = .ok (.iadd, 1) := dk_96 (dk_at dksL_law_45 3 rfl rfl)
theorem dL_law_1254 : decode cL_law 1254 = .ok (.iaload, 1) := dk_46 (dk_at dksL_law_45 4 rfl rfl)
theorem dL_law_1255 : decode cL_law 1255 = .ok (.invokevirtual 209, 3) := dk_182 0 209 (dk_at dksL_law_45 5 rfl rfl)
theorem dL_law_1258 : decode cL_law 1258 = .ok (.istore 7, 2) := dk_54 7 (dk_at dksL_law_45 8 rfl rfl)
theorem dL_law_1260 : decode cL_law 1260 = .ok (.aload_n 2, 1) := dk_44 (dk_at dksL_law_45 10 rfl rfl)
theorem dL_law_1261 : decode cL_law 1261 = .ok (.invokevirtual 137, 3) := dk_182 0 137 (dk_at dksL_law_45 11 rfl rfl)
theorem dL_law_1264 : decode cL_law 1264 = .ok (.iload 6, 2) := dk_21 6 (dk_at dksL_law_45 14 rfl rfl)
theorem dL_law_1266 : decode cL_law 1266 = .ok (.if_icmp .eq 5, 3) := dk_159 0 5 (dk_at dksL_law_45 16 rfl rfl)
theorem dL_law_1269 : decode cL_law 1269 = .ok (.iconst 0, 1) := dk_3 (dk_at dksL_law_45 19 rfl rfl)
theorem dL_law_1270 : decode cL_law 1270 = .ok (.ireturn, 1) := dk_172 (dk_at dksL_law_45 20 rfl rfl)
theorem dL_law_1271 : decode cL_law 1271 = .ok (.iload 6, 2) := dk_21 6 (dk_at dksL_law_45 21 rfl rfl)
theorem dL_law_1273 : decode cL_law 1273 = .ok (.ifCond .ne 22, 3) := dk_154 0 22 (dk_at dksL_law_46 0 rfl rfl)
theorem dL_law_1276 : decode cL_law 1276 = .ok (.aload_n 3, 1) := dk_45 (dk_at dksL_law_46 3 rfl rfl)
theorem dL_law_1277 : decode cL_law 1277 = .ok (.iconst 0, 1) := dk_3 (dk_at dksL_law_46 4 rfl rfl)
theorem dL_law_1278 : decode cL_law 1278 = .ok (.laload, 1) := dk_47 (dk_at dksL_law_46 5 rfl rfl)
theorem dL_law_1279 : decode cL_law 1279 = .ok (.iload 7, 2) := dk_21 7 (dk_at dksL_law_46 6 rfl rfl)
theorem dL_law_1281 : decode cL_law 1281 = .ok (.ifCond .eq 7, 3) := dk_153 0 7 (dk_at dksL_law_46 8 rfl rfl)
theorem dL_law_1284 : decode cL_law 1284 = .ok (.lconst 1, 1) := dk_10 (dk_at dksL_law_46 11 rfl rfl)
theorem dL_law_1285 : decode cL_law 1285 = .ok (.goto 4, 3) := dk_167 0 4 (dk_at dksL_law_46 12 rfl rfl)
theorem dL_law_1288 : decode cL_law 1288 = .ok (.lconst 0, 1) := dk_9 (dk_at dksL_law_46 15 rfl rfl)
theorem dL_law_1289 : decode cL_law 1289 = .ok (.lcmp, 1) := dk_148 (dk_at dksL_law_46 16 rfl rfl)
theorem dL_law_1290 : decode cL_law 1290 = .ok (.ifCond .eq 5, 3) := dk_153 0 5 (dk_at dksL_law_46 17 rfl rfl)
theorem dL_law_1293 : decode cL_law 1293 = .ok (.iconst 0, 1) := dk_3 (dk_at dksL_law_46 20 rfl rfl)
theorem dL_law_1294 : decode cL_law 1294 = .ok (.ireturn, 1) := dk_172 (dk_at dksL_law_46 21 rfl rfl)
theorem dL_law_1295 : decode cL_law 1295 = .ok (.goto 1461, 3) := dk_167 5 181 (dk_at dksL_law_47 0 rfl rfl)
theorem dL_law_1298 : decode cL_law 1298 = .ok (.aload_n 1, 1) := dk_43 (dk_at dksL_law_47 3 rfl rfl)
theorem dL_law_1299 : decode cL_law 1299 = .ok (.aload_n 0, 1) := dk_42 (dk_at dksL_law_47 4 rfl rfl)
theorem dL_law_1300 : decode cL_law 1300 = .ok (.iload 5, 2) := dk_21 5 (dk_at dksL_law_47 5 rfl rfl)
theorem dL_law_1302 : decode cL_law 1302 = .ok (.iconst 1, 1) := dk_4 (dk_at dksL_law_47 7 rfl rfl)
theorem dL_law_1303 : decode cL_law 1303 = .ok (.iadd, 1) := dk_96 (dk_at dksL_law_47 8 rfl rfl)
theorem dL_law_1304 : decode cL_law 1304 = .ok (.iaload, 1) := dk_46 (dk_at dksL_law_47 9 rfl rfl)
theorem dL_law_1305 : decode cL_law 1305 = .ok (.aload_n 0, 1) := dk_42 (dk_at dksL_law_47 10 rfl rfl)
theorem dL_law_1306 : decode cL_law 1306 = .ok (.iload 5, 2) := dk_21 5 (dk_at dksL_law_47 11 rfl rfl)
theorem dL_law_1308 : decode cL_law 1308 = .ok (.iconst 2, 1) := dk_5 (dk_at dksL_law_47 13 rfl rfl)
theorem dL_law_1309 : decode cL_law 1309 = .ok (.iadd, 1) := dk_96 (dk_at dksL_law_47 14 rfl rfl)
theorem dL_law_1310 : decode cL_law 1310 = .ok (.iaload, 1) := dk_46 (dk_at dksL_law_47 15 rfl rfl)
theorem dL_law_1311 : decode cL_law 1311 = .ok (.aload_n 3, 1) := dk_45 (dk_at dksL_law_47 16 rfl rfl)
theorem dL_law_1312 : decode cL_law 1312 = .ok (.invokestatic 210, 3) := dk_184 0 210 (dk_at dksL_law_47 17 rfl rfl)
theorem dL_law_1315 : decode cL_law 1315 = .ok (.istore 6, 2) := dk_54 6 (dk_at dksL_law_47 20 rfl rfl)
theorem dL_law_1317 : decode cL_law 1317 = .ok (.aload_n 2, 1) := dk_44 (dk_at dksL_law_47 22 rfl rfl)
theorem dL_law_1318 : decode cL_law 1318 = .ok (.aload_n 0, 1) := dk_42 (dk_at dksL_law_47 23 rfl rfl)
theorem dL_law_1319 : decode cL_law 1319 = .ok (.iload 5, 2) := dk_21 5 (dk_at dksL_law_48 0 rfl rfl)
theorem dL_law_1321 : decode cL_law 1321 = .ok (.iconst 1, 1) := dk_4 (dk_at dksL_law_48 2 rfl rfl)
theorem dL_law_1322 : decode cL_law 1322 = .ok (.iadd, 1) := dk_96 (dk_at dksL_law_48 3 rfl rfl)
theorem dL_law_1323 : decode cL_law 1323 = .ok (.iaload, 1) := dk_46 (dk_at dksL_law_48 4 rfl rfl)
theorem dL_law_1324 : decode cL_law 1324 = .ok (.aload_n 0, 1) := dk_42 (dk_at dksL_law_48 5 rfl rfl)
theorem dL_law_1325 : decode cL_law 1325 = .ok (.iload 5, 2) := dk_21 5 (dk_at dksL_law_48 6 rfl rfl)
theorem dL_law_1327 : decode cL_law 1327 = .ok (.iconst 2, 1) := dk_5 (dk_at dksL_law_48 8 rfl rfl)
theorem dL_law_1328 : decode cL_law 1328 = .ok (.iadd, 1) := dk_96 (dk_at dksL_law_48 9 rfl rfl)
theorem dL_law_1329 : decode cL_law 1329 = .ok (.iaload, 1) := dk_46 (dk_at dksL_law_48 10 rfl rfl)
theorem dL_law_1330 : decode cL_law 1330 = .ok (.invokevirtual 212, 3) := dk_182 0 212 (dk_at dksL_law_48 11 rfl rfl)
theorem dL_law_1333 : decode cL_law 1333 = .ok (.istore 7, 2) := dk_54 7 (dk_at dksL_law_48 14 rfl rfl)
theorem dL_law_1335 : decode cL_law 1335 = .ok (.aload_n 2, 1) := dk_44 (dk_at dksL_law_48 16 rfl rfl)
theorem dL_law_1336 : decode cL_law 1336 = .ok (.invokevirtual 137, 3) := dk_182 0 137 (dk_at dksL_law_48 17 rfl rfl)
theorem dL_law_1339 : decode cL_law 1339 = .ok (.iload 6, 2) := dk_21 6 (dk_at dksL_law_48 20 rfl rfl)
theorem dL_law_1341 : decode cL_law 1341 = .ok (.if_icmp .eq 5, 3) := dk_159 0 5 (dk_at dksL_law_49 0 rfl rfl)
theorem dL_law_1344 : decode cL_law 1344 = .ok (.iconst 0, 1) := dk_3 (dk_at dksL_law_49 3 rfl rfl)
theorem dL_law_1345 : decode cL_law 1345 = .ok (.ireturn, 1) := dk_172 (dk_at dksL_law_49 4 rfl rfl)
theorem dL_law_1346 : decode cL_law 1346 = .ok (.iload 6, 2) := dk_21 6 (dk_at dksL_law_49 5 rfl rfl)
theorem dL_law_1348 : decode cL_law 1348 = .ok (.ifCond .ne 15, 3) := dk_154 0 15 (dk_at dksL_law_49 7 rfl rfl)
theorem dL_law_1351 : decode cL_law 1351 = .ok (.aload_n 3, 1) := dk_45 (dk_at dksL_law_49 10 rfl rfl)
theorem dL_law_1352 : decode cL_law 1352 = .ok (.iconst 0, 1) := dk_3 (dk_at dksL_law_49 11 rfl rfl)
theorem dL_law_1353 : decode cL_law 1353 = .ok (.laload, 1) := dk_47 (dk_at dksL_law_49 12 rfl rfl)
theorem dL_law_1354 : decode cL_law 1354 = .ok (.iload 7, 2) := dk_21 7 (dk_at dksL_law_49 13 rfl rfl)
theorem dL_law_1356 : decode cL_law 1356 = .ok (.i2l, 1) := dk_133 (dk_at dksL_law_49 15 rfl rfl)
theorem dL_law_1357 : decode cL_law 1357 = .ok (.lcmp, 1) := dk_148 (dk_at dksL_law_49 16 rfl rfl)
theorem dL_law_1358 : decode cL_law 1358 = .ok (.ifCond .eq 5, 3) := dk_153 0 5 (dk_at dksL_law_49 17 rfl rfl)
theorem dL_law_1361 : decode cL_law 1361 = .ok (.iconst 0, 1) := dk_3 (dk_at dksL_law_49 20 rfl rfl)
theorem dL_law_1362 : decode cL_law 1362 = .ok (.ireturn, 1) := dk_172 (dk_at dksL_law_49 21 rfl rfl)
theorem dL_law_1363 : decode cL_law 1363 = .ok (.goto 1393, 3) := dk_167 5 113 (dk_at dksL_law_50 0 rfl rfl)
theorem dL_law_1366 : decode cL_law 1366 = .ok (.aload_n 1, 1) := dk_43 (dk_at dksL_law_50 3 rfl rfl)
theorem dL_law_1367 : decode cL_law 1367 = .ok (.aload_n 0, 1) := dk_42 (dk_at dksL_law_50 4 rfl rfl)
theorem dL_law_1368 : decode cL_law 1368 = .ok (.iload 5, 2) := dk_21 5 (dk_at dksL_law_50 5 rfl rfl)
theorem dL_law_1370 : decode cL_law 1370 = .ok (.iconst 1, 1) := dk_4 (dk_at dksL_law_50 7 rfl rfl)
theorem dL_law_1371 : decode cL_law 1371 = .ok (.iadd, 1) := dk_96 (dk_at dksL_law_50 8 rfl rfl)
theorem dL_law_1372 : decode cL_law 1372 = .ok (.iaload, 1) := dk_46 (dk_at dksL_law_50 9 rfl rfl)
theorem dL_law_1373 : decode cL_law 1373 = .ok (.aload_n 3, 1) := dk_45 (dk_at dksL_law_50 10 rfl rfl)
theorem dL_law_1374 : decode cL_law 1374 = .ok (.invokestatic 213, 3) := dk_184 0 213 (dk_at dksL_law_50 11 rfl rfl)
theorem dL_law_1377 : decode cL_law 1377 = .ok (.istore 6, 2) := dk_54 6 (dk_at dksL_law_50 14 rfl rfl)
theorem dL_law_1379 : decode cL_law 1379 = .ok (.aload_n 2, 1) := dk_44 (dk_at dksL_law_50 16 rfl rfl)
theorem dL_law_1380 : decode cL_law 1380 = .ok (.aload_n 0, 1) := dk_42 (dk_at dksL_law_50 17 rfl rfl)
theorem dL_law_1381 : decode cL_law 1381 = .ok (.iload 5, 2) := dk_21 5 (dk_at dksL_law_50 18 rfl rfl)
theorem dL_law_1383 : decode cL_law 1383 = .ok (.iconst 1, 1) := dk_4 (dk_at dksL_law_50 20 rfl rfl)
theorem dL_law_1384 : decode cL_law 1384 = .ok (.iadd, 1) := dk_96 (dk_at dksL_law_50 21 rfl rfl)
theorem dL_law_1385 : decode cL_law 1385 = .ok (.iaload, 1) := dk_46 (dk_at dksL_law_50 22 rfl rfl)
theorem dL_law_1386 : decode cL_law 1386 = .ok (.invokevirtual 215, 3) := dk_182 0 215 (dk_at dksL_law_51 0 rfl rfl)
theorem dL_law_1389 : decode cL_law 1389 = .ok (.istore 7, 2) := dk_54 7 (dk_at dksL_law_51 3 rfl rfl)
theorem dL_law_1391 : decode cL_law 1391 = .ok (.aload_n 2, 1) := dk_44 (dk_at dksL_law_51 5 rfl rfl)
theorem dL_law_1392 : decode cL_law 1392 = .ok (.invokevirtual 137, 3) := dk_182 0 137 (dk_at dksL_law_51 6 rfl rfl)
theorem dL_law_1395 : decode cL_law 1395 = .ok (.iload 6, 2) := dk_21 6 (dk_at dksL_law_51 9 rfl rfl)
theorem dL_law_1397 : decode cL_law 1397 = .ok (.if_icmp .eq 5, 3) := dk_159 0 5 (dk_at dksL_law_51 11 rfl rfl)
theorem dL_law_1400 : decode cL_law 1400 = .ok (.iconst 0, 1) := dk_3 (dk_at dksL_law_51 14 rfl rfl)
theorem dL_law_1401 : decode cL_law 1401 = .ok (.ireturn, 1) := dk_172 (dk_at dksL_law_51 15 rfl rfl)
theorem dL_law_1402 : decode cL_law 1402 = .ok (.iload 6, 2) := dk_21 6 (dk_at dksL_law_51 16 rfl rfl)
theorem dL_law_1404 : decode cL_law 1404 = .ok (.ifCond .ne 15, 3) := dk_154 0 15 (dk_at dksL_law_51 18 rfl rfl)
theorem dL_law_1407 : decode cL_law 1407 = .ok (.aload_n 3, 1) := dk_45 (dk_at dksL_law_51 21 rfl rfl)
theorem dL_law_1408 : decode cL_law 1408 = .ok (.iconst 0, 1) := dk_3 (dk_at dksL_law_51 22 rfl rfl)
theorem dL_law_1409 : decode cL_law 1409 = .ok (.laload, 1) := dk_47 (dk_at dksL_law_51 23 rfl rfl)
theorem dL_law_1410 : decode cL_law 1410 = .ok (.iload 7, 2) := dk_21 7 (dk_at dksL_law_52 0 rfl rfl)
theorem dL_law_1412 : decode cL_law 1412 = .ok (.i2l, 1) := dk_133 (dk_at dksL_law_52 2 rfl rfl)
theorem dL_law_1413 : decode cL_law 1413 = .ok (.lcmp, 1) := dk_148 (dk_at dksL_law_52 3 rfl rfl)
theorem dL_law_1414 : decode cL_law 1414 = .ok (.ifCond .eq 5, 3) := dk_153 0 5 (dk_at dksL_law_52 4 rfl rfl)
theorem dL_law_1417 : decode cL_law 1417 = .ok (.iconst 0, 1) := dk_3 (dk_at dksL_law_52 7 rfl rfl)
theorem dL_law_1418 : decode cL_law 1418 = .ok (.ireturn, 1) := dk_172 (dk_at dksL_law_52 8 rfl rfl)
theorem dL_law_1419 : decode cL_law 1419 = .ok (.goto 1337, 3) := dk_167 5 57 (dk_at dksL_law_52 9 rfl rfl)
theorem dL_law_1422 : decode cL_law 1422 = .ok (.aload_n 1, 1) := dk_43 (dk_at dksL_law_52 12 rfl rfl)
theorem dL_law_1423 : decode cL_law 1423 = .ok (.invokevirtual 216, 3) := dk_182 0 216 (dk_at dksL_law_52 13 rfl rfl)
theorem dL_law_1426 : decode cL_law 1426 = .ok (.aload_n 2, 1) := dk_44 (dk_at dksL_law_52 16 rfl rfl)
theorem dL_law_1427 : decode cL_law 1427 = .ok (.invokevirtual 219, 3) := dk_182 0 219 (dk_at dksL_law_52 17 rfl rfl)
theorem dL_law_1430 : decode cL_law 1430 = .ok (.if_icmp .eq 1326, 3) := dk_159 5 46 (dk_at dksL_law_52 20 rfl rfl)
theorem dL_law_1433 : decode cL_law 1433 = .ok (.iconst 0, 1) := dk_3 (dk_at dksL_law_52 23 rfl rfl)
theorem dL_law_1434 : decode cL_law 1434 = .ok (.ireturn, 1) := dk_172 (dk_at dksL_law_53 0 rfl rfl)
theorem dL_law_1435 : decode cL_law 1435 = .ok (.aload_n 1, 1) := dk_43 (dk_at dksL_law_53 1 rfl rfl)
theorem dL_law_1436 : decode cL_law 1436 = .ok (.invokevirtual 220, 3) := dk_182 0 220 (dk_at dksL_law_53 2 rfl rfl)
theorem dL_law_1439 : decode cL_law 1439 = .ok (.aload_n 2, 1) := dk_44 (dk_at dksL_law_53 5 rfl rfl)
theorem dL_law_1440 : decode cL_law 1440 = .ok (.invokevirtual 223, 3) := dk_182 0 223 (dk_at dksL_law_53 6 rfl rfl)
theorem dL_law_1443 : decode cL_law 1443 = .ok (.if_icmp .eq 1313, 3) := dk_159 5 33 (dk_at dksL_law_53 9 rfl rfl)
theorem dL_law_1446 : decode cL_law 1446 = .ok (.iconst 0, 1) := dk_3 (dk_at dksL_law_53 12 rfl rfl)
theorem dL_law_1447 : decode cL_law 1447 = .ok (.ireturn, 1) := dk_172 (dk_at dksL_law_53 13 rfl rfl)
theorem dL_law_1448 : decode cL_law 1448 = .ok (.aload_n 1, 1) := dk_43 (dk_at dksL_law_53 14 rfl rfl)
theorem dL_law_1449 : decode cL_law 1449 = .ok (.invokevirtual 224, 3) := dk_182 0 224 (dk_at dksL_law_53 15 rfl rfl)
theorem dL_law_1452 : decode cL_law 1452 = .ok (.aload_n 2, 1) := dk_44 (dk_at dksL_law_53 18 rfl rfl)
theorem dL_law_1453 : decode cL_law 1453 = .ok (.invokevirtual 227, 3) := dk_182 0 227 (dk_at dksL_law_53 19 rfl rfl)
theorem dL_law_1456 : decode cL_law 1456 = .ok (.if_icmp .eq 1300, 3) := dk_159 5 20 (dk_at dksL_law_54 0 rfl rfl)
theorem dL_law_1459 : decode cL_law 1459 = .ok (.iconst 0, 1) := dk_3 (dk_at dksL_law_54 3 rfl rfl)
theorem dL_law_1460 : decode cL_law 1460 = .ok (.ireturn, 1) := dk_172 (dk_at dksL_law_54 4 rfl rfl)
theorem dL_law_1461 : decode cL_law 1461 = .ok (.aload_n 1, 1) := dk_43 (dk_at dksL_law_54 5 rfl rfl)
theorem dL_law_1462 : decode cL_law 1462 = .ok (.aload_n 0, 1) := dk_42 (dk_at dksL_law_54 6 rfl rfl)
theorem dL_law_1463 : decode cL_law 1463 = .ok (.iload 5, 2) := dk_21 5 (dk_at dksL_law_54 7 rfl rfl)
theorem dL_law_1465 : decode cL_law 1465 = .ok (.iconst 1, 1) := dk_4 (dk_at dksL_law_54 9 rfl rfl)
theorem dL_law_1466 : decode cL_law 1466 = .ok (.iadd, 1) := dk_96 (dk_at dksL_law_54 10 rfl rfl)
theorem dL_law_1467 : decode cL_law 1467 = .ok (.iaload, 1) := dk_46 (dk_at dksL_law_54 11 rfl rfl)
theorem dL_law_1468 : decode cL_law 1468 = .ok (.aload_n 3, 1) := dk_45 (dk_at dksL_law_54 12 rfl rfl)
theorem dL_law_1469 : decode cL_law 1469 = .ok (.invokestatic 228, 3) := dk_184 0 228 (dk_at dksL_law_54 13 rfl rfl)
theorem dL_law_1472 : decode cL_law 1472 = .ok (.istore 6, 2) := dk_54 6 (dk_at dksL_law_54 16 rfl rfl)
theorem dL_law_1474 : decode cL_law 1474 = .ok (.aload_n 2, 1) := dk_44 (dk_at dksL_law_54 18 rfl rfl)
theorem dL_law_1475 : decode cL_law 1475 = .ok (.aload_n 0, 1) := dk_42 (dk_at dksL_law_54 19 rfl rfl)
theorem dL_law_1476 : decode cL_law 1476 = .ok (.iload 5, 2) := dk_21 5 (dk_at dksL_law_54 20 rfl rfl)
theorem dL_law_1478 : decode cL_law 1478 = .ok (.iconst 1, 1) := dk_4 (dk_at dksL_law_54 22 rfl rfl)
theorem dL_law_1479 : decode cL_law 1479 = .ok (.iadd, 1) := dk_96 (dk_at dksL_law_54 23 rfl rfl)
theorem dL_law_1480 : decode cL_law 1480 = .ok (.iaload, 1) := dk_46 (dk_at dksL_law_55 0 rfl rfl)
theorem dL_law_1481 : decode cL_law 1481 = .ok (.invokevirtual 230, 3) := dk_182 0 230 (dk_at dksL_law_55 1 rfl rfl)
theorem dL_law_1484 : decode cL_law 1484 = .ok (.istore 7, 2) := dk_54 7 (dk_at dksL_law_55 4 rfl rfl)
theorem dL_law_1486 : decode cL_law 1486 = .ok (.aload_n 2, 1) := dk_44 (dk_at dksL_law_55 6 rfl rfl)
theorem dL_law_1487 : decode cL_law 1487 = .ok (.invokevirtual 137, 3) := dk_182 0 137 (dk_at dksL_law_55 7 rfl rfl)
theorem dL_law_1490 : decode cL_law 1490 = .ok (.iload 6, 2) := dk_21 6 (dk_at dksL_law_55 10 rfl rfl)
theorem dL_law_1492 : decode cL_law 1492 = .ok (.if_icmp .eq 5, 3) := dk_159 0 5 (dk_at dksL_law_55 12 rfl rfl)
theorem dL_law_1495 : decode cL_law 1495 = .ok (.iconst 0, 1) := dk_3 (dk_at dksL_law_55 15 rfl rfl)
theorem dL_law_1496 : decode cL_law 1496 = .ok (.ireturn, 1) := dk_172 (dk_at dksL_law_55 16 rfl rfl)
theorem dL_law_1497 : decode cL_law 1497 = .ok (.iload 6, 2) := dk_21 6 (dk_at dksL_law_55 17 rfl rfl)
theorem dL_law_1499 : decode cL_law 1499 = .ok (.ifCond .ne 15, 3) := dk_154 0 15 (dk_at dksL_law_55 19 rfl rfl)
theorem dL_law_1502 : decode cL_law 1502 = .ok (.aload_n 3, 1) := dk_45 (dk_at dksL_law_55 22 rfl rfl)
theorem dL_law_1503 : decode cL_law 1503 = .ok (.iconst 0, 1) := dk_3 (dk_at dksL_law_55 23 rfl rfl)
theorem dL_law_1504 : decode cL_law 1504 = .ok (.laload, 1) := dk_47 (dk_at dksL_law_56 0 rfl rfl)
theorem dL_law_1505 : decode cL_law 1505 = .ok (.iload 7, 2) := dk_21 7 (dk_at dksL_law_56 1 rfl rfl)
theorem dL_law_1507 : decode cL_law 1507 = .ok (.i2l, 1) := dk_133 (dk_at dksL_law_56 3 rfl rfl)
theorem dL_law_1508 : decode cL_law 1508 = .ok (.lcmp, 1) := dk_148 (dk_at dksL_law_56 4 rfl rfl)
theorem dL_law_1509 : decode cL_law 1509 = .ok (.ifCond .eq 5, 3) := dk_153 0 5 (dk_at dksL_law_56 5 rfl rfl)
theorem dL_law_1512 : decode cL_law 1512 = .ok (.iconst 0, 1) := dk_3 (dk_at dksL_law_56 8 rfl rfl)
theorem dL_law_1513 : decode cL_law 1513 = .ok (.ireturn, 1) := dk_172 (dk_at dksL_law_56 9 rfl rfl)
theorem dL_law_1514 : decode cL_law 1514 = .ok (.goto 1242, 3) := dk_167 4 218 (dk_at dksL_law_56 10 rfl rfl)
theorem dL_law_1517 : decode cL_law 1517 = .ok (.aload_n 1, 1) := dk_43 (dk_at dksL_law_56 13 rfl rfl)
theorem dL_law_1518 : decode cL_law 1518 = .ok (.aload_n 0, 1) := dk_42 (dk_at dksL_law_56 14 rfl rfl)
theorem dL_law_1519 : decode cL_law 1519 = .ok (.iload 5, 2) := dk_21 5 (dk_at dksL_law_56 15 rfl rfl)
theorem dL_law_1521 : decode cL_law 1521 = .ok (.iconst 1, 1) := dk_4 (dk_at dksL_law_56 17 rfl rfl)
theorem dL_law_1522 : decode cL_law 1522 = .ok (.iadd, 1) := dk_96 (dk_at dksL_law_56 18 rfl rfl)
theorem dL_law_1523 : decode cL_law 1523 = .ok (.iaload, 1) := dk_46 (dk_at dksL_law_56 19 rfl rfl)
theorem dL_law_1524 : decode cL_law 1524 = .ok (.aload_n 3, 1) := dk_45 (dk_at dksL_law_56 20 rfl rfl)
theorem dL_law_1525 : decode cL_law 1525 = .ok (.invokestatic 231, 3) := dk_184 0 231 (dk_at dksL_law_56 21 rfl rfl)
theorem dL_law_1528 : decode cL_law 1528 = .ok (.istore 6, 2) := dk_54 6 (dk_at dksL_law_57 0 rfl rfl)
theorem dL_law_1530 : decode cL_law 1530 = .ok (.aload_n 2, 1) := dk_44 (dk_at dksL_law_57 2 rfl rfl)
theorem dL_law_1531 : decode cL_law 1531 = .ok (.aload_n 0, 1) := dk_42 (dk_at dksL_law_57 3 rfl rfl)
theorem dL_law_1532 : decode cL_law 1532 = .ok (.iload 5, 2) := dk_21 5 (dk_at dksL_law_57 4 rfl rfl)
theorem dL_law_1534 : decode cL_law 1534 = .ok (.iconst 1, 1) := dk_4 (dk_at dksL_law_57 6 rfl rfl)
theorem dL_law_1535 : decode cL_law 1535 = .ok (.iadd, 1) := dk_96 (dk_at dksL_law_57 7 rfl rfl)
theorem dL_law_1536 : decode cL_law 1536 = .ok (.iaload, 1) := dk_46 (dk_at dksL_law_57 8 rfl rfl)
theorem dL_law_1537 : decode cL_law 1537 = .ok (.invokevirtual 233, 3) := dk_182 0 233 (dk_at dksL_law_57 9 rfl rfl)
theorem dL_law_1540 : decode cL_law 1540 = .ok (.istore 7, 2) := dk_54 7 (dk_at dksL_law_57 12 rfl rfl)
theorem dL_law_1542 : decode cL_law 1542 = .ok (.aload_n 2, 1) := dk_44 (dk_at dksL_law_57 14 rfl rfl)
theorem dL_law_1543 : decode cL_law 1543 = .ok (.invokevirtual 137, 3) := dk_182 0 137 (dk_at dksL_law_57 15 rfl rfl)
theorem dL_law_1546 : decode cL_law 1546 = .ok (.iload 6, 2) := dk_21 6 (dk_at dksL_law_57 18 rfl rfl)
theorem dL_law_1548 : decode cL_law 1548 = .ok (.if_icmp .eq 5, 3) := dk_159 0 5 (dk_at dksL_law_57 20 rfl rfl)
theorem dL_law_1551 : decode cL_law 1551 = .ok (.iconst 0, 1) := dk_3 (dk_at dksL_law_57 23 rfl rfl)
theorem dL_law_1552 : decode cL_law 1552 = .ok (.ireturn, 1) := dk_172 (dk_at dksL_law_58 0 rfl rfl)
theorem dL_law_1553 : decode cL_law 1553 = .ok (.iload 6, 2) := dk_21 6 (dk_at dksL_law_58 1 rfl rfl)
theorem dL_law_1555 : decode cL_law 1555 = .ok (.ifCond .ne 15, 3) := dk_154 0 15 (dk_at dksL_law_58 3 rfl rfl)
theorem dL_law_1558 : decode cL_law 1558 = .ok (.aload_n 3, 1) := dk_45 (dk_at dksL_law_58 6 rfl rfl)
theorem dL_law_1559 : decode cL_law 1559 = .ok (.iconst 0, 1) := dk_3 (dk_at dksL_law_58 7 rfl rfl)
theorem dL_law_1560 : decode cL_law 1560 = .ok (.laload, 1) := dk_47 (dk_at dksL_law_58 8 rfl rfl)
theorem dL_law_1561 : decode cL_law 1561 = .ok (.iload 7, 2) := dk_21 7 (dk_at dksL_law_58 9 rfl rfl)
theorem dL_law_1563 : decode cL_law 1563 = .ok (.i2l, 1) := dk_133 (dk_at dksL_law_58 11 rfl rfl)
theorem dL_law_1564 : decode cL_law 1564 = .ok (.lcmp, 1) := dk_148 (dk_at dksL_law_58 12 rfl rfl)
theorem dL_law_1565 : decode cL_law 1565 = .ok (.ifCond .eq 5, 3) := dk_153 0 5 (dk_at dksL_law_58 13 rfl rfl)
theorem dL_law_1568 : decode cL_law 1568 = .ok (.iconst 0, 1) := dk_3 (dk_at dksL_law_58 16 rfl rfl)
theorem dL_law_1569 : decode cL_law 1569 = .ok (.ireturn, 1) := dk_172 (dk_at dksL_law_58 17 rfl rfl)
theorem dL_law_1570 : decode cL_law 1570 = .ok (.goto 1186, 3) := dk_167 4 162 (dk_at dksL_law_58 18 rfl rfl)
theorem dL_law_1573 : decode cL_law 1573 = .ok (.aload_n 1, 1) := dk_43 (dk_at dksL_law_58 21 rfl rfl)
theorem dL_law_1574 : decode cL_law 1574 = .ok (.aload_n 0, 1) := dk_42 (dk_at dksL_law_58 22 rfl rfl)
theorem dL_law_1575 : decode cL_law 1575 = .ok (.iload 5, 2) := dk_21 5 (dk_at dksL_law_59 0 rfl rfl)
theorem dL_law_1577 : decode cL_law 1577 = .ok (.iconst 1, 1) := dk_4 (dk_at dksL_law_59 2 rfl rfl)
theorem dL_law_1578 : decode cL_law 1578 = .ok (.iadd, 1) := dk_96 (dk_at dksL_law_59 3 rfl rfl)
theorem dL_law_1579 : decode cL_law 1579 = .ok (.iaload, 1) := dk_46 (dk_at dksL_law_59 4 rfl rfl)
theorem dL_law_1580 : decode cL_law 1580 = .ok (.aload_n 3, 1) := dk_45 (dk_at dksL_law_59 5 rfl rfl)
theorem dL_law_1581 : decode cL_law 1581 = .ok (.invokestatic 234, 3) := dk_184 0 234 (dk_at dksL_law_59 6 rfl rfl)
theorem dL_law_1584 : decode cL_law 1584 = .ok (.istore 6, 2) := dk_54 6 (dk_at dksL_law_59 9 rfl rfl)
theorem dL_law_1586 : decode cL_law 1586 = .ok (.aload_n 2, 1) := dk_44 (dk_at dksL_law_59 11 rfl rfl)
theorem dL_law_1587 : decode cL_law 1587 = .ok (.aload_n 0, 1) := dk_42 (dk_at dksL_law_59 12 rfl rfl)
theorem dL_law_1588 : decode cL_law 1588 = .ok (.iload 5, 2) := dk_21 5 (dk_at dksL_law_59 13 rfl rfl)
theorem dL_law_1590 : decode cL_law 1590 = .ok (.iconst 1, 1) := dk_4 (dk_at dksL_law_59 15 rfl rfl)
theorem dL_law_1591 : decode cL_law 1591 = .ok (.iadd, 1) := dk_96 (dk_at dksL_law_59 16 rfl rfl)
theorem dL_law_1592 : decode cL_law 1592 = .ok (.iaload, 1) := dk_46 (dk_at dksL_law_59 17 rfl rfl)
theorem dL_law_1593 : decode cL_law 1593 = .ok (.invokevirtual 236, 3) := dk_182 0 236 (dk_at dksL_law_59 18 rfl rfl)
theorem dL_law_1596 : decode cL_law 1596 = .ok (.istore 7, 2) := dk_54 7 (dk_at dksL_law_59 21 rfl rfl)
theorem dL_law_1598 : decode cL_law 1598 = .ok (.aload_n 2, 1) := dk_44 (dk_at dksL_law_59 23 rfl rfl)
theorem dL_law_1599 : decode cL_law 1599 = .ok (.invokevirtual 137, 3) := dk_182 0 137 (dk_at dksL_law_60 0 rfl rfl)
theorem dL_law_1602 : decode cL_law 1602 = .ok (.iload 6, 2) := dk_21 6 (dk_at dksL_law_60 3 rfl rfl)
theorem dL_law_1604 : decode cL_law 1604 = .ok (.if_icmp .eq 5, 3) := dk_159 0 5 (dk_at dksL_law_60 5 rfl rfl)
theorem dL_law_1607 : decode cL_law 1607 = .ok (.iconst 0, 1) := dk_3 (dk_at dksL_law_60 8 rfl rfl)
theorem dL_law_1608 : decode cL_law 1608 = .ok (.ireturn, 1) := dk_172 (dk_at dksL_law_60 9 rfl rfl)
theorem dL_law_1609 : decode cL_law 1609 = .ok (.iload 6, 2) := dk_21 6 (dk_at dksL_law_60 10 rfl rfl)
theorem dL_law_1611 : decode cL_law 1611 = .ok (.ifCond .ne 15, 3) := dk_154 0 15 (dk_at dksL_law_60 12 rfl rfl)
theorem dL_law_1614 : decode cL_law 1614 = .ok (.aload_n 3, 1) := dk_45 (dk_at dksL_law_60 15 rfl rfl)
theorem dL_law_1615 : decode cL_law 1615 = .ok (.iconst 0, 1) := dk_3 (dk_at dksL_law_60 16 rfl rfl)
theorem dL_law_1616 : decode cL_law 1616 = .ok (.laload, 1) := dk_47 (dk_at dksL_law_60 17 rfl rfl)
theorem dL_law_1617 : decode cL_law 1617 = .ok (.iload 7, 2) := dk_21 7 (dk_at dksL_law_60 18 rfl rfl)
theorem dL_law_1619 : decode cL_law 1619 = .ok (.i2l, 1) := dk_133 (dk_at dksL_law_60 20 rfl rfl)
theorem dL_law_1620 : decode cL_law 1620 = .ok (.lcmp, 1) := dk_148 (dk_at dksL_law_60 21 rfl rfl)
theorem dL_law_1621 : decode cL_law 1621 = .ok (.ifCond .eq 5, 3) := dk_153 0 5 (dk_at dksL_law_61 0 rfl rfl)
theorem dL_law_1624 : decode cL_law 1624 = .ok (.iconst 0, 1) := dk_3 (dk_at dksL_law_61 3 rfl rfl)
theorem dL_law_1625 : decode cL_law 1625 = .ok (.ireturn, 1) := dk_172 (dk_at dksL_law_61 4 rfl rfl)
theorem dL_law_1626 : decode cL_law 1626 = .ok (.goto 1130, 3) := dk_167 4 106 (dk_at dksL_law_61 5 rfl rfl)
theorem dL_law_1629 : decode cL_law 1629 = .ok (.aload_n 1, 1) := dk_43 (dk_at dksL_law_61 8 rfl rfl)
theorem dL_law_1630 : decode cL_law 1630 = .ok (.aload_n 0, 1) := dk_42 (dk_at dksL_law_61 9 rfl rfl)
theorem dL_law_1631 : decode cL_law 1631 = .ok (.iload 5, 2) := dk_21 5 (dk_at dksL_law_61 10 rfl rfl)
theorem dL_law_1633 : decode cL_law 1633 = .ok (.iconst 1, 1) := dk_4 (dk_at dksL_law_61 12 rfl rfl)
theorem dL_law_1634 : decode cL_law 1634 = .ok (.iadd, 1) := dk_96 (dk_at dksL_law_61 13 rfl rfl)
theorem dL_law_1635 : decode cL_law 1635 = .ok (.iaload, 1) := dk_46 (dk_at dksL_law_61 14 rfl rfl)
theorem dL_law_1636 : decode cL_law 1636 = .ok (.aload_n 3, 1) := dk_45 (dk_at dksL_law_61 15 rfl rfl)
theorem dL_law_1637 : decode cL_law 1637 = .ok (.invokestatic 237, 3) := dk_184 0 237 (dk_at dksL_law_61 16 rfl rfl)
theorem dL_law_1640 : decode cL_law 1640 = .ok (.istore 6, 2) := dk_54 6 (dk_at dksL_law_61 19 rfl rfl)
theorem dL_law_1642 : decode cL_law 1642 = .ok (.aload_n 2, 1) := dk_44 (dk_at dksL_law_61 21 rfl rfl)
theorem dL_law_1643 : decode cL_law 1643 = .ok (.aload_n 0, 1) := dk_42 (dk_at dksL_law_61 22 rfl rfl)
theorem dL_law_1644 : decode cL_law 1644 = .ok (.iload 5, 2) := dk_21 5 (dk_at dksL_law_62 0 rfl rfl)
theorem dL_law_1646 : decode cL_law 1646 = .ok (.iconst 1, 1) := dk_4 (dk_at dksL_law_62 2 rfl rfl)
theorem dL_law_1647 : decode cL_law 1647 = .ok (.iadd, 1) := dk_96 (dk_at dksL_law_62 3 rfl rfl)
theorem dL_law_1648 : decode cL_law 1648 = .ok (.iaload, 1) := dk_46 (dk_at dksL_law_62 4 rfl rfl)
theorem dL_law_1649 : decode cL_law 1649 = .ok (.invokevirtual 239, 3) := dk_182 0 239 (dk_at dksL_law_62 5 rfl rfl)
theorem dL_law_1652 : decode cL_law 1652 = .ok (.istore 7, 2) := dk_54 7 (dk_at dksL_law_62 8 rfl rfl)
theorem dL_law_1654 : decode cL_law 1654 = .ok (.aload_n 2, 1) := dk_44 (dk_at dksL_law_62 10 rfl rfl)
theorem dL_law_1655 : decode cL_law 1655 = .ok (.invokevirtual 137, 3) := dk_182 0 137 (dk_at dksL_law_62 11 rfl rfl)
theorem dL_law_1658 : decode cL_law 1658 = .ok (.iload 6, 2) := dk_21 6 (dk_at dksL_law_62 14 rfl rfl)
theorem dL_law_1660 : decode cL_law 1660 = .ok (.if_icmp .eq 5, 3) := dk_159 0 5 (dk_at dksL_law_62 16 rfl rfl)
theorem dL_law_1663 : decode cL_law 1663 = .ok (.iconst 0, 1) := dk_3 (dk_at dksL_law_62 19 rfl rfl)
theorem dL_law_1664 : decode cL_law 1664 = .ok (.ireturn, 1) := dk_172 (dk_at dksL_law_62 20 rfl rfl)
theorem dL_law_1665 : decode cL_law 1665 = .ok (.iload 6, 2) := dk_21 6 (dk_at dksL_law_62 21 rfl rfl)
theorem dL_law_1667 : decode cL_law 1667 = .ok (.ifCond .ne 15, 3) := dk_154 0 15 (dk_at dksL_law_63 0 rfl rfl)
theorem dL_law_1670 : decode cL_law 1670 = .ok (.aload_n 3, 1) := dk_45 (dk_at dksL_law_63 3 rfl rfl)
theorem dL_law_1671 : decode cL_law 1671 = .ok (.iconst 0, 1) := dk_3 (dk_at dksL_law_63 4 rfl rfl)
theorem dL_law_1672 : decode cL_law 1672 = .ok (.laload, 1) := dk_47 (dk_at dksL_law_63 5 rfl rfl)
theorem dL_law_1673 : decode cL_law 1673 = .ok (.iload 7, 2) := dk_21 7 (dk_at dksL_law_63 6 rfl rfl)
theorem dL_law_1675 : decode cL_law 1675 = .ok (.i2l, 1) := dk_133 (dk_at dksL_law_63 8 rfl rfl)
theorem dL_law_1676 : decode cL_law 1676 = .ok (.lcmp, 1) := dk_148 (dk_at dksL_law_63 9 rfl rfl)
theorem dL_law_1677 : decode cL_law 1677 = .ok (.ifCond .eq 5, 3) := dk_153 0 5 (dk_at dksL_law_63 10 rfl rfl)
theorem dL_law_1680 : decode cL_law 1680 = .ok (.iconst 0, 1) := dk_3 (dk_at dksL_law_63 13 rfl rfl)
theorem dL_law_1681 : decode cL_law 1681 = .ok (.ireturn, 1) := dk_172 (dk_at dksL_law_63 14 rfl rfl)
theorem dL_law_1682 : decode cL_law 1682 = .ok (.goto 1074, 3) := dk_167 4 50 (dk_at dksL_law_63 15 rfl rfl)
theorem dL_law_1685 : decode cL_law 1685 = .ok (.aload_n 1, 1) := dk_43 (dk_at dksL_law_63 18 rfl rfl)
theorem dL_law_1686 : decode cL_law 1686 = .ok (.invokevirtual 240, 3) := dk_182 0 240 (dk_at dksL_law_63 19 rfl rfl)
theorem dL_law_1689 : decode cL_law 1689 = .ok (.aload_n 2, 1) := dk_44 (dk_at dksL_law_63 22 rfl rfl)
theorem dL_law_1690 : decode cL_law 1690 = .ok (.invokevirtual 243, 3) := dk_182 0 243 (dk_at dksL_law_64 0 rfl rfl)
theorem dL_law_1693 : decode cL_law 1693 = .ok (.if_icmp .eq 1063, 3) := dk_159 4 39 (dk_at dksL_law_64 3 rfl rfl)
theorem dL_law_1696 : decode cL_law 1696 = .ok (.iconst 0, 1) := dk_3 (dk_at dksL_law_64 6 rfl rfl)
theorem dL_law_1697 : decode cL_law 1697 = .ok (.ireturn, 1) := dk_172 (dk_at dksL_law_64 7 rfl rfl)
theorem dL_law_1698 : decode cL_law 1698 = .ok (.aload_n 1, 1) := dk_43 (dk_at dksL_law_64 8 rfl rfl)
theorem dL_law_1699 : decode cL_law 1699 = .ok (.aload_n 0, 1) := dk_42 (dk_at dksL_law_64 9 rfl rfl)
theorem dL_law_1700 : decode cL_law 1700 = .ok (.iload 5, 2) := dk_21 5 (dk_at dksL_law_64 10 rfl rfl)
theorem dL_law_1702 : decode cL_law 1702 = .ok (.iconst 1, 1) := dk_4 (dk_at dksL_law_64 12 rfl rfl)
theorem dL_law_1703 : decode cL_law 1703 = .ok (.iadd, 1) := dk_96 (dk_at dksL_law_64 13 rfl rfl)
theorem dL_law_1704 : decode cL_law 1704 = .ok (.iaload, 1) := dk_46 (dk_at dksL_law_64 14 rfl rfl)
theorem dL_law_1705 : decode cL_law 1705 = .ok (.aload 4, 2) := dk_25 4 (dk_at dksL_law_64 15 rfl rfl)
theorem dL_law_1707 : decode cL_law 1707 = .ok (.invokestatic 244, 3) := dk_184 0 244 (dk_at dksL_law_64 17 rfl rfl)
theorem dL_law_1710 : decode cL_law 1710 = .ok (.istore 6, 2) := dk_54 6 (dk_at dksL_law_64 20 rfl rfl)
theorem dL_law_1712 : decode cL_law 1712 = .ok (.aload_n 2, 1) := dk_44 (dk_at dksL_law_64 22 rfl rfl)
theorem dL_law_1713 : decode cL_law 1713 = .ok (.aload_n 0, 1) := dk_42 (dk_at dksL_law_64 23 rfl rfl)
theorem dL_law_1714 : decode cL_law 1714 = .ok (.iload 5, 2) := dk_21 5 (dk_at dksL_law_65 0 rfl rfl)
theorem dL_law_1716 : decode cL_law 1716 = .ok (.iconst 1, 1) := dk_4 (dk_at dksL_law_65 2 rfl rfl)
theorem dL_law_1717 : decode cL_law 1717 = .ok (.iadd, 1) := dk_96 (dk_at dksL_law_65 3 rfl rfl)
theorem dL_law_1718 : decode cL_law 1718 = .ok (.iaload, 1) := dk_46 (dk_at dksL_law_65 4 rfl rfl)
theorem dL_law_1719 : decode cL_law 1719 = .ok (.invokevirtual 247, 3) := dk_182 0 247 (dk_at dksL_law_65 5 rfl rfl)
theorem dL_law_1722 : decode cL_law 1722 = .ok (.fstore 7, 2) := dk_56 7 (dk_at dksL_law_65 8 rfl rfl)
theorem dL_law_1724 : decode cL_law 1724 = .ok (.aload_n 2, 1) := dk_44 (dk_at dksL_law_65 10 rfl rfl)
theorem dL_law_1725 : decode cL_law 1725 = .ok (.invokevirtual 137, 3) := dk_182 0 137 (dk_at dksL_law_65 11 rfl rfl)
theorem dL_law_1728 : decode cL_law 1728 = .ok (.iload 6, 2) := dk_21 6 (dk_at dksL_law_65 14 rfl rfl)
theorem dL_law_1730 : decode cL_law 1730 = .ok (.if_icmp .eq 5, 3) := dk_159 0 5 (dk_at dksL_law_65 16 rfl rfl)
theorem dL_law_1733 : decode cL_law 1733 = .ok (.iconst 0, 1) := dk_3 (dk_at dksL_law_65 19 rfl rfl)
theorem dL_law_1734 : decode cL_law 1734 = .ok (.ireturn, 1) := dk_172 (dk_at dksL_law_65 20 rfl rfl)
theorem dL_law_1735 : decode cL_law 1735 = .ok (.iload 6, 2) := dk_21 6 (dk_at dksL_law_65 21 rfl rfl)
theorem dL_law_1737 : decode cL_law 1737 = .ok (.ifCond .ne 36, 3) := dk_154 0 36 (dk_at dksL_law_66 0 rfl rfl)
theorem dL_law_1740 : decode cL_law 1740 = .ok (.aload 4, 2) := dk_25 4 (dk_at dksL_law_66 3 rfl rfl)
theorem dL_law_1742 : decode cL_law 1742 = .ok (.iconst 0, 1) := dk_3 (dk_at dksL_law_66 5 rfl rfl)
theorem dL_law_1743 : decode cL_law 1743 = .ok (.daload, 1) := dk_49 (dk_at dksL_law_66 6 rfl rfl)
theorem dL_law_1744 : decode cL_law 1744 = .ok (.fload 7, 2) := dk_23 7 (dk_at dksL_law_66 7 rfl rfl)
theorem dL_law_1746 : decode cL_law 1746 = .ok (.f2d, 1) := dk_141 (dk_at dksL_law_66 9 rfl rfl)
theorem dL_law_1747 : decode cL_law 1747 = .ok (.dcmp .l, 1) := dk_151 (dk_at dksL_law_66 10 rfl rfl)
theorem dL_law_1748 : decode cL_law 1748 = .ok (.ifCond .eq 25, 3) := dk_153 0 25 (dk_at dksL_law_66 11 rfl rfl)
theorem dL_law_1751 : decode cL_law 1751 = .ok (.aload 4, 2) := dk_25 4 (dk_at dksL_law_66 14 rfl rfl)
theorem dL_law_1753 : decode cL_law 1753 = .ok (.iconst 0, 1) := dk_3 (dk_at dksL_law_66 16 rfl rfl)
theorem dL_law_1754 : decode cL_law 1754 = .ok (.daload, 1) := dk_49 (dk_at dksL_law_66 17 rfl rfl)
theorem dL_law_1755 : decode cL_law 1755 = .ok (.aload 4, 2) := dk_25 4 (dk_at dksL_law_66 18 rfl rfl)
theorem dL_law_1757 : decode cL_law 1757 = .ok (.iconst 0, 1) := dk_3 (dk_at dksL_law_66 20 rfl rfl)
theorem dL_law_1758 : decode cL_law 1758 = .ok (.daload, 1) := dk_49 (dk_at dksL_law_66 21 rfl rfl)
theorem dL_law_1759 : decode cL_law 1759 = .ok (.dcmp .l, 1) := dk_151 (dk_at dksL_law_66 22 rfl rfl)
theorem dL_law_1760 : decode cL_law 1760 = .ok (.ifCond .eq 11, 3) := dk_153 0 11 (dk_at dksL_law_67 0 rfl rfl)
theorem dL_law_1763 : decode cL_law 1763 = .ok (.fload 7, 2) := dk_23 7 (dk_at dksL_law_67 3 rfl rfl)
theorem dL_law_1765 : decode cL_law 1765 = .ok (.fload 7, 2) := dk_23 7 (dk_at dksL_law_67 5 rfl rfl)
theorem dL_law_1767 : decode cL_law 1767 = .ok (.fcmp .l, 1) := dk_149 (dk_at dksL_law_67 7 rfl rfl)
theorem dL_law_1768 : decode cL_law 1768 = .ok (.ifCond .ne 5, 3) := dk_154 0 5 (dk_at dksL_law_67 8 rfl rfl)
theorem dL_law_1771 : decode cL_law 1771 = .ok (.iconst 0, 1) := dk_3 (dk_at dksL_law_67 11 rfl rfl)
theorem dL_law_1772 : decode cL_law 1772 = .ok (.ireturn, 1) := dk_172 (dk_at dksL_law_67 12 rfl rfl)
theorem dL_law_1773 : decode cL_law 1773 = .ok (.goto 983, 3) := dk_167 3 215 (dk_at dksL_law_67 13 rfl rfl)
theorem dL_law_1776 : decode cL_law 1776 = .ok (.aload_n 1, 1) := dk_43 (dk_at dksL_law_67 16 rfl rfl)
theorem dL_law_1777 : decode cL_law 1777 = .ok (.invokevirtual 248, 3) := dk_182 0 248 (dk_at dksL_law_67 17 rfl rfl)
theorem dL_law_1780 : decode cL_law 1780 = .ok (.dstore 6, 2) := dk_57 6 (dk_at dksL_law_67 20 rfl rfl)
theorem dL_law_1782 : decode cL_law 1782 = .ok (.aload_n 2, 1) := dk_44 (dk_at dksL_law_67 22 rfl rfl)
theorem dL_law_1783 : decode cL_law 1783 = .ok (.invokevirtual 252, 3) := dk_182 0 252 (dk_at dksL_law_68 0 rfl rfl)
theorem dL_law_1786 : decode cL_law 1786 = .ok (.dstore 8, 2) := dk_57 8 (dk_at dksL_law_68 3 rfl rfl)
theorem dL_law_1788 : decode cL_law 1788 = .ok (.dload 6, 2) := dk_24 6 (dk_at dksL_law_68 5 rfl rfl)
theorem dL_law_1790 : decode cL_law 1790 = .ok (.dload 8, 2) := dk_24 8 (dk_at dksL_law_68 7 rfl rfl)
theorem dL_law_1792 : decode cL_law 1792 = .ok (.dcmp .l, 1) := dk_151 (dk_at dksL_law_68 9 rfl rfl)
theorem dL_law_1793 : decode cL_law 1793 = .ok (.ifCond .eq 21, 3) := dk_153 0 21 (dk_at dksL_law_68 10 rfl rfl)
theorem dL_law_1796 : decode cL_law 1796 = .ok (.dload 6, 2) := dk_24 6 (dk_at dksL_law_68 13 rfl rfl)
theorem dL_law_1798 : decode cL_law 1798 = .ok (.dload 6, 2) := dk_24 6 (dk_at dksL_law_68 15 rfl rfl)
theorem dL_law_1800 : decode cL_law 1800 = .ok (.dcmp .l, 1) := dk_151 (dk_at dksL_law_68 17 rfl rfl)
theorem dL_law_1801 : decode cL_law 1801 = .ok (.ifCond .eq 11, 3) := dk_153 0 11 (dk_at dksL_law_68 18 rfl rfl)
theorem dL_law_1804 : decode cL_law 1804 = .ok (.dload 8, 2) := dk_24 8 (dk_at dksL_law_68 21 rfl rfl)
theorem dL_law_1806 : decode cL_law 1806 = .ok (.dload 8, 2) := dk_24 8 (dk_at dksL_law_69 0 rfl rfl)
theorem dL_law_1808 : decode cL_law 1808 = .ok (.dcmp .l, 1) := dk_151 (dk_at dksL_law_69 2 rfl rfl)
theorem dL_law_1809 : decode cL_law 1809 = .ok (.ifCond .ne 5, 3) := dk_154 0 5 (dk_at dksL_law_69 3 rfl rfl)
theorem dL_law_1812 : decode cL_law 1812 = .ok (.iconst 0, 1) := dk_3 (dk_at dksL_law_69 6 rfl rfl)
theorem dL_law_1813 : decode cL_law 1813 = .ok (.ireturn, 1) := dk_172 (dk_at dksL_law_69 7 rfl rfl)
theorem dL_law_1814 : decode cL_law 1814 = .ok (.goto 942, 3) := dk_167 3 174 (dk_at dksL_law_69 8 rfl rfl)
theorem dL_law_1817 : decode cL_law 1817 = .ok (.aload_n 1, 1) := dk_43 (dk_at dksL_law_69 11 rfl rfl)
theorem dL_law_1818 : decode cL_law 1818 = .ok (.aload_n 0, 1) := dk_42 (dk_at dksL_law_69 12 rfl rfl)
theorem dL_law_1819 : decode cL_law 1819 = .ok (.iload 5, 2) := dk_21 5 (dk_at dksL_law_69 13 rfl rfl)
theorem dL_law_1821 : decode cL_law 1821 = .ok (.iconst 1, 1) := dk_4 (dk_at dksL_law_69 15 rfl rfl)
theorem dL_law_1822 : decode cL_law 1822 = .ok (.iadd, 1) := dk_96 (dk_at dksL_law_69 16 rfl rfl)
theorem dL_law_1823 : decode cL_law 1823 = .ok (.iaload, 1) := dk_46 (dk_at dksL_law_69 17 rfl rfl)
theorem dL_law_1824 : decode cL_law 1824 = .ok (.aload_n 0, 1) := dk_42 (dk_at dksL_law_69 18 rfl rfl)
theorem dL_law_1825 : decode cL_law 1825 = .ok (.iload 5, 2) := dk_21 5 (dk_at dksL_law_69 19 rfl rfl)
theorem dL_law_1827 : decode cL_law 1827 = .ok (.iconst 2, 1) := dk_5 (dk_at dksL_law_69 21 rfl rfl)
theorem dL_law_1828 : decode cL_law 1828 = .ok (.iadd, 1) := dk_96 (dk_at dksL_law_69 22 rfl rfl)
theorem dL_law_1829 : decode cL_law 1829 = .ok (.iaload, 1) := dk_46 (dk_at dksL_law_69 23 rfl rfl)
theorem dL_law_1830 : decode cL_law 1830 = .ok (.aload_n 0, 1) := dk_42 (dk_at dksL_law_70 0 rfl rfl)
theorem dL_law_1831 : decode cL_law 1831 = .ok (.iload 5, 2) := dk_21 5 (dk_at dksL_law_70 1 rfl rfl)
theorem dL_law_1833 : decode cL_law 1833 = .ok (.iconst 3, 1) := dk_6 (dk_at dksL_law_70 3 rfl rfl)
theorem dL_law_1834 : decode cL_law 1834 = .ok (.iadd, 1) := dk_96 (dk_at dksL_law_70 4 rfl rfl)
theorem dL_law_1835 : decode cL_law 1835 = .ok (.iaload, 1) := dk_46 (dk_at dksL_law_70 5 rfl rfl)
theorem dL_law_1836 : decode cL_law 1836 = .ok (.aload_n 0, 1) := dk_42 (dk_at dksL_law_70 6 rfl rfl)
theorem dL_law_1837 : decode cL_law 1837 = .ok (.iload 5, 2) := dk_21 5 (dk_at dksL_law_70 7 rfl rfl)
theorem dL_law_1839 : decode cL_law 1839 = .ok (.iconst 4, 1) := dk_7 (dk_at dksL_law_70 9 rfl rfl)
theorem dL_law_1840 : decode cL_law 1840 = .ok (.iadd, 1) := dk_96 (dk_at dksL_law_70 10 rfl rfl)
theorem dL_law_1841 : decode cL_law 1841 = .ok (.iaload, 1) := dk_46 (dk_at dksL_law_70 11 rfl rfl)
theorem dL_law_1842 : decode cL_law 1842 = .ok (.aload_n 3, 1) := dk_45 (dk_at dksL_law_70 12 rfl rfl)
theorem dL_law_1843 : decode cL_law 1843 = .ok (.invokestatic 253, 3) := dk_184 0 253 (dk_at dksL_law_70 13 rfl rfl)
theorem dL_law_1846 : decode cL_law 1846 = .ok (.istore 6, 2) := dk_54 6 (dk_at dksL_law_70 16 rfl rfl)
theorem dL_law_1848 : decode cL_law 1848 = .ok (.aload_n 2, 1) := dk_44 (dk_at dksL_law_70 18 rfl rfl)
theorem dL_law_1849 : decode cL_law 1849 = .ok (.aload_n 0, 1) := dk_42 (dk_at dksL_law_70 19 rfl rfl)
theorem dL_law_1850 : decode cL_law 1850 = .ok (.iload 5, 2) := dk_21 5 (dk_at dksL_law_70 20 rfl rfl)
theorem dL_law_1852 : decode cL_law 1852 = .ok (.iconst 1, 1) := dk_4 (dk_at dksL_law_70 22 rfl rfl)
theorem dL_law_1853 : decode cL_law 1853 = .ok (.iadd, 1) := dk_96 (dk_at dksL_law_70 23 rfl rfl)
theorem dL_law_1854 : decode cL_law 1854 = .ok (.iaload, 1) := dk_46 (dk_at dksL_law_71 0 rfl rfl)
theorem dL_law_1855 : decode cL_law 1855 = .ok (.aload_n 0, 1) := dk_42 (dk_at dksL_law_71 1 rfl rfl)
theorem dL_law_1856 : decode cL_law 1856 = .ok (.iload 5, 2) := dk_21 5 (dk_at dksL_law_71 2 rfl rfl)
theorem dL_law_1858 : decode cL_law 1858 = .ok (.iconst 2, 1) := dk_5 (dk_at dksL_law_71 4 rfl rfl)
theorem dL_law_1859 : decode cL_law 1859 = .ok (.iadd, 1) := dk_96 (dk_at dksL_law_71 5 rfl rfl)
theorem dL_law_1860 : decode cL_law 1860 = .ok (.iaload, 1) := dk_46 (dk_at dksL_law_71 6 rfl rfl)
theorem dL_law_1861 : decode cL_law 1861 = .ok (.aload_n 0, 1) := dk_42 (dk_at dksL_law_71 7 rfl rfl)
theorem dL_law_1862 : decode cL_law 1862 = .ok (.iload 5, 2) := dk_21 5 (dk_at dksL_law_71 8 rfl rfl)
theorem dL_law_1864 : decode cL_law 1864 = .ok (.iconst 3, 1) := dk_6 (dk_at dksL_law_71 10 rfl rfl)
theorem dL_law_1865 : decode cL_law 1865 = .ok (.iadd, 1) := dk_96 (dk_at dksL_law_71 11 rfl rfl)
theorem dL_law_1866 : decode cL_law 1866 = .ok (.iaload, 1) := dk_46 (dk_at dksL_law_71 12 rfl rfl)
theorem dL_law_1867 : decode cL_law 1867 = .ok (.aload_n 0, 1) := dk_42 (dk_at dksL_law_71 13 rfl rfl)
theorem dL_law_1868 : decode cL_law 1868 = .ok (.iload 5, 2) := dk_21 5 (dk_at dksL_law_71 14 rfl rfl)
theorem dL_law_1870 : decode cL_law 1870 = .ok (.iconst 4, 1) := dk_7 (dk_at dksL_law_71 16 rfl rfl)
theorem dL_law_1871 : decode cL_law 1871 = .ok (.iadd, 1) := dk_96 (dk_at dksL_law_71 17 rfl rfl)
theorem dL_law_1872 : decode cL_law 1872 = .ok (.iaload, 1) := dk_46 (dk_at dksL_law_71 18 rfl rfl)
theorem dL_law_1873 : decode cL_law 1873 = .ok (.invokevirtual 256, 3) := dk_182 1 0 (dk_at dksL_law_71 19 rfl rfl)
theorem dL_law_1876 : decode cL_law 1876 = .ok (.istore 7, 2) := dk_54 7 (dk_at dksL_law_71 22 rfl rfl)
theorem dL_law_1878 : decode cL_law 1878 = .ok (.aload_n 2, 1) := dk_44 (dk_at dksL_law_72 0 rfl rfl)
theorem dL_law_1879 : decode cL_law 1879 = .ok (.invokevirtual 137, 3) := dk_182 0 137 (dk_at dksL_law_72 1 rfl rfl)
theorem dL_law_1882 : decode cL_law 1882 = .ok (.iload 6, 2) := dk_21 6 (dk_at dksL_law_72 4 rfl rfl)
theorem dL_law_1884 : decode cL_law 1884 = .ok (.if_icmp .eq 5, 3) := dk_159 0 5 (dk_at dksL_law_72 6 rfl rfl)
theorem dL_law_1887 : decode cL_law 1887 = .ok (.iconst 0, 1) := dk_3 (dk_at dksL_law_72 9 rfl rfl)
theorem dL_law_1888 : decode cL_law 1888 = .ok (.ireturn, 1) := dk_172 (dk_at dksL_law_72 10 rfl rfl)
theorem dL_law_1889 : decode cL_law 1889 = .ok (.iload 6, 2) := dk_21 6 (dk_at dksL_law_72 11 rfl rfl)
theorem dL_law_1891 : decode cL_law 1891 = .ok (.ifCond .ne 15, 3) := dk_154 0 15 (dk_at dksL_law_72 13 rfl rfl)
theorem dL_law_1894 : decode cL_law 1894 = .ok (.aload_n 3, 1) := dk_45 (dk_at dksL_law_72 16 rfl rfl)
theorem dL_law_1895 : decode cL_law 1895 = .ok (.iconst 0, 1) := dk_3 (dk_at dksL_law_72 17 rfl rfl)
theorem dL_law_1896 : decode cL_law 1896 = .ok (.laload, 1) := dk_47 (dk_at dksL_law_72 18 rfl rfl)
theorem dL_law_1897 : decode cL_law 1897 = .ok (.iload 7, 2) := dk_21 7 (dk_at dksL_law_72 19 rfl rfl)
theorem dL_law_1899 : decode cL_law 1899 = .ok (.i2l, 1) := dk_133 (dk_at dksL_law_72 21 rfl rfl)
theorem dL_law_1900 : decode cL_law 1900 = .ok (.lcmp, 1) := dk_148 (dk_at dksL_law_72 22 rfl rfl)
theorem dL_law_1901 : decode cL_law 1901 = .ok (.ifCond .eq 5, 3) := dk_153 0 5 (dk_at dksL_law_73 0 rfl rfl)
theorem dL_law_1904 : decode cL_law 1904 = .ok (.iconst 0, 1) := dk_3 (dk_at dksL_law_73 3 rfl rfl)
theorem dL_law_1905 : decode cL_law 1905 = .ok (.ireturn, 1) := dk_172 (dk_at dksL_law_73 4 rfl rfl)
theorem dL_law_1906 : decode cL_law 1906 = .ok (.goto 850, 3) := dk_167 3 82 (dk_at dksL_law_73 5 rfl rfl)
theorem dL_law_1909 : decode cL_law 1909 = .ok (.aload_n 1, 1) := dk_43 (dk_at dksL_law_73 8 rfl rfl)
theorem dL_law_1910 : decode cL_law 1910 = .ok (.aload_n 0, 1) := dk_42 (dk_at dksL_law_73 9 rfl rfl)
theorem dL_law_1911 : decode cL_law 1911 = .ok (.iload 5, 2) := dk_21 5 (dk_at dksL_law_73 10 rfl rfl)
theorem dL_law_1913 : decode cL_law 1913 = .ok (.iconst 1, 1) := dk_4 (dk_at dksL_law_73 12 rfl rfl)
theorem dL_law_1914 : decode cL_law 1914 = .ok (.iadd, 1) := dk_96 (dk_at dksL_law_73 13 rfl rfl)
theorem dL_law_1915 : decode cL_law 1915 = .ok (.iaload, 1) := dk_46 (dk_at dksL_law_73 14 rfl rfl)
theorem dL_law_1916 : decode cL_law 1916 = .ok (.aload_n 0, 1) := dk_42 (dk_at dksL_law_73 15 rfl rfl)
theorem dL_law_1917 : decode cL_law 1917 = .ok (.iload 5, 2) := dk_21 5 (dk_at dksL_law_73 16 rfl rfl)
theorem dL_law_1919 : decode cL_law 1919 = .ok (.iconst 2, 1) := dk_5 (dk_at dksL_law_73 18 rfl rfl)
theorem dL_law_1920 : decode cL_law 1920 = .ok (.iadd, 1) := dk_96 (dk_at dksL_law_73 19 rfl rfl)
theorem dL_law_1921 : decode cL_law 1921 = .ok (.iaload, 1) := dk_46 (dk_at dksL_law_73 20 rfl rfl)
theorem dL_law_1922 : decode cL_law 1922 = .ok (.aload_n 3, 1) := dk_45 (dk_at dksL_law_73 21 rfl rfl)
theorem dL_law_1923 : decode cL_law 1923 = .ok (.invokestatic 257, 3) := dk_184 1 1 (dk_at dksL_law_74 0 rfl rfl)
theorem dL_law_1926 : decode cL_law 1926 = .ok (.istore 6, 2) := dk_54 6 (dk_at dksL_law_74 3 rfl rfl)
theorem dL_law_1928 : decode cL_law 1928 = .ok (.aload_n 2, 1) := dk_44 (dk_at dksL_law_74 5 rfl rfl)
theorem dL_law_1929 : decode cL_law 1929 = .ok (.aload_n 0, 1) := dk_42 (dk_at dksL_law_74 6 rfl rfl)
theorem dL_law_1930 : decode cL_law 1930 = .ok (.iload 5, 2) := dk_21 5 (dk_at dksL_law_74 7 rfl rfl)
theorem dL_law_1932 : decode cL_law 1932 = .ok (.iconst 1, 1) := dk_4 (dk_at dksL_law_74 9 rfl rfl)
theorem dL_law_1933 : decode cL_law 1933 = .ok (.iadd, 1) := dk_96 (dk_at dksL_law_74 10 rfl rfl)
theorem dL_law_1934 : decode cL_law 1934 = .ok (.iaload, 1) := dk_46 (dk_at dksL_law_74 11 rfl rfl)
theorem dL_law_1935 : decode cL_law 1935 = .ok (.aload_n 0, 1) := dk_42 (dk_at dksL_law_74 12 rfl rfl)
theorem dL_law_1936 : decode cL_law 1936 = .ok (.iload 5, 2) := dk_21 5 (dk_at dksL_law_74 13 rfl rfl)
theorem dL_law_1938 : decode cL_law 1938 = .ok (.iconst 2, 1) := dk_5 (dk_at dksL_law_74 15 rfl rfl)
theorem dL_law_1939 : decode cL_law 1939 = .ok (.iadd, 1) := dk_96 (dk_at dksL_law_74 16 rfl rfl)
theorem dL_law_1940 : decode cL_law 1940 = .ok (.iaload, 1) := dk_46 (dk_at dksL_law_74 17 rfl rfl)
theorem dL_law_1941 : decode cL_law 1941 = .ok (.invokevirtual 259, 3) := dk_182 1 3 (dk_at dksL_law_74 18 rfl rfl)
theorem dL_law_1944 : decode cL_law 1944 = .ok (.istore 7, 2) := dk_54 7 (dk_at dksL_law_74 21 rfl rfl)
theorem dL_law_1946 : decode cL_law 1946 = .ok (.aload_n 2, 1) := dk_44 (dk_at dksL_law_74 23 rfl rfl)
theorem dL_law_1947 : decode cL_law 1947 = .ok (.invokevirtual 137, 3) := dk_182 0 137 (dk_at dksL_law_75 0 rfl rfl)
theorem dL_law_1950 : decode cL_law 1950 = .ok (.iload 6, 2) := dk_21 6 (dk_at dksL_law_75 3 rfl rfl)
theorem dL_law_1952 : decode cL_law 1952 = .ok (.if_icmp .eq 5, 3) := dk_159 0 5 (dk_at dksL_law_75 5 rfl rfl)
theorem dL_law_1955 : decode cL_law 1955 = .ok (.iconst 0, 1) := dk_3 (dk_at dksL_law_75 8 rfl rfl)
theorem dL_law_1956 : decode cL_law 1956 = .ok (.ireturn, 1) := dk_172 (dk_at dksL_law_75 9 rfl rfl)
theorem dL_law_1957 : decode cL_law 1957 = .ok (.iload 6, 2) := dk_21 6 (dk_at dksL_law_75 10 rfl rfl)
theorem dL_law_1959 : decode cL_law 1959 = .ok (.ifCond .ne 15, 3) := dk_154 0 15 (dk_at dksL_law_75 12 rfl rfl)
theorem dL_law_1962 : decode cL_law 1962 = .ok (.aload_n 3, 1) := dk_45 (dk_at dksL_law_75 15 rfl rfl)
theorem dL_law_1963 : decode cL_law 1963 = .ok (.iconst 0, 1) := dk_3 (dk_at dksL_law_75 16 rfl rfl)
theorem dL_law_1964 : decode cL_law 1964 = .ok (.laload, 1) := dk_47 (dk_at dksL_law_75 17 rfl rfl)
theorem dL_law_1965 : decode cL_law 1965 = .ok (.iload 7, 2) := dk_21 7 (dk_at dksL_law_75 18 rfl rfl)
theorem dL_law_1967 : decode cL_law 1967 = .ok (.i2l, 1) := dk_133 (dk_at dksL_law_75 20 rfl rfl)
theorem dL_law_1968 : decode cL_law 1968 = .ok (.lcmp, 1) := dk_148 (dk_at dksL_law_75 21 rfl rfl)
theorem dL_law_1969 : decode cL_law 1969 = .ok (.ifCond .eq 5, 3) := dk_153 0 5 (dk_at dksL_law_76 0 rfl rfl)
theorem dL_law_1972 : decode cL_law 1972 = .ok (.iconst 0, 1) := dk_3 (dk_at dksL_law_76 3 rfl rfl)
theorem dL_law_1973 : decode cL_law 1973 = .ok (.ireturn, 1) := dk_172 (dk_at dksL_law_76 4 rfl rfl)
theorem dL_law_1974 : decode cL_law 1974 = .ok (.goto 782, 3) := dk_167 3 14 (dk_at dksL_law_76 5 rfl rfl)
theorem dL_law_1977 : decode cL_law 1977 = .ok (.aload_n 1, 1) := dk_43 (dk_at dksL_law_76 8 rfl rfl)
theorem dL_law_1978 : decode cL_law 1978 = .ok (.invokevirtual 260, 3) := dk_182 1 4 (dk_at dksL_law_76 9 rfl rfl)
theorem dL_law_1981 : decode cL_law 1981 = .ok (.aload_n 2, 1) := dk_44 (dk_at dksL_law_76 12 rfl rfl)
theorem dL_law_1982 : decode cL_law 1982 = .ok (.invokevirtual 263, 3) := dk_182 1 7 (dk_at dksL_law_76 13 rfl rfl)
theorem dL_law_1985 : decode cL_law 1985 = .ok (.if_icmp .eq 771, 3) := dk_159 3 3 (dk_at dksL_law_76 16 rfl rfl)
theorem dL_law_1988 : decode cL_law 1988 = .ok (.iconst 0, 1) := dk_3 (dk_at dksL_law_76 19 rfl rfl)
theorem dL_law_1989 : decode cL_law 1989 = .ok (.ireturn, 1) := dk_172 (dk_at dksL_law_76 20 rfl rfl)
theorem dL_law_1990 : decode cL_law 1990 = .ok (.aload_n 1, 1) := dk_43 (dk_at dksL_law_76 21 rfl rfl)
theorem dL_law_1991 : decode cL_law 1991 = .ok (.aload_n 0, 1) := dk_42 (dk_at dksL_law_76 22 rfl rfl)
theorem dL_law_1992 : decode cL_law 1992 = .ok (.iload 5, 2) := dk_21 5 (dk_at dksL_law_77 0 rfl rfl)
theorem dL_law_1994 : decode cL_law 1994 = .ok (.iconst 1, 1) := dk_4 (dk_at dksL_law_77 2 rfl rfl)
theorem dL_law_1995 : decode cL_law 1995 = .ok (.iadd, 1) := dk_96 (dk_at dksL_law_77 3 rfl rfl)
theorem dL_law_1996 : decode cL_law 1996 = .ok (.iaload, 1) := dk_46 (dk_at dksL_law_77 4 rfl rfl)
theorem dL_law_1997 : decode cL_law 1997 = .ok (.aload_n 3, 1) := dk_45 (dk_at dksL_law_77 5 rfl rfl)
theorem dL_law_1998 : decode cL_law 1998 = .ok (.invokestatic 264, 3) := dk_184 1 8 (dk_at dksL_law_77 6 rfl rfl)
theorem dL_law_2001 : decode cL_law 2001 = .ok (.istore 6, 2) := dk_54 6 (dk_at dksL_law_77 9 rfl rfl)
theorem dL_law_2003 : decode cL_law 2003 = .ok (.aload_n 2, 1) := dk_44 (dk_at dksL_law_77 11 rfl rfl)
theorem dL_law_2004 : decode cL_law 2004 = .ok (.aload_n 0, 1) := dk_42 (dk_at dksL_law_77 12 rfl rfl)
theorem dL_law_2005 : decode cL_law 2005 = .ok (.iload 5, 2) := dk_21 5 (dk_at dksL_law_77 13 rfl rfl)
theorem dL_law_2007 : decode cL_law 2007 = .ok (.iconst 1, 1) := dk_4 (dk_at dksL_law_77 15 rfl rfl)
theorem dL_law_2008 : decode cL_law 2008 = .ok (.iadd, 1) := dk_96 (dk_at dksL_law_77 16 rfl rfl)
theorem dL_law_2009 : decode cL_law 2009 = .ok (.iaload, 1) := dk_46 (dk_at dksL_law_77 17 rfl rfl)
theorem dL_law_2010 : decode cL_law 2010 = .ok (.invokevirtual 266, 3) := dk_182 1 10 (dk_at dksL_law_77 18 rfl rfl)
theorem dL_law_2013 : decode cL_law 2013 = .ok (.istore 7, 2) := dk_54 7 (dk_at dksL_law_77 21 rfl rfl)
theorem dL_law_2015 : decode cL_law 2015 = .ok (.aload_n 2, 1) := dk_44 (dk_at dksL_law_77 23 rfl rfl)
theorem dL_law_2016 : decode cL_law 2016 = .ok (.invokevirtual 137, 3) := dk_182 0 137 (dk_at dksL_law_78 0 rfl rfl)
theorem dL_law_2019 : decode cL_law 2019 = .ok (.iload 6, 2) := dk_21 6 (dk_at dksL_law_78 3 rfl rfl)
theorem dL_law_2021 : decode cL_law 2021 = .ok (.if_icmp .eq 5, 3) := dk_159 0 5 (dk_at dksL_law_78 5 rfl rfl)
theorem dL_law_2024 : decode cL_law 2024 = .ok (.iconst 0, 1) := dk_3 (dk_at dksL_law_78 8 rfl rfl)
theorem dL_law_2025 : decode cL_law 2025 = .ok (.ireturn, 1) := dk_172 (dk_at dksL_law_78 9 rfl rfl)
theorem dL_law_2026 : decode cL_law 2026 = .ok (.iload 6, 2) := dk_21 6 (dk_at dksL_law_78 10 rfl rfl)
theorem dL_law_2028 : decode cL_law 2028 = .ok (.ifCond .ne 15, 3) := dk_154 0 15 (dk_at dksL_law_78 12 rfl rfl)
theorem dL_law_2031 : decode cL_law 2031 = .ok (.aload_n 3, 1) := dk_45 (dk_at dksL_law_78 15 rfl rfl)
theorem dL_law_2032 : decode cL_law 2032 = .ok (.iconst 0, 1) := dk_3 (dk_at dksL_law_78 16 rfl rfl)
theorem dL_law_2033 : decode cL_law 2033 = .ok (.laload, 1) := dk_47 (dk_at dksL_law_78 17 rfl rfl)
theorem dL_law_2034 : decode cL_law 2034 = .ok (.iload 7, 2) := dk_21 7 (dk_at dksL_law_78 18 rfl rfl)
theorem dL_law_2036 : decode cL_law 2036 = .ok (.i2l, 1) := dk_133 (dk_at dksL_law_78 20 rfl rfl)
theorem dL_law_2037 : decode cL_law 2037 = .ok (.lcmp, 1) := dk_148 (dk_at dksL_law_78 21 rfl rfl)
theorem dL_law_2038 : decode cL_law 2038 = .ok (.ifCond .eq 5, 3) := dk_153 0 5 (dk_at dksL_law_79 0 rfl rfl)
theorem dL_law_2041 : decode cL_law 2041 = .ok (.iconst 0, 1) := dk_3 (dk_at dksL_law_79 3 rfl rfl)
theorem dL_law_2042 : decode cL_law 2042 = .ok (.ireturn, 1) := dk_172 (dk_at dksL_law_79 4 rfl rfl)
theorem dL_law_2043 : decode cL_law 2043 = .ok (.goto 713, 3) := dk_167 2 201 (dk_at dksL_law_79 5 rfl rfl)
theorem dL_law_2046 : decode cL_law 2046 = .ok (.aload_n 1, 1) := dk_43 (dk_at dksL_law_79 8 rfl rfl)
theorem dL_law_2047 : decode cL_law 2047 = .ok (.aload_n 0, 1) := dk_42 (dk_at dksL_law_79 9 rfl rfl)
theorem dL_law_2048 : decode cL_law 2048 = .ok (.iload 5, 2) := dk_21 5 (dk_at dksL_law_79 10 rfl rfl)
theorem dL_law_2050 : decode cL_law 2050 = .ok (.iconst 1, 1) := dk_4 (dk_at dksL_law_79 12 rfl rfl)
theorem dL_law_2051 : decode cL_law 2051 = .ok (.iadd, 1) := dk_96 (dk_at dksL_law_79 13 rfl rfl)
theorem dL_law_2052 : decode cL_law 2052 = .ok (.iaload, 1) := dk_46 (dk_at dksL_law_79 14 rfl rfl)
theorem dL_law_2053 : decode cL_law 2053 = .ok (.aload_n 0, 1) := dk_42 (dk_at dksL_law_79 15 rfl rfl)
theorem dL_law_2054 : decode cL_law 2054 = .ok (.iload 5, 2) := dk_21 5 (dk_at dksL_law_79 16 rfl rfl)
theorem dL_law_2056 : decode cL_law 2056 = .ok (.iconst 2, 1) := dk_5 (dk_at dksL_law_79 18 rfl rfl)
theorem dL_law_2057 : decode cL_law 2057 = .ok (.iadd, 1) := dk_96 (dk_at dksL_law_79 19 rfl rfl)
theorem dL_law_2058 : decode cL_law 2058 = .ok (.iaload, 1) := dk_46 (dk_at dksL_law_79 20 rfl rfl)
theorem dL_law_2059 : decode cL_law 2059 = .ok (.aload_n 0, 1) := dk_42 (dk_at dksL_law_79 21 rfl rfl)
theorem dL_law_2060 : decode cL_law 2060 = .ok (.iload 5, 2) := dk_21 5 (dk_at dksL_law_79 22 rfl rfl)
theorem dL_law_2062 : decode cL_law 2062 = .ok (.iconst 3, 1) := dk_6 (dk_at dksL_law_80 0 rfl rfl)
theorem dL_law_2063 : decode cL_law 2063 = .ok (.iadd, 1) := dk_96 (dk_at dksL_law_80 1 rfl rfl)
theorem dL_law_2064 : decode cL_law 2064 = .ok (.iaload, 1) := dk_46 (dk_at dksL_law_80 2 rfl rfl)
theorem dL_law_2065 : decode cL_law 2065 = .ok (.aload_n 0, 1) := dk_42 (dk_at dksL_law_80 3 rfl rfl)
theorem dL_law_2066 : decode cL_law 2066 = .ok (.iload 5, 2) := dk_21 5 (dk_at dksL_law_80 4 rfl rfl)
theorem dL_law_2068 : decode cL_law 2068 = .ok (.iconst 4, 1) := dk_7 (dk_at dksL_law_80 6 rfl rfl)
theorem dL_law_2069 : decode cL_law 2069 = .ok (.iadd, 1) := dk_96 (dk_at dksL_law_80 7 rfl rfl)
theorem dL_law_2070 : decode cL_law 2070 = .ok (.iaload, 1) := dk_46 (dk_at dksL_law_80 8 rfl rfl)
theorem dL_law_2071 : decode cL_law 2071 = .ok (.aload_n 3, 1) := dk_45 (dk_at dksL_law_80 9 rfl rfl)
theorem dL_law_2072 : decode cL_law 2072 = .ok (.invokestatic 267, 3) := dk_184 1 11 (dk_at dksL_law_80 10 rfl rfl)
theorem dL_law_2075 : decode cL_law 2075 = .ok (.istore 6, 2) := dk_54 6 (dk_at dksL_law_80 13 rfl rfl)
theorem dL_law_2077 : decode cL_law 2077 = .ok (.aload_n 2, 1) := dk_44 (dk_at dksL_law_80 15 rfl rfl)
theorem dL_law_2078 : decode cL_law 2078 = .ok (.aload_n 0, 1) := dk_42 (dk_at dksL_law_80 16 rfl rfl)
theorem dL_law_2079 : decode cL_law 2079 = .ok (.iload 5, 2) := dk_21 5 (dk_at dksL_law_80 17 rfl rfl)
theorem dL_law_2081 : decode cL_law 2081 = .ok (.iconst 1, 1) := dk_4 (dk_at dksL_law_80 19 rfl rfl)
theorem dL_law_2082 : decode cL_law 2082 = .ok (.iadd, 1) := dk_96 (dk_at dksL_law_80 20 rfl rfl)
theorem dL_law_2083 : decode cL_law 2083 = .ok (.iaload, 1) := dk_46 (dk_at dksL_law_80 21 rfl rfl)
theorem dL_law_2084 : decode cL_law 2084 = .ok (.aload_n 0, 1) := dk_42 (dk_at dksL_law_80 22 rfl rfl)
theorem dL_law_2085 : decode cL_law 2085 = .ok (.iload 5, 2) := dk_21 5 (dk_at dksL_law_81 0 rfl rfl)
theorem dL_law_2087 : decode cL_law 2087 = .ok (.iconst 2, 1) := dk_5 (dk_at dksL_law_81 2 rfl rfl)
theorem dL_law_2088 : decode cL_law 2088 = .ok (.iadd, 1) := dk_96 (dk_at dksL_law_81 3 rfl rfl)
theorem dL_law_2089 : decode cL_law 2089 = .ok (.iaload, 1) := dk_46 (dk_at dksL_law_81 4 rfl rfl)
theorem dL_law_2090 : decode cL_law 2090 = .ok (.aload_n 0, 1) := dk_42 (dk_at dksL_law_81 5 rfl rfl)
theorem dL_law_2091 : decode cL_law 2091 = .ok (.iload 5, 2) := dk_21 5 (dk_at dksL_law_81 6 rfl rfl)
theorem dL_law_2093 : decode cL_law 2093 = .ok (.iconst 3, 1) := dk_6 (dk_at dksL_law_81 8 rfl rfl)
theorem dL_law_2094 : decode cL_law 2094 = .ok (.iadd, 1) := dk_96 (dk_at dksL_law_81 9 rfl rfl)
theorem dL_law_2095 : decode cL_law 2095 = .ok (.iaload, 1) := dk_46 (dk_at dksL_law_81 10 rfl rfl)
theorem dL_law_2096 : decode cL_law 2096 = .ok (.aload_n 0, 1) := dk_42 (dk_at dksL_law_81 11 rfl rfl)
theorem dL_law_2097 : decode cL_law 2097 = .ok (.iload 5, 2) := dk_21 5 (dk_at dksL_law_81 12 rfl rfl)
theorem dL_law_2099 : decode cL_law 2099 = .ok (.iconst 4, 1) := dk_7 (dk_at dksL_law_81 14 rfl rfl)
theorem dL_law_2100 : decode cL_law 2100 = .ok (.iadd, 1) := dk_96 (dk_at dksL_law_81 15 rfl rfl)
theorem dL_law_2101 : decode cL_law 2101 = .ok (.iaload, 1) := dk_46 (dk_at dksL_law_81 16 rfl rfl)
theorem dL_law_2102 : decode cL_law 2102 = .ok (.invokevirtual 269, 3) := dk_182 1 13 (dk_at dksL_law_81 17 rfl rfl)
theorem dL_law_2105 : decode cL_law 2105 = .ok (.istore 7, 2) := dk_54 7 (dk_at dksL_law_81 20 rfl rfl)
theorem dL_law_2107 : decode cL_law 2107 = .ok (.aload_n 2, 1) := dk_44 (dk_at dksL_law_81 22 rfl rfl)
theorem dL_law_2108 : decode cL_law 2108 = .ok (.invokevirtual 137, 3) := dk_182 0 137 (dk_at dksL_law_82 0 rfl rfl)
theorem dL_law_2111 : decode cL_law 2111 = .ok (.iload 6, 2) := dk_21 6 (dk_at dksL_law_82 3 rfl rfl)
theorem dL_law_2113 : decode cL_law 2113 = .ok (.if_icmp .eq 5, 3) := dk_159 0 5 (dk_at dksL_law_82 5 rfl rfl)
theorem dL_law_2116 : decode cL_law 2116 = .ok (.iconst 0, 1) := dk_3 (dk_at dksL_law_82 8 rfl rfl)
theorem dL_law_2117 : decode cL_law 2117 = .ok (.ireturn, 1) := dk_172 (dk_at dksL_law_82 9 rfl rfl)
theorem dL_law_2118 : decode cL_law 2118 = .ok (.iload 6, 2) := dk_21 6 (dk_at dksL_law_82 10 rfl rfl)
theorem dL_law_2120 : decode cL_law 2120 = .ok (.ifCond .ne 15, 3) := dk_154 0 15 (dk_at dksL_law_82 12 rfl rfl)
theorem dL_law_2123 : decode cL_law 2123 = .ok (.aload_n 3, 1) := dk_45 (dk_at dksL_law_82 15 rfl rfl)
theorem dL_law_2124 : decode cL_law 2124 = .ok (.iconst 0, 1) := dk_3 (dk_at dksL_law_82 16 rfl rfl)
theorem dL_law_2125 : decode cL_law 2125 = .ok (.laload, 1) := dk_47 (dk_at dksL_law_82 17 rfl rfl)
theorem dL_law_2126 : decode cL_law 2126 = .ok (.iload 7, 2) := dk_21 7 (dk_at dksL_law_82 18 rfl rfl)
theorem dL_law_2128 : decode cL_law 2128 = .ok (.i2l, 1) := dk_133 (dk_at dksL_law_82 20 rfl rfl)
theorem dL_law_2129 : decode cL_law 2129 = .ok (.lcmp, 1) := dk_148 (dk_at dksL_law_82 21 rfl rfl)
theorem dL_law_2130 : decode cL_law 2130 = .ok (.ifCond .eq 5, 3) := dk_153 0 5 (dk_at dksL_law_83 0 rfl rfl)
theorem dL_law_2133 : decode cL_law 2133 = .ok (.iconst 0, 1) := dk_3 (dk_at dksL_law_83 3 rfl rfl)
theorem dL_law_2134 : decode cL_law 2134 = .ok (.ireturn, 1) := dk_172 (dk_at dksL_law_83 4 rfl rfl)
theorem dL_law_2135 : decode cL_law 2135 = .ok (.goto 621, 3) := dk_167 2 109 (dk_at dksL_law_83 5 rfl rfl)
theorem dL_law_2138 : decode cL_law 2138 = .ok (.aload_n 1, 1) := dk_43 (dk_at dksL_law_83 8 rfl rfl)
theorem dL_law_2139 : decode cL_law 2139 = .ok (.aload_n 0, 1) := dk_42 (dk_at dksL_law_83 9 rfl rfl)
theorem dL_law_2140 : decode cL_law 2140 = .ok (.iload 5, 2) := dk_21 5 (dk_at dksL_law_83 10 rfl rfl)
theorem dL_law_2142 : decode cL_law 2142 = .ok (.iconst 1, 1) := dk_4 (dk_at dksL_law_83 12 rfl rfl)
theorem dL_law_2143 : decode cL_law 2143 = .ok (.iadd, 1) := dk_96 (dk_at dksL_law_83 13 rfl rfl)
theorem dL_law_2144 : decode cL_law 2144 = .ok (.iaload, 1) := dk_46 (dk_at dksL_law_83 14 rfl rfl)
theorem dL_law_2145 : decode cL_law 2145 = .ok (.aload_n 0, 1) := dk_42 (dk_at dksL_law_83 15 rfl rfl)
theorem dL_law_2146 : decode cL_law 2146 = .ok (.iload 5, 2) := dk_21 5 (dk_at dksL_law_83 16 rfl rfl)
theorem dL_law_2148 : decode cL_law 2148 = .ok (.iconst 2, 1) := dk_5 (dk_at dksL_law_83 18 rfl rfl)
theorem dL_law_2149 : decode cL_law 2149 = .ok (.iadd, 1) := dk_96 (dk_at dksL_law_83 19 rfl rfl)
theorem dL_law_2150 : decode cL_law 2150 = .ok (.iaload, 1) := dk_46 (dk_at dksL_law_83 20 rfl rfl)
theorem dL_law_2151 : decode cL_law 2151 = .ok (.aload_n 0, 1) := dk_42 (dk_at dksL_law_83 21 rfl rfl)
theorem dL_law_2152 : decode cL_law 2152 = .ok (.iload 5, 2) := dk_21 5 (dk_at dksL_law_83 22 rfl rfl)
theorem dL_law_2154 : decode cL_law 2154 = .ok (.iconst 3, 1) := dk_6 (dk_at dksL_law_84 0 rfl rfl)
theorem dL_law_2155 : decode cL_law 2155 = .ok (.iadd, 1) := dk_96 (dk_at dksL_law_84 1 rfl rfl)
theorem dL_law_2156 : decode cL_law 2156 = .ok (.iaload, 1) := dk_46 (dk_at dksL_law_84 2 rfl rfl)
theorem dL_law_2157 : decode cL_law 2157 = .ok (.aload_n 3, 1) := dk_45 (dk_at dksL_law_84 3 rfl rfl)
theorem dL_law_2158 : decode cL_law 2158 = .ok (.invokestatic 270, 3) := dk_184 1 14 (dk_at dksL_law_84 4 rfl rfl)
theorem dL_law_2161 : decode cL_law 2161 = .ok (.istore 6, 2) := dk_54 6 (dk_at dksL_law_84 7 rfl rfl)
theorem dL_law_2163 : decode cL_law 2163 = .ok (.aload_n 2, 1) := dk_44 (dk_at dksL_law_84 9 rfl rfl)
theorem dL_law_2164 : decode cL_law 2164 = .ok (.aload_n 0, 1) := dk_42 (dk_at dksL_law_84 10 rfl rfl)
theorem dL_law_2165 : decode cL_law 2165 = .ok (.iload 5, 2) := dk_21 5 (dk_at dksL_law_84 11 rfl rfl)
theorem dL_law_2167 : decode cL_law 2167 = .ok (.iconst 1, 1) := dk_4 (dk_at dksL_law_84 13 rfl rfl)
theorem dL_law_2168 : decode cL_law 2168 = .ok (.iadd, 1) := dk_96 (dk_at dksL_law_84 14 rfl rfl)
theorem dL_law_2169 : decode cL_law 2169 = .ok (.iaload, 1) := dk_46 (dk_at dksL_law_84 15 rfl rfl)
theorem dL_law_2170 : decode cL_law 2170 = .ok (.aload_n 0, 1) := dk_42 (dk_at dksL_law_84 16 rfl rfl)
theorem dL_law_2171 : decode cL_law 2171 = .ok (.iload 5, 2) := dk_21 5 (dk_at dksL_law_84 17 rfl rfl)
theorem dL_law_2173 : decode cL_law 2173 = .ok (.iconst 2, 1) := dk_5 (dk_at dksL_law_84 19 rfl rfl)
theorem dL_law_2174 : decode cL_law 2174 = .ok (.iadd, 1) := dk_96 (dk_at dksL_law_84 20 rfl rfl)
theorem dL_law_2175 : decode cL_law 2175 = .ok (.iaload, 1) := dk_46 (dk_at dksL_law_84 21 rfl rfl)
theorem dL_law_2176 : decode cL_law 2176 = .ok (.aload_n 0, 1) := dk_42 (dk_at dksL_law_84 22 rfl rfl)
theorem dL_law_2177 : decode cL_law 2177 = .ok (.iload 5, 2) := dk_21 5 (dk_at dksL_law_85 0 rfl rfl)
theorem dL_law_2179 : decode cL_law 2179 = .ok (.iconst 3, 1) := dk_6 (dk_at dksL_law_85 2 rfl rfl)
theorem dL_law_2180 : decode cL_law 2180 = .ok (.iadd, 1) := dk_96 (dk_at dksL_law_85 3 rfl rfl)
theorem dL_law_2181 : decode cL_law 2181 = .ok (.iaload, 1) := dk_46 (dk_at dksL_law_85 4 rfl rfl)
theorem dL_law_2182 : decode cL_law 2182 = .ok (.invokevirtual 272, 3) := dk_182 1 16 (dk_at dksL_law_85 5 rfl rfl)
theorem dL_law_2185 : decode cL_law 2185 = .ok (.istore 7, 2) := dk_54 7 (dk_at dksL_law_85 8 rfl rfl)
theorem dL_law_2187 : decode cL_law 2187 = .ok (.aload_n 2, 1) := dk_44 (dk_at dksL_law_85 10 rfl rfl)
theorem dL_law_2188 : decode cL_law 2188 = .ok (.invokevirtual 137, 3) := dk_182 0 137 (dk_at dksL_law_85 11 rfl rfl)
theorem dL_law_2191 : decode cL_law 2191 = .ok (.iload 6, 2) := dk_21 6 (dk_at dksL_law_85 14 rfl rfl)
theorem dL_law_2193 : decode cL_law 2193 = .ok (.if_icmp .eq 5, 3) := dk_159 0 5 (dk_at dksL_law_85 16 rfl rfl)
theorem dL_law_2196 : decode cL_law 2196 = .ok (.iconst 0, 1) := dk_3 (dk_at dksL_law_85 19 rfl rfl)
theorem dL_law_2197 : decode cL_law 2197 = .ok (.ireturn, 1) := dk_172 (dk_at dksL_law_85 20 rfl rfl)
theorem dL_law_2198 : decode cL_law 2198 = .ok (.iload 6, 2) := dk_21 6 (dk_at dksL_law_85 21 rfl rfl)
theorem dL_law_2200 : decode cL_law 2200 = .ok (.ifCond .ne 15, 3) := dk_154 0 15 (dk_at dksL_law_86 0 rfl rfl)
theorem dL_law_2203 : decode cL_law 2203 = .ok (.aload_n 3, 1) := dk_45 (dk_at dksL_law_86 3 rfl rfl)
theorem dL_law_2204 : decode cL_law 2204 = .ok (.iconst 0, 1) := dk_3 (dk_at dksL_law_86 4 rfl rfl)
theorem dL_law_2205 : decode cL_law 2205 = .ok (.laload, 1) := dk_47 (dk_at dksL_law_86 5 rfl rfl)
theorem dL_law_2206 : decode cL_law 2206 = .ok (.iload 7, 2) := dk_21 7 (dk_at dksL_law_86 6 rfl rfl)
theorem dL_law_2208 : decode cL_law 2208 = .ok (.i2l, 1) := dk_133 (dk_at dksL_law_86 8 rfl rfl)
theorem dL_law_2209 : decode cL_law 2209 = .ok (.lcmp, 1) := dk_148 (dk_at dksL_law_86 9 rfl rfl)
theorem dL_law_2210 : decode cL_law 2210 = .ok (.ifCond .eq 5, 3) := dk_153 0 5 (dk_at dksL_law_86 10 rfl rfl)
theorem dL_law_2213 : decode cL_law 2213 = .ok (.iconst 0, 1) := dk_3 (dk_at dksL_law_86 13 rfl rfl)
theorem dL_law_2214 : decode cL_law 2214 = .ok (.ireturn, 1) := dk_172 (dk_at dksL_law_86 14 rfl rfl)
theorem dL_law_2215 : decode cL_law 2215 = .ok (.goto 541, 3) := dk_167 2 29 (dk_at dksL_law_86 15 rfl rfl)
theorem dL_law_2218 : decode cL_law 2218 = .ok (.aload_n 1, 1) := dk_43 (dk_at dksL_law_86 18 rfl rfl)
theorem dL_law_2219 : decode cL_law 2219 = .ok (.aload_n 0, 1) := dk_42 (dk_at dksL_law_86 19 rfl rfl)
theorem dL_law_2220 : decode cL_law 2220 = .ok (.iload 5, 2) := dk_21 5 (dk_at dksL_law_86 20 rfl rfl)
theorem dL_law_2222 : decode cL_law 2222 = .ok (.iconst 1, 1) := dk_4 (dk_at dksL_law_86 22 rfl rfl)
theorem dL_law_2223 : decode cL_law 2223 = .ok (.iadd, 1) := dk_96 (dk_at dksL_law_86 23 rfl rfl)
theorem dL_law_2224 : decode cL_law 2224 = .ok (.iaload, 1) := dk_46 (dk_at dksL_law_87 0 rfl rfl)
theorem dL_law_2225 : decode cL_law 2225 = .ok (.aload_n 3, 1) := dk_45 (dk_at dksL_law_87 1 rfl rfl)
theorem dL_law_2226 : decode cL_law 2226 = .ok (.invokestatic 273, 3) := dk_184 1 17 (dk_at dksL_law_87 2 rfl rfl)
theorem dL_law_2229 : decode cL_law 2229 = .ok (.istore 6, 2) := dk_54 6 (dk_at dksL_law_87 5 rfl rfl)
theorem dL_law_2231 : decode cL_law 2231 = .ok (.aload_n 2, 1) := dk_44 (dk_at dksL_law_87 7 rfl rfl)
theorem dL_law_2232 : decode cL_law 2232 = .ok (.aload_n 0, 1) := dk_42 (dk_at dksL_law_87 8 rfl rfl)
theorem dL_law_2233 : decode cL_law 2233 = .ok (.iload 5, 2) := dk_21 5 (dk_at dksL_law_87 9 rfl rfl)
theorem dL_law_2235 : decode cL_law 2235 = .ok (.iconst 1, 1) := dk_4 (dk_at dksL_law_87 11 rfl rfl)
theorem dL_law_2236 : decode cL_law 2236 = .ok (.iadd, 1) := dk_96 (dk_at dksL_law_87 12 rfl rfl)
theorem dL_law_2237 : decode cL_law 2237 = .ok (.iaload, 1) := dk_46 (dk_at dksL_law_87 13 rfl rfl)
theorem dL_law_2238 : decode cL_law 2238 = .ok (.invokevirtual 275, 3) := dk_182 1 19 (dk_at dksL_law_87 14 rfl rfl)
theorem dL_law_2241 : decode cL_law 2241 = .ok (.istore 7, 2) := dk_54 7 (dk_at dksL_law_87 17 rfl rfl)
theorem dL_law_2243 : decode cL_law 2243 = .ok (.aload_n 2, 1) := dk_44 (dk_at dksL_law_87 19 rfl rfl)
theorem dL_law_2244 : decode cL_law 2244 = .ok (.invokevirtual 137, 3) := dk_182 0 137 (dk_at dksL_law_87 20 rfl rfl)
theorem dL_law_2247 : decode cL_law 2247 = .ok (.iload 6, 2) := dk_21 6 (dk_at dksL_law_88 0 rfl rfl)
theorem dL_law_2249 : decode cL_law 2249 = .ok (.if_icmp .eq 5, 3) := dk_159 0 5 (dk_at dksL_law_88 2 rfl rfl)
theorem dL_law_2252 : decode cL_law 2252 = .ok (.iconst 0, 1) := dk_3 (dk_at dksL_law_88 5 rfl rfl)
theorem dL_law_2253 : decode cL_law 2253 = .ok (.ireturn, 1) := dk_172 (dk_at dksL_law_88 6 rfl rfl)
theorem dL_law_2254 : decode cL_law 2254 = .ok (.iload 6, 2) := dk_21 6 (dk_at dksL_law_88 7 rfl rfl)
theorem dL_law_2256 : decode cL_law 2256 = .ok (.ifCond .ne 15, 3) := dk_154 0 15 (dk_at dksL_law_88 9 rfl rfl)
theorem dL_law_2259 : decode cL_law 2259 = .ok (.aload_n 3, 1) := dk_45 (dk_at dksL_law_88 12 rfl rfl)
theorem dL_law_2260 : decode cL_law 2260 = .ok (.iconst 0, 1) := dk_3 (dk_at dksL_law_88 13 rfl rfl)
theorem dL_law_2261 : decode cL_law 2261 = .ok (.laload, 1) := dk_47 (dk_at dksL_law_88 14 rfl rfl)
theorem dL_law_2262 : decode cL_law 2262 = .ok (.iload 7, 2) := dk_21 7 (dk_at dksL_law_88 15 rfl rfl)
theorem dL_law_2264 : decode cL_law 2264 = .ok (.i2l, 1) := dk_133 (dk_at dksL_law_88 17 rfl rfl)
theorem dL_law_2265 : decode cL_law 2265 = .ok (.lcmp, 1) := dk_148 (dk_at dksL_law_88 18 rfl rfl)
theorem dL_law_2266 : decode cL_law 2266 = .ok (.ifCond .eq 5, 3) := dk_153 0 5 (dk_at dksL_law_88 19 rfl rfl)
theorem dL_law_2269 : decode cL_law 2269 = .ok (.iconst 0, 1) := dk_3 (dk_at dksL_law_88 22 rfl rfl)
theorem dL_law_2270 : decode cL_law 2270 = .ok (.ireturn, 1) := dk_172 (dk_at dksL_law_88 23 rfl rfl)
theorem dL_law_2271 : decode cL_law 2271 = .ok (.goto 485, 3) := dk_167 1 229 (dk_at dksL_law_89 0 rfl rfl)
theorem dL_law_2274 : decode cL_law 2274 = .ok (.aload_n 1, 1) := dk_43 (dk_at dksL_law_89 3 rfl rfl)
theorem dL_law_2275 : decode cL_law 2275 = .ok (.aload_n 0, 1) := dk_42 (dk_at dksL_law_89 4 rfl rfl)
theorem dL_law_2276 : decode cL_law 2276 = .ok (.iload 5, 2) := dk_21 5 (dk_at dksL_law_89 5 rfl rfl)
theorem dL_law_2278 : decode cL_law 2278 = .ok (.iconst 1, 1) := dk_4 (dk_at dksL_law_89 7 rfl rfl)
theorem dL_law_2279 : decode cL_law 2279 = .ok (.iadd, 1) := dk_96 (dk_at dksL_law_89 8 rfl rfl)
theorem dL_law_2280 : decode cL_law 2280 = .ok (.iaload, 1) := dk_46 (dk_at dksL_law_89 9 rfl rfl)
theorem dL_law_2281 : decode cL_law 2281 = .ok (.aload_n 3, 1) := dk_45 (dk_at dksL_law_89 10 rfl rfl)
theorem dL_law_2282 : decode cL_law 2282 = .ok (.invokestatic 276, 3) := dk_184 1 20 (dk_at dksL_law_89 11 rfl rfl)
theorem dL_law_2285 : decode cL_law 2285 = .ok (.istore 6, 2) := dk_54 6 (dk_at dksL_law_89 14 rfl rfl)
theorem dL_law_2287 : decode cL_law 2287 = .ok (.aload_n 2, 1) := dk_44 (dk_at dksL_law_89 16 rfl rfl)
theorem dL_law_2288 : decode cL_law 2288 = .ok (.aload_n 0, 1) := dk_42 (dk_at dksL_law_89 17 rfl rfl)
theorem dL_law_2289 : decode cL_law 2289 = .ok (.iload 5, 2) := dk_21 5 (dk_at dksL_law_89 18 rfl rfl)
theorem dL_law_2291 : decode cL_law 2291 = .ok (.iconst 1, 1) := dk_4 (dk_at dksL_law_89 20 rfl rfl)
theorem dL_law_2292 : decode cL_law 2292 = .ok (.iadd, 1) := dk_96 (dk_at dksL_law_89 21 rfl rfl)
theorem dL_law_2293 : decode cL_law 2293 = .ok (.iaload, 1) := dk_46 (dk_at dksL_law_89 22 rfl rfl)
theorem dL_law_2294 : decode cL_law 2294 = .ok (.invokevirtual 278, 3) := dk_182 1 22 (dk_at dksL_law_90 0 rfl rfl)
theorem dL_law_2297 : decode cL_law 2297 = .ok (.istore 7, 2) := dk_54 7 (dk_at dksL_law_90 3 rfl rfl)
theorem dL_law_2299 : decode cL_law 2299 = .ok (.aload_n 2, 1) := dk_44 (dk_at dksL_law_90 5 rfl rfl)
theorem dL_law_2300 : decode cL_law 2300 = .ok (.invokevirtual 137, 3) := dk_182 0 137 (dk_at dksL_law_90 6 rfl rfl)
theorem dL_law_2303 : decode cL_law 2303 = .ok (.iload 6, 2) := dk_21 6 (dk_at dksL_law_90 9 rfl rfl)
theorem dL_law_2305 : decode cL_law 2305 = .ok (.if_icmp .eq 5, 3) := dk_159 0 5 (dk_at dksL_law_90 11 rfl rfl)
theorem dL_law_2308 : decode cL_law 2308 = .ok (.iconst 0, 1) := dk_3 (dk_at dksL_law_90 14 rfl rfl)
theorem dL_law_2309 : decode cL_law 2309 = .ok (.ireturn, 1) := dk_172 (dk_at dksL_law_90 15 rfl rfl)
theorem dL_law_2310 : decode cL_law 2310 = .ok (.iload 6, 2) := dk_21 6 (dk_at dksL_law_90 16 rfl rfl)
theorem dL_law_2312 : decode cL_law 2312 = .ok (.ifCond .ne 15, 3) := dk_154 0 15 (dk_at dksL_law_90 18 rfl rfl)
theorem dL_law_2315 : decode cL_law 2315 = .ok (.aload_n 3, 1) := dk_45 (dk_at dksL_law_90 21 rfl rfl)
theorem dL_law_2316 : decode cL_law 2316 = .ok (.iconst 0, 1) := dk_3 (dk_at dksL_law_90 22 rfl rfl)
theorem dL_law_2317 : decode cL_law 2317 = .ok (.laload, 1) := dk_47 (dk_at dksL_law_90 23 rfl rfl)
theorem dL_law_2318 : decode cL_law 2318 = .ok (.iload 7, 2) := dk_21 7 (dk_at dksL_law_91 0 rfl rfl)
theorem dL_law_2320 : decode cL_law 2320 = .ok (.i2l, 1) := dk_133 (dk_at dksL_law_91 2 rfl rfl)
theorem dL_law_2321 : decode cL_law 2321 = .ok (.lcmp, 1) := dk_148 (dk_at dksL_law_91 3 rfl rfl)
theorem dL_law_2322 : decode cL_law 2322 = .ok (.ifCond .eq 5, 3) := dk_153 0 5 (dk_at dksL_law_91 4 rfl rfl)
theorem dL_law_2325 : decode cL_law 2325 = .ok (.iconst 0, 1) := dk_3 (dk_at dksL_law_91 7 rfl rfl)
theorem dL_law_2326 : decode cL_law 2326 = .ok (.ireturn, 1) := dk_172 (dk_at dksL_law_91 8 rfl rfl)
theorem dL_law_2327 : decode cL_law 2327 = .ok (.goto 429, 3) := dk_167 1 173 (dk_at dksL_law_91 9 rfl rfl)
theorem dL_law_2330 : decode cL_law 2330 = .ok (.aload_n 1, 1) := dk_43 (dk_at dksL_law_91 12 rfl rfl)
theorem dL_law_2331 : decode cL_law 2331 = .ok (.aload_n 0, 1) := dk_42 (dk_at dksL_law_91 13 rfl rfl)
theorem dL_law_2332 : decode cL_law 2332 = .ok (.iload 5, 2) := dk_21 5 (dk_at dksL_law_91 14 rfl rfl)
theorem dL_law_2334 : decode cL_law 2334 = .ok (.iconst 1, 1) := dk_4 (dk_at dksL_law_91 16 rfl rfl)
theorem dL_law_2335 : decode cL_law 2335 = .ok (.iadd, 1) := dk_96 (dk_at dksL_law_91 17 rfl rfl)
theorem dL_law_2336 : decode cL_law 2336 = .ok (.iaload, 1) := dk_46 (dk_at dksL_law_91 18 rfl rfl)
theorem dL_law_2337 : decode cL_law 2337 = .ok (.aload_n 3, 1) := dk_45 (dk_at dksL_law_91 19 rfl rfl)
theorem dL_law_2338 : decode cL_law 2338 = .ok (.invokestatic 279, 3) := dk_184 1 23 (dk_at dksL_law_91 20 rfl rfl)
theorem dL_law_2341 : decode cL_law 2341 = .ok (.istore 6, 2) := dk_54 6 (dk_at dksL_law_92 0 rfl rfl)
theorem dL_law_2343 : decode cL_law 2343 = .ok (.aload_n 2, 1) := dk_44 (dk_at dksL_law_92 2 rfl rfl)
theorem dL_law_2344 : decode cL_law 2344 = .ok (.aload_n 0, 1) := dk_42 (dk_at dksL_law_92 3 rfl rfl)
theorem dL_law_2345 : decode cL_law 2345 = .ok (.iload 5, 2) := dk_21 5 (dk_at dksL_law_92 4 rfl rfl)
theorem dL_law_2347 : decode cL_law 2347 = .ok (.iconst 1, 1) := dk_4 (dk_at dksL_law_92 6 rfl rfl)
theorem dL_law_2348 : decode cL_law 2348 = .ok (.iadd, 1) := dk_96 (dk_at dksL_law_92 7 rfl rfl)
theorem dL_law_2349 : decode cL_law 2349 = .ok (.iaload, 1) := dk_46 (dk_at dksL_law_92 8 rfl rfl)
theorem dL_law_2350 : decode cL_law 2350 = .ok (.invokevirtual 281, 3) := dk_182 1 25 (dk_at dksL_law_92 9 rfl rfl)
theorem dL_law_2353 : decode cL_law 2353 = .ok (.istore 7, 2) := dk_54 7 (dk_at dksL_law_92 12 rfl rfl)
theorem dL_law_2355 : decode cL_law 2355 = .ok (.aload_n 2, 1) := dk_44 (dk_at dksL_law_92 14 rfl rfl)
theorem dL_law_2356 : decode cL_law 2356 = .ok (.invokevirtual 137, 3) := dk_182 0 137 (dk_at dksL_law_92 15 rfl rfl)
theorem dL_law_2359 : decode cL_law 2359 = .ok (.iload 6, 2) := dk_21 6 (dk_at dksL_law_92 18 rfl rfl)
theorem dL_law_2361 : decode cL_law 2361 = .ok (.if_icmp .eq 5, 3) := dk_159 0 5 (dk_at dksL_law_92 20 rfl rfl)
theorem dL_law_2364 : decode cL_law 2364 = .ok (.iconst 0, 1) := dk_3 (dk_at dksL_law_92 23 rfl rfl)
theorem dL_law_2365 : decode cL_law 2365 = .ok (.ireturn, 1) := dk_172 (dk_at dksL_law_93 0 rfl rfl)
theorem dL_law_2366 : decode cL_law 2366 = .ok (.iload 6, 2) := dk_21 6 (dk_at dksL_law_93 1 rfl rfl)
theorem dL_law_2368 : decode cL_law 2368 = .ok (.ifCond .ne 15, 3) := dk_154 0 15 (dk_at dksL_law_93 3 rfl rfl)
theorem dL_law_2371 : decode cL_law 2371 = .ok (.aload_n 3, 1) := dk_45 (dk_at dksL_law_93 6 rfl rfl)
theorem dL_law_2372 : decode cL_law 2372 = .ok (.iconst 0, 1) := dk_3 (dk_at dksL_law_93 7 rfl rfl)
theorem dL_law_2373 : decode cL_law 2373 = .ok (.laload, 1) := dk_47 (dk_at dksL_law_93 8 rfl rfl)
theorem dL_law_2374 : decode cL_law 2374 = .ok (.iload 7, 2) := dk_21 7 (dk_at dksL_law_93 9 rfl rfl)
theorem dL_law_2376 : decode cL_law 2376 = .ok (.i2l, 1) := dk_133 (dk_at dksL_law_93 11 rfl rfl)
theorem dL_law_2377 : decode cL_law 2377 = .ok (.lcmp, 1) := dk_148 (dk_at dksL_law_93 12 rfl rfl)
theorem dL_law_2378 : decode cL_law 2378 = .ok (.ifCond .eq 5, 3) := dk_153 0 5 (dk_at dksL_law_93 13 rfl rfl)
theorem dL_law_2381 : decode cL_law 2381 = .ok (.iconst 0, 1) := dk_3 (dk_at dksL_law_93 16 rfl rfl)
theorem dL_law_2382 : decode cL_law 2382 = .ok (.ireturn, 1) := dk_172 (dk_at dksL_law_93 17 rfl rfl)
theorem dL_law_2383 : decode cL_law 2383 = .ok (.goto 373, 3) := dk_167 1 117 (dk_at dksL_law_93 18 rfl rfl)
theorem dL_law_2386 : decode cL_law 2386 = .ok (.aload_n 1, 1) := dk_43 (dk_at dksL_law_93 21 rfl rfl)
theorem dL_law_2387 : decode cL_law 2387 = .ok (.aload_n 0, 1) := dk_42 (dk_at dksL_law_93 22 rfl rfl)
theorem dL_law_2388 : decode cL_law 2388 = .ok (.iload 5, 2) := dk_21 5 (dk_at dksL_law_94 0 rfl rfl)
theorem dL_law_2390 : decode cL_law 2390 = .ok (.iconst 1, 1) := dk_4 (dk_at dksL_law_94 2 rfl rfl)
theorem dL_law_2391 : decode cL_law 2391 = .ok (.iadd, 1) := dk_96 (dk_at dksL_law_94 3 rfl rfl)
theorem dL_law_2392 : decode cL_law 2392 = .ok (.iaload, 1) := dk_46 (dk_at dksL_law_94 4 rfl rfl)
theorem dL_law_2393 : decode cL_law 2393 = .ok (.aload_n 0, 1) := dk_42 (dk_at dksL_law_94 5 rfl rfl)
theorem dL_law_2394 : decode cL_law 2394 = .ok (.iload 5, 2) := dk_21 5 (dk_at dksL_law_94 6 rfl rfl)
theorem dL_law_2396 : decode cL_law 2396 = .ok (.iconst 2, 1) := dk_5 (dk_at dksL_law_94 8 rfl rfl)
theorem dL_law_2397 : decode cL_law 2397 = .ok (.iadd, 1) := dk_96 (dk_at dksL_law_94 9 rfl rfl)
theorem dL_law_2398 : decode cL_law 2398 = .ok (.iaload, 1) := dk_46 (dk_at dksL_law_94 10 rfl rfl)
theorem dL_law_2399 : decode cL_law 2399 = .ok (.aload_n 0, 1) := dk_42 (dk_at dksL_law_94 11 rfl rfl)
theorem dL_law_2400 : decode cL_law 2400 = .ok (.iload 5, 2) := dk_21 5 (dk_at dksL_law_94 12 rfl rfl)
theorem dL_law_2402 : decode cL_law 2402 = .ok (.iconst 3, 1) := dk_6 (dk_at dksL_law_94 14 rfl rfl)
theorem dL_law_2403 : decode cL_law 2403 = .ok (.iadd, 1) := dk_96 (dk_at dksL_law_94 15 rfl rfl)
theorem dL_law_2404 : decode cL_law 2404 = .ok (.iaload, 1) := dk_46 (dk_at dksL_law_94 16 rfl rfl)
theorem dL_law_2405 : decode cL_law 2405 = .ok (.aload_n 3, 1) := dk_45 (dk_at dksL_law_94 17 rfl rfl)
theorem dL_law_2406 : decode cL_law 2406 = .ok (.invokestatic 282, 3) := dk_184 1 26 (dk_at dksL_law_94 18 rfl rfl)
theorem dL_law_2409 : decode cL_law 2409 = .ok (.istore 6, 2) := dk_54 6 (dk_at dksL_law_94 21 rfl rfl)
theorem dL_law_2411 : decode cL_law 2411 = .ok (.aload_n 2, 1) := dk_44 (dk_at dksL_law_94 23 rfl rfl)
theorem dL_law_2412 : decode cL_law 2412 = .ok (.aload_n 0, 1) := dk_42 (dk_at dksL_law_95 0 rfl rfl)
theorem dL_law_2413 : decode cL_law 2413 = .ok (.iload 5, 2) := dk_21 5 (dk_at dksL_law_95 1 rfl rfl)
theorem dL_law_2415 : decode cL_law 2415 = .ok (.iconst 1, 1) := dk_4 (dk_at dksL_law_95 3 rfl rfl)
theorem dL_law_2416 : decode cL_law 2416 = .ok (.iadd, 1) := dk_96 (dk_at dksL_law_95 4 rfl rfl)
theorem dL_law_2417 : decode cL_law 2417 = .ok (.iaload, 1) := dk_46 (dk_at dksL_law_95 5 rfl rfl)
theorem dL_law_2418 : decode cL_law 2418 = .ok (.aload_n 0, 1) := dk_42 (dk_at dksL_law_95 6 rfl rfl)
theorem dL_law_2419 : decode cL_law 2419 = .ok (.iload 5, 2) := dk_21 5 (dk_at dksL_law_95 7 rfl rfl)
theorem dL_law_2421 : decode cL_law 2421 = .ok (.iconst 2, 1) := dk_5 (dk_at dksL_law_95 9 rfl rfl)
theorem dL_law_2422 : decode cL_law 2422 = .ok (.iadd, 1) := dk_96 (dk_at dksL_law_95 10 rfl rfl)
theorem dL_law_2423 : decode cL_law 2423 = .ok (.iaload, 1) := dk_46 (dk_at dksL_law_95 11 rfl rfl)
theorem dL_law_2424 : decode cL_law 2424 = .ok (.aload_n 0, 1) := dk_42 (dk_at dksL_law_95 12 rfl rfl)
theorem dL_law_2425 : decode cL_law 2425 = .ok (.iload 5, 2) := dk_21 5 (dk_at dksL_law_95 13 rfl rfl)
theorem dL_law_2427 : decode cL_law 2427 = .ok (.iconst 3, 1) := dk_6 (dk_at dksL_law_95 15 rfl rfl)
theorem dL_law_2428 : decode cL_law 2428 = .ok (.iadd, 1) := dk_96 (dk_at dksL_law_95 16 rfl rfl)
theorem dL_law_2429 : decode cL_law 2429 = .ok (.iaload, 1) := dk_46 (dk_at dksL_law_95 17 rfl rfl)
theorem dL_law_2430 : decode cL_law 2430 = .ok (.invokevirtual 284, 3) := dk_182 1 28 (dk_at dksL_law_95 18 rfl rfl)
theorem dL_law_2433 : decode cL_law 2433 = .ok (.istore 7, 2) := dk_54 7 (dk_at dksL_law_95 21 rfl rfl)
theorem dL_law_2435 : decode cL_law 2435 = .ok (.aload_n 2, 1) := dk_44 (dk_at dksL_law_95 23 rfl rfl)
theorem dL_law_2436 : decode cL_law 2436 = .ok (.invokevirtual 137, 3) := dk_182 0 137 (dk_at dksL_law_96 0 rfl rfl)
theorem dL_law_2439 : decode cL_law 2439 = .ok (.iload 6, 2) := dk_21 6 (dk_at dksL_law_96 3 rfl rfl)
theorem dL_law_2441 : decode cL_law 2441 = .ok (.if_icmp .eq 5, 3) := dk_159 0 5 (dk_at dksL_law_96 5 rfl rfl)
theorem dL_law_2444 : decode cL_law 2444 = .ok (.iconst 0, 1) := dk_3 (dk_at dksL_law_96 8 rfl rfl)
theorem dL_law_2445 : decode cL_law 2445 = .ok (.ireturn, 1) := dk_172 (dk_at dksL_law_96 9 rfl rfl)
theorem dL_law_2446 : decode cL_law 2446 = .ok (.iload 6, 2) := dk_21 6 (dk_at dksL_law_96 10 rfl rfl)
theorem dL_law_2448 : decode cL_law 2448 = .ok (.ifCond .ne 15, 3) := dk_154 0 15 (dk_at dksL_law_96 12 rfl rfl)
theorem dL_law_2451 : decode cL_law 2451 = .ok (.aload_n 3, 1) := dk_45 (dk_at dksL_law_96 15 rfl rfl)
theorem dL_law_2452 : decode cL_law 2452 = .ok (.iconst 0, 1) := dk_3 (dk_at dksL_law_96 16 rfl rfl)
theorem dL_law_2453 : decode cL_law 2453 = .ok (.laload, 1) := dk_47 (dk_at dksL_law_96 17 rfl rfl)
theorem dL_law_2454 : decode cL_law 2454 = .ok (.iload 7, 2) := dk_21 7 (dk_at dksL_law_96 18 rfl rfl)
theorem dL_law_2456 : decode cL_law 2456 = .ok (.i2l, 1) := dk_133 (dk_at dksL_law_96 20 rfl rfl)
theorem dL_law_2457 : decode cL_law 2457 = .ok (.lcmp, 1) := dk_148 (dk_at dksL_law_96 21 rfl rfl)
theorem dL_law_2458 : decode cL_law 2458 = .ok (.ifCond .eq 5, 3) := dk_153 0 5 (dk_at dksL_law_97 0 rfl rfl)
theorem dL_law_2461 : decode cL_law 2461 = .ok (.iconst 0, 1) := dk_3 (dk_at dksL_law_97 3 rfl rfl)
theorem dL_law_2462 : decode cL_law 2462 = .ok (.ireturn, 1) := dk_172 (dk_at dksL_law_97 4 rfl rfl)
theorem dL_law_2463 : decode cL_law 2463 = .ok (.goto 293, 3) := dk_167 1 37 (dk_at dksL_law_97 5 rfl rfl)
theorem dL_law_2466 : decode cL_law 2466 = .ok (.aload_n 1, 1) := dk_43 (dk_at dksL_law_97 8 rfl rfl)
theorem dL_law_2467 : decode cL_law 2467 = .ok (.aload_n 0, 1) := dk_42 (dk_at dksL_law_97 9 rfl rfl)
theorem dL_law_2468 : decode cL_law 2468 = .ok (.iload 5, 2) := dk_21 5 (dk_at dksL_law_97 10 rfl rfl)
theorem dL_law_2470 : decode cL_law 2470 = .ok (.iconst 1, 1) := dk_4 (dk_at dksL_law_97 12 rfl rfl)
theorem dL_law_2471 : decode cL_law 2471 = .ok (.iadd, 1) := dk_96 (dk_at dksL_law_97 13 rfl rfl)
theorem dL_law_2472 : decode cL_law 2472 = .ok (.iaload, 1) := dk_46 (dk_at dksL_law_97 14 rfl rfl)
theorem dL_law_2473 : decode cL_law 2473 = .ok (.aload_n 0, 1) := dk_42 (dk_at dksL_law_97 15 rfl rfl)
theorem dL_law_2474 : decode cL_law 2474 = .ok (.iload 5, 2) := dk_21 5 (dk_at dksL_law_97 16 rfl rfl)
theorem dL_law_2476 : decode cL_law 2476 = .ok (.iconst 2, 1) := dk_5 (dk_at dksL_law_97 18 rfl rfl)
theorem dL_law_2477 : decode cL_law 2477 = .ok (.iadd, 1) := dk_96 (dk_at dksL_law_97 19 rfl rfl)
theorem dL_law_2478 : decode cL_law 2478 = .ok (.iaload, 1) := dk_46 (dk_at dksL_law_97 20 rfl rfl)
theorem dL_law_2479 : decode cL_law 2479 = .ok (.aload_n 3, 1) := dk_45 (dk_at dksL_law_97 21 rfl rfl)
theorem dL_law_2480 : decode cL_law 2480 = .ok (.invokestatic 285, 3) := dk_184 1 29 (dk_at dksL_law_98 0 rfl rfl)
theorem dL_law_2483 : decode cL_law 2483 = .ok (.istore 6, 2) := dk_54 6 (dk_at dksL_law_98 3 rfl rfl)
theorem dL_law_2485 : decode cL_law 2485 = .ok (.aload_n 2, 1) := dk_44 (dk_at dksL_law_98 5 rfl rfl)
theorem dL_law_2486 : decode cL_law 2486 = .ok (.aload_n 0, 1) := dk_42 (dk_at dksL_law_98 6 rfl rfl)
theorem dL_law_2487 : decode cL_law 2487 = .ok (.iload 5, 2) := dk_21 5 (dk_at dksL_law_98 7 rfl rfl)
theorem dL_law_2489 : decode cL_law 2489 = .ok (.iconst 1, 1) := dk_4 (dk_at dksL_law_98 9 rfl rfl)
theorem dL_law_2490 : decode cL_law 2490 = .ok (.iadd, 1) := dk_96 (dk_at dksL_law_98 10 rfl rfl)
theorem dL_law_2491 : decode cL_law 2491 = .ok (.iaload, 1) := dk_46 (dk_at dksL_law_98 11 rfl rfl)
theorem dL_law_2492 : decode cL_law 2492 = .ok (.aload_n 0, 1) := dk_42 (dk_at dksL_law_98 12 rfl rfl)
theorem dL_law_2493 : decode cL_law 2493 = .ok (.iload 5, 2) := dk_21 5 (dk_at dksL_law_98 13 rfl rfl)
theorem dL_law_2495 : decode cL_law 2495 = .ok (.iconst 2, 1) := dk_5 (dk_at dksL_law_98 15 rfl rfl)
theorem dL_law_2496 : decode cL_law 2496 = .ok (.iadd, 1) := dk_96 (dk_at dksL_law_98 16 rfl rfl)
theorem dL_law_2497 : decode cL_law 2497 = .ok (.iaload, 1) := dk_46 (dk_at dksL_law_98 17 rfl rfl)
theorem dL_law_2498 : decode cL_law 2498 = .ok (.invokevirtual 287, 3) := dk_182 1 31 (dk_at dksL_law_98 18 rfl rfl)
theorem dL_law_2501 : decode cL_law 2501 = .ok (.istore 7, 2) := dk_54 7 (dk_at dksL_law_98 21 rfl rfl)
theorem dL_law_2503 : decode cL_law 2503 = .ok (.aload_n 2, 1) := dk_44 (dk_at dksL_law_98 23 rfl rfl)
theorem dL_law_2504 : decode cL_law 2504 = .ok (.invokevirtual 137, 3) := dk_182 0 137 (dk_at dksL_law_99 0 rfl rfl)
theorem dL_law_2507 : decode cL_law 2507 = .ok (.iload 6, 2) := dk_21 6 (dk_at dksL_law_99 3 rfl rfl)
theorem dL_law_2509 : decode cL_law 2509 = .ok (.if_icmp .eq 5, 3) := dk_159 0 5 (dk_at dksL_law_99 5 rfl rfl)
theorem dL_law_2512 : decode cL_law 2512 = .ok (.iconst 0, 1) := dk_3 (dk_at dksL_law_99 8 rfl rfl)
theorem dL_law_2513 : decode cL_law 2513 = .ok (.ireturn, 1) := dk_172 (dk_at dksL_law_99 9 rfl rfl)
theorem dL_law_2514 : decode cL_law 2514 = .ok (.iload 6, 2) := dk_21 6 (dk_at dksL_law_99 10 rfl rfl)
theorem dL_law_2516 : decode cL_law 2516 = .ok (.ifCond .ne 15, 3) := dk_154 0 15 (dk_at dksL_law_99 12 rfl rfl)
theorem dL_law_2519 : decode cL_law 2519 = .ok (.aload_n 3, 1) := dk_45 (dk_at dksL_law_99 15 rfl rfl)
theorem dL_law_2520 : decode cL_law 2520 = .ok (.iconst 0, 1) := dk_3 (dk_at dksL_law_99 16 rfl rfl)
theorem dL_law_2521 : decode cL_law 2521 = .ok (.laload, 1) := dk_47 (dk_at dksL_law_99 17 rfl rfl)
theorem dL_law_2522 : decode cL_law 2522 = .ok (.iload 7, 2) := dk_21 7 (dk_at dksL_law_99 18 rfl rfl)
theorem dL_law_2524 : decode cL_law 2524 = .ok (.i2l, 1) := dk_133 (dk_at dksL_law_99 20 rfl rfl)
theorem dL_law_2525 : decode cL_law 2525 = .ok (.lcmp, 1) := dk_148 (dk_at dksL_law_99 21 rfl rfl)
theorem dL_law_2526 : decode cL_law 2526 = .ok (.ifCond .eq 5, 3) := dk_153 0 5 (dk_at dksL_law_100 0 rfl rfl)
theorem dL_law_2529 : decode cL_law 2529 = .ok (.iconst 0, 1) := dk_3 (dk_at dksL_law_100 3 rfl rfl)
theorem dL_law_2530 : decode cL_law 2530 = .ok (.ireturn, 1) := dk_172 (dk_at dksL_law_100 4 rfl rfl)
theorem dL_law_2531 : decode cL_law 2531 = .ok (.goto 225, 3) := dk_167 0 225 (dk_at dksL_law_100 5 rfl rfl)
theorem dL_law_2534 : decode cL_law 2534 = .ok (.aload_n 1, 1) := dk_43 (dk_at dksL_law_100 8 rfl rfl)
theorem dL_law_2535 : decode cL_law 2535 = .ok (.aload_n 0, 1) := dk_42 (dk_at dksL_law_100 9 rfl rfl)
theorem dL_law_2536 : decode cL_law 2536 = .ok (.iload 5, 2) := dk_21 5 (dk_at dksL_law_100 10 rfl rfl)
theorem dL_law_2538 : decode cL_law 2538 = .ok (.iconst 1, 1) := dk_4 (dk_at dksL_law_100 12 rfl rfl)
theorem dL_law_2539 : decode cL_law 2539 = .ok (.iadd, 1) := dk_96 (dk_at dksL_law_100 13 rfl rfl)
theorem dL_law_2540 : decode cL_law 2540 = .ok (.iaload, 1) := dk_46 (dk_at dksL_law_100 14 rfl rfl)
theorem dL_law_2541 : decode cL_law 2541 = .ok (.aload_n 3, 1) := dk_45 (dk_at dksL_law_100 15 rfl rfl)
theorem dL_law_2542 : decode cL_law 2542 = .ok (.invokestatic 288, 3) := dk_184 1 32 (dk_at dksL_law_100 16 rfl rfl)
theorem dL_law_2545 : decode cL_law 2545 = .ok (.istore 6, 2) := dk_54 6 (dk_at dksL_law_100 19 rfl rfl)
theorem dL_law_2547 : decode cL_law 2547 = .ok (.aload_n 2, 1) := dk_44 (dk_at dksL_law_100 21 rfl rfl)
theorem dL_law_2548 : decode cL_law 2548 = .ok (.aload_n 0, 1) := dk_42 (dk_at dksL_law_100 22 rfl rfl)
theorem dL_law_2549 : decode cL_law 2549 = .ok (.iload 5, 2) := dk_21 5 (dk_at dksL_law_101 0 rfl rfl)
theorem dL_law_2551 : decode cL_law 2551 = .ok (.iconst 1, 1) := dk_4 (dk_at dksL_law_101 2 rfl rfl)
theorem dL_law_2552 : decode cL_law 2552 = .ok (.iadd, 1) := dk_96 (dk_at dksL_law_101 3 rfl rfl)
theorem dL_law_2553 : decode cL_law 2553 = .ok (.iaload, 1) := dk_46 (dk_at dksL_law_101 4 rfl rfl)
theorem dL_law_2554 : decode cL_law 2554 = .ok (.invokevirtual 290, 3) := dk_182 1 34 (dk_at dksL_law_101 5 rfl rfl)
theorem dL_law_2557 : decode cL_law 2557 = .ok (.istore 7, 2) := dk_54 7 (dk_at dksL_law_101 8 rfl rfl)
theorem dL_law_2559 : decode cL_law 2559 = .ok (.aload_n 2, 1) := dk_44 (dk_at dksL_law_101 10 rfl rfl)
theorem dL_law_2560 : decode cL_law 2560 = .ok (.invokevirtual 137, 3) := dk_182 0 137 (dk_at dksL_law_101 11 rfl rfl)
theorem dL_law_2563 : decode cL_law 2563 = .ok (.iload 6, 2) := dk_21 6 (dk_at dksL_law_101 14 rfl rfl)
theorem dL_law_2565 : decode cL_law 2565 = .ok (.if_icmp .eq 5, 3) := dk_159 0 5 (dk_at dksL_law_101 16 rfl rfl)
theorem dL_law_2568 : decode cL_law 2568 = .ok (.iconst 0, 1) := dk_3 (dk_at dksL_law_101 19 rfl rfl)
theorem dL_law_2569 : decode cL_law 2569 = .ok (.ireturn, 1) := dk_172 (dk_at dksL_law_101 20 rfl rfl)
theorem dL_law_2570 : decode cL_law 2570 = .ok (.iload 6, 2) := dk_21 6 (dk_at dksL_law_101 21 rfl rfl)
theorem dL_law_2572 : decode cL_law 2572 = .ok (.ifCond .ne 15, 3) := dk_154 0 15 (dk_at dksL_law_102 0 rfl rfl)
theorem dL_law_2575 : decode cL_law 2575 = .ok (.aload_n 3, 1) := dk_45 (dk_at dksL_law_102 3 rfl rfl)
theorem dL_law_2576 : decode cL_law 2576 = .ok (.iconst 0, 1) := dk_3 (dk_at dksL_law_102 4 rfl rfl)
theorem dL_law_2577 : decode cL_law 2577 = .ok (.laload, 1) := dk_47 (dk_at dksL_law_102 5 rfl rfl)
theorem dL_law_2578 : decode cL_law 2578 = .ok (.iload 7, 2) := dk_21 7 (dk_at dksL_law_102 6 rfl rfl)
theorem dL_law_2580 : decode cL_law 2580 = .ok (.i2l, 1) := dk_133 (dk_at dksL_law_102 8 rfl rfl)
theorem dL_law_2581 : decode cL_law 2581 = .ok (.lcmp, 1) := dk_148 (dk_at dksL_law_102 9 rfl rfl)
theorem dL_law_2582 : decode cL_law 2582 = .ok (.ifCond .eq 5, 3) := dk_153 0 5 (dk_at dksL_law_102 10 rfl rfl)
theorem dL_law_2585 : decode cL_law 2585 = .ok (.iconst 0, 1) := dk_3 (dk_at dksL_law_102 13 rfl rfl)
theorem dL_law_2586 : decode cL_law 2586 = .ok (.ireturn, 1) := dk_172 (dk_at dksL_law_102 14 rfl rfl)
theorem dL_law_2587 : decode cL_law 2587 = .ok (.goto 169, 3) := dk_167 0 169 (dk_at dksL_law_102 15 rfl rfl)
theorem dL_law_2590 : decode cL_law 2590 = .ok (.aload_n 1, 1) := dk_43 (dk_at dksL_law_102 18 rfl rfl)
theorem dL_law_2591 : decode cL_law 2591 = .ok (.aload_n 0, 1) := dk_42 (dk_at dksL_law_102 19 rfl rfl)
theorem dL_law_2592 : decode cL_law 2592 = .ok (.iload 5, 2) := dk_21 5 (dk_at dksL_law_102 20 rfl rfl)
theorem dL_law_2594 : decode cL_law 2594 = .ok (.iconst 1, 1) := dk_4 (dk_at dksL_law_102 22 rfl rfl)
theorem dL_law_2595 : decode cL_law 2595 = .ok (.iadd, 1) := dk_96 (dk_at dksL_law_102 23 rfl rfl)
theorem dL_law_2596 : decode cL_law 2596 = .ok (.iaload, 1) := dk_46 (dk_at dksL_law_103 0 rfl rfl)
theorem dL_law_2597 : decode cL_law 2597 = .ok (.aload_n 3, 1) := dk_45 (dk_at dksL_law_103 1 rfl rfl)
theorem dL_law_2598 : decode cL_law 2598 = .ok (.invokestatic 291, 3) := dk_184 1 35 (dk_at dksL_law_103 2 rfl rfl)
theorem dL_law_2601 : decode cL_law 2601 = .ok (.istore 6, 2) := dk_54 6 (dk_at dksL_law_103 5 rfl rfl)
theorem dL_law_2603 : decode cL_law 2603 = .ok (.aload_n 2, 1) := dk_44 (dk_at dksL_law_103 7 rfl rfl)
theorem dL_law_2604 : decode cL_law 2604 = .ok (.aload_n 0, 1) := dk_42 (dk_at dksL_law_103 8 rfl rfl)
theorem dL_law_2605 : decode cL_law 2605 = .ok (.iload 5, 2) := dk_21 5 (dk_at dksL_law_103 9 rfl rfl)
theorem dL_law_2607 : decode cL_law 2607 = .ok (.iconst 1, 1) := dk_4 (dk_at dksL_law_103 11 rfl rfl)
theorem dL_law_2608 : decode cL_law 2608 = .ok (.iadd, 1) := dk_96 (dk_at dksL_law_103 12 rfl rfl)
theorem dL_law_2609 : decode cL_law 2609 = .ok (.iaload, 1) := dk_46 (dk_at dksL_law_103 13 rfl rfl)
theorem dL_law_2610 : decode cL_law 2610 = .ok (.invokevirtual 293, 3) := dk_182 1 37 (dk_at dksL_law_103 14 rfl rfl)
theorem dL_law_2613 : decode cL_law 2613 = .ok (.istore 7, 2) := dk_54 7 (dk_at dksL_law_103 17 rfl rfl)
theorem dL_law_2615 : decode cL_law 2615 = .ok (.aload_n 2, 1) := dk_44 (dk_at dksL_law_103 19 rfl rfl)
theorem dL_law_2616 : decode cL_law 2616 = .ok (.invokevirtual 137, 3) := dk_182 0 137 (dk_at dksL_law_103 20 rfl rfl)
theorem dL_law_2619 : decode cL_law 2619 = .ok (.iload 6, 2) := dk_21 6 (dk_at dksL_law_104 0 rfl rfl)
theorem dL_law_2621 : decode cL_law 2621 = .ok (.if_icmp .eq 5, 3) := dk_159 0 5 (dk_at dksL_law_104 2 rfl rfl)
theorem dL_law_2624 : decode cL_law 2624 = .ok (.iconst 0, 1) := dk_3 (dk_at dksL_law_104 5 rfl rfl)
theorem dL_law_2625 : decode cL_law 2625 = .ok (.ireturn, 1) := dk_172 (dk_at dksL_law_104 6 rfl rfl)
theorem dL_law_2626 : decode cL_law 2626 = .ok (.iload 6, 2) := dk_21 6 (dk_at dksL_law_104 7 rfl rfl)
theorem dL_law_2628 : decode cL_law 2628 = .ok (.ifCond .ne 15, 3) := dk_154 0 15 (dk_at dksL_law_104 9 rfl rfl)
theorem dL_law_2631 : decode cL_law 2631 = .ok (.aload_n 3, 1) := dk_45 (dk_at dksL_law_104 12 rfl rfl)
theorem dL_law_2632 : decode cL_law 2632 = .ok (.iconst 0, 1) := dk_3 (dk_at dksL_law_104 13 rfl rfl)
theorem dL_law_2633 : decode cL_law 2633 = .ok (.laload, 1) := dk_47 (dk_at dksL_law_104 14 rfl rfl)
theorem dL_law_2634 : decode cL_law 2634 = .ok (.iload 7, 2) := dk_21 7 (dk_at dksL_law_104 15 rfl rfl)
theorem dL_law_2636 : decode cL_law 2636 = .ok (.i2l, 1) := dk_133 (dk_at dksL_law_104 17 rfl rfl)
theorem dL_law_2637 : decode cL_law 2637 = .ok (.lcmp, 1) := dk_148 (dk_at dksL_law_104 18 rfl rfl)
theorem dL_law_2638 : decode cL_law 2638 = .ok (.ifCond .eq 5, 3) := dk_153 0 5 (dk_at dksL_law_104 19 rfl rfl)
theorem dL_law_2641 : decode cL_law 2641 = .ok (.iconst 0, 1) := dk_3 (dk_at dksL_law_104 22 rfl rfl)
theorem dL_law_2642 : decode cL_law 2642 = .ok (.ireturn, 1) := dk_172 (dk_at dksL_law_104 23 rfl rfl)
theorem dL_law_2643 : decode cL_law 2643 = .ok (.goto 113, 3) := dk_167 0 113 (dk_at dksL_law_105 0 rfl rfl)
theorem dL_law_2646 : decode cL_law 2646 = .ok (.aload_n 1, 1) := dk_43 (dk_at dksL_law_105 3 rfl rfl)
theorem dL_law_2647 : decode cL_law 2647 = .ok (.aload_n 0, 1) := dk_42 (dk_at dksL_law_105 4 rfl rfl)
theorem dL_law_2648 : decode cL_law 2648 = .ok (.iload 5, 2) := dk_21 5 (dk_at dksL_law_105 5 rfl rfl)
theorem dL_law_2650 : decode cL_law 2650 = .ok (.iconst 1, 1) := dk_4 (dk_at dksL_law_105 7 rfl rfl)
theorem dL_law_2651 : decode cL_law 2651 = .ok (.iadd, 1) := dk_96 (dk_at dksL_law_105 8 rfl rfl)
theorem dL_law_2652 : decode cL_law 2652 = .ok (.iaload, 1) := dk_46 (dk_at dksL_law_105 9 rfl rfl)
theorem dL_law_2653 : decode cL_law 2653 = .ok (.invokevirtual 294, 3) := dk_182 1 38 (dk_at dksL_law_105 10 rfl rfl)
theorem dL_law_2656 : decode cL_law 2656 = .ok (.aload_n 2, 1) := dk_44 (dk_at dksL_law_105 13 rfl rfl)
theorem dL_law_2657 : decode cL_law 2657 = .ok (.aload_n 0, 1) := dk_42 (dk_at dksL_law_105 14 rfl rfl)
theorem dL_law_2658 : decode cL_law 2658 = .ok (.iload 5, 2) := dk_21 5 (dk_at dksL_law_105 15 rfl rfl)
theorem dL_law_2660 : decode cL_law 2660 = .ok (.iconst 1, 1) := dk_4 (dk_at dksL_law_105 17 rfl rfl)
theorem dL_law_2661 : decode cL_law 2661 = .ok (.iadd, 1) := dk_96 (dk_at dksL_law_105 18 rfl rfl)
theorem dL_law_2662 : decode cL_law 2662 = .ok (.iaload, 1) := dk_46 (dk_at dksL_law_105 19 rfl rfl)
theorem dL_law_2663 : decode cL_law 2663 = .ok (.invokevirtual 297, 3) := dk_182 1 41 (dk_at dksL_law_105 20 rfl rfl)
theorem dL_law_2666 : decode cL_law 2666 = .ok (.if_icmp .eq 90, 3) := dk_159 0 90 (dk_at dksL_law_106 0 rfl rfl)
theorem dL_law_2669 : decode cL_law 2669 = .ok (.iconst 0, 1) := dk_3 (dk_at dksL_law_106 3 rfl rfl)
theorem dL_law_2670 : decode cL_law 2670 = .ok (.ireturn, 1) := dk_172 (dk_at dksL_law_106 4 rfl rfl)
theorem dL_law_2671 : decode cL_law 2671 = .ok (.aload_n 1, 1) := dk_43 (dk_at dksL_law_106 5 rfl rfl)
theorem dL_law_2672 : decode cL_law 2672 = .ok (.invokevirtual 298, 3) := dk_182 1 42 (dk_at dksL_law_106 6 rfl rfl)
theorem dL_law_2675 : decode cL_law 2675 = .ok (.aload_n 2, 1) := dk_44 (dk_at dksL_law_106 9 rfl rfl)
theorem dL_law_2676 : decode cL_law 2676 = .ok (.invokevirtual 301, 3) := dk_182 1 45 (dk_at dksL_law_106 10 rfl rfl)
theorem dL_law_2679 : decode cL_law 2679 = .ok (.if_icmp .eq 77, 3) := dk_159 0 77 (dk_at dksL_law_106 13 rfl rfl)
theorem dL_law_2682 : decode cL_law 2682 = .ok (.iconst 0, 1) := dk_3 (dk_at dksL_law_106 16 rfl rfl)
theorem dL_law_2683 : decode cL_law 2683 = .ok (.ireturn, 1) := dk_172 (dk_at dksL_law_106 17 rfl rfl)
theorem dL_law_2684 : decode cL_law 2684 = .ok (.aload_n 1, 1) := dk_43 (dk_at dksL_law_106 18 rfl rfl)
theorem dL_law_2685 : decode cL_law 2685 = .ok (.aload_n 0, 1) := dk_42 (dk_at dksL_law_106 19 rfl rfl)
theorem dL_law_2686 : decode cL_law 2686 = .ok (.iload 5, 2) := dk_21 5 (dk_at dksL_law_106 20 rfl rfl)
theorem dL_law_2688 : decode cL_law 2688 = .ok (.iconst 1, 1) := dk_4 (dk_at dksL_law_106 22 rfl rfl)
theorem dL_law_2689 : decode cL_law 2689 = .ok (.iadd, 1) := dk_96 (dk_at dksL_law_106 23 rfl rfl)
theorem dL_law_2690 : decode cL_law 2690 = .ok (.iaload, 1) := dk_46 (dk_at dksL_law_107 0 rfl rfl)
theorem dL_law_2691 : decode cL_law 2691 = .ok (.invokestatic 302, 3) := dk_184 1 46 (dk_at dksL_law_107 1 rfl rfl)
theorem dL_law_2694 : decode cL_law 2694 = .ok (.istore 6, 2) := dk_54 6 (dk_at dksL_law_107 4 rfl rfl)
theorem dL_law_2696 : decode cL_law 2696 = .ok (.aload_n 2, 1) := dk_44 (dk_at dksL_law_107 6 rfl rfl)
theorem dL_law_2697 : decode cL_law 2697 = .ok (.aload_n 0, 1) := dk_42 (dk_at dksL_law_107 7 rfl rfl)
theorem dL_law_2698 : decode cL_law 2698 = .ok (.iload 5, 2) := dk_21 5 (dk_at dksL_law_107 8 rfl rfl)
theorem dL_law_2700 : decode cL_law 2700 = .ok (.iconst 1, 1) := dk_4 (dk_at dksL_law_107 10 rfl rfl)
theorem dL_law_2701 : decode cL_law 2701 = .ok (.iadd, 1) := dk_96 (dk_at dksL_law_107 11 rfl rfl)
theorem dL_law_2702 : decode cL_law 2702 = .ok (.iaload, 1) := dk_46 (dk_at dksL_law_107 12 rfl rfl)
theorem dL_law_2703 : decode cL_law 2703 = .ok (.invokevirtual 305, 3) := dk_182 1 49 (dk_at dksL_law_107 13 rfl rfl)
theorem dL_law_2706 : decode cL_law 2706 = .ok (.aload_n 2, 1) := dk_44 (dk_at dksL_law_107 16 rfl rfl)
theorem dL_law_2707 : decode cL_law 2707 = .ok (.invokevirtual 137, 3) := dk_182 0 137 (dk_at dksL_law_107 17 rfl rfl)
theorem dL_law_2710 : decode cL_law 2710 = .ok (.iload 6, 2) := dk_21 6 (dk_at dksL_law_107 20 rfl rfl)
theorem dL_law_2712 : decode cL_law 2712 = .ok (.if_icmp .eq 5, 3) := dk_159 0 5 (dk_at dksL_law_108 0 rfl rfl)
theorem dL_law_2715 : decode cL_law 2715 = .ok (.iconst 0, 1) := dk_3 (dk_at dksL_law_108 3 rfl rfl)
theorem dL_law_2716 : decode cL_law 2716 = .ok (.ireturn, 1) := dk_172 (dk_at dksL_law_108 4 rfl rfl)
theorem dL_law_2717 : decode cL_law 2717 = .ok (.goto 39, 3) := dk_167 0 39 (dk_at dksL_law_108 5 rfl rfl)
theorem dL_law_2720 : decode cL_law 2720 = .ok (.aload_n 1, 1) := dk_43 (dk_at dksL_law_108 8 rfl rfl)
theorem dL_law_2721 : decode cL_law 2721 = .ok (.aload_n 0, 1) := dk_42 (dk_at dksL_law_108 9 rfl rfl)
theorem dL_law_2722 : decode cL_law 2722 = .ok (.iload 5, 2) := dk_21 5 (dk_at dksL_law_108 10 rfl rfl)
theorem dL_law_2724 : decode cL_law 2724 = .ok (.iconst 1, 1) := dk_4 (dk_at dksL_law_108 12 rfl rfl)
theorem dL_law_2725 : decode cL_law 2725 = .ok (.iadd, 1) := dk_96 (dk_at dksL_law_108 13 rfl rfl)
theorem dL_law_2726 : decode cL_law 2726 = .ok (.iaload, 1) := dk_46 (dk_at dksL_law_108 14 rfl rfl)
theorem dL_law_2727 : decode cL_law 2727 = .ok (.invokestatic 306, 3) := dk_184 1 50 (dk_at dksL_law_108 15 rfl rfl)
theorem dL_law_2730 : decode cL_law 2730 = .ok (.istore 6, 2) := dk_54 6 (dk_at dksL_law_108 18 rfl rfl)
theorem dL_law_2732 : decode cL_law 2732 = .ok (.aload_n 2, 1) := dk_44 (dk_at dksL_law_108 20 rfl rfl)
theorem dL_law_2733 : decode cL_law 2733 = .ok (.aload_n 0, 1) := dk_42 (dk_at dksL_law_108 21 rfl rfl)
theorem dL_law_2734 : decode cL_law 2734 = .ok (.iload 5, 2) := dk_21 5 (dk_at dksL_law_108 22 rfl rfl)
theorem dL_law_2736 : decode cL_law 2736 = .ok (.iconst 1, 1) := dk_4 (dk_at dksL_law_109 0 rfl rfl)
theorem dL_law_2737 : decode cL_law 2737 = .ok (.iadd, 1) := dk_96 (dk_at dksL_law_109 1 rfl rfl)
theorem dL_law_2738 : decode cL_law 2738 = .ok (.iaload, 1) := dk_46 (dk_at dksL_law_109 2 rfl rfl)
theorem dL_law_2739 : decode cL_law 2739 = .ok (.invokevirtual 308, 3) := dk_182 1 52 (dk_at dksL_law_109 3 rfl rfl)
theorem dL_law_2742 : decode cL_law 2742 = .ok (.aload_n 2, 1) := dk_44 (dk_at dksL_law_109 6 rfl rfl)
theorem dL_law_2743 : decode cL_law 2743 = .ok (.invokevirtual 137, 3) := dk_182 0 137 (dk_at dksL_law_109 7 rfl rfl)
theorem dL_law_2746 : decode cL_law 2746 = .ok (.iload 6, 2) := dk_21 6 (dk_at dksL_law_109 10 rfl rfl)
theorem dL_law_2748 : decode cL_law 2748 = .ok (.if_icmp .eq 5, 3) := dk_159 0 5 (dk_at dksL_law_109 12 rfl rfl)
theorem dL_law_2751 : decode cL_law 2751 = .ok (.iconst 0, 1) := dk_3 (dk_at dksL_law_109 15 rfl rfl)
theorem dL_law_2752 : decode cL_law 2752 = .ok (.ireturn, 1) := dk_172 (dk_at dksL_law_109 16 rfl rfl)
theorem dL_law_2753 : decode cL_law 2753 = .ok (.goto 3, 3) := dk_167 0 3 (dk_at dksL_law_109 17 rfl rfl)
theorem dL_law_2756 : decode cL_law 2756 = .ok (.iinc 5 5, 3) := dk_132 5 5 (dk_at dksL_law_109 20 rfl rfl)
theorem dL_law_2759 : decode cL_law 2759 = .ok (.goto (-2731), 3) := dk_167 245 85 (dk_at dksL_law_110 0 rfl rfl)
theorem dL_law_2762 : decode cL_law 2762 = .ok (.iconst 1, 1) := dk_4 (dk_at dksL_law_110 3 rfl rfl)
theorem dL_law_2763 : decode cL_law 2763 = .ok (.ireturn, 1) := dk_172 (dk_at dksL_law_110 4 rfl rfl)
