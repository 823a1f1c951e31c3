/-! LifeRents -/
set_option maxRecDepth 100000
def RX1 : String := "LifeRents"
def TX1 : u_T := fun k => match k with
  | 0 => ("LifeRents", "tape", "[B", true)
  | 1 => ("LifeRents", "taped", "I", false)
  | 2 => ("LifeRents", "faultKind", "I", false)
  | 3 => ("LifeRents", "faultPlace", "I", false)
  | 4 => ("LifeRents", "now", "I", false)
  | 5 => ("LifeRents", "saleMany", "I", false)
  | 6 => ("LifeRents", "reader", "LLifeRents$Reader;", true)
  | 7 => ("LifeRents", "acts", "LLifeRents$Acts;", false)
  | 8 => ("LifeRents", "lives", "Ljava/util/ArrayList;", true)
  | 9 => ("LifeRents", "rents", "Ljava/util/ArrayList;", true)
  | 10 => ("LifeRents", "notes", "Ljava/util/ArrayList;", true)
  | 11 => ("LifeRents", "sold", "[[I", true)
  | 12 => ("LifeRents", "gots", "[[I", true)
  | 13 => ("LifeRents", "known", "LLifeRents$Known;", true)
  | 14 => ("LifeRents", "dead", "LLifeRents$Dead;", true)
  | 15 => ("LifeRents", "names", "LLifeRents$Names;", true)
  | 16 => ("LifeRents", "named", "[I", true)
  | 17 => ("LifeRents", "isFresh", "Z", false)
  | _ => ("LifeRents", "hasNamed", "Z", false)
def tyX1 : Nat → FieldType := fun k => match k with
  | 0 => .array .byte
  | 1 => .int
  | 2 => .int
  | 3 => .int
  | 4 => .int
  | 5 => .int
  | 6 => .object "LifeRents$Reader"
  | 7 => .object "LifeRents$Acts"
  | 8 => .object "java/util/ArrayList"
  | 9 => .object "java/util/ArrayList"
  | 10 => .object "java/util/ArrayList"
  | 11 => .array (.array .int)
  | 12 => .array (.array .int)
  | 13 => .object "LifeRents$Known"
  | 14 => .object "LifeRents$Dead"
  | 15 => .object "LifeRents$Names"
  | 16 => .array .int
  | 17 => .boolean
  | _ => .boolean
abbrev wsX10 : List Cond := u_ws RX1 TX1 19
set_option maxRecDepth 100000 in
theorem nmX1 : ∀ a, a < 19 → ∀ b, b < 19 → a ≠ b → (TX1 a).2.1 ≠ (TX1 b).2.1 := by decide +kernel
set_option maxRecDepth 100000 in
theorem tyX1_ok : ∀ k, k < 19 → parseFieldDescriptor (TX1 k).2.2.1 = some (tyX1 k) := by decide +kernel
abbrev cX1_init : ByteArray := prog_1_method_9_code
def yX1_init : MethodName := ⟨RX1, "<init>", "()V"⟩
def dkwX1_init_8 : List UInt8 := [132, 3, 1, 167, 255, 219, 177]
abbrev dktX1_init_8 : List UInt8 := dkwX1_init_8 ++ []
def dkwX1_init_7 : List UInt8 := [54, 5, 21, 5, 16, 10, 162, 0, 17, 25, 4, 21, 5, 17, 3, 132, 79, 132, 5, 1, 167, 255, 238]
abbrev dktX1_init_7 : List UInt8 := dkwX1_init_7 ++ dktX1_init_8
def dkwX1_init_6 : List UInt8 := [181, 0, 123, 42, 180, 0, 102, 76, 43, 190, 61, 3, 62, 29, 28, 162, 0, 38, 43, 29, 50, 58, 4, 3]
abbrev dktX1_init_6 : List UInt8 := dkwX1_init_6 ++ dktX1_init_7
def dkwX1_init_5 : List UInt8 := [42, 183, 0, 115, 181, 0, 15, 42, 187, 0, 116, 89, 42, 183, 0, 118, 181, 0, 119, 42, 16, 12, 188, 10]
abbrev dktX1_init_5 : List UInt8 := dkwX1_init_5 ++ dktX1_init_6
def dkwX1_init_4 : List UInt8 := [197, 0, 100, 2, 181, 0, 105, 42, 187, 0, 108, 89, 42, 183, 0, 110, 181, 0, 111, 42, 187, 0, 27, 89]
abbrev dktX1_init_4 : List UInt8 := dkwX1_init_4 ++ dktX1_init_5
def dkwX1_init_3 : List UInt8 := [16, 60, 183, 0, 87, 181, 0, 97, 42, 7, 16, 10, 197, 0, 100, 2, 181, 0, 102, 42, 16, 8, 16, 80]
abbrev dktX1_init_3 : List UInt8 := dkwX1_init_3 ++ dktX1_init_4
def dkwX1_init_2 : List UInt8 := [183, 0, 87, 181, 0, 90, 42, 187, 0, 85, 89, 16, 16, 183, 0, 87, 181, 0, 94, 42, 187, 0, 85, 89]
abbrev dktX1_init_2 : List UInt8 := dkwX1_init_2 ++ dktX1_init_3
def dkwX1_init_1 : List UInt8 := [183, 0, 77, 181, 0, 80, 42, 187, 0, 37, 89, 183, 0, 84, 181, 0, 32, 42, 187, 0, 85, 89, 16, 12]
abbrev dktX1_init_1 : List UInt8 := dkwX1_init_1 ++ dktX1_init_2
def dkwX1_init_0 : List UInt8 := [42, 183, 0, 62, 42, 17, 1, 244, 188, 8, 181, 0, 68, 42, 2, 181, 0, 72, 42, 187, 0, 75, 89, 42]
abbrev dktX1_init_0 : List UInt8 := dkwX1_init_0 ++ dktX1_init_1
theorem dksX1_init_0 : cX1_init.data.toList.drop 0 = dktX1_init_0 := by decide +kernel
theorem dksX1_init_1 : cX1_init.data.toList.drop 24 = dktX1_init_1 := dk_seg dksX1_init_0 24 rfl rfl
theorem dksX1_init_2 : cX1_init.data.toList.drop 48 = dktX1_init_2 := dk_seg dksX1_init_1 24 rfl rfl
theorem dksX1_init_3 : cX1_init.data.toList.drop 72 = dktX1_init_3 := dk_seg dksX1_init_2 24 rfl rfl
theorem dksX1_init_4 : cX1_init.data.toList.drop 96 = dktX1_init_4 := dk_seg dksX1_init_3 24 rfl rfl
theorem dksX1_init_5 : cX1_init.data.toList.drop 120 = dktX1_init_5 := dk_seg dksX1_init_4 24 rfl rfl
theorem dksX1_init_6 : cX1_init.data.toList.drop 144 = dktX1_init_6 := dk_seg dksX1_init_5 24 rfl rfl
theorem dksX1_init_7 : cX1_init.data.toList.drop 168 = dktX1_init_7 := dk_seg dksX1_init_6 24 rfl rfl
theorem dksX1_init_8 : cX1_init.data.toList.drop 191 = dktX1_init_8 := dk_seg dksX1_init_7 23 rfl rfl
theorem dX1_init_0 : decode cX1_init 0 = .ok (.aload_n 0, 1) := dk_42 (dk_at dksX1_init_0 0 rfl rfl)
theorem dX1_init_1 : decode cX1_init 1 = .ok (.invokespecial 62, 3) := dk_183 0 62 (dk_at dksX1_init_0 1 rfl rfl)
theorem dX1_init_4 : decode cX1_init 4 = .ok (.aload_n 0, 1) := dk_42 (dk_at dksX1_init_0 4 rfl rfl)
theorem dX1_init_5 : decode cX1_init 5 = .ok (.sipush 500, 3) := dk_17 1 244 (dk_at dksX1_init_0 5 rfl rfl)
theorem dX1_init_8 : decode cX1_init 8 = .ok (.newarray .byte, 2) := dk_188_8 (dk_at dksX1_init_0 8 rfl rfl)
theorem dX1_init_10 : decode cX1_init 10 = .ok (.putfield 68, 3) := dk_181 0 68 (dk_at dksX1_init_0 10 rfl rfl)
theorem dX1_init_13 : decode cX1_init 13 = .ok (.aload_n 0, 1) := dk_42 (dk_at dksX1_init_0 13 rfl rfl)
theorem dX1_init_14 : decode cX1_init 14 = .ok (.iconst (-1), 1) := dk_2 (dk_at dksX1_init_0 14 rfl rfl)
theorem dX1_init_15 : decode cX1_init 15 = .ok (.putfield 72, 3) := dk_181 0 72 (dk_at dksX1_init_0 15 rfl rfl)
theorem dX1_init_18 : decode cX1_init 18 = .ok (.aload_n 0, 1) := dk_42 (dk_at dksX1_init_0 18 rfl rfl)
theorem dX1_init_19 : decode cX1_init 19 = .ok (.new 75, 3) := dk_187 0 75 (dk_at dksX1_init_0 19 rfl rfl)
theorem dX1_init_22 : decode cX1_init 22 = .ok (.dup, 1) := dk_89 (dk_at dksX1_init_0 22 rfl rfl)
theorem dX1_init_23 : decode cX1_init 23 = .ok (.aload_n 0, 1) := dk_42 (dk_at dksX1_init_0 23 rfl rfl)
theorem dX1_init_24 : decode cX1_init 24 = .ok (.invokespecial 77, 3) := dk_183 0 77 (dk_at dksX1_init_1 0 rfl rfl)
theorem dX1_init_27 : decode cX1_init 27 = .ok (.putfield 80, 3) := dk_181 0 80 (dk_at dksX1_init_1 3 rfl rfl)
theorem dX1_init_30 : decode cX1_init 30 = .ok (.aload_n 0, 1) := dk_42 (dk_at dksX1_init_1 6 rfl rfl)
theorem dX1_init_31 : decode cX1_init 31 = .ok (.new 37, 3) := dk_187 0 37 (dk_at dksX1_init_1 7 rfl rfl)
theorem dX1_init_34 : decode cX1_init 34 = .ok (.dup, 1) := dk_89 (dk_at dksX1_init_1 10 rfl rfl)
theorem dX1_init_35 : decode cX1_init 35 = .ok (.invokespecial 84, 3) := dk_183 0 84 (dk_at dksX1_init_1 11 rfl rfl)
theorem dX1_init_38 : decode cX1_init 38 = .ok (.putfield 32, 3) := dk_181 0 32 (dk_at dksX1_init_1 14 rfl rfl)
theorem dX1_init_41 : decode cX1_init 41 = .ok (.aload_n 0, 1) := dk_42 (dk_at dksX1_init_1 17 rfl rfl)
theorem dX1_init_42 : decode cX1_init 42 = .ok (.new 85, 3) := dk_187 0 85 (dk_at dksX1_init_1 18 rfl rfl)
theorem dX1_init_45 : decode cX1_init 45 = .ok (.dup, 1) := dk_89 (dk_at dksX1_init_1 21 rfl rfl)
theorem dX1_init_46 : decode cX1_init 46 = .ok (.bipush 12, 2) := dk_16 12 (dk_at dksX1_init_1 22 rfl rfl)
theorem dX1_init_48 : decode cX1_init 48 = .ok (.invokespecial 87, 3) := dk_183 0 87 (dk_at dksX1_init_2 0 rfl rfl)
theorem dX1_init_51 : decode cX1_init 51 = .ok (.putfield 90, 3) := dk_181 0 90 (dk_at dksX1_init_2 3 rfl rfl)
theorem dX1_init_54 : decode cX1_init 54 = .ok (.aload_n 0, 1) := dk_42 (dk_at dksX1_init_2 6 rfl rfl)
theorem dX1_init_55 : decode cX1_init 55 = .ok (.new 85, 3) := dk_187 0 85 (dk_at dksX1_init_2 7 rfl rfl)
theorem dX1_init_58 : decode cX1_init 58 = .ok (.dup, 1) := dk_89 (dk_at dksX1_init_2 10 rfl rfl)
theorem dX1_init_59 : decode cX1_init 59 = .ok (.bipush 16, 2) := dk_16 16 (dk_at dksX1_init_2 11 rfl rfl)
theorem dX1_init_61 : decode cX1_init 61 = .ok (.invokespecial 87, 3) := dk_183 0 87 (dk_at dksX1_init_2 13 rfl rfl)
theorem dX1_init_64 : decode cX1_init 64 = .ok (.putfield 94, 3) := dk_181 0 94 (dk_at dksX1_init_2 16 rfl rfl)
theorem dX1_init_67 : decode cX1_init 67 = .ok (.aload_n 0, 1) := dk_42 (dk_at dksX1_init_2 19 rfl rfl)
theorem dX1_init_68 : decode cX1_init 68 = .ok (.new 85, 3) := dk_187 0 85 (dk_at dksX1_init_2 20 rfl rfl)
theorem dX1_init_71 : decode cX1_init 71 = .ok (.dup, 1) := dk_89 (dk_at dksX1_init_2 23 rfl rfl)
theorem dX1_init_72 : decode cX1_init 72 = .ok (.bipush 60, 2) := dk_16 60 (dk_at dksX1_init_3 0 rfl rfl)
theorem dX1_init_74 : decode cX1_init 74 = .ok (.invokespecial 87, 3) := dk_183 0 87 (dk_at dksX1_init_3 2 rfl rfl)
theorem dX1_init_77 : decode cX1_init 77 = .ok (.putfield 97, 3) := dk_181 0 97 (dk_at dksX1_init_3 5 rfl rfl)
theorem dX1_init_80 : decode cX1_init 80 = .ok (.aload_n 0, 1) := dk_42 (dk_at dksX1_init_3 8 rfl rfl)
theorem dX1_init_81 : decode cX1_init 81 = .ok (.iconst 4, 1) := dk_7 (dk_at dksX1_init_3 9 rfl rfl)
theorem dX1_init_82 : decode cX1_init 82 = .ok (.bipush 10, 2) := dk_16 10 (dk_at dksX1_init_3 10 rfl rfl)
theorem dX1_init_84 : decode cX1_init 84 = .ok (.multianewarray 100 2, 4) := by decide +kernel
theorem dX1_init_88 : decode cX1_init 88 = .ok (.putfield 102, 3) := dk_181 0 102 (dk_at dksX1_init_3 16 rfl rfl)
theorem dX1_init_91 : decode cX1_init 91 = .ok (.aload_n 0, 1) := dk_42 (dk_at dksX1_init_3 19 rfl rfl)
theorem dX1_init_92 : decode cX1_init 92 = .ok (.bipush 8, 2) := dk_16 8 (dk_at dksX1_init_3 20 rfl rfl)
theorem dX1_init_94 : decode cX1_init 94 = .ok (.bipush 80, 2) := dk_16 80 (dk_at dksX1_init_3 22 rfl rfl)
theorem dX1_init_96 : decode cX1_init 96 = .ok (.multianewarray 100 2, 4) := by decide +kernel
theorem dX1_init_100 : decode cX1_init 100 = .ok (.putfield 105, 3) := dk_181 0 105 (dk_at dksX1_init_4 4 rfl rfl)
theorem dX1_init_103 : decode cX1_init 103 = .ok (.aload_n 0, 1) := dk_42 (dk_at dksX1_init_4 7 rfl rfl)
theorem dX1_init_104 : decode cX1_init 104 = .ok (.new 108, 3) := dk_187 0 108 (dk_at dksX1_init_4 8 rfl rfl)
theorem dX1_init_107 : decode cX1_init 107 = .ok (.dup, 1) := dk_89 (dk_at dksX1_init_4 11 rfl rfl)
theorem dX1_init_108 : decode cX1_init 108 = .ok (.aload_n 0, 1) := dk_42 (dk_at dksX1_init_4 12 rfl rfl)
theorem dX1_init_109 : decode cX1_init 109 = .ok (.invokespecial 110, 3) := dk_183 0 110 (dk_at dksX1_init_4 13 rfl rfl)
theorem dX1_init_112 : decode cX1_init 112 = .ok (.putfield 111, 3) := dk_181 0 111 (dk_at dksX1_init_4 16 rfl rfl)
theorem dX1_init_115 : decode cX1_init 115 = .ok (.aload_n 0, 1) := dk_42 (dk_at dksX1_init_4 19 rfl rfl)
theorem dX1_init_116 : decode cX1_init 116 = .ok (.new 27, 3) := dk_187 0 27 (dk_at dksX1_init_4 20 rfl rfl)
theorem dX1_init_119 : decode cX1_init 119 = .ok (.dup, 1) := dk_89 (dk_at dksX1_init_4 23 rfl rfl)
theorem dX1_init_120 : decode cX1_init 120 = .ok (.aload_n 0, 1) := dk_42 (dk_at dksX1_init_5 0 rfl rfl)
theorem dX1_init_121 : decode cX1_init 121 = .ok (.invokespecial 115, 3) := dk_183 0 115 (dk_at dksX1_init_5 1 rfl rfl)
theorem dX1_init_124 : decode cX1_init 124 = .ok (.putfield 15, 3) := dk_181 0 15 (dk_at dksX1_init_5 4 rfl rfl)
theorem dX1_init_127 : decode cX1_init 127 = .ok (.aload_n 0, 1) := dk_42 (dk_at dksX1_init_5 7 rfl rfl)
theorem dX1_init_128 : decode cX1_init 128 = .ok (.new 116, 3) := dk_187 0 116 (dk_at dksX1_init_5 8 rfl rfl)
theorem dX1_init_131 : decode cX1_init 131 = .ok (.dup, 1) := dk_89 (dk_at dksX1_init_5 11 rfl rfl)
theorem dX1_init_132 : decode cX1_init 132 = .ok (.aload_n 0, 1) := dk_42 (dk_at dksX1_init_5 12 rfl rfl)
theorem dX1_init_133 : decode cX1_init 133 = .ok (.invokespecial 118, 3) := dk_183 0 118 (dk_at dksX1_init_5 13 rfl rfl)
theorem dX1_init_136 : decode cX1_init 136 = .ok (.putfield 119, 3) := dk_181 0 119 (dk_at dksX1_init_5 16 rfl rfl)
theorem dX1_init_139 : decode cX1_init 139 = .ok (.aload_n 0, 1) := dk_42 (dk_at dksX1_init_5 19 rfl rfl)
theorem dX1_init_140 : decode cX1_init 140 = .ok (.bipush 12, 2) := dk_16 12 (dk_at dksX1_init_5 20 rfl rfl)
theorem dX1_init_142 : decode cX1_init 142 = .ok (.newarray .int, 2) := dk_188_10 (dk_at dksX1_init_5 22 rfl rfl)
theorem dX1_init_144 : decode cX1_init 144 = .ok (.putfield 123, 3) := dk_181 0 123 (dk_at dksX1_init_6 0 rfl rfl)
theorem dX1_init_147 : decode cX1_init 147 = .ok (.aload_n 0, 1) := dk_42 (dk_at dksX1_init_6 3 rfl rfl)
theorem dX1_init_148 : decode cX1_init 148 = .ok (.getfield 102, 3) := dk_180 0 102 (dk_at dksX1_init_6 4 rfl rfl)
theorem dX1_init_151 : decode cX1_init 151 = .ok (.astore_n 1, 1) := dk_76 (dk_at dksX1_init_6 7 rfl rfl)
theorem dX1_init_152 : decode cX1_init 152 = .ok (.aload_n 1, 1) := dk_43 (dk_at dksX1_init_6 8 rfl rfl)
theorem dX1_init_153 : decode cX1_init 153 = .ok (.arraylength, 1) := dk_190 (dk_at dksX1_init_6 9 rfl rfl)
theorem dX1_init_154 : decode cX1_init 154 = .ok (.istore_n 2, 1) := dk_61 (dk_at dksX1_init_6 10 rfl rfl)
theorem dX1_init_155 : decode cX1_init 155 = .ok (.iconst 0, 1) := dk_3 (dk_at dksX1_init_6 11 rfl rfl)
theorem dX1_init_156 : decode cX1_init 156 = .ok (.istore_n 3, 1) := dk_62 (dk_at dksX1_init_6 12 rfl rfl)
theorem dX1_init_157 : decode cX1_init 157 = .ok (.iload_n 3, 1) := dk_29 (dk_at dksX1_init_6 13 rfl rfl)
theorem dX1_init_158 : decode cX1_init 158 = .ok (.iload_n 2, 1) := dk_28 (dk_at dksX1_init_6 14 rfl rfl)
theorem dX1_init_159 : decode cX1_init 159 = .ok (.if_icmp .ge 38, 3) := dk_162 0 38 (dk_at dksX1_init_6 15 rfl rfl)
theorem dX1_init_162 : decode cX1_init 162 = .ok (.aload_n 1, 1) := dk_43 (dk_at dksX1_init_6 18 rfl rfl)
theorem dX1_init_163 : decode cX1_init 163 = .ok (.iload_n 3, 1) := dk_29 (dk_at dksX1_init_6 19 rfl rfl)
theorem dX1_init_164 : decode cX1_init 164 = .ok (.aaload, 1) := dk_50 (dk_at dksX1_init_6 20 rfl rfl)
theorem dX1_init_165 : decode cX1_init 165 = .ok (.astore 4, 2) := dk_58 4 (dk_at dksX1_init_6 21 rfl rfl)
theorem dX1_init_167 : decode cX1_init 167 = .ok (.iconst 0, 1) := dk_3 (dk_at dksX1_init_6 23 rfl rfl)
theorem dX1_init_168 : decode cX1_init 168 = .ok (.istore 5, 2) := dk_54 5 (dk_at dksX1_init_7 0 rfl rfl)
theorem dX1_init_170 : decode cX1_init 170 = .ok (.iload 5, 2) := dk_21 5 (dk_at dksX1_init_7 2 rfl rfl)
theorem dX1_init_172 : decode cX1_init 172 = .ok (.bipush 10, 2) := dk_16 10 (dk_at dksX1_init_7 4 rfl rfl)
theorem dX1_init_174 : decode cX1_init 174 = .ok (.if_icmp .ge 17, 3) := dk_162 0 17 (dk_at dksX1_init_7 6 rfl rfl)
theorem dX1_init_177 : decode cX1_init 177 = .ok (.aload 4, 2) := dk_25 4 (dk_at dksX1_init_7 9 rfl rfl)
theorem dX1_init_179 : decode cX1_init 179 = .ok (.iload 5, 2) := dk_21 5 (dk_at dksX1_init_7 11 rfl rfl)
theorem dX1_init_181 : decode cX1_init 181 = .ok (.sipush 900, 3) := dk_17 3 132 (dk_at dksX1_init_7 13 rfl rfl)
theorem dX1_init_184 : decode cX1_init 184 = .ok (.iastore, 1) := dk_79 (dk_at dksX1_init_7 16 rfl rfl)
theorem dX1_init_185 : decode cX1_init 185 = .ok (.iinc 5 1, 3) := dk_132 5 1 (dk_at dksX1_init_7 17 rfl rfl)
theorem dX1_init_188 : decode cX1_init 188 = .ok (.goto (-18), 3) := dk_167 255 238 (dk_at dksX1_init_7 20 rfl rfl)
theorem dX1_init_191 : decode cX1_init 191 = .ok (.iinc 3 1, 3) := dk_132 3 1 (dk_at dksX1_init_8 0 rfl rfl)
theorem dX1_init_194 : decode cX1_init 194 = .ok (.goto (-37), 3) := dk_167 255 219 (dk_at dksX1_init_8 3 rfl rfl)
theorem dX1_init_197 : decode cX1_init 197 = .ok (.return_, 1) := dk_177 (dk_at dksX1_init_8 6 rfl rfl)
abbrev cX1_feed : ByteArray := prog_1_method_10_code
def yX1_feed : MethodName := ⟨RX1, "feed", "(IIIII)I"⟩
def dkwX1_feed_2 : List UInt8 := [172]
abbrev dktX1_feed_2 : List UInt8 := dkwX1_feed_2 ++ []
def dkwX1_feed_1 : List UInt8 := [182, 0, 130, 42, 29, 182, 0, 130, 42, 21, 4, 182, 0, 130, 42, 21, 5, 182, 0, 130, 42, 180, 0, 127]
abbrev dktX1_feed_1 : List UInt8 := dkwX1_feed_1 ++ dktX1_feed_2
def dkwX1_feed_0 : List UInt8 := [42, 180, 0, 127, 16, 20, 96, 17, 1, 244, 164, 0, 5, 2, 172, 42, 27, 182, 0, 130, 42, 28]
abbrev dktX1_feed_0 : List UInt8 := dkwX1_feed_0 ++ dktX1_feed_1
theorem dksX1_feed_0 : cX1_feed.data.toList.drop 0 = dktX1_feed_0 := by decide +kernel
theorem dksX1_feed_1 : cX1_feed.data.toList.drop 22 = dktX1_feed_1 := dk_seg dksX1_feed_0 22 rfl rfl
theorem dksX1_feed_2 : cX1_feed.data.toList.drop 46 = dktX1_feed_2 := dk_seg dksX1_feed_1 24 rfl rfl
theorem dX1_feed_0 : decode cX1_feed 0 = .ok (.aload_n 0, 1) := dk_42 (dk_at dksX1_feed_0 0 rfl rfl)
theorem dX1_feed_1 : decode cX1_feed 1 = .ok (.getfield 127, 3) := dk_180 0 127 (dk_at dksX1_feed_0 1 rfl rfl)
theorem dX1_feed_4 : decode cX1_feed 4 = .ok (.bipush 20, 2) := dk_16 20 (dk_at dksX1_feed_0 4 rfl rfl)
theorem dX1_feed_6 : decode cX1_feed 6 = .ok (.iadd, 1) := dk_96 (dk_at dksX1_feed_0 6 rfl rfl)
theorem dX1_feed_7 : decode cX1_feed 7 = .ok (.sipush 500, 3) := dk_17 1 244 (dk_at dksX1_feed_0 7 rfl rfl)
theorem dX1_feed_10 : decode cX1_feed 10 = .ok (.if_icmp .le 5, 3) := dk_164 0 5 (dk_at dksX1_feed_0 10 rfl rfl)
theorem dX1_feed_13 : decode cX1_feed 13 = .ok (.iconst (-1), 1) := dk_2 (dk_at dksX1_feed_0 13 rfl rfl)
theorem dX1_feed_14 : decode cX1_feed 14 = .ok (.ireturn, 1) := dk_172 (dk_at dksX1_feed_0 14 rfl rfl)
theorem dX1_feed_15 : decode cX1_feed 15 = .ok (.aload_n 0, 1) := dk_42 (dk_at dksX1_feed_0 15 rfl rfl)
theorem dX1_feed_16 : decode cX1_feed 16 = .ok (.iload_n 1, 1) := dk_27 (dk_at dksX1_feed_0 16 rfl rfl)
theorem dX1_feed_17 : decode cX1_feed 17 = .ok (.invokevirtual 130, 3) := dk_182 0 130 (dk_at dksX1_feed_0 17 rfl rfl)
theorem dX1_feed_20 : decode cX1_feed 20 = .ok (.aload_n 0, 1) := dk_42 (dk_at dksX1_feed_0 20 rfl rfl)
theorem dX1_feed_21 : decode cX1_feed 21 = .ok (.iload_n 2, 1) := dk_28 (dk_at dksX1_feed_0 21 rfl rfl)
theorem dX1_feed_22 : decode cX1_feed 22 = .ok (.invokevirtual 130, 3) := dk_182 0 130 (dk_at dksX1_feed_1 0 rfl rfl)
theorem dX1_feed_25 : decode cX1_feed 25 = .ok (.aload_n 0, 1) := dk_42 (dk_at dksX1_feed_1 3 rfl rfl)
theorem dX1_feed_26 : decode cX1_feed 26 = .ok (.iload_n 3, 1) := dk_29 (dk_at dksX1_feed_1 4 rfl rfl)
theorem dX1_feed_27 : decode cX1_feed 27 = .ok (.invokevirtual 130, 3) := dk_182 0 130 (dk_at dksX1_feed_1 5 rfl rfl)
theorem dX1_feed_30 : decode cX1_feed 30 = .ok (.aload_n 0, 1) := dk_42 (dk_at dksX1_feed_1 8 rfl rfl)
theorem dX1_feed_31 : decode cX1_feed 31 = .ok (.iload 4, 2) := dk_21 4 (dk_at dksX1_feed_1 9 rfl rfl)
theorem dX1_feed_33 : decode cX1_feed 33 = .ok (.invokevirtual 130, 3) := dk_182 0 130 (dk_at dksX1_feed_1 11 rfl rfl)
theorem dX1_feed_36 : decode cX1_feed 36 = .ok (.aload_n 0, 1) := dk_42 (dk_at dksX1_feed_1 14 rfl rfl)
theorem dX1_feed_37 : decode cX1_feed 37 = .ok (.iload 5, 2) := dk_21 5 (dk_at dksX1_feed_1 15 rfl rfl)
theorem dX1_feed_39 : decode cX1_feed 39 = .ok (.invokevirtual 130, 3) := dk_182 0 130 (dk_at dksX1_feed_1 17 rfl rfl)
theorem dX1_feed_42 : decode cX1_feed 42 = .ok (.aload_n 0, 1) := dk_42 (dk_at dksX1_feed_1 20 rfl rfl)
theorem dX1_feed_43 : decode cX1_feed 43 = .ok (.getfield 127, 3) := dk_180 0 127 (dk_at dksX1_feed_1 21 rfl rfl)
theorem dX1_feed_46 : decode cX1_feed 46 = .ok (.ireturn, 1) := dk_172 (dk_at dksX1_feed_2 0 rfl rfl)
abbrev cX1_put : ByteArray := prog_1_method_11_code
def yX1_put : MethodName := ⟨RX1, "put", "(I)V"⟩
def dkwX1_put_1 : List UInt8 := [122, 145, 84, 132, 2, 248, 167, 255, 229, 177]
abbrev dktX1_put_1 : List UInt8 := dkwX1_put_1 ++ []
def dkwX1_put_0 : List UInt8 := [16, 24, 61, 28, 155, 0, 29, 42, 180, 0, 68, 42, 89, 180, 0, 127, 90, 4, 96, 181, 0, 127, 27, 28]
abbrev dktX1_put_0 : List UInt8 := dkwX1_put_0 ++ dktX1_put_1
theorem dksX1_put_0 : cX1_put.data.toList.drop 0 = dktX1_put_0 := by decide +kernel
theorem dksX1_put_1 : cX1_put.data.toList.drop 24 = dktX1_put_1 := dk_seg dksX1_put_0 24 rfl rfl
theorem dX1_put_0 : decode cX1_put 0 = .ok (.bipush 24, 2) := dk_16 24 (dk_at dksX1_put_0 0 rfl rfl)
theorem dX1_put_2 : decode cX1_put 2 = .ok (.istore_n 2, 1) := dk_61 (dk_at dksX1_put_0 2 rfl rfl)
theorem dX1_put_3 : decode cX1_put 3 = .ok (.iload_n 2, 1) := dk_28 (dk_at dksX1_put_0 3 rfl rfl)
theorem dX1_put_4 : decode cX1_put 4 = .ok (.ifCond .lt 29, 3) := dk_155 0 29 (dk_at dksX1_put_0 4 rfl rfl)
theorem dX1_put_7 : decode cX1_put 7 = .ok (.aload_n 0, 1) := dk_42 (dk_at dksX1_put_0 7 rfl rfl)
theorem dX1_put_8 : decode cX1_put 8 = .ok (.getfield 68, 3) := dk_180 0 68 (dk_at dksX1_put_0 8 rfl rfl)
theorem dX1_put_11 : decode cX1_put 11 = .ok (.aload_n 0, 1) := dk_42 (dk_at dksX1_put_0 11 rfl rfl)
theorem dX1_put_12 : decode cX1_put 12 = .ok (.dup, 1) := dk_89 (dk_at dksX1_put_0 12 rfl rfl)
theorem dX1_put_13 : decode cX1_put 13 = .ok (.getfield 127, 3) := dk_180 0 127 (dk_at dksX1_put_0 13 rfl rfl)
theorem dX1_put_16 : decode cX1_put 16 = .ok (.dup_x1, 1) := dk_90 (dk_at dksX1_put_0 16 rfl rfl)
theorem dX1_put_17 : decode cX1_put 17 = .ok (.iconst 1, 1) := dk_4 (dk_at dksX1_put_0 17 rfl rfl)
theorem dX1_put_18 : decode cX1_put 18 = .ok (.iadd, 1) := dk_96 (dk_at dksX1_put_0 18 rfl rfl)
theorem dX1_put_19 : decode cX1_put 19 = .ok (.putfield 127, 3) := dk_181 0 127 (dk_at dksX1_put_0 19 rfl rfl)
theorem dX1_put_22 : decode cX1_put 22 = .ok (.iload_n 1, 1) := dk_27 (dk_at dksX1_put_0 22 rfl rfl)
theorem dX1_put_23 : decode cX1_put 23 = .ok (.iload_n 2, 1) := dk_28 (dk_at dksX1_put_0 23 rfl rfl)
theorem dX1_put_24 : decode cX1_put 24 = .ok (.ishr, 1) := dk_122 (dk_at dksX1_put_1 0 rfl rfl)
theorem dX1_put_25 : decode cX1_put 25 = .ok (.i2b, 1) := dk_145 (dk_at dksX1_put_1 1 rfl rfl)
theorem dX1_put_26 : decode cX1_put 26 = .ok (.bastore, 1) := dk_84 (dk_at dksX1_put_1 2 rfl rfl)
theorem dX1_put_27 : decode cX1_put 27 = .ok (.iinc 2 (-8), 3) := dk_132 2 248 (dk_at dksX1_put_1 3 rfl rfl)
theorem dX1_put_30 : decode cX1_put 30 = .ok (.goto (-27), 3) := dk_167 255 229 (dk_at dksX1_put_1 6 rfl rfl)
theorem dX1_put_33 : decode cX1_put 33 = .ok (.return_, 1) := dk_177 (dk_at dksX1_put_1 9 rfl rfl)
abbrev cX1_acts : ByteArray := prog_1_method_12_code
def yX1_acts : MethodName := ⟨RX1, "acts", "(I)I"⟩
def dkwX1_acts_3 : List UInt8 := [180, 0, 32, 180, 0, 154, 172]
abbrev dktX1_acts_3 : List UInt8 := dkwX1_acts_3 ++ []
def dkwX1_acts_2 : List UInt8 := [42, 44, 180, 0, 146, 181, 0, 137, 42, 44, 180, 0, 147, 181, 0, 72, 2, 172, 42, 3, 181, 0, 150, 42]
abbrev dktX1_acts_2 : List UInt8 := dkwX1_acts_2 ++ dktX1_acts_3
def dkwX1_acts_1 : List UInt8 := [181, 0, 137, 42, 2, 181, 0, 72, 42, 42, 180, 0, 80, 27, 182, 0, 140, 181, 0, 32, 167, 0, 22, 77]
abbrev dktX1_acts_1 : List UInt8 := dkwX1_acts_1 ++ dktX1_acts_2
def dkwX1_acts_0 : List UInt8 := [27, 3, 42, 180, 0, 127, 184, 0, 133, 154, 0, 6, 16, 254, 172, 42, 3, 181, 0, 127, 42, 3]
abbrev dktX1_acts_0 : List UInt8 := dkwX1_acts_0 ++ dktX1_acts_1
theorem dksX1_acts_0 : cX1_acts.data.toList.drop 0 = dktX1_acts_0 := by decide +kernel
theorem dksX1_acts_1 : cX1_acts.data.toList.drop 22 = dktX1_acts_1 := dk_seg dksX1_acts_0 22 rfl rfl
theorem dksX1_acts_2 : cX1_acts.data.toList.drop 46 = dktX1_acts_2 := dk_seg dksX1_acts_1 24 rfl rfl
theorem dksX1_acts_3 : cX1_acts.data.toList.drop 70 = dktX1_acts_3 := dk_seg dksX1_acts_2 24 rfl rfl
theorem dX1_acts_0 : decode cX1_acts 0 = .ok (.iload_n 1, 1) := dk_27 (dk_at dksX1_acts_0 0 rfl rfl)
theorem dX1_acts_1 : decode cX1_acts 1 = .ok (.iconst 0, 1) := dk_3 (dk_at dksX1_acts_0 1 rfl rfl)
theorem dX1_acts_2 : decode cX1_acts 2 = .ok (.aload_n 0, 1) := dk_42 (dk_at dksX1_acts_0 2 rfl rfl)
theorem dX1_acts_3 : decode cX1_acts 3 = .ok (.getfield 127, 3) := dk_180 0 127 (dk_at dksX1_acts_0 3 rfl rfl)
theorem dX1_acts_6 : decode cX1_acts 6 = .ok (.invokestatic 133, 3) := dk_184 0 133 (dk_at dksX1_acts_0 6 rfl rfl)
theorem dX1_acts_9 : decode cX1_acts 9 = .ok (.ifCond .ne 6, 3) := dk_154 0 6 (dk_at dksX1_acts_0 9 rfl rfl)
theorem dX1_acts_12 : decode cX1_acts 12 = .ok (.bipush (-2), 2) := dk_16 254 (dk_at dksX1_acts_0 12 rfl rfl)
theorem dX1_acts_14 : decode cX1_acts 14 = .ok (.ireturn, 1) := dk_172 (dk_at dksX1_acts_0 14 rfl rfl)
theorem dX1_acts_15 : decode cX1_acts 15 = .ok (.aload_n 0, 1) := dk_42 (dk_at dksX1_acts_0 15 rfl rfl)
theorem dX1_acts_16 : decode cX1_acts 16 = .ok (.iconst 0, 1) := dk_3 (dk_at dksX1_acts_0 16 rfl rfl)
theorem dX1_acts_17 : decode cX1_acts 17 = .ok (.putfield 127, 3) := dk_181 0 127 (dk_at dksX1_acts_0 17 rfl rfl)
theorem dX1_acts_20 : decode cX1_acts 20 = .ok (.aload_n 0, 1) := dk_42 (dk_at dksX1_acts_0 20 rfl rfl)
theorem dX1_acts_21 : decode cX1_acts 21 = .ok (.iconst 0, 1) := dk_3 (dk_at dksX1_acts_0 21 rfl rfl)
theorem dX1_acts_22 : decode cX1_acts 22 = .ok (.putfield 137, 3) := dk_181 0 137 (dk_at dksX1_acts_1 0 rfl rfl)
theorem dX1_acts_25 : decode cX1_acts 25 = .ok (.aload_n 0, 1) := dk_42 (dk_at dksX1_acts_1 3 rfl rfl)
theorem dX1_acts_26 : decode cX1_acts 26 = .ok (.iconst (-1), 1) := dk_2 (dk_at dksX1_acts_1 4 rfl rfl)
theorem dX1_acts_27 : decode cX1_acts 27 = .ok (.putfield 72, 3) := dk_181 0 72 (dk_at dksX1_acts_1 5 rfl rfl)
theorem dX1_acts_30 : decode cX1_acts 30 = .ok (.aload_n 0, 1) := dk_42 (dk_at dksX1_acts_1 8 rfl rfl)
theorem dX1_acts_31 : decode cX1_acts 31 = .ok (.aload_n 0, 1) := dk_42 (dk_at dksX1_acts_1 9 rfl rfl)
theorem dX1_acts_32 : decode cX1_acts 32 = .ok (.getfield 80, 3) := dk_180 0 80 (dk_at dksX1_acts_1 10 rfl rfl)
theorem dX1_acts_35 : decode cX1_acts 35 = .ok (.iload_n 1, 1) := dk_27 (dk_at dksX1_acts_1 13 rfl rfl)
theorem dX1_acts_36 : decode cX1_acts 36 = .ok (.invokevirtual 140, 3) := dk_182 0 140 (dk_at dksX1_acts_1 14 rfl rfl)
theorem dX1_acts_39 : decode cX1_acts 39 = .ok (.putfield 32, 3) := dk_181 0 32 (dk_at dksX1_acts_1 17 rfl rfl)
theorem dX1_acts_42 : decode cX1_acts 42 = .ok (.goto 22, 3) := dk_167 0 22 (dk_at dksX1_acts_1 20 rfl rfl)
theorem dX1_acts_45 : decode cX1_acts 45 = .ok (.astore_n 2, 1) := dk_77 (dk_at dksX1_acts_1 23 rfl rfl)
theorem dX1_acts_46 : decode cX1_acts 46 = .ok (.aload_n 0, 1) := dk_42 (dk_at dksX1_acts_2 0 rfl rfl)
theorem dX1_acts_47 : decode cX1_acts 47 = .ok (.aload_n 2, 1) := dk_44 (dk_at dksX1_acts_2 1 rfl rfl)
theorem dX1_acts_48 : decode cX1_acts 48 = .ok (.getfield 146, 3) := dk_180 0 146 (dk_at dksX1_acts_2 2 rfl rfl)
theorem dX1_acts_51 : decode cX1_acts 51 = .ok (.putfield 137, 3) := dk_181 0 137 (dk_at dksX1_acts_2 5 rfl rfl)
theorem dX1_acts_54 : decode cX1_acts 54 = .ok (.aload_n 0, 1) := dk_42 (dk_at dksX1_acts_2 8 rfl rfl)
theorem dX1_acts_55 : decode cX1_acts 55 = .ok (.aload_n 2, 1) := dk_44 (dk_at dksX1_acts_2 9 rfl rfl)
theorem dX1_acts_56 : decode cX1_acts 56 = .ok (.getfield 147, 3) := dk_180 0 147 (dk_at dksX1_acts_2 10 rfl rfl)
theorem dX1_acts_59 : decode cX1_acts 59 = .ok (.putfield 72, 3) := dk_181 0 72 (dk_at dksX1_acts_2 13 rfl rfl)
theorem dX1_acts_62 : decode cX1_acts 62 = .ok (.iconst (-1), 1) := dk_2 (dk_at dksX1_acts_2 16 rfl rfl)
theorem dX1_acts_63 : decode cX1_acts 63 = .ok (.ireturn, 1) := dk_172 (dk_at dksX1_acts_2 17 rfl rfl)
theorem dX1_acts_64 : decode cX1_acts 64 = .ok (.aload_n 0, 1) := dk_42 (dk_at dksX1_acts_2 18 rfl rfl)
theorem dX1_acts_65 : decode cX1_acts 65 = .ok (.iconst 0, 1) := dk_3 (dk_at dksX1_acts_2 19 rfl rfl)
theorem dX1_acts_66 : decode cX1_acts 66 = .ok (.putfield 150, 3) := dk_181 0 150 (dk_at dksX1_acts_2 20 rfl rfl)
theorem dX1_acts_69 : decode cX1_acts 69 = .ok (.aload_n 0, 1) := dk_42 (dk_at dksX1_acts_2 23 rfl rfl)
theorem dX1_acts_70 : decode cX1_acts 70 = .ok (.getfield 32, 3) := dk_180 0 32 (dk_at dksX1_acts_3 0 rfl rfl)
theorem dX1_acts_73 : decode cX1_acts 73 = .ok (.getfield 154, 3) := dk_180 0 154 (dk_at dksX1_acts_3 3 rfl rfl)
theorem dX1_acts_76 : decode cX1_acts 76 = .ok (.ireturn, 1) := dk_172 (dk_at dksX1_acts_3 6 rfl rfl)
abbrev cX1_in : ByteArray := prog_1_method_1_code
def yX1_in : MethodName := ⟨RX1, "in", "(III)Z"⟩
def dkwX1_in_0 : List UInt8 := [26, 27, 161, 0, 12, 26, 28, 163, 0, 7, 4, 167, 0, 4, 3, 172]
abbrev dktX1_in_0 : List UInt8 := dkwX1_in_0 ++ []
theorem dksX1_in_0 : cX1_in.data.toList.drop 0 = dktX1_in_0 := by decide +kernel
theorem dX1_in_0 : decode cX1_in 0 = .ok (.iload_n 0, 1) := dk_26 (dk_at dksX1_in_0 0 rfl rfl)
theorem dX1_in_1 : decode cX1_in 1 = .ok (.iload_n 1, 1) := dk_27 (dk_at dksX1_in_0 1 rfl rfl)
theorem dX1_in_2 : decode cX1_in 2 = .ok (.if_icmp .lt 12, 3) := dk_161 0 12 (dk_at dksX1_in_0 2 rfl rfl)
theorem dX1_in_5 : decode cX1_in 5 = .ok (.iload_n 0, 1) := dk_26 (dk_at dksX1_in_0 5 rfl rfl)
theorem dX1_in_6 : decode cX1_in 6 = .ok (.iload_n 2, 1) := dk_28 (dk_at dksX1_in_0 6 rfl rfl)
theorem dX1_in_7 : decode cX1_in 7 = .ok (.if_icmp .gt 7, 3) := dk_163 0 7 (dk_at dksX1_in_0 7 rfl rfl)
theorem dX1_in_10 : decode cX1_in 10 = .ok (.iconst 1, 1) := dk_4 (dk_at dksX1_in_0 10 rfl rfl)
theorem dX1_in_11 : decode cX1_in 11 = .ok (.goto 4, 3) := dk_167 0 4 (dk_at dksX1_in_0 11 rfl rfl)
theorem dX1_in_14 : decode cX1_in 14 = .ok (.iconst 0, 1) := dk_3 (dk_at dksX1_in_0 14 rfl rfl)
theorem dX1_in_15 : decode cX1_in 15 = .ok (.ireturn, 1) := dk_172 (dk_at dksX1_in_0 15 rfl rfl)
abbrev cX1_fault : ByteArray := prog_1_method_13_code
def yX1_fault : MethodName := ⟨RX1, "fault", "(I)I"⟩
def dkwX1_fault_1 : List UInt8 := [172]
abbrev dktX1_fault_1 : List UInt8 := dkwX1_fault_1 ++ []
def dkwX1_fault_0 : List UInt8 := [27, 154, 0, 10, 42, 180, 0, 137, 167, 0, 16, 27, 4, 160, 0, 10, 42, 180, 0, 72, 167, 0, 4, 2]
abbrev dktX1_fault_0 : List UInt8 := dkwX1_fault_0 ++ dktX1_fault_1
theorem dksX1_fault_0 : cX1_fault.data.toList.drop 0 = dktX1_fault_0 := by decide +kernel
theorem dksX1_fault_1 : cX1_fault.data.toList.drop 24 = dktX1_fault_1 := dk_seg dksX1_fault_0 24 rfl rfl
theorem dX1_fault_0 : decode cX1_fault 0 = .ok (.iload_n 1, 1) := dk_27 (dk_at dksX1_fault_0 0 rfl rfl)
theorem dX1_fault_1 : decode cX1_fault 1 = .ok (.ifCond .ne 10, 3) := dk_154 0 10 (dk_at dksX1_fault_0 1 rfl rfl)
theorem dX1_fault_4 : decode cX1_fault 4 = .ok (.aload_n 0, 1) := dk_42 (dk_at dksX1_fault_0 4 rfl rfl)
theorem dX1_fault_5 : decode cX1_fault 5 = .ok (.getfield 137, 3) := dk_180 0 137 (dk_at dksX1_fault_0 5 rfl rfl)
theorem dX1_fault_8 : decode cX1_fault 8 = .ok (.goto 16, 3) := dk_167 0 16 (dk_at dksX1_fault_0 8 rfl rfl)
theorem dX1_fault_11 : decode cX1_fault 11 = .ok (.iload_n 1, 1) := dk_27 (dk_at dksX1_fault_0 11 rfl rfl)
theorem dX1_fault_12 : decode cX1_fault 12 = .ok (.iconst 1, 1) := dk_4 (dk_at dksX1_fault_0 12 rfl rfl)
theorem dX1_fault_13 : decode cX1_fault 13 = .ok (.if_icmp .ne 10, 3) := dk_160 0 10 (dk_at dksX1_fault_0 13 rfl rfl)
theorem dX1_fault_16 : decode cX1_fault 16 = .ok (.aload_n 0, 1) := dk_42 (dk_at dksX1_fault_0 16 rfl rfl)
theorem dX1_fault_17 : decode cX1_fault 17 = .ok (.getfield 72, 3) := dk_180 0 72 (dk_at dksX1_fault_0 17 rfl rfl)
theorem dX1_fault_20 : decode cX1_fault 20 = .ok (.goto 4, 3) := dk_167 0 4 (dk_at dksX1_fault_0 20 rfl rfl)
theorem dX1_fault_23 : decode cX1_fault 23 = .ok (.iconst (-1), 1) := dk_2 (dk_at dksX1_fault_0 23 rfl rfl)
theorem dX1_fault_24 : decode cX1_fault 24 = .ok (.ireturn, 1) := dk_172 (dk_at dksX1_fault_1 0 rfl rfl)
abbrev cX1_halves : ByteArray := prog_1_method_14_code
def yX1_halves : MethodName := ⟨RX1, "halves", "(I)I"⟩
def dkwX1_halves_1 : List UInt8 := [89, 180, 0, 41, 27, 96, 181, 0, 41, 42, 3, 181, 0, 150, 42, 180, 0, 41, 172]
abbrev dktX1_halves_1 : List UInt8 := dkwX1_halves_1 ++ []
def dkwX1_halves_0 : List UInt8 := [27, 3, 16, 79, 184, 0, 133, 153, 0, 14, 42, 180, 0, 41, 27, 96, 16, 80, 161, 0, 5, 2, 172, 42]
abbrev dktX1_halves_0 : List UInt8 := dkwX1_halves_0 ++ dktX1_halves_1
theorem dksX1_halves_0 : cX1_halves.data.toList.drop 0 = dktX1_halves_0 := by decide +kernel
theorem dksX1_halves_1 : cX1_halves.data.toList.drop 24 = dktX1_halves_1 := dk_seg dksX1_halves_0 24 rfl rfl
theorem dX1_halves_0 : decode cX1_halves 0 = .ok (.iload_n 1, 1) := dk_27 (dk_at dksX1_halves_0 0 rfl rfl)
theorem dX1_halves_1 : decode cX1_halves 1 = .ok (.iconst 0, 1) := dk_3 (dk_at dksX1_halves_0 1 rfl rfl)
theorem dX1_halves_2 : decode cX1_halves 2 = .ok (.bipush 79, 2) := dk_16 79 (dk_at dksX1_halves_0 2 rfl rfl)
theorem dX1_halves_4 : decode cX1_halves 4 = .ok (.invokestatic 133, 3) := dk_184 0 133 (dk_at dksX1_halves_0 4 rfl rfl)
theorem dX1_halves_7 : decode cX1_halves 7 = .ok (.ifCond .eq 14, 3) := dk_153 0 14 (dk_at dksX1_halves_0 7 rfl rfl)
theorem dX1_halves_10 : decode cX1_halves 10 = .ok (.aload_n 0, 1) := dk_42 (dk_at dksX1_halves_0 10 rfl rfl)
theorem dX1_halves_11 : decode cX1_halves 11 = .ok (.getfield 41, 3) := dk_180 0 41 (dk_at dksX1_halves_0 11 rfl rfl)
theorem dX1_halves_14 : decode cX1_halves 14 = .ok (.iload_n 1, 1) := dk_27 (dk_at dksX1_halves_0 14 rfl rfl)
theorem dX1_halves_15 : decode cX1_halves 15 = .ok (.iadd, 1) := dk_96 (dk_at dksX1_halves_0 15 rfl rfl)
theorem dX1_halves_16 : decode cX1_halves 16 = .ok (.bipush 80, 2) := dk_16 80 (dk_at dksX1_halves_0 16 rfl rfl)
theorem dX1_halves_18 : decode cX1_halves 18 = .ok (.if_icmp .lt 5, 3) := dk_161 0 5 (dk_at dksX1_halves_0 18 rfl rfl)
theorem dX1_halves_21 : decode cX1_halves 21 = .ok (.iconst (-1), 1) := dk_2 (dk_at dksX1_halves_0 21 rfl rfl)
theorem dX1_halves_22 : decode cX1_halves 22 = .ok (.ireturn, 1) := dk_172 (dk_at dksX1_halves_0 22 rfl rfl)
theorem dX1_halves_23 : decode cX1_halves 23 = .ok (.aload_n 0, 1) := dk_42 (dk_at dksX1_halves_0 23 rfl rfl)
theorem dX1_halves_24 : decode cX1_halves 24 = .ok (.dup, 1) := dk_89 (dk_at dksX1_halves_1 0 rfl rfl)
theorem dX1_halves_25 : decode cX1_halves 25 = .ok (.getfield 41, 3) := dk_180 0 41 (dk_at dksX1_halves_1 1 rfl rfl)
theorem dX1_halves_28 : decode cX1_halves 28 = .ok (.iload_n 1, 1) := dk_27 (dk_at dksX1_halves_1 4 rfl rfl)
theorem dX1_halves_29 : decode cX1_halves 29 = .ok (.iadd, 1) := dk_96 (dk_at dksX1_halves_1 5 rfl rfl)
theorem dX1_halves_30 : decode cX1_halves 30 = .ok (.putfield 41, 3) := dk_181 0 41 (dk_at dksX1_halves_1 6 rfl rfl)
theorem dX1_halves_33 : decode cX1_halves 33 = .ok (.aload_n 0, 1) := dk_42 (dk_at dksX1_halves_1 9 rfl rfl)
theorem dX1_halves_34 : decode cX1_halves 34 = .ok (.iconst 0, 1) := dk_3 (dk_at dksX1_halves_1 10 rfl rfl)
theorem dX1_halves_35 : decode cX1_halves 35 = .ok (.putfield 150, 3) := dk_181 0 150 (dk_at dksX1_halves_1 11 rfl rfl)
theorem dX1_halves_38 : decode cX1_halves 38 = .ok (.aload_n 0, 1) := dk_42 (dk_at dksX1_halves_1 14 rfl rfl)
theorem dX1_halves_39 : decode cX1_halves 39 = .ok (.getfield 41, 3) := dk_180 0 41 (dk_at dksX1_halves_1 15 rfl rfl)
theorem dX1_halves_42 : decode cX1_halves 42 = .ok (.ireturn, 1) := dk_172 (dk_at dksX1_halves_1 18 rfl rfl)
abbrev cX1_life : ByteArray := prog_1_method_15_code
def yX1_life : MethodName := ⟨RX1, "life", "(II)I"⟩
def dkwX1_life_3 : List UInt8 := [172]
abbrev dktX1_life_3 : List UInt8 := dkwX1_life_3 ++ []
def dkwX1_life_2 : List UInt8 := [180, 0, 90, 182, 0, 157, 27, 28, 183, 0, 161, 182, 0, 164, 87, 42, 180, 0, 90, 182, 0, 157, 4, 100]
abbrev dktX1_life_2 : List UInt8 := dkwX1_life_2 ++ dktX1_life_3
def dkwX1_life_1 : List UInt8 := [180, 0, 90, 182, 0, 157, 16, 12, 160, 0, 5, 2, 172, 42, 180, 0, 90, 187, 0, 10, 89, 42]
abbrev dktX1_life_1 : List UInt8 := dkwX1_life_1 ++ dktX1_life_2
def dkwX1_life_0 : List UInt8 := [27, 17, 255, 96, 42, 180, 0, 41, 184, 0, 133, 153, 0, 24, 28, 3, 6, 184, 0, 133, 153, 0, 15, 42]
abbrev dktX1_life_0 : List UInt8 := dkwX1_life_0 ++ dktX1_life_1
theorem dksX1_life_0 : cX1_life.data.toList.drop 0 = dktX1_life_0 := by decide +kernel
theorem dksX1_life_1 : cX1_life.data.toList.drop 24 = dktX1_life_1 := dk_seg dksX1_life_0 24 rfl rfl
theorem dksX1_life_2 : cX1_life.data.toList.drop 46 = dktX1_life_2 := dk_seg dksX1_life_1 22 rfl rfl
theorem dksX1_life_3 : cX1_life.data.toList.drop 70 = dktX1_life_3 := dk_seg dksX1_life_2 24 rfl rfl
theorem dX1_life_0 : decode cX1_life 0 = .ok (.iload_n 1, 1) := dk_27 (dk_at dksX1_life_0 0 rfl rfl)
theorem dX1_life_1 : decode cX1_life 1 = .ok (.sipush (-160), 3) := dk_17 255 96 (dk_at dksX1_life_0 1 rfl rfl)
theorem dX1_life_4 : decode cX1_life 4 = .ok (.aload_n 0, 1) := dk_42 (dk_at dksX1_life_0 4 rfl rfl)
theorem dX1_life_5 : decode cX1_life 5 = .ok (.getfield 41, 3) := dk_180 0 41 (dk_at dksX1_life_0 5 rfl rfl)
theorem dX1_life_8 : decode cX1_life 8 = .ok (.invokestatic 133, 3) := dk_184 0 133 (dk_at dksX1_life_0 8 rfl rfl)
theorem dX1_life_11 : decode cX1_life 11 = .ok (.ifCond .eq 24, 3) := dk_153 0 24 (dk_at dksX1_life_0 11 rfl rfl)
theorem dX1_life_14 : decode cX1_life 14 = .ok (.iload_n 2, 1) := dk_28 (dk_at dksX1_life_0 14 rfl rfl)
theorem dX1_life_15 : decode cX1_life 15 = .ok (.iconst 0, 1) := dk_3 (dk_at dksX1_life_0 15 rfl rfl)
theorem dX1_life_16 : decode cX1_life 16 = .ok (.iconst 3, 1) := dk_6 (dk_at dksX1_life_0 16 rfl rfl)
theorem dX1_life_17 : decode cX1_life 17 = .ok (.invokestatic 133, 3) := dk_184 0 133 (dk_at dksX1_life_0 17 rfl rfl)
theorem dX1_life_20 : decode cX1_life 20 = .ok (.ifCond .eq 15, 3) := dk_153 0 15 (dk_at dksX1_life_0 20 rfl rfl)
theorem dX1_life_23 : decode cX1_life 23 = .ok (.aload_n 0, 1) := dk_42 (dk_at dksX1_life_0 23 rfl rfl)
theorem dX1_life_24 : decode cX1_life 24 = .ok (.getfield 90, 3) := dk_180 0 90 (dk_at dksX1_life_1 0 rfl rfl)
theorem dX1_life_27 : decode cX1_life 27 = .ok (.invokevirtual 157, 3) := dk_182 0 157 (dk_at dksX1_life_1 3 rfl rfl)
theorem dX1_life_30 : decode cX1_life 30 = .ok (.bipush 12, 2) := dk_16 12 (dk_at dksX1_life_1 6 rfl rfl)
theorem dX1_life_32 : decode cX1_life 32 = .ok (.if_icmp .ne 5, 3) := dk_160 0 5 (dk_at dksX1_life_1 8 rfl rfl)
theorem dX1_life_35 : decode cX1_life 35 = .ok (.iconst (-1), 1) := dk_2 (dk_at dksX1_life_1 11 rfl rfl)
theorem dX1_life_36 : decode cX1_life 36 = .ok (.ireturn, 1) := dk_172 (dk_at dksX1_life_1 12 rfl rfl)
theorem dX1_life_37 : decode cX1_life 37 = .ok (.aload_n 0, 1) := dk_42 (dk_at dksX1_life_1 13 rfl rfl)
theorem dX1_life_38 : decode cX1_life 38 = .ok (.getfield 90, 3) := dk_180 0 90 (dk_at dksX1_life_1 14 rfl rfl)
theorem dX1_life_41 : decode cX1_life 41 = .ok (.new 10, 3) := dk_187 0 10 (dk_at dksX1_life_1 17 rfl rfl)
theorem dX1_life_44 : decode cX1_life 44 = .ok (.dup, 1) := dk_89 (dk_at dksX1_life_1 20 rfl rfl)
theorem dX1_life_45 : decode cX1_life 45 = .ok (.aload_n 0, 1) := dk_42 (dk_at dksX1_life_1 21 rfl rfl)
theorem dX1_life_46 : decode cX1_life 46 = .ok (.getfield 90, 3) := dk_180 0 90 (dk_at dksX1_life_2 0 rfl rfl)
theorem dX1_life_49 : decode cX1_life 49 = .ok (.invokevirtual 157, 3) := dk_182 0 157 (dk_at dksX1_life_2 3 rfl rfl)
theorem dX1_life_52 : decode cX1_life 52 = .ok (.iload_n 1, 1) := dk_27 (dk_at dksX1_life_2 6 rfl rfl)
theorem dX1_life_53 : decode cX1_life 53 = .ok (.iload_n 2, 1) := dk_28 (dk_at dksX1_life_2 7 rfl rfl)
theorem dX1_life_54 : decode cX1_life 54 = .ok (.invokespecial 161, 3) := dk_183 0 161 (dk_at dksX1_life_2 8 rfl rfl)
theorem dX1_life_57 : decode cX1_life 57 = .ok (.invokevirtual 164, 3) := dk_182 0 164 (dk_at dksX1_life_2 11 rfl rfl)
theorem dX1_life_60 : decode cX1_life 60 = .ok (.pop, 1) := dk_87 (dk_at dksX1_life_2 14 rfl rfl)
theorem dX1_life_61 : decode cX1_life 61 = .ok (.aload_n 0, 1) := dk_42 (dk_at dksX1_life_2 15 rfl rfl)
theorem dX1_life_62 : decode cX1_life 62 = .ok (.getfield 90, 3) := dk_180 0 90 (dk_at dksX1_life_2 16 rfl rfl)
theorem dX1_life_65 : decode cX1_life 65 = .ok (.invokevirtual 157, 3) := dk_182 0 157 (dk_at dksX1_life_2 19 rfl rfl)
theorem dX1_life_68 : decode cX1_life 68 = .ok (.iconst 1, 1) := dk_4 (dk_at dksX1_life_2 22 rfl rfl)
theorem dX1_life_69 : decode cX1_life 69 = .ok (.isub, 1) := dk_100 (dk_at dksX1_life_2 23 rfl rfl)
theorem dX1_life_70 : decode cX1_life 70 = .ok (.ireturn, 1) := dk_172 (dk_at dksX1_life_3 0 rfl rfl)
abbrev cX1_asks : ByteArray := prog_1_method_20_code
def yX1_asks : MethodName := ⟨RX1, "asks", "(II)I"⟩
def dkwX1_asks_4 : List UInt8 := [182, 0, 186, 172, 2, 172]
abbrev dktX1_asks_4 : List UInt8 := dkwX1_asks_4 ++ []
def dkwX1_asks_3 : List UInt8 := [180, 0, 32, 45, 42, 180, 0, 41, 3, 182, 0, 182, 172, 42, 180, 0, 32, 45, 42, 180, 0, 41, 3]
abbrev dktX1_asks_3 : List UInt8 := dkwX1_asks_3 ++ dktX1_asks_4
def dkwX1_asks_2 : List UInt8 := [42, 180, 0, 32, 45, 42, 180, 0, 41, 3, 182, 0, 178, 153, 0, 7, 4, 167, 0, 4, 3, 172, 42]
abbrev dktX1_asks_2 : List UInt8 := dkwX1_asks_2 ++ dktX1_asks_3
def dkwX1_asks_1 : List UInt8 := [170, 0, 0, 0, 0, 0, 77, 0, 0, 0, 0, 0, 0, 0, 2, 0, 0, 0, 27, 0, 0, 0, 49, 0, 0, 0, 63]
abbrev dktX1_asks_1 : List UInt8 := dkwX1_asks_1 ++ dktX1_asks_2
def dkwX1_asks_0 : List UInt8 := [42, 27, 182, 0, 174, 78, 45, 199, 0, 5, 2, 172, 28]
abbrev dktX1_asks_0 : List UInt8 := dkwX1_asks_0 ++ dktX1_asks_1
theorem dksX1_asks_0 : cX1_asks.data.toList.drop 0 = dktX1_asks_0 := by decide +kernel
theorem dksX1_asks_1 : cX1_asks.data.toList.drop 13 = dktX1_asks_1 := dk_seg dksX1_asks_0 13 rfl rfl
theorem dksX1_asks_2 : cX1_asks.data.toList.drop 40 = dktX1_asks_2 := dk_seg dksX1_asks_1 27 rfl rfl
theorem dksX1_asks_3 : cX1_asks.data.toList.drop 63 = dktX1_asks_3 := dk_seg dksX1_asks_2 23 rfl rfl
theorem dksX1_asks_4 : cX1_asks.data.toList.drop 86 = dktX1_asks_4 := dk_seg dksX1_asks_3 23 rfl rfl
theorem dX1_asks_0 : decode cX1_asks 0 = .ok (.aload_n 0, 1) := dk_42 (dk_at dksX1_asks_0 0 rfl rfl)
theorem dX1_asks_1 : decode cX1_asks 1 = .ok (.iload_n 1, 1) := dk_27 (dk_at dksX1_asks_0 1 rfl rfl)
theorem dX1_asks_2 : decode cX1_asks 2 = .ok (.invokevirtual 174, 3) := dk_182 0 174 (dk_at dksX1_asks_0 2 rfl rfl)
theorem dX1_asks_5 : decode cX1_asks 5 = .ok (.astore_n 3, 1) := dk_78 (dk_at dksX1_asks_0 5 rfl rfl)
theorem dX1_asks_6 : decode cX1_asks 6 = .ok (.aload_n 3, 1) := dk_45 (dk_at dksX1_asks_0 6 rfl rfl)
theorem dX1_asks_7 : decode cX1_asks 7 = .ok (.ifnonnull 5, 3) := dk_199 0 5 (dk_at dksX1_asks_0 7 rfl rfl)
theorem dX1_asks_10 : decode cX1_asks 10 = .ok (.iconst (-1), 1) := dk_2 (dk_at dksX1_asks_0 10 rfl rfl)
theorem dX1_asks_11 : decode cX1_asks 11 = .ok (.ireturn, 1) := dk_172 (dk_at dksX1_asks_0 11 rfl rfl)
theorem dX1_asks_12 : decode cX1_asks 12 = .ok (.iload_n 2, 1) := dk_28 (dk_at dksX1_asks_0 12 rfl rfl)
theorem dX1_asks_13 : decode cX1_asks 13 = .ok (.tableswitch 77 0 2 #[27, 49, 63], 27) := by decide +kernel
theorem dX1_asks_40 : decode cX1_asks 40 = .ok (.aload_n 0, 1) := dk_42 (dk_at dksX1_asks_2 0 rfl rfl)
theorem dX1_asks_41 : decode cX1_asks 41 = .ok (.getfield 32, 3) := dk_180 0 32 (dk_at dksX1_asks_2 1 rfl rfl)
theorem dX1_asks_44 : decode cX1_asks 44 = .ok (.aload_n 3, 1) := dk_45 (dk_at dksX1_asks_2 4 rfl rfl)
theorem dX1_asks_45 : decode cX1_asks 45 = .ok (.aload_n 0, 1) := dk_42 (dk_at dksX1_asks_2 5 rfl rfl)
theorem dX1_asks_46 : decode cX1_asks 46 = .ok (.getfield 41, 3) := dk_180 0 41 (dk_at dksX1_asks_2 6 rfl rfl)
theorem dX1_asks_49 : decode cX1_asks 49 = .ok (.iconst 0, 1) := dk_3 (dk_at dksX1_asks_2 9 rfl rfl)
theorem dX1_asks_50 : decode cX1_asks 50 = .ok (.invokevirtual 178, 3) := dk_182 0 178 (dk_at dksX1_asks_2 10 rfl rfl)
theorem dX1_asks_53 : decode cX1_asks 53 = .ok (.ifCond .eq 7, 3) := dk_153 0 7 (dk_at dksX1_asks_2 13 rfl rfl)
theorem dX1_asks_56 : decode cX1_asks 56 = .ok (.iconst 1, 1) := dk_4 (dk_at dksX1_asks_2 16 rfl rfl)
theorem dX1_asks_57 : decode cX1_asks 57 = .ok (.goto 4, 3) := dk_167 0 4 (dk_at dksX1_asks_2 17 rfl rfl)
theorem dX1_asks_60 : decode cX1_asks 60 = .ok (.iconst 0, 1) := dk_3 (dk_at dksX1_asks_2 20 rfl rfl)
theorem dX1_asks_61 : decode cX1_asks 61 = .ok (.ireturn, 1) := dk_172 (dk_at dksX1_asks_2 21 rfl rfl)
theorem dX1_asks_62 : decode cX1_asks 62 = .ok (.aload_n 0, 1) := dk_42 (dk_at dksX1_asks_2 22 rfl rfl)
theorem dX1_asks_63 : decode cX1_asks 63 = .ok (.getfield 32, 3) := dk_180 0 32 (dk_at dksX1_asks_3 0 rfl rfl)
theorem dX1_asks_66 : decode cX1_asks 66 = .ok (.aload_n 3, 1) := dk_45 (dk_at dksX1_asks_3 3 rfl rfl)
theorem dX1_asks_67 : decode cX1_asks 67 = .ok (.aload_n 0, 1) := dk_42 (dk_at dksX1_asks_3 4 rfl rfl)
theorem dX1_asks_68 : decode cX1_asks 68 = .ok (.getfield 41, 3) := dk_180 0 41 (dk_at dksX1_asks_3 5 rfl rfl)
theorem dX1_asks_71 : decode cX1_asks 71 = .ok (.iconst 0, 1) := dk_3 (dk_at dksX1_asks_3 8 rfl rfl)
theorem dX1_asks_72 : decode cX1_asks 72 = .ok (.invokevirtual 182, 3) := dk_182 0 182 (dk_at dksX1_asks_3 9 rfl rfl)
theorem dX1_asks_75 : decode cX1_asks 75 = .ok (.ireturn, 1) := dk_172 (dk_at dksX1_asks_3 12 rfl rfl)
theorem dX1_asks_76 : decode cX1_asks 76 = .ok (.aload_n 0, 1) := dk_42 (dk_at dksX1_asks_3 13 rfl rfl)
theorem dX1_asks_77 : decode cX1_asks 77 = .ok (.getfield 32, 3) := dk_180 0 32 (dk_at dksX1_asks_3 14 rfl rfl)
theorem dX1_asks_80 : decode cX1_asks 80 = .ok (.aload_n 3, 1) := dk_45 (dk_at dksX1_asks_3 17 rfl rfl)
theorem dX1_asks_81 : decode cX1_asks 81 = .ok (.aload_n 0, 1) := dk_42 (dk_at dksX1_asks_3 18 rfl rfl)
theorem dX1_asks_82 : decode cX1_asks 82 = .ok (.getfield 41, 3) := dk_180 0 41 (dk_at dksX1_asks_3 19 rfl rfl)
theorem dX1_asks_85 : decode cX1_asks 85 = .ok (.iconst 0, 1) := dk_3 (dk_at dksX1_asks_3 22 rfl rfl)
theorem dX1_asks_86 : decode cX1_asks 86 = .ok (.invokevirtual 186, 3) := dk_182 0 186 (dk_at dksX1_asks_4 0 rfl rfl)
theorem dX1_asks_89 : decode cX1_asks 89 = .ok (.ireturn, 1) := dk_172 (dk_at dksX1_asks_4 3 rfl rfl)
theorem dX1_asks_90 : decode cX1_asks 90 = .ok (.iconst (-1), 1) := dk_2 (dk_at dksX1_asks_4 4 rfl rfl)
theorem dX1_asks_91 : decode cX1_asks 91 = .ok (.ireturn, 1) := dk_172 (dk_at dksX1_asks_4 5 rfl rfl)
abbrev cX1_aLife : ByteArray := prog_1_method_16_code
def yX1_aLife : MethodName := ⟨RX1, "aLife", "(I)LLifeRents$Life;"⟩
def dkwX1_aLife_1 : List UInt8 := [182, 0, 168, 192, 0, 10, 167, 0, 4, 1, 176]
abbrev dktX1_aLife_1 : List UInt8 := dkwX1_aLife_1 ++ []
def dkwX1_aLife_0 : List UInt8 := [27, 3, 42, 180, 0, 90, 182, 0, 157, 4, 100, 184, 0, 133, 153, 0, 17, 42, 180, 0, 90, 27]
abbrev dktX1_aLife_0 : List UInt8 := dkwX1_aLife_0 ++ dktX1_aLife_1
theorem dksX1_aLife_0 : cX1_aLife.data.toList.drop 0 = dktX1_aLife_0 := by decide +kernel
theorem dksX1_aLife_1 : cX1_aLife.data.toList.drop 22 = dktX1_aLife_1 := dk_seg dksX1_aLife_0 22 rfl rfl
theorem dX1_aLife_0 : decode cX1_aLife 0 = .ok (.iload_n 1, 1) := dk_27 (dk_at dksX1_aLife_0 0 rfl rfl)
theorem dX1_aLife_1 : decode cX1_aLife 1 = .ok (.iconst 0, 1) := dk_3 (dk_at dksX1_aLife_0 1 rfl rfl)
theorem dX1_aLife_2 : decode cX1_aLife 2 = .ok (.aload_n 0, 1) := dk_42 (dk_at dksX1_aLife_0 2 rfl rfl)
theorem dX1_aLife_3 : decode cX1_aLife 3 = .ok (.getfield 90, 3) := dk_180 0 90 (dk_at dksX1_aLife_0 3 rfl rfl)
theorem dX1_aLife_6 : decode cX1_aLife 6 = .ok (.invokevirtual 157, 3) := dk_182 0 157 (dk_at dksX1_aLife_0 6 rfl rfl)
theorem dX1_aLife_9 : decode cX1_aLife 9 = .ok (.iconst 1, 1) := dk_4 (dk_at dksX1_aLife_0 9 rfl rfl)
theorem dX1_aLife_10 : decode cX1_aLife 10 = .ok (.isub, 1) := dk_100 (dk_at dksX1_aLife_0 10 rfl rfl)
theorem dX1_aLife_11 : decode cX1_aLife 11 = .ok (.invokestatic 133, 3) := dk_184 0 133 (dk_at dksX1_aLife_0 11 rfl rfl)
theorem dX1_aLife_14 : decode cX1_aLife 14 = .ok (.ifCond .eq 17, 3) := dk_153 0 17 (dk_at dksX1_aLife_0 14 rfl rfl)
theorem dX1_aLife_17 : decode cX1_aLife 17 = .ok (.aload_n 0, 1) := dk_42 (dk_at dksX1_aLife_0 17 rfl rfl)
theorem dX1_aLife_18 : decode cX1_aLife 18 = .ok (.getfield 90, 3) := dk_180 0 90 (dk_at dksX1_aLife_0 18 rfl rfl)
theorem dX1_aLife_21 : decode cX1_aLife 21 = .ok (.iload_n 1, 1) := dk_27 (dk_at dksX1_aLife_0 21 rfl rfl)
theorem dX1_aLife_22 : decode cX1_aLife 22 = .ok (.invokevirtual 168, 3) := dk_182 0 168 (dk_at dksX1_aLife_1 0 rfl rfl)
theorem dX1_aLife_25 : decode cX1_aLife 25 = .ok (.checkcast 10, 3) := dk_192 0 10 (dk_at dksX1_aLife_1 3 rfl rfl)
theorem dX1_aLife_28 : decode cX1_aLife 28 = .ok (.goto 4, 3) := dk_167 0 4 (dk_at dksX1_aLife_1 6 rfl rfl)
theorem dX1_aLife_31 : decode cX1_aLife 31 = .ok (.aconst_null, 1) := dk_1 (dk_at dksX1_aLife_1 9 rfl rfl)
theorem dX1_aLife_32 : decode cX1_aLife 32 = .ok (.areturn, 1) := dk_176 (dk_at dksX1_aLife_1 10 rfl rfl)
abbrev cX1_rent : ByteArray := prog_1_method_21_code
def yX1_rent : MethodName := ⟨RX1, "rent", "(IIII)I"⟩
def dkwX1_rent_9 : List UInt8 := [182, 0, 157, 4, 100, 172]
abbrev dktX1_rent_9 : List UInt8 := dkwX1_rent_9 ++ []
def dkwX1_rent_8 : List UInt8 := [21, 8, 25, 5, 25, 6, 183, 0, 202, 182, 0, 164, 87, 42, 3, 181, 0, 150, 42, 180, 0, 94]
abbrev dktX1_rent_8 : List UInt8 := dkwX1_rent_8 ++ dktX1_rent_9
def dkwX1_rent_7 : List UInt8 := [21, 4, 21, 8, 25, 5, 183, 0, 197, 167, 0, 23, 187, 0, 200, 89, 27, 42, 180, 0, 41, 21, 4]
abbrev dktX1_rent_7 : List UInt8 := dkwX1_rent_7 ++ dktX1_rent_8
def dkwX1_rent_6 : List UInt8 := [3, 182, 0, 182, 54, 8, 42, 180, 0, 94, 25, 6, 199, 0, 24, 187, 0, 172, 89, 27, 42, 180, 0, 41]
abbrev dktX1_rent_6 : List UInt8 := dkwX1_rent_6 ++ dktX1_rent_7
def dkwX1_rent_5 : List UInt8 := [154, 0, 5, 2, 172, 42, 180, 0, 32, 25, 7, 42, 180, 0, 41, 25, 6, 198, 0, 7, 4, 167, 0, 4]
abbrev dktX1_rent_5 : List UInt8 := dkwX1_rent_5 ++ dktX1_rent_6
def dkwX1_rent_4 : List UInt8 := [180, 0, 32, 25, 7, 42, 180, 0, 41, 25, 6, 198, 0, 7, 4, 167, 0, 4, 3, 182, 0, 178]
abbrev dktX1_rent_4 : List UInt8 := dkwX1_rent_4 ++ dktX1_rent_5
def dkwX1_rent_3 : List UInt8 := [199, 0, 8, 25, 5, 167, 0, 14, 25, 5, 25, 6, 42, 180, 0, 41, 184, 0, 193, 58, 7, 42]
abbrev dktX1_rent_3 : List UInt8 := dkwX1_rent_3 ++ dktX1_rent_4
def dkwX1_rent_2 : List UInt8 := [184, 0, 133, 153, 0, 15, 42, 180, 0, 94, 182, 0, 157, 16, 16, 160, 0, 5, 2, 172, 25, 6]
abbrev dktX1_rent_2 : List UInt8 := dkwX1_rent_2 ++ dktX1_rent_3
def dkwX1_rent_1 : List UInt8 := [198, 0, 41, 29, 2, 159, 0, 13, 25, 6, 198, 0, 31, 29, 28, 159, 0, 26, 21, 4, 4, 16, 99]
abbrev dktX1_rent_1 : List UInt8 := dkwX1_rent_1 ++ dktX1_rent_2
def dkwX1_rent_0 : List UInt8 := [42, 28, 182, 0, 174, 58, 5, 42, 29, 182, 0, 174, 58, 6, 27, 184, 0, 189, 153, 0, 46, 25, 5]
abbrev dktX1_rent_0 : List UInt8 := dkwX1_rent_0 ++ dktX1_rent_1
theorem dksX1_rent_0 : cX1_rent.data.toList.drop 0 = dktX1_rent_0 := by decide +kernel
theorem dksX1_rent_1 : cX1_rent.data.toList.drop 23 = dktX1_rent_1 := dk_seg dksX1_rent_0 23 rfl rfl
theorem dksX1_rent_2 : cX1_rent.data.toList.drop 46 = dktX1_rent_2 := dk_seg dksX1_rent_1 23 rfl rfl
theorem dksX1_rent_3 : cX1_rent.data.toList.drop 68 = dktX1_rent_3 := dk_seg dksX1_rent_2 22 rfl rfl
theorem dksX1_rent_4 : cX1_rent.data.toList.drop 90 = dktX1_rent_4 := dk_seg dksX1_rent_3 22 rfl rfl
theorem dksX1_rent_5 : cX1_rent.data.toList.drop 112 = dktX1_rent_5 := dk_seg dksX1_rent_4 22 rfl rfl
theorem dksX1_rent_6 : cX1_rent.data.toList.drop 136 = dktX1_rent_6 := dk_seg dksX1_rent_5 24 rfl rfl
theorem dksX1_rent_7 : cX1_rent.data.toList.drop 160 = dktX1_rent_7 := dk_seg dksX1_rent_6 24 rfl rfl
theorem dksX1_rent_8 : cX1_rent.data.toList.drop 183 = dktX1_rent_8 := dk_seg dksX1_rent_7 23 rfl rfl
theorem dksX1_rent_9 : cX1_rent.data.toList.drop 205 = dktX1_rent_9 := dk_seg dksX1_rent_8 22 rfl rfl
theorem dX1_rent_0 : decode cX1_rent 0 = .ok (.aload_n 0, 1) := dk_42 (dk_at dksX1_rent_0 0 rfl rfl)
theorem dX1_rent_1 : decode cX1_rent 1 = .ok (.iload_n 2, 1) := dk_28 (dk_at dksX1_rent_0 1 rfl rfl)
theorem dX1_rent_2 : decode cX1_rent 2 = .ok (.invokevirtual 174, 3) := dk_182 0 174 (dk_at dksX1_rent_0 2 rfl rfl)
theorem dX1_rent_5 : decode cX1_rent 5 = .ok (.astore 5, 2) := dk_58 5 (dk_at dksX1_rent_0 5 rfl rfl)
theorem dX1_rent_7 : decode cX1_rent 7 = .ok (.aload_n 0, 1) := dk_42 (dk_at dksX1_rent_0 7 rfl rfl)
theorem dX1_rent_8 : decode cX1_rent 8 = .ok (.iload_n 3, 1) := dk_29 (dk_at dksX1_rent_0 8 rfl rfl)
theorem dX1_rent_9 : decode cX1_rent 9 = .ok (.invokevirtual 174, 3) := dk_182 0 174 (dk_at dksX1_rent_0 9 rfl rfl)
theorem dX1_rent_12 : decode cX1_rent 12 = .ok (.astore 6, 2) := dk_58 6 (dk_at dksX1_rent_0 12 rfl rfl)
theorem dX1_rent_14 : decode cX1_rent 14 = .ok (.iload_n 1, 1) := dk_27 (dk_at dksX1_rent_0 14 rfl rfl)
theorem dX1_rent_15 : decode cX1_rent 15 = .ok (.invokestatic 189, 3) := dk_184 0 189 (dk_at dksX1_rent_0 15 rfl rfl)
theorem dX1_rent_18 : decode cX1_rent 18 = .ok (.ifCond .eq 46, 3) := dk_153 0 46 (dk_at dksX1_rent_0 18 rfl rfl)
theorem dX1_rent_21 : decode cX1_rent 21 = .ok (.aload 5, 2) := dk_25 5 (dk_at dksX1_rent_0 21 rfl rfl)
theorem dX1_rent_23 : decode cX1_rent 23 = .ok (.ifnull 41, 3) := dk_198 0 41 (dk_at dksX1_rent_1 0 rfl rfl)
theorem dX1_rent_26 : decode cX1_rent 26 = .ok (.iload_n 3, 1) := dk_29 (dk_at dksX1_rent_1 3 rfl rfl)
theorem dX1_rent_27 : decode cX1_rent 27 = .ok (.iconst (-1), 1) := dk_2 (dk_at dksX1_rent_1 4 rfl rfl)
theorem dX1_rent_28 : decode cX1_rent 28 = .ok (.if_icmp .eq 13, 3) := dk_159 0 13 (dk_at dksX1_rent_1 5 rfl rfl)
theorem dX1_rent_31 : decode cX1_rent 31 = .ok (.aload 6, 2) := dk_25 6 (dk_at dksX1_rent_1 8 rfl rfl)
theorem dX1_rent_33 : decode cX1_rent 33 = .ok (.ifnull 31, 3) := dk_198 0 31 (dk_at dksX1_rent_1 10 rfl rfl)
theorem dX1_rent_36 : decode cX1_rent 36 = .ok (.iload_n 3, 1) := dk_29 (dk_at dksX1_rent_1 13 rfl rfl)
theorem dX1_rent_37 : decode cX1_rent 37 = .ok (.iload_n 2, 1) := dk_28 (dk_at dksX1_rent_1 14 rfl rfl)
theorem dX1_rent_38 : decode cX1_rent 38 = .ok (.if_icmp .eq 26, 3) := dk_159 0 26 (dk_at dksX1_rent_1 15 rfl rfl)
theorem dX1_rent_41 : decode cX1_rent 41 = .ok (.iload 4, 2) := dk_21 4 (dk_at dksX1_rent_1 18 rfl rfl)
theorem dX1_rent_43 : decode cX1_rent 43 = .ok (.iconst 1, 1) := dk_4 (dk_at dksX1_rent_1 20 rfl rfl)
theorem dX1_rent_44 : decode cX1_rent 44 = .ok (.bipush 99, 2) := dk_16 99 (dk_at dksX1_rent_1 21 rfl rfl)
theorem dX1_rent_46 : decode cX1_rent 46 = .ok (.invokestatic 133, 3) := dk_184 0 133 (dk_at dksX1_rent_2 0 rfl rfl)
theorem dX1_rent_49 : decode cX1_rent 49 = .ok (.ifCond .eq 15, 3) := dk_153 0 15 (dk_at dksX1_rent_2 3 rfl rfl)
theorem dX1_rent_52 : decode cX1_rent 52 = .ok (.aload_n 0, 1) := dk_42 (dk_at dksX1_rent_2 6 rfl rfl)
theorem dX1_rent_53 : decode cX1_rent 53 = .ok (.getfield 94, 3) := dk_180 0 94 (dk_at dksX1_rent_2 7 rfl rfl)
theorem dX1_rent_56 : decode cX1_rent 56 = .ok (.invokevirtual 157, 3) := dk_182 0 157 (dk_at dksX1_rent_2 10 rfl rfl)
theorem dX1_rent_59 : decode cX1_rent 59 = .ok (.bipush 16, 2) := dk_16 16 (dk_at dksX1_rent_2 13 rfl rfl)
theorem dX1_rent_61 : decode cX1_rent 61 = .ok (.if_icmp .ne 5, 3) := dk_160 0 5 (dk_at dksX1_rent_2 15 rfl rfl)
theorem dX1_rent_64 : decode cX1_rent 64 = .ok (.iconst (-1), 1) := dk_2 (dk_at dksX1_rent_2 18 rfl rfl)
theorem dX1_rent_65 : decode cX1_rent 65 = .ok (.ireturn, 1) := dk_172 (dk_at dksX1_rent_2 19 rfl rfl)
theorem dX1_rent_66 : decode cX1_rent 66 = .ok (.aload 6, 2) := dk_25 6 (dk_at dksX1_rent_2 20 rfl rfl)
theorem dX1_rent_68 : decode cX1_rent 68 = .ok (.ifnonnull 8, 3) := dk_199 0 8 (dk_at dksX1_rent_3 0 rfl rfl)
theorem dX1_rent_71 : decode cX1_rent 71 = .ok (.aload 5, 2) := dk_25 5 (dk_at dksX1_rent_3 3 rfl rfl)
theorem dX1_rent_73 : decode cX1_rent 73 = .ok (.goto 14, 3) := dk_167 0 14 (dk_at dksX1_rent_3 5 rfl rfl)
theorem dX1_rent_76 : decode cX1_rent 76 = .ok (.aload 5, 2) := dk_25 5 (dk_at dksX1_rent_3 8 rfl rfl)
theorem dX1_rent_78 : decode cX1_rent 78 = .ok (.aload 6, 2) := dk_25 6 (dk_at dksX1_rent_3 10 rfl rfl)
theorem dX1_rent_80 : decode cX1_rent 80 = .ok (.aload_n 0, 1) := dk_42 (dk_at dksX1_rent_3 12 rfl rfl)
theorem dX1_rent_81 : decode cX1_rent 81 = .ok (.getfield 41, 3) := dk_180 0 41 (dk_at dksX1_rent_3 13 rfl rfl)
theorem dX1_rent_84 : decode cX1_rent 84 = .ok (.invokestatic 193, 3) := dk_184 0 193 (dk_at dksX1_rent_3 16 rfl rfl)
theorem dX1_rent_87 : decode cX1_rent 87 = .ok (.astore 7, 2) := dk_58 7 (dk_at dksX1_rent_3 19 rfl rfl)
theorem dX1_rent_89 : decode cX1_rent 89 = .ok (.aload_n 0, 1) := dk_42 (dk_at dksX1_rent_3 21 rfl rfl)
theorem dX1_rent_90 : decode cX1_rent 90 = .ok (.getfield 32, 3) := dk_180 0 32 (dk_at dksX1_rent_4 0 rfl rfl)
theorem dX1_rent_93 : decode cX1_rent 93 = .ok (.aload 7, 2) := dk_25 7 (dk_at dksX1_rent_4 3 rfl rfl)
theorem dX1_rent_95 : decode cX1_rent 95 = .ok (.aload_n 0, 1) := dk_42 (dk_at dksX1_rent_4 5 rfl rfl)
theorem dX1_rent_96 : decode cX1_rent 96 = .ok (.getfield 41, 3) := dk_180 0 41 (dk_at dksX1_rent_4 6 rfl rfl)
theorem dX1_rent_99 : decode cX1_rent 99 = .ok (.aload 6, 2) := dk_25 6 (dk_at dksX1_rent_4 9 rfl rfl)
theorem dX1_rent_101 : decode cX1_rent 101 = .ok (.ifnull 7, 3) := dk_198 0 7 (dk_at dksX1_rent_4 11 rfl rfl)
theorem dX1_rent_104 : decode cX1_rent 104 = .ok (.iconst 1, 1) := dk_4 (dk_at dksX1_rent_4 14 rfl rfl)
theorem dX1_rent_105 : decode cX1_rent 105 = .ok (.goto 4, 3) := dk_167 0 4 (dk_at dksX1_rent_4 15 rfl rfl)
theorem dX1_rent_108 : decode cX1_rent 108 = .ok (.iconst 0, 1) := dk_3 (dk_at dksX1_rent_4 18 rfl rfl)
theorem dX1_rent_109 : decode cX1_rent 109 = .ok (.invokevirtual 178, 3) := dk_182 0 178 (dk_at dksX1_rent_4 19 rfl rfl)
theorem dX1_rent_112 : decode cX1_rent 112 = .ok (.ifCond .ne 5, 3) := dk_154 0 5 (dk_at dksX1_rent_5 0 rfl rfl)
theorem dX1_rent_115 : decode cX1_rent 115 = .ok (.iconst (-1), 1) := dk_2 (dk_at dksX1_rent_5 3 rfl rfl)
theorem dX1_rent_116 : decode cX1_rent 116 = .ok (.ireturn, 1) := dk_172 (dk_at dksX1_rent_5 4 rfl rfl)
theorem dX1_rent_117 : decode cX1_rent 117 = .ok (.aload_n 0, 1) := dk_42 (dk_at dksX1_rent_5 5 rfl rfl)
theorem dX1_rent_118 : decode cX1_rent 118 = .ok (.getfield 32, 3) := dk_180 0 32 (dk_at dksX1_rent_5 6 rfl rfl)
theorem dX1_rent_121 : decode cX1_rent 121 = .ok (.aload 7, 2) := dk_25 7 (dk_at dksX1_rent_5 9 rfl rfl)
theorem dX1_rent_123 : decode cX1_rent 123 = .ok (.aload_n 0, 1) := dk_42 (dk_at dksX1_rent_5 11 rfl rfl)
theorem dX1_rent_124 : decode cX1_rent 124 = .ok (.getfield 41, 3) := dk_180 0 41 (dk_at dksX1_rent_5 12 rfl rfl)
theorem dX1_rent_127 : decode cX1_rent 127 = .ok (.aload 6, 2) := dk_25 6 (dk_at dksX1_rent_5 15 rfl rfl)
theorem dX1_rent_129 : decode cX1_rent 129 = .ok (.ifnull 7, 3) := dk_198 0 7 (dk_at dksX1_rent_5 17 rfl rfl)
theorem dX1_rent_132 : decode cX1_rent 132 = .ok (.iconst 1, 1) := dk_4 (dk_at dksX1_rent_5 20 rfl rfl)
theorem dX1_rent_133 : decode cX1_rent 133 = .ok (.goto 4, 3) := dk_167 0 4 (dk_at dksX1_rent_5 21 rfl rfl)
theorem dX1_rent_136 : decode cX1_rent 136 = .ok (.iconst 0, 1) := dk_3 (dk_at dksX1_rent_6 0 rfl rfl)
theorem dX1_rent_137 : decode cX1_rent 137 = .ok (.invokevirtual 182, 3) := dk_182 0 182 (dk_at dksX1_rent_6 1 rfl rfl)
theorem dX1_rent_140 : decode cX1_rent 140 = .ok (.istore 8, 2) := dk_54 8 (dk_at dksX1_rent_6 4 rfl rfl)
theorem dX1_rent_142 : decode cX1_rent 142 = .ok (.aload_n 0, 1) := dk_42 (dk_at dksX1_rent_6 6 rfl rfl)
theorem dX1_rent_143 : decode cX1_rent 143 = .ok (.getfield 94, 3) := dk_180 0 94 (dk_at dksX1_rent_6 7 rfl rfl)
theorem dX1_rent_146 : decode cX1_rent 146 = .ok (.aload 6, 2) := dk_25 6 (dk_at dksX1_rent_6 10 rfl rfl)
theorem dX1_rent_148 : decode cX1_rent 148 = .ok (.ifnonnull 24, 3) := dk_199 0 24 (dk_at dksX1_rent_6 12 rfl rfl)
theorem dX1_rent_151 : decode cX1_rent 151 = .ok (.new 172, 3) := dk_187 0 172 (dk_at dksX1_rent_6 15 rfl rfl)
theorem dX1_rent_154 : decode cX1_rent 154 = .ok (.dup, 1) := dk_89 (dk_at dksX1_rent_6 18 rfl rfl)
theorem dX1_rent_155 : decode cX1_rent 155 = .ok (.iload_n 1, 1) := dk_27 (dk_at dksX1_rent_6 19 rfl rfl)
theorem dX1_rent_156 : decode cX1_rent 156 = .ok (.aload_n 0, 1) := dk_42 (dk_at dksX1_rent_6 20 rfl rfl)
theorem dX1_rent_157 : decode cX1_rent 157 = .ok (.getfield 41, 3) := dk_180 0 41 (dk_at dksX1_rent_6 21 rfl rfl)
theorem dX1_rent_160 : decode cX1_rent 160 = .ok (.iload 4, 2) := dk_21 4 (dk_at dksX1_rent_7 0 rfl rfl)
theorem dX1_rent_162 : decode cX1_rent 162 = .ok (.iload 8, 2) := dk_21 8 (dk_at dksX1_rent_7 2 rfl rfl)
theorem dX1_rent_164 : decode cX1_rent 164 = .ok (.aload 5, 2) := dk_25 5 (dk_at dksX1_rent_7 4 rfl rfl)
theorem dX1_rent_166 : decode cX1_rent 166 = .ok (.invokespecial 197, 3) := dk_183 0 197 (dk_at dksX1_rent_7 6 rfl rfl)
theorem dX1_rent_169 : decode cX1_rent 169 = .ok (.goto 23, 3) := dk_167 0 23 (dk_at dksX1_rent_7 9 rfl rfl)
theorem dX1_rent_172 : decode cX1_rent 172 = .ok (.new 200, 3) := dk_187 0 200 (dk_at dksX1_rent_7 12 rfl rfl)
theorem dX1_rent_175 : decode cX1_rent 175 = .ok (.dup, 1) := dk_89 (dk_at dksX1_rent_7 15 rfl rfl)
theorem dX1_rent_176 : decode cX1_rent 176 = .ok (.iload_n 1, 1) := dk_27 (dk_at dksX1_rent_7 16 rfl rfl)
theorem dX1_rent_177 : decode cX1_rent 177 = .ok (.aload_n 0, 1) := dk_42 (dk_at dksX1_rent_7 17 rfl rfl)
theorem dX1_rent_178 : decode cX1_rent 178 = .ok (.getfield 41, 3) := dk_180 0 41 (dk_at dksX1_rent_7 18 rfl rfl)
theorem dX1_rent_181 : decode cX1_rent 181 = .ok (.iload 4, 2) := dk_21 4 (dk_at dksX1_rent_7 21 rfl rfl)
theorem dX1_rent_183 : decode cX1_rent 183 = .ok (.iload 8, 2) := dk_21 8 (dk_at dksX1_rent_8 0 rfl rfl)
theorem dX1_rent_185 : decode cX1_rent 185 = .ok (.aload 5, 2) := dk_25 5 (dk_at dksX1_rent_8 2 rfl rfl)
theorem dX1_rent_187 : decode cX1_rent 187 = .ok (.aload 6, 2) := dk_25 6 (dk_at dksX1_rent_8 4 rfl rfl)
theorem dX1_rent_189 : decode cX1_rent 189 = .ok (.invokespecial 202, 3) := dk_183 0 202 (dk_at dksX1_rent_8 6 rfl rfl)
theorem dX1_rent_192 : decode cX1_rent 192 = .ok (.invokevirtual 164, 3) := dk_182 0 164 (dk_at dksX1_rent_8 9 rfl rfl)
theorem dX1_rent_195 : decode cX1_rent 195 = .ok (.pop, 1) := dk_87 (dk_at dksX1_rent_8 12 rfl rfl)
theorem dX1_rent_196 : decode cX1_rent 196 = .ok (.aload_n 0, 1) := dk_42 (dk_at dksX1_rent_8 13 rfl rfl)
theorem dX1_rent_197 : decode cX1_rent 197 = .ok (.iconst 0, 1) := dk_3 (dk_at dksX1_rent_8 14 rfl rfl)
theorem dX1_rent_198 : decode cX1_rent 198 = .ok (.putfield 150, 3) := dk_181 0 150 (dk_at dksX1_rent_8 15 rfl rfl)
theorem dX1_rent_201 : decode cX1_rent 201 = .ok (.aload_n 0, 1) := dk_42 (dk_at dksX1_rent_8 18 rfl rfl)
theorem dX1_rent_202 : decode cX1_rent 202 = .ok (.getfield 94, 3) := dk_180 0 94 (dk_at dksX1_rent_8 19 rfl rfl)
theorem dX1_rent_205 : decode cX1_rent 205 = .ok (.invokevirtual 157, 3) := dk_182 0 157 (dk_at dksX1_rent_9 0 rfl rfl)
theorem dX1_rent_208 : decode cX1_rent 208 = .ok (.iconst 1, 1) := dk_4 (dk_at dksX1_rent_9 3 rfl rfl)
theorem dX1_rent_209 : decode cX1_rent 209 = .ok (.isub, 1) := dk_100 (dk_at dksX1_rent_9 4 rfl rfl)
theorem dX1_rent_210 : decode cX1_rent 210 = .ok (.ireturn, 1) := dk_172 (dk_at dksX1_rent_9 5 rfl rfl)
abbrev cX1_isHolder : ByteArray := prog_1_method_19_code
def yX1_isHolder : MethodName := ⟨RX1, "isHolder", "(I)Z"⟩
def dkwX1_isHolder_0 : List UInt8 := [26, 3, 16, 7, 184, 0, 133, 172]
abbrev dktX1_isHolder_0 : List UInt8 := dkwX1_isHolder_0 ++ []
theorem dksX1_isHolder_0 : cX1_isHolder.data.toList.drop 0 = dktX1_isHolder_0 := by decide +kernel
theorem dX1_isHolder_0 : decode cX1_isHolder 0 = .ok (.iload_n 0, 1) := dk_26 (dk_at dksX1_isHolder_0 0 rfl rfl)
theorem dX1_isHolder_1 : decode cX1_isHolder 1 = .ok (.iconst 0, 1) := dk_3 (dk_at dksX1_isHolder_0 1 rfl rfl)
theorem dX1_isHolder_2 : decode cX1_isHolder 2 = .ok (.bipush 7, 2) := dk_16 7 (dk_at dksX1_isHolder_0 2 rfl rfl)
theorem dX1_isHolder_4 : decode cX1_isHolder 4 = .ok (.invokestatic 133, 3) := dk_184 0 133 (dk_at dksX1_isHolder_0 4 rfl rfl)
theorem dX1_isHolder_7 : decode cX1_isHolder 7 = .ok (.ireturn, 1) := dk_172 (dk_at dksX1_isHolder_0 7 rfl rfl)
abbrev cX1_younger : ByteArray := prog_1_method_3_code
def yX1_younger : MethodName := ⟨RX1, "younger", "(LLifeRents$Life;LLifeRents$Life;I)LLifeRents$Life;"⟩
def dkwX1_younger_0 : List UInt8 := [43, 28, 182, 0, 9, 42, 28, 182, 0, 9, 162, 0, 7, 43, 167, 0, 4, 42, 176]
abbrev dktX1_younger_0 : List UInt8 := dkwX1_younger_0 ++ []
theorem dksX1_younger_0 : cX1_younger.data.toList.drop 0 = dktX1_younger_0 := by decide +kernel
theorem dX1_younger_0 : decode cX1_younger 0 = .ok (.aload_n 1, 1) := dk_43 (dk_at dksX1_younger_0 0 rfl rfl)
theorem dX1_younger_1 : decode cX1_younger 1 = .ok (.iload_n 2, 1) := dk_28 (dk_at dksX1_younger_0 1 rfl rfl)
theorem dX1_younger_2 : decode cX1_younger 2 = .ok (.invokevirtual 9, 3) := dk_182 0 9 (dk_at dksX1_younger_0 2 rfl rfl)
theorem dX1_younger_5 : decode cX1_younger 5 = .ok (.aload_n 0, 1) := dk_42 (dk_at dksX1_younger_0 5 rfl rfl)
theorem dX1_younger_6 : decode cX1_younger 6 = .ok (.iload_n 2, 1) := dk_28 (dk_at dksX1_younger_0 6 rfl rfl)
theorem dX1_younger_7 : decode cX1_younger 7 = .ok (.invokevirtual 9, 3) := dk_182 0 9 (dk_at dksX1_younger_0 7 rfl rfl)
theorem dX1_younger_10 : decode cX1_younger 10 = .ok (.if_icmp .ge 7, 3) := dk_162 0 7 (dk_at dksX1_younger_0 10 rfl rfl)
theorem dX1_younger_13 : decode cX1_younger 13 = .ok (.aload_n 1, 1) := dk_43 (dk_at dksX1_younger_0 13 rfl rfl)
theorem dX1_younger_14 : decode cX1_younger 14 = .ok (.goto 4, 3) := dk_167 0 4 (dk_at dksX1_younger_0 14 rfl rfl)
theorem dX1_younger_17 : decode cX1_younger 17 = .ok (.aload_n 0, 1) := dk_42 (dk_at dksX1_younger_0 17 rfl rfl)
theorem dX1_younger_18 : decode cX1_younger 18 = .ok (.areturn, 1) := dk_176 (dk_at dksX1_younger_0 18 rfl rfl)
abbrev cX1_sell : ByteArray := prog_1_method_22_code
def yX1_sell : MethodName := ⟨RX1, "sell", "(IIII)Z"⟩
def dkwX1_sell_4 : List UInt8 := [42, 3, 181, 0, 150, 4, 172]
abbrev dktX1_sell_4 : List UInt8 := dkwX1_sell_4 ++ []
def dkwX1_sell_3 : List UInt8 := [180, 0, 41, 28, 29, 21, 4, 183, 0, 220, 182, 0, 164, 87, 42, 89, 180, 0, 212, 4, 96, 181, 0, 212]
abbrev dktX1_sell_3 : List UInt8 := dkwX1_sell_3 ++ dktX1_sell_4
def dkwX1_sell_2 : List UInt8 := [153, 0, 12, 42, 180, 0, 212, 16, 40, 160, 0, 5, 3, 172, 25, 5, 180, 0, 215, 187, 0, 218, 89, 42]
abbrev dktX1_sell_2 : List UInt8 := dkwX1_sell_2 ++ dktX1_sell_3
def dkwX1_sell_1 : List UInt8 := [153, 0, 36, 28, 29, 159, 0, 31, 21, 4, 4, 25, 5, 28, 42, 180, 0, 41, 182, 0, 209, 184, 0, 133]
abbrev dktX1_sell_1 : List UInt8 := dkwX1_sell_1 ++ dktX1_sell_2
def dkwX1_sell_0 : List UInt8 := [42, 27, 182, 0, 205, 58, 5, 25, 5, 198, 0, 50, 28, 184, 0, 189, 153, 0, 43, 29, 184, 0, 189]
abbrev dktX1_sell_0 : List UInt8 := dkwX1_sell_0 ++ dktX1_sell_1
theorem dksX1_sell_0 : cX1_sell.data.toList.drop 0 = dktX1_sell_0 := by decide +kernel
theorem dksX1_sell_1 : cX1_sell.data.toList.drop 23 = dktX1_sell_1 := dk_seg dksX1_sell_0 23 rfl rfl
theorem dksX1_sell_2 : cX1_sell.data.toList.drop 47 = dktX1_sell_2 := dk_seg dksX1_sell_1 24 rfl rfl
theorem dksX1_sell_3 : cX1_sell.data.toList.drop 71 = dktX1_sell_3 := dk_seg dksX1_sell_2 24 rfl rfl
theorem dksX1_sell_4 : cX1_sell.data.toList.drop 95 = dktX1_sell_4 := dk_seg dksX1_sell_3 24 rfl rfl
theorem dX1_sell_0 : decode cX1_sell 0 = .ok (.aload_n 0, 1) := dk_42 (dk_at dksX1_sell_0 0 rfl rfl)
theorem dX1_sell_1 : decode cX1_sell 1 = .ok (.iload_n 1, 1) := dk_27 (dk_at dksX1_sell_0 1 rfl rfl)
theorem dX1_sell_2 : decode cX1_sell 2 = .ok (.invokevirtual 205, 3) := dk_182 0 205 (dk_at dksX1_sell_0 2 rfl rfl)
theorem dX1_sell_5 : decode cX1_sell 5 = .ok (.astore 5, 2) := dk_58 5 (dk_at dksX1_sell_0 5 rfl rfl)
theorem dX1_sell_7 : decode cX1_sell 7 = .ok (.aload 5, 2) := dk_25 5 (dk_at dksX1_sell_0 7 rfl rfl)
theorem dX1_sell_9 : decode cX1_sell 9 = .ok (.ifnull 50, 3) := dk_198 0 50 (dk_at dksX1_sell_0 9 rfl rfl)
theorem dX1_sell_12 : decode cX1_sell 12 = .ok (.iload_n 2, 1) := dk_28 (dk_at dksX1_sell_0 12 rfl rfl)
theorem dX1_sell_13 : decode cX1_sell 13 = .ok (.invokestatic 189, 3) := dk_184 0 189 (dk_at dksX1_sell_0 13 rfl rfl)
theorem dX1_sell_16 : decode cX1_sell 16 = .ok (.ifCond .eq 43, 3) := dk_153 0 43 (dk_at dksX1_sell_0 16 rfl rfl)
theorem dX1_sell_19 : decode cX1_sell 19 = .ok (.iload_n 3, 1) := dk_29 (dk_at dksX1_sell_0 19 rfl rfl)
theorem dX1_sell_20 : decode cX1_sell 20 = .ok (.invokestatic 189, 3) := dk_184 0 189 (dk_at dksX1_sell_0 20 rfl rfl)
theorem dX1_sell_23 : decode cX1_sell 23 = .ok (.ifCond .eq 36, 3) := dk_153 0 36 (dk_at dksX1_sell_1 0 rfl rfl)
theorem dX1_sell_26 : decode cX1_sell 26 = .ok (.iload_n 2, 1) := dk_28 (dk_at dksX1_sell_1 3 rfl rfl)
theorem dX1_sell_27 : decode cX1_sell 27 = .ok (.iload_n 3, 1) := dk_29 (dk_at dksX1_sell_1 4 rfl rfl)
theorem dX1_sell_28 : decode cX1_sell 28 = .ok (.if_icmp .eq 31, 3) := dk_159 0 31 (dk_at dksX1_sell_1 5 rfl rfl)
theorem dX1_sell_31 : decode cX1_sell 31 = .ok (.iload 4, 2) := dk_21 4 (dk_at dksX1_sell_1 8 rfl rfl)
theorem dX1_sell_33 : decode cX1_sell 33 = .ok (.iconst 1, 1) := dk_4 (dk_at dksX1_sell_1 10 rfl rfl)
theorem dX1_sell_34 : decode cX1_sell 34 = .ok (.aload 5, 2) := dk_25 5 (dk_at dksX1_sell_1 11 rfl rfl)
theorem dX1_sell_36 : decode cX1_sell 36 = .ok (.iload_n 2, 1) := dk_28 (dk_at dksX1_sell_1 13 rfl rfl)
theorem dX1_sell_37 : decode cX1_sell 37 = .ok (.aload_n 0, 1) := dk_42 (dk_at dksX1_sell_1 14 rfl rfl)
theorem dX1_sell_38 : decode cX1_sell 38 = .ok (.getfield 41, 3) := dk_180 0 41 (dk_at dksX1_sell_1 15 rfl rfl)
theorem dX1_sell_41 : decode cX1_sell 41 = .ok (.invokevirtual 209, 3) := dk_182 0 209 (dk_at dksX1_sell_1 18 rfl rfl)
theorem dX1_sell_44 : decode cX1_sell 44 = .ok (.invokestatic 133, 3) := dk_184 0 133 (dk_at dksX1_sell_1 21 rfl rfl)
theorem dX1_sell_47 : decode cX1_sell 47 = .ok (.ifCond .eq 12, 3) := dk_153 0 12 (dk_at dksX1_sell_2 0 rfl rfl)
theorem dX1_sell_50 : decode cX1_sell 50 = .ok (.aload_n 0, 1) := dk_42 (dk_at dksX1_sell_2 3 rfl rfl)
theorem dX1_sell_51 : decode cX1_sell 51 = .ok (.getfield 212, 3) := dk_180 0 212 (dk_at dksX1_sell_2 4 rfl rfl)
theorem dX1_sell_54 : decode cX1_sell 54 = .ok (.bipush 40, 2) := dk_16 40 (dk_at dksX1_sell_2 7 rfl rfl)
theorem dX1_sell_56 : decode cX1_sell 56 = .ok (.if_icmp .ne 5, 3) := dk_160 0 5 (dk_at dksX1_sell_2 9 rfl rfl)
theorem dX1_sell_59 : decode cX1_sell 59 = .ok (.iconst 0, 1) := dk_3 (dk_at dksX1_sell_2 12 rfl rfl)
theorem dX1_sell_60 : decode cX1_sell 60 = .ok (.ireturn, 1) := dk_172 (dk_at dksX1_sell_2 13 rfl rfl)
theorem dX1_sell_61 : decode cX1_sell 61 = .ok (.aload 5, 2) := dk_25 5 (dk_at dksX1_sell_2 14 rfl rfl)
theorem dX1_sell_63 : decode cX1_sell 63 = .ok (.getfield 215, 3) := dk_180 0 215 (dk_at dksX1_sell_2 16 rfl rfl)
theorem dX1_sell_66 : decode cX1_sell 66 = .ok (.new 218, 3) := dk_187 0 218 (dk_at dksX1_sell_2 19 rfl rfl)
theorem dX1_sell_69 : decode cX1_sell 69 = .ok (.dup, 1) := dk_89 (dk_at dksX1_sell_2 22 rfl rfl)
theorem dX1_sell_70 : decode cX1_sell 70 = .ok (.aload_n 0, 1) := dk_42 (dk_at dksX1_sell_2 23 rfl rfl)
theorem dX1_sell_71 : decode cX1_sell 71 = .ok (.getfield 41, 3) := dk_180 0 41 (dk_at dksX1_sell_3 0 rfl rfl)
theorem dX1_sell_74 : decode cX1_sell 74 = .ok (.iload_n 2, 1) := dk_28 (dk_at dksX1_sell_3 3 rfl rfl)
theorem dX1_sell_75 : decode cX1_sell 75 = .ok (.iload_n 3, 1) := dk_29 (dk_at dksX1_sell_3 4 rfl rfl)
theorem dX1_sell_76 : decode cX1_sell 76 = .ok (.iload 4, 2) := dk_21 4 (dk_at dksX1_sell_3 5 rfl rfl)
theorem dX1_sell_78 : decode cX1_sell 78 = .ok (.invokespecial 220, 3) := dk_183 0 220 (dk_at dksX1_sell_3 7 rfl rfl)
theorem dX1_sell_81 : decode cX1_sell 81 = .ok (.invokevirtual 164, 3) := dk_182 0 164 (dk_at dksX1_sell_3 10 rfl rfl)
theorem dX1_sell_84 : decode cX1_sell 84 = .ok (.pop, 1) := dk_87 (dk_at dksX1_sell_3 13 rfl rfl)
theorem dX1_sell_85 : decode cX1_sell 85 = .ok (.aload_n 0, 1) := dk_42 (dk_at dksX1_sell_3 14 rfl rfl)
theorem dX1_sell_86 : decode cX1_sell 86 = .ok (.dup, 1) := dk_89 (dk_at dksX1_sell_3 15 rfl rfl)
theorem dX1_sell_87 : decode cX1_sell 87 = .ok (.getfield 212, 3) := dk_180 0 212 (dk_at dksX1_sell_3 16 rfl rfl)
theorem dX1_sell_90 : decode cX1_sell 90 = .ok (.iconst 1, 1) := dk_4 (dk_at dksX1_sell_3 19 rfl rfl)
theorem dX1_sell_91 : decode cX1_sell 91 = .ok (.iadd, 1) := dk_96 (dk_at dksX1_sell_3 20 rfl rfl)
theorem dX1_sell_92 : decode cX1_sell 92 = .ok (.putfield 212, 3) := dk_181 0 212 (dk_at dksX1_sell_3 21 rfl rfl)
theorem dX1_sell_95 : decode cX1_sell 95 = .ok (.aload_n 0, 1) := dk_42 (dk_at dksX1_sell_4 0 rfl rfl)
theorem dX1_sell_96 : decode cX1_sell 96 = .ok (.iconst 0, 1) := dk_3 (dk_at dksX1_sell_4 1 rfl rfl)
theorem dX1_sell_97 : decode cX1_sell 97 = .ok (.putfield 150, 3) := dk_181 0 150 (dk_at dksX1_sell_4 2 rfl rfl)
theorem dX1_sell_100 : decode cX1_sell 100 = .ok (.iconst 1, 1) := dk_4 (dk_at dksX1_sell_4 5 rfl rfl)
theorem dX1_sell_101 : decode cX1_sell 101 = .ok (.ireturn, 1) := dk_172 (dk_at dksX1_sell_4 6 rfl rfl)
abbrev cX1_aRent : ByteArray := prog_1_method_17_code
def yX1_aRent : MethodName := ⟨RX1, "aRent", "(I)LLifeRents$Rent;"⟩
def dkwX1_aRent_1 : List UInt8 := [182, 0, 168, 192, 0, 172, 167, 0, 4, 1, 176]
abbrev dktX1_aRent_1 : List UInt8 := dkwX1_aRent_1 ++ []
def dkwX1_aRent_0 : List UInt8 := [27, 3, 42, 180, 0, 94, 182, 0, 157, 4, 100, 184, 0, 133, 153, 0, 17, 42, 180, 0, 94, 27]
abbrev dktX1_aRent_0 : List UInt8 := dkwX1_aRent_0 ++ dktX1_aRent_1
theorem dksX1_aRent_0 : cX1_aRent.data.toList.drop 0 = dktX1_aRent_0 := by decide +kernel
theorem dksX1_aRent_1 : cX1_aRent.data.toList.drop 22 = dktX1_aRent_1 := dk_seg dksX1_aRent_0 22 rfl rfl
theorem dX1_aRent_0 : decode cX1_aRent 0 = .ok (.iload_n 1, 1) := dk_27 (dk_at dksX1_aRent_0 0 rfl rfl)
theorem dX1_aRent_1 : decode cX1_aRent 1 = .ok (.iconst 0, 1) := dk_3 (dk_at dksX1_aRent_0 1 rfl rfl)
theorem dX1_aRent_2 : decode cX1_aRent 2 = .ok (.aload_n 0, 1) := dk_42 (dk_at dksX1_aRent_0 2 rfl rfl)
theorem dX1_aRent_3 : decode cX1_aRent 3 = .ok (.getfield 94, 3) := dk_180 0 94 (dk_at dksX1_aRent_0 3 rfl rfl)
theorem dX1_aRent_6 : decode cX1_aRent 6 = .ok (.invokevirtual 157, 3) := dk_182 0 157 (dk_at dksX1_aRent_0 6 rfl rfl)
theorem dX1_aRent_9 : decode cX1_aRent 9 = .ok (.iconst 1, 1) := dk_4 (dk_at dksX1_aRent_0 9 rfl rfl)
theorem dX1_aRent_10 : decode cX1_aRent 10 = .ok (.isub, 1) := dk_100 (dk_at dksX1_aRent_0 10 rfl rfl)
theorem dX1_aRent_11 : decode cX1_aRent 11 = .ok (.invokestatic 133, 3) := dk_184 0 133 (dk_at dksX1_aRent_0 11 rfl rfl)
theorem dX1_aRent_14 : decode cX1_aRent 14 = .ok (.ifCond .eq 17, 3) := dk_153 0 17 (dk_at dksX1_aRent_0 14 rfl rfl)
theorem dX1_aRent_17 : decode cX1_aRent 17 = .ok (.aload_n 0, 1) := dk_42 (dk_at dksX1_aRent_0 17 rfl rfl)
theorem dX1_aRent_18 : decode cX1_aRent 18 = .ok (.getfield 94, 3) := dk_180 0 94 (dk_at dksX1_aRent_0 18 rfl rfl)
theorem dX1_aRent_21 : decode cX1_aRent 21 = .ok (.iload_n 1, 1) := dk_27 (dk_at dksX1_aRent_0 21 rfl rfl)
theorem dX1_aRent_22 : decode cX1_aRent 22 = .ok (.invokevirtual 168, 3) := dk_182 0 168 (dk_at dksX1_aRent_1 0 rfl rfl)
theorem dX1_aRent_25 : decode cX1_aRent 25 = .ok (.checkcast 172, 3) := dk_192 0 172 (dk_at dksX1_aRent_1 3 rfl rfl)
theorem dX1_aRent_28 : decode cX1_aRent 28 = .ok (.goto 4, 3) := dk_167 0 4 (dk_at dksX1_aRent_1 6 rfl rfl)
theorem dX1_aRent_31 : decode cX1_aRent 31 = .ok (.aconst_null, 1) := dk_1 (dk_at dksX1_aRent_1 9 rfl rfl)
theorem dX1_aRent_32 : decode cX1_aRent 32 = .ok (.areturn, 1) := dk_176 (dk_at dksX1_aRent_1 10 rfl rfl)
abbrev cX1_parts : ByteArray := prog_1_method_23_code
def yX1_parts : MethodName := ⟨RX1, "parts", "(III)I"⟩
def dkwX1_parts_1 : List UInt8 := [167, 0, 13, 42, 27, 182, 0, 205, 28, 29, 182, 0, 209, 172]
abbrev dktX1_parts_1 : List UInt8 := dkwX1_parts_1 ++ []
def dkwX1_parts_0 : List UInt8 := [42, 27, 182, 0, 205, 198, 0, 17, 28, 184, 0, 189, 153, 0, 10, 29, 184, 0, 223, 154, 0, 7, 2]
abbrev dktX1_parts_0 : List UInt8 := dkwX1_parts_0 ++ dktX1_parts_1
theorem dksX1_parts_0 : cX1_parts.data.toList.drop 0 = dktX1_parts_0 := by decide +kernel
theorem dksX1_parts_1 : cX1_parts.data.toList.drop 23 = dktX1_parts_1 := dk_seg dksX1_parts_0 23 rfl rfl
theorem dX1_parts_0 : decode cX1_parts 0 = .ok (.aload_n 0, 1) := dk_42 (dk_at dksX1_parts_0 0 rfl rfl)
theorem dX1_parts_1 : decode cX1_parts 1 = .ok (.iload_n 1, 1) := dk_27 (dk_at dksX1_parts_0 1 rfl rfl)
theorem dX1_parts_2 : decode cX1_parts 2 = .ok (.invokevirtual 205, 3) := dk_182 0 205 (dk_at dksX1_parts_0 2 rfl rfl)
theorem dX1_parts_5 : decode cX1_parts 5 = .ok (.ifnull 17, 3) := dk_198 0 17 (dk_at dksX1_parts_0 5 rfl rfl)
theorem dX1_parts_8 : decode cX1_parts 8 = .ok (.iload_n 2, 1) := dk_28 (dk_at dksX1_parts_0 8 rfl rfl)
theorem dX1_parts_9 : decode cX1_parts 9 = .ok (.invokestatic 189, 3) := dk_184 0 189 (dk_at dksX1_parts_0 9 rfl rfl)
theorem dX1_parts_12 : decode cX1_parts 12 = .ok (.ifCond .eq 10, 3) := dk_153 0 10 (dk_at dksX1_parts_0 12 rfl rfl)
theorem dX1_parts_15 : decode cX1_parts 15 = .ok (.iload_n 3, 1) := dk_29 (dk_at dksX1_parts_0 15 rfl rfl)
theorem dX1_parts_16 : decode cX1_parts 16 = .ok (.invokestatic 223, 3) := dk_184 0 223 (dk_at dksX1_parts_0 16 rfl rfl)
theorem dX1_parts_19 : decode cX1_parts 19 = .ok (.ifCond .ne 7, 3) := dk_154 0 7 (dk_at dksX1_parts_0 19 rfl rfl)
theorem dX1_parts_22 : decode cX1_parts 22 = .ok (.iconst (-1), 1) := dk_2 (dk_at dksX1_parts_0 22 rfl rfl)
theorem dX1_parts_23 : decode cX1_parts 23 = .ok (.goto 13, 3) := dk_167 0 13 (dk_at dksX1_parts_1 0 rfl rfl)
theorem dX1_parts_26 : decode cX1_parts 26 = .ok (.aload_n 0, 1) := dk_42 (dk_at dksX1_parts_1 3 rfl rfl)
theorem dX1_parts_27 : decode cX1_parts 27 = .ok (.iload_n 1, 1) := dk_27 (dk_at dksX1_parts_1 4 rfl rfl)
theorem dX1_parts_28 : decode cX1_parts 28 = .ok (.invokevirtual 205, 3) := dk_182 0 205 (dk_at dksX1_parts_1 5 rfl rfl)
theorem dX1_parts_31 : decode cX1_parts 31 = .ok (.iload_n 2, 1) := dk_28 (dk_at dksX1_parts_1 8 rfl rfl)
theorem dX1_parts_32 : decode cX1_parts 32 = .ok (.iload_n 3, 1) := dk_29 (dk_at dksX1_parts_1 9 rfl rfl)
theorem dX1_parts_33 : decode cX1_parts 33 = .ok (.invokevirtual 209, 3) := dk_182 0 209 (dk_at dksX1_parts_1 10 rfl rfl)
theorem dX1_parts_36 : decode cX1_parts 36 = .ok (.ireturn, 1) := dk_172 (dk_at dksX1_parts_1 13 rfl rfl)
abbrev cX1_isHalf : ByteArray := prog_1_method_18_code
def yX1_isHalf : MethodName := ⟨RX1, "isHalf", "(I)Z"⟩
def dkwX1_isHalf_0 : List UInt8 := [26, 3, 16, 79, 184, 0, 133, 172]
abbrev dktX1_isHalf_0 : List UInt8 := dkwX1_isHalf_0 ++ []
theorem dksX1_isHalf_0 : cX1_isHalf.data.toList.drop 0 = dktX1_isHalf_0 := by decide +kernel
theorem dX1_isHalf_0 : decode cX1_isHalf 0 = .ok (.iload_n 0, 1) := dk_26 (dk_at dksX1_isHalf_0 0 rfl rfl)
theorem dX1_isHalf_1 : decode cX1_isHalf 1 = .ok (.iconst 0, 1) := dk_3 (dk_at dksX1_isHalf_0 1 rfl rfl)
theorem dX1_isHalf_2 : decode cX1_isHalf 2 = .ok (.bipush 79, 2) := dk_16 79 (dk_at dksX1_isHalf_0 2 rfl rfl)
theorem dX1_isHalf_4 : decode cX1_isHalf 4 = .ok (.invokestatic 133, 3) := dk_184 0 133 (dk_at dksX1_isHalf_0 4 rfl rfl)
theorem dX1_isHalf_7 : decode cX1_isHalf 7 = .ok (.ireturn, 1) := dk_172 (dk_at dksX1_isHalf_0 7 rfl rfl)
abbrev cX1_note : ByteArray := prog_1_method_24_code
def yX1_note : MethodName := ⟨RX1, "note", "(IIZ)I"⟩
def dkwX1_note_4 : List UInt8 := [182, 0, 157, 4, 100, 172]
abbrev dktX1_note_4 : List UInt8 := dkwX1_note_4 ++ []
def dkwX1_note_3 : List UInt8 := [180, 0, 41, 25, 4, 28, 183, 0, 233, 182, 0, 164, 87, 42, 3, 181, 0, 150, 42, 180, 0, 97]
abbrev dktX1_note_3 : List UInt8 := dkwX1_note_3 ++ dktX1_note_4
def dkwX1_note_2 : List UInt8 := [187, 0, 226, 89, 42, 180, 0, 41, 25, 4, 28, 183, 0, 228, 167, 0, 17, 187, 0, 231, 89, 42]
abbrev dktX1_note_2 : List UInt8 := dkwX1_note_2 ++ dktX1_note_3
def dkwX1_note_1 : List UInt8 := [42, 180, 0, 97, 182, 0, 157, 16, 60, 160, 0, 5, 2, 172, 42, 180, 0, 97, 29, 153, 0, 20]
abbrev dktX1_note_1 : List UInt8 := dkwX1_note_1 ++ dktX1_note_2
def dkwX1_note_0 : List UInt8 := [42, 27, 182, 0, 174, 58, 4, 25, 4, 198, 0, 27, 28, 3, 42, 180, 0, 41, 184, 0, 133, 153, 0, 15]
abbrev dktX1_note_0 : List UInt8 := dkwX1_note_0 ++ dktX1_note_1
theorem dksX1_note_0 : cX1_note.data.toList.drop 0 = dktX1_note_0 := by decide +kernel
theorem dksX1_note_1 : cX1_note.data.toList.drop 24 = dktX1_note_1 := dk_seg dksX1_note_0 24 rfl rfl
theorem dksX1_note_2 : cX1_note.data.toList.drop 46 = dktX1_note_2 := dk_seg dksX1_note_1 22 rfl rfl
theorem dksX1_note_3 : cX1_note.data.toList.drop 68 = dktX1_note_3 := dk_seg dksX1_note_2 22 rfl rfl
theorem dksX1_note_4 : cX1_note.data.toList.drop 90 = dktX1_note_4 := dk_seg dksX1_note_3 22 rfl rfl
theorem dX1_note_0 : decode cX1_note 0 = .ok (.aload_n 0, 1) := dk_42 (dk_at dksX1_note_0 0 rfl rfl)
theorem dX1_note_1 : decode cX1_note 1 = .ok (.iload_n 1, 1) := dk_27 (dk_at dksX1_note_0 1 rfl rfl)
theorem dX1_note_2 : decode cX1_note 2 = .ok (.invokevirtual 174, 3) := dk_182 0 174 (dk_at dksX1_note_0 2 rfl rfl)
theorem dX1_note_5 : decode cX1_note 5 = .ok (.astore 4, 2) := dk_58 4 (dk_at dksX1_note_0 5 rfl rfl)
theorem dX1_note_7 : decode cX1_note 7 = .ok (.aload 4, 2) := dk_25 4 (dk_at dksX1_note_0 7 rfl rfl)
theorem dX1_note_9 : decode cX1_note 9 = .ok (.ifnull 27, 3) := dk_198 0 27 (dk_at dksX1_note_0 9 rfl rfl)
theorem dX1_note_12 : decode cX1_note 12 = .ok (.iload_n 2, 1) := dk_28 (dk_at dksX1_note_0 12 rfl rfl)
theorem dX1_note_13 : decode cX1_note 13 = .ok (.iconst 0, 1) := dk_3 (dk_at dksX1_note_0 13 rfl rfl)
theorem dX1_note_14 : decode cX1_note 14 = .ok (.aload_n 0, 1) := dk_42 (dk_at dksX1_note_0 14 rfl rfl)
theorem dX1_note_15 : decode cX1_note 15 = .ok (.getfield 41, 3) := dk_180 0 41 (dk_at dksX1_note_0 15 rfl rfl)
theorem dX1_note_18 : decode cX1_note 18 = .ok (.invokestatic 133, 3) := dk_184 0 133 (dk_at dksX1_note_0 18 rfl rfl)
theorem dX1_note_21 : decode cX1_note 21 = .ok (.ifCond .eq 15, 3) := dk_153 0 15 (dk_at dksX1_note_0 21 rfl rfl)
theorem dX1_note_24 : decode cX1_note 24 = .ok (.aload_n 0, 1) := dk_42 (dk_at dksX1_note_1 0 rfl rfl)
theorem dX1_note_25 : decode cX1_note 25 = .ok (.getfield 97, 3) := dk_180 0 97 (dk_at dksX1_note_1 1 rfl rfl)
theorem dX1_note_28 : decode cX1_note 28 = .ok (.invokevirtual 157, 3) := dk_182 0 157 (dk_at dksX1_note_1 4 rfl rfl)
theorem dX1_note_31 : decode cX1_note 31 = .ok (.bipush 60, 2) := dk_16 60 (dk_at dksX1_note_1 7 rfl rfl)
theorem dX1_note_33 : decode cX1_note 33 = .ok (.if_icmp .ne 5, 3) := dk_160 0 5 (dk_at dksX1_note_1 9 rfl rfl)
theorem dX1_note_36 : decode cX1_note 36 = .ok (.iconst (-1), 1) := dk_2 (dk_at dksX1_note_1 12 rfl rfl)
theorem dX1_note_37 : decode cX1_note 37 = .ok (.ireturn, 1) := dk_172 (dk_at dksX1_note_1 13 rfl rfl)
theorem dX1_note_38 : decode cX1_note 38 = .ok (.aload_n 0, 1) := dk_42 (dk_at dksX1_note_1 14 rfl rfl)
theorem dX1_note_39 : decode cX1_note 39 = .ok (.getfield 97, 3) := dk_180 0 97 (dk_at dksX1_note_1 15 rfl rfl)
theorem dX1_note_42 : decode cX1_note 42 = .ok (.iload_n 3, 1) := dk_29 (dk_at dksX1_note_1 18 rfl rfl)
theorem dX1_note_43 : decode cX1_note 43 = .ok (.ifCond .eq 20, 3) := dk_153 0 20 (dk_at dksX1_note_1 19 rfl rfl)
theorem dX1_note_46 : decode cX1_note 46 = .ok (.new 226, 3) := dk_187 0 226 (dk_at dksX1_note_2 0 rfl rfl)
theorem dX1_note_49 : decode cX1_note 49 = .ok (.dup, 1) := dk_89 (dk_at dksX1_note_2 3 rfl rfl)
theorem dX1_note_50 : decode cX1_note 50 = .ok (.aload_n 0, 1) := dk_42 (dk_at dksX1_note_2 4 rfl rfl)
theorem dX1_note_51 : decode cX1_note 51 = .ok (.getfield 41, 3) := dk_180 0 41 (dk_at dksX1_note_2 5 rfl rfl)
theorem dX1_note_54 : decode cX1_note 54 = .ok (.aload 4, 2) := dk_25 4 (dk_at dksX1_note_2 8 rfl rfl)
theorem dX1_note_56 : decode cX1_note 56 = .ok (.iload_n 2, 1) := dk_28 (dk_at dksX1_note_2 10 rfl rfl)
theorem dX1_note_57 : decode cX1_note 57 = .ok (.invokespecial 228, 3) := dk_183 0 228 (dk_at dksX1_note_2 11 rfl rfl)
theorem dX1_note_60 : decode cX1_note 60 = .ok (.goto 17, 3) := dk_167 0 17 (dk_at dksX1_note_2 14 rfl rfl)
theorem dX1_note_63 : decode cX1_note 63 = .ok (.new 231, 3) := dk_187 0 231 (dk_at dksX1_note_2 17 rfl rfl)
theorem dX1_note_66 : decode cX1_note 66 = .ok (.dup, 1) := dk_89 (dk_at dksX1_note_2 20 rfl rfl)
theorem dX1_note_67 : decode cX1_note 67 = .ok (.aload_n 0, 1) := dk_42 (dk_at dksX1_note_2 21 rfl rfl)
theorem dX1_note_68 : decode cX1_note 68 = .ok (.getfield 41, 3) := dk_180 0 41 (dk_at dksX1_note_3 0 rfl rfl)
theorem dX1_note_71 : decode cX1_note 71 = .ok (.aload 4, 2) := dk_25 4 (dk_at dksX1_note_3 3 rfl rfl)
theorem dX1_note_73 : decode cX1_note 73 = .ok (.iload_n 2, 1) := dk_28 (dk_at dksX1_note_3 5 rfl rfl)
theorem dX1_note_74 : decode cX1_note 74 = .ok (.invokespecial 233, 3) := dk_183 0 233 (dk_at dksX1_note_3 6 rfl rfl)
theorem dX1_note_77 : decode cX1_note 77 = .ok (.invokevirtual 164, 3) := dk_182 0 164 (dk_at dksX1_note_3 9 rfl rfl)
theorem dX1_note_80 : decode cX1_note 80 = .ok (.pop, 1) := dk_87 (dk_at dksX1_note_3 12 rfl rfl)
theorem dX1_note_81 : decode cX1_note 81 = .ok (.aload_n 0, 1) := dk_42 (dk_at dksX1_note_3 13 rfl rfl)
theorem dX1_note_82 : decode cX1_note 82 = .ok (.iconst 0, 1) := dk_3 (dk_at dksX1_note_3 14 rfl rfl)
theorem dX1_note_83 : decode cX1_note 83 = .ok (.putfield 150, 3) := dk_181 0 150 (dk_at dksX1_note_3 15 rfl rfl)
theorem dX1_note_86 : decode cX1_note 86 = .ok (.aload_n 0, 1) := dk_42 (dk_at dksX1_note_3 18 rfl rfl)
theorem dX1_note_87 : decode cX1_note 87 = .ok (.getfield 97, 3) := dk_180 0 97 (dk_at dksX1_note_3 19 rfl rfl)
theorem dX1_note_90 : decode cX1_note 90 = .ok (.invokevirtual 157, 3) := dk_182 0 157 (dk_at dksX1_note_4 0 rfl rfl)
theorem dX1_note_93 : decode cX1_note 93 = .ok (.iconst 1, 1) := dk_4 (dk_at dksX1_note_4 3 rfl rfl)
theorem dX1_note_94 : decode cX1_note 94 = .ok (.isub, 1) := dk_100 (dk_at dksX1_note_4 4 rfl rfl)
theorem dX1_note_95 : decode cX1_note 95 = .ok (.ireturn, 1) := dk_172 (dk_at dksX1_note_4 5 rfl rfl)
abbrev cX1_strike : ByteArray := prog_1_method_25_code
def yX1_strike : MethodName := ⟨RX1, "strike", "(I)I"⟩
def dkwX1_strike_2 : List UInt8 := [182, 0, 164, 87, 42, 3, 181, 0, 150, 42, 180, 0, 97, 182, 0, 157, 4, 100, 172]
abbrev dktX1_strike_2 : List UInt8 := dkwX1_strike_2 ++ []
def dkwX1_strike_1 : List UInt8 := [16, 60, 160, 0, 5, 2, 172, 42, 180, 0, 97, 187, 0, 234, 89, 42, 180, 0, 41, 27, 183, 0, 236]
abbrev dktX1_strike_1 : List UInt8 := dkwX1_strike_1 ++ dktX1_strike_2
def dkwX1_strike_0 : List UInt8 := [27, 3, 42, 180, 0, 97, 182, 0, 157, 4, 100, 184, 0, 133, 153, 0, 15, 42, 180, 0, 97, 182, 0, 157]
abbrev dktX1_strike_0 : List UInt8 := dkwX1_strike_0 ++ dktX1_strike_1
theorem dksX1_strike_0 : cX1_strike.data.toList.drop 0 = dktX1_strike_0 := by decide +kernel
theorem dksX1_strike_1 : cX1_strike.data.toList.drop 24 = dktX1_strike_1 := dk_seg dksX1_strike_0 24 rfl rfl
theorem dksX1_strike_2 : cX1_strike.data.toList.drop 47 = dktX1_strike_2 := dk_seg dksX1_strike_1 23 rfl rfl
theorem dX1_strike_0 : decode cX1_strike 0 = .ok (.iload_n 1, 1) := dk_27 (dk_at dksX1_strike_0 0 rfl rfl)
theorem dX1_strike_1 : decode cX1_strike 1 = .ok (.iconst 0, 1) := dk_3 (dk_at dksX1_strike_0 1 rfl rfl)
theorem dX1_strike_2 : decode cX1_strike 2 = .ok (.aload_n 0, 1) := dk_42 (dk_at dksX1_strike_0 2 rfl rfl)
theorem dX1_strike_3 : decode cX1_strike 3 = .ok (.getfield 97, 3) := dk_180 0 97 (dk_at dksX1_strike_0 3 rfl rfl)
theorem dX1_strike_6 : decode cX1_strike 6 = .ok (.invokevirtual 157, 3) := dk_182 0 157 (dk_at dksX1_strike_0 6 rfl rfl)
theorem dX1_strike_9 : decode cX1_strike 9 = .ok (.iconst 1, 1) := dk_4 (dk_at dksX1_strike_0 9 rfl rfl)
theorem dX1_strike_10 : decode cX1_strike 10 = .ok (.isub, 1) := dk_100 (dk_at dksX1_strike_0 10 rfl rfl)
theorem dX1_strike_11 : decode cX1_strike 11 = .ok (.invokestatic 133, 3) := dk_184 0 133 (dk_at dksX1_strike_0 11 rfl rfl)
theorem dX1_strike_14 : decode cX1_strike 14 = .ok (.ifCond .eq 15, 3) := dk_153 0 15 (dk_at dksX1_strike_0 14 rfl rfl)
theorem dX1_strike_17 : decode cX1_strike 17 = .ok (.aload_n 0, 1) := dk_42 (dk_at dksX1_strike_0 17 rfl rfl)
theorem dX1_strike_18 : decode cX1_strike 18 = .ok (.getfield 97, 3) := dk_180 0 97 (dk_at dksX1_strike_0 18 rfl rfl)
theorem dX1_strike_21 : decode cX1_strike 21 = .ok (.invokevirtual 157, 3) := dk_182 0 157 (dk_at dksX1_strike_0 21 rfl rfl)
theorem dX1_strike_24 : decode cX1_strike 24 = .ok (.bipush 60, 2) := dk_16 60 (dk_at dksX1_strike_1 0 rfl rfl)
theorem dX1_strike_26 : decode cX1_strike 26 = .ok (.if_icmp .ne 5, 3) := dk_160 0 5 (dk_at dksX1_strike_1 2 rfl rfl)
theorem dX1_strike_29 : decode cX1_strike 29 = .ok (.iconst (-1), 1) := dk_2 (dk_at dksX1_strike_1 5 rfl rfl)
theorem dX1_strike_30 : decode cX1_strike 30 = .ok (.ireturn, 1) := dk_172 (dk_at dksX1_strike_1 6 rfl rfl)
theorem dX1_strike_31 : decode cX1_strike 31 = .ok (.aload_n 0, 1) := dk_42 (dk_at dksX1_strike_1 7 rfl rfl)
theorem dX1_strike_32 : decode cX1_strike 32 = .ok (.getfield 97, 3) := dk_180 0 97 (dk_at dksX1_strike_1 8 rfl rfl)
theorem dX1_strike_35 : decode cX1_strike 35 = .ok (.new 234, 3) := dk_187 0 234 (dk_at dksX1_strike_1 11 rfl rfl)
theorem dX1_strike_38 : decode cX1_strike 38 = .ok (.dup, 1) := dk_89 (dk_at dksX1_strike_1 14 rfl rfl)
theorem dX1_strike_39 : decode cX1_strike 39 = .ok (.aload_n 0, 1) := dk_42 (dk_at dksX1_strike_1 15 rfl rfl)
theorem dX1_strike_40 : decode cX1_strike 40 = .ok (.getfield 41, 3) := dk_180 0 41 (dk_at dksX1_strike_1 16 rfl rfl)
theorem dX1_strike_43 : decode cX1_strike 43 = .ok (.iload_n 1, 1) := dk_27 (dk_at dksX1_strike_1 19 rfl rfl)
theorem dX1_strike_44 : decode cX1_strike 44 = .ok (.invokespecial 236, 3) := dk_183 0 236 (dk_at dksX1_strike_1 20 rfl rfl)
theorem dX1_strike_47 : decode cX1_strike 47 = .ok (.invokevirtual 164, 3) := dk_182 0 164 (dk_at dksX1_strike_2 0 rfl rfl)
theorem dX1_strike_50 : decode cX1_strike 50 = .ok (.pop, 1) := dk_87 (dk_at dksX1_strike_2 3 rfl rfl)
theorem dX1_strike_51 : decode cX1_strike 51 = .ok (.aload_n 0, 1) := dk_42 (dk_at dksX1_strike_2 4 rfl rfl)
theorem dX1_strike_52 : decode cX1_strike 52 = .ok (.iconst 0, 1) := dk_3 (dk_at dksX1_strike_2 5 rfl rfl)
theorem dX1_strike_53 : decode cX1_strike 53 = .ok (.putfield 150, 3) := dk_181 0 150 (dk_at dksX1_strike_2 6 rfl rfl)
theorem dX1_strike_56 : decode cX1_strike 56 = .ok (.aload_n 0, 1) := dk_42 (dk_at dksX1_strike_2 9 rfl rfl)
theorem dX1_strike_57 : decode cX1_strike 57 = .ok (.getfield 97, 3) := dk_180 0 97 (dk_at dksX1_strike_2 10 rfl rfl)
theorem dX1_strike_60 : decode cX1_strike 60 = .ok (.invokevirtual 157, 3) := dk_182 0 157 (dk_at dksX1_strike_2 13 rfl rfl)
theorem dX1_strike_63 : decode cX1_strike 63 = .ok (.iconst 1, 1) := dk_4 (dk_at dksX1_strike_2 16 rfl rfl)
theorem dX1_strike_64 : decode cX1_strike 64 = .ok (.isub, 1) := dk_100 (dk_at dksX1_strike_2 17 rfl rfl)
theorem dX1_strike_65 : decode cX1_strike 65 = .ok (.ireturn, 1) := dk_172 (dk_at dksX1_strike_2 18 rfl rfl)
abbrev cX1_dead : ByteArray := prog_1_method_26_code
def yX1_dead : MethodName := ⟨RX1, "dead", "(II)I"⟩
def dkwX1_dead_1 : List UInt8 := [28, 182, 0, 239, 180, 0, 243, 27, 46, 172]
abbrev dktX1_dead_1 : List UInt8 := dkwX1_dead_1 ++ []
def dkwX1_dead_0 : List UInt8 := [42, 27, 182, 0, 174, 198, 0, 10, 28, 184, 0, 223, 154, 0, 8, 16, 254, 167, 0, 16, 42, 180, 0, 111]
abbrev dktX1_dead_0 : List UInt8 := dkwX1_dead_0 ++ dktX1_dead_1
theorem dksX1_dead_0 : cX1_dead.data.toList.drop 0 = dktX1_dead_0 := by decide +kernel
theorem dksX1_dead_1 : cX1_dead.data.toList.drop 24 = dktX1_dead_1 := dk_seg dksX1_dead_0 24 rfl rfl
theorem dX1_dead_0 : decode cX1_dead 0 = .ok (.aload_n 0, 1) := dk_42 (dk_at dksX1_dead_0 0 rfl rfl)
theorem dX1_dead_1 : decode cX1_dead 1 = .ok (.iload_n 1, 1) := dk_27 (dk_at dksX1_dead_0 1 rfl rfl)
theorem dX1_dead_2 : decode cX1_dead 2 = .ok (.invokevirtual 174, 3) := dk_182 0 174 (dk_at dksX1_dead_0 2 rfl rfl)
theorem dX1_dead_5 : decode cX1_dead 5 = .ok (.ifnull 10, 3) := dk_198 0 10 (dk_at dksX1_dead_0 5 rfl rfl)
theorem dX1_dead_8 : decode cX1_dead 8 = .ok (.iload_n 2, 1) := dk_28 (dk_at dksX1_dead_0 8 rfl rfl)
theorem dX1_dead_9 : decode cX1_dead 9 = .ok (.invokestatic 223, 3) := dk_184 0 223 (dk_at dksX1_dead_0 9 rfl rfl)
theorem dX1_dead_12 : decode cX1_dead 12 = .ok (.ifCond .ne 8, 3) := dk_154 0 8 (dk_at dksX1_dead_0 12 rfl rfl)
theorem dX1_dead_15 : decode cX1_dead 15 = .ok (.bipush (-2), 2) := dk_16 254 (dk_at dksX1_dead_0 15 rfl rfl)
theorem dX1_dead_17 : decode cX1_dead 17 = .ok (.goto 16, 3) := dk_167 0 16 (dk_at dksX1_dead_0 17 rfl rfl)
theorem dX1_dead_20 : decode cX1_dead 20 = .ok (.aload_n 0, 1) := dk_42 (dk_at dksX1_dead_0 20 rfl rfl)
theorem dX1_dead_21 : decode cX1_dead 21 = .ok (.getfield 111, 3) := dk_180 0 111 (dk_at dksX1_dead_0 21 rfl rfl)
theorem dX1_dead_24 : decode cX1_dead 24 = .ok (.iload_n 2, 1) := dk_28 (dk_at dksX1_dead_1 0 rfl rfl)
theorem dX1_dead_25 : decode cX1_dead 25 = .ok (.invokevirtual 239, 3) := dk_182 0 239 (dk_at dksX1_dead_1 1 rfl rfl)
theorem dX1_dead_28 : decode cX1_dead 28 = .ok (.getfield 243, 3) := dk_180 0 243 (dk_at dksX1_dead_1 4 rfl rfl)
theorem dX1_dead_31 : decode cX1_dead 31 = .ok (.iload_n 1, 1) := dk_27 (dk_at dksX1_dead_1 7 rfl rfl)
theorem dX1_dead_32 : decode cX1_dead 32 = .ok (.iaload, 1) := dk_46 (dk_at dksX1_dead_1 8 rfl rfl)
theorem dX1_dead_33 : decode cX1_dead 33 = .ok (.ireturn, 1) := dk_172 (dk_at dksX1_dead_1 9 rfl rfl)
abbrev cX1_holds : ByteArray := prog_1_method_27_code
def yX1_holds : MethodName := ⟨RX1, "holds", "(II)I"⟩
def dkwX1_holds_3 : List UInt8 := [5, 167, 0, 4, 4, 172]
abbrev dktX1_holds_3 : List UInt8 := dkwX1_holds_3 ++ []
def dkwX1_holds_2 : List UInt8 := [167, 0, 29, 42, 180, 0, 97, 27, 182, 0, 168, 192, 0, 248, 42, 180, 0, 111, 182, 0, 250, 153, 0, 7]
abbrev dktX1_holds_2 : List UInt8 := dkwX1_holds_2 ++ dktX1_holds_3
def dkwX1_holds_1 : List UInt8 := [2, 172, 42, 180, 0, 111, 28, 182, 0, 239, 87, 42, 180, 0, 111, 27, 182, 0, 245, 154, 0, 7, 3]
abbrev dktX1_holds_1 : List UInt8 := dkwX1_holds_1 ++ dktX1_holds_2
def dkwX1_holds_0 : List UInt8 := [27, 3, 42, 180, 0, 97, 182, 0, 157, 4, 100, 184, 0, 133, 153, 0, 10, 28, 184, 0, 223, 154, 0, 5]
abbrev dktX1_holds_0 : List UInt8 := dkwX1_holds_0 ++ dktX1_holds_1
theorem dksX1_holds_0 : cX1_holds.data.toList.drop 0 = dktX1_holds_0 := by decide +kernel
theorem dksX1_holds_1 : cX1_holds.data.toList.drop 24 = dktX1_holds_1 := dk_seg dksX1_holds_0 24 rfl rfl
theorem dksX1_holds_2 : cX1_holds.data.toList.drop 47 = dktX1_holds_2 := dk_seg dksX1_holds_1 23 rfl rfl
theorem dksX1_holds_3 : cX1_holds.data.toList.drop 71 = dktX1_holds_3 := dk_seg dksX1_holds_2 24 rfl rfl
theorem dX1_holds_0 : decode cX1_holds 0 = .ok (.iload_n 1, 1) := dk_27 (dk_at dksX1_holds_0 0 rfl rfl)
theorem dX1_holds_1 : decode cX1_holds 1 = .ok (.iconst 0, 1) := dk_3 (dk_at dksX1_holds_0 1 rfl rfl)
theorem dX1_holds_2 : decode cX1_holds 2 = .ok (.aload_n 0, 1) := dk_42 (dk_at dksX1_holds_0 2 rfl rfl)
theorem dX1_holds_3 : decode cX1_holds 3 = .ok (.getfield 97, 3) := dk_180 0 97 (dk_at dksX1_holds_0 3 rfl rfl)
theorem dX1_holds_6 : decode cX1_holds 6 = .ok (.invokevirtual 157, 3) := dk_182 0 157 (dk_at dksX1_holds_0 6 rfl rfl)
theorem dX1_holds_9 : decode cX1_holds 9 = .ok (.iconst 1, 1) := dk_4 (dk_at dksX1_holds_0 9 rfl rfl)
theorem dX1_holds_10 : decode cX1_holds 10 = .ok (.isub, 1) := dk_100 (dk_at dksX1_holds_0 10 rfl rfl)
theorem dX1_holds_11 : decode cX1_holds 11 = .ok (.invokestatic 133, 3) := dk_184 0 133 (dk_at dksX1_holds_0 11 rfl rfl)
theorem dX1_holds_14 : decode cX1_holds 14 = .ok (.ifCond .eq 10, 3) := dk_153 0 10 (dk_at dksX1_holds_0 14 rfl rfl)
theorem dX1_holds_17 : decode cX1_holds 17 = .ok (.iload_n 2, 1) := dk_28 (dk_at dksX1_holds_0 17 rfl rfl)
theorem dX1_holds_18 : decode cX1_holds 18 = .ok (.invokestatic 223, 3) := dk_184 0 223 (dk_at dksX1_holds_0 18 rfl rfl)
theorem dX1_holds_21 : decode cX1_holds 21 = .ok (.ifCond .ne 5, 3) := dk_154 0 5 (dk_at dksX1_holds_0 21 rfl rfl)
theorem dX1_holds_24 : decode cX1_holds 24 = .ok (.iconst (-1), 1) := dk_2 (dk_at dksX1_holds_1 0 rfl rfl)
theorem dX1_holds_25 : decode cX1_holds 25 = .ok (.ireturn, 1) := dk_172 (dk_at dksX1_holds_1 1 rfl rfl)
theorem dX1_holds_26 : decode cX1_holds 26 = .ok (.aload_n 0, 1) := dk_42 (dk_at dksX1_holds_1 2 rfl rfl)
theorem dX1_holds_27 : decode cX1_holds 27 = .ok (.getfield 111, 3) := dk_180 0 111 (dk_at dksX1_holds_1 3 rfl rfl)
theorem dX1_holds_30 : decode cX1_holds 30 = .ok (.iload_n 2, 1) := dk_28 (dk_at dksX1_holds_1 6 rfl rfl)
theorem dX1_holds_31 : decode cX1_holds 31 = .ok (.invokevirtual 239, 3) := dk_182 0 239 (dk_at dksX1_holds_1 7 rfl rfl)
theorem dX1_holds_34 : decode cX1_holds 34 = .ok (.pop, 1) := dk_87 (dk_at dksX1_holds_1 10 rfl rfl)
theorem dX1_holds_35 : decode cX1_holds 35 = .ok (.aload_n 0, 1) := dk_42 (dk_at dksX1_holds_1 11 rfl rfl)
theorem dX1_holds_36 : decode cX1_holds 36 = .ok (.getfield 111, 3) := dk_180 0 111 (dk_at dksX1_holds_1 12 rfl rfl)
theorem dX1_holds_39 : decode cX1_holds 39 = .ok (.iload_n 1, 1) := dk_27 (dk_at dksX1_holds_1 15 rfl rfl)
theorem dX1_holds_40 : decode cX1_holds 40 = .ok (.invokevirtual 245, 3) := dk_182 0 245 (dk_at dksX1_holds_1 16 rfl rfl)
theorem dX1_holds_43 : decode cX1_holds 43 = .ok (.ifCond .ne 7, 3) := dk_154 0 7 (dk_at dksX1_holds_1 19 rfl rfl)
theorem dX1_holds_46 : decode cX1_holds 46 = .ok (.iconst 0, 1) := dk_3 (dk_at dksX1_holds_1 22 rfl rfl)
theorem dX1_holds_47 : decode cX1_holds 47 = .ok (.goto 29, 3) := dk_167 0 29 (dk_at dksX1_holds_2 0 rfl rfl)
theorem dX1_holds_50 : decode cX1_holds 50 = .ok (.aload_n 0, 1) := dk_42 (dk_at dksX1_holds_2 3 rfl rfl)
theorem dX1_holds_51 : decode cX1_holds 51 = .ok (.getfield 97, 3) := dk_180 0 97 (dk_at dksX1_holds_2 4 rfl rfl)
theorem dX1_holds_54 : decode cX1_holds 54 = .ok (.iload_n 1, 1) := dk_27 (dk_at dksX1_holds_2 7 rfl rfl)
theorem dX1_holds_55 : decode cX1_holds 55 = .ok (.invokevirtual 168, 3) := dk_182 0 168 (dk_at dksX1_holds_2 8 rfl rfl)
theorem dX1_holds_58 : decode cX1_holds 58 = .ok (.checkcast 248, 3) := dk_192 0 248 (dk_at dksX1_holds_2 11 rfl rfl)
theorem dX1_holds_61 : decode cX1_holds 61 = .ok (.aload_n 0, 1) := dk_42 (dk_at dksX1_holds_2 14 rfl rfl)
theorem dX1_holds_62 : decode cX1_holds 62 = .ok (.getfield 111, 3) := dk_180 0 111 (dk_at dksX1_holds_2 15 rfl rfl)
theorem dX1_holds_65 : decode cX1_holds 65 = .ok (.invokevirtual 250, 3) := dk_182 0 250 (dk_at dksX1_holds_2 18 rfl rfl)
theorem dX1_holds_68 : decode cX1_holds 68 = .ok (.ifCond .eq 7, 3) := dk_153 0 7 (dk_at dksX1_holds_2 21 rfl rfl)
theorem dX1_holds_71 : decode cX1_holds 71 = .ok (.iconst 2, 1) := dk_5 (dk_at dksX1_holds_3 0 rfl rfl)
theorem dX1_holds_72 : decode cX1_holds 72 = .ok (.goto 4, 3) := dk_167 0 4 (dk_at dksX1_holds_3 1 rfl rfl)
theorem dX1_holds_75 : decode cX1_holds 75 = .ok (.iconst 1, 1) := dk_4 (dk_at dksX1_holds_3 4 rfl rfl)
theorem dX1_holds_76 : decode cX1_holds 76 = .ok (.ireturn, 1) := dk_172 (dk_at dksX1_holds_3 5 rfl rfl)
abbrev cX1_paid : ByteArray := prog_1_method_30_code
def yX1_paid : MethodName := ⟨RX1, "paid", "(III)I"⟩
def dkwX1_paid_4 : List UInt8 := [167, 0, 4, 3, 172]
abbrev dktX1_paid_4 : List UInt8 := dkwX1_paid_4 ++ []
def dkwX1_paid_3 : List UInt8 := [182, 1, 8, 153, 0, 23, 167, 0, 16, 42, 180, 0, 111, 25, 4, 28, 182, 1, 12, 153, 0, 7, 4]
abbrev dktX1_paid_3 : List UInt8 := dkwX1_paid_3 ++ dktX1_paid_4
def dkwX1_paid_2 : List UInt8 := [42, 180, 0, 111, 42, 180, 0, 41, 182, 0, 239, 87, 29, 4, 160, 0, 19, 42, 180, 0, 111, 25, 4, 28]
abbrev dktX1_paid_2 : List UInt8 := dkwX1_paid_2 ++ dktX1_paid_3
def dkwX1_paid_1 : List UInt8 := [184, 0, 133, 154, 0, 5, 2, 172, 42, 182, 1, 18, 29, 154, 0, 11, 25, 4, 180, 0, 254, 28, 46, 172]
abbrev dktX1_paid_1 : List UInt8 := dkwX1_paid_1 ++ dktX1_paid_2
def dkwX1_paid_0 : List UInt8 := [42, 27, 182, 0, 205, 58, 4, 25, 4, 198, 0, 19, 28, 184, 0, 223, 153, 0, 12, 29, 3, 5]
abbrev dktX1_paid_0 : List UInt8 := dkwX1_paid_0 ++ dktX1_paid_1
theorem dksX1_paid_0 : cX1_paid.data.toList.drop 0 = dktX1_paid_0 := by decide +kernel
theorem dksX1_paid_1 : cX1_paid.data.toList.drop 22 = dktX1_paid_1 := dk_seg dksX1_paid_0 22 rfl rfl
theorem dksX1_paid_2 : cX1_paid.data.toList.drop 46 = dktX1_paid_2 := dk_seg dksX1_paid_1 24 rfl rfl
theorem dksX1_paid_3 : cX1_paid.data.toList.drop 70 = dktX1_paid_3 := dk_seg dksX1_paid_2 24 rfl rfl
theorem dksX1_paid_4 : cX1_paid.data.toList.drop 93 = dktX1_paid_4 := dk_seg dksX1_paid_3 23 rfl rfl
theorem dX1_paid_0 : decode cX1_paid 0 = .ok (.aload_n 0, 1) := dk_42 (dk_at dksX1_paid_0 0 rfl rfl)
theorem dX1_paid_1 : decode cX1_paid 1 = .ok (.iload_n 1, 1) := dk_27 (dk_at dksX1_paid_0 1 rfl rfl)
theorem dX1_paid_2 : decode cX1_paid 2 = .ok (.invokevirtual 205, 3) := dk_182 0 205 (dk_at dksX1_paid_0 2 rfl rfl)
theorem dX1_paid_5 : decode cX1_paid 5 = .ok (.astore 4, 2) := dk_58 4 (dk_at dksX1_paid_0 5 rfl rfl)
theorem dX1_paid_7 : decode cX1_paid 7 = .ok (.aload 4, 2) := dk_25 4 (dk_at dksX1_paid_0 7 rfl rfl)
theorem dX1_paid_9 : decode cX1_paid 9 = .ok (.ifnull 19, 3) := dk_198 0 19 (dk_at dksX1_paid_0 9 rfl rfl)
theorem dX1_paid_12 : decode cX1_paid 12 = .ok (.iload_n 2, 1) := dk_28 (dk_at dksX1_paid_0 12 rfl rfl)
theorem dX1_paid_13 : decode cX1_paid 13 = .ok (.invokestatic 223, 3) := dk_184 0 223 (dk_at dksX1_paid_0 13 rfl rfl)
theorem dX1_paid_16 : decode cX1_paid 16 = .ok (.ifCond .eq 12, 3) := dk_153 0 12 (dk_at dksX1_paid_0 16 rfl rfl)
theorem dX1_paid_19 : decode cX1_paid 19 = .ok (.iload_n 3, 1) := dk_29 (dk_at dksX1_paid_0 19 rfl rfl)
theorem dX1_paid_20 : decode cX1_paid 20 = .ok (.iconst 0, 1) := dk_3 (dk_at dksX1_paid_0 20 rfl rfl)
theorem dX1_paid_21 : decode cX1_paid 21 = .ok (.iconst 2, 1) := dk_5 (dk_at dksX1_paid_0 21 rfl rfl)
theorem dX1_paid_22 : decode cX1_paid 22 = .ok (.invokestatic 133, 3) := dk_184 0 133 (dk_at dksX1_paid_1 0 rfl rfl)
theorem dX1_paid_25 : decode cX1_paid 25 = .ok (.ifCond .ne 5, 3) := dk_154 0 5 (dk_at dksX1_paid_1 3 rfl rfl)
theorem dX1_paid_28 : decode cX1_paid 28 = .ok (.iconst (-1), 1) := dk_2 (dk_at dksX1_paid_1 6 rfl rfl)
theorem dX1_paid_29 : decode cX1_paid 29 = .ok (.ireturn, 1) := dk_172 (dk_at dksX1_paid_1 7 rfl rfl)
theorem dX1_paid_30 : decode cX1_paid 30 = .ok (.aload_n 0, 1) := dk_42 (dk_at dksX1_paid_1 8 rfl rfl)
theorem dX1_paid_31 : decode cX1_paid 31 = .ok (.invokevirtual 274, 3) := dk_182 1 18 (dk_at dksX1_paid_1 9 rfl rfl)
theorem dX1_paid_34 : decode cX1_paid 34 = .ok (.iload_n 3, 1) := dk_29 (dk_at dksX1_paid_1 12 rfl rfl)
theorem dX1_paid_35 : decode cX1_paid 35 = .ok (.ifCond .ne 11, 3) := dk_154 0 11 (dk_at dksX1_paid_1 13 rfl rfl)
theorem dX1_paid_38 : decode cX1_paid 38 = .ok (.aload 4, 2) := dk_25 4 (dk_at dksX1_paid_1 16 rfl rfl)
theorem dX1_paid_40 : decode cX1_paid 40 = .ok (.getfield 254, 3) := dk_180 0 254 (dk_at dksX1_paid_1 18 rfl rfl)
theorem dX1_paid_43 : decode cX1_paid 43 = .ok (.iload_n 2, 1) := dk_28 (dk_at dksX1_paid_1 21 rfl rfl)
theorem dX1_paid_44 : decode cX1_paid 44 = .ok (.iaload, 1) := dk_46 (dk_at dksX1_paid_1 22 rfl rfl)
theorem dX1_paid_45 : decode cX1_paid 45 = .ok (.ireturn, 1) := dk_172 (dk_at dksX1_paid_1 23 rfl rfl)
theorem dX1_paid_46 : decode cX1_paid 46 = .ok (.aload_n 0, 1) := dk_42 (dk_at dksX1_paid_2 0 rfl rfl)
theorem dX1_paid_47 : decode cX1_paid 47 = .ok (.getfield 111, 3) := dk_180 0 111 (dk_at dksX1_paid_2 1 rfl rfl)
theorem dX1_paid_50 : decode cX1_paid 50 = .ok (.aload_n 0, 1) := dk_42 (dk_at dksX1_paid_2 4 rfl rfl)
theorem dX1_paid_51 : decode cX1_paid 51 = .ok (.getfield 41, 3) := dk_180 0 41 (dk_at dksX1_paid_2 5 rfl rfl)
theorem dX1_paid_54 : decode cX1_paid 54 = .ok (.invokevirtual 239, 3) := dk_182 0 239 (dk_at dksX1_paid_2 8 rfl rfl)
theorem dX1_paid_57 : decode cX1_paid 57 = .ok (.pop, 1) := dk_87 (dk_at dksX1_paid_2 11 rfl rfl)
theorem dX1_paid_58 : decode cX1_paid 58 = .ok (.iload_n 3, 1) := dk_29 (dk_at dksX1_paid_2 12 rfl rfl)
theorem dX1_paid_59 : decode cX1_paid 59 = .ok (.iconst 1, 1) := dk_4 (dk_at dksX1_paid_2 13 rfl rfl)
theorem dX1_paid_60 : decode cX1_paid 60 = .ok (.if_icmp .ne 19, 3) := dk_160 0 19 (dk_at dksX1_paid_2 14 rfl rfl)
theorem dX1_paid_63 : decode cX1_paid 63 = .ok (.aload_n 0, 1) := dk_42 (dk_at dksX1_paid_2 17 rfl rfl)
theorem dX1_paid_64 : decode cX1_paid 64 = .ok (.getfield 111, 3) := dk_180 0 111 (dk_at dksX1_paid_2 18 rfl rfl)
theorem dX1_paid_67 : decode cX1_paid 67 = .ok (.aload 4, 2) := dk_25 4 (dk_at dksX1_paid_2 21 rfl rfl)
theorem dX1_paid_69 : decode cX1_paid 69 = .ok (.iload_n 2, 1) := dk_28 (dk_at dksX1_paid_2 23 rfl rfl)
theorem dX1_paid_70 : decode cX1_paid 70 = .ok (.invokevirtual 264, 3) := dk_182 1 8 (dk_at dksX1_paid_3 0 rfl rfl)
theorem dX1_paid_73 : decode cX1_paid 73 = .ok (.ifCond .eq 23, 3) := dk_153 0 23 (dk_at dksX1_paid_3 3 rfl rfl)
theorem dX1_paid_76 : decode cX1_paid 76 = .ok (.goto 16, 3) := dk_167 0 16 (dk_at dksX1_paid_3 6 rfl rfl)
theorem dX1_paid_79 : decode cX1_paid 79 = .ok (.aload_n 0, 1) := dk_42 (dk_at dksX1_paid_3 9 rfl rfl)
theorem dX1_paid_80 : decode cX1_paid 80 = .ok (.getfield 111, 3) := dk_180 0 111 (dk_at dksX1_paid_3 10 rfl rfl)
theorem dX1_paid_83 : decode cX1_paid 83 = .ok (.aload 4, 2) := dk_25 4 (dk_at dksX1_paid_3 13 rfl rfl)
theorem dX1_paid_85 : decode cX1_paid 85 = .ok (.iload_n 2, 1) := dk_28 (dk_at dksX1_paid_3 15 rfl rfl)
theorem dX1_paid_86 : decode cX1_paid 86 = .ok (.invokevirtual 268, 3) := dk_182 1 12 (dk_at dksX1_paid_3 16 rfl rfl)
theorem dX1_paid_89 : decode cX1_paid 89 = .ok (.ifCond .eq 7, 3) := dk_153 0 7 (dk_at dksX1_paid_3 19 rfl rfl)
theorem dX1_paid_92 : decode cX1_paid 92 = .ok (.iconst 1, 1) := dk_4 (dk_at dksX1_paid_3 22 rfl rfl)
theorem dX1_paid_93 : decode cX1_paid 93 = .ok (.goto 4, 3) := dk_167 0 4 (dk_at dksX1_paid_4 0 rfl rfl)
theorem dX1_paid_96 : decode cX1_paid 96 = .ok (.iconst 0, 1) := dk_3 (dk_at dksX1_paid_4 3 rfl rfl)
theorem dX1_paid_97 : decode cX1_paid 97 = .ok (.ireturn, 1) := dk_172 (dk_at dksX1_paid_4 4 rfl rfl)
abbrev cX1_pay : ByteArray := prog_1_method_28_code
def yX1_pay : MethodName := ⟨RX1, "pay", "()V"⟩
def dkwX1_pay_9 : List UInt8 := [167, 255, 231, 132, 2, 1, 167, 255, 200, 132, 1, 1, 167, 255, 139, 177]
abbrev dktX1_pay_9 : List UInt8 := dkwX1_pay_9 ++ []
def dkwX1_pay_8 : List UInt8 := [163, 0, 26, 42, 42, 180, 0, 94, 28, 182, 0, 168, 192, 0, 172, 29, 27, 182, 1, 4, 132, 3, 1]
abbrev dktX1_pay_8 : List UInt8 := dkwX1_pay_8 ++ dktX1_pay_9
def dkwX1_pay_7 : List UInt8 := [182, 0, 157, 162, 0, 51, 3, 27, 42, 180, 0, 32, 180, 1, 1, 100, 184, 0, 51, 62, 29, 27]
abbrev dktX1_pay_7 : List UInt8 := dkwX1_pay_7 ++ dktX1_pay_8
def dkwX1_pay_6 : List UInt8 := [180, 0, 105, 28, 50, 27, 4, 100, 46, 79, 132, 2, 1, 167, 255, 225, 3, 61, 28, 42, 180, 0, 94]
abbrev dktX1_pay_6 : List UInt8 := dkwX1_pay_6 ++ dktX1_pay_7
def dkwX1_pay_5 : List UInt8 := [182, 0, 239, 87, 3, 61, 28, 16, 8, 162, 0, 31, 27, 158, 0, 27, 42, 180, 0, 105, 28, 50, 27, 42]
abbrev dktX1_pay_5 : List UInt8 := dkwX1_pay_5 ++ dktX1_pay_6
def dkwX1_pay_4 : List UInt8 := [167, 255, 238, 132, 1, 1, 167, 255, 224, 3, 60, 27, 42, 180, 0, 41, 163, 0, 115, 42, 180, 0, 111, 27]
abbrev dktX1_pay_4 : List UInt8 := dkwX1_pay_4 ++ dktX1_pay_5
def dkwX1_pay_3 : List UInt8 := [162, 0, 32, 3, 61, 28, 16, 80, 162, 0, 18, 42, 180, 0, 105, 27, 50, 28, 3, 79, 132, 2, 1]
abbrev dktX1_pay_3 : List UInt8 := dkwX1_pay_3 ++ dktX1_pay_4
def dkwX1_pay_2 : List UInt8 := [180, 0, 254, 28, 2, 79, 132, 2, 1, 167, 255, 230, 132, 1, 1, 167, 255, 211, 3, 60, 27, 16, 8]
abbrev dktX1_pay_2 : List UInt8 := dkwX1_pay_2 ++ dktX1_pay_3
def dkwX1_pay_1 : List UInt8 := [162, 0, 40, 3, 61, 28, 16, 80, 162, 0, 26, 42, 180, 0, 94, 27, 182, 0, 168, 192, 0, 172]
abbrev dktX1_pay_1 : List UInt8 := dkwX1_pay_1 ++ dktX1_pay_2
def dkwX1_pay_0 : List UInt8 := [42, 180, 0, 150, 153, 0, 4, 177, 42, 4, 181, 0, 150, 3, 60, 27, 42, 180, 0, 94, 182, 0, 157]
abbrev dktX1_pay_0 : List UInt8 := dkwX1_pay_0 ++ dktX1_pay_1
theorem dksX1_pay_0 : cX1_pay.data.toList.drop 0 = dktX1_pay_0 := by decide +kernel
theorem dksX1_pay_1 : cX1_pay.data.toList.drop 23 = dktX1_pay_1 := dk_seg dksX1_pay_0 23 rfl rfl
theorem dksX1_pay_2 : cX1_pay.data.toList.drop 45 = dktX1_pay_2 := dk_seg dksX1_pay_1 22 rfl rfl
theorem dksX1_pay_3 : cX1_pay.data.toList.drop 68 = dktX1_pay_3 := dk_seg dksX1_pay_2 23 rfl rfl
theorem dksX1_pay_4 : cX1_pay.data.toList.drop 91 = dktX1_pay_4 := dk_seg dksX1_pay_3 23 rfl rfl
theorem dksX1_pay_5 : cX1_pay.data.toList.drop 115 = dktX1_pay_5 := dk_seg dksX1_pay_4 24 rfl rfl
theorem dksX1_pay_6 : cX1_pay.data.toList.drop 139 = dktX1_pay_6 := dk_seg dksX1_pay_5 24 rfl rfl
theorem dksX1_pay_7 : cX1_pay.data.toList.drop 162 = dktX1_pay_7 := dk_seg dksX1_pay_6 23 rfl rfl
theorem dksX1_pay_8 : cX1_pay.data.toList.drop 184 = dktX1_pay_8 := dk_seg dksX1_pay_7 22 rfl rfl
theorem dksX1_pay_9 : cX1_pay.data.toList.drop 207 = dktX1_pay_9 := dk_seg dksX1_pay_8 23 rfl rfl
theorem dX1_pay_0 : decode cX1_pay 0 = .ok (.aload_n 0, 1) := dk_42 (dk_at dksX1_pay_0 0 rfl rfl)
theorem dX1_pay_1 : decode cX1_pay 1 = .ok (.getfield 150, 3) := dk_180 0 150 (dk_at dksX1_pay_0 1 rfl rfl)
theorem dX1_pay_4 : decode cX1_pay 4 = .ok (.ifCond .eq 4, 3) := dk_153 0 4 (dk_at dksX1_pay_0 4 rfl rfl)
theorem dX1_pay_7 : decode cX1_pay 7 = .ok (.return_, 1) := dk_177 (dk_at dksX1_pay_0 7 rfl rfl)
theorem dX1_pay_8 : decode cX1_pay 8 = .ok (.aload_n 0, 1) := dk_42 (dk_at dksX1_pay_0 8 rfl rfl)
theorem dX1_pay_9 : decode cX1_pay 9 = .ok (.iconst 1, 1) := dk_4 (dk_at dksX1_pay_0 9 rfl rfl)
theorem dX1_pay_10 : decode cX1_pay 10 = .ok (.putfield 150, 3) := dk_181 0 150 (dk_at dksX1_pay_0 10 rfl rfl)
theorem dX1_pay_13 : decode cX1_pay 13 = .ok (.iconst 0, 1) := dk_3 (dk_at dksX1_pay_0 13 rfl rfl)
theorem dX1_pay_14 : decode cX1_pay 14 = .ok (.istore_n 1, 1) := dk_60 (dk_at dksX1_pay_0 14 rfl rfl)
theorem dX1_pay_15 : decode cX1_pay 15 = .ok (.iload_n 1, 1) := dk_27 (dk_at dksX1_pay_0 15 rfl rfl)
theorem dX1_pay_16 : decode cX1_pay 16 = .ok (.aload_n 0, 1) := dk_42 (dk_at dksX1_pay_0 16 rfl rfl)
theorem dX1_pay_17 : decode cX1_pay 17 = .ok (.getfield 94, 3) := dk_180 0 94 (dk_at dksX1_pay_0 17 rfl rfl)
theorem dX1_pay_20 : decode cX1_pay 20 = .ok (.invokevirtual 157, 3) := dk_182 0 157 (dk_at dksX1_pay_0 20 rfl rfl)
theorem dX1_pay_23 : decode cX1_pay 23 = .ok (.if_icmp .ge 40, 3) := dk_162 0 40 (dk_at dksX1_pay_1 0 rfl rfl)
theorem dX1_pay_26 : decode cX1_pay 26 = .ok (.iconst 0, 1) := dk_3 (dk_at dksX1_pay_1 3 rfl rfl)
theorem dX1_pay_27 : decode cX1_pay 27 = .ok (.istore_n 2, 1) := dk_61 (dk_at dksX1_pay_1 4 rfl rfl)
theorem dX1_pay_28 : decode cX1_pay 28 = .ok (.iload_n 2, 1) := dk_28 (dk_at dksX1_pay_1 5 rfl rfl)
theorem dX1_pay_29 : decode cX1_pay 29 = .ok (.bipush 80, 2) := dk_16 80 (dk_at dksX1_pay_1 6 rfl rfl)
theorem dX1_pay_31 : decode cX1_pay 31 = .ok (.if_icmp .ge 26, 3) := dk_162 0 26 (dk_at dksX1_pay_1 8 rfl rfl)
theorem dX1_pay_34 : decode cX1_pay 34 = .ok (.aload_n 0, 1) := dk_42 (dk_at dksX1_pay_1 11 rfl rfl)
theorem dX1_pay_35 : decode cX1_pay 35 = .ok (.getfield 94, 3) := dk_180 0 94 (dk_at dksX1_pay_1 12 rfl rfl)
theorem dX1_pay_38 : decode cX1_pay 38 = .ok (.iload_n 1, 1) := dk_27 (dk_at dksX1_pay_1 15 rfl rfl)
theorem dX1_pay_39 : decode cX1_pay 39 = .ok (.invokevirtual 168, 3) := dk_182 0 168 (dk_at dksX1_pay_1 16 rfl rfl)
theorem dX1_pay_42 : decode cX1_pay 42 = .ok (.checkcast 172, 3) := dk_192 0 172 (dk_at dksX1_pay_1 19 rfl rfl)
theorem dX1_pay_45 : decode cX1_pay 45 = .ok (.getfield 254, 3) := dk_180 0 254 (dk_at dksX1_pay_2 0 rfl rfl)
theorem dX1_pay_48 : decode cX1_pay 48 = .ok (.iload_n 2, 1) := dk_28 (dk_at dksX1_pay_2 3 rfl rfl)
theorem dX1_pay_49 : decode cX1_pay 49 = .ok (.iconst (-1), 1) := dk_2 (dk_at dksX1_pay_2 4 rfl rfl)
theorem dX1_pay_50 : decode cX1_pay 50 = .ok (.iastore, 1) := dk_79 (dk_at dksX1_pay_2 5 rfl rfl)
theorem dX1_pay_51 : decode cX1_pay 51 = .ok (.iinc 2 1, 3) := dk_132 2 1 (dk_at dksX1_pay_2 6 rfl rfl)
theorem dX1_pay_54 : decode cX1_pay 54 = .ok (.goto (-26), 3) := dk_167 255 230 (dk_at dksX1_pay_2 9 rfl rfl)
theorem dX1_pay_57 : decode cX1_pay 57 = .ok (.iinc 1 1, 3) := dk_132 1 1 (dk_at dksX1_pay_2 12 rfl rfl)
theorem dX1_pay_60 : decode cX1_pay 60 = .ok (.goto (-45), 3) := dk_167 255 211 (dk_at dksX1_pay_2 15 rfl rfl)
theorem dX1_pay_63 : decode cX1_pay 63 = .ok (.iconst 0, 1) := dk_3 (dk_at dksX1_pay_2 18 rfl rfl)
theorem dX1_pay_64 : decode cX1_pay 64 = .ok (.istore_n 1, 1) := dk_60 (dk_at dksX1_pay_2 19 rfl rfl)
theorem dX1_pay_65 : decode cX1_pay 65 = .ok (.iload_n 1, 1) := dk_27 (dk_at dksX1_pay_2 20 rfl rfl)
theorem dX1_pay_66 : decode cX1_pay 66 = .ok (.bipush 8, 2) := dk_16 8 (dk_at dksX1_pay_2 21 rfl rfl)
theorem dX1_pay_68 : decode cX1_pay 68 = .ok (.if_icmp .ge 32, 3) := dk_162 0 32 (dk_at dksX1_pay_3 0 rfl rfl)
theorem dX1_pay_71 : decode cX1_pay 71 = .ok (.iconst 0, 1) := dk_3 (dk_at dksX1_pay_3 3 rfl rfl)
theorem dX1_pay_72 : decode cX1_pay 72 = .ok (.istore_n 2, 1) := dk_61 (dk_at dksX1_pay_3 4 rfl rfl)
theorem dX1_pay_73 : decode cX1_pay 73 = .ok (.iload_n 2, 1) := dk_28 (dk_at dksX1_pay_3 5 rfl rfl)
theorem dX1_pay_74 : decode cX1_pay 74 = .ok (.bipush 80, 2) := dk_16 80 (dk_at dksX1_pay_3 6 rfl rfl)
theorem dX1_pay_76 : decode cX1_pay 76 = .ok (.if_icmp .ge 18, 3) := dk_162 0 18 (dk_at dksX1_pay_3 8 rfl rfl)
theorem dX1_pay_79 : decode cX1_pay 79 = .ok (.aload_n 0, 1) := dk_42 (dk_at dksX1_pay_3 11 rfl rfl)
theorem dX1_pay_80 : decode cX1_pay 80 = .ok (.getfield 105, 3) := dk_180 0 105 (dk_at dksX1_pay_3 12 rfl rfl)
theorem dX1_pay_83 : decode cX1_pay 83 = .ok (.iload_n 1, 1) := dk_27 (dk_at dksX1_pay_3 15 rfl rfl)
theorem dX1_pay_84 : decode cX1_pay 84 = .ok (.aaload, 1) := dk_50 (dk_at dksX1_pay_3 16 rfl rfl)
theorem dX1_pay_85 : decode cX1_pay 85 = .ok (.iload_n 2, 1) := dk_28 (dk_at dksX1_pay_3 17 rfl rfl)
theorem dX1_pay_86 : decode cX1_pay 86 = .ok (.iconst 0, 1) := dk_3 (dk_at dksX1_pay_3 18 rfl rfl)
theorem dX1_pay_87 : decode cX1_pay 87 = .ok (.iastore, 1) := dk_79 (dk_at dksX1_pay_3 19 rfl rfl)
theorem dX1_pay_88 : decode cX1_pay 88 = .ok (.iinc 2 1, 3) := dk_132 2 1 (dk_at dksX1_pay_3 20 rfl rfl)
theorem dX1_pay_91 : decode cX1_pay 91 = .ok (.goto (-18), 3) := dk_167 255 238 (dk_at dksX1_pay_4 0 rfl rfl)
theorem dX1_pay_94 : decode cX1_pay 94 = .ok (.iinc 1 1, 3) := dk_132 1 1 (dk_at dksX1_pay_4 3 rfl rfl)
theorem dX1_pay_97 : decode cX1_pay 97 = .ok (.goto (-32), 3) := dk_167 255 224 (dk_at dksX1_pay_4 6 rfl rfl)
theorem dX1_pay_100 : decode cX1_pay 100 = .ok (.iconst 0, 1) := dk_3 (dk_at dksX1_pay_4 9 rfl rfl)
theorem dX1_pay_101 : decode cX1_pay 101 = .ok (.istore_n 1, 1) := dk_60 (dk_at dksX1_pay_4 10 rfl rfl)
theorem dX1_pay_102 : decode cX1_pay 102 = .ok (.iload_n 1, 1) := dk_27 (dk_at dksX1_pay_4 11 rfl rfl)
theorem dX1_pay_103 : decode cX1_pay 103 = .ok (.aload_n 0, 1) := dk_42 (dk_at dksX1_pay_4 12 rfl rfl)
theorem dX1_pay_104 : decode cX1_pay 104 = .ok (.getfield 41, 3) := dk_180 0 41 (dk_at dksX1_pay_4 13 rfl rfl)
theorem dX1_pay_107 : decode cX1_pay 107 = .ok (.if_icmp .gt 115, 3) := dk_163 0 115 (dk_at dksX1_pay_4 16 rfl rfl)
theorem dX1_pay_110 : decode cX1_pay 110 = .ok (.aload_n 0, 1) := dk_42 (dk_at dksX1_pay_4 19 rfl rfl)
theorem dX1_pay_111 : decode cX1_pay 111 = .ok (.getfield 111, 3) := dk_180 0 111 (dk_at dksX1_pay_4 20 rfl rfl)
theorem dX1_pay_114 : decode cX1_pay 114 = .ok (.iload_n 1, 1) := dk_27 (dk_at dksX1_pay_4 23 rfl rfl)
theorem dX1_pay_115 : decode cX1_pay 115 = .ok (.invokevirtual 239, 3) := dk_182 0 239 (dk_at dksX1_pay_5 0 rfl rfl)
theorem dX1_pay_118 : decode cX1_pay 118 = .ok (.pop, 1) := dk_87 (dk_at dksX1_pay_5 3 rfl rfl)
theorem dX1_pay_119 : decode cX1_pay 119 = .ok (.iconst 0, 1) := dk_3 (dk_at dksX1_pay_5 4 rfl rfl)
theorem dX1_pay_120 : decode cX1_pay 120 = .ok (.istore_n 2, 1) := dk_61 (dk_at dksX1_pay_5 5 rfl rfl)
theorem dX1_pay_121 : decode cX1_pay 121 = .ok (.iload_n 2, 1) := dk_28 (dk_at dksX1_pay_5 6 rfl rfl)
theorem dX1_pay_122 : decode cX1_pay 122 = .ok (.bipush 8, 2) := dk_16 8 (dk_at dksX1_pay_5 7 rfl rfl)
theorem dX1_pay_124 : decode cX1_pay 124 = .ok (.if_icmp .ge 31, 3) := dk_162 0 31 (dk_at dksX1_pay_5 9 rfl rfl)
theorem dX1_pay_127 : decode cX1_pay 127 = .ok (.iload_n 1, 1) := dk_27 (dk_at dksX1_pay_5 12 rfl rfl)
theorem dX1_pay_128 : decode cX1_pay 128 = .ok (.ifCond .le 27, 3) := dk_158 0 27 (dk_at dksX1_pay_5 13 rfl rfl)
theorem dX1_pay_131 : decode cX1_pay 131 = .ok (.aload_n 0, 1) := dk_42 (dk_at dksX1_pay_5 16 rfl rfl)
theorem dX1_pay_132 : decode cX1_pay 132 = .ok (.getfield 105, 3) := dk_180 0 105 (dk_at dksX1_pay_5 17 rfl rfl)
theorem dX1_pay_135 : decode cX1_pay 135 = .ok (.iload_n 2, 1) := dk_28 (dk_at dksX1_pay_5 20 rfl rfl)
theorem dX1_pay_136 : decode cX1_pay 136 = .ok (.aaload, 1) := dk_50 (dk_at dksX1_pay_5 21 rfl rfl)
theorem dX1_pay_137 : decode cX1_pay 137 = .ok (.iload_n 1, 1) := dk_27 (dk_at dksX1_pay_5 22 rfl rfl)
theorem dX1_pay_138 : decode cX1_pay 138 = .ok (.aload_n 0, 1) := dk_42 (dk_at dksX1_pay_5 23 rfl rfl)
theorem dX1_pay_139 : decode cX1_pay 139 = .ok (.getfield 105, 3) := dk_180 0 105 (dk_at dksX1_pay_6 0 rfl rfl)
theorem dX1_pay_142 : decode cX1_pay 142 = .ok (.iload_n 2, 1) := dk_28 (dk_at dksX1_pay_6 3 rfl rfl)
theorem dX1_pay_143 : decode cX1_pay 143 = .ok (.aaload, 1) := dk_50 (dk_at dksX1_pay_6 4 rfl rfl)
theorem dX1_pay_144 : decode cX1_pay 144 = .ok (.iload_n 1, 1) := dk_27 (dk_at dksX1_pay_6 5 rfl rfl)
theorem dX1_pay_145 : decode cX1_pay 145 = .ok (.iconst 1, 1) := dk_4 (dk_at dksX1_pay_6 6 rfl rfl)
theorem dX1_pay_146 : decode cX1_pay 146 = .ok (.isub, 1) := dk_100 (dk_at dksX1_pay_6 7 rfl rfl)
theorem dX1_pay_147 : decode cX1_pay 147 = .ok (.iaload, 1) := dk_46 (dk_at dksX1_pay_6 8 rfl rfl)
theorem dX1_pay_148 : decode cX1_pay 148 = .ok (.iastore, 1) := dk_79 (dk_at dksX1_pay_6 9 rfl rfl)
theorem dX1_pay_149 : decode cX1_pay 149 = .ok (.iinc 2 1, 3) := dk_132 2 1 (dk_at dksX1_pay_6 10 rfl rfl)
theorem dX1_pay_152 : decode cX1_pay 152 = .ok (.goto (-31), 3) := dk_167 255 225 (dk_at dksX1_pay_6 13 rfl rfl)
theorem dX1_pay_155 : decode cX1_pay 155 = .ok (.iconst 0, 1) := dk_3 (dk_at dksX1_pay_6 16 rfl rfl)
theorem dX1_pay_156 : decode cX1_pay 156 = .ok (.istore_n 2, 1) := dk_61 (dk_at dksX1_pay_6 17 rfl rfl)
theorem dX1_pay_157 : decode cX1_pay 157 = .ok (.iload_n 2, 1) := dk_28 (dk_at dksX1_pay_6 18 rfl rfl)
theorem dX1_pay_158 : decode cX1_pay 158 = .ok (.aload_n 0, 1) := dk_42 (dk_at dksX1_pay_6 19 rfl rfl)
theorem dX1_pay_159 : decode cX1_pay 159 = .ok (.getfield 94, 3) := dk_180 0 94 (dk_at dksX1_pay_6 20 rfl rfl)
theorem dX1_pay_162 : decode cX1_pay 162 = .ok (.invokevirtual 157, 3) := dk_182 0 157 (dk_at dksX1_pay_7 0 rfl rfl)
theorem dX1_pay_165 : decode cX1_pay 165 = .ok (.if_icmp .ge 51, 3) := dk_162 0 51 (dk_at dksX1_pay_7 3 rfl rfl)
theorem dX1_pay_168 : decode cX1_pay 168 = .ok (.iconst 0, 1) := dk_3 (dk_at dksX1_pay_7 6 rfl rfl)
theorem dX1_pay_169 : decode cX1_pay 169 = .ok (.iload_n 1, 1) := dk_27 (dk_at dksX1_pay_7 7 rfl rfl)
theorem dX1_pay_170 : decode cX1_pay 170 = .ok (.aload_n 0, 1) := dk_42 (dk_at dksX1_pay_7 8 rfl rfl)
theorem dX1_pay_171 : decode cX1_pay 171 = .ok (.getfield 32, 3) := dk_180 0 32 (dk_at dksX1_pay_7 9 rfl rfl)
theorem dX1_pay_174 : decode cX1_pay 174 = .ok (.getfield 257, 3) := dk_180 1 1 (dk_at dksX1_pay_7 12 rfl rfl)
theorem dX1_pay_177 : decode cX1_pay 177 = .ok (.isub, 1) := dk_100 (dk_at dksX1_pay_7 15 rfl rfl)
theorem dX1_pay_178 : decode cX1_pay 178 = .ok (.invokestatic 51, 3) := dk_184 0 51 (dk_at dksX1_pay_7 16 rfl rfl)
theorem dX1_pay_181 : decode cX1_pay 181 = .ok (.istore_n 3, 1) := dk_62 (dk_at dksX1_pay_7 19 rfl rfl)
theorem dX1_pay_182 : decode cX1_pay 182 = .ok (.iload_n 3, 1) := dk_29 (dk_at dksX1_pay_7 20 rfl rfl)
theorem dX1_pay_183 : decode cX1_pay 183 = .ok (.iload_n 1, 1) := dk_27 (dk_at dksX1_pay_7 21 rfl rfl)
theorem dX1_pay_184 : decode cX1_pay 184 = .ok (.if_icmp .gt 26, 3) := dk_163 0 26 (dk_at dksX1_pay_8 0 rfl rfl)
theorem dX1_pay_187 : decode cX1_pay 187 = .ok (.aload_n 0, 1) := dk_42 (dk_at dksX1_pay_8 3 rfl rfl)
theorem dX1_pay_188 : decode cX1_pay 188 = .ok (.aload_n 0, 1) := dk_42 (dk_at dksX1_pay_8 4 rfl rfl)
theorem dX1_pay_189 : decode cX1_pay 189 = .ok (.getfield 94, 3) := dk_180 0 94 (dk_at dksX1_pay_8 5 rfl rfl)
theorem dX1_pay_192 : decode cX1_pay 192 = .ok (.iload_n 2, 1) := dk_28 (dk_at dksX1_pay_8 8 rfl rfl)
theorem dX1_pay_193 : decode cX1_pay 193 = .ok (.invokevirtual 168, 3) := dk_182 0 168 (dk_at dksX1_pay_8 9 rfl rfl)
theorem dX1_pay_196 : decode cX1_pay 196 = .ok (.checkcast 172, 3) := dk_192 0 172 (dk_at dksX1_pay_8 12 rfl rfl)
theorem dX1_pay_199 : decode cX1_pay 199 = .ok (.iload_n 3, 1) := dk_29 (dk_at dksX1_pay_8 15 rfl rfl)
theorem dX1_pay_200 : decode cX1_pay 200 = .ok (.iload_n 1, 1) := dk_27 (dk_at dksX1_pay_8 16 rfl rfl)
theorem dX1_pay_201 : decode cX1_pay 201 = .ok (.invokevirtual 260, 3) := dk_182 1 4 (dk_at dksX1_pay_8 17 rfl rfl)
theorem dX1_pay_204 : decode cX1_pay 204 = .ok (.iinc 3 1, 3) := dk_132 3 1 (dk_at dksX1_pay_8 20 rfl rfl)
theorem dX1_pay_207 : decode cX1_pay 207 = .ok (.goto (-25), 3) := dk_167 255 231 (dk_at dksX1_pay_9 0 rfl rfl)
theorem dX1_pay_210 : decode cX1_pay 210 = .ok (.iinc 2 1, 3) := dk_132 2 1 (dk_at dksX1_pay_9 3 rfl rfl)
theorem dX1_pay_213 : decode cX1_pay 213 = .ok (.goto (-56), 3) := dk_167 255 200 (dk_at dksX1_pay_9 6 rfl rfl)
theorem dX1_pay_216 : decode cX1_pay 216 = .ok (.iinc 1 1, 3) := dk_132 1 1 (dk_at dksX1_pay_9 9 rfl rfl)
theorem dX1_pay_219 : decode cX1_pay 219 = .ok (.goto (-117), 3) := dk_167 255 139 (dk_at dksX1_pay_9 12 rfl rfl)
theorem dX1_pay_222 : decode cX1_pay 222 = .ok (.return_, 1) := dk_177 (dk_at dksX1_pay_9 15 rfl rfl)
abbrev cX1_pay_2 : ByteArray := prog_1_method_29_code
def yX1_pay_2 : MethodName := ⟨RX1, "pay", "(LLifeRents$Rent;II)V"⟩
def dkwX1_pay_2_6 : List UInt8 := [177]
abbrev dktX1_pay_2_6 : List UInt8 := dkwX1_pay_2_6 ++ []
def dkwX1_pay_2_5 : List UInt8 := [21, 6, 54, 5, 132, 6, 1, 167, 255, 187, 42, 180, 0, 105, 21, 5, 50, 29, 92, 46, 21, 4, 96, 79]
abbrev dktX1_pay_2_5 : List UInt8 := dkwX1_pay_2_5 ++ dktX1_pay_2_6
def dkwX1_pay_2_4 : List UInt8 := [21, 4, 21, 7, 100, 54, 4, 43, 21, 6, 29, 182, 0, 209, 43, 21, 5, 29, 182, 0, 209, 164, 0, 7]
abbrev dktX1_pay_2_4 : List UInt8 := dkwX1_pay_2_4 ++ dktX1_pay_2_5
def dkwX1_pay_2_3 : List UInt8 := [182, 0, 209, 104, 16, 60, 108, 54, 7, 42, 180, 0, 105, 21, 6, 50, 29, 92, 46, 21, 7, 96, 79]
abbrev dktX1_pay_2_3 : List UInt8 := dkwX1_pay_2_3 ++ dktX1_pay_2_4
def dkwX1_pay_2_2 : List UInt8 := [54, 4, 3, 54, 5, 3, 54, 6, 21, 6, 16, 8, 162, 0, 68, 43, 180, 1, 15, 43, 21, 6, 29]
abbrev dktX1_pay_2_2 : List UInt8 := dkwX1_pay_2_2 ++ dktX1_pay_2_3
def dkwX1_pay_2_1 : List UInt8 := [180, 0, 111, 43, 28, 182, 1, 12, 154, 0, 4, 177, 43, 180, 0, 254, 28, 29, 79, 43, 180, 1, 15]
abbrev dktX1_pay_2_1 : List UInt8 := dkwX1_pay_2_1 ++ dktX1_pay_2_2
def dkwX1_pay_2_0 : List UInt8 := [43, 180, 0, 254, 28, 46, 2, 160, 0, 27, 42, 180, 0, 111, 43, 28, 182, 1, 8, 153, 0, 15, 42]
abbrev dktX1_pay_2_0 : List UInt8 := dkwX1_pay_2_0 ++ dktX1_pay_2_1
theorem dksX1_pay_2_0 : cX1_pay_2.data.toList.drop 0 = dktX1_pay_2_0 := by decide +kernel
theorem dksX1_pay_2_1 : cX1_pay_2.data.toList.drop 23 = dktX1_pay_2_1 := dk_seg dksX1_pay_2_0 23 rfl rfl
theorem dksX1_pay_2_2 : cX1_pay_2.data.toList.drop 46 = dktX1_pay_2_2 := dk_seg dksX1_pay_2_1 23 rfl rfl
theorem dksX1_pay_2_3 : cX1_pay_2.data.toList.drop 69 = dktX1_pay_2_3 := dk_seg dksX1_pay_2_2 23 rfl rfl
theorem dksX1_pay_2_4 : cX1_pay_2.data.toList.drop 92 = dktX1_pay_2_4 := dk_seg dksX1_pay_2_3 23 rfl rfl
theorem dksX1_pay_2_5 : cX1_pay_2.data.toList.drop 116 = dktX1_pay_2_5 := dk_seg dksX1_pay_2_4 24 rfl rfl
theorem dksX1_pay_2_6 : cX1_pay_2.data.toList.drop 140 = dktX1_pay_2_6 := dk_seg dksX1_pay_2_5 24 rfl rfl
theorem dX1_pay_2_0 : decode cX1_pay_2 0 = .ok (.aload_n 1, 1) := dk_43 (dk_at dksX1_pay_2_0 0 rfl rfl)
theorem dX1_pay_2_1 : decode cX1_pay_2 1 = .ok (.getfield 254, 3) := dk_180 0 254 (dk_at dksX1_pay_2_0 1 rfl rfl)
theorem dX1_pay_2_4 : decode cX1_pay_2 4 = .ok (.iload_n 2, 1) := dk_28 (dk_at dksX1_pay_2_0 4 rfl rfl)
theorem dX1_pay_2_5 : decode cX1_pay_2 5 = .ok (.iaload, 1) := dk_46 (dk_at dksX1_pay_2_0 5 rfl rfl)
theorem dX1_pay_2_6 : decode cX1_pay_2 6 = .ok (.iconst (-1), 1) := dk_2 (dk_at dksX1_pay_2_0 6 rfl rfl)
theorem dX1_pay_2_7 : decode cX1_pay_2 7 = .ok (.if_icmp .ne 27, 3) := dk_160 0 27 (dk_at dksX1_pay_2_0 7 rfl rfl)
theorem dX1_pay_2_10 : decode cX1_pay_2 10 = .ok (.aload_n 0, 1) := dk_42 (dk_at dksX1_pay_2_0 10 rfl rfl)
theorem dX1_pay_2_11 : decode cX1_pay_2 11 = .ok (.getfield 111, 3) := dk_180 0 111 (dk_at dksX1_pay_2_0 11 rfl rfl)
theorem dX1_pay_2_14 : decode cX1_pay_2 14 = .ok (.aload_n 1, 1) := dk_43 (dk_at dksX1_pay_2_0 14 rfl rfl)
theorem dX1_pay_2_15 : decode cX1_pay_2 15 = .ok (.iload_n 2, 1) := dk_28 (dk_at dksX1_pay_2_0 15 rfl rfl)
theorem dX1_pay_2_16 : decode cX1_pay_2 16 = .ok (.invokevirtual 264, 3) := dk_182 1 8 (dk_at dksX1_pay_2_0 16 rfl rfl)
theorem dX1_pay_2_19 : decode cX1_pay_2 19 = .ok (.ifCond .eq 15, 3) := dk_153 0 15 (dk_at dksX1_pay_2_0 19 rfl rfl)
theorem dX1_pay_2_22 : decode cX1_pay_2 22 = .ok (.aload_n 0, 1) := dk_42 (dk_at dksX1_pay_2_0 22 rfl rfl)
theorem dX1_pay_2_23 : decode cX1_pay_2 23 = .ok (.getfield 111, 3) := dk_180 0 111 (dk_at dksX1_pay_2_1 0 rfl rfl)
theorem dX1_pay_2_26 : decode cX1_pay_2 26 = .ok (.aload_n 1, 1) := dk_43 (dk_at dksX1_pay_2_1 3 rfl rfl)
theorem dX1_pay_2_27 : decode cX1_pay_2 27 = .ok (.iload_n 2, 1) := dk_28 (dk_at dksX1_pay_2_1 4 rfl rfl)
theorem dX1_pay_2_28 : decode cX1_pay_2 28 = .ok (.invokevirtual 268, 3) := dk_182 1 12 (dk_at dksX1_pay_2_1 5 rfl rfl)
theorem dX1_pay_2_31 : decode cX1_pay_2 31 = .ok (.ifCond .ne 4, 3) := dk_154 0 4 (dk_at dksX1_pay_2_1 8 rfl rfl)
theorem dX1_pay_2_34 : decode cX1_pay_2 34 = .ok (.return_, 1) := dk_177 (dk_at dksX1_pay_2_1 11 rfl rfl)
theorem dX1_pay_2_35 : decode cX1_pay_2 35 = .ok (.aload_n 1, 1) := dk_43 (dk_at dksX1_pay_2_1 12 rfl rfl)
theorem dX1_pay_2_36 : decode cX1_pay_2 36 = .ok (.getfield 254, 3) := dk_180 0 254 (dk_at dksX1_pay_2_1 13 rfl rfl)
theorem dX1_pay_2_39 : decode cX1_pay_2 39 = .ok (.iload_n 2, 1) := dk_28 (dk_at dksX1_pay_2_1 16 rfl rfl)
theorem dX1_pay_2_40 : decode cX1_pay_2 40 = .ok (.iload_n 3, 1) := dk_29 (dk_at dksX1_pay_2_1 17 rfl rfl)
theorem dX1_pay_2_41 : decode cX1_pay_2 41 = .ok (.iastore, 1) := dk_79 (dk_at dksX1_pay_2_1 18 rfl rfl)
theorem dX1_pay_2_42 : decode cX1_pay_2 42 = .ok (.aload_n 1, 1) := dk_43 (dk_at dksX1_pay_2_1 19 rfl rfl)
theorem dX1_pay_2_43 : decode cX1_pay_2 43 = .ok (.getfield 271, 3) := dk_180 1 15 (dk_at dksX1_pay_2_1 20 rfl rfl)
theorem dX1_pay_2_46 : decode cX1_pay_2 46 = .ok (.istore 4, 2) := dk_54 4 (dk_at dksX1_pay_2_2 0 rfl rfl)
theorem dX1_pay_2_48 : decode cX1_pay_2 48 = .ok (.iconst 0, 1) := dk_3 (dk_at dksX1_pay_2_2 2 rfl rfl)
theorem dX1_pay_2_49 : decode cX1_pay_2 49 = .ok (.istore 5, 2) := dk_54 5 (dk_at dksX1_pay_2_2 3 rfl rfl)
theorem dX1_pay_2_51 : decode cX1_pay_2 51 = .ok (.iconst 0, 1) := dk_3 (dk_at dksX1_pay_2_2 5 rfl rfl)
theorem dX1_pay_2_52 : decode cX1_pay_2 52 = .ok (.istore 6, 2) := dk_54 6 (dk_at dksX1_pay_2_2 6 rfl rfl)
theorem dX1_pay_2_54 : decode cX1_pay_2 54 = .ok (.iload 6, 2) := dk_21 6 (dk_at dksX1_pay_2_2 8 rfl rfl)
theorem dX1_pay_2_56 : decode cX1_pay_2 56 = .ok (.bipush 8, 2) := dk_16 8 (dk_at dksX1_pay_2_2 10 rfl rfl)
theorem dX1_pay_2_58 : decode cX1_pay_2 58 = .ok (.if_icmp .ge 68, 3) := dk_162 0 68 (dk_at dksX1_pay_2_2 12 rfl rfl)
theorem dX1_pay_2_61 : decode cX1_pay_2 61 = .ok (.aload_n 1, 1) := dk_43 (dk_at dksX1_pay_2_2 15 rfl rfl)
theorem dX1_pay_2_62 : decode cX1_pay_2 62 = .ok (.getfield 271, 3) := dk_180 1 15 (dk_at dksX1_pay_2_2 16 rfl rfl)
theorem dX1_pay_2_65 : decode cX1_pay_2 65 = .ok (.aload_n 1, 1) := dk_43 (dk_at dksX1_pay_2_2 19 rfl rfl)
theorem dX1_pay_2_66 : decode cX1_pay_2 66 = .ok (.iload 6, 2) := dk_21 6 (dk_at dksX1_pay_2_2 20 rfl rfl)
theorem dX1_pay_2_68 : decode cX1_pay_2 68 = .ok (.iload_n 3, 1) := dk_29 (dk_at dksX1_pay_2_2 22 rfl rfl)
theorem dX1_pay_2_69 : decode cX1_pay_2 69 = .ok (.invokevirtual 209, 3) := dk_182 0 209 (dk_at dksX1_pay_2_3 0 rfl rfl)
theorem dX1_pay_2_72 : decode cX1_pay_2 72 = .ok (.imul, 1) := dk_104 (dk_at dksX1_pay_2_3 3 rfl rfl)
theorem dX1_pay_2_73 : decode cX1_pay_2 73 = .ok (.bipush 60, 2) := dk_16 60 (dk_at dksX1_pay_2_3 4 rfl rfl)
theorem dX1_pay_2_75 : decode cX1_pay_2 75 = .ok (.idiv, 1) := dk_108 (dk_at dksX1_pay_2_3 6 rfl rfl)
theorem dX1_pay_2_76 : decode cX1_pay_2 76 = .ok (.istore 7, 2) := dk_54 7 (dk_at dksX1_pay_2_3 7 rfl rfl)
theorem dX1_pay_2_78 : decode cX1_pay_2 78 = .ok (.aload_n 0, 1) := dk_42 (dk_at dksX1_pay_2_3 9 rfl rfl)
theorem dX1_pay_2_79 : decode cX1_pay_2 79 = .ok (.getfield 105, 3) := dk_180 0 105 (dk_at dksX1_pay_2_3 10 rfl rfl)
theorem dX1_pay_2_82 : decode cX1_pay_2 82 = .ok (.iload 6, 2) := dk_21 6 (dk_at dksX1_pay_2_3 13 rfl rfl)
theorem dX1_pay_2_84 : decode cX1_pay_2 84 = .ok (.aaload, 1) := dk_50 (dk_at dksX1_pay_2_3 15 rfl rfl)
theorem dX1_pay_2_85 : decode cX1_pay_2 85 = .ok (.iload_n 3, 1) := dk_29 (dk_at dksX1_pay_2_3 16 rfl rfl)
theorem dX1_pay_2_86 : decode cX1_pay_2 86 = .ok (.dup2, 1) := dk_92 (dk_at dksX1_pay_2_3 17 rfl rfl)
theorem dX1_pay_2_87 : decode cX1_pay_2 87 = .ok (.iaload, 1) := dk_46 (dk_at dksX1_pay_2_3 18 rfl rfl)
theorem dX1_pay_2_88 : decode cX1_pay_2 88 = .ok (.iload 7, 2) := dk_21 7 (dk_at dksX1_pay_2_3 19 rfl rfl)
theorem dX1_pay_2_90 : decode cX1_pay_2 90 = .ok (.iadd, 1) := dk_96 (dk_at dksX1_pay_2_3 21 rfl rfl)
theorem dX1_pay_2_91 : decode cX1_pay_2 91 = .ok (.iastore, 1) := dk_79 (dk_at dksX1_pay_2_3 22 rfl rfl)
theorem dX1_pay_2_92 : decode cX1_pay_2 92 = .ok (.iload 4, 2) := dk_21 4 (dk_at dksX1_pay_2_4 0 rfl rfl)
theorem dX1_pay_2_94 : decode cX1_pay_2 94 = .ok (.iload 7, 2) := dk_21 7 (dk_at dksX1_pay_2_4 2 rfl rfl)
theorem dX1_pay_2_96 : decode cX1_pay_2 96 = .ok (.isub, 1) := dk_100 (dk_at dksX1_pay_2_4 4 rfl rfl)
theorem dX1_pay_2_97 : decode cX1_pay_2 97 = .ok (.istore 4, 2) := dk_54 4 (dk_at dksX1_pay_2_4 5 rfl rfl)
theorem dX1_pay_2_99 : decode cX1_pay_2 99 = .ok (.aload_n 1, 1) := dk_43 (dk_at dksX1_pay_2_4 7 rfl rfl)
theorem dX1_pay_2_100 : decode cX1_pay_2 100 = .ok (.iload 6, 2) := dk_21 6 (dk_at dksX1_pay_2_4 8 rfl rfl)
theorem dX1_pay_2_102 : decode cX1_pay_2 102 = .ok (.iload_n 3, 1) := dk_29 (dk_at dksX1_pay_2_4 10 rfl rfl)
theorem dX1_pay_2_103 : decode cX1_pay_2 103 = .ok (.invokevirtual 209, 3) := dk_182 0 209 (dk_at dksX1_pay_2_4 11 rfl rfl)
theorem dX1_pay_2_106 : decode cX1_pay_2 106 = .ok (.aload_n 1, 1) := dk_43 (dk_at dksX1_pay_2_4 14 rfl rfl)
theorem dX1_pay_2_107 : decode cX1_pay_2 107 = .ok (.iload 5, 2) := dk_21 5 (dk_at dksX1_pay_2_4 15 rfl rfl)
theorem dX1_pay_2_109 : decode cX1_pay_2 109 = .ok (.iload_n 3, 1) := dk_29 (dk_at dksX1_pay_2_4 17 rfl rfl)
theorem dX1_pay_2_110 : decode cX1_pay_2 110 = .ok (.invokevirtual 209, 3) := dk_182 0 209 (dk_at dksX1_pay_2_4 18 rfl rfl)
theorem dX1_pay_2_113 : decode cX1_pay_2 113 = .ok (.if_icmp .le 7, 3) := dk_164 0 7 (dk_at dksX1_pay_2_4 21 rfl rfl)
theorem dX1_pay_2_116 : decode cX1_pay_2 116 = .ok (.iload 6, 2) := dk_21 6 (dk_at dksX1_pay_2_5 0 rfl rfl)
theorem dX1_pay_2_118 : decode cX1_pay_2 118 = .ok (.istore 5, 2) := dk_54 5 (dk_at dksX1_pay_2_5 2 rfl rfl)
theorem dX1_pay_2_120 : decode cX1_pay_2 120 = .ok (.iinc 6 1, 3) := dk_132 6 1 (dk_at dksX1_pay_2_5 4 rfl rfl)
theorem dX1_pay_2_123 : decode cX1_pay_2 123 = .ok (.goto (-69), 3) := dk_167 255 187 (dk_at dksX1_pay_2_5 7 rfl rfl)
theorem dX1_pay_2_126 : decode cX1_pay_2 126 = .ok (.aload_n 0, 1) := dk_42 (dk_at dksX1_pay_2_5 10 rfl rfl)
theorem dX1_pay_2_127 : decode cX1_pay_2 127 = .ok (.getfield 105, 3) := dk_180 0 105 (dk_at dksX1_pay_2_5 11 rfl rfl)
theorem dX1_pay_2_130 : decode cX1_pay_2 130 = .ok (.iload 5, 2) := dk_21 5 (dk_at dksX1_pay_2_5 14 rfl rfl)
theorem dX1_pay_2_132 : decode cX1_pay_2 132 = .ok (.aaload, 1) := dk_50 (dk_at dksX1_pay_2_5 16 rfl rfl)
theorem dX1_pay_2_133 : decode cX1_pay_2 133 = .ok (.iload_n 3, 1) := dk_29 (dk_at dksX1_pay_2_5 17 rfl rfl)
theorem dX1_pay_2_134 : decode cX1_pay_2 134 = .ok (.dup2, 1) := dk_92 (dk_at dksX1_pay_2_5 18 rfl rfl)
theorem dX1_pay_2_135 : decode cX1_pay_2 135 = .ok (.iaload, 1) := dk_46 (dk_at dksX1_pay_2_5 19 rfl rfl)
theorem dX1_pay_2_136 : decode cX1_pay_2 136 = .ok (.iload 4, 2) := dk_21 4 (dk_at dksX1_pay_2_5 20 rfl rfl)
theorem dX1_pay_2_138 : decode cX1_pay_2 138 = .ok (.iadd, 1) := dk_96 (dk_at dksX1_pay_2_5 22 rfl rfl)
theorem dX1_pay_2_139 : decode cX1_pay_2 139 = .ok (.iastore, 1) := dk_79 (dk_at dksX1_pay_2_5 23 rfl rfl)
theorem dX1_pay_2_140 : decode cX1_pay_2 140 = .ok (.return_, 1) := dk_177 (dk_at dksX1_pay_2_6 0 rfl rfl)
abbrev cX1_got : ByteArray := prog_1_method_31_code
def yX1_got : MethodName := ⟨RX1, "got", "(II)I"⟩
def dkwX1_got_1 : List UInt8 := [182, 1, 18, 42, 180, 0, 105, 27, 50, 28, 46, 172]
abbrev dktX1_got_1 : List UInt8 := dkwX1_got_1 ++ []
def dkwX1_got_0 : List UInt8 := [27, 184, 0, 189, 153, 0, 15, 28, 3, 42, 180, 0, 41, 184, 0, 133, 154, 0, 5, 2, 172, 42]
abbrev dktX1_got_0 : List UInt8 := dkwX1_got_0 ++ dktX1_got_1
theorem dksX1_got_0 : cX1_got.data.toList.drop 0 = dktX1_got_0 := by decide +kernel
theorem dksX1_got_1 : cX1_got.data.toList.drop 22 = dktX1_got_1 := dk_seg dksX1_got_0 22 rfl rfl
theorem dX1_got_0 : decode cX1_got 0 = .ok (.iload_n 1, 1) := dk_27 (dk_at dksX1_got_0 0 rfl rfl)
theorem dX1_got_1 : decode cX1_got 1 = .ok (.invokestatic 189, 3) := dk_184 0 189 (dk_at dksX1_got_0 1 rfl rfl)
theorem dX1_got_4 : decode cX1_got 4 = .ok (.ifCond .eq 15, 3) := dk_153 0 15 (dk_at dksX1_got_0 4 rfl rfl)
theorem dX1_got_7 : decode cX1_got 7 = .ok (.iload_n 2, 1) := dk_28 (dk_at dksX1_got_0 7 rfl rfl)
theorem dX1_got_8 : decode cX1_got 8 = .ok (.iconst 0, 1) := dk_3 (dk_at dksX1_got_0 8 rfl rfl)
theorem dX1_got_9 : decode cX1_got 9 = .ok (.aload_n 0, 1) := dk_42 (dk_at dksX1_got_0 9 rfl rfl)
theorem dX1_got_10 : decode cX1_got 10 = .ok (.getfield 41, 3) := dk_180 0 41 (dk_at dksX1_got_0 10 rfl rfl)
theorem dX1_got_13 : decode cX1_got 13 = .ok (.invokestatic 133, 3) := dk_184 0 133 (dk_at dksX1_got_0 13 rfl rfl)
theorem dX1_got_16 : decode cX1_got 16 = .ok (.ifCond .ne 5, 3) := dk_154 0 5 (dk_at dksX1_got_0 16 rfl rfl)
theorem dX1_got_19 : decode cX1_got 19 = .ok (.iconst (-1), 1) := dk_2 (dk_at dksX1_got_0 19 rfl rfl)
theorem dX1_got_20 : decode cX1_got 20 = .ok (.ireturn, 1) := dk_172 (dk_at dksX1_got_0 20 rfl rfl)
theorem dX1_got_21 : decode cX1_got 21 = .ok (.aload_n 0, 1) := dk_42 (dk_at dksX1_got_0 21 rfl rfl)
theorem dX1_got_22 : decode cX1_got 22 = .ok (.invokevirtual 274, 3) := dk_182 1 18 (dk_at dksX1_got_1 0 rfl rfl)
theorem dX1_got_25 : decode cX1_got 25 = .ok (.aload_n 0, 1) := dk_42 (dk_at dksX1_got_1 3 rfl rfl)
theorem dX1_got_26 : decode cX1_got 26 = .ok (.getfield 105, 3) := dk_180 0 105 (dk_at dksX1_got_1 4 rfl rfl)
theorem dX1_got_29 : decode cX1_got 29 = .ok (.iload_n 1, 1) := dk_27 (dk_at dksX1_got_1 7 rfl rfl)
theorem dX1_got_30 : decode cX1_got 30 = .ok (.aaload, 1) := dk_50 (dk_at dksX1_got_1 8 rfl rfl)
theorem dX1_got_31 : decode cX1_got 31 = .ok (.iload_n 2, 1) := dk_28 (dk_at dksX1_got_1 9 rfl rfl)
theorem dX1_got_32 : decode cX1_got 32 = .ok (.iaload, 1) := dk_46 (dk_at dksX1_got_1 10 rfl rfl)
theorem dX1_got_33 : decode cX1_got 33 = .ok (.ireturn, 1) := dk_172 (dk_at dksX1_got_1 11 rfl rfl)
abbrev cX1_owed : ByteArray := prog_1_method_33_code
def yX1_owed : MethodName := ⟨RX1, "owed", "(II)I"⟩
def dkwX1_owed_1 : List UInt8 := [182, 1, 18, 42, 180, 0, 111, 28, 182, 0, 239, 87, 42, 42, 27, 182, 0, 205, 28, 182, 1, 20, 172]
abbrev dktX1_owed_1 : List UInt8 := dkwX1_owed_1 ++ []
def dkwX1_owed_0 : List UInt8 := [42, 27, 182, 0, 205, 198, 0, 15, 28, 3, 42, 180, 0, 41, 184, 0, 133, 154, 0, 5, 2, 172, 42]
abbrev dktX1_owed_0 : List UInt8 := dkwX1_owed_0 ++ dktX1_owed_1
theorem dksX1_owed_0 : cX1_owed.data.toList.drop 0 = dktX1_owed_0 := by decide +kernel
theorem dksX1_owed_1 : cX1_owed.data.toList.drop 23 = dktX1_owed_1 := dk_seg dksX1_owed_0 23 rfl rfl
theorem dX1_owed_0 : decode cX1_owed 0 = .ok (.aload_n 0, 1) := dk_42 (dk_at dksX1_owed_0 0 rfl rfl)
theorem dX1_owed_1 : decode cX1_owed 1 = .ok (.iload_n 1, 1) := dk_27 (dk_at dksX1_owed_0 1 rfl rfl)
theorem dX1_owed_2 : decode cX1_owed 2 = .ok (.invokevirtual 205, 3) := dk_182 0 205 (dk_at dksX1_owed_0 2 rfl rfl)
theorem dX1_owed_5 : decode cX1_owed 5 = .ok (.ifnull 15, 3) := dk_198 0 15 (dk_at dksX1_owed_0 5 rfl rfl)
theorem dX1_owed_8 : decode cX1_owed 8 = .ok (.iload_n 2, 1) := dk_28 (dk_at dksX1_owed_0 8 rfl rfl)
theorem dX1_owed_9 : decode cX1_owed 9 = .ok (.iconst 0, 1) := dk_3 (dk_at dksX1_owed_0 9 rfl rfl)
theorem dX1_owed_10 : decode cX1_owed 10 = .ok (.aload_n 0, 1) := dk_42 (dk_at dksX1_owed_0 10 rfl rfl)
theorem dX1_owed_11 : decode cX1_owed 11 = .ok (.getfield 41, 3) := dk_180 0 41 (dk_at dksX1_owed_0 11 rfl rfl)
theorem dX1_owed_14 : decode cX1_owed 14 = .ok (.invokestatic 133, 3) := dk_184 0 133 (dk_at dksX1_owed_0 14 rfl rfl)
theorem dX1_owed_17 : decode cX1_owed 17 = .ok (.ifCond .ne 5, 3) := dk_154 0 5 (dk_at dksX1_owed_0 17 rfl rfl)
theorem dX1_owed_20 : decode cX1_owed 20 = .ok (.iconst (-1), 1) := dk_2 (dk_at dksX1_owed_0 20 rfl rfl)
theorem dX1_owed_21 : decode cX1_owed 21 = .ok (.ireturn, 1) := dk_172 (dk_at dksX1_owed_0 21 rfl rfl)
theorem dX1_owed_22 : decode cX1_owed 22 = .ok (.aload_n 0, 1) := dk_42 (dk_at dksX1_owed_0 22 rfl rfl)
theorem dX1_owed_23 : decode cX1_owed 23 = .ok (.invokevirtual 274, 3) := dk_182 1 18 (dk_at dksX1_owed_1 0 rfl rfl)
theorem dX1_owed_26 : decode cX1_owed 26 = .ok (.aload_n 0, 1) := dk_42 (dk_at dksX1_owed_1 3 rfl rfl)
theorem dX1_owed_27 : decode cX1_owed 27 = .ok (.getfield 111, 3) := dk_180 0 111 (dk_at dksX1_owed_1 4 rfl rfl)
theorem dX1_owed_30 : decode cX1_owed 30 = .ok (.iload_n 2, 1) := dk_28 (dk_at dksX1_owed_1 7 rfl rfl)
theorem dX1_owed_31 : decode cX1_owed 31 = .ok (.invokevirtual 239, 3) := dk_182 0 239 (dk_at dksX1_owed_1 8 rfl rfl)
theorem dX1_owed_34 : decode cX1_owed 34 = .ok (.pop, 1) := dk_87 (dk_at dksX1_owed_1 11 rfl rfl)
theorem dX1_owed_35 : decode cX1_owed 35 = .ok (.aload_n 0, 1) := dk_42 (dk_at dksX1_owed_1 12 rfl rfl)
theorem dX1_owed_36 : decode cX1_owed 36 = .ok (.aload_n 0, 1) := dk_42 (dk_at dksX1_owed_1 13 rfl rfl)
theorem dX1_owed_37 : decode cX1_owed 37 = .ok (.iload_n 1, 1) := dk_27 (dk_at dksX1_owed_1 14 rfl rfl)
theorem dX1_owed_38 : decode cX1_owed 38 = .ok (.invokevirtual 205, 3) := dk_182 0 205 (dk_at dksX1_owed_1 15 rfl rfl)
theorem dX1_owed_41 : decode cX1_owed 41 = .ok (.iload_n 2, 1) := dk_28 (dk_at dksX1_owed_1 18 rfl rfl)
theorem dX1_owed_42 : decode cX1_owed 42 = .ok (.invokevirtual 276, 3) := dk_182 1 20 (dk_at dksX1_owed_1 19 rfl rfl)
theorem dX1_owed_45 : decode cX1_owed 45 = .ok (.ireturn, 1) := dk_172 (dk_at dksX1_owed_1 22 rfl rfl)
abbrev cX1_owedOf : ByteArray := prog_1_method_32_code
def yX1_owedOf : MethodName := ⟨RX1, "owedOf", "(LLifeRents$Rent;I)I"⟩
def dkwX1_owedOf_2 : List UInt8 := [43, 180, 1, 15, 167, 0, 4, 3, 96, 62, 132, 4, 1, 167, 255, 200, 29, 172]
abbrev dktX1_owedOf_2 : List UInt8 := dkwX1_owedOf_2 ++ []
def dkwX1_owedOf_1 : List UInt8 := [43, 180, 0, 254, 21, 4, 46, 28, 163, 0, 23, 42, 180, 0, 111, 43, 21, 4, 182, 1, 8, 154, 0, 10]
abbrev dktX1_owedOf_1 : List UInt8 := dkwX1_owedOf_1 ++ dktX1_owedOf_2
def dkwX1_owedOf_0 : List UInt8 := [3, 62, 3, 54, 4, 21, 4, 16, 80, 162, 0, 55, 29, 43, 180, 0, 254, 21, 4, 46, 2, 159, 0, 34]
abbrev dktX1_owedOf_0 : List UInt8 := dkwX1_owedOf_0 ++ dktX1_owedOf_1
theorem dksX1_owedOf_0 : cX1_owedOf.data.toList.drop 0 = dktX1_owedOf_0 := by decide +kernel
theorem dksX1_owedOf_1 : cX1_owedOf.data.toList.drop 24 = dktX1_owedOf_1 := dk_seg dksX1_owedOf_0 24 rfl rfl
theorem dksX1_owedOf_2 : cX1_owedOf.data.toList.drop 48 = dktX1_owedOf_2 := dk_seg dksX1_owedOf_1 24 rfl rfl
theorem dX1_owedOf_0 : decode cX1_owedOf 0 = .ok (.iconst 0, 1) := dk_3 (dk_at dksX1_owedOf_0 0 rfl rfl)
theorem dX1_owedOf_1 : decode cX1_owedOf 1 = .ok (.istore_n 3, 1) := dk_62 (dk_at dksX1_owedOf_0 1 rfl rfl)
theorem dX1_owedOf_2 : decode cX1_owedOf 2 = .ok (.iconst 0, 1) := dk_3 (dk_at dksX1_owedOf_0 2 rfl rfl)
theorem dX1_owedOf_3 : decode cX1_owedOf 3 = .ok (.istore 4, 2) := dk_54 4 (dk_at dksX1_owedOf_0 3 rfl rfl)
theorem dX1_owedOf_5 : decode cX1_owedOf 5 = .ok (.iload 4, 2) := dk_21 4 (dk_at dksX1_owedOf_0 5 rfl rfl)
theorem dX1_owedOf_7 : decode cX1_owedOf 7 = .ok (.bipush 80, 2) := dk_16 80 (dk_at dksX1_owedOf_0 7 rfl rfl)
theorem dX1_owedOf_9 : decode cX1_owedOf 9 = .ok (.if_icmp .ge 55, 3) := dk_162 0 55 (dk_at dksX1_owedOf_0 9 rfl rfl)
theorem dX1_owedOf_12 : decode cX1_owedOf 12 = .ok (.iload_n 3, 1) := dk_29 (dk_at dksX1_owedOf_0 12 rfl rfl)
theorem dX1_owedOf_13 : decode cX1_owedOf 13 = .ok (.aload_n 1, 1) := dk_43 (dk_at dksX1_owedOf_0 13 rfl rfl)
theorem dX1_owedOf_14 : decode cX1_owedOf 14 = .ok (.getfield 254, 3) := dk_180 0 254 (dk_at dksX1_owedOf_0 14 rfl rfl)
theorem dX1_owedOf_17 : decode cX1_owedOf 17 = .ok (.iload 4, 2) := dk_21 4 (dk_at dksX1_owedOf_0 17 rfl rfl)
theorem dX1_owedOf_19 : decode cX1_owedOf 19 = .ok (.iaload, 1) := dk_46 (dk_at dksX1_owedOf_0 19 rfl rfl)
theorem dX1_owedOf_20 : decode cX1_owedOf 20 = .ok (.iconst (-1), 1) := dk_2 (dk_at dksX1_owedOf_0 20 rfl rfl)
theorem dX1_owedOf_21 : decode cX1_owedOf 21 = .ok (.if_icmp .eq 34, 3) := dk_159 0 34 (dk_at dksX1_owedOf_0 21 rfl rfl)
theorem dX1_owedOf_24 : decode cX1_owedOf 24 = .ok (.aload_n 1, 1) := dk_43 (dk_at dksX1_owedOf_1 0 rfl rfl)
theorem dX1_owedOf_25 : decode cX1_owedOf 25 = .ok (.getfield 254, 3) := dk_180 0 254 (dk_at dksX1_owedOf_1 1 rfl rfl)
theorem dX1_owedOf_28 : decode cX1_owedOf 28 = .ok (.iload 4, 2) := dk_21 4 (dk_at dksX1_owedOf_1 4 rfl rfl)
theorem dX1_owedOf_30 : decode cX1_owedOf 30 = .ok (.iaload, 1) := dk_46 (dk_at dksX1_owedOf_1 6 rfl rfl)
theorem dX1_owedOf_31 : decode cX1_owedOf 31 = .ok (.iload_n 2, 1) := dk_28 (dk_at dksX1_owedOf_1 7 rfl rfl)
theorem dX1_owedOf_32 : decode cX1_owedOf 32 = .ok (.if_icmp .gt 23, 3) := dk_163 0 23 (dk_at dksX1_owedOf_1 8 rfl rfl)
theorem dX1_owedOf_35 : decode cX1_owedOf 35 = .ok (.aload_n 0, 1) := dk_42 (dk_at dksX1_owedOf_1 11 rfl rfl)
theorem dX1_owedOf_36 : decode cX1_owedOf 36 = .ok (.getfield 111, 3) := dk_180 0 111 (dk_at dksX1_owedOf_1 12 rfl rfl)
theorem dX1_owedOf_39 : decode cX1_owedOf 39 = .ok (.aload_n 1, 1) := dk_43 (dk_at dksX1_owedOf_1 15 rfl rfl)
theorem dX1_owedOf_40 : decode cX1_owedOf 40 = .ok (.iload 4, 2) := dk_21 4 (dk_at dksX1_owedOf_1 16 rfl rfl)
theorem dX1_owedOf_42 : decode cX1_owedOf 42 = .ok (.invokevirtual 264, 3) := dk_182 1 8 (dk_at dksX1_owedOf_1 18 rfl rfl)
theorem dX1_owedOf_45 : decode cX1_owedOf 45 = .ok (.ifCond .ne 10, 3) := dk_154 0 10 (dk_at dksX1_owedOf_1 21 rfl rfl)
theorem dX1_owedOf_48 : decode cX1_owedOf 48 = .ok (.aload_n 1, 1) := dk_43 (dk_at dksX1_owedOf_2 0 rfl rfl)
theorem dX1_owedOf_49 : decode cX1_owedOf 49 = .ok (.getfield 271, 3) := dk_180 1 15 (dk_at dksX1_owedOf_2 1 rfl rfl)
theorem dX1_owedOf_52 : decode cX1_owedOf 52 = .ok (.goto 4, 3) := dk_167 0 4 (dk_at dksX1_owedOf_2 4 rfl rfl)
theorem dX1_owedOf_55 : decode cX1_owedOf 55 = .ok (.iconst 0, 1) := dk_3 (dk_at dksX1_owedOf_2 7 rfl rfl)
theorem dX1_owedOf_56 : decode cX1_owedOf 56 = .ok (.iadd, 1) := dk_96 (dk_at dksX1_owedOf_2 8 rfl rfl)
theorem dX1_owedOf_57 : decode cX1_owedOf 57 = .ok (.istore_n 3, 1) := dk_62 (dk_at dksX1_owedOf_2 9 rfl rfl)
theorem dX1_owedOf_58 : decode cX1_owedOf 58 = .ok (.iinc 4 1, 3) := dk_132 4 1 (dk_at dksX1_owedOf_2 10 rfl rfl)
theorem dX1_owedOf_61 : decode cX1_owedOf 61 = .ok (.goto (-56), 3) := dk_167 255 200 (dk_at dksX1_owedOf_2 13 rfl rfl)
theorem dX1_owedOf_64 : decode cX1_owedOf 64 = .ok (.iload_n 3, 1) := dk_29 (dk_at dksX1_owedOf_2 16 rfl rfl)
theorem dX1_owedOf_65 : decode cX1_owedOf 65 = .ok (.ireturn, 1) := dk_172 (dk_at dksX1_owedOf_2 17 rfl rfl)
abbrev cX1_state : ByteArray := prog_1_method_34_code
def yX1_state : MethodName := ⟨RX1, "state", "(II)I"⟩
def dkwX1_state_7 : List UInt8 := [42, 180, 0, 105, 21, 4, 50, 27, 46, 96, 62, 132, 4, 1, 167, 255, 229, 29, 172]
abbrev dktX1_state_7 : List UInt8 := dkwX1_state_7 ++ []
def dkwX1_state_6 : List UInt8 := [96, 62, 132, 4, 1, 167, 255, 151, 3, 54, 4, 21, 4, 16, 8, 162, 0, 26, 28, 4, 160, 0, 21, 29]
abbrev dktX1_state_6 : List UInt8 := dkwX1_state_6 ++ dktX1_state_7
def dkwX1_state_5 : List UInt8 := [160, 0, 23, 42, 42, 180, 0, 94, 21, 4, 182, 0, 168, 192, 0, 172, 27, 182, 1, 20, 167, 0, 4, 3]
abbrev dktX1_state_5 : List UInt8 := dkwX1_state_5 ++ dktX1_state_6
def dkwX1_state_4 : List UInt8 := [180, 0, 94, 21, 4, 182, 0, 168, 192, 0, 172, 180, 1, 27, 104, 167, 0, 33, 3, 167, 0, 29, 28, 5]
abbrev dktX1_state_4 : List UInt8 := dkwX1_state_4 ++ dktX1_state_5
def dkwX1_state_3 : List UInt8 := [180, 1, 24, 27, 163, 0, 37, 42, 180, 0, 94, 21, 4, 182, 0, 168, 192, 0, 172, 180, 1, 15, 42]
abbrev dktX1_state_3 : List UInt8 := dkwX1_state_3 ++ dktX1_state_4
def dkwX1_state_2 : List UInt8 := [182, 0, 157, 162, 0, 99, 29, 28, 154, 0, 60, 42, 180, 0, 94, 21, 4, 182, 0, 168, 192, 0, 172]
abbrev dktX1_state_2 : List UInt8 := dkwX1_state_2 ++ dktX1_state_3
def dkwX1_state_1 : List UInt8 := [182, 1, 18, 42, 180, 0, 111, 27, 182, 0, 239, 87, 3, 62, 3, 54, 4, 21, 4, 42, 180, 0, 94]
abbrev dktX1_state_1 : List UInt8 := dkwX1_state_1 ++ dktX1_state_2
def dkwX1_state_0 : List UInt8 := [27, 3, 42, 180, 0, 41, 184, 0, 133, 153, 0, 12, 28, 3, 5, 184, 0, 133, 154, 0, 5, 2, 172, 42]
abbrev dktX1_state_0 : List UInt8 := dkwX1_state_0 ++ dktX1_state_1
theorem dksX1_state_0 : cX1_state.data.toList.drop 0 = dktX1_state_0 := by decide +kernel
theorem dksX1_state_1 : cX1_state.data.toList.drop 24 = dktX1_state_1 := dk_seg dksX1_state_0 24 rfl rfl
theorem dksX1_state_2 : cX1_state.data.toList.drop 47 = dktX1_state_2 := dk_seg dksX1_state_1 23 rfl rfl
theorem dksX1_state_3 : cX1_state.data.toList.drop 70 = dktX1_state_3 := dk_seg dksX1_state_2 23 rfl rfl
theorem dksX1_state_4 : cX1_state.data.toList.drop 93 = dktX1_state_4 := dk_seg dksX1_state_3 23 rfl rfl
theorem dksX1_state_5 : cX1_state.data.toList.drop 117 = dktX1_state_5 := dk_seg dksX1_state_4 24 rfl rfl
theorem dksX1_state_6 : cX1_state.data.toList.drop 141 = dktX1_state_6 := dk_seg dksX1_state_5 24 rfl rfl
theorem dksX1_state_7 : cX1_state.data.toList.drop 165 = dktX1_state_7 := dk_seg dksX1_state_6 24 rfl rfl
theorem dX1_state_0 : decode cX1_state 0 = .ok (.iload_n 1, 1) := dk_27 (dk_at dksX1_state_0 0 rfl rfl)
theorem dX1_state_1 : decode cX1_state 1 = .ok (.iconst 0, 1) := dk_3 (dk_at dksX1_state_0 1 rfl rfl)
theorem dX1_state_2 : decode cX1_state 2 = .ok (.aload_n 0, 1) := dk_42 (dk_at dksX1_state_0 2 rfl rfl)
theorem dX1_state_3 : decode cX1_state 3 = .ok (.getfield 41, 3) := dk_180 0 41 (dk_at dksX1_state_0 3 rfl rfl)
theorem dX1_state_6 : decode cX1_state 6 = .ok (.invokestatic 133, 3) := dk_184 0 133 (dk_at dksX1_state_0 6 rfl rfl)
theorem dX1_state_9 : decode cX1_state 9 = .ok (.ifCond .eq 12, 3) := dk_153 0 12 (dk_at dksX1_state_0 9 rfl rfl)
theorem dX1_state_12 : decode cX1_state 12 = .ok (.iload_n 2, 1) := dk_28 (dk_at dksX1_state_0 12 rfl rfl)
theorem dX1_state_13 : decode cX1_state 13 = .ok (.iconst 0, 1) := dk_3 (dk_at dksX1_state_0 13 rfl rfl)
theorem dX1_state_14 : decode cX1_state 14 = .ok (.iconst 2, 1) := dk_5 (dk_at dksX1_state_0 14 rfl rfl)
theorem dX1_state_15 : decode cX1_state 15 = .ok (.invokestatic 133, 3) := dk_184 0 133 (dk_at dksX1_state_0 15 rfl rfl)
theorem dX1_state_18 : decode cX1_state 18 = .ok (.ifCond .ne 5, 3) := dk_154 0 5 (dk_at dksX1_state_0 18 rfl rfl)
theorem dX1_state_21 : decode cX1_state 21 = .ok (.iconst (-1), 1) := dk_2 (dk_at dksX1_state_0 21 rfl rfl)
theorem dX1_state_22 : decode cX1_state 22 = .ok (.ireturn, 1) := dk_172 (dk_at dksX1_state_0 22 rfl rfl)
theorem dX1_state_23 : decode cX1_state 23 = .ok (.aload_n 0, 1) := dk_42 (dk_at dksX1_state_0 23 rfl rfl)
theorem dX1_state_24 : decode cX1_state 24 = .ok (.invokevirtual 274, 3) := dk_182 1 18 (dk_at dksX1_state_1 0 rfl rfl)
theorem dX1_state_27 : decode cX1_state 27 = .ok (.aload_n 0, 1) := dk_42 (dk_at dksX1_state_1 3 rfl rfl)
theorem dX1_state_28 : decode cX1_state 28 = .ok (.getfield 111, 3) := dk_180 0 111 (dk_at dksX1_state_1 4 rfl rfl)
theorem dX1_state_31 : decode cX1_state 31 = .ok (.iload_n 1, 1) := dk_27 (dk_at dksX1_state_1 7 rfl rfl)
theorem dX1_state_32 : decode cX1_state 32 = .ok (.invokevirtual 239, 3) := dk_182 0 239 (dk_at dksX1_state_1 8 rfl rfl)
theorem dX1_state_35 : decode cX1_state 35 = .ok (.pop, 1) := dk_87 (dk_at dksX1_state_1 11 rfl rfl)
theorem dX1_state_36 : decode cX1_state 36 = .ok (.iconst 0, 1) := dk_3 (dk_at dksX1_state_1 12 rfl rfl)
theorem dX1_state_37 : decode cX1_state 37 = .ok (.istore_n 3, 1) := dk_62 (dk_at dksX1_state_1 13 rfl rfl)
theorem dX1_state_38 : decode cX1_state 38 = .ok (.iconst 0, 1) := dk_3 (dk_at dksX1_state_1 14 rfl rfl)
theorem dX1_state_39 : decode cX1_state 39 = .ok (.istore 4, 2) := dk_54 4 (dk_at dksX1_state_1 15 rfl rfl)
theorem dX1_state_41 : decode cX1_state 41 = .ok (.iload 4, 2) := dk_21 4 (dk_at dksX1_state_1 17 rfl rfl)
theorem dX1_state_43 : decode cX1_state 43 = .ok (.aload_n 0, 1) := dk_42 (dk_at dksX1_state_1 19 rfl rfl)
theorem dX1_state_44 : decode cX1_state 44 = .ok (.getfield 94, 3) := dk_180 0 94 (dk_at dksX1_state_1 20 rfl rfl)
theorem dX1_state_47 : decode cX1_state 47 = .ok (.invokevirtual 157, 3) := dk_182 0 157 (dk_at dksX1_state_2 0 rfl rfl)
theorem dX1_state_50 : decode cX1_state 50 = .ok (.if_icmp .ge 99, 3) := dk_162 0 99 (dk_at dksX1_state_2 3 rfl rfl)
theorem dX1_state_53 : decode cX1_state 53 = .ok (.iload_n 3, 1) := dk_29 (dk_at dksX1_state_2 6 rfl rfl)
theorem dX1_state_54 : decode cX1_state 54 = .ok (.iload_n 2, 1) := dk_28 (dk_at dksX1_state_2 7 rfl rfl)
theorem dX1_state_55 : decode cX1_state 55 = .ok (.ifCond .ne 60, 3) := dk_154 0 60 (dk_at dksX1_state_2 8 rfl rfl)
theorem dX1_state_58 : decode cX1_state 58 = .ok (.aload_n 0, 1) := dk_42 (dk_at dksX1_state_2 11 rfl rfl)
theorem dX1_state_59 : decode cX1_state 59 = .ok (.getfield 94, 3) := dk_180 0 94 (dk_at dksX1_state_2 12 rfl rfl)
theorem dX1_state_62 : decode cX1_state 62 = .ok (.iload 4, 2) := dk_21 4 (dk_at dksX1_state_2 15 rfl rfl)
theorem dX1_state_64 : decode cX1_state 64 = .ok (.invokevirtual 168, 3) := dk_182 0 168 (dk_at dksX1_state_2 17 rfl rfl)
theorem dX1_state_67 : decode cX1_state 67 = .ok (.checkcast 172, 3) := dk_192 0 172 (dk_at dksX1_state_2 20 rfl rfl)
theorem dX1_state_70 : decode cX1_state 70 = .ok (.getfield 280, 3) := dk_180 1 24 (dk_at dksX1_state_3 0 rfl rfl)
theorem dX1_state_73 : decode cX1_state 73 = .ok (.iload_n 1, 1) := dk_27 (dk_at dksX1_state_3 3 rfl rfl)
theorem dX1_state_74 : decode cX1_state 74 = .ok (.if_icmp .gt 37, 3) := dk_163 0 37 (dk_at dksX1_state_3 4 rfl rfl)
theorem dX1_state_77 : decode cX1_state 77 = .ok (.aload_n 0, 1) := dk_42 (dk_at dksX1_state_3 7 rfl rfl)
theorem dX1_state_78 : decode cX1_state 78 = .ok (.getfield 94, 3) := dk_180 0 94 (dk_at dksX1_state_3 8 rfl rfl)
theorem dX1_state_81 : decode cX1_state 81 = .ok (.iload 4, 2) := dk_21 4 (dk_at dksX1_state_3 11 rfl rfl)
theorem dX1_state_83 : decode cX1_state 83 = .ok (.invokevirtual 168, 3) := dk_182 0 168 (dk_at dksX1_state_3 13 rfl rfl)
theorem dX1_state_86 : decode cX1_state 86 = .ok (.checkcast 172, 3) := dk_192 0 172 (dk_at dksX1_state_3 16 rfl rfl)
theorem dX1_state_89 : decode cX1_state 89 = .ok (.getfield 271, 3) := dk_180 1 15 (dk_at dksX1_state_3 19 rfl rfl)
theorem dX1_state_92 : decode cX1_state 92 = .ok (.aload_n 0, 1) := dk_42 (dk_at dksX1_state_3 22 rfl rfl)
theorem dX1_state_93 : decode cX1_state 93 = .ok (.getfield 94, 3) := dk_180 0 94 (dk_at dksX1_state_4 0 rfl rfl)
theorem dX1_state_96 : decode cX1_state 96 = .ok (.iload 4, 2) := dk_21 4 (dk_at dksX1_state_4 3 rfl rfl)
theorem dX1_state_98 : decode cX1_state 98 = .ok (.invokevirtual 168, 3) := dk_182 0 168 (dk_at dksX1_state_4 5 rfl rfl)
theorem dX1_state_101 : decode cX1_state 101 = .ok (.checkcast 172, 3) := dk_192 0 172 (dk_at dksX1_state_4 8 rfl rfl)
theorem dX1_state_104 : decode cX1_state 104 = .ok (.getfield 283, 3) := dk_180 1 27 (dk_at dksX1_state_4 11 rfl rfl)
theorem dX1_state_107 : decode cX1_state 107 = .ok (.imul, 1) := dk_104 (dk_at dksX1_state_4 14 rfl rfl)
theorem dX1_state_108 : decode cX1_state 108 = .ok (.goto 33, 3) := dk_167 0 33 (dk_at dksX1_state_4 15 rfl rfl)
theorem dX1_state_111 : decode cX1_state 111 = .ok (.iconst 0, 1) := dk_3 (dk_at dksX1_state_4 18 rfl rfl)
theorem dX1_state_112 : decode cX1_state 112 = .ok (.goto 29, 3) := dk_167 0 29 (dk_at dksX1_state_4 19 rfl rfl)
theorem dX1_state_115 : decode cX1_state 115 = .ok (.iload_n 2, 1) := dk_28 (dk_at dksX1_state_4 22 rfl rfl)
theorem dX1_state_116 : decode cX1_state 116 = .ok (.iconst 2, 1) := dk_5 (dk_at dksX1_state_4 23 rfl rfl)
theorem dX1_state_117 : decode cX1_state 117 = .ok (.if_icmp .ne 23, 3) := dk_160 0 23 (dk_at dksX1_state_5 0 rfl rfl)
theorem dX1_state_120 : decode cX1_state 120 = .ok (.aload_n 0, 1) := dk_42 (dk_at dksX1_state_5 3 rfl rfl)
theorem dX1_state_121 : decode cX1_state 121 = .ok (.aload_n 0, 1) := dk_42 (dk_at dksX1_state_5 4 rfl rfl)
theorem dX1_state_122 : decode cX1_state 122 = .ok (.getfield 94, 3) := dk_180 0 94 (dk_at dksX1_state_5 5 rfl rfl)
theorem dX1_state_125 : decode cX1_state 125 = .ok (.iload 4, 2) := dk_21 4 (dk_at dksX1_state_5 8 rfl rfl)
theorem dX1_state_127 : decode cX1_state 127 = .ok (.invokevirtual 168, 3) := dk_182 0 168 (dk_at dksX1_state_5 10 rfl rfl)
theorem dX1_state_130 : decode cX1_state 130 = .ok (.checkcast 172, 3) := dk_192 0 172 (dk_at dksX1_state_5 13 rfl rfl)
theorem dX1_state_133 : decode cX1_state 133 = .ok (.iload_n 1, 1) := dk_27 (dk_at dksX1_state_5 16 rfl rfl)
theorem dX1_state_134 : decode cX1_state 134 = .ok (.invokevirtual 276, 3) := dk_182 1 20 (dk_at dksX1_state_5 17 rfl rfl)
theorem dX1_state_137 : decode cX1_state 137 = .ok (.goto 4, 3) := dk_167 0 4 (dk_at dksX1_state_5 20 rfl rfl)
theorem dX1_state_140 : decode cX1_state 140 = .ok (.iconst 0, 1) := dk_3 (dk_at dksX1_state_5 23 rfl rfl)
theorem dX1_state_141 : decode cX1_state 141 = .ok (.iadd, 1) := dk_96 (dk_at dksX1_state_6 0 rfl rfl)
theorem dX1_state_142 : decode cX1_state 142 = .ok (.istore_n 3, 1) := dk_62 (dk_at dksX1_state_6 1 rfl rfl)
theorem dX1_state_143 : decode cX1_state 143 = .ok (.iinc 4 1, 3) := dk_132 4 1 (dk_at dksX1_state_6 2 rfl rfl)
theorem dX1_state_146 : decode cX1_state 146 = .ok (.goto (-105), 3) := dk_167 255 151 (dk_at dksX1_state_6 5 rfl rfl)
theorem dX1_state_149 : decode cX1_state 149 = .ok (.iconst 0, 1) := dk_3 (dk_at dksX1_state_6 8 rfl rfl)
theorem dX1_state_150 : decode cX1_state 150 = .ok (.istore 4, 2) := dk_54 4 (dk_at dksX1_state_6 9 rfl rfl)
theorem dX1_state_152 : decode cX1_state 152 = .ok (.iload 4, 2) := dk_21 4 (dk_at dksX1_state_6 11 rfl rfl)
theorem dX1_state_154 : decode cX1_state 154 = .ok (.bipush 8, 2) := dk_16 8 (dk_at dksX1_state_6 13 rfl rfl)
theorem dX1_state_156 : decode cX1_state 156 = .ok (.if_icmp .ge 26, 3) := dk_162 0 26 (dk_at dksX1_state_6 15 rfl rfl)
theorem dX1_state_159 : decode cX1_state 159 = .ok (.iload_n 2, 1) := dk_28 (dk_at dksX1_state_6 18 rfl rfl)
theorem dX1_state_160 : decode cX1_state 160 = .ok (.iconst 1, 1) := dk_4 (dk_at dksX1_state_6 19 rfl rfl)
theorem dX1_state_161 : decode cX1_state 161 = .ok (.if_icmp .ne 21, 3) := dk_160 0 21 (dk_at dksX1_state_6 20 rfl rfl)
theorem dX1_state_164 : decode cX1_state 164 = .ok (.iload_n 3, 1) := dk_29 (dk_at dksX1_state_6 23 rfl rfl)
theorem dX1_state_165 : decode cX1_state 165 = .ok (.aload_n 0, 1) := dk_42 (dk_at dksX1_state_7 0 rfl rfl)
theorem dX1_state_166 : decode cX1_state 166 = .ok (.getfield 105, 3) := dk_180 0 105 (dk_at dksX1_state_7 1 rfl rfl)
theorem dX1_state_169 : decode cX1_state 169 = .ok (.iload 4, 2) := dk_21 4 (dk_at dksX1_state_7 4 rfl rfl)
theorem dX1_state_171 : decode cX1_state 171 = .ok (.aaload, 1) := dk_50 (dk_at dksX1_state_7 6 rfl rfl)
theorem dX1_state_172 : decode cX1_state 172 = .ok (.iload_n 1, 1) := dk_27 (dk_at dksX1_state_7 7 rfl rfl)
theorem dX1_state_173 : decode cX1_state 173 = .ok (.iaload, 1) := dk_46 (dk_at dksX1_state_7 8 rfl rfl)
theorem dX1_state_174 : decode cX1_state 174 = .ok (.iadd, 1) := dk_96 (dk_at dksX1_state_7 9 rfl rfl)
theorem dX1_state_175 : decode cX1_state 175 = .ok (.istore_n 3, 1) := dk_62 (dk_at dksX1_state_7 10 rfl rfl)
theorem dX1_state_176 : decode cX1_state 176 = .ok (.iinc 4 1, 3) := dk_132 4 1 (dk_at dksX1_state_7 11 rfl rfl)
theorem dX1_state_179 : decode cX1_state 179 = .ok (.goto (-27), 3) := dk_167 255 229 (dk_at dksX1_state_7 14 rfl rfl)
theorem dX1_state_182 : decode cX1_state 182 = .ok (.iload_n 3, 1) := dk_29 (dk_at dksX1_state_7 17 rfl rfl)
theorem dX1_state_183 : decode cX1_state 183 = .ok (.ireturn, 1) := dk_172 (dk_at dksX1_state_7 18 rfl rfl)
abbrev cX1_sold : ByteArray := prog_1_method_35_code
def yX1_sold : MethodName := ⟨RX1, "sold", "(III)Z"⟩
def dkwX1_sold_1 : List UInt8 := [184, 0, 133, 154, 0, 5, 3, 172, 42, 180, 0, 102, 27, 50, 28, 29, 79, 4, 172]
abbrev dktX1_sold_1 : List UInt8 := dkwX1_sold_1 ++ []
def dkwX1_sold_0 : List UInt8 := [27, 3, 6, 184, 0, 133, 153, 0, 24, 28, 3, 16, 9, 184, 0, 133, 153, 0, 14, 29, 3, 17, 3, 232]
abbrev dktX1_sold_0 : List UInt8 := dkwX1_sold_0 ++ dktX1_sold_1
theorem dksX1_sold_0 : cX1_sold.data.toList.drop 0 = dktX1_sold_0 := by decide +kernel
theorem dksX1_sold_1 : cX1_sold.data.toList.drop 24 = dktX1_sold_1 := dk_seg dksX1_sold_0 24 rfl rfl
theorem dX1_sold_0 : decode cX1_sold 0 = .ok (.iload_n 1, 1) := dk_27 (dk_at dksX1_sold_0 0 rfl rfl)
theorem dX1_sold_1 : decode cX1_sold 1 = .ok (.iconst 0, 1) := dk_3 (dk_at dksX1_sold_0 1 rfl rfl)
theorem dX1_sold_2 : decode cX1_sold 2 = .ok (.iconst 3, 1) := dk_6 (dk_at dksX1_sold_0 2 rfl rfl)
theorem dX1_sold_3 : decode cX1_sold 3 = .ok (.invokestatic 133, 3) := dk_184 0 133 (dk_at dksX1_sold_0 3 rfl rfl)
theorem dX1_sold_6 : decode cX1_sold 6 = .ok (.ifCond .eq 24, 3) := dk_153 0 24 (dk_at dksX1_sold_0 6 rfl rfl)
theorem dX1_sold_9 : decode cX1_sold 9 = .ok (.iload_n 2, 1) := dk_28 (dk_at dksX1_sold_0 9 rfl rfl)
theorem dX1_sold_10 : decode cX1_sold 10 = .ok (.iconst 0, 1) := dk_3 (dk_at dksX1_sold_0 10 rfl rfl)
theorem dX1_sold_11 : decode cX1_sold 11 = .ok (.bipush 9, 2) := dk_16 9 (dk_at dksX1_sold_0 11 rfl rfl)
theorem dX1_sold_13 : decode cX1_sold 13 = .ok (.invokestatic 133, 3) := dk_184 0 133 (dk_at dksX1_sold_0 13 rfl rfl)
theorem dX1_sold_16 : decode cX1_sold 16 = .ok (.ifCond .eq 14, 3) := dk_153 0 14 (dk_at dksX1_sold_0 16 rfl rfl)
theorem dX1_sold_19 : decode cX1_sold 19 = .ok (.iload_n 3, 1) := dk_29 (dk_at dksX1_sold_0 19 rfl rfl)
theorem dX1_sold_20 : decode cX1_sold 20 = .ok (.iconst 0, 1) := dk_3 (dk_at dksX1_sold_0 20 rfl rfl)
theorem dX1_sold_21 : decode cX1_sold 21 = .ok (.sipush 1000, 3) := dk_17 3 232 (dk_at dksX1_sold_0 21 rfl rfl)
theorem dX1_sold_24 : decode cX1_sold 24 = .ok (.invokestatic 133, 3) := dk_184 0 133 (dk_at dksX1_sold_1 0 rfl rfl)
theorem dX1_sold_27 : decode cX1_sold 27 = .ok (.ifCond .ne 5, 3) := dk_154 0 5 (dk_at dksX1_sold_1 3 rfl rfl)
theorem dX1_sold_30 : decode cX1_sold 30 = .ok (.iconst 0, 1) := dk_3 (dk_at dksX1_sold_1 6 rfl rfl)
theorem dX1_sold_31 : decode cX1_sold 31 = .ok (.ireturn, 1) := dk_172 (dk_at dksX1_sold_1 7 rfl rfl)
theorem dX1_sold_32 : decode cX1_sold 32 = .ok (.aload_n 0, 1) := dk_42 (dk_at dksX1_sold_1 8 rfl rfl)
theorem dX1_sold_33 : decode cX1_sold 33 = .ok (.getfield 102, 3) := dk_180 0 102 (dk_at dksX1_sold_1 9 rfl rfl)
theorem dX1_sold_36 : decode cX1_sold 36 = .ok (.iload_n 1, 1) := dk_27 (dk_at dksX1_sold_1 12 rfl rfl)
theorem dX1_sold_37 : decode cX1_sold 37 = .ok (.aaload, 1) := dk_50 (dk_at dksX1_sold_1 13 rfl rfl)
theorem dX1_sold_38 : decode cX1_sold 38 = .ok (.iload_n 2, 1) := dk_28 (dk_at dksX1_sold_1 14 rfl rfl)
theorem dX1_sold_39 : decode cX1_sold 39 = .ok (.iload_n 3, 1) := dk_29 (dk_at dksX1_sold_1 15 rfl rfl)
theorem dX1_sold_40 : decode cX1_sold 40 = .ok (.iastore, 1) := dk_79 (dk_at dksX1_sold_1 16 rfl rfl)
theorem dX1_sold_41 : decode cX1_sold 41 = .ok (.iconst 1, 1) := dk_4 (dk_at dksX1_sold_1 17 rfl rfl)
theorem dX1_sold_42 : decode cX1_sold 42 = .ok (.ireturn, 1) := dk_172 (dk_at dksX1_sold_1 18 rfl rfl)
abbrev cX1_own : ByteArray := prog_1_method_36_code
def yX1_own : MethodName := ⟨RX1, "own", "(IIII)I"⟩
def dkwX1_own_4 : List UInt8 := [180, 0, 15, 21, 4, 4, 100, 27, 28, 182, 0, 26, 172]
abbrev dktX1_own_4 : List UInt8 := dkwX1_own_4 ++ []
def dkwX1_own_3 : List UInt8 := [167, 0, 36, 21, 4, 4, 160, 0, 17, 42, 180, 0, 15, 180, 1, 36, 27, 50, 28, 46, 167, 0, 16, 42]
abbrev dktX1_own_3 : List UInt8 := dkwX1_own_3 ++ dktX1_own_4
def dkwX1_own_2 : List UInt8 := [182, 0, 239, 182, 1, 29, 21, 4, 154, 0, 17, 42, 180, 0, 15, 180, 1, 33, 27, 50, 28, 46]
abbrev dktX1_own_2 : List UInt8 := dkwX1_own_2 ++ dktX1_own_3
def dkwX1_own_1 : List UInt8 := [153, 0, 13, 21, 4, 3, 7, 184, 0, 133, 154, 0, 5, 2, 172, 42, 180, 0, 15, 42, 180, 0, 111, 29]
abbrev dktX1_own_1 : List UInt8 := dkwX1_own_1 ++ dktX1_own_2
def dkwX1_own_0 : List UInt8 := [27, 3, 6, 184, 0, 133, 153, 0, 30, 28, 3, 16, 9, 184, 0, 133, 153, 0, 20, 29, 184, 0, 223]
abbrev dktX1_own_0 : List UInt8 := dkwX1_own_0 ++ dktX1_own_1
theorem dksX1_own_0 : cX1_own.data.toList.drop 0 = dktX1_own_0 := by decide +kernel
theorem dksX1_own_1 : cX1_own.data.toList.drop 23 = dktX1_own_1 := dk_seg dksX1_own_0 23 rfl rfl
theorem dksX1_own_2 : cX1_own.data.toList.drop 47 = dktX1_own_2 := dk_seg dksX1_own_1 24 rfl rfl
theorem dksX1_own_3 : cX1_own.data.toList.drop 69 = dktX1_own_3 := dk_seg dksX1_own_2 22 rfl rfl
theorem dksX1_own_4 : cX1_own.data.toList.drop 93 = dktX1_own_4 := dk_seg dksX1_own_3 24 rfl rfl
theorem dX1_own_0 : decode cX1_own 0 = .ok (.iload_n 1, 1) := dk_27 (dk_at dksX1_own_0 0 rfl rfl)
theorem dX1_own_1 : decode cX1_own 1 = .ok (.iconst 0, 1) := dk_3 (dk_at dksX1_own_0 1 rfl rfl)
theorem dX1_own_2 : decode cX1_own 2 = .ok (.iconst 3, 1) := dk_6 (dk_at dksX1_own_0 2 rfl rfl)
theorem dX1_own_3 : decode cX1_own 3 = .ok (.invokestatic 133, 3) := dk_184 0 133 (dk_at dksX1_own_0 3 rfl rfl)
theorem dX1_own_6 : decode cX1_own 6 = .ok (.ifCond .eq 30, 3) := dk_153 0 30 (dk_at dksX1_own_0 6 rfl rfl)
theorem dX1_own_9 : decode cX1_own 9 = .ok (.iload_n 2, 1) := dk_28 (dk_at dksX1_own_0 9 rfl rfl)
theorem dX1_own_10 : decode cX1_own 10 = .ok (.iconst 0, 1) := dk_3 (dk_at dksX1_own_0 10 rfl rfl)
theorem dX1_own_11 : decode cX1_own 11 = .ok (.bipush 9, 2) := dk_16 9 (dk_at dksX1_own_0 11 rfl rfl)
theorem dX1_own_13 : decode cX1_own 13 = .ok (.invokestatic 133, 3) := dk_184 0 133 (dk_at dksX1_own_0 13 rfl rfl)
theorem dX1_own_16 : decode cX1_own 16 = .ok (.ifCond .eq 20, 3) := dk_153 0 20 (dk_at dksX1_own_0 16 rfl rfl)
theorem dX1_own_19 : decode cX1_own 19 = .ok (.iload_n 3, 1) := dk_29 (dk_at dksX1_own_0 19 rfl rfl)
theorem dX1_own_20 : decode cX1_own 20 = .ok (.invokestatic 223, 3) := dk_184 0 223 (dk_at dksX1_own_0 20 rfl rfl)
theorem dX1_own_23 : decode cX1_own 23 = .ok (.ifCond .eq 13, 3) := dk_153 0 13 (dk_at dksX1_own_1 0 rfl rfl)
theorem dX1_own_26 : decode cX1_own 26 = .ok (.iload 4, 2) := dk_21 4 (dk_at dksX1_own_1 3 rfl rfl)
theorem dX1_own_28 : decode cX1_own 28 = .ok (.iconst 0, 1) := dk_3 (dk_at dksX1_own_1 5 rfl rfl)
theorem dX1_own_29 : decode cX1_own 29 = .ok (.iconst 4, 1) := dk_7 (dk_at dksX1_own_1 6 rfl rfl)
theorem dX1_own_30 : decode cX1_own 30 = .ok (.invokestatic 133, 3) := dk_184 0 133 (dk_at dksX1_own_1 7 rfl rfl)
theorem dX1_own_33 : decode cX1_own 33 = .ok (.ifCond .ne 5, 3) := dk_154 0 5 (dk_at dksX1_own_1 10 rfl rfl)
theorem dX1_own_36 : decode cX1_own 36 = .ok (.iconst (-1), 1) := dk_2 (dk_at dksX1_own_1 13 rfl rfl)
theorem dX1_own_37 : decode cX1_own 37 = .ok (.ireturn, 1) := dk_172 (dk_at dksX1_own_1 14 rfl rfl)
theorem dX1_own_38 : decode cX1_own 38 = .ok (.aload_n 0, 1) := dk_42 (dk_at dksX1_own_1 15 rfl rfl)
theorem dX1_own_39 : decode cX1_own 39 = .ok (.getfield 15, 3) := dk_180 0 15 (dk_at dksX1_own_1 16 rfl rfl)
theorem dX1_own_42 : decode cX1_own 42 = .ok (.aload_n 0, 1) := dk_42 (dk_at dksX1_own_1 19 rfl rfl)
theorem dX1_own_43 : decode cX1_own 43 = .ok (.getfield 111, 3) := dk_180 0 111 (dk_at dksX1_own_1 20 rfl rfl)
theorem dX1_own_46 : decode cX1_own 46 = .ok (.iload_n 3, 1) := dk_29 (dk_at dksX1_own_1 23 rfl rfl)
theorem dX1_own_47 : decode cX1_own 47 = .ok (.invokevirtual 239, 3) := dk_182 0 239 (dk_at dksX1_own_2 0 rfl rfl)
theorem dX1_own_50 : decode cX1_own 50 = .ok (.invokevirtual 285, 3) := dk_182 1 29 (dk_at dksX1_own_2 3 rfl rfl)
theorem dX1_own_53 : decode cX1_own 53 = .ok (.iload 4, 2) := dk_21 4 (dk_at dksX1_own_2 6 rfl rfl)
theorem dX1_own_55 : decode cX1_own 55 = .ok (.ifCond .ne 17, 3) := dk_154 0 17 (dk_at dksX1_own_2 8 rfl rfl)
theorem dX1_own_58 : decode cX1_own 58 = .ok (.aload_n 0, 1) := dk_42 (dk_at dksX1_own_2 11 rfl rfl)
theorem dX1_own_59 : decode cX1_own 59 = .ok (.getfield 15, 3) := dk_180 0 15 (dk_at dksX1_own_2 12 rfl rfl)
theorem dX1_own_62 : decode cX1_own 62 = .ok (.getfield 289, 3) := dk_180 1 33 (dk_at dksX1_own_2 15 rfl rfl)
theorem dX1_own_65 : decode cX1_own 65 = .ok (.iload_n 1, 1) := dk_27 (dk_at dksX1_own_2 18 rfl rfl)
theorem dX1_own_66 : decode cX1_own 66 = .ok (.aaload, 1) := dk_50 (dk_at dksX1_own_2 19 rfl rfl)
theorem dX1_own_67 : decode cX1_own 67 = .ok (.iload_n 2, 1) := dk_28 (dk_at dksX1_own_2 20 rfl rfl)
theorem dX1_own_68 : decode cX1_own 68 = .ok (.iaload, 1) := dk_46 (dk_at dksX1_own_2 21 rfl rfl)
theorem dX1_own_69 : decode cX1_own 69 = .ok (.goto 36, 3) := dk_167 0 36 (dk_at dksX1_own_3 0 rfl rfl)
theorem dX1_own_72 : decode cX1_own 72 = .ok (.iload 4, 2) := dk_21 4 (dk_at dksX1_own_3 3 rfl rfl)
theorem dX1_own_74 : decode cX1_own 74 = .ok (.iconst 1, 1) := dk_4 (dk_at dksX1_own_3 5 rfl rfl)
theorem dX1_own_75 : decode cX1_own 75 = .ok (.if_icmp .ne 17, 3) := dk_160 0 17 (dk_at dksX1_own_3 6 rfl rfl)
theorem dX1_own_78 : decode cX1_own 78 = .ok (.aload_n 0, 1) := dk_42 (dk_at dksX1_own_3 9 rfl rfl)
theorem dX1_own_79 : decode cX1_own 79 = .ok (.getfield 15, 3) := dk_180 0 15 (dk_at dksX1_own_3 10 rfl rfl)
theorem dX1_own_82 : decode cX1_own 82 = .ok (.getfield 292, 3) := dk_180 1 36 (dk_at dksX1_own_3 13 rfl rfl)
theorem dX1_own_85 : decode cX1_own 85 = .ok (.iload_n 1, 1) := dk_27 (dk_at dksX1_own_3 16 rfl rfl)
theorem dX1_own_86 : decode cX1_own 86 = .ok (.aaload, 1) := dk_50 (dk_at dksX1_own_3 17 rfl rfl)
theorem dX1_own_87 : decode cX1_own 87 = .ok (.iload_n 2, 1) := dk_28 (dk_at dksX1_own_3 18 rfl rfl)
theorem dX1_own_88 : decode cX1_own 88 = .ok (.iaload, 1) := dk_46 (dk_at dksX1_own_3 19 rfl rfl)
theorem dX1_own_89 : decode cX1_own 89 = .ok (.goto 16, 3) := dk_167 0 16 (dk_at dksX1_own_3 20 rfl rfl)
theorem dX1_own_92 : decode cX1_own 92 = .ok (.aload_n 0, 1) := dk_42 (dk_at dksX1_own_3 23 rfl rfl)
theorem dX1_own_93 : decode cX1_own 93 = .ok (.getfield 15, 3) := dk_180 0 15 (dk_at dksX1_own_4 0 rfl rfl)
theorem dX1_own_96 : decode cX1_own 96 = .ok (.iload 4, 2) := dk_21 4 (dk_at dksX1_own_4 3 rfl rfl)
theorem dX1_own_98 : decode cX1_own 98 = .ok (.iconst 1, 1) := dk_4 (dk_at dksX1_own_4 5 rfl rfl)
theorem dX1_own_99 : decode cX1_own 99 = .ok (.isub, 1) := dk_100 (dk_at dksX1_own_4 6 rfl rfl)
theorem dX1_own_100 : decode cX1_own 100 = .ok (.iload_n 1, 1) := dk_27 (dk_at dksX1_own_4 7 rfl rfl)
theorem dX1_own_101 : decode cX1_own 101 = .ok (.iload_n 2, 1) := dk_28 (dk_at dksX1_own_4 8 rfl rfl)
theorem dX1_own_102 : decode cX1_own 102 = .ok (.invokevirtual 26, 3) := dk_182 0 26 (dk_at dksX1_own_4 9 rfl rfl)
theorem dX1_own_105 : decode cX1_own 105 = .ok (.ireturn, 1) := dk_172 (dk_at dksX1_own_4 12 rfl rfl)
abbrev cX1_group : ByteArray := prog_1_method_2_code
def yX1_group : MethodName := ⟨RX1, "group", "(I)I"⟩
def dkwX1_group_0 : List UInt8 := [16, 9, 26, 16, 10, 108, 184, 0, 3, 172]
abbrev dktX1_group_0 : List UInt8 := dkwX1_group_0 ++ []
theorem dksX1_group_0 : cX1_group.data.toList.drop 0 = dktX1_group_0 := by decide +kernel
theorem dX1_group_0 : decode cX1_group 0 = .ok (.bipush 9, 2) := dk_16 9 (dk_at dksX1_group_0 0 rfl rfl)
theorem dX1_group_2 : decode cX1_group 2 = .ok (.iload_n 0, 1) := dk_26 (dk_at dksX1_group_0 2 rfl rfl)
theorem dX1_group_3 : decode cX1_group 3 = .ok (.bipush 10, 2) := dk_16 10 (dk_at dksX1_group_0 3 rfl rfl)
theorem dX1_group_5 : decode cX1_group 5 = .ok (.idiv, 1) := dk_108 (dk_at dksX1_group_0 5 rfl rfl)
theorem dX1_group_6 : decode cX1_group 6 = .ok (.invokestatic 3, 3) := dk_184 0 3 (dk_at dksX1_group_0 6 rfl rfl)
theorem dX1_group_9 : decode cX1_group 9 = .ok (.ireturn, 1) := dk_172 (dk_at dksX1_group_0 9 rfl rfl)
abbrev cX1_worth : ByteArray := prog_1_method_37_code
def yX1_worth : MethodName := ⟨RX1, "worth", "(III)I"⟩
def dkwX1_worth_4 : List UInt8 := [182, 0, 239, 182, 1, 29, 42, 29, 25, 4, 25, 5, 182, 1, 39, 172]
abbrev dktX1_worth_4 : List UInt8 := dkwX1_worth_4 ++ []
def dkwX1_worth_3 : List UInt8 := [182, 0, 9, 16, 100, 161, 0, 5, 2, 172, 42, 180, 0, 15, 42, 180, 0, 111, 42, 180, 0, 41]
abbrev dktX1_worth_3 : List UInt8 := dkwX1_worth_3 ++ dktX1_worth_4
def dkwX1_worth_2 : List UInt8 := [180, 0, 41, 182, 0, 9, 16, 100, 162, 0, 22, 25, 5, 198, 0, 19, 25, 5, 42, 180, 0, 41]
abbrev dktX1_worth_2 : List UInt8 := dkwX1_worth_2 ++ dktX1_worth_3
def dkwX1_worth_1 : List UInt8 := [25, 5, 198, 0, 50, 28, 27, 159, 0, 45, 29, 3, 6, 184, 0, 133, 153, 0, 36, 25, 4, 42]
abbrev dktX1_worth_1 : List UInt8 := dkwX1_worth_1 ++ dktX1_worth_2
def dkwX1_worth_0 : List UInt8 := [42, 27, 182, 0, 174, 58, 4, 42, 28, 182, 0, 174, 58, 5, 25, 4, 198, 0, 60, 28, 2, 159, 0, 13]
abbrev dktX1_worth_0 : List UInt8 := dkwX1_worth_0 ++ dktX1_worth_1
theorem dksX1_worth_0 : cX1_worth.data.toList.drop 0 = dktX1_worth_0 := by decide +kernel
theorem dksX1_worth_1 : cX1_worth.data.toList.drop 24 = dktX1_worth_1 := dk_seg dksX1_worth_0 24 rfl rfl
theorem dksX1_worth_2 : cX1_worth.data.toList.drop 46 = dktX1_worth_2 := dk_seg dksX1_worth_1 22 rfl rfl
theorem dksX1_worth_3 : cX1_worth.data.toList.drop 68 = dktX1_worth_3 := dk_seg dksX1_worth_2 22 rfl rfl
theorem dksX1_worth_4 : cX1_worth.data.toList.drop 90 = dktX1_worth_4 := dk_seg dksX1_worth_3 22 rfl rfl
theorem dX1_worth_0 : decode cX1_worth 0 = .ok (.aload_n 0, 1) := dk_42 (dk_at dksX1_worth_0 0 rfl rfl)
theorem dX1_worth_1 : decode cX1_worth 1 = .ok (.iload_n 1, 1) := dk_27 (dk_at dksX1_worth_0 1 rfl rfl)
theorem dX1_worth_2 : decode cX1_worth 2 = .ok (.invokevirtual 174, 3) := dk_182 0 174 (dk_at dksX1_worth_0 2 rfl rfl)
theorem dX1_worth_5 : decode cX1_worth 5 = .ok (.astore 4, 2) := dk_58 4 (dk_at dksX1_worth_0 5 rfl rfl)
theorem dX1_worth_7 : decode cX1_worth 7 = .ok (.aload_n 0, 1) := dk_42 (dk_at dksX1_worth_0 7 rfl rfl)
theorem dX1_worth_8 : decode cX1_worth 8 = .ok (.iload_n 2, 1) := dk_28 (dk_at dksX1_worth_0 8 rfl rfl)
theorem dX1_worth_9 : decode cX1_worth 9 = .ok (.invokevirtual 174, 3) := dk_182 0 174 (dk_at dksX1_worth_0 9 rfl rfl)
theorem dX1_worth_12 : decode cX1_worth 12 = .ok (.astore 5, 2) := dk_58 5 (dk_at dksX1_worth_0 12 rfl rfl)
theorem dX1_worth_14 : decode cX1_worth 14 = .ok (.aload 4, 2) := dk_25 4 (dk_at dksX1_worth_0 14 rfl rfl)
theorem dX1_worth_16 : decode cX1_worth 16 = .ok (.ifnull 60, 3) := dk_198 0 60 (dk_at dksX1_worth_0 16 rfl rfl)
theorem dX1_worth_19 : decode cX1_worth 19 = .ok (.iload_n 2, 1) := dk_28 (dk_at dksX1_worth_0 19 rfl rfl)
theorem dX1_worth_20 : decode cX1_worth 20 = .ok (.iconst (-1), 1) := dk_2 (dk_at dksX1_worth_0 20 rfl rfl)
theorem dX1_worth_21 : decode cX1_worth 21 = .ok (.if_icmp .eq 13, 3) := dk_159 0 13 (dk_at dksX1_worth_0 21 rfl rfl)
theorem dX1_worth_24 : decode cX1_worth 24 = .ok (.aload 5, 2) := dk_25 5 (dk_at dksX1_worth_1 0 rfl rfl)
theorem dX1_worth_26 : decode cX1_worth 26 = .ok (.ifnull 50, 3) := dk_198 0 50 (dk_at dksX1_worth_1 2 rfl rfl)
theorem dX1_worth_29 : decode cX1_worth 29 = .ok (.iload_n 2, 1) := dk_28 (dk_at dksX1_worth_1 5 rfl rfl)
theorem dX1_worth_30 : decode cX1_worth 30 = .ok (.iload_n 1, 1) := dk_27 (dk_at dksX1_worth_1 6 rfl rfl)
theorem dX1_worth_31 : decode cX1_worth 31 = .ok (.if_icmp .eq 45, 3) := dk_159 0 45 (dk_at dksX1_worth_1 7 rfl rfl)
theorem dX1_worth_34 : decode cX1_worth 34 = .ok (.iload_n 3, 1) := dk_29 (dk_at dksX1_worth_1 10 rfl rfl)
theorem dX1_worth_35 : decode cX1_worth 35 = .ok (.iconst 0, 1) := dk_3 (dk_at dksX1_worth_1 11 rfl rfl)
theorem dX1_worth_36 : decode cX1_worth 36 = .ok (.iconst 3, 1) := dk_6 (dk_at dksX1_worth_1 12 rfl rfl)
theorem dX1_worth_37 : decode cX1_worth 37 = .ok (.invokestatic 133, 3) := dk_184 0 133 (dk_at dksX1_worth_1 13 rfl rfl)
theorem dX1_worth_40 : decode cX1_worth 40 = .ok (.ifCond .eq 36, 3) := dk_153 0 36 (dk_at dksX1_worth_1 16 rfl rfl)
theorem dX1_worth_43 : decode cX1_worth 43 = .ok (.aload 4, 2) := dk_25 4 (dk_at dksX1_worth_1 19 rfl rfl)
theorem dX1_worth_45 : decode cX1_worth 45 = .ok (.aload_n 0, 1) := dk_42 (dk_at dksX1_worth_1 21 rfl rfl)
theorem dX1_worth_46 : decode cX1_worth 46 = .ok (.getfield 41, 3) := dk_180 0 41 (dk_at dksX1_worth_2 0 rfl rfl)
theorem dX1_worth_49 : decode cX1_worth 49 = .ok (.invokevirtual 9, 3) := dk_182 0 9 (dk_at dksX1_worth_2 3 rfl rfl)
theorem dX1_worth_52 : decode cX1_worth 52 = .ok (.bipush 100, 2) := dk_16 100 (dk_at dksX1_worth_2 6 rfl rfl)
theorem dX1_worth_54 : decode cX1_worth 54 = .ok (.if_icmp .ge 22, 3) := dk_162 0 22 (dk_at dksX1_worth_2 8 rfl rfl)
theorem dX1_worth_57 : decode cX1_worth 57 = .ok (.aload 5, 2) := dk_25 5 (dk_at dksX1_worth_2 11 rfl rfl)
theorem dX1_worth_59 : decode cX1_worth 59 = .ok (.ifnull 19, 3) := dk_198 0 19 (dk_at dksX1_worth_2 13 rfl rfl)
theorem dX1_worth_62 : decode cX1_worth 62 = .ok (.aload 5, 2) := dk_25 5 (dk_at dksX1_worth_2 16 rfl rfl)
theorem dX1_worth_64 : decode cX1_worth 64 = .ok (.aload_n 0, 1) := dk_42 (dk_at dksX1_worth_2 18 rfl rfl)
theorem dX1_worth_65 : decode cX1_worth 65 = .ok (.getfield 41, 3) := dk_180 0 41 (dk_at dksX1_worth_2 19 rfl rfl)
theorem dX1_worth_68 : decode cX1_worth 68 = .ok (.invokevirtual 9, 3) := dk_182 0 9 (dk_at dksX1_worth_3 0 rfl rfl)
theorem dX1_worth_71 : decode cX1_worth 71 = .ok (.bipush 100, 2) := dk_16 100 (dk_at dksX1_worth_3 3 rfl rfl)
theorem dX1_worth_73 : decode cX1_worth 73 = .ok (.if_icmp .lt 5, 3) := dk_161 0 5 (dk_at dksX1_worth_3 5 rfl rfl)
theorem dX1_worth_76 : decode cX1_worth 76 = .ok (.iconst (-1), 1) := dk_2 (dk_at dksX1_worth_3 8 rfl rfl)
theorem dX1_worth_77 : decode cX1_worth 77 = .ok (.ireturn, 1) := dk_172 (dk_at dksX1_worth_3 9 rfl rfl)
theorem dX1_worth_78 : decode cX1_worth 78 = .ok (.aload_n 0, 1) := dk_42 (dk_at dksX1_worth_3 10 rfl rfl)
theorem dX1_worth_79 : decode cX1_worth 79 = .ok (.getfield 15, 3) := dk_180 0 15 (dk_at dksX1_worth_3 11 rfl rfl)
theorem dX1_worth_82 : decode cX1_worth 82 = .ok (.aload_n 0, 1) := dk_42 (dk_at dksX1_worth_3 14 rfl rfl)
theorem dX1_worth_83 : decode cX1_worth 83 = .ok (.getfield 111, 3) := dk_180 0 111 (dk_at dksX1_worth_3 15 rfl rfl)
theorem dX1_worth_86 : decode cX1_worth 86 = .ok (.aload_n 0, 1) := dk_42 (dk_at dksX1_worth_3 18 rfl rfl)
theorem dX1_worth_87 : decode cX1_worth 87 = .ok (.getfield 41, 3) := dk_180 0 41 (dk_at dksX1_worth_3 19 rfl rfl)
theorem dX1_worth_90 : decode cX1_worth 90 = .ok (.invokevirtual 239, 3) := dk_182 0 239 (dk_at dksX1_worth_4 0 rfl rfl)
theorem dX1_worth_93 : decode cX1_worth 93 = .ok (.invokevirtual 285, 3) := dk_182 1 29 (dk_at dksX1_worth_4 3 rfl rfl)
theorem dX1_worth_96 : decode cX1_worth 96 = .ok (.aload_n 0, 1) := dk_42 (dk_at dksX1_worth_4 6 rfl rfl)
theorem dX1_worth_97 : decode cX1_worth 97 = .ok (.iload_n 3, 1) := dk_29 (dk_at dksX1_worth_4 7 rfl rfl)
theorem dX1_worth_98 : decode cX1_worth 98 = .ok (.aload 4, 2) := dk_25 4 (dk_at dksX1_worth_4 8 rfl rfl)
theorem dX1_worth_100 : decode cX1_worth 100 = .ok (.aload 5, 2) := dk_25 5 (dk_at dksX1_worth_4 10 rfl rfl)
theorem dX1_worth_102 : decode cX1_worth 102 = .ok (.invokevirtual 295, 3) := dk_182 1 39 (dk_at dksX1_worth_4 12 rfl rfl)
theorem dX1_worth_105 : decode cX1_worth 105 = .ok (.ireturn, 1) := dk_172 (dk_at dksX1_worth_4 15 rfl rfl)
abbrev cX1_worth_2 : ByteArray := prog_1_method_8_code
def yX1_worth_2 : MethodName := ⟨RX1, "worth", "(ILLifeRents$Life;LLifeRents$Life;)I"⟩
def dkwX1_worth_2_2 : List UInt8 := [45, 182, 0, 58, 100, 172]
abbrev dktX1_worth_2_2 : List UInt8 := dkwX1_worth_2_2 ++ []
def dkwX1_worth_2_1 : List UInt8 := [27, 44, 182, 0, 54, 167, 0, 24, 42, 27, 44, 182, 0, 54, 42, 27, 45, 182, 0, 54, 96, 42, 27, 44]
abbrev dktX1_worth_2_1 : List UInt8 := dkwX1_worth_2_1 ++ dktX1_worth_2_2
def dkwX1_worth_2_0 : List UInt8 := [44, 199, 0, 18, 45, 199, 0, 7, 3, 167, 0, 9, 42, 27, 45, 182, 0, 54, 172, 45, 199, 0, 12, 42]
abbrev dktX1_worth_2_0 : List UInt8 := dkwX1_worth_2_0 ++ dktX1_worth_2_1
theorem dksX1_worth_2_0 : cX1_worth_2.data.toList.drop 0 = dktX1_worth_2_0 := by decide +kernel
theorem dksX1_worth_2_1 : cX1_worth_2.data.toList.drop 24 = dktX1_worth_2_1 := dk_seg dksX1_worth_2_0 24 rfl rfl
theorem dksX1_worth_2_2 : cX1_worth_2.data.toList.drop 48 = dktX1_worth_2_2 := dk_seg dksX1_worth_2_1 24 rfl rfl
theorem dX1_worth_2_0 : decode cX1_worth_2 0 = .ok (.aload_n 2, 1) := dk_44 (dk_at dksX1_worth_2_0 0 rfl rfl)
theorem dX1_worth_2_1 : decode cX1_worth_2 1 = .ok (.ifnonnull 18, 3) := dk_199 0 18 (dk_at dksX1_worth_2_0 1 rfl rfl)
theorem dX1_worth_2_4 : decode cX1_worth_2 4 = .ok (.aload_n 3, 1) := dk_45 (dk_at dksX1_worth_2_0 4 rfl rfl)
theorem dX1_worth_2_5 : decode cX1_worth_2 5 = .ok (.ifnonnull 7, 3) := dk_199 0 7 (dk_at dksX1_worth_2_0 5 rfl rfl)
theorem dX1_worth_2_8 : decode cX1_worth_2 8 = .ok (.iconst 0, 1) := dk_3 (dk_at dksX1_worth_2_0 8 rfl rfl)
theorem dX1_worth_2_9 : decode cX1_worth_2 9 = .ok (.goto 9, 3) := dk_167 0 9 (dk_at dksX1_worth_2_0 9 rfl rfl)
theorem dX1_worth_2_12 : decode cX1_worth_2 12 = .ok (.aload_n 0, 1) := dk_42 (dk_at dksX1_worth_2_0 12 rfl rfl)
theorem dX1_worth_2_13 : decode cX1_worth_2 13 = .ok (.iload_n 1, 1) := dk_27 (dk_at dksX1_worth_2_0 13 rfl rfl)
theorem dX1_worth_2_14 : decode cX1_worth_2 14 = .ok (.aload_n 3, 1) := dk_45 (dk_at dksX1_worth_2_0 14 rfl rfl)
theorem dX1_worth_2_15 : decode cX1_worth_2 15 = .ok (.invokevirtual 54, 3) := dk_182 0 54 (dk_at dksX1_worth_2_0 15 rfl rfl)
theorem dX1_worth_2_18 : decode cX1_worth_2 18 = .ok (.ireturn, 1) := dk_172 (dk_at dksX1_worth_2_0 18 rfl rfl)
theorem dX1_worth_2_19 : decode cX1_worth_2 19 = .ok (.aload_n 3, 1) := dk_45 (dk_at dksX1_worth_2_0 19 rfl rfl)
theorem dX1_worth_2_20 : decode cX1_worth_2 20 = .ok (.ifnonnull 12, 3) := dk_199 0 12 (dk_at dksX1_worth_2_0 20 rfl rfl)
theorem dX1_worth_2_23 : decode cX1_worth_2 23 = .ok (.aload_n 0, 1) := dk_42 (dk_at dksX1_worth_2_0 23 rfl rfl)
theorem dX1_worth_2_24 : decode cX1_worth_2 24 = .ok (.iload_n 1, 1) := dk_27 (dk_at dksX1_worth_2_1 0 rfl rfl)
theorem dX1_worth_2_25 : decode cX1_worth_2 25 = .ok (.aload_n 2, 1) := dk_44 (dk_at dksX1_worth_2_1 1 rfl rfl)
theorem dX1_worth_2_26 : decode cX1_worth_2 26 = .ok (.invokevirtual 54, 3) := dk_182 0 54 (dk_at dksX1_worth_2_1 2 rfl rfl)
theorem dX1_worth_2_29 : decode cX1_worth_2 29 = .ok (.goto 24, 3) := dk_167 0 24 (dk_at dksX1_worth_2_1 5 rfl rfl)
theorem dX1_worth_2_32 : decode cX1_worth_2 32 = .ok (.aload_n 0, 1) := dk_42 (dk_at dksX1_worth_2_1 8 rfl rfl)
theorem dX1_worth_2_33 : decode cX1_worth_2 33 = .ok (.iload_n 1, 1) := dk_27 (dk_at dksX1_worth_2_1 9 rfl rfl)
theorem dX1_worth_2_34 : decode cX1_worth_2 34 = .ok (.aload_n 2, 1) := dk_44 (dk_at dksX1_worth_2_1 10 rfl rfl)
theorem dX1_worth_2_35 : decode cX1_worth_2 35 = .ok (.invokevirtual 54, 3) := dk_182 0 54 (dk_at dksX1_worth_2_1 11 rfl rfl)
theorem dX1_worth_2_38 : decode cX1_worth_2 38 = .ok (.aload_n 0, 1) := dk_42 (dk_at dksX1_worth_2_1 14 rfl rfl)
theorem dX1_worth_2_39 : decode cX1_worth_2 39 = .ok (.iload_n 1, 1) := dk_27 (dk_at dksX1_worth_2_1 15 rfl rfl)
theorem dX1_worth_2_40 : decode cX1_worth_2 40 = .ok (.aload_n 3, 1) := dk_45 (dk_at dksX1_worth_2_1 16 rfl rfl)
theorem dX1_worth_2_41 : decode cX1_worth_2 41 = .ok (.invokevirtual 54, 3) := dk_182 0 54 (dk_at dksX1_worth_2_1 17 rfl rfl)
theorem dX1_worth_2_44 : decode cX1_worth_2 44 = .ok (.iadd, 1) := dk_96 (dk_at dksX1_worth_2_1 20 rfl rfl)
theorem dX1_worth_2_45 : decode cX1_worth_2 45 = .ok (.aload_n 0, 1) := dk_42 (dk_at dksX1_worth_2_1 21 rfl rfl)
theorem dX1_worth_2_46 : decode cX1_worth_2 46 = .ok (.iload_n 1, 1) := dk_27 (dk_at dksX1_worth_2_1 22 rfl rfl)
theorem dX1_worth_2_47 : decode cX1_worth_2 47 = .ok (.aload_n 2, 1) := dk_44 (dk_at dksX1_worth_2_1 23 rfl rfl)
theorem dX1_worth_2_48 : decode cX1_worth_2 48 = .ok (.aload_n 3, 1) := dk_45 (dk_at dksX1_worth_2_2 0 rfl rfl)
theorem dX1_worth_2_49 : decode cX1_worth_2 49 = .ok (.invokevirtual 58, 3) := dk_182 0 58 (dk_at dksX1_worth_2_2 1 rfl rfl)
theorem dX1_worth_2_52 : decode cX1_worth_2 52 = .ok (.isub, 1) := dk_100 (dk_at dksX1_worth_2_2 4 rfl rfl)
theorem dX1_worth_2_53 : decode cX1_worth_2 53 = .ok (.ireturn, 1) := dk_172 (dk_at dksX1_worth_2_2 5 rfl rfl)
abbrev cX1_worth_3 : ByteArray := prog_1_method_6_code
def yX1_worth_3 : MethodName := ⟨RX1, "worth", "(ILLifeRents$Life;)I"⟩
def dkwX1_worth_3_1 : List UInt8 := [21, 4, 182, 0, 44, 182, 0, 48, 62, 132, 4, 255, 167, 255, 226, 29, 172]
abbrev dktX1_worth_3_1 : List UInt8 := dkwX1_worth_3_1 ++ []
def dkwX1_worth_3_0 : List UInt8 := [3, 62, 16, 99, 54, 4, 21, 4, 44, 42, 180, 0, 41, 182, 0, 9, 161, 0, 23, 42, 29, 42, 27, 44]
abbrev dktX1_worth_3_0 : List UInt8 := dkwX1_worth_3_0 ++ dktX1_worth_3_1
theorem dksX1_worth_3_0 : cX1_worth_3.data.toList.drop 0 = dktX1_worth_3_0 := by decide +kernel
theorem dksX1_worth_3_1 : cX1_worth_3.data.toList.drop 24 = dktX1_worth_3_1 := dk_seg dksX1_worth_3_0 24 rfl rfl
theorem dX1_worth_3_0 : decode cX1_worth_3 0 = .ok (.iconst 0, 1) := dk_3 (dk_at dksX1_worth_3_0 0 rfl rfl)
theorem dX1_worth_3_1 : decode cX1_worth_3 1 = .ok (.istore_n 3, 1) := dk_62 (dk_at dksX1_worth_3_0 1 rfl rfl)
theorem dX1_worth_3_2 : decode cX1_worth_3 2 = .ok (.bipush 99, 2) := dk_16 99 (dk_at dksX1_worth_3_0 2 rfl rfl)
theorem dX1_worth_3_4 : decode cX1_worth_3 4 = .ok (.istore 4, 2) := dk_54 4 (dk_at dksX1_worth_3_0 4 rfl rfl)
theorem dX1_worth_3_6 : decode cX1_worth_3 6 = .ok (.iload 4, 2) := dk_21 4 (dk_at dksX1_worth_3_0 6 rfl rfl)
theorem dX1_worth_3_8 : decode cX1_worth_3 8 = .ok (.aload_n 2, 1) := dk_44 (dk_at dksX1_worth_3_0 8 rfl rfl)
theorem dX1_worth_3_9 : decode cX1_worth_3 9 = .ok (.aload_n 0, 1) := dk_42 (dk_at dksX1_worth_3_0 9 rfl rfl)
theorem dX1_worth_3_10 : decode cX1_worth_3 10 = .ok (.getfield 41, 3) := dk_180 0 41 (dk_at dksX1_worth_3_0 10 rfl rfl)
theorem dX1_worth_3_13 : decode cX1_worth_3 13 = .ok (.invokevirtual 9, 3) := dk_182 0 9 (dk_at dksX1_worth_3_0 13 rfl rfl)
theorem dX1_worth_3_16 : decode cX1_worth_3 16 = .ok (.if_icmp .lt 23, 3) := dk_161 0 23 (dk_at dksX1_worth_3_0 16 rfl rfl)
theorem dX1_worth_3_19 : decode cX1_worth_3 19 = .ok (.aload_n 0, 1) := dk_42 (dk_at dksX1_worth_3_0 19 rfl rfl)
theorem dX1_worth_3_20 : decode cX1_worth_3 20 = .ok (.iload_n 3, 1) := dk_29 (dk_at dksX1_worth_3_0 20 rfl rfl)
theorem dX1_worth_3_21 : decode cX1_worth_3 21 = .ok (.aload_n 0, 1) := dk_42 (dk_at dksX1_worth_3_0 21 rfl rfl)
theorem dX1_worth_3_22 : decode cX1_worth_3 22 = .ok (.iload_n 1, 1) := dk_27 (dk_at dksX1_worth_3_0 22 rfl rfl)
theorem dX1_worth_3_23 : decode cX1_worth_3 23 = .ok (.aload_n 2, 1) := dk_44 (dk_at dksX1_worth_3_0 23 rfl rfl)
theorem dX1_worth_3_24 : decode cX1_worth_3 24 = .ok (.iload 4, 2) := dk_21 4 (dk_at dksX1_worth_3_1 0 rfl rfl)
theorem dX1_worth_3_26 : decode cX1_worth_3 26 = .ok (.invokevirtual 44, 3) := dk_182 0 44 (dk_at dksX1_worth_3_1 2 rfl rfl)
theorem dX1_worth_3_29 : decode cX1_worth_3 29 = .ok (.invokevirtual 48, 3) := dk_182 0 48 (dk_at dksX1_worth_3_1 5 rfl rfl)
theorem dX1_worth_3_32 : decode cX1_worth_3 32 = .ok (.istore_n 3, 1) := dk_62 (dk_at dksX1_worth_3_1 8 rfl rfl)
theorem dX1_worth_3_33 : decode cX1_worth_3 33 = .ok (.iinc 4 (-1), 3) := dk_132 4 255 (dk_at dksX1_worth_3_1 9 rfl rfl)
theorem dX1_worth_3_36 : decode cX1_worth_3 36 = .ok (.goto (-30), 3) := dk_167 255 226 (dk_at dksX1_worth_3_1 12 rfl rfl)
theorem dX1_worth_3_39 : decode cX1_worth_3 39 = .ok (.iload_n 3, 1) := dk_29 (dk_at dksX1_worth_3_1 15 rfl rfl)
theorem dX1_worth_3_40 : decode cX1_worth_3 40 = .ok (.ireturn, 1) := dk_172 (dk_at dksX1_worth_3_1 16 rfl rfl)
abbrev cX1_live : ByteArray := prog_1_method_4_code
def yX1_live : MethodName := ⟨RX1, "live", "(ILLifeRents$Life;I)I"⟩
def dkwX1_live_0 : List UInt8 := [42, 180, 0, 15, 27, 44, 180, 0, 19, 29, 184, 0, 23, 182, 0, 26, 172]
abbrev dktX1_live_0 : List UInt8 := dkwX1_live_0 ++ []
theorem dksX1_live_0 : cX1_live.data.toList.drop 0 = dktX1_live_0 := by decide +kernel
theorem dX1_live_0 : decode cX1_live 0 = .ok (.aload_n 0, 1) := dk_42 (dk_at dksX1_live_0 0 rfl rfl)
theorem dX1_live_1 : decode cX1_live 1 = .ok (.getfield 15, 3) := dk_180 0 15 (dk_at dksX1_live_0 1 rfl rfl)
theorem dX1_live_4 : decode cX1_live 4 = .ok (.iload_n 1, 1) := dk_27 (dk_at dksX1_live_0 4 rfl rfl)
theorem dX1_live_5 : decode cX1_live 5 = .ok (.aload_n 2, 1) := dk_44 (dk_at dksX1_live_0 5 rfl rfl)
theorem dX1_live_6 : decode cX1_live 6 = .ok (.getfield 19, 3) := dk_180 0 19 (dk_at dksX1_live_0 6 rfl rfl)
theorem dX1_live_9 : decode cX1_live 9 = .ok (.iload_n 3, 1) := dk_29 (dk_at dksX1_live_0 9 rfl rfl)
theorem dX1_live_10 : decode cX1_live 10 = .ok (.invokestatic 23, 3) := dk_184 0 23 (dk_at dksX1_live_0 10 rfl rfl)
theorem dX1_live_13 : decode cX1_live 13 = .ok (.invokevirtual 26, 3) := dk_182 0 26 (dk_at dksX1_live_0 13 rfl rfl)
theorem dX1_live_16 : decode cX1_live 16 = .ok (.ireturn, 1) := dk_172 (dk_at dksX1_live_0 16 rfl rfl)
abbrev cX1_discounted : ByteArray := prog_1_method_5_code
def yX1_discounted : MethodName := ⟨RX1, "discounted", "(II)I"⟩
def dkwX1_discounted_1 : List UInt8 := [180, 0, 36, 4, 96, 108, 172]
abbrev dktX1_discounted_1 : List UInt8 := dkwX1_discounted_1 ++ []
def dkwX1_discounted_0 : List UInt8 := [17, 3, 232, 27, 96, 28, 104, 17, 3, 232, 108, 42, 180, 0, 32, 180, 0, 36, 104, 42, 180, 0, 32]
abbrev dktX1_discounted_0 : List UInt8 := dkwX1_discounted_0 ++ dktX1_discounted_1
theorem dksX1_discounted_0 : cX1_discounted.data.toList.drop 0 = dktX1_discounted_0 := by decide +kernel
theorem dksX1_discounted_1 : cX1_discounted.data.toList.drop 23 = dktX1_discounted_1 := dk_seg dksX1_discounted_0 23 rfl rfl
theorem dX1_discounted_0 : decode cX1_discounted 0 = .ok (.sipush 1000, 3) := dk_17 3 232 (dk_at dksX1_discounted_0 0 rfl rfl)
theorem dX1_discounted_3 : decode cX1_discounted 3 = .ok (.iload_n 1, 1) := dk_27 (dk_at dksX1_discounted_0 3 rfl rfl)
theorem dX1_discounted_4 : decode cX1_discounted 4 = .ok (.iadd, 1) := dk_96 (dk_at dksX1_discounted_0 4 rfl rfl)
theorem dX1_discounted_5 : decode cX1_discounted 5 = .ok (.iload_n 2, 1) := dk_28 (dk_at dksX1_discounted_0 5 rfl rfl)
theorem dX1_discounted_6 : decode cX1_discounted 6 = .ok (.imul, 1) := dk_104 (dk_at dksX1_discounted_0 6 rfl rfl)
theorem dX1_discounted_7 : decode cX1_discounted 7 = .ok (.sipush 1000, 3) := dk_17 3 232 (dk_at dksX1_discounted_0 7 rfl rfl)
theorem dX1_discounted_10 : decode cX1_discounted 10 = .ok (.idiv, 1) := dk_108 (dk_at dksX1_discounted_0 10 rfl rfl)
theorem dX1_discounted_11 : decode cX1_discounted 11 = .ok (.aload_n 0, 1) := dk_42 (dk_at dksX1_discounted_0 11 rfl rfl)
theorem dX1_discounted_12 : decode cX1_discounted 12 = .ok (.getfield 32, 3) := dk_180 0 32 (dk_at dksX1_discounted_0 12 rfl rfl)
theorem dX1_discounted_15 : decode cX1_discounted 15 = .ok (.getfield 36, 3) := dk_180 0 36 (dk_at dksX1_discounted_0 15 rfl rfl)
theorem dX1_discounted_18 : decode cX1_discounted 18 = .ok (.imul, 1) := dk_104 (dk_at dksX1_discounted_0 18 rfl rfl)
theorem dX1_discounted_19 : decode cX1_discounted 19 = .ok (.aload_n 0, 1) := dk_42 (dk_at dksX1_discounted_0 19 rfl rfl)
theorem dX1_discounted_20 : decode cX1_discounted 20 = .ok (.getfield 32, 3) := dk_180 0 32 (dk_at dksX1_discounted_0 20 rfl rfl)
theorem dX1_discounted_23 : decode cX1_discounted 23 = .ok (.getfield 36, 3) := dk_180 0 36 (dk_at dksX1_discounted_1 0 rfl rfl)
theorem dX1_discounted_26 : decode cX1_discounted 26 = .ok (.iconst 1, 1) := dk_4 (dk_at dksX1_discounted_1 3 rfl rfl)
theorem dX1_discounted_27 : decode cX1_discounted 27 = .ok (.iadd, 1) := dk_96 (dk_at dksX1_discounted_1 4 rfl rfl)
theorem dX1_discounted_28 : decode cX1_discounted 28 = .ok (.idiv, 1) := dk_108 (dk_at dksX1_discounted_1 5 rfl rfl)
theorem dX1_discounted_29 : decode cX1_discounted 29 = .ok (.ireturn, 1) := dk_172 (dk_at dksX1_discounted_1 6 rfl rfl)
abbrev cX1_both : ByteArray := prog_1_method_7_code
def yX1_both : MethodName := ⟨RX1, "both", "(ILLifeRents$Life;LLifeRents$Life;)I"⟩
def dkwX1_both_3 : List UInt8 := [182, 0, 48, 54, 6, 132, 7, 255, 167, 255, 213, 21, 6, 172]
abbrev dktX1_both_3 : List UInt8 := dkwX1_both_3 ++ []
def dkwX1_both_2 : List UInt8 := [21, 4, 21, 7, 96, 182, 0, 44, 42, 27, 45, 21, 5, 21, 7, 96, 182, 0, 44, 104, 17, 3, 232, 108]
abbrev dktX1_both_2 : List UInt8 := dkwX1_both_2 ++ dktX1_both_3
def dkwX1_both_1 : List UInt8 := [16, 99, 21, 4, 21, 5, 184, 0, 51, 100, 54, 7, 21, 7, 155, 0, 44, 42, 21, 6, 42, 27, 44]
abbrev dktX1_both_1 : List UInt8 := dkwX1_both_1 ++ dktX1_both_2
def dkwX1_both_0 : List UInt8 := [44, 42, 180, 0, 41, 182, 0, 9, 54, 4, 45, 42, 180, 0, 41, 182, 0, 9, 54, 5, 3, 54, 6]
abbrev dktX1_both_0 : List UInt8 := dkwX1_both_0 ++ dktX1_both_1
theorem dksX1_both_0 : cX1_both.data.toList.drop 0 = dktX1_both_0 := by decide +kernel
theorem dksX1_both_1 : cX1_both.data.toList.drop 23 = dktX1_both_1 := dk_seg dksX1_both_0 23 rfl rfl
theorem dksX1_both_2 : cX1_both.data.toList.drop 46 = dktX1_both_2 := dk_seg dksX1_both_1 23 rfl rfl
theorem dksX1_both_3 : cX1_both.data.toList.drop 70 = dktX1_both_3 := dk_seg dksX1_both_2 24 rfl rfl
theorem dX1_both_0 : decode cX1_both 0 = .ok (.aload_n 2, 1) := dk_44 (dk_at dksX1_both_0 0 rfl rfl)
theorem dX1_both_1 : decode cX1_both 1 = .ok (.aload_n 0, 1) := dk_42 (dk_at dksX1_both_0 1 rfl rfl)
theorem dX1_both_2 : decode cX1_both 2 = .ok (.getfield 41, 3) := dk_180 0 41 (dk_at dksX1_both_0 2 rfl rfl)
theorem dX1_both_5 : decode cX1_both 5 = .ok (.invokevirtual 9, 3) := dk_182 0 9 (dk_at dksX1_both_0 5 rfl rfl)
theorem dX1_both_8 : decode cX1_both 8 = .ok (.istore 4, 2) := dk_54 4 (dk_at dksX1_both_0 8 rfl rfl)
theorem dX1_both_10 : decode cX1_both 10 = .ok (.aload_n 3, 1) := dk_45 (dk_at dksX1_both_0 10 rfl rfl)
theorem dX1_both_11 : decode cX1_both 11 = .ok (.aload_n 0, 1) := dk_42 (dk_at dksX1_both_0 11 rfl rfl)
theorem dX1_both_12 : decode cX1_both 12 = .ok (.getfield 41, 3) := dk_180 0 41 (dk_at dksX1_both_0 12 rfl rfl)
theorem dX1_both_15 : decode cX1_both 15 = .ok (.invokevirtual 9, 3) := dk_182 0 9 (dk_at dksX1_both_0 15 rfl rfl)
theorem dX1_both_18 : decode cX1_both 18 = .ok (.istore 5, 2) := dk_54 5 (dk_at dksX1_both_0 18 rfl rfl)
theorem dX1_both_20 : decode cX1_both 20 = .ok (.iconst 0, 1) := dk_3 (dk_at dksX1_both_0 20 rfl rfl)
theorem dX1_both_21 : decode cX1_both 21 = .ok (.istore 6, 2) := dk_54 6 (dk_at dksX1_both_0 21 rfl rfl)
theorem dX1_both_23 : decode cX1_both 23 = .ok (.bipush 99, 2) := dk_16 99 (dk_at dksX1_both_1 0 rfl rfl)
theorem dX1_both_25 : decode cX1_both 25 = .ok (.iload 4, 2) := dk_21 4 (dk_at dksX1_both_1 2 rfl rfl)
theorem dX1_both_27 : decode cX1_both 27 = .ok (.iload 5, 2) := dk_21 5 (dk_at dksX1_both_1 4 rfl rfl)
theorem dX1_both_29 : decode cX1_both 29 = .ok (.invokestatic 51, 3) := dk_184 0 51 (dk_at dksX1_both_1 6 rfl rfl)
theorem dX1_both_32 : decode cX1_both 32 = .ok (.isub, 1) := dk_100 (dk_at dksX1_both_1 9 rfl rfl)
theorem dX1_both_33 : decode cX1_both 33 = .ok (.istore 7, 2) := dk_54 7 (dk_at dksX1_both_1 10 rfl rfl)
theorem dX1_both_35 : decode cX1_both 35 = .ok (.iload 7, 2) := dk_21 7 (dk_at dksX1_both_1 12 rfl rfl)
theorem dX1_both_37 : decode cX1_both 37 = .ok (.ifCond .lt 44, 3) := dk_155 0 44 (dk_at dksX1_both_1 14 rfl rfl)
theorem dX1_both_40 : decode cX1_both 40 = .ok (.aload_n 0, 1) := dk_42 (dk_at dksX1_both_1 17 rfl rfl)
theorem dX1_both_41 : decode cX1_both 41 = .ok (.iload 6, 2) := dk_21 6 (dk_at dksX1_both_1 18 rfl rfl)
theorem dX1_both_43 : decode cX1_both 43 = .ok (.aload_n 0, 1) := dk_42 (dk_at dksX1_both_1 20 rfl rfl)
theorem dX1_both_44 : decode cX1_both 44 = .ok (.iload_n 1, 1) := dk_27 (dk_at dksX1_both_1 21 rfl rfl)
theorem dX1_both_45 : decode cX1_both 45 = .ok (.aload_n 2, 1) := dk_44 (dk_at dksX1_both_1 22 rfl rfl)
theorem dX1_both_46 : decode cX1_both 46 = .ok (.iload 4, 2) := dk_21 4 (dk_at dksX1_both_2 0 rfl rfl)
theorem dX1_both_48 : decode cX1_both 48 = .ok (.iload 7, 2) := dk_21 7 (dk_at dksX1_both_2 2 rfl rfl)
theorem dX1_both_50 : decode cX1_both 50 = .ok (.iadd, 1) := dk_96 (dk_at dksX1_both_2 4 rfl rfl)
theorem dX1_both_51 : decode cX1_both 51 = .ok (.invokevirtual 44, 3) := dk_182 0 44 (dk_at dksX1_both_2 5 rfl rfl)
theorem dX1_both_54 : decode cX1_both 54 = .ok (.aload_n 0, 1) := dk_42 (dk_at dksX1_both_2 8 rfl rfl)
theorem dX1_both_55 : decode cX1_both 55 = .ok (.iload_n 1, 1) := dk_27 (dk_at dksX1_both_2 9 rfl rfl)
theorem dX1_both_56 : decode cX1_both 56 = .ok (.aload_n 3, 1) := dk_45 (dk_at dksX1_both_2 10 rfl rfl)
theorem dX1_both_57 : decode cX1_both 57 = .ok (.iload 5, 2) := dk_21 5 (dk_at dksX1_both_2 11 rfl rfl)
theorem dX1_both_59 : decode cX1_both 59 = .ok (.iload 7, 2) := dk_21 7 (dk_at dksX1_both_2 13 rfl rfl)
theorem dX1_both_61 : decode cX1_both 61 = .ok (.iadd, 1) := dk_96 (dk_at dksX1_both_2 15 rfl rfl)
theorem dX1_both_62 : decode cX1_both 62 = .ok (.invokevirtual 44, 3) := dk_182 0 44 (dk_at dksX1_both_2 16 rfl rfl)
theorem dX1_both_65 : decode cX1_both 65 = .ok (.imul, 1) := dk_104 (dk_at dksX1_both_2 19 rfl rfl)
theorem dX1_both_66 : decode cX1_both 66 = .ok (.sipush 1000, 3) := dk_17 3 232 (dk_at dksX1_both_2 20 rfl rfl)
theorem dX1_both_69 : decode cX1_both 69 = .ok (.idiv, 1) := dk_108 (dk_at dksX1_both_2 23 rfl rfl)
theorem dX1_both_70 : decode cX1_both 70 = .ok (.invokevirtual 48, 3) := dk_182 0 48 (dk_at dksX1_both_3 0 rfl rfl)
theorem dX1_both_73 : decode cX1_both 73 = .ok (.istore 6, 2) := dk_54 6 (dk_at dksX1_both_3 3 rfl rfl)
theorem dX1_both_75 : decode cX1_both 75 = .ok (.iinc 7 (-1), 3) := dk_132 7 255 (dk_at dksX1_both_3 5 rfl rfl)
theorem dX1_both_78 : decode cX1_both 78 = .ok (.goto (-43), 3) := dk_167 255 213 (dk_at dksX1_both_3 8 rfl rfl)
theorem dX1_both_81 : decode cX1_both 81 = .ok (.iload 6, 2) := dk_21 6 (dk_at dksX1_both_3 11 rfl rfl)
theorem dX1_both_83 : decode cX1_both 83 = .ok (.ireturn, 1) := dk_172 (dk_at dksX1_both_3 13 rfl rfl)
abbrev cX1_names : ByteArray := prog_1_method_38_code
def yX1_names : MethodName := ⟨RX1, "names", "(I)I"⟩
def dkwX1_names_5 : List UInt8 := [180, 0, 119, 180, 1, 65, 172]
abbrev dktX1_names_5 : List UInt8 := dkwX1_names_5 ++ []
def dkwX1_names_4 : List UInt8 := [180, 1, 59, 28, 46, 42, 180, 0, 119, 180, 1, 62, 28, 46, 79, 132, 2, 1, 167, 255, 219, 42]
abbrev dktX1_names_4 : List UInt8 := dkwX1_names_4 ++ dktX1_names_5
def dkwX1_names_3 : List UInt8 := [167, 255, 240, 3, 61, 28, 42, 180, 0, 119, 180, 1, 58, 162, 0, 32, 42, 180, 0, 123, 42, 180, 0, 119]
abbrev dktX1_names_3 : List UInt8 := dkwX1_names_3 ++ dktX1_names_4
def dkwX1_names_2 : List UInt8 := [4, 181, 1, 55, 3, 61, 28, 16, 12, 162, 0, 16, 42, 180, 0, 123, 28, 3, 79, 132, 2, 1]
abbrev dktX1_names_2 : List UInt8 := dkwX1_names_2 ++ dktX1_names_3
def dkwX1_names_1 : List UInt8 := [180, 0, 119, 182, 1, 48, 153, 0, 7, 19, 1, 44, 172, 42, 180, 0, 119, 3, 3, 3, 182, 1, 52, 42]
abbrev dktX1_names_1 : List UInt8 := dkwX1_names_1 ++ dktX1_names_2
def dkwX1_names_0 : List UInt8 := [27, 3, 19, 1, 41, 184, 0, 133, 154, 0, 7, 19, 1, 44, 172, 42, 180, 0, 119, 27, 182, 1, 45, 42]
abbrev dktX1_names_0 : List UInt8 := dkwX1_names_0 ++ dktX1_names_1
theorem dksX1_names_0 : cX1_names.data.toList.drop 0 = dktX1_names_0 := by decide +kernel
theorem dksX1_names_1 : cX1_names.data.toList.drop 24 = dktX1_names_1 := dk_seg dksX1_names_0 24 rfl rfl
theorem dksX1_names_2 : cX1_names.data.toList.drop 48 = dktX1_names_2 := dk_seg dksX1_names_1 24 rfl rfl
theorem dksX1_names_3 : cX1_names.data.toList.drop 70 = dktX1_names_3 := dk_seg dksX1_names_2 22 rfl rfl
theorem dksX1_names_4 : cX1_names.data.toList.drop 94 = dktX1_names_4 := dk_seg dksX1_names_3 24 rfl rfl
theorem dksX1_names_5 : cX1_names.data.toList.drop 116 = dktX1_names_5 := dk_seg dksX1_names_4 22 rfl rfl
theorem dX1_names_0 : decode cX1_names 0 = .ok (.iload_n 1, 1) := dk_27 (dk_at dksX1_names_0 0 rfl rfl)
theorem dX1_names_1 : decode cX1_names 1 = .ok (.iconst 0, 1) := dk_3 (dk_at dksX1_names_0 1 rfl rfl)
theorem dX1_names_2 : decode cX1_names 2 = .ok (.ldc_w 297, 3) := dk_19 1 41 (dk_at dksX1_names_0 2 rfl rfl)
theorem dX1_names_5 : decode cX1_names 5 = .ok (.invokestatic 133, 3) := dk_184 0 133 (dk_at dksX1_names_0 5 rfl rfl)
theorem dX1_names_8 : decode cX1_names 8 = .ok (.ifCond .ne 7, 3) := dk_154 0 7 (dk_at dksX1_names_0 8 rfl rfl)
theorem dX1_names_11 : decode cX1_names 11 = .ok (.ldc_w 300, 3) := dk_19 1 44 (dk_at dksX1_names_0 11 rfl rfl)
theorem dX1_names_14 : decode cX1_names 14 = .ok (.ireturn, 1) := dk_172 (dk_at dksX1_names_0 14 rfl rfl)
theorem dX1_names_15 : decode cX1_names 15 = .ok (.aload_n 0, 1) := dk_42 (dk_at dksX1_names_0 15 rfl rfl)
theorem dX1_names_16 : decode cX1_names 16 = .ok (.getfield 119, 3) := dk_180 0 119 (dk_at dksX1_names_0 16 rfl rfl)
theorem dX1_names_19 : decode cX1_names 19 = .ok (.iload_n 1, 1) := dk_27 (dk_at dksX1_names_0 19 rfl rfl)
theorem dX1_names_20 : decode cX1_names 20 = .ok (.invokevirtual 301, 3) := dk_182 1 45 (dk_at dksX1_names_0 20 rfl rfl)
theorem dX1_names_23 : decode cX1_names 23 = .ok (.aload_n 0, 1) := dk_42 (dk_at dksX1_names_0 23 rfl rfl)
theorem dX1_names_24 : decode cX1_names 24 = .ok (.getfield 119, 3) := dk_180 0 119 (dk_at dksX1_names_1 0 rfl rfl)
theorem dX1_names_27 : decode cX1_names 27 = .ok (.invokevirtual 304, 3) := dk_182 1 48 (dk_at dksX1_names_1 3 rfl rfl)
theorem dX1_names_30 : decode cX1_names 30 = .ok (.ifCond .eq 7, 3) := dk_153 0 7 (dk_at dksX1_names_1 6 rfl rfl)
theorem dX1_names_33 : decode cX1_names 33 = .ok (.ldc_w 300, 3) := dk_19 1 44 (dk_at dksX1_names_1 9 rfl rfl)
theorem dX1_names_36 : decode cX1_names 36 = .ok (.ireturn, 1) := dk_172 (dk_at dksX1_names_1 12 rfl rfl)
theorem dX1_names_37 : decode cX1_names 37 = .ok (.aload_n 0, 1) := dk_42 (dk_at dksX1_names_1 13 rfl rfl)
theorem dX1_names_38 : decode cX1_names 38 = .ok (.getfield 119, 3) := dk_180 0 119 (dk_at dksX1_names_1 14 rfl rfl)
theorem dX1_names_41 : decode cX1_names 41 = .ok (.iconst 0, 1) := dk_3 (dk_at dksX1_names_1 17 rfl rfl)
theorem dX1_names_42 : decode cX1_names 42 = .ok (.iconst 0, 1) := dk_3 (dk_at dksX1_names_1 18 rfl rfl)
theorem dX1_names_43 : decode cX1_names 43 = .ok (.iconst 0, 1) := dk_3 (dk_at dksX1_names_1 19 rfl rfl)
theorem dX1_names_44 : decode cX1_names 44 = .ok (.invokevirtual 308, 3) := dk_182 1 52 (dk_at dksX1_names_1 20 rfl rfl)
theorem dX1_names_47 : decode cX1_names 47 = .ok (.aload_n 0, 1) := dk_42 (dk_at dksX1_names_1 23 rfl rfl)
theorem dX1_names_48 : decode cX1_names 48 = .ok (.iconst 1, 1) := dk_4 (dk_at dksX1_names_2 0 rfl rfl)
theorem dX1_names_49 : decode cX1_names 49 = .ok (.putfield 311, 3) := dk_181 1 55 (dk_at dksX1_names_2 1 rfl rfl)
theorem dX1_names_52 : decode cX1_names 52 = .ok (.iconst 0, 1) := dk_3 (dk_at dksX1_names_2 4 rfl rfl)
theorem dX1_names_53 : decode cX1_names 53 = .ok (.istore_n 2, 1) := dk_61 (dk_at dksX1_names_2 5 rfl rfl)
theorem dX1_names_54 : decode cX1_names 54 = .ok (.iload_n 2, 1) := dk_28 (dk_at dksX1_names_2 6 rfl rfl)
theorem dX1_names_55 : decode cX1_names 55 = .ok (.bipush 12, 2) := dk_16 12 (dk_at dksX1_names_2 7 rfl rfl)
theorem dX1_names_57 : decode cX1_names 57 = .ok (.if_icmp .ge 16, 3) := dk_162 0 16 (dk_at dksX1_names_2 9 rfl rfl)
theorem dX1_names_60 : decode cX1_names 60 = .ok (.aload_n 0, 1) := dk_42 (dk_at dksX1_names_2 12 rfl rfl)
theorem dX1_names_61 : decode cX1_names 61 = .ok (.getfield 123, 3) := dk_180 0 123 (dk_at dksX1_names_2 13 rfl rfl)
theorem dX1_names_64 : decode cX1_names 64 = .ok (.iload_n 2, 1) := dk_28 (dk_at dksX1_names_2 16 rfl rfl)
theorem dX1_names_65 : decode cX1_names 65 = .ok (.iconst 0, 1) := dk_3 (dk_at dksX1_names_2 17 rfl rfl)
theorem dX1_names_66 : decode cX1_names 66 = .ok (.iastore, 1) := dk_79 (dk_at dksX1_names_2 18 rfl rfl)
theorem dX1_names_67 : decode cX1_names 67 = .ok (.iinc 2 1, 3) := dk_132 2 1 (dk_at dksX1_names_2 19 rfl rfl)
theorem dX1_names_70 : decode cX1_names 70 = .ok (.goto (-16), 3) := dk_167 255 240 (dk_at dksX1_names_3 0 rfl rfl)
theorem dX1_names_73 : decode cX1_names 73 = .ok (.iconst 0, 1) := dk_3 (dk_at dksX1_names_3 3 rfl rfl)
theorem dX1_names_74 : decode cX1_names 74 = .ok (.istore_n 2, 1) := dk_61 (dk_at dksX1_names_3 4 rfl rfl)
theorem dX1_names_75 : decode cX1_names 75 = .ok (.iload_n 2, 1) := dk_28 (dk_at dksX1_names_3 5 rfl rfl)
theorem dX1_names_76 : decode cX1_names 76 = .ok (.aload_n 0, 1) := dk_42 (dk_at dksX1_names_3 6 rfl rfl)
theorem dX1_names_77 : decode cX1_names 77 = .ok (.getfield 119, 3) := dk_180 0 119 (dk_at dksX1_names_3 7 rfl rfl)
theorem dX1_names_80 : decode cX1_names 80 = .ok (.getfield 314, 3) := dk_180 1 58 (dk_at dksX1_names_3 10 rfl rfl)
theorem dX1_names_83 : decode cX1_names 83 = .ok (.if_icmp .ge 32, 3) := dk_162 0 32 (dk_at dksX1_names_3 13 rfl rfl)
theorem dX1_names_86 : decode cX1_names 86 = .ok (.aload_n 0, 1) := dk_42 (dk_at dksX1_names_3 16 rfl rfl)
theorem dX1_names_87 : decode cX1_names 87 = .ok (.getfield 123, 3) := dk_180 0 123 (dk_at dksX1_names_3 17 rfl rfl)
theorem dX1_names_90 : decode cX1_names 90 = .ok (.aload_n 0, 1) := dk_42 (dk_at dksX1_names_3 20 rfl rfl)
theorem dX1_names_91 : decode cX1_names 91 = .ok (.getfield 119, 3) := dk_180 0 119 (dk_at dksX1_names_3 21 rfl rfl)
theorem dX1_names_94 : decode cX1_names 94 = .ok (.getfield 315, 3) := dk_180 1 59 (dk_at dksX1_names_4 0 rfl rfl)
theorem dX1_names_97 : decode cX1_names 97 = .ok (.iload_n 2, 1) := dk_28 (dk_at dksX1_names_4 3 rfl rfl)
theorem dX1_names_98 : decode cX1_names 98 = .ok (.iaload, 1) := dk_46 (dk_at dksX1_names_4 4 rfl rfl)
theorem dX1_names_99 : decode cX1_names 99 = .ok (.aload_n 0, 1) := dk_42 (dk_at dksX1_names_4 5 rfl rfl)
theorem dX1_names_100 : decode cX1_names 100 = .ok (.getfield 119, 3) := dk_180 0 119 (dk_at dksX1_names_4 6 rfl rfl)
theorem dX1_names_103 : decode cX1_names 103 = .ok (.getfield 318, 3) := dk_180 1 62 (dk_at dksX1_names_4 9 rfl rfl)
theorem dX1_names_106 : decode cX1_names 106 = .ok (.iload_n 2, 1) := dk_28 (dk_at dksX1_names_4 12 rfl rfl)
theorem dX1_names_107 : decode cX1_names 107 = .ok (.iaload, 1) := dk_46 (dk_at dksX1_names_4 13 rfl rfl)
theorem dX1_names_108 : decode cX1_names 108 = .ok (.iastore, 1) := dk_79 (dk_at dksX1_names_4 14 rfl rfl)
theorem dX1_names_109 : decode cX1_names 109 = .ok (.iinc 2 1, 3) := dk_132 2 1 (dk_at dksX1_names_4 15 rfl rfl)
theorem dX1_names_112 : decode cX1_names 112 = .ok (.goto (-37), 3) := dk_167 255 219 (dk_at dksX1_names_4 18 rfl rfl)
theorem dX1_names_115 : decode cX1_names 115 = .ok (.aload_n 0, 1) := dk_42 (dk_at dksX1_names_4 21 rfl rfl)
theorem dX1_names_116 : decode cX1_names 116 = .ok (.getfield 119, 3) := dk_180 0 119 (dk_at dksX1_names_5 0 rfl rfl)
theorem dX1_names_119 : decode cX1_names 119 = .ok (.getfield 321, 3) := dk_180 1 65 (dk_at dksX1_names_5 3 rfl rfl)
theorem dX1_names_122 : decode cX1_names 122 = .ok (.ireturn, 1) := dk_172 (dk_at dksX1_names_5 6 rfl rfl)
abbrev cX1_named : ByteArray := prog_1_method_39_code
def yX1_named : MethodName := ⟨RX1, "named", "(I)I"⟩
def dkwX1_named_1 : List UInt8 := [46, 172]
abbrev dktX1_named_1 : List UInt8 := dkwX1_named_1 ++ []
def dkwX1_named_0 : List UInt8 := [42, 180, 1, 55, 153, 0, 11, 42, 27, 182, 0, 174, 199, 0, 7, 2, 167, 0, 9, 42, 180, 0, 123, 27]
abbrev dktX1_named_0 : List UInt8 := dkwX1_named_0 ++ dktX1_named_1
theorem dksX1_named_0 : cX1_named.data.toList.drop 0 = dktX1_named_0 := by decide +kernel
theorem dksX1_named_1 : cX1_named.data.toList.drop 24 = dktX1_named_1 := dk_seg dksX1_named_0 24 rfl rfl
theorem dX1_named_0 : decode cX1_named 0 = .ok (.aload_n 0, 1) := dk_42 (dk_at dksX1_named_0 0 rfl rfl)
theorem dX1_named_1 : decode cX1_named 1 = .ok (.getfield 311, 3) := dk_180 1 55 (dk_at dksX1_named_0 1 rfl rfl)
theorem dX1_named_4 : decode cX1_named 4 = .ok (.ifCond .eq 11, 3) := dk_153 0 11 (dk_at dksX1_named_0 4 rfl rfl)
theorem dX1_named_7 : decode cX1_named 7 = .ok (.aload_n 0, 1) := dk_42 (dk_at dksX1_named_0 7 rfl rfl)
theorem dX1_named_8 : decode cX1_named 8 = .ok (.iload_n 1, 1) := dk_27 (dk_at dksX1_named_0 8 rfl rfl)
theorem dX1_named_9 : decode cX1_named 9 = .ok (.invokevirtual 174, 3) := dk_182 0 174 (dk_at dksX1_named_0 9 rfl rfl)
theorem dX1_named_12 : decode cX1_named 12 = .ok (.ifnonnull 7, 3) := dk_199 0 7 (dk_at dksX1_named_0 12 rfl rfl)
theorem dX1_named_15 : decode cX1_named 15 = .ok (.iconst (-1), 1) := dk_2 (dk_at dksX1_named_0 15 rfl rfl)
theorem dX1_named_16 : decode cX1_named 16 = .ok (.goto 9, 3) := dk_167 0 9 (dk_at dksX1_named_0 16 rfl rfl)
theorem dX1_named_19 : decode cX1_named 19 = .ok (.aload_n 0, 1) := dk_42 (dk_at dksX1_named_0 19 rfl rfl)
theorem dX1_named_20 : decode cX1_named 20 = .ok (.getfield 123, 3) := dk_180 0 123 (dk_at dksX1_named_0 20 rfl rfl)
theorem dX1_named_23 : decode cX1_named 23 = .ok (.iload_n 1, 1) := dk_27 (dk_at dksX1_named_0 23 rfl rfl)
theorem dX1_named_24 : decode cX1_named 24 = .ok (.iaload, 1) := dk_46 (dk_at dksX1_named_1 0 rfl rfl)
theorem dX1_named_25 : decode cX1_named 25 = .ok (.ireturn, 1) := dk_172 (dk_at dksX1_named_1 1 rfl rfl)
abbrev cX1_look : ByteArray := prog_1_method_41_code
def yX1_look : MethodName := ⟨RX1, "look", "(I)I"⟩
def dkwX1_look_5 : List UInt8 := [159, 0, 7, 28, 154, 0, 6, 21, 4, 172, 29, 4, 21, 4, 120, 128, 62, 132, 2, 255, 167, 255, 140]
abbrev dktX1_look_5 : List UInt8 := dkwX1_look_5 ++ []
def dkwX1_look_4 : List UInt8 := [192, 0, 10, 182, 1, 80, 148, 158, 0, 7, 21, 5, 54, 4, 132, 5, 1, 167, 255, 172, 21, 4, 2]
abbrev dktX1_look_4 : List UInt8 := dkwX1_look_4 ++ dktX1_look_5
def dkwX1_look_3 : List UInt8 := [180, 0, 90, 21, 5, 182, 0, 168, 192, 0, 10, 182, 1, 80, 42, 42, 180, 0, 90, 21, 4, 182, 0, 168]
abbrev dktX1_look_3 : List UInt8 := dkwX1_look_3 ++ dktX1_look_4
def dkwX1_look_2 : List UInt8 := [21, 5, 46, 2, 160, 0, 58, 29, 21, 5, 122, 4, 126, 154, 0, 49, 21, 4, 2, 159, 0, 39, 42, 42]
abbrev dktX1_look_2 : List UInt8 := dkwX1_look_2 ++ dktX1_look_3
def dkwX1_look_1 : List UInt8 := [54, 4, 3, 54, 5, 21, 5, 42, 180, 0, 90, 182, 0, 157, 162, 0, 78, 42, 180, 0, 111, 180, 0, 243]
abbrev dktX1_look_1 : List UInt8 := dkwX1_look_1 ++ dktX1_look_2
def dkwX1_look_0 : List UInt8 := [42, 180, 0, 111, 42, 180, 0, 41, 182, 0, 239, 87, 27, 156, 0, 5, 2, 172, 27, 61, 3, 62, 2]
abbrev dktX1_look_0 : List UInt8 := dkwX1_look_0 ++ dktX1_look_1
theorem dksX1_look_0 : cX1_look.data.toList.drop 0 = dktX1_look_0 := by decide +kernel
theorem dksX1_look_1 : cX1_look.data.toList.drop 23 = dktX1_look_1 := dk_seg dksX1_look_0 23 rfl rfl
theorem dksX1_look_2 : cX1_look.data.toList.drop 47 = dktX1_look_2 := dk_seg dksX1_look_1 24 rfl rfl
theorem dksX1_look_3 : cX1_look.data.toList.drop 71 = dktX1_look_3 := dk_seg dksX1_look_2 24 rfl rfl
theorem dksX1_look_4 : cX1_look.data.toList.drop 95 = dktX1_look_4 := dk_seg dksX1_look_3 24 rfl rfl
theorem dksX1_look_5 : cX1_look.data.toList.drop 118 = dktX1_look_5 := dk_seg dksX1_look_4 23 rfl rfl
theorem dX1_look_0 : decode cX1_look 0 = .ok (.aload_n 0, 1) := dk_42 (dk_at dksX1_look_0 0 rfl rfl)
theorem dX1_look_1 : decode cX1_look 1 = .ok (.getfield 111, 3) := dk_180 0 111 (dk_at dksX1_look_0 1 rfl rfl)
theorem dX1_look_4 : decode cX1_look 4 = .ok (.aload_n 0, 1) := dk_42 (dk_at dksX1_look_0 4 rfl rfl)
theorem dX1_look_5 : decode cX1_look 5 = .ok (.getfield 41, 3) := dk_180 0 41 (dk_at dksX1_look_0 5 rfl rfl)
theorem dX1_look_8 : decode cX1_look 8 = .ok (.invokevirtual 239, 3) := dk_182 0 239 (dk_at dksX1_look_0 8 rfl rfl)
theorem dX1_look_11 : decode cX1_look 11 = .ok (.pop, 1) := dk_87 (dk_at dksX1_look_0 11 rfl rfl)
theorem dX1_look_12 : decode cX1_look 12 = .ok (.iload_n 1, 1) := dk_27 (dk_at dksX1_look_0 12 rfl rfl)
theorem dX1_look_13 : decode cX1_look 13 = .ok (.ifCond .ge 5, 3) := dk_156 0 5 (dk_at dksX1_look_0 13 rfl rfl)
theorem dX1_look_16 : decode cX1_look 16 = .ok (.iconst (-1), 1) := dk_2 (dk_at dksX1_look_0 16 rfl rfl)
theorem dX1_look_17 : decode cX1_look 17 = .ok (.ireturn, 1) := dk_172 (dk_at dksX1_look_0 17 rfl rfl)
theorem dX1_look_18 : decode cX1_look 18 = .ok (.iload_n 1, 1) := dk_27 (dk_at dksX1_look_0 18 rfl rfl)
theorem dX1_look_19 : decode cX1_look 19 = .ok (.istore_n 2, 1) := dk_61 (dk_at dksX1_look_0 19 rfl rfl)
theorem dX1_look_20 : decode cX1_look 20 = .ok (.iconst 0, 1) := dk_3 (dk_at dksX1_look_0 20 rfl rfl)
theorem dX1_look_21 : decode cX1_look 21 = .ok (.istore_n 3, 1) := dk_62 (dk_at dksX1_look_0 21 rfl rfl)
theorem dX1_look_22 : decode cX1_look 22 = .ok (.iconst (-1), 1) := dk_2 (dk_at dksX1_look_0 22 rfl rfl)
theorem dX1_look_23 : decode cX1_look 23 = .ok (.istore 4, 2) := dk_54 4 (dk_at dksX1_look_1 0 rfl rfl)
theorem dX1_look_25 : decode cX1_look 25 = .ok (.iconst 0, 1) := dk_3 (dk_at dksX1_look_1 2 rfl rfl)
theorem dX1_look_26 : decode cX1_look 26 = .ok (.istore 5, 2) := dk_54 5 (dk_at dksX1_look_1 3 rfl rfl)
theorem dX1_look_28 : decode cX1_look 28 = .ok (.iload 5, 2) := dk_21 5 (dk_at dksX1_look_1 5 rfl rfl)
theorem dX1_look_30 : decode cX1_look 30 = .ok (.aload_n 0, 1) := dk_42 (dk_at dksX1_look_1 7 rfl rfl)
theorem dX1_look_31 : decode cX1_look 31 = .ok (.getfield 90, 3) := dk_180 0 90 (dk_at dksX1_look_1 8 rfl rfl)
theorem dX1_look_34 : decode cX1_look 34 = .ok (.invokevirtual 157, 3) := dk_182 0 157 (dk_at dksX1_look_1 11 rfl rfl)
theorem dX1_look_37 : decode cX1_look 37 = .ok (.if_icmp .ge 78, 3) := dk_162 0 78 (dk_at dksX1_look_1 14 rfl rfl)
theorem dX1_look_40 : decode cX1_look 40 = .ok (.aload_n 0, 1) := dk_42 (dk_at dksX1_look_1 17 rfl rfl)
theorem dX1_look_41 : decode cX1_look 41 = .ok (.getfield 111, 3) := dk_180 0 111 (dk_at dksX1_look_1 18 rfl rfl)
theorem dX1_look_44 : decode cX1_look 44 = .ok (.getfield 243, 3) := dk_180 0 243 (dk_at dksX1_look_1 21 rfl rfl)
theorem dX1_look_47 : decode cX1_look 47 = .ok (.iload 5, 2) := dk_21 5 (dk_at dksX1_look_2 0 rfl rfl)
theorem dX1_look_49 : decode cX1_look 49 = .ok (.iaload, 1) := dk_46 (dk_at dksX1_look_2 2 rfl rfl)
theorem dX1_look_50 : decode cX1_look 50 = .ok (.iconst (-1), 1) := dk_2 (dk_at dksX1_look_2 3 rfl rfl)
theorem dX1_look_51 : decode cX1_look 51 = .ok (.if_icmp .ne 58, 3) := dk_160 0 58 (dk_at dksX1_look_2 4 rfl rfl)
theorem dX1_look_54 : decode cX1_look 54 = .ok (.iload_n 3, 1) := dk_29 (dk_at dksX1_look_2 7 rfl rfl)
theorem dX1_look_55 : decode cX1_look 55 = .ok (.iload 5, 2) := dk_21 5 (dk_at dksX1_look_2 8 rfl rfl)
theorem dX1_look_57 : decode cX1_look 57 = .ok (.ishr, 1) := dk_122 (dk_at dksX1_look_2 10 rfl rfl)
theorem dX1_look_58 : decode cX1_look 58 = .ok (.iconst 1, 1) := dk_4 (dk_at dksX1_look_2 11 rfl rfl)
theorem dX1_look_59 : decode cX1_look 59 = .ok (.iand, 1) := dk_126 (dk_at dksX1_look_2 12 rfl rfl)
theorem dX1_look_60 : decode cX1_look 60 = .ok (.ifCond .ne 49, 3) := dk_154 0 49 (dk_at dksX1_look_2 13 rfl rfl)
theorem dX1_look_63 : decode cX1_look 63 = .ok (.iload 4, 2) := dk_21 4 (dk_at dksX1_look_2 16 rfl rfl)
theorem dX1_look_65 : decode cX1_look 65 = .ok (.iconst (-1), 1) := dk_2 (dk_at dksX1_look_2 18 rfl rfl)
theorem dX1_look_66 : decode cX1_look 66 = .ok (.if_icmp .eq 39, 3) := dk_159 0 39 (dk_at dksX1_look_2 19 rfl rfl)
theorem dX1_look_69 : decode cX1_look 69 = .ok (.aload_n 0, 1) := dk_42 (dk_at dksX1_look_2 22 rfl rfl)
theorem dX1_look_70 : decode cX1_look 70 = .ok (.aload_n 0, 1) := dk_42 (dk_at dksX1_look_2 23 rfl rfl)
theorem dX1_look_71 : decode cX1_look 71 = .ok (.getfield 90, 3) := dk_180 0 90 (dk_at dksX1_look_3 0 rfl rfl)
theorem dX1_look_74 : decode cX1_look 74 = .ok (.iload 5, 2) := dk_21 5 (dk_at dksX1_look_3 3 rfl rfl)
theorem dX1_look_76 : decode cX1_look 76 = .ok (.invokevirtual 168, 3) := dk_182 0 168 (dk_at dksX1_look_3 5 rfl rfl)
theorem dX1_look_79 : decode cX1_look 79 = .ok (.checkcast 10, 3) := dk_192 0 10 (dk_at dksX1_look_3 8 rfl rfl)
theorem dX1_look_82 : decode cX1_look 82 = .ok (.invokevirtual 336, 3) := dk_182 1 80 (dk_at dksX1_look_3 11 rfl rfl)
theorem dX1_look_85 : decode cX1_look 85 = .ok (.aload_n 0, 1) := dk_42 (dk_at dksX1_look_3 14 rfl rfl)
theorem dX1_look_86 : decode cX1_look 86 = .ok (.aload_n 0, 1) := dk_42 (dk_at dksX1_look_3 15 rfl rfl)
theorem dX1_look_87 : decode cX1_look 87 = .ok (.getfield 90, 3) := dk_180 0 90 (dk_at dksX1_look_3 16 rfl rfl)
theorem dX1_look_90 : decode cX1_look 90 = .ok (.iload 4, 2) := dk_21 4 (dk_at dksX1_look_3 19 rfl rfl)
theorem dX1_look_92 : decode cX1_look 92 = .ok (.invokevirtual 168, 3) := dk_182 0 168 (dk_at dksX1_look_3 21 rfl rfl)
theorem dX1_look_95 : decode cX1_look 95 = .ok (.checkcast 10, 3) := dk_192 0 10 (dk_at dksX1_look_4 0 rfl rfl)
theorem dX1_look_98 : decode cX1_look 98 = .ok (.invokevirtual 336, 3) := dk_182 1 80 (dk_at dksX1_look_4 3 rfl rfl)
theorem dX1_look_101 : decode cX1_look 101 = .ok (.lcmp, 1) := dk_148 (dk_at dksX1_look_4 6 rfl rfl)
theorem dX1_look_102 : decode cX1_look 102 = .ok (.ifCond .le 7, 3) := dk_158 0 7 (dk_at dksX1_look_4 7 rfl rfl)
theorem dX1_look_105 : decode cX1_look 105 = .ok (.iload 5, 2) := dk_21 5 (dk_at dksX1_look_4 10 rfl rfl)
theorem dX1_look_107 : decode cX1_look 107 = .ok (.istore 4, 2) := dk_54 4 (dk_at dksX1_look_4 12 rfl rfl)
theorem dX1_look_109 : decode cX1_look 109 = .ok (.iinc 5 1, 3) := dk_132 5 1 (dk_at dksX1_look_4 14 rfl rfl)
theorem dX1_look_112 : decode cX1_look 112 = .ok (.goto (-84), 3) := dk_167 255 172 (dk_at dksX1_look_4 17 rfl rfl)
theorem dX1_look_115 : decode cX1_look 115 = .ok (.iload 4, 2) := dk_21 4 (dk_at dksX1_look_4 20 rfl rfl)
theorem dX1_look_117 : decode cX1_look 117 = .ok (.iconst (-1), 1) := dk_2 (dk_at dksX1_look_4 22 rfl rfl)
theorem dX1_look_118 : decode cX1_look 118 = .ok (.if_icmp .eq 7, 3) := dk_159 0 7 (dk_at dksX1_look_5 0 rfl rfl)
theorem dX1_look_121 : decode cX1_look 121 = .ok (.iload_n 2, 1) := dk_28 (dk_at dksX1_look_5 3 rfl rfl)
theorem dX1_look_122 : decode cX1_look 122 = .ok (.ifCond .ne 6, 3) := dk_154 0 6 (dk_at dksX1_look_5 4 rfl rfl)
theorem dX1_look_125 : decode cX1_look 125 = .ok (.iload 4, 2) := dk_21 4 (dk_at dksX1_look_5 7 rfl rfl)
theorem dX1_look_127 : decode cX1_look 127 = .ok (.ireturn, 1) := dk_172 (dk_at dksX1_look_5 9 rfl rfl)
theorem dX1_look_128 : decode cX1_look 128 = .ok (.iload_n 3, 1) := dk_29 (dk_at dksX1_look_5 10 rfl rfl)
theorem dX1_look_129 : decode cX1_look 129 = .ok (.iconst 1, 1) := dk_4 (dk_at dksX1_look_5 11 rfl rfl)
theorem dX1_look_130 : decode cX1_look 130 = .ok (.iload 4, 2) := dk_21 4 (dk_at dksX1_look_5 12 rfl rfl)
theorem dX1_look_132 : decode cX1_look 132 = .ok (.ishl, 1) := dk_120 (dk_at dksX1_look_5 14 rfl rfl)
theorem dX1_look_133 : decode cX1_look 133 = .ok (.ior, 1) := dk_128 (dk_at dksX1_look_5 15 rfl rfl)
theorem dX1_look_134 : decode cX1_look 134 = .ok (.istore_n 3, 1) := dk_62 (dk_at dksX1_look_5 16 rfl rfl)
theorem dX1_look_135 : decode cX1_look 135 = .ok (.iinc 2 (-1), 3) := dk_132 2 255 (dk_at dksX1_look_5 17 rfl rfl)
theorem dX1_look_138 : decode cX1_look 138 = .ok (.goto (-116), 3) := dk_167 255 140 (dk_at dksX1_look_5 20 rfl rfl)
abbrev cX1_riskOf : ByteArray := prog_1_method_40_code
def yX1_riskOf : MethodName := ⟨RX1, "riskOf", "(LLifeRents$Life;)J"⟩
def dkwX1_riskOf_5 : List UInt8 := [42, 180, 0, 41, 182, 0, 9, 184, 0, 23, 46, 100, 133, 105, 42, 180, 0, 41, 21, 4, 100, 133, 105, 173]
abbrev dktX1_riskOf_5 : List UInt8 := dkwX1_riskOf_5 ++ []
def dkwX1_riskOf_4 : List UInt8 := [32, 9, 148, 154, 0, 7, 9, 167, 0, 40, 32, 17, 3, 232, 42, 180, 0, 102, 43, 180, 0, 19, 50, 43]
abbrev dktX1_riskOf_4 : List UInt8 := dkwX1_riskOf_4 ++ dktX1_riskOf_5
def dkwX1_riskOf_3 : List UInt8 := [21, 4, 2, 160, 0, 11, 25, 6, 180, 1, 24, 167, 0, 5, 21, 4, 54, 4, 132, 5, 1, 167, 255, 180]
abbrev dktX1_riskOf_3 : List UInt8 := dkwX1_riskOf_3 ++ dktX1_riskOf_4
def dkwX1_riskOf_2 : List UInt8 := [166, 0, 41, 25, 6, 182, 1, 76, 198, 0, 6, 167, 0, 30, 32, 25, 6, 180, 1, 15, 133, 97, 65]
abbrev dktX1_riskOf_2 : List UInt8 := dkwX1_riskOf_2 ++ dktX1_riskOf_3
def dkwX1_riskOf_1 : List UInt8 := [162, 0, 70, 42, 180, 0, 94, 21, 5, 182, 0, 168, 192, 0, 172, 58, 6, 25, 6, 180, 1, 72, 43]
abbrev dktX1_riskOf_1 : List UInt8 := dkwX1_riskOf_1 ++ dktX1_riskOf_2
def dkwX1_riskOf_0 : List UInt8 := [9, 65, 42, 180, 0, 111, 43, 182, 1, 68, 54, 4, 3, 54, 5, 21, 5, 42, 180, 0, 94, 182, 0, 157]
abbrev dktX1_riskOf_0 : List UInt8 := dkwX1_riskOf_0 ++ dktX1_riskOf_1
theorem dksX1_riskOf_0 : cX1_riskOf.data.toList.drop 0 = dktX1_riskOf_0 := by decide +kernel
theorem dksX1_riskOf_1 : cX1_riskOf.data.toList.drop 24 = dktX1_riskOf_1 := dk_seg dksX1_riskOf_0 24 rfl rfl
theorem dksX1_riskOf_2 : cX1_riskOf.data.toList.drop 47 = dktX1_riskOf_2 := dk_seg dksX1_riskOf_1 23 rfl rfl
theorem dksX1_riskOf_3 : cX1_riskOf.data.toList.drop 70 = dktX1_riskOf_3 := dk_seg dksX1_riskOf_2 23 rfl rfl
theorem dksX1_riskOf_4 : cX1_riskOf.data.toList.drop 94 = dktX1_riskOf_4 := dk_seg dksX1_riskOf_3 24 rfl rfl
theorem dksX1_riskOf_5 : cX1_riskOf.data.toList.drop 118 = dktX1_riskOf_5 := dk_seg dksX1_riskOf_4 24 rfl rfl
theorem dX1_riskOf_0 : decode cX1_riskOf 0 = .ok (.lconst 0, 1) := dk_9 (dk_at dksX1_riskOf_0 0 rfl rfl)
theorem dX1_riskOf_1 : decode cX1_riskOf 1 = .ok (.lstore_n 2, 1) := dk_65 (dk_at dksX1_riskOf_0 1 rfl rfl)
theorem dX1_riskOf_2 : decode cX1_riskOf 2 = .ok (.aload_n 0, 1) := dk_42 (dk_at dksX1_riskOf_0 2 rfl rfl)
theorem dX1_riskOf_3 : decode cX1_riskOf 3 = .ok (.getfield 111, 3) := dk_180 0 111 (dk_at dksX1_riskOf_0 3 rfl rfl)
theorem dX1_riskOf_6 : decode cX1_riskOf 6 = .ok (.aload_n 1, 1) := dk_43 (dk_at dksX1_riskOf_0 6 rfl rfl)
theorem dX1_riskOf_7 : decode cX1_riskOf 7 = .ok (.invokevirtual 324, 3) := dk_182 1 68 (dk_at dksX1_riskOf_0 7 rfl rfl)
theorem dX1_riskOf_10 : decode cX1_riskOf 10 = .ok (.istore 4, 2) := dk_54 4 (dk_at dksX1_riskOf_0 10 rfl rfl)
theorem dX1_riskOf_12 : decode cX1_riskOf 12 = .ok (.iconst 0, 1) := dk_3 (dk_at dksX1_riskOf_0 12 rfl rfl)
theorem dX1_riskOf_13 : decode cX1_riskOf 13 = .ok (.istore 5, 2) := dk_54 5 (dk_at dksX1_riskOf_0 13 rfl rfl)
theorem dX1_riskOf_15 : decode cX1_riskOf 15 = .ok (.iload 5, 2) := dk_21 5 (dk_at dksX1_riskOf_0 15 rfl rfl)
theorem dX1_riskOf_17 : decode cX1_riskOf 17 = .ok (.aload_n 0, 1) := dk_42 (dk_at dksX1_riskOf_0 17 rfl rfl)
theorem dX1_riskOf_18 : decode cX1_riskOf 18 = .ok (.getfield 94, 3) := dk_180 0 94 (dk_at dksX1_riskOf_0 18 rfl rfl)
theorem dX1_riskOf_21 : decode cX1_riskOf 21 = .ok (.invokevirtual 157, 3) := dk_182 0 157 (dk_at dksX1_riskOf_0 21 rfl rfl)
theorem dX1_riskOf_24 : decode cX1_riskOf 24 = .ok (.if_icmp .ge 70, 3) := dk_162 0 70 (dk_at dksX1_riskOf_1 0 rfl rfl)
theorem dX1_riskOf_27 : decode cX1_riskOf 27 = .ok (.aload_n 0, 1) := dk_42 (dk_at dksX1_riskOf_1 3 rfl rfl)
theorem dX1_riskOf_28 : decode cX1_riskOf 28 = .ok (.getfield 94, 3) := dk_180 0 94 (dk_at dksX1_riskOf_1 4 rfl rfl)
theorem dX1_riskOf_31 : decode cX1_riskOf 31 = .ok (.iload 5, 2) := dk_21 5 (dk_at dksX1_riskOf_1 7 rfl rfl)
theorem dX1_riskOf_33 : decode cX1_riskOf 33 = .ok (.invokevirtual 168, 3) := dk_182 0 168 (dk_at dksX1_riskOf_1 9 rfl rfl)
theorem dX1_riskOf_36 : decode cX1_riskOf 36 = .ok (.checkcast 172, 3) := dk_192 0 172 (dk_at dksX1_riskOf_1 12 rfl rfl)
theorem dX1_riskOf_39 : decode cX1_riskOf 39 = .ok (.astore 6, 2) := dk_58 6 (dk_at dksX1_riskOf_1 15 rfl rfl)
theorem dX1_riskOf_41 : decode cX1_riskOf 41 = .ok (.aload 6, 2) := dk_25 6 (dk_at dksX1_riskOf_1 17 rfl rfl)
theorem dX1_riskOf_43 : decode cX1_riskOf 43 = .ok (.getfield 328, 3) := dk_180 1 72 (dk_at dksX1_riskOf_1 19 rfl rfl)
theorem dX1_riskOf_46 : decode cX1_riskOf 46 = .ok (.aload_n 1, 1) := dk_43 (dk_at dksX1_riskOf_1 22 rfl rfl)
theorem dX1_riskOf_47 : decode cX1_riskOf 47 = .ok (.if_acmp .ne 41, 3) := dk_166 0 41 (dk_at dksX1_riskOf_2 0 rfl rfl)
theorem dX1_riskOf_50 : decode cX1_riskOf 50 = .ok (.aload 6, 2) := dk_25 6 (dk_at dksX1_riskOf_2 3 rfl rfl)
theorem dX1_riskOf_52 : decode cX1_riskOf 52 = .ok (.invokevirtual 332, 3) := dk_182 1 76 (dk_at dksX1_riskOf_2 5 rfl rfl)
theorem dX1_riskOf_55 : decode cX1_riskOf 55 = .ok (.ifnull 6, 3) := dk_198 0 6 (dk_at dksX1_riskOf_2 8 rfl rfl)
theorem dX1_riskOf_58 : decode cX1_riskOf 58 = .ok (.goto 30, 3) := dk_167 0 30 (dk_at dksX1_riskOf_2 11 rfl rfl)
theorem dX1_riskOf_61 : decode cX1_riskOf 61 = .ok (.lload_n 2, 1) := dk_32 (dk_at dksX1_riskOf_2 14 rfl rfl)
theorem dX1_riskOf_62 : decode cX1_riskOf 62 = .ok (.aload 6, 2) := dk_25 6 (dk_at dksX1_riskOf_2 15 rfl rfl)
theorem dX1_riskOf_64 : decode cX1_riskOf 64 = .ok (.getfield 271, 3) := dk_180 1 15 (dk_at dksX1_riskOf_2 17 rfl rfl)
theorem dX1_riskOf_67 : decode cX1_riskOf 67 = .ok (.i2l, 1) := dk_133 (dk_at dksX1_riskOf_2 20 rfl rfl)
theorem dX1_riskOf_68 : decode cX1_riskOf 68 = .ok (.ladd, 1) := dk_97 (dk_at dksX1_riskOf_2 21 rfl rfl)
theorem dX1_riskOf_69 : decode cX1_riskOf 69 = .ok (.lstore_n 2, 1) := dk_65 (dk_at dksX1_riskOf_2 22 rfl rfl)
theorem dX1_riskOf_70 : decode cX1_riskOf 70 = .ok (.iload 4, 2) := dk_21 4 (dk_at dksX1_riskOf_3 0 rfl rfl)
theorem dX1_riskOf_72 : decode cX1_riskOf 72 = .ok (.iconst (-1), 1) := dk_2 (dk_at dksX1_riskOf_3 2 rfl rfl)
theorem dX1_riskOf_73 : decode cX1_riskOf 73 = .ok (.if_icmp .ne 11, 3) := dk_160 0 11 (dk_at dksX1_riskOf_3 3 rfl rfl)
theorem dX1_riskOf_76 : decode cX1_riskOf 76 = .ok (.aload 6, 2) := dk_25 6 (dk_at dksX1_riskOf_3 6 rfl rfl)
theorem dX1_riskOf_78 : decode cX1_riskOf 78 = .ok (.getfield 280, 3) := dk_180 1 24 (dk_at dksX1_riskOf_3 8 rfl rfl)
theorem dX1_riskOf_81 : decode cX1_riskOf 81 = .ok (.goto 5, 3) := dk_167 0 5 (dk_at dksX1_riskOf_3 11 rfl rfl)
theorem dX1_riskOf_84 : decode cX1_riskOf 84 = .ok (.iload 4, 2) := dk_21 4 (dk_at dksX1_riskOf_3 14 rfl rfl)
theorem dX1_riskOf_86 : decode cX1_riskOf 86 = .ok (.istore 4, 2) := dk_54 4 (dk_at dksX1_riskOf_3 16 rfl rfl)
theorem dX1_riskOf_88 : decode cX1_riskOf 88 = .ok (.iinc 5 1, 3) := dk_132 5 1 (dk_at dksX1_riskOf_3 18 rfl rfl)
theorem dX1_riskOf_91 : decode cX1_riskOf 91 = .ok (.goto (-76), 3) := dk_167 255 180 (dk_at dksX1_riskOf_3 21 rfl rfl)
theorem dX1_riskOf_94 : decode cX1_riskOf 94 = .ok (.lload_n 2, 1) := dk_32 (dk_at dksX1_riskOf_4 0 rfl rfl)
theorem dX1_riskOf_95 : decode cX1_riskOf 95 = .ok (.lconst 0, 1) := dk_9 (dk_at dksX1_riskOf_4 1 rfl rfl)
theorem dX1_riskOf_96 : decode cX1_riskOf 96 = .ok (.lcmp, 1) := dk_148 (dk_at dksX1_riskOf_4 2 rfl rfl)
theorem dX1_riskOf_97 : decode cX1_riskOf 97 = .ok (.ifCond .ne 7, 3) := dk_154 0 7 (dk_at dksX1_riskOf_4 3 rfl rfl)
theorem dX1_riskOf_100 : decode cX1_riskOf 100 = .ok (.lconst 0, 1) := dk_9 (dk_at dksX1_riskOf_4 6 rfl rfl)
theorem dX1_riskOf_101 : decode cX1_riskOf 101 = .ok (.goto 40, 3) := dk_167 0 40 (dk_at dksX1_riskOf_4 7 rfl rfl)
theorem dX1_riskOf_104 : decode cX1_riskOf 104 = .ok (.lload_n 2, 1) := dk_32 (dk_at dksX1_riskOf_4 10 rfl rfl)
theorem dX1_riskOf_105 : decode cX1_riskOf 105 = .ok (.sipush 1000, 3) := dk_17 3 232 (dk_at dksX1_riskOf_4 11 rfl rfl)
theorem dX1_riskOf_108 : decode cX1_riskOf 108 = .ok (.aload_n 0, 1) := dk_42 (dk_at dksX1_riskOf_4 14 rfl rfl)
theorem dX1_riskOf_109 : decode cX1_riskOf 109 = .ok (.getfield 102, 3) := dk_180 0 102 (dk_at dksX1_riskOf_4 15 rfl rfl)
theorem dX1_riskOf_112 : decode cX1_riskOf 112 = .ok (.aload_n 1, 1) := dk_43 (dk_at dksX1_riskOf_4 18 rfl rfl)
theorem dX1_riskOf_113 : decode cX1_riskOf 113 = .ok (.getfield 19, 3) := dk_180 0 19 (dk_at dksX1_riskOf_4 19 rfl rfl)
theorem dX1_riskOf_116 : decode cX1_riskOf 116 = .ok (.aaload, 1) := dk_50 (dk_at dksX1_riskOf_4 22 rfl rfl)
theorem dX1_riskOf_117 : decode cX1_riskOf 117 = .ok (.aload_n 1, 1) := dk_43 (dk_at dksX1_riskOf_4 23 rfl rfl)
theorem dX1_riskOf_118 : decode cX1_riskOf 118 = .ok (.aload_n 0, 1) := dk_42 (dk_at dksX1_riskOf_5 0 rfl rfl)
theorem dX1_riskOf_119 : decode cX1_riskOf 119 = .ok (.getfield 41, 3) := dk_180 0 41 (dk_at dksX1_riskOf_5 1 rfl rfl)
theorem dX1_riskOf_122 : decode cX1_riskOf 122 = .ok (.invokevirtual 9, 3) := dk_182 0 9 (dk_at dksX1_riskOf_5 4 rfl rfl)
theorem dX1_riskOf_125 : decode cX1_riskOf 125 = .ok (.invokestatic 23, 3) := dk_184 0 23 (dk_at dksX1_riskOf_5 7 rfl rfl)
theorem dX1_riskOf_128 : decode cX1_riskOf 128 = .ok (.iaload, 1) := dk_46 (dk_at dksX1_riskOf_5 10 rfl rfl)
theorem dX1_riskOf_129 : decode cX1_riskOf 129 = .ok (.isub, 1) := dk_100 (dk_at dksX1_riskOf_5 11 rfl rfl)
theorem dX1_riskOf_130 : decode cX1_riskOf 130 = .ok (.i2l, 1) := dk_133 (dk_at dksX1_riskOf_5 12 rfl rfl)
theorem dX1_riskOf_131 : decode cX1_riskOf 131 = .ok (.lmul, 1) := dk_105 (dk_at dksX1_riskOf_5 13 rfl rfl)
theorem dX1_riskOf_132 : decode cX1_riskOf 132 = .ok (.aload_n 0, 1) := dk_42 (dk_at dksX1_riskOf_5 14 rfl rfl)
theorem dX1_riskOf_133 : decode cX1_riskOf 133 = .ok (.getfield 41, 3) := dk_180 0 41 (dk_at dksX1_riskOf_5 15 rfl rfl)
theorem dX1_riskOf_136 : decode cX1_riskOf 136 = .ok (.iload 4, 2) := dk_21 4 (dk_at dksX1_riskOf_5 18 rfl rfl)
theorem dX1_riskOf_138 : decode cX1_riskOf 138 = .ok (.isub, 1) := dk_100 (dk_at dksX1_riskOf_5 20 rfl rfl)
theorem dX1_riskOf_139 : decode cX1_riskOf 139 = .ok (.i2l, 1) := dk_133 (dk_at dksX1_riskOf_5 21 rfl rfl)
theorem dX1_riskOf_140 : decode cX1_riskOf 140 = .ok (.lmul, 1) := dk_105 (dk_at dksX1_riskOf_5 22 rfl rfl)
theorem dX1_riskOf_141 : decode cX1_riskOf 141 = .ok (.lreturn, 1) := dk_173 (dk_at dksX1_riskOf_5 23 rfl rfl)
abbrev cX1_converts : ByteArray := prog_1_method_43_code
def yX1_converts : MethodName := ⟨RX1, "converts", "(I)I"⟩
def dkwX1_converts_7 : List UInt8 := [105, 42, 4, 45, 25, 4, 182, 1, 39, 133, 105, 148, 158, 0, 7, 4, 167, 0, 4, 3, 172]
abbrev dktX1_converts_7 : List UInt8 := dkwX1_converts_7 ++ []
def dkwX1_converts_6 : List UInt8 := [45, 25, 4, 182, 1, 39, 133, 105, 20, 1, 98, 109, 55, 5, 22, 5, 20, 1, 96, 44, 180, 1, 15, 133]
abbrev dktX1_converts_6 : List UInt8 := dkwX1_converts_6 ++ dktX1_converts_7
def dkwX1_converts_5 : List UInt8 := [198, 0, 7, 4, 167, 0, 4, 3, 182, 0, 186, 133, 44, 180, 1, 15, 133, 105, 20, 1, 96, 105, 42, 3]
abbrev dktX1_converts_5 : List UInt8 := dkwX1_converts_5 ++ dktX1_converts_6
def dkwX1_converts_4 : List UInt8 := [58, 4, 42, 180, 0, 32, 44, 42, 180, 0, 41, 182, 1, 93, 42, 180, 0, 41, 44, 182, 1, 76]
abbrev dktX1_converts_4 : List UInt8 := dkwX1_converts_4 ++ dktX1_converts_5
def dkwX1_converts_3 : List UInt8 := [180, 0, 243, 44, 182, 1, 76, 180, 1, 90, 46, 2, 159, 0, 7, 1, 167, 0, 7, 44, 182, 1, 76]
abbrev dktX1_converts_3 : List UInt8 := dkwX1_converts_3 ++ dktX1_converts_4
def dkwX1_converts_2 : List UInt8 := [160, 0, 10, 44, 180, 1, 72, 167, 0, 4, 1, 78, 44, 182, 1, 76, 198, 0, 22, 42, 180, 0, 111]
abbrev dktX1_converts_2 : List UInt8 := dkwX1_converts_2 ++ dktX1_converts_3
def dkwX1_converts_1 : List UInt8 := [182, 0, 239, 182, 1, 29, 42, 180, 0, 111, 180, 0, 243, 44, 180, 1, 72, 180, 1, 90, 46, 2]
abbrev dktX1_converts_1 : List UInt8 := dkwX1_converts_1 ++ dktX1_converts_2
def dkwX1_converts_0 : List UInt8 := [42, 27, 182, 0, 205, 77, 44, 199, 0, 5, 2, 172, 42, 180, 0, 15, 42, 180, 0, 111, 42, 180, 0, 41]
abbrev dktX1_converts_0 : List UInt8 := dkwX1_converts_0 ++ dktX1_converts_1
theorem dksX1_converts_0 : cX1_converts.data.toList.drop 0 = dktX1_converts_0 := by decide +kernel
theorem dksX1_converts_1 : cX1_converts.data.toList.drop 24 = dktX1_converts_1 := dk_seg dksX1_converts_0 24 rfl rfl
theorem dksX1_converts_2 : cX1_converts.data.toList.drop 46 = dktX1_converts_2 := dk_seg dksX1_converts_1 22 rfl rfl
theorem dksX1_converts_3 : cX1_converts.data.toList.drop 69 = dktX1_converts_3 := dk_seg dksX1_converts_2 23 rfl rfl
theorem dksX1_converts_4 : cX1_converts.data.toList.drop 92 = dktX1_converts_4 := dk_seg dksX1_converts_3 23 rfl rfl
theorem dksX1_converts_5 : cX1_converts.data.toList.drop 114 = dktX1_converts_5 := dk_seg dksX1_converts_4 22 rfl rfl
theorem dksX1_converts_6 : cX1_converts.data.toList.drop 138 = dktX1_converts_6 := dk_seg dksX1_converts_5 24 rfl rfl
theorem dksX1_converts_7 : cX1_converts.data.toList.drop 162 = dktX1_converts_7 := dk_seg dksX1_converts_6 24 rfl rfl
theorem dX1_converts_0 : decode cX1_converts 0 = .ok (.aload_n 0, 1) := dk_42 (dk_at dksX1_converts_0 0 rfl rfl)
theorem dX1_converts_1 : decode cX1_converts 1 = .ok (.iload_n 1, 1) := dk_27 (dk_at dksX1_converts_0 1 rfl rfl)
theorem dX1_converts_2 : decode cX1_converts 2 = .ok (.invokevirtual 205, 3) := dk_182 0 205 (dk_at dksX1_converts_0 2 rfl rfl)
theorem dX1_converts_5 : decode cX1_converts 5 = .ok (.astore_n 2, 1) := dk_77 (dk_at dksX1_converts_0 5 rfl rfl)
theorem dX1_converts_6 : decode cX1_converts 6 = .ok (.aload_n 2, 1) := dk_44 (dk_at dksX1_converts_0 6 rfl rfl)
theorem dX1_converts_7 : decode cX1_converts 7 = .ok (.ifnonnull 5, 3) := dk_199 0 5 (dk_at dksX1_converts_0 7 rfl rfl)
theorem dX1_converts_10 : decode cX1_converts 10 = .ok (.iconst (-1), 1) := dk_2 (dk_at dksX1_converts_0 10 rfl rfl)
theorem dX1_converts_11 : decode cX1_converts 11 = .ok (.ireturn, 1) := dk_172 (dk_at dksX1_converts_0 11 rfl rfl)
theorem dX1_converts_12 : decode cX1_converts 12 = .ok (.aload_n 0, 1) := dk_42 (dk_at dksX1_converts_0 12 rfl rfl)
theorem dX1_converts_13 : decode cX1_converts 13 = .ok (.getfield 15, 3) := dk_180 0 15 (dk_at dksX1_converts_0 13 rfl rfl)
theorem dX1_converts_16 : decode cX1_converts 16 = .ok (.aload_n 0, 1) := dk_42 (dk_at dksX1_converts_0 16 rfl rfl)
theorem dX1_converts_17 : decode cX1_converts 17 = .ok (.getfield 111, 3) := dk_180 0 111 (dk_at dksX1_converts_0 17 rfl rfl)
theorem dX1_converts_20 : decode cX1_converts 20 = .ok (.aload_n 0, 1) := dk_42 (dk_at dksX1_converts_0 20 rfl rfl)
theorem dX1_converts_21 : decode cX1_converts 21 = .ok (.getfield 41, 3) := dk_180 0 41 (dk_at dksX1_converts_0 21 rfl rfl)
theorem dX1_converts_24 : decode cX1_converts 24 = .ok (.invokevirtual 239, 3) := dk_182 0 239 (dk_at dksX1_converts_1 0 rfl rfl)
theorem dX1_converts_27 : decode cX1_converts 27 = .ok (.invokevirtual 285, 3) := dk_182 1 29 (dk_at dksX1_converts_1 3 rfl rfl)
theorem dX1_converts_30 : decode cX1_converts 30 = .ok (.aload_n 0, 1) := dk_42 (dk_at dksX1_converts_1 6 rfl rfl)
theorem dX1_converts_31 : decode cX1_converts 31 = .ok (.getfield 111, 3) := dk_180 0 111 (dk_at dksX1_converts_1 7 rfl rfl)
theorem dX1_converts_34 : decode cX1_converts 34 = .ok (.getfield 243, 3) := dk_180 0 243 (dk_at dksX1_converts_1 10 rfl rfl)
theorem dX1_converts_37 : decode cX1_converts 37 = .ok (.aload_n 2, 1) := dk_44 (dk_at dksX1_converts_1 13 rfl rfl)
theorem dX1_converts_38 : decode cX1_converts 38 = .ok (.getfield 328, 3) := dk_180 1 72 (dk_at dksX1_converts_1 14 rfl rfl)
theorem dX1_converts_41 : decode cX1_converts 41 = .ok (.getfield 346, 3) := dk_180 1 90 (dk_at dksX1_converts_1 17 rfl rfl)
theorem dX1_converts_44 : decode cX1_converts 44 = .ok (.iaload, 1) := dk_46 (dk_at dksX1_converts_1 20 rfl rfl)
theorem dX1_converts_45 : decode cX1_converts 45 = .ok (.iconst (-1), 1) := dk_2 (dk_at dksX1_converts_1 21 rfl rfl)
theorem dX1_converts_46 : decode cX1_converts 46 = .ok (.if_icmp .ne 10, 3) := dk_160 0 10 (dk_at dksX1_converts_2 0 rfl rfl)
theorem dX1_converts_49 : decode cX1_converts 49 = .ok (.aload_n 2, 1) := dk_44 (dk_at dksX1_converts_2 3 rfl rfl)
theorem dX1_converts_50 : decode cX1_converts 50 = .ok (.getfield 328, 3) := dk_180 1 72 (dk_at dksX1_converts_2 4 rfl rfl)
theorem dX1_converts_53 : decode cX1_converts 53 = .ok (.goto 4, 3) := dk_167 0 4 (dk_at dksX1_converts_2 7 rfl rfl)
theorem dX1_converts_56 : decode cX1_converts 56 = .ok (.aconst_null, 1) := dk_1 (dk_at dksX1_converts_2 10 rfl rfl)
theorem dX1_converts_57 : decode cX1_converts 57 = .ok (.astore_n 3, 1) := dk_78 (dk_at dksX1_converts_2 11 rfl rfl)
theorem dX1_converts_58 : decode cX1_converts 58 = .ok (.aload_n 2, 1) := dk_44 (dk_at dksX1_converts_2 12 rfl rfl)
theorem dX1_converts_59 : decode cX1_converts 59 = .ok (.invokevirtual 332, 3) := dk_182 1 76 (dk_at dksX1_converts_2 13 rfl rfl)
theorem dX1_converts_62 : decode cX1_converts 62 = .ok (.ifnull 22, 3) := dk_198 0 22 (dk_at dksX1_converts_2 16 rfl rfl)
theorem dX1_converts_65 : decode cX1_converts 65 = .ok (.aload_n 0, 1) := dk_42 (dk_at dksX1_converts_2 19 rfl rfl)
theorem dX1_converts_66 : decode cX1_converts 66 = .ok (.getfield 111, 3) := dk_180 0 111 (dk_at dksX1_converts_2 20 rfl rfl)
theorem dX1_converts_69 : decode cX1_converts 69 = .ok (.getfield 243, 3) := dk_180 0 243 (dk_at dksX1_converts_3 0 rfl rfl)
theorem dX1_converts_72 : decode cX1_converts 72 = .ok (.aload_n 2, 1) := dk_44 (dk_at dksX1_converts_3 3 rfl rfl)
theorem dX1_converts_73 : decode cX1_converts 73 = .ok (.invokevirtual 332, 3) := dk_182 1 76 (dk_at dksX1_converts_3 4 rfl rfl)
theorem dX1_converts_76 : decode cX1_converts 76 = .ok (.getfield 346, 3) := dk_180 1 90 (dk_at dksX1_converts_3 7 rfl rfl)
theorem dX1_converts_79 : decode cX1_converts 79 = .ok (.iaload, 1) := dk_46 (dk_at dksX1_converts_3 10 rfl rfl)
theorem dX1_converts_80 : decode cX1_converts 80 = .ok (.iconst (-1), 1) := dk_2 (dk_at dksX1_converts_3 11 rfl rfl)
theorem dX1_converts_81 : decode cX1_converts 81 = .ok (.if_icmp .eq 7, 3) := dk_159 0 7 (dk_at dksX1_converts_3 12 rfl rfl)
theorem dX1_converts_84 : decode cX1_converts 84 = .ok (.aconst_null, 1) := dk_1 (dk_at dksX1_converts_3 15 rfl rfl)
theorem dX1_converts_85 : decode cX1_converts 85 = .ok (.goto 7, 3) := dk_167 0 7 (dk_at dksX1_converts_3 16 rfl rfl)
theorem dX1_converts_88 : decode cX1_converts 88 = .ok (.aload_n 2, 1) := dk_44 (dk_at dksX1_converts_3 19 rfl rfl)
theorem dX1_converts_89 : decode cX1_converts 89 = .ok (.invokevirtual 332, 3) := dk_182 1 76 (dk_at dksX1_converts_3 20 rfl rfl)
theorem dX1_converts_92 : decode cX1_converts 92 = .ok (.astore 4, 2) := dk_58 4 (dk_at dksX1_converts_4 0 rfl rfl)
theorem dX1_converts_94 : decode cX1_converts 94 = .ok (.aload_n 0, 1) := dk_42 (dk_at dksX1_converts_4 2 rfl rfl)
theorem dX1_converts_95 : decode cX1_converts 95 = .ok (.getfield 32, 3) := dk_180 0 32 (dk_at dksX1_converts_4 3 rfl rfl)
theorem dX1_converts_98 : decode cX1_converts 98 = .ok (.aload_n 2, 1) := dk_44 (dk_at dksX1_converts_4 6 rfl rfl)
theorem dX1_converts_99 : decode cX1_converts 99 = .ok (.aload_n 0, 1) := dk_42 (dk_at dksX1_converts_4 7 rfl rfl)
theorem dX1_converts_100 : decode cX1_converts 100 = .ok (.getfield 41, 3) := dk_180 0 41 (dk_at dksX1_converts_4 8 rfl rfl)
theorem dX1_converts_103 : decode cX1_converts 103 = .ok (.invokevirtual 349, 3) := dk_182 1 93 (dk_at dksX1_converts_4 11 rfl rfl)
theorem dX1_converts_106 : decode cX1_converts 106 = .ok (.aload_n 0, 1) := dk_42 (dk_at dksX1_converts_4 14 rfl rfl)
theorem dX1_converts_107 : decode cX1_converts 107 = .ok (.getfield 41, 3) := dk_180 0 41 (dk_at dksX1_converts_4 15 rfl rfl)
theorem dX1_converts_110 : decode cX1_converts 110 = .ok (.aload_n 2, 1) := dk_44 (dk_at dksX1_converts_4 18 rfl rfl)
theorem dX1_converts_111 : decode cX1_converts 111 = .ok (.invokevirtual 332, 3) := dk_182 1 76 (dk_at dksX1_converts_4 19 rfl rfl)
theorem dX1_converts_114 : decode cX1_converts 114 = .ok (.ifnull 7, 3) := dk_198 0 7 (dk_at dksX1_converts_5 0 rfl rfl)
theorem dX1_converts_117 : decode cX1_converts 117 = .ok (.iconst 1, 1) := dk_4 (dk_at dksX1_converts_5 3 rfl rfl)
theorem dX1_converts_118 : decode cX1_converts 118 = .ok (.goto 4, 3) := dk_167 0 4 (dk_at dksX1_converts_5 4 rfl rfl)
theorem dX1_converts_121 : decode cX1_converts 121 = .ok (.iconst 0, 1) := dk_3 (dk_at dksX1_converts_5 7 rfl rfl)
theorem dX1_converts_122 : decode cX1_converts 122 = .ok (.invokevirtual 186, 3) := dk_182 0 186 (dk_at dksX1_converts_5 8 rfl rfl)
theorem dX1_converts_125 : decode cX1_converts 125 = .ok (.i2l, 1) := dk_133 (dk_at dksX1_converts_5 11 rfl rfl)
theorem dX1_converts_126 : decode cX1_converts 126 = .ok (.aload_n 2, 1) := dk_44 (dk_at dksX1_converts_5 12 rfl rfl)
theorem dX1_converts_127 : decode cX1_converts 127 = .ok (.getfield 271, 3) := dk_180 1 15 (dk_at dksX1_converts_5 13 rfl rfl)
theorem dX1_converts_130 : decode cX1_converts 130 = .ok (.i2l, 1) := dk_133 (dk_at dksX1_converts_5 16 rfl rfl)
theorem dX1_converts_131 : decode cX1_converts 131 = .ok (.lmul, 1) := dk_105 (dk_at dksX1_converts_5 17 rfl rfl)
theorem dX1_converts_132 : decode cX1_converts 132 = .ok (.ldc2_w 352, 3) := dk_20 1 96 (dk_at dksX1_converts_5 18 rfl rfl)
theorem dX1_converts_135 : decode cX1_converts 135 = .ok (.lmul, 1) := dk_105 (dk_at dksX1_converts_5 21 rfl rfl)
theorem dX1_converts_136 : decode cX1_converts 136 = .ok (.aload_n 0, 1) := dk_42 (dk_at dksX1_converts_5 22 rfl rfl)
theorem dX1_converts_137 : decode cX1_converts 137 = .ok (.iconst 0, 1) := dk_3 (dk_at dksX1_converts_5 23 rfl rfl)
theorem dX1_converts_138 : decode cX1_converts 138 = .ok (.aload_n 3, 1) := dk_45 (dk_at dksX1_converts_6 0 rfl rfl)
theorem dX1_converts_139 : decode cX1_converts 139 = .ok (.aload 4, 2) := dk_25 4 (dk_at dksX1_converts_6 1 rfl rfl)
theorem dX1_converts_141 : decode cX1_converts 141 = .ok (.invokevirtual 295, 3) := dk_182 1 39 (dk_at dksX1_converts_6 3 rfl rfl)
theorem dX1_converts_144 : decode cX1_converts 144 = .ok (.i2l, 1) := dk_133 (dk_at dksX1_converts_6 6 rfl rfl)
theorem dX1_converts_145 : decode cX1_converts 145 = .ok (.lmul, 1) := dk_105 (dk_at dksX1_converts_6 7 rfl rfl)
theorem dX1_converts_146 : decode cX1_converts 146 = .ok (.ldc2_w 354, 3) := dk_20 1 98 (dk_at dksX1_converts_6 8 rfl rfl)
theorem dX1_converts_149 : decode cX1_converts 149 = .ok (.ldiv, 1) := dk_109 (dk_at dksX1_converts_6 11 rfl rfl)
theorem dX1_converts_150 : decode cX1_converts 150 = .ok (.lstore 5, 2) := dk_55 5 (dk_at dksX1_converts_6 12 rfl rfl)
theorem dX1_converts_152 : decode cX1_converts 152 = .ok (.lload 5, 2) := dk_22 5 (dk_at dksX1_converts_6 14 rfl rfl)
theorem dX1_converts_154 : decode cX1_converts 154 = .ok (.ldc2_w 352, 3) := dk_20 1 96 (dk_at dksX1_converts_6 16 rfl rfl)
theorem dX1_converts_157 : decode cX1_converts 157 = .ok (.aload_n 2, 1) := dk_44 (dk_at dksX1_converts_6 19 rfl rfl)
theorem dX1_converts_158 : decode cX1_converts 158 = .ok (.getfield 271, 3) := dk_180 1 15 (dk_at dksX1_converts_6 20 rfl rfl)
theorem dX1_converts_161 : decode cX1_converts 161 = .ok (.i2l, 1) := dk_133 (dk_at dksX1_converts_6 23 rfl rfl)
theorem dX1_converts_162 : decode cX1_converts 162 = .ok (.lmul, 1) := dk_105 (dk_at dksX1_converts_7 0 rfl rfl)
theorem dX1_converts_163 : decode cX1_converts 163 = .ok (.aload_n 0, 1) := dk_42 (dk_at dksX1_converts_7 1 rfl rfl)
theorem dX1_converts_164 : decode cX1_converts 164 = .ok (.iconst 1, 1) := dk_4 (dk_at dksX1_converts_7 2 rfl rfl)
theorem dX1_converts_165 : decode cX1_converts 165 = .ok (.aload_n 3, 1) := dk_45 (dk_at dksX1_converts_7 3 rfl rfl)
theorem dX1_converts_166 : decode cX1_converts 166 = .ok (.aload 4, 2) := dk_25 4 (dk_at dksX1_converts_7 4 rfl rfl)
theorem dX1_converts_168 : decode cX1_converts 168 = .ok (.invokevirtual 295, 3) := dk_182 1 39 (dk_at dksX1_converts_7 6 rfl rfl)
theorem dX1_converts_171 : decode cX1_converts 171 = .ok (.i2l, 1) := dk_133 (dk_at dksX1_converts_7 9 rfl rfl)
theorem dX1_converts_172 : decode cX1_converts 172 = .ok (.lmul, 1) := dk_105 (dk_at dksX1_converts_7 10 rfl rfl)
theorem dX1_converts_173 : decode cX1_converts 173 = .ok (.lcmp, 1) := dk_148 (dk_at dksX1_converts_7 11 rfl rfl)
theorem dX1_converts_174 : decode cX1_converts 174 = .ok (.ifCond .le 7, 3) := dk_158 0 7 (dk_at dksX1_converts_7 12 rfl rfl)
theorem dX1_converts_177 : decode cX1_converts 177 = .ok (.iconst 1, 1) := dk_4 (dk_at dksX1_converts_7 15 rfl rfl)
theorem dX1_converts_178 : decode cX1_converts 178 = .ok (.goto 4, 3) := dk_167 0 4 (dk_at dksX1_converts_7 16 rfl rfl)
theorem dX1_converts_181 : decode cX1_converts 181 = .ok (.iconst 0, 1) := dk_3 (dk_at dksX1_converts_7 19 rfl rfl)
theorem dX1_converts_182 : decode cX1_converts 182 = .ok (.ireturn, 1) := dk_172 (dk_at dksX1_converts_7 20 rfl rfl)
abbrev cX1_count : ByteArray := prog_1_method_44_code
def yX1_count : MethodName := ⟨RX1, "count", "(I)I"⟩
def dkwX1_count_5 : List UInt8 := [182, 0, 157, 172, 2, 172]
abbrev dktX1_count_5 : List UInt8 := dkwX1_count_5 ++ []
def dkwX1_count_4 : List UInt8 := [180, 0, 32, 180, 0, 36, 172, 42, 180, 0, 32, 180, 1, 103, 172, 42, 180, 0, 32, 180, 1, 106]
abbrev dktX1_count_4 : List UInt8 := dkwX1_count_4 ++ dktX1_count_5
def dkwX1_count_3 : List UInt8 := [180, 0, 97, 182, 0, 157, 172, 42, 180, 0, 32, 180, 1, 1, 172, 42, 180, 0, 32, 180, 1, 100, 172, 42]
abbrev dktX1_count_3 : List UInt8 := dkwX1_count_3 ++ dktX1_count_4
def dkwX1_count_2 : List UInt8 := [42, 180, 0, 41, 172, 42, 180, 0, 90, 182, 0, 157, 172, 42, 180, 0, 94, 182, 0, 157, 172, 42]
abbrev dktX1_count_2 : List UInt8 := dkwX1_count_2 ++ dktX1_count_3
def dkwX1_count_1 : List UInt8 := [170, 0, 0, 0, 0, 0, 123, 0, 0, 0, 0, 0, 0, 0, 8, 0, 0, 0, 51, 0, 0, 0, 56, 0, 0, 0, 64, 0, 0, 0, 72, 0, 0, 0, 80, 0, 0, 0, 88, 0, 0, 0, 96, 0, 0, 0, 104, 0, 0, 0, 112]
abbrev dktX1_count_1 : List UInt8 := dkwX1_count_1 ++ dktX1_count_2
def dkwX1_count_0 : List UInt8 := [27]
abbrev dktX1_count_0 : List UInt8 := dkwX1_count_0 ++ dktX1_count_1
theorem dksX1_count_0 : cX1_count.data.toList.drop 0 = dktX1_count_0 := by decide +kernel
theorem dksX1_count_1 : cX1_count.data.toList.drop 1 = dktX1_count_1 := dk_seg dksX1_count_0 1 rfl rfl
theorem dksX1_count_2 : cX1_count.data.toList.drop 52 = dktX1_count_2 := dk_seg dksX1_count_1 51 rfl rfl
theorem dksX1_count_3 : cX1_count.data.toList.drop 74 = dktX1_count_3 := dk_seg dksX1_count_2 22 rfl rfl
theorem dksX1_count_4 : cX1_count.data.toList.drop 98 = dktX1_count_4 := dk_seg dksX1_count_3 24 rfl rfl
theorem dksX1_count_5 : cX1_count.data.toList.drop 120 = dktX1_count_5 := dk_seg dksX1_count_4 22 rfl rfl
theorem dX1_count_0 : decode cX1_count 0 = .ok (.iload_n 1, 1) := dk_27 (dk_at dksX1_count_0 0 rfl rfl)
theorem dX1_count_1 : decode cX1_count 1 = .ok (.tableswitch 123 0 8 #[51, 56, 64, 72, 80, 88, 96, 104, 112], 51) := by decide +kernel
theorem dX1_count_52 : decode cX1_count 52 = .ok (.aload_n 0, 1) := dk_42 (dk_at dksX1_count_2 0 rfl rfl)
theorem dX1_count_53 : decode cX1_count 53 = .ok (.getfield 41, 3) := dk_180 0 41 (dk_at dksX1_count_2 1 rfl rfl)
theorem dX1_count_56 : decode cX1_count 56 = .ok (.ireturn, 1) := dk_172 (dk_at dksX1_count_2 4 rfl rfl)
theorem dX1_count_57 : decode cX1_count 57 = .ok (.aload_n 0, 1) := dk_42 (dk_at dksX1_count_2 5 rfl rfl)
theorem dX1_count_58 : decode cX1_count 58 = .ok (.getfield 90, 3) := dk_180 0 90 (dk_at dksX1_count_2 6 rfl rfl)
theorem dX1_count_61 : decode cX1_count 61 = .ok (.invokevirtual 157, 3) := dk_182 0 157 (dk_at dksX1_count_2 9 rfl rfl)
theorem dX1_count_64 : decode cX1_count 64 = .ok (.ireturn, 1) := dk_172 (dk_at dksX1_count_2 12 rfl rfl)
theorem dX1_count_65 : decode cX1_count 65 = .ok (.aload_n 0, 1) := dk_42 (dk_at dksX1_count_2 13 rfl rfl)
theorem dX1_count_66 : decode cX1_count 66 = .ok (.getfield 94, 3) := dk_180 0 94 (dk_at dksX1_count_2 14 rfl rfl)
theorem dX1_count_69 : decode cX1_count 69 = .ok (.invokevirtual 157, 3) := dk_182 0 157 (dk_at dksX1_count_2 17 rfl rfl)
theorem dX1_count_72 : decode cX1_count 72 = .ok (.ireturn, 1) := dk_172 (dk_at dksX1_count_2 20 rfl rfl)
theorem dX1_count_73 : decode cX1_count 73 = .ok (.aload_n 0, 1) := dk_42 (dk_at dksX1_count_2 21 rfl rfl)
theorem dX1_count_74 : decode cX1_count 74 = .ok (.getfield 97, 3) := dk_180 0 97 (dk_at dksX1_count_3 0 rfl rfl)
theorem dX1_count_77 : decode cX1_count 77 = .ok (.invokevirtual 157, 3) := dk_182 0 157 (dk_at dksX1_count_3 3 rfl rfl)
theorem dX1_count_80 : decode cX1_count 80 = .ok (.ireturn, 1) := dk_172 (dk_at dksX1_count_3 6 rfl rfl)
theorem dX1_count_81 : decode cX1_count 81 = .ok (.aload_n 0, 1) := dk_42 (dk_at dksX1_count_3 7 rfl rfl)
theorem dX1_count_82 : decode cX1_count 82 = .ok (.getfield 32, 3) := dk_180 0 32 (dk_at dksX1_count_3 8 rfl rfl)
theorem dX1_count_85 : decode cX1_count 85 = .ok (.getfield 257, 3) := dk_180 1 1 (dk_at dksX1_count_3 11 rfl rfl)
theorem dX1_count_88 : decode cX1_count 88 = .ok (.ireturn, 1) := dk_172 (dk_at dksX1_count_3 14 rfl rfl)
theorem dX1_count_89 : decode cX1_count 89 = .ok (.aload_n 0, 1) := dk_42 (dk_at dksX1_count_3 15 rfl rfl)
theorem dX1_count_90 : decode cX1_count 90 = .ok (.getfield 32, 3) := dk_180 0 32 (dk_at dksX1_count_3 16 rfl rfl)
theorem dX1_count_93 : decode cX1_count 93 = .ok (.getfield 356, 3) := dk_180 1 100 (dk_at dksX1_count_3 19 rfl rfl)
theorem dX1_count_96 : decode cX1_count 96 = .ok (.ireturn, 1) := dk_172 (dk_at dksX1_count_3 22 rfl rfl)
theorem dX1_count_97 : decode cX1_count 97 = .ok (.aload_n 0, 1) := dk_42 (dk_at dksX1_count_3 23 rfl rfl)
theorem dX1_count_98 : decode cX1_count 98 = .ok (.getfield 32, 3) := dk_180 0 32 (dk_at dksX1_count_4 0 rfl rfl)
theorem dX1_count_101 : decode cX1_count 101 = .ok (.getfield 36, 3) := dk_180 0 36 (dk_at dksX1_count_4 3 rfl rfl)
theorem dX1_count_104 : decode cX1_count 104 = .ok (.ireturn, 1) := dk_172 (dk_at dksX1_count_4 6 rfl rfl)
theorem dX1_count_105 : decode cX1_count 105 = .ok (.aload_n 0, 1) := dk_42 (dk_at dksX1_count_4 7 rfl rfl)
theorem dX1_count_106 : decode cX1_count 106 = .ok (.getfield 32, 3) := dk_180 0 32 (dk_at dksX1_count_4 8 rfl rfl)
theorem dX1_count_109 : decode cX1_count 109 = .ok (.getfield 359, 3) := dk_180 1 103 (dk_at dksX1_count_4 11 rfl rfl)
theorem dX1_count_112 : decode cX1_count 112 = .ok (.ireturn, 1) := dk_172 (dk_at dksX1_count_4 14 rfl rfl)
theorem dX1_count_113 : decode cX1_count 113 = .ok (.aload_n 0, 1) := dk_42 (dk_at dksX1_count_4 15 rfl rfl)
theorem dX1_count_114 : decode cX1_count 114 = .ok (.getfield 32, 3) := dk_180 0 32 (dk_at dksX1_count_4 16 rfl rfl)
theorem dX1_count_117 : decode cX1_count 117 = .ok (.getfield 362, 3) := dk_180 1 106 (dk_at dksX1_count_4 19 rfl rfl)
theorem dX1_count_120 : decode cX1_count 120 = .ok (.invokevirtual 157, 3) := dk_182 0 157 (dk_at dksX1_count_5 0 rfl rfl)
theorem dX1_count_123 : decode cX1_count 123 = .ok (.ireturn, 1) := dk_172 (dk_at dksX1_count_5 3 rfl rfl)
theorem dX1_count_124 : decode cX1_count 124 = .ok (.iconst (-1), 1) := dk_2 (dk_at dksX1_count_5 4 rfl rfl)
theorem dX1_count_125 : decode cX1_count 125 = .ok (.ireturn, 1) := dk_172 (dk_at dksX1_count_5 5 rfl rfl)
abbrev cX1_risk : ByteArray := prog_1_method_42_code
def yX1_risk : MethodName := ⟨RX1, "risk", "(I)J"⟩
def dkwX1_risk_2 : List UInt8 := [44, 182, 1, 80, 173]
abbrev dktX1_risk_2 : List UInt8 := dkwX1_risk_2 ++ []
def dkwX1_risk_1 : List UInt8 := [180, 0, 41, 182, 0, 239, 180, 0, 243, 27, 46, 2, 159, 0, 11, 187, 1, 87, 89, 183, 1, 89, 191, 42]
abbrev dktX1_risk_1 : List UInt8 := dkwX1_risk_1 ++ dktX1_risk_2
def dkwX1_risk_0 : List UInt8 := [42, 27, 182, 0, 174, 77, 44, 199, 0, 11, 187, 1, 84, 89, 183, 1, 86, 191, 42, 180, 0, 111, 42]
abbrev dktX1_risk_0 : List UInt8 := dkwX1_risk_0 ++ dktX1_risk_1
theorem dksX1_risk_0 : cX1_risk.data.toList.drop 0 = dktX1_risk_0 := by decide +kernel
theorem dksX1_risk_1 : cX1_risk.data.toList.drop 23 = dktX1_risk_1 := dk_seg dksX1_risk_0 23 rfl rfl
theorem dksX1_risk_2 : cX1_risk.data.toList.drop 47 = dktX1_risk_2 := dk_seg dksX1_risk_1 24 rfl rfl
theorem dX1_risk_0 : decode cX1_risk 0 = .ok (.aload_n 0, 1) := dk_42 (dk_at dksX1_risk_0 0 rfl rfl)
theorem dX1_risk_1 : decode cX1_risk 1 = .ok (.iload_n 1, 1) := dk_27 (dk_at dksX1_risk_0 1 rfl rfl)
theorem dX1_risk_2 : decode cX1_risk 2 = .ok (.invokevirtual 174, 3) := dk_182 0 174 (dk_at dksX1_risk_0 2 rfl rfl)
theorem dX1_risk_5 : decode cX1_risk 5 = .ok (.astore_n 2, 1) := dk_77 (dk_at dksX1_risk_0 5 rfl rfl)
theorem dX1_risk_6 : decode cX1_risk 6 = .ok (.aload_n 2, 1) := dk_44 (dk_at dksX1_risk_0 6 rfl rfl)
theorem dX1_risk_7 : decode cX1_risk 7 = .ok (.ifnonnull 11, 3) := dk_199 0 11 (dk_at dksX1_risk_0 7 rfl rfl)
theorem dX1_risk_10 : decode cX1_risk 10 = .ok (.new 340, 3) := dk_187 1 84 (dk_at dksX1_risk_0 10 rfl rfl)
theorem dX1_risk_13 : decode cX1_risk 13 = .ok (.dup, 1) := dk_89 (dk_at dksX1_risk_0 13 rfl rfl)
theorem dX1_risk_14 : decode cX1_risk 14 = .ok (.invokespecial 342, 3) := dk_183 1 86 (dk_at dksX1_risk_0 14 rfl rfl)
theorem dX1_risk_17 : decode cX1_risk 17 = .ok (.athrow, 1) := dk_191 (dk_at dksX1_risk_0 17 rfl rfl)
theorem dX1_risk_18 : decode cX1_risk 18 = .ok (.aload_n 0, 1) := dk_42 (dk_at dksX1_risk_0 18 rfl rfl)
theorem dX1_risk_19 : decode cX1_risk 19 = .ok (.getfield 111, 3) := dk_180 0 111 (dk_at dksX1_risk_0 19 rfl rfl)
theorem dX1_risk_22 : decode cX1_risk 22 = .ok (.aload_n 0, 1) := dk_42 (dk_at dksX1_risk_0 22 rfl rfl)
theorem dX1_risk_23 : decode cX1_risk 23 = .ok (.getfield 41, 3) := dk_180 0 41 (dk_at dksX1_risk_1 0 rfl rfl)
theorem dX1_risk_26 : decode cX1_risk 26 = .ok (.invokevirtual 239, 3) := dk_182 0 239 (dk_at dksX1_risk_1 3 rfl rfl)
theorem dX1_risk_29 : decode cX1_risk 29 = .ok (.getfield 243, 3) := dk_180 0 243 (dk_at dksX1_risk_1 6 rfl rfl)
theorem dX1_risk_32 : decode cX1_risk 32 = .ok (.iload_n 1, 1) := dk_27 (dk_at dksX1_risk_1 9 rfl rfl)
theorem dX1_risk_33 : decode cX1_risk 33 = .ok (.iaload, 1) := dk_46 (dk_at dksX1_risk_1 10 rfl rfl)
theorem dX1_risk_34 : decode cX1_risk 34 = .ok (.iconst (-1), 1) := dk_2 (dk_at dksX1_risk_1 11 rfl rfl)
theorem dX1_risk_35 : decode cX1_risk 35 = .ok (.if_icmp .eq 11, 3) := dk_159 0 11 (dk_at dksX1_risk_1 12 rfl rfl)
theorem dX1_risk_38 : decode cX1_risk 38 = .ok (.new 343, 3) := dk_187 1 87 (dk_at dksX1_risk_1 15 rfl rfl)
theorem dX1_risk_41 : decode cX1_risk 41 = .ok (.dup, 1) := dk_89 (dk_at dksX1_risk_1 18 rfl rfl)
theorem dX1_risk_42 : decode cX1_risk 42 = .ok (.invokespecial 345, 3) := dk_183 1 89 (dk_at dksX1_risk_1 19 rfl rfl)
theorem dX1_risk_45 : decode cX1_risk 45 = .ok (.athrow, 1) := dk_191 (dk_at dksX1_risk_1 22 rfl rfl)
theorem dX1_risk_46 : decode cX1_risk 46 = .ok (.aload_n 0, 1) := dk_42 (dk_at dksX1_risk_1 23 rfl rfl)
theorem dX1_risk_47 : decode cX1_risk 47 = .ok (.aload_n 2, 1) := dk_44 (dk_at dksX1_risk_2 0 rfl rfl)
theorem dX1_risk_48 : decode cX1_risk 48 = .ok (.invokevirtual 336, 3) := dk_182 1 80 (dk_at dksX1_risk_2 1 rfl rfl)
theorem dX1_risk_51 : decode cX1_risk 51 = .ok (.lreturn, 1) := dk_173 (dk_at dksX1_risk_2 4 rfl rfl)
theorem q73 : (Jvm.Cond.initialized "LifeRents") ∈ lw_all := lw_g (lw_at lw_m1 1 rfl) rfl
theorem q110 : (Jvm.Cond.instantiable "LifeRents" (19 : Nat)) ∈ lw_all := lw_g (lw_at lw_m1 38 rfl) rfl
theorem q112 : (Jvm.Cond.instanceMethod ({ cls := "LifeRents", name := "<init>", desc := "()V" } : Jvm.MethodName)) ∈ lw_all := lw_g (lw_at lw_m1 40 rfl) rfl
theorem q113 : (Jvm.Cond.code ({ cls := "LifeRents", name := "<init>", desc := "()V" } : Jvm.MethodName) prog_1_method_9_code (6 : Nat) (Option.none : Option Jvm.ClassFile.FieldType)) ∈ lw_all := lw_g (lw_at lw_m1 41 rfl) rfl
theorem q114 : (Jvm.Cond.methodLink "LifeRents" (62 : Nat) ({ cls := "java/lang/Object", name := "<init>", desc := "()V" } : Jvm.MethodName)) ∈ lw_all := lw_g (lw_at lw_m1 42 rfl) rfl
theorem q117 : (Jvm.Cond.classLink "LifeRents" (75 : Nat) "LifeRents$Reader") ∈ lw_all := lw_g (lw_at lw_m1 45 rfl) rfl
theorem q119 : (Jvm.Cond.methodLinkNest "LifeRents" (77 : Nat) ({ cls := "LifeRents$Reader", name := "<init>", desc := "(LLifeRents;)V" } : Jvm.MethodName) "LifeRents") ∈ lw_tbl := lw_at lw_m1 47 rfl
theorem q149 : (Jvm.Cond.classLink "LifeRents" (37 : Nat) "LifeRents$Acts") ∈ lw_all := lw_g (lw_at lw_m1 77 rfl) rfl
theorem q151 : (Jvm.Cond.methodLinkNest "LifeRents" (84 : Nat) ({ cls := "LifeRents$Acts", name := "<init>", desc := "()V" } : Jvm.MethodName) "LifeRents") ∈ lw_tbl := lw_at lw_m1 79 rfl
theorem q185 : (Jvm.Cond.fieldLinkNest "LifeRents" (362 : Nat) "LifeRents$Acts" "lines" "Ljava/util/ArrayList;" "LifeRents") ∈ lw_tbl := lw_at lw_m1 113 rfl
theorem q188 : (Jvm.Cond.fieldLinkNest "LifeRents" (257 : Nat) "LifeRents$Acts" "arrears" "I" "LifeRents") ∈ lw_tbl := lw_at lw_m1 116 rfl
theorem q191 : (Jvm.Cond.fieldLinkNest "LifeRents" (356 : Nat) "LifeRents$Acts" "wait" "I" "LifeRents") ∈ lw_tbl := lw_at lw_m1 119 rfl
theorem q193 : (Jvm.Cond.fieldLinkNest "LifeRents" (36 : Nat) "LifeRents$Acts" "rate" "I" "LifeRents") ∈ lw_tbl := lw_at lw_m1 121 rfl
theorem q198 : (Jvm.Cond.fieldLinkNest "LifeRents" (359 : Nat) "LifeRents$Acts" "cap" "I" "LifeRents") ∈ lw_tbl := lw_at lw_m1 126 rfl
theorem q200 : (Jvm.Cond.fieldLinkNest "LifeRents" (154 : Nat) "LifeRents$Acts" "many" "I" "LifeRents") ∈ lw_tbl := lw_at lw_m1 128 rfl
theorem q214 : (Jvm.Cond.classLink "LifeRents" (85 : Nat) "java/util/ArrayList") ∈ lw_all := lw_g (lw_at lw_m1 142 rfl) rfl
theorem q215 : (Jvm.Cond.methodLink "LifeRents" (87 : Nat) ({ cls := "java/util/ArrayList", name := "<init>", desc := "(I)V" } : Jvm.MethodName)) ∈ lw_all := lw_g (lw_at lw_m1 143 rfl) rfl
theorem q216 : (Jvm.Cond.classLink "LifeRents" (100 : Nat) "[[I") ∈ lw_all := lw_g (lw_at lw_m1 144 rfl) rfl
theorem q218 : (Jvm.Cond.classLink "LifeRents" (108 : Nat) "LifeRents$Known") ∈ lw_all := lw_g (lw_at lw_m1 146 rfl) rfl
theorem q220 : (Jvm.Cond.methodLinkNest "LifeRents" (110 : Nat) ({ cls := "LifeRents$Known", name := "<init>", desc := "(LLifeRents;)V" } : Jvm.MethodName) "LifeRents") ∈ lw_tbl := lw_at lw_m1 148 rfl
theorem q231 : (Jvm.Cond.fieldLinkNest "LifeRents" (243 : Nat) "LifeRents$Known" "dead" "[I" "LifeRents") ∈ lw_tbl := lw_at lw_m1 159 rfl
theorem q251 : (Jvm.Cond.classLink "LifeRents" (27 : Nat) "LifeRents$Dead") ∈ lw_all := lw_g (lw_at lw_m1 179 rfl) rfl
theorem q253 : (Jvm.Cond.methodLinkNest "LifeRents" (115 : Nat) ({ cls := "LifeRents$Dead", name := "<init>", desc := "(LLifeRents;)V" } : Jvm.MethodName) "LifeRents") ∈ lw_tbl := lw_at lw_m1 181 rfl
theorem q259 : (Jvm.Cond.fieldLinkNest "LifeRents" (289 : Nat) "LifeRents$Dead" "begun" "[[I" "LifeRents") ∈ lw_tbl := lw_at lw_m1 187 rfl
theorem q261 : (Jvm.Cond.fieldLinkNest "LifeRents" (292 : Nat) "LifeRents$Dead" "ended" "[[I" "LifeRents") ∈ lw_tbl := lw_at lw_m1 189 rfl
theorem q270 : (Jvm.Cond.classLink "LifeRents" (116 : Nat) "LifeRents$Names") ∈ lw_all := lw_g (lw_at lw_m1 198 rfl) rfl
theorem q272 : (Jvm.Cond.methodLinkNest "LifeRents" (118 : Nat) ({ cls := "LifeRents$Names", name := "<init>", desc := "(LLifeRents;)V" } : Jvm.MethodName) "LifeRents") ∈ lw_tbl := lw_at lw_m1 200 rfl
theorem q277 : (Jvm.Cond.fieldLinkNest "LifeRents" (315 : Nat) "LifeRents$Names" "who" "[I" "LifeRents") ∈ lw_tbl := lw_at lw_m1 205 rfl
theorem q282 : (Jvm.Cond.fieldLinkNest "LifeRents" (318 : Nat) "LifeRents$Names" "best" "[I" "LifeRents") ∈ lw_tbl := lw_at lw_m1 210 rfl
theorem q284 : (Jvm.Cond.fieldLinkNest "LifeRents" (314 : Nat) "LifeRents$Names" "many" "I" "LifeRents") ∈ lw_tbl := lw_at lw_m1 212 rfl
theorem q287 : (Jvm.Cond.fieldLinkNest "LifeRents" (321 : Nat) "LifeRents$Names" "bestSum" "I" "LifeRents") ∈ lw_tbl := lw_at lw_m1 215 rfl
theorem q315 : (Jvm.Cond.fieldLink "LifeRents" (68 : Nat) "LifeRents" "tape" "[B") ∈ lw_all := lw_g (lw_at lw_m2 3 rfl) rfl
theorem q316 : (Jvm.Cond.fieldLink "LifeRents" (127 : Nat) "LifeRents" "taped" "I") ∈ lw_all := lw_g (lw_at lw_m2 4 rfl) rfl
theorem q317 : (Jvm.Cond.fieldLink "LifeRents" (137 : Nat) "LifeRents" "faultKind" "I") ∈ lw_all := lw_g (lw_at lw_m2 5 rfl) rfl
theorem q318 : (Jvm.Cond.fieldLink "LifeRents" (72 : Nat) "LifeRents" "faultPlace" "I") ∈ lw_all := lw_g (lw_at lw_m2 6 rfl) rfl
theorem q320 : (Jvm.Cond.fieldLink "LifeRents" (41 : Nat) "LifeRents" "now" "I") ∈ lw_all := lw_g (lw_at lw_m2 8 rfl) rfl
theorem q321 : (Jvm.Cond.fieldLink "LifeRents" (212 : Nat) "LifeRents" "saleMany" "I") ∈ lw_all := lw_g (lw_at lw_m2 9 rfl) rfl
theorem q322 : (Jvm.Cond.fieldLink "LifeRents" (80 : Nat) "LifeRents" "reader" "LLifeRents$Reader;") ∈ lw_all := lw_g (lw_at lw_m2 10 rfl) rfl
theorem q324 : (Jvm.Cond.fieldLink "LifeRents" (32 : Nat) "LifeRents" "acts" "LLifeRents$Acts;") ∈ lw_all := lw_g (lw_at lw_m2 12 rfl) rfl
theorem q328 : (Jvm.Cond.fieldLink "LifeRents" (90 : Nat) "LifeRents" "lives" "Ljava/util/ArrayList;") ∈ lw_all := lw_g (lw_at lw_m2 16 rfl) rfl
theorem q329 : (Jvm.Cond.fieldLink "LifeRents" (94 : Nat) "LifeRents" "rents" "Ljava/util/ArrayList;") ∈ lw_all := lw_g (lw_at lw_m2 17 rfl) rfl
theorem q331 : (Jvm.Cond.fieldLink "LifeRents" (97 : Nat) "LifeRents" "notes" "Ljava/util/ArrayList;") ∈ lw_all := lw_g (lw_at lw_m2 19 rfl) rfl
theorem q333 : (Jvm.Cond.fieldLink "LifeRents" (102 : Nat) "LifeRents" "sold" "[[I") ∈ lw_all := lw_g (lw_at lw_m2 21 rfl) rfl
theorem q334 : (Jvm.Cond.fieldLink "LifeRents" (105 : Nat) "LifeRents" "gots" "[[I") ∈ lw_all := lw_g (lw_at lw_m2 22 rfl) rfl
theorem q336 : (Jvm.Cond.fieldLink "LifeRents" (111 : Nat) "LifeRents" "known" "LLifeRents$Known;") ∈ lw_all := lw_g (lw_at lw_m2 24 rfl) rfl
theorem q337 : (Jvm.Cond.fieldLink "LifeRents" (15 : Nat) "LifeRents" "dead" "LLifeRents$Dead;") ∈ lw_all := lw_g (lw_at lw_m2 25 rfl) rfl
theorem q338 : (Jvm.Cond.fieldLink "LifeRents" (119 : Nat) "LifeRents" "names" "LLifeRents$Names;") ∈ lw_all := lw_g (lw_at lw_m2 26 rfl) rfl
theorem q339 : (Jvm.Cond.fieldLink "LifeRents" (123 : Nat) "LifeRents" "named" "[I") ∈ lw_all := lw_g (lw_at lw_m2 27 rfl) rfl
theorem q340 : (Jvm.Cond.fieldLink "LifeRents" (150 : Nat) "LifeRents" "isFresh" "Z") ∈ lw_all := lw_g (lw_at lw_m2 28 rfl) rfl
theorem q341 : (Jvm.Cond.fieldLink "LifeRents" (311 : Nat) "LifeRents" "hasNamed" "Z") ∈ lw_all := lw_g (lw_at lw_m2 29 rfl) rfl
theorem q342 : (Jvm.Cond.laysFinal "LifeRents" "LifeRents" "tape" "[B") ∈ lw_all := lw_g (lw_at lw_m2 30 rfl) rfl
theorem q343 : (Jvm.Cond.soleField "LifeRents" "tape") ∈ lw_all := lw_g (lw_at lw_m2 31 rfl) rfl
theorem q344 : (Jvm.Cond.lays "LifeRents" "LifeRents" "taped" "I") ∈ lw_all := lw_g (lw_at lw_m2 32 rfl) rfl
theorem q345 : (Jvm.Cond.soleField "LifeRents" "taped") ∈ lw_all := lw_g (lw_at lw_m2 33 rfl) rfl
theorem q346 : (Jvm.Cond.lays "LifeRents" "LifeRents" "faultKind" "I") ∈ lw_all := lw_g (lw_at lw_m2 34 rfl) rfl
theorem q347 : (Jvm.Cond.soleField "LifeRents" "faultKind") ∈ lw_all := lw_g (lw_at lw_m2 35 rfl) rfl
theorem q348 : (Jvm.Cond.lays "LifeRents" "LifeRents" "faultPlace" "I") ∈ lw_all := lw_g (lw_at lw_m2 36 rfl) rfl
theorem q349 : (Jvm.Cond.soleField "LifeRents" "faultPlace") ∈ lw_all := lw_g (lw_at lw_m2 37 rfl) rfl
theorem q350 : (Jvm.Cond.lays "LifeRents" "LifeRents" "now" "I") ∈ lw_all := lw_g (lw_at lw_m2 38 rfl) rfl
theorem q351 : (Jvm.Cond.soleField "LifeRents" "now") ∈ lw_all := lw_g (lw_at lw_m2 39 rfl) rfl
theorem q352 : (Jvm.Cond.lays "LifeRents" "LifeRents" "saleMany" "I") ∈ lw_all := lw_g (lw_at lw_m2 40 rfl) rfl
theorem q353 : (Jvm.Cond.soleField "LifeRents" "saleMany") ∈ lw_all := lw_g (lw_at lw_m2 41 rfl) rfl
theorem q354 : (Jvm.Cond.laysFinal "LifeRents" "LifeRents" "reader" "LLifeRents$Reader;") ∈ lw_all := lw_g (lw_at lw_m2 42 rfl) rfl
theorem q355 : (Jvm.Cond.soleField "LifeRents" "reader") ∈ lw_all := lw_g (lw_at lw_m2 43 rfl) rfl
theorem q356 : (Jvm.Cond.lays "LifeRents" "LifeRents" "acts" "LLifeRents$Acts;") ∈ lw_all := lw_g (lw_at lw_m2 44 rfl) rfl
theorem q357 : (Jvm.Cond.soleField "LifeRents" "acts") ∈ lw_all := lw_g (lw_at lw_m2 45 rfl) rfl
theorem q358 : (Jvm.Cond.laysFinal "LifeRents" "LifeRents" "lives" "Ljava/util/ArrayList;") ∈ lw_all := lw_g (lw_at lw_m2 46 rfl) rfl
theorem q359 : (Jvm.Cond.soleField "LifeRents" "lives") ∈ lw_all := lw_g (lw_at lw_m2 47 rfl) rfl
theorem q360 : (Jvm.Cond.laysFinal "LifeRents" "LifeRents" "rents" "Ljava/util/ArrayList;") ∈ lw_all := lw_g (lw_at lw_m2 48 rfl) rfl
theorem q361 : (Jvm.Cond.soleField "LifeRents" "rents") ∈ lw_all := lw_g (lw_at lw_m2 49 rfl) rfl
theorem q362 : (Jvm.Cond.laysFinal "LifeRents" "LifeRents" "notes" "Ljava/util/ArrayList;") ∈ lw_all := lw_g (lw_at lw_m2 50 rfl) rfl
theorem q363 : (Jvm.Cond.soleField "LifeRents" "notes") ∈ lw_all := lw_g (lw_at lw_m2 51 rfl) rfl
theorem q364 : (Jvm.Cond.laysFinal "LifeRents" "LifeRents" "sold" "[[I") ∈ lw_all := lw_g (lw_at lw_m2 52 rfl) rfl
theorem q365 : (Jvm.Cond.soleField "LifeRents" "sold") ∈ lw_all := lw_g (lw_at lw_m2 53 rfl) rfl
theorem q366 : (Jvm.Cond.laysFinal "LifeRents" "LifeRents" "gots" "[[I") ∈ lw_all := lw_g (lw_at lw_m2 54 rfl) rfl
theorem q367 : (Jvm.Cond.soleField "LifeRents" "gots") ∈ lw_all := lw_g (lw_at lw_m2 55 rfl) rfl
theorem q368 : (Jvm.Cond.laysFinal "LifeRents" "LifeRents" "known" "LLifeRents$Known;") ∈ lw_all := lw_g (lw_at lw_m2 56 rfl) rfl
theorem q369 : (Jvm.Cond.soleField "LifeRents" "known") ∈ lw_all := lw_g (lw_at lw_m2 57 rfl) rfl
theorem q370 : (Jvm.Cond.laysFinal "LifeRents" "LifeRents" "dead" "LLifeRents$Dead;") ∈ lw_all := lw_g (lw_at lw_m2 58 rfl) rfl
theorem q371 : (Jvm.Cond.soleField "LifeRents" "dead") ∈ lw_all := lw_g (lw_at lw_m2 59 rfl) rfl
theorem q372 : (Jvm.Cond.laysFinal "LifeRents" "LifeRents" "names" "LLifeRents$Names;") ∈ lw_all := lw_g (lw_at lw_m2 60 rfl) rfl
theorem q373 : (Jvm.Cond.soleField "LifeRents" "names") ∈ lw_all := lw_g (lw_at lw_m2 61 rfl) rfl
theorem q374 : (Jvm.Cond.laysFinal "LifeRents" "LifeRents" "named" "[I") ∈ lw_all := lw_g (lw_at lw_m2 62 rfl) rfl
theorem q375 : (Jvm.Cond.soleField "LifeRents" "named") ∈ lw_all := lw_g (lw_at lw_m2 63 rfl) rfl
theorem q376 : (Jvm.Cond.lays "LifeRents" "LifeRents" "isFresh" "Z") ∈ lw_all := lw_g (lw_at lw_m2 64 rfl) rfl
theorem q377 : (Jvm.Cond.soleField "LifeRents" "isFresh") ∈ lw_all := lw_g (lw_at lw_m2 65 rfl) rfl
theorem q378 : (Jvm.Cond.lays "LifeRents" "LifeRents" "hasNamed" "Z") ∈ lw_all := lw_g (lw_at lw_m2 66 rfl) rfl
theorem q379 : (Jvm.Cond.soleField "LifeRents" "hasNamed") ∈ lw_all := lw_g (lw_at lw_m2 67 rfl) rfl
theorem q380 : (Jvm.Cond.superclass "LifeRents" "java/lang/Object") ∈ lw_all := lw_g (lw_at lw_m2 68 rfl) rfl
theorem q382 : (Jvm.Cond.instanceMethod ({ cls := "LifeRents", name := "feed", desc := "(IIIII)I" } : Jvm.MethodName)) ∈ lw_all := lw_g (lw_at lw_m2 70 rfl) rfl
theorem q383 : (Jvm.Cond.selects "LifeRents" ({ cls := "LifeRents", name := "feed", desc := "(IIIII)I" } : Jvm.MethodName) ({ cls := "LifeRents", name := "feed", desc := "(IIIII)I" } : Jvm.MethodName)) ∈ lw_all := lw_g (lw_at lw_m2 71 rfl) rfl
theorem q384 : (Jvm.Cond.code ({ cls := "LifeRents", name := "feed", desc := "(IIIII)I" } : Jvm.MethodName) prog_1_method_10_code (6 : Nat) (Option.some Jvm.ClassFile.FieldType.int)) ∈ lw_all := lw_g (lw_at lw_m2 72 rfl) rfl
theorem q385 : (Jvm.Cond.methodLink "LifeRents" (130 : Nat) ({ cls := "LifeRents", name := "put", desc := "(I)V" } : Jvm.MethodName)) ∈ lw_all := lw_g (lw_at lw_m2 73 rfl) rfl
theorem q386 : (Jvm.Cond.privateMethod ({ cls := "LifeRents", name := "put", desc := "(I)V" } : Jvm.MethodName)) ∈ lw_tbl := lw_at lw_m2 74 rfl
theorem q387 : (Jvm.Cond.instanceMethod ({ cls := "LifeRents", name := "put", desc := "(I)V" } : Jvm.MethodName)) ∈ lw_all := lw_g (lw_at lw_m2 75 rfl) rfl
theorem q388 : (Jvm.Cond.code ({ cls := "LifeRents", name := "put", desc := "(I)V" } : Jvm.MethodName) prog_1_method_11_code (3 : Nat) (Option.none : Option Jvm.ClassFile.FieldType)) ∈ lw_all := lw_g (lw_at lw_m2 76 rfl) rfl
theorem q390 : (Jvm.Cond.instanceMethod ({ cls := "LifeRents", name := "acts", desc := "(I)I" } : Jvm.MethodName)) ∈ lw_all := lw_g (lw_at lw_m2 78 rfl) rfl
theorem q391 : (Jvm.Cond.selects "LifeRents" ({ cls := "LifeRents", name := "acts", desc := "(I)I" } : Jvm.MethodName) ({ cls := "LifeRents", name := "acts", desc := "(I)I" } : Jvm.MethodName)) ∈ lw_all := lw_g (lw_at lw_m2 79 rfl) rfl
theorem q392 : (Jvm.Cond.codeWith ({ cls := "LifeRents", name := "acts", desc := "(I)I" } : Jvm.MethodName) prog_1_method_12_code (3 : Nat) (Option.some Jvm.ClassFile.FieldType.int) [((30 : Nat), (42 : Nat), (45 : Nat), (144 : Nat))]) ∈ lw_all := lw_g (lw_at lw_m2 80 rfl) rfl
theorem q393 : (Jvm.Cond.classLink "LifeRents" (144 : Nat) "LifeRents$Fault") ∈ lw_all := lw_g (lw_at lw_m2 81 rfl) rfl
theorem q394 : (Jvm.Cond.methodLink "LifeRents" (133 : Nat) ({ cls := "LifeRents", name := "in", desc := "(III)Z" } : Jvm.MethodName)) ∈ lw_all := lw_g (lw_at lw_m2 82 rfl) rfl
theorem q395 : (Jvm.Cond.static ({ cls := "LifeRents", name := "in", desc := "(III)Z" } : Jvm.MethodName)) ∈ lw_all := lw_g (lw_at lw_m2 83 rfl) rfl
theorem q396 : (Jvm.Cond.code ({ cls := "LifeRents", name := "in", desc := "(III)Z" } : Jvm.MethodName) prog_1_method_1_code (3 : Nat) (Option.some Jvm.ClassFile.FieldType.boolean)) ∈ lw_all := lw_g (lw_at lw_m2 84 rfl) rfl
theorem q397 : (Jvm.Cond.methodLink "LifeRents" (140 : Nat) ({ cls := "LifeRents$Reader", name := "read", desc := "(I)LLifeRents$Acts;" } : Jvm.MethodName)) ∈ lw_all := lw_g (lw_at lw_m2 85 rfl) rfl
theorem q417 : (Jvm.Cond.laysStatic "LifeRents" "WORDS" "[Ljava/lang/String;") ∈ lw_tbl := lw_at lw_m2 105 rfl
theorem q524 : (Jvm.Cond.fieldLinkNest "LifeRents" (146 : Nat) "LifeRents$Fault" "kind" "I" "LifeRents") ∈ lw_tbl := lw_at lw_m2 212 rfl
theorem q526 : (Jvm.Cond.fieldLinkNest "LifeRents" (147 : Nat) "LifeRents$Fault" "place" "I" "LifeRents") ∈ lw_tbl := lw_at lw_m2 214 rfl
theorem q646 : (Jvm.Cond.selects "LifeRents" ({ cls := "java/lang/Object", name := "getClass", desc := "()Ljava/lang/Class;" } : Jvm.MethodName) ({ cls := "java/lang/Object", name := "getClass", desc := "()Ljava/lang/Class;" } : Jvm.MethodName)) ∈ lw_all := lw_g (lw_at lw_m3 94 rfl) rfl
theorem q680 : (Jvm.Cond.instanceMethod ({ cls := "LifeRents", name := "fault", desc := "(I)I" } : Jvm.MethodName)) ∈ lw_all := lw_g (lw_at lw_m3 128 rfl) rfl
theorem q681 : (Jvm.Cond.selects "LifeRents" ({ cls := "LifeRents", name := "fault", desc := "(I)I" } : Jvm.MethodName) ({ cls := "LifeRents", name := "fault", desc := "(I)I" } : Jvm.MethodName)) ∈ lw_all := lw_g (lw_at lw_m3 129 rfl) rfl
theorem q682 : (Jvm.Cond.code ({ cls := "LifeRents", name := "fault", desc := "(I)I" } : Jvm.MethodName) prog_1_method_13_code (2 : Nat) (Option.some Jvm.ClassFile.FieldType.int)) ∈ lw_all := lw_g (lw_at lw_m3 130 rfl) rfl
theorem q684 : (Jvm.Cond.instanceMethod ({ cls := "LifeRents", name := "halves", desc := "(I)I" } : Jvm.MethodName)) ∈ lw_all := lw_g (lw_at lw_m3 132 rfl) rfl
theorem q685 : (Jvm.Cond.selects "LifeRents" ({ cls := "LifeRents", name := "halves", desc := "(I)I" } : Jvm.MethodName) ({ cls := "LifeRents", name := "halves", desc := "(I)I" } : Jvm.MethodName)) ∈ lw_all := lw_g (lw_at lw_m3 133 rfl) rfl
theorem q686 : (Jvm.Cond.code ({ cls := "LifeRents", name := "halves", desc := "(I)I" } : Jvm.MethodName) prog_1_method_14_code (2 : Nat) (Option.some Jvm.ClassFile.FieldType.int)) ∈ lw_all := lw_g (lw_at lw_m3 134 rfl) rfl
theorem q688 : (Jvm.Cond.instanceMethod ({ cls := "LifeRents", name := "life", desc := "(II)I" } : Jvm.MethodName)) ∈ lw_all := lw_g (lw_at lw_m3 136 rfl) rfl
theorem q689 : (Jvm.Cond.selects "LifeRents" ({ cls := "LifeRents", name := "life", desc := "(II)I" } : Jvm.MethodName) ({ cls := "LifeRents", name := "life", desc := "(II)I" } : Jvm.MethodName)) ∈ lw_all := lw_g (lw_at lw_m3 137 rfl) rfl
theorem q690 : (Jvm.Cond.code ({ cls := "LifeRents", name := "life", desc := "(II)I" } : Jvm.MethodName) prog_1_method_15_code (3 : Nat) (Option.some Jvm.ClassFile.FieldType.int)) ∈ lw_all := lw_g (lw_at lw_m3 138 rfl) rfl
theorem q691 : (Jvm.Cond.methodLink "LifeRents" (157 : Nat) ({ cls := "java/util/ArrayList", name := "size", desc := "()I" } : Jvm.MethodName)) ∈ lw_all := lw_g (lw_at lw_m3 139 rfl) rfl
theorem q692 : (Jvm.Cond.classLink "LifeRents" (10 : Nat) "LifeRents$Life") ∈ lw_all := lw_g (lw_at lw_m3 140 rfl) rfl
theorem q694 : (Jvm.Cond.methodLink "LifeRents" (161 : Nat) ({ cls := "LifeRents$Life", name := "<init>", desc := "(III)V" } : Jvm.MethodName)) ∈ lw_all := lw_g (lw_at lw_m3 142 rfl) rfl
theorem q702 : (Jvm.Cond.fieldLinkNest "LifeRents" (346 : Nat) "LifeRents$Life" "number" "I" "LifeRents") ∈ lw_tbl := lw_at lw_m3 150 rfl
theorem q710 : (Jvm.Cond.fieldLinkNest "LifeRents" (19 : Nat) "LifeRents$Life" "kind" "I" "LifeRents") ∈ lw_tbl := lw_at lw_m3 158 rfl
theorem q718 : (Jvm.Cond.methodLink "LifeRents" (164 : Nat) ({ cls := "java/util/ArrayList", name := "add", desc := "(Ljava/lang/Object;)Z" } : Jvm.MethodName)) ∈ lw_all := lw_g (lw_at lw_m3 166 rfl) rfl
theorem q720 : (Jvm.Cond.instanceMethod ({ cls := "LifeRents", name := "asks", desc := "(II)I" } : Jvm.MethodName)) ∈ lw_all := lw_g (lw_at lw_m3 168 rfl) rfl
theorem q721 : (Jvm.Cond.selects "LifeRents" ({ cls := "LifeRents", name := "asks", desc := "(II)I" } : Jvm.MethodName) ({ cls := "LifeRents", name := "asks", desc := "(II)I" } : Jvm.MethodName)) ∈ lw_all := lw_g (lw_at lw_m3 169 rfl) rfl
theorem q722 : (Jvm.Cond.code ({ cls := "LifeRents", name := "asks", desc := "(II)I" } : Jvm.MethodName) prog_1_method_20_code (4 : Nat) (Option.some Jvm.ClassFile.FieldType.int)) ∈ lw_all := lw_g (lw_at lw_m3 170 rfl) rfl
theorem q723 : (Jvm.Cond.methodLink "LifeRents" (174 : Nat) ({ cls := "LifeRents", name := "aLife", desc := "(I)LLifeRents$Life;" } : Jvm.MethodName)) ∈ lw_all := lw_g (lw_at lw_m3 171 rfl) rfl
theorem q724 : (Jvm.Cond.privateMethod ({ cls := "LifeRents", name := "aLife", desc := "(I)LLifeRents$Life;" } : Jvm.MethodName)) ∈ lw_tbl := lw_at lw_m3 172 rfl
theorem q725 : (Jvm.Cond.instanceMethod ({ cls := "LifeRents", name := "aLife", desc := "(I)LLifeRents$Life;" } : Jvm.MethodName)) ∈ lw_all := lw_g (lw_at lw_m3 173 rfl) rfl
theorem q726 : (Jvm.Cond.code ({ cls := "LifeRents", name := "aLife", desc := "(I)LLifeRents$Life;" } : Jvm.MethodName) prog_1_method_16_code (2 : Nat) (Option.some (Jvm.ClassFile.FieldType.object "LifeRents$Life"))) ∈ lw_all := lw_g (lw_at lw_m3 174 rfl) rfl
theorem q727 : (Jvm.Cond.methodLink "LifeRents" (168 : Nat) ({ cls := "java/util/ArrayList", name := "get", desc := "(I)Ljava/lang/Object;" } : Jvm.MethodName)) ∈ lw_all := lw_g (lw_at lw_m3 175 rfl) rfl
theorem q739 : (Jvm.Cond.methodLink "LifeRents" (178 : Nat) ({ cls := "LifeRents$Acts", name := "may", desc := "(LLifeRents$Life;IZ)Z" } : Jvm.MethodName)) ∈ lw_all := lw_g (lw_at lw_m3 187 rfl) rfl
theorem q759 : (Jvm.Cond.methodLink "LifeRents" (182 : Nat) ({ cls := "LifeRents$Acts", name := "price", desc := "(LLifeRents$Life;IZ)I" } : Jvm.MethodName)) ∈ lw_all := lw_g (lw_at lw_m3 207 rfl) rfl
theorem q763 : (Jvm.Cond.methodLink "LifeRents" (186 : Nat) ({ cls := "LifeRents$Acts", name := "lump", desc := "(LLifeRents$Life;IZ)I" } : Jvm.MethodName)) ∈ lw_all := lw_g (lw_at lw_m3 211 rfl) rfl
theorem q768 : (Jvm.Cond.instanceMethod ({ cls := "LifeRents", name := "rent", desc := "(IIII)I" } : Jvm.MethodName)) ∈ lw_all := lw_g (lw_at lw_m3 216 rfl) rfl
theorem q769 : (Jvm.Cond.selects "LifeRents" ({ cls := "LifeRents", name := "rent", desc := "(IIII)I" } : Jvm.MethodName) ({ cls := "LifeRents", name := "rent", desc := "(IIII)I" } : Jvm.MethodName)) ∈ lw_all := lw_g (lw_at lw_m3 217 rfl) rfl
theorem q770 : (Jvm.Cond.code ({ cls := "LifeRents", name := "rent", desc := "(IIII)I" } : Jvm.MethodName) prog_1_method_21_code (9 : Nat) (Option.some Jvm.ClassFile.FieldType.int)) ∈ lw_all := lw_g (lw_at lw_m3 218 rfl) rfl
theorem q771 : (Jvm.Cond.methodLink "LifeRents" (189 : Nat) ({ cls := "LifeRents", name := "isHolder", desc := "(I)Z" } : Jvm.MethodName)) ∈ lw_all := lw_g (lw_at lw_m3 219 rfl) rfl
theorem q772 : (Jvm.Cond.static ({ cls := "LifeRents", name := "isHolder", desc := "(I)Z" } : Jvm.MethodName)) ∈ lw_all := lw_g (lw_at lw_m3 220 rfl) rfl
theorem q773 : (Jvm.Cond.code ({ cls := "LifeRents", name := "isHolder", desc := "(I)Z" } : Jvm.MethodName) prog_1_method_19_code (1 : Nat) (Option.some Jvm.ClassFile.FieldType.boolean)) ∈ lw_all := lw_g (lw_at lw_m3 221 rfl) rfl
theorem q774 : (Jvm.Cond.methodLink "LifeRents" (193 : Nat) ({ cls := "LifeRents", name := "younger", desc := "(LLifeRents$Life;LLifeRents$Life;I)LLifeRents$Life;" } : Jvm.MethodName)) ∈ lw_all := lw_g (lw_at lw_m3 222 rfl) rfl
theorem q775 : (Jvm.Cond.static ({ cls := "LifeRents", name := "younger", desc := "(LLifeRents$Life;LLifeRents$Life;I)LLifeRents$Life;" } : Jvm.MethodName)) ∈ lw_all := lw_g (lw_at lw_m3 223 rfl) rfl
theorem q776 : (Jvm.Cond.code ({ cls := "LifeRents", name := "younger", desc := "(LLifeRents$Life;LLifeRents$Life;I)LLifeRents$Life;" } : Jvm.MethodName) prog_1_method_3_code (3 : Nat) (Option.some (Jvm.ClassFile.FieldType.object "LifeRents$Life"))) ∈ lw_all := lw_g (lw_at lw_m3 224 rfl) rfl
theorem q777 : (Jvm.Cond.methodLink "LifeRents" (9 : Nat) ({ cls := "LifeRents$Life", name := "age", desc := "(I)I" } : Jvm.MethodName)) ∈ lw_all := lw_g (lw_at lw_m3 225 rfl) rfl
theorem q778 : (Jvm.Cond.classLink "LifeRents" (172 : Nat) "LifeRents$Rent") ∈ lw_all := lw_g (lw_at lw_m3 226 rfl) rfl
theorem q780 : (Jvm.Cond.methodLink "LifeRents" (197 : Nat) ({ cls := "LifeRents$Rent", name := "<init>", desc := "(IIIILLifeRents$Life;)V" } : Jvm.MethodName)) ∈ lw_all := lw_g (lw_at lw_m3 228 rfl) rfl
theorem q789 : (Jvm.Cond.fieldLink "LifeRents" (280 : Nat) "LifeRents$Rent" "bought" "I") ∈ lw_all := lw_g (lw_at lw_m3 237 rfl) rfl
theorem q791 : (Jvm.Cond.fieldLink "LifeRents" (271 : Nat) "LifeRents$Rent" "coins" "I") ∈ lw_all := lw_g (lw_at lw_m3 239 rfl) rfl
theorem q793 : (Jvm.Cond.fieldLink "LifeRents" (283 : Nat) "LifeRents$Rent" "price" "I") ∈ lw_all := lw_g (lw_at lw_m4 1 rfl) rfl
theorem q798 : (Jvm.Cond.fieldLink "LifeRents" (328 : Nat) "LifeRents$Rent" "first" "LLifeRents$Life;") ∈ lw_all := lw_g (lw_at lw_m4 6 rfl) rfl
theorem q800 : (Jvm.Cond.fieldLinkNest "LifeRents" (254 : Nat) "LifeRents$Rent" "paid" "[I" "LifeRents") ∈ lw_tbl := lw_at lw_m4 8 rfl
theorem q802 : (Jvm.Cond.fieldLinkNest "LifeRents" (215 : Nat) "LifeRents$Rent" "sales" "Ljava/util/ArrayList;" "LifeRents") ∈ lw_tbl := lw_at lw_m4 10 rfl
theorem q818 : (Jvm.Cond.classLink "LifeRents" (200 : Nat) "LifeRents$JointRent") ∈ lw_all := lw_g (lw_at lw_m4 26 rfl) rfl
theorem q820 : (Jvm.Cond.methodLink "LifeRents" (202 : Nat) ({ cls := "LifeRents$JointRent", name := "<init>", desc := "(IIIILLifeRents$Life;LLifeRents$Life;)V" } : Jvm.MethodName)) ∈ lw_all := lw_g (lw_at lw_m4 28 rfl) rfl
theorem q836 : (Jvm.Cond.instanceMethod ({ cls := "LifeRents", name := "sell", desc := "(IIII)Z" } : Jvm.MethodName)) ∈ lw_all := lw_g (lw_at lw_m4 44 rfl) rfl
theorem q837 : (Jvm.Cond.selects "LifeRents" ({ cls := "LifeRents", name := "sell", desc := "(IIII)Z" } : Jvm.MethodName) ({ cls := "LifeRents", name := "sell", desc := "(IIII)Z" } : Jvm.MethodName)) ∈ lw_all := lw_g (lw_at lw_m4 45 rfl) rfl
theorem q838 : (Jvm.Cond.code ({ cls := "LifeRents", name := "sell", desc := "(IIII)Z" } : Jvm.MethodName) prog_1_method_22_code (6 : Nat) (Option.some Jvm.ClassFile.FieldType.boolean)) ∈ lw_all := lw_g (lw_at lw_m4 46 rfl) rfl
theorem q839 : (Jvm.Cond.methodLink "LifeRents" (205 : Nat) ({ cls := "LifeRents", name := "aRent", desc := "(I)LLifeRents$Rent;" } : Jvm.MethodName)) ∈ lw_all := lw_g (lw_at lw_m4 47 rfl) rfl
theorem q840 : (Jvm.Cond.privateMethod ({ cls := "LifeRents", name := "aRent", desc := "(I)LLifeRents$Rent;" } : Jvm.MethodName)) ∈ lw_tbl := lw_at lw_m4 48 rfl
theorem q841 : (Jvm.Cond.instanceMethod ({ cls := "LifeRents", name := "aRent", desc := "(I)LLifeRents$Rent;" } : Jvm.MethodName)) ∈ lw_all := lw_g (lw_at lw_m4 49 rfl) rfl
theorem q842 : (Jvm.Cond.code ({ cls := "LifeRents", name := "aRent", desc := "(I)LLifeRents$Rent;" } : Jvm.MethodName) prog_1_method_17_code (2 : Nat) (Option.some (Jvm.ClassFile.FieldType.object "LifeRents$Rent"))) ∈ lw_all := lw_g (lw_at lw_m4 50 rfl) rfl
theorem q843 : (Jvm.Cond.methodLink "LifeRents" (209 : Nat) ({ cls := "LifeRents$Rent", name := "parts", desc := "(II)I" } : Jvm.MethodName)) ∈ lw_all := lw_g (lw_at lw_m4 51 rfl) rfl
theorem q852 : (Jvm.Cond.classLink "LifeRents" (218 : Nat) "LifeRents$Sale") ∈ lw_all := lw_g (lw_at lw_m4 60 rfl) rfl
theorem q854 : (Jvm.Cond.methodLink "LifeRents" (220 : Nat) ({ cls := "LifeRents$Sale", name := "<init>", desc := "(IIII)V" } : Jvm.MethodName)) ∈ lw_all := lw_g (lw_at lw_m4 62 rfl) rfl
theorem q876 : (Jvm.Cond.instanceMethod ({ cls := "LifeRents", name := "parts", desc := "(III)I" } : Jvm.MethodName)) ∈ lw_all := lw_g (lw_at lw_m4 84 rfl) rfl
theorem q877 : (Jvm.Cond.selects "LifeRents" ({ cls := "LifeRents", name := "parts", desc := "(III)I" } : Jvm.MethodName) ({ cls := "LifeRents", name := "parts", desc := "(III)I" } : Jvm.MethodName)) ∈ lw_all := lw_g (lw_at lw_m4 85 rfl) rfl
theorem q878 : (Jvm.Cond.code ({ cls := "LifeRents", name := "parts", desc := "(III)I" } : Jvm.MethodName) prog_1_method_23_code (4 : Nat) (Option.some Jvm.ClassFile.FieldType.int)) ∈ lw_all := lw_g (lw_at lw_m4 86 rfl) rfl
theorem q879 : (Jvm.Cond.methodLink "LifeRents" (223 : Nat) ({ cls := "LifeRents", name := "isHalf", desc := "(I)Z" } : Jvm.MethodName)) ∈ lw_all := lw_g (lw_at lw_m4 87 rfl) rfl
theorem q880 : (Jvm.Cond.static ({ cls := "LifeRents", name := "isHalf", desc := "(I)Z" } : Jvm.MethodName)) ∈ lw_all := lw_g (lw_at lw_m4 88 rfl) rfl
theorem q881 : (Jvm.Cond.code ({ cls := "LifeRents", name := "isHalf", desc := "(I)Z" } : Jvm.MethodName) prog_1_method_18_code (1 : Nat) (Option.some Jvm.ClassFile.FieldType.boolean)) ∈ lw_all := lw_g (lw_at lw_m4 89 rfl) rfl
theorem q883 : (Jvm.Cond.instanceMethod ({ cls := "LifeRents", name := "note", desc := "(IIZ)I" } : Jvm.MethodName)) ∈ lw_all := lw_g (lw_at lw_m4 91 rfl) rfl
theorem q884 : (Jvm.Cond.selects "LifeRents" ({ cls := "LifeRents", name := "note", desc := "(IIZ)I" } : Jvm.MethodName) ({ cls := "LifeRents", name := "note", desc := "(IIZ)I" } : Jvm.MethodName)) ∈ lw_all := lw_g (lw_at lw_m4 92 rfl) rfl
theorem q885 : (Jvm.Cond.code ({ cls := "LifeRents", name := "note", desc := "(IIZ)I" } : Jvm.MethodName) prog_1_method_24_code (5 : Nat) (Option.some Jvm.ClassFile.FieldType.int)) ∈ lw_all := lw_g (lw_at lw_m4 93 rfl) rfl
theorem q886 : (Jvm.Cond.classLink "LifeRents" (226 : Nat) "LifeRents$Death") ∈ lw_all := lw_g (lw_at lw_m4 94 rfl) rfl
theorem q888 : (Jvm.Cond.methodLink "LifeRents" (228 : Nat) ({ cls := "LifeRents$Death", name := "<init>", desc := "(ILLifeRents$Life;I)V" } : Jvm.MethodName)) ∈ lw_all := lw_g (lw_at lw_m4 96 rfl) rfl
theorem q917 : (Jvm.Cond.classLink "LifeRents" (231 : Nat) "LifeRents$Proof") ∈ lw_all := lw_g (lw_at lw_m4 125 rfl) rfl
theorem q919 : (Jvm.Cond.methodLink "LifeRents" (233 : Nat) ({ cls := "LifeRents$Proof", name := "<init>", desc := "(ILLifeRents$Life;I)V" } : Jvm.MethodName)) ∈ lw_all := lw_g (lw_at lw_m4 127 rfl) rfl
theorem q928 : (Jvm.Cond.instanceMethod ({ cls := "LifeRents", name := "strike", desc := "(I)I" } : Jvm.MethodName)) ∈ lw_all := lw_g (lw_at lw_m4 136 rfl) rfl
theorem q929 : (Jvm.Cond.selects "LifeRents" ({ cls := "LifeRents", name := "strike", desc := "(I)I" } : Jvm.MethodName) ({ cls := "LifeRents", name := "strike", desc := "(I)I" } : Jvm.MethodName)) ∈ lw_all := lw_g (lw_at lw_m4 137 rfl) rfl
theorem q930 : (Jvm.Cond.code ({ cls := "LifeRents", name := "strike", desc := "(I)I" } : Jvm.MethodName) prog_1_method_25_code (2 : Nat) (Option.some Jvm.ClassFile.FieldType.int)) ∈ lw_all := lw_g (lw_at lw_m4 138 rfl) rfl
theorem q931 : (Jvm.Cond.classLink "LifeRents" (234 : Nat) "LifeRents$Strike") ∈ lw_all := lw_g (lw_at lw_m4 139 rfl) rfl
theorem q933 : (Jvm.Cond.methodLink "LifeRents" (236 : Nat) ({ cls := "LifeRents$Strike", name := "<init>", desc := "(II)V" } : Jvm.MethodName)) ∈ lw_all := lw_g (lw_at lw_m4 141 rfl) rfl
theorem q943 : (Jvm.Cond.instanceMethod ({ cls := "LifeRents", name := "dead", desc := "(II)I" } : Jvm.MethodName)) ∈ lw_all := lw_g (lw_at lw_m4 151 rfl) rfl
theorem q944 : (Jvm.Cond.selects "LifeRents" ({ cls := "LifeRents", name := "dead", desc := "(II)I" } : Jvm.MethodName) ({ cls := "LifeRents", name := "dead", desc := "(II)I" } : Jvm.MethodName)) ∈ lw_all := lw_g (lw_at lw_m4 152 rfl) rfl
theorem q945 : (Jvm.Cond.code ({ cls := "LifeRents", name := "dead", desc := "(II)I" } : Jvm.MethodName) prog_1_method_26_code (3 : Nat) (Option.some Jvm.ClassFile.FieldType.int)) ∈ lw_all := lw_g (lw_at lw_m4 153 rfl) rfl
theorem q946 : (Jvm.Cond.methodLink "LifeRents" (239 : Nat) ({ cls := "LifeRents$Known", name := "know", desc := "(I)LLifeRents$Known;" } : Jvm.MethodName)) ∈ lw_all := lw_g (lw_at lw_m4 154 rfl) rfl
theorem q978 : (Jvm.Cond.instanceMethod ({ cls := "LifeRents", name := "holds", desc := "(II)I" } : Jvm.MethodName)) ∈ lw_all := lw_g (lw_at lw_m4 186 rfl) rfl
theorem q979 : (Jvm.Cond.selects "LifeRents" ({ cls := "LifeRents", name := "holds", desc := "(II)I" } : Jvm.MethodName) ({ cls := "LifeRents", name := "holds", desc := "(II)I" } : Jvm.MethodName)) ∈ lw_all := lw_g (lw_at lw_m4 187 rfl) rfl
theorem q980 : (Jvm.Cond.code ({ cls := "LifeRents", name := "holds", desc := "(II)I" } : Jvm.MethodName) prog_1_method_27_code (3 : Nat) (Option.some Jvm.ClassFile.FieldType.int)) ∈ lw_all := lw_g (lw_at lw_m4 188 rfl) rfl
theorem q981 : (Jvm.Cond.methodLink "LifeRents" (245 : Nat) ({ cls := "LifeRents$Known", name := "counts", desc := "(I)Z" } : Jvm.MethodName)) ∈ lw_all := lw_g (lw_at lw_m4 189 rfl) rfl
theorem q982 : (Jvm.Cond.classLink "LifeRents" (248 : Nat) "LifeRents$Note") ∈ lw_all := lw_g (lw_at lw_m4 190 rfl) rfl
theorem q983 : (Jvm.Cond.methodLink "LifeRents" (250 : Nat) ({ cls := "LifeRents$Note", name := "isFalse", desc := "(LLifeRents$Known;)Z" } : Jvm.MethodName)) ∈ lw_all := lw_g (lw_at lw_m4 191 rfl) rfl
theorem q993 : (Jvm.Cond.instanceMethod ({ cls := "LifeRents", name := "paid", desc := "(III)I" } : Jvm.MethodName)) ∈ lw_all := lw_g (lw_at lw_m4 201 rfl) rfl
theorem q994 : (Jvm.Cond.selects "LifeRents" ({ cls := "LifeRents", name := "paid", desc := "(III)I" } : Jvm.MethodName) ({ cls := "LifeRents", name := "paid", desc := "(III)I" } : Jvm.MethodName)) ∈ lw_all := lw_g (lw_at lw_m4 202 rfl) rfl
theorem q995 : (Jvm.Cond.code ({ cls := "LifeRents", name := "paid", desc := "(III)I" } : Jvm.MethodName) prog_1_method_30_code (5 : Nat) (Option.some Jvm.ClassFile.FieldType.int)) ∈ lw_all := lw_g (lw_at lw_m4 203 rfl) rfl
theorem q996 : (Jvm.Cond.methodLink "LifeRents" (274 : Nat) ({ cls := "LifeRents", name := "pay", desc := "()V" } : Jvm.MethodName)) ∈ lw_all := lw_g (lw_at lw_m4 204 rfl) rfl
theorem q997 : (Jvm.Cond.privateMethod ({ cls := "LifeRents", name := "pay", desc := "()V" } : Jvm.MethodName)) ∈ lw_tbl := lw_at lw_m4 205 rfl
theorem q998 : (Jvm.Cond.instanceMethod ({ cls := "LifeRents", name := "pay", desc := "()V" } : Jvm.MethodName)) ∈ lw_all := lw_g (lw_at lw_m4 206 rfl) rfl
theorem q999 : (Jvm.Cond.code ({ cls := "LifeRents", name := "pay", desc := "()V" } : Jvm.MethodName) prog_1_method_28_code (4 : Nat) (Option.none : Option Jvm.ClassFile.FieldType)) ∈ lw_all := lw_g (lw_at lw_m4 207 rfl) rfl
theorem q1000 : (Jvm.Cond.methodLink "LifeRents" (51 : Nat) ({ cls := "java/lang/Math", name := "max", desc := "(II)I" } : Jvm.MethodName)) ∈ lw_all := lw_g (lw_at lw_m4 208 rfl) rfl
theorem q1001 : (Jvm.Cond.methodLink "LifeRents" (260 : Nat) ({ cls := "LifeRents", name := "pay", desc := "(LLifeRents$Rent;II)V" } : Jvm.MethodName)) ∈ lw_all := lw_g (lw_at lw_m4 209 rfl) rfl
theorem q1002 : (Jvm.Cond.privateMethod ({ cls := "LifeRents", name := "pay", desc := "(LLifeRents$Rent;II)V" } : Jvm.MethodName)) ∈ lw_tbl := lw_at lw_m4 210 rfl
theorem q1003 : (Jvm.Cond.instanceMethod ({ cls := "LifeRents", name := "pay", desc := "(LLifeRents$Rent;II)V" } : Jvm.MethodName)) ∈ lw_all := lw_g (lw_at lw_m4 211 rfl) rfl
theorem q1004 : (Jvm.Cond.code ({ cls := "LifeRents", name := "pay", desc := "(LLifeRents$Rent;II)V" } : Jvm.MethodName) prog_1_method_29_code (8 : Nat) (Option.none : Option Jvm.ClassFile.FieldType)) ∈ lw_all := lw_g (lw_at lw_m4 212 rfl) rfl
theorem q1005 : (Jvm.Cond.methodLink "LifeRents" (264 : Nat) ({ cls := "LifeRents$Known", name := "isDue", desc := "(LLifeRents$Rent;I)Z" } : Jvm.MethodName)) ∈ lw_all := lw_g (lw_at lw_m4 213 rfl) rfl
theorem q1021 : (Jvm.Cond.methodLink "LifeRents" (268 : Nat) ({ cls := "LifeRents$Known", name := "isProved", desc := "(LLifeRents$Rent;I)Z" } : Jvm.MethodName)) ∈ lw_all := lw_g (lw_at lw_m4 229 rfl) rfl
theorem q1034 : (Jvm.Cond.instanceMethod ({ cls := "LifeRents", name := "got", desc := "(II)I" } : Jvm.MethodName)) ∈ lw_all := lw_g (lw_at lw_m5 2 rfl) rfl
theorem q1035 : (Jvm.Cond.selects "LifeRents" ({ cls := "LifeRents", name := "got", desc := "(II)I" } : Jvm.MethodName) ({ cls := "LifeRents", name := "got", desc := "(II)I" } : Jvm.MethodName)) ∈ lw_all := lw_g (lw_at lw_m5 3 rfl) rfl
theorem q1036 : (Jvm.Cond.code ({ cls := "LifeRents", name := "got", desc := "(II)I" } : Jvm.MethodName) prog_1_method_31_code (3 : Nat) (Option.some Jvm.ClassFile.FieldType.int)) ∈ lw_all := lw_g (lw_at lw_m5 4 rfl) rfl
theorem q1038 : (Jvm.Cond.instanceMethod ({ cls := "LifeRents", name := "owed", desc := "(II)I" } : Jvm.MethodName)) ∈ lw_all := lw_g (lw_at lw_m5 6 rfl) rfl
theorem q1039 : (Jvm.Cond.selects "LifeRents" ({ cls := "LifeRents", name := "owed", desc := "(II)I" } : Jvm.MethodName) ({ cls := "LifeRents", name := "owed", desc := "(II)I" } : Jvm.MethodName)) ∈ lw_all := lw_g (lw_at lw_m5 7 rfl) rfl
theorem q1040 : (Jvm.Cond.code ({ cls := "LifeRents", name := "owed", desc := "(II)I" } : Jvm.MethodName) prog_1_method_33_code (3 : Nat) (Option.some Jvm.ClassFile.FieldType.int)) ∈ lw_all := lw_g (lw_at lw_m5 8 rfl) rfl
theorem q1041 : (Jvm.Cond.methodLink "LifeRents" (276 : Nat) ({ cls := "LifeRents", name := "owedOf", desc := "(LLifeRents$Rent;I)I" } : Jvm.MethodName)) ∈ lw_all := lw_g (lw_at lw_m5 9 rfl) rfl
theorem q1042 : (Jvm.Cond.privateMethod ({ cls := "LifeRents", name := "owedOf", desc := "(LLifeRents$Rent;I)I" } : Jvm.MethodName)) ∈ lw_tbl := lw_at lw_m5 10 rfl
theorem q1043 : (Jvm.Cond.instanceMethod ({ cls := "LifeRents", name := "owedOf", desc := "(LLifeRents$Rent;I)I" } : Jvm.MethodName)) ∈ lw_all := lw_g (lw_at lw_m5 11 rfl) rfl
theorem q1044 : (Jvm.Cond.code ({ cls := "LifeRents", name := "owedOf", desc := "(LLifeRents$Rent;I)I" } : Jvm.MethodName) prog_1_method_32_code (5 : Nat) (Option.some Jvm.ClassFile.FieldType.int)) ∈ lw_all := lw_g (lw_at lw_m5 12 rfl) rfl
theorem q1046 : (Jvm.Cond.instanceMethod ({ cls := "LifeRents", name := "state", desc := "(II)I" } : Jvm.MethodName)) ∈ lw_all := lw_g (lw_at lw_m5 14 rfl) rfl
theorem q1047 : (Jvm.Cond.selects "LifeRents" ({ cls := "LifeRents", name := "state", desc := "(II)I" } : Jvm.MethodName) ({ cls := "LifeRents", name := "state", desc := "(II)I" } : Jvm.MethodName)) ∈ lw_all := lw_g (lw_at lw_m5 15 rfl) rfl
theorem q1048 : (Jvm.Cond.code ({ cls := "LifeRents", name := "state", desc := "(II)I" } : Jvm.MethodName) prog_1_method_34_code (5 : Nat) (Option.some Jvm.ClassFile.FieldType.int)) ∈ lw_all := lw_g (lw_at lw_m5 16 rfl) rfl
theorem q1050 : (Jvm.Cond.instanceMethod ({ cls := "LifeRents", name := "sold", desc := "(III)Z" } : Jvm.MethodName)) ∈ lw_all := lw_g (lw_at lw_m5 18 rfl) rfl
theorem q1051 : (Jvm.Cond.selects "LifeRents" ({ cls := "LifeRents", name := "sold", desc := "(III)Z" } : Jvm.MethodName) ({ cls := "LifeRents", name := "sold", desc := "(III)Z" } : Jvm.MethodName)) ∈ lw_all := lw_g (lw_at lw_m5 19 rfl) rfl
theorem q1052 : (Jvm.Cond.code ({ cls := "LifeRents", name := "sold", desc := "(III)Z" } : Jvm.MethodName) prog_1_method_35_code (4 : Nat) (Option.some Jvm.ClassFile.FieldType.boolean)) ∈ lw_all := lw_g (lw_at lw_m5 20 rfl) rfl
theorem q1054 : (Jvm.Cond.instanceMethod ({ cls := "LifeRents", name := "own", desc := "(IIII)I" } : Jvm.MethodName)) ∈ lw_all := lw_g (lw_at lw_m5 22 rfl) rfl
theorem q1055 : (Jvm.Cond.selects "LifeRents" ({ cls := "LifeRents", name := "own", desc := "(IIII)I" } : Jvm.MethodName) ({ cls := "LifeRents", name := "own", desc := "(IIII)I" } : Jvm.MethodName)) ∈ lw_all := lw_g (lw_at lw_m5 23 rfl) rfl
theorem q1056 : (Jvm.Cond.code ({ cls := "LifeRents", name := "own", desc := "(IIII)I" } : Jvm.MethodName) prog_1_method_36_code (5 : Nat) (Option.some Jvm.ClassFile.FieldType.int)) ∈ lw_all := lw_g (lw_at lw_m5 24 rfl) rfl
theorem q1057 : (Jvm.Cond.methodLink "LifeRents" (285 : Nat) ({ cls := "LifeRents$Dead", name := "count", desc := "(LLifeRents$Known;)V" } : Jvm.MethodName)) ∈ lw_all := lw_g (lw_at lw_m5 25 rfl) rfl
theorem q1069 : (Jvm.Cond.static ({ cls := "LifeRents", name := "group", desc := "(I)I" } : Jvm.MethodName)) ∈ lw_all := lw_g (lw_at lw_m5 37 rfl) rfl
theorem q1070 : (Jvm.Cond.code ({ cls := "LifeRents", name := "group", desc := "(I)I" } : Jvm.MethodName) prog_1_method_2_code (1 : Nat) (Option.some Jvm.ClassFile.FieldType.int)) ∈ lw_all := lw_g (lw_at lw_m5 38 rfl) rfl
theorem q1071 : (Jvm.Cond.methodLink "LifeRents" (3 : Nat) ({ cls := "java/lang/Math", name := "min", desc := "(II)I" } : Jvm.MethodName)) ∈ lw_all := lw_g (lw_at lw_m5 39 rfl) rfl
theorem q1072 : (Jvm.Cond.methodLink "LifeRents" (26 : Nat) ({ cls := "LifeRents$Dead", name := "of", desc := "(III)I" } : Jvm.MethodName)) ∈ lw_all := lw_g (lw_at lw_m5 40 rfl) rfl
theorem q1083 : (Jvm.Cond.instanceMethod ({ cls := "LifeRents", name := "worth", desc := "(III)I" } : Jvm.MethodName)) ∈ lw_all := lw_g (lw_at lw_m5 51 rfl) rfl
theorem q1084 : (Jvm.Cond.selects "LifeRents" ({ cls := "LifeRents", name := "worth", desc := "(III)I" } : Jvm.MethodName) ({ cls := "LifeRents", name := "worth", desc := "(III)I" } : Jvm.MethodName)) ∈ lw_all := lw_g (lw_at lw_m5 52 rfl) rfl
theorem q1085 : (Jvm.Cond.code ({ cls := "LifeRents", name := "worth", desc := "(III)I" } : Jvm.MethodName) prog_1_method_37_code (6 : Nat) (Option.some Jvm.ClassFile.FieldType.int)) ∈ lw_all := lw_g (lw_at lw_m5 53 rfl) rfl
theorem q1086 : (Jvm.Cond.methodLink "LifeRents" (295 : Nat) ({ cls := "LifeRents", name := "worth", desc := "(ILLifeRents$Life;LLifeRents$Life;)I" } : Jvm.MethodName)) ∈ lw_all := lw_g (lw_at lw_m5 54 rfl) rfl
theorem q1087 : (Jvm.Cond.privateMethod ({ cls := "LifeRents", name := "worth", desc := "(ILLifeRents$Life;LLifeRents$Life;)I" } : Jvm.MethodName)) ∈ lw_tbl := lw_at lw_m5 55 rfl
theorem q1088 : (Jvm.Cond.instanceMethod ({ cls := "LifeRents", name := "worth", desc := "(ILLifeRents$Life;LLifeRents$Life;)I" } : Jvm.MethodName)) ∈ lw_all := lw_g (lw_at lw_m5 56 rfl) rfl
theorem q1089 : (Jvm.Cond.code ({ cls := "LifeRents", name := "worth", desc := "(ILLifeRents$Life;LLifeRents$Life;)I" } : Jvm.MethodName) prog_1_method_8_code (4 : Nat) (Option.some Jvm.ClassFile.FieldType.int)) ∈ lw_all := lw_g (lw_at lw_m5 57 rfl) rfl
theorem q1090 : (Jvm.Cond.methodLink "LifeRents" (54 : Nat) ({ cls := "LifeRents", name := "worth", desc := "(ILLifeRents$Life;)I" } : Jvm.MethodName)) ∈ lw_all := lw_g (lw_at lw_m5 58 rfl) rfl
theorem q1091 : (Jvm.Cond.privateMethod ({ cls := "LifeRents", name := "worth", desc := "(ILLifeRents$Life;)I" } : Jvm.MethodName)) ∈ lw_tbl := lw_at lw_m5 59 rfl
theorem q1092 : (Jvm.Cond.instanceMethod ({ cls := "LifeRents", name := "worth", desc := "(ILLifeRents$Life;)I" } : Jvm.MethodName)) ∈ lw_all := lw_g (lw_at lw_m5 60 rfl) rfl
theorem q1093 : (Jvm.Cond.code ({ cls := "LifeRents", name := "worth", desc := "(ILLifeRents$Life;)I" } : Jvm.MethodName) prog_1_method_6_code (5 : Nat) (Option.some Jvm.ClassFile.FieldType.int)) ∈ lw_all := lw_g (lw_at lw_m5 61 rfl) rfl
theorem q1094 : (Jvm.Cond.methodLink "LifeRents" (44 : Nat) ({ cls := "LifeRents", name := "live", desc := "(ILLifeRents$Life;I)I" } : Jvm.MethodName)) ∈ lw_all := lw_g (lw_at lw_m5 62 rfl) rfl
theorem q1095 : (Jvm.Cond.privateMethod ({ cls := "LifeRents", name := "live", desc := "(ILLifeRents$Life;I)I" } : Jvm.MethodName)) ∈ lw_tbl := lw_at lw_m5 63 rfl
theorem q1096 : (Jvm.Cond.instanceMethod ({ cls := "LifeRents", name := "live", desc := "(ILLifeRents$Life;I)I" } : Jvm.MethodName)) ∈ lw_all := lw_g (lw_at lw_m5 64 rfl) rfl
theorem q1097 : (Jvm.Cond.code ({ cls := "LifeRents", name := "live", desc := "(ILLifeRents$Life;I)I" } : Jvm.MethodName) prog_1_method_4_code (4 : Nat) (Option.some Jvm.ClassFile.FieldType.int)) ∈ lw_all := lw_g (lw_at lw_m5 65 rfl) rfl
theorem q1098 : (Jvm.Cond.methodLink "LifeRents" (23 : Nat) ({ cls := "LifeRents", name := "group", desc := "(I)I" } : Jvm.MethodName)) ∈ lw_all := lw_g (lw_at lw_m5 66 rfl) rfl
theorem q1099 : (Jvm.Cond.methodLink "LifeRents" (48 : Nat) ({ cls := "LifeRents", name := "discounted", desc := "(II)I" } : Jvm.MethodName)) ∈ lw_all := lw_g (lw_at lw_m5 67 rfl) rfl
theorem q1100 : (Jvm.Cond.privateMethod ({ cls := "LifeRents", name := "discounted", desc := "(II)I" } : Jvm.MethodName)) ∈ lw_tbl := lw_at lw_m5 68 rfl
theorem q1101 : (Jvm.Cond.instanceMethod ({ cls := "LifeRents", name := "discounted", desc := "(II)I" } : Jvm.MethodName)) ∈ lw_all := lw_g (lw_at lw_m5 69 rfl) rfl
theorem q1102 : (Jvm.Cond.code ({ cls := "LifeRents", name := "discounted", desc := "(II)I" } : Jvm.MethodName) prog_1_method_5_code (3 : Nat) (Option.some Jvm.ClassFile.FieldType.int)) ∈ lw_all := lw_g (lw_at lw_m5 70 rfl) rfl
theorem q1103 : (Jvm.Cond.methodLink "LifeRents" (58 : Nat) ({ cls := "LifeRents", name := "both", desc := "(ILLifeRents$Life;LLifeRents$Life;)I" } : Jvm.MethodName)) ∈ lw_all := lw_g (lw_at lw_m5 71 rfl) rfl
theorem q1104 : (Jvm.Cond.privateMethod ({ cls := "LifeRents", name := "both", desc := "(ILLifeRents$Life;LLifeRents$Life;)I" } : Jvm.MethodName)) ∈ lw_tbl := lw_at lw_m5 72 rfl
theorem q1105 : (Jvm.Cond.instanceMethod ({ cls := "LifeRents", name := "both", desc := "(ILLifeRents$Life;LLifeRents$Life;)I" } : Jvm.MethodName)) ∈ lw_all := lw_g (lw_at lw_m5 73 rfl) rfl
theorem q1106 : (Jvm.Cond.code ({ cls := "LifeRents", name := "both", desc := "(ILLifeRents$Life;LLifeRents$Life;)I" } : Jvm.MethodName) prog_1_method_7_code (8 : Nat) (Option.some Jvm.ClassFile.FieldType.int)) ∈ lw_all := lw_g (lw_at lw_m5 74 rfl) rfl
theorem q1108 : (Jvm.Cond.instanceMethod ({ cls := "LifeRents", name := "names", desc := "(I)I" } : Jvm.MethodName)) ∈ lw_all := lw_g (lw_at lw_m5 76 rfl) rfl
theorem q1109 : (Jvm.Cond.selects "LifeRents" ({ cls := "LifeRents", name := "names", desc := "(I)I" } : Jvm.MethodName) ({ cls := "LifeRents", name := "names", desc := "(I)I" } : Jvm.MethodName)) ∈ lw_all := lw_g (lw_at lw_m5 77 rfl) rfl
theorem q1110 : (Jvm.Cond.code ({ cls := "LifeRents", name := "names", desc := "(I)I" } : Jvm.MethodName) prog_1_method_38_code (3 : Nat) (Option.some Jvm.ClassFile.FieldType.int)) ∈ lw_all := lw_g (lw_at lw_m5 78 rfl) rfl
theorem q1111 : (Jvm.Cond.constant "LifeRents" (297 : Nat) (99999 : Int32)) ∈ lw_all := lw_g (lw_at lw_m5 79 rfl) rfl
theorem q1112 : (Jvm.Cond.constant "LifeRents" (300 : Nat) (-2147483648 : Int32)) ∈ lw_all := lw_g (lw_at lw_m5 80 rfl) rfl
theorem q1113 : (Jvm.Cond.methodLink "LifeRents" (301 : Nat) ({ cls := "LifeRents$Names", name := "begin", desc := "(I)V" } : Jvm.MethodName)) ∈ lw_all := lw_g (lw_at lw_m5 81 rfl) rfl
theorem q1124 : (Jvm.Cond.methodLink "LifeRents" (304 : Nat) ({ cls := "LifeRents$Names", name := "isSpent", desc := "()Z" } : Jvm.MethodName)) ∈ lw_all := lw_g (lw_at lw_m5 92 rfl) rfl
theorem q1128 : (Jvm.Cond.methodLink "LifeRents" (308 : Nat) ({ cls := "LifeRents$Names", name := "go", desc := "(III)V" } : Jvm.MethodName)) ∈ lw_all := lw_g (lw_at lw_m5 96 rfl) rfl
theorem q1134 : (Jvm.Cond.instanceMethod ({ cls := "LifeRents", name := "named", desc := "(I)I" } : Jvm.MethodName)) ∈ lw_all := lw_g (lw_at lw_m5 102 rfl) rfl
theorem q1135 : (Jvm.Cond.selects "LifeRents" ({ cls := "LifeRents", name := "named", desc := "(I)I" } : Jvm.MethodName) ({ cls := "LifeRents", name := "named", desc := "(I)I" } : Jvm.MethodName)) ∈ lw_all := lw_g (lw_at lw_m5 103 rfl) rfl
theorem q1136 : (Jvm.Cond.code ({ cls := "LifeRents", name := "named", desc := "(I)I" } : Jvm.MethodName) prog_1_method_39_code (2 : Nat) (Option.some Jvm.ClassFile.FieldType.int)) ∈ lw_all := lw_g (lw_at lw_m5 104 rfl) rfl
theorem q1138 : (Jvm.Cond.instanceMethod ({ cls := "LifeRents", name := "look", desc := "(I)I" } : Jvm.MethodName)) ∈ lw_all := lw_g (lw_at lw_m5 106 rfl) rfl
theorem q1139 : (Jvm.Cond.selects "LifeRents" ({ cls := "LifeRents", name := "look", desc := "(I)I" } : Jvm.MethodName) ({ cls := "LifeRents", name := "look", desc := "(I)I" } : Jvm.MethodName)) ∈ lw_all := lw_g (lw_at lw_m5 107 rfl) rfl
theorem q1140 : (Jvm.Cond.code ({ cls := "LifeRents", name := "look", desc := "(I)I" } : Jvm.MethodName) prog_1_method_41_code (6 : Nat) (Option.some Jvm.ClassFile.FieldType.int)) ∈ lw_all := lw_g (lw_at lw_m5 108 rfl) rfl
theorem q1141 : (Jvm.Cond.methodLink "LifeRents" (336 : Nat) ({ cls := "LifeRents", name := "riskOf", desc := "(LLifeRents$Life;)J" } : Jvm.MethodName)) ∈ lw_all := lw_g (lw_at lw_m5 109 rfl) rfl
theorem q1142 : (Jvm.Cond.privateMethod ({ cls := "LifeRents", name := "riskOf", desc := "(LLifeRents$Life;)J" } : Jvm.MethodName)) ∈ lw_tbl := lw_at lw_m5 110 rfl
theorem q1143 : (Jvm.Cond.instanceMethod ({ cls := "LifeRents", name := "riskOf", desc := "(LLifeRents$Life;)J" } : Jvm.MethodName)) ∈ lw_all := lw_g (lw_at lw_m5 111 rfl) rfl
theorem q1144 : (Jvm.Cond.code ({ cls := "LifeRents", name := "riskOf", desc := "(LLifeRents$Life;)J" } : Jvm.MethodName) prog_1_method_40_code (7 : Nat) (Option.some Jvm.ClassFile.FieldType.long)) ∈ lw_all := lw_g (lw_at lw_m5 112 rfl) rfl
theorem q1145 : (Jvm.Cond.methodLink "LifeRents" (324 : Nat) ({ cls := "LifeRents$Known", name := "latest", desc := "(LLifeRents$Life;)I" } : Jvm.MethodName)) ∈ lw_all := lw_g (lw_at lw_m5 113 rfl) rfl
theorem q1149 : (Jvm.Cond.methodLink "LifeRents" (332 : Nat) ({ cls := "LifeRents$Rent", name := "second", desc := "()LLifeRents$Life;" } : Jvm.MethodName)) ∈ lw_all := lw_g (lw_at lw_m5 117 rfl) rfl
theorem q1151 : (Jvm.Cond.instanceMethod ({ cls := "LifeRents", name := "converts", desc := "(I)I" } : Jvm.MethodName)) ∈ lw_all := lw_g (lw_at lw_m5 119 rfl) rfl
theorem q1152 : (Jvm.Cond.selects "LifeRents" ({ cls := "LifeRents", name := "converts", desc := "(I)I" } : Jvm.MethodName) ({ cls := "LifeRents", name := "converts", desc := "(I)I" } : Jvm.MethodName)) ∈ lw_all := lw_g (lw_at lw_m5 120 rfl) rfl
theorem q1153 : (Jvm.Cond.code ({ cls := "LifeRents", name := "converts", desc := "(I)I" } : Jvm.MethodName) prog_1_method_43_code (7 : Nat) (Option.some Jvm.ClassFile.FieldType.int)) ∈ lw_all := lw_g (lw_at lw_m5 121 rfl) rfl
theorem q1154 : (Jvm.Cond.methodLink "LifeRents" (349 : Nat) ({ cls := "LifeRents$Rent", name := "asked", desc := "(I)LLifeRents$Life;" } : Jvm.MethodName)) ∈ lw_all := lw_g (lw_at lw_m5 122 rfl) rfl
theorem q1163 : (Jvm.Cond.constantLong "LifeRents" (352 : Nat) (2 : Int64)) ∈ lw_all := lw_g (lw_at lw_m5 131 rfl) rfl
theorem q1164 : (Jvm.Cond.constantLong "LifeRents" (354 : Nat) (100 : Int64)) ∈ lw_all := lw_g (lw_at lw_m5 132 rfl) rfl
theorem q1166 : (Jvm.Cond.instanceMethod ({ cls := "LifeRents", name := "count", desc := "(I)I" } : Jvm.MethodName)) ∈ lw_all := lw_g (lw_at lw_m5 134 rfl) rfl
theorem q1167 : (Jvm.Cond.selects "LifeRents" ({ cls := "LifeRents", name := "count", desc := "(I)I" } : Jvm.MethodName) ({ cls := "LifeRents", name := "count", desc := "(I)I" } : Jvm.MethodName)) ∈ lw_all := lw_g (lw_at lw_m5 135 rfl) rfl
theorem q1168 : (Jvm.Cond.code ({ cls := "LifeRents", name := "count", desc := "(I)I" } : Jvm.MethodName) prog_1_method_44_code (2 : Nat) (Option.some Jvm.ClassFile.FieldType.int)) ∈ lw_all := lw_g (lw_at lw_m5 136 rfl) rfl
theorem q1208 : (Jvm.Cond.instanceMethod ({ cls := "LifeRents", name := "risk", desc := "(I)J" } : Jvm.MethodName)) ∈ lw_all := lw_g (lw_at lw_m5 176 rfl) rfl
theorem q1209 : (Jvm.Cond.selects "LifeRents" ({ cls := "LifeRents", name := "risk", desc := "(I)J" } : Jvm.MethodName) ({ cls := "LifeRents", name := "risk", desc := "(I)J" } : Jvm.MethodName)) ∈ lw_all := lw_g (lw_at lw_m5 177 rfl) rfl
theorem q1210 : (Jvm.Cond.code ({ cls := "LifeRents", name := "risk", desc := "(I)J" } : Jvm.MethodName) prog_1_method_42_code (3 : Nat) (Option.some Jvm.ClassFile.FieldType.long)) ∈ lw_all := lw_g (lw_at lw_m5 178 rfl) rfl
theorem q1211 : (Jvm.Cond.classLink "LifeRents" (340 : Nat) "java/lang/IndexOutOfBoundsException") ∈ lw_all := lw_g (lw_at lw_m5 179 rfl) rfl
theorem q1220 : (Jvm.Cond.methodLink "LifeRents" (342 : Nat) ({ cls := "java/lang/IndexOutOfBoundsException", name := "<init>", desc := "()V" } : Jvm.MethodName)) ∈ lw_all := lw_g (lw_at lw_m5 188 rfl) rfl
theorem q1232 : (Jvm.Cond.classLink "LifeRents" (343 : Nat) "java/util/NoSuchElementException") ∈ lw_all := lw_g (lw_at lw_m5 200 rfl) rfl
theorem q1241 : (Jvm.Cond.methodLink "LifeRents" (345 : Nat) ({ cls := "java/util/NoSuchElementException", name := "<init>", desc := "()V" } : Jvm.MethodName)) ∈ lw_all := lw_g (lw_at lw_m5 209 rfl) rfl
theorem q1729 : (Jvm.Cond.castable "LifeRents" "java/lang/Object") ∈ lw_tbl := lw_at lw_m7 217 rfl
theorem q1763 : (Jvm.Cond.stringRef "LifeRents" (367 : Nat) "may") ∈ lw_tbl := lw_at lw_m8 11 rfl
theorem q1764 : (Jvm.Cond.stringRef "LifeRents" (368 : Nat) "bar") ∈ lw_tbl := lw_at lw_m8 12 rfl
theorem q1765 : (Jvm.Cond.stringRef "LifeRents" (370 : Nat) "price") ∈ lw_tbl := lw_at lw_m8 13 rfl
theorem q1766 : (Jvm.Cond.stringRef "LifeRents" (371 : Nat) "lump") ∈ lw_tbl := lw_at lw_m8 14 rfl
theorem q1767 : (Jvm.Cond.stringRef "LifeRents" (372 : Nat) "arrears") ∈ lw_tbl := lw_at lw_m8 15 rfl
theorem q1768 : (Jvm.Cond.stringRef "LifeRents" (373 : Nat) "wait") ∈ lw_tbl := lw_at lw_m8 16 rfl
theorem q1769 : (Jvm.Cond.stringRef "LifeRents" (374 : Nat) "rate") ∈ lw_tbl := lw_at lw_m8 17 rfl
theorem q1770 : (Jvm.Cond.stringRef "LifeRents" (375 : Nat) "cap") ∈ lw_tbl := lw_at lw_m8 18 rfl
theorem q1771 : (Jvm.Cond.stringRef "LifeRents" (376 : Nat) "age") ∈ lw_tbl := lw_at lw_m8 19 rfl
theorem q1772 : (Jvm.Cond.stringRef "LifeRents" (377 : Nat) "class") ∈ lw_tbl := lw_at lw_m8 20 rfl
theorem q1773 : (Jvm.Cond.stringRef "LifeRents" (379 : Nat) "half") ∈ lw_tbl := lw_at lw_m8 21 rfl
theorem q1774 : (Jvm.Cond.stringRef "LifeRents" (381 : Nat) "joint") ∈ lw_tbl := lw_at lw_m8 22 rfl
theorem q1775 : (Jvm.Cond.stringRef "LifeRents" (383 : Nat) "single") ∈ lw_tbl := lw_at lw_m8 23 rfl
theorem q1776 : (Jvm.Cond.stringRef "LifeRents" (385 : Nat) "to") ∈ lw_tbl := lw_at lw_m8 24 rfl
theorem q1777 : (Jvm.Cond.stringRef "LifeRents" (387 : Nat) "or") ∈ lw_tbl := lw_at lw_m8 25 rfl
theorem in_X1 : ∀ w ∈ wsX10, w ∈ lw_all := lw_in wsX10 [342, 344, 346, 348, 350, 352, 354, 356, 358, 360, 362, 364, 366, 368, 370, 372, 374, 376, 378] (by decide +kernel) (by decide +kernel)
