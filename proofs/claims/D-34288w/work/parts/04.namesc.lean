/-! CatalogueLoaderModel -/
set_option maxRecDepth 100000
def RX3 : String := "CatalogueLoaderModel"
def TX3 : u_T := fun k => match k with
  | 0 => ("CatalogueLoaderModel", "ranks", "[I", true)
  | 1 => ("CatalogueLoaderModel", "rules", "[I", true)
  | 2 => ("CatalogueLoaderModel", "order", "[I", true)
  | 3 => ("CatalogueLoaderModel", "draftKeys", "[I", true)
  | 4 => ("CatalogueLoaderModel", "draftFields", "[I", true)
  | 5 => ("CatalogueLoaderModel", "batchMany", "I", false)
  | 6 => ("CatalogueLoaderModel", "isOut", "[Z", true)
  | 7 => ("CatalogueLoaderModel", "loadMany", "I", false)
  | 8 => ("CatalogueLoaderModel", "loadBatch", "[I", true)
  | 9 => ("CatalogueLoaderModel", "loadSource", "[I", true)
  | 10 => ("CatalogueLoaderModel", "loadKeys", "[I", true)
  | 11 => ("CatalogueLoaderModel", "loadFields", "[I", true)
  | 12 => ("CatalogueLoaderModel", "hits", "[I", true)
  | 13 => ("CatalogueLoaderModel", "actMany", "I", false)
  | 14 => ("CatalogueLoaderModel", "doneMany", "I", false)
  | 15 => ("CatalogueLoaderModel", "kinds", "[I", true)
  | 16 => ("CatalogueLoaderModel", "ones", "[I", true)
  | 17 => ("CatalogueLoaderModel", "others", "[I", true)
  | 18 => ("CatalogueLoaderModel", "isIn", "[Z", true)
  | 19 => ("CatalogueLoaderModel", "keys", "[I", true)
  | 20 => ("CatalogueLoaderModel", "fields", "[I", true)
  | 21 => ("CatalogueLoaderModel", "sources", "[I", true)
  | 22 => ("CatalogueLoaderModel", "isKept", "[Z", true)
  | 23 => ("CatalogueLoaderModel", "held", "[I", true)
  | _ => ("CatalogueLoaderModel", "thrown", "I", false)
def tyX3 : Nat → FieldType := fun k => match k with
  | 0 => .array .int
  | 1 => .array .int
  | 2 => .array .int
  | 3 => .array .int
  | 4 => .array .int
  | 5 => .int
  | 6 => .array .boolean
  | 7 => .int
  | 8 => .array .int
  | 9 => .array .int
  | 10 => .array .int
  | 11 => .array .int
  | 12 => .array .int
  | 13 => .int
  | 14 => .int
  | 15 => .array .int
  | 16 => .array .int
  | 17 => .array .int
  | 18 => .array .boolean
  | 19 => .array .int
  | 20 => .array .int
  | 21 => .array .int
  | 22 => .array .boolean
  | 23 => .array .int
  | _ => .int
abbrev wsX30 : List Cond := u_ws RX3 TX3 25
set_option maxRecDepth 100000 in
theorem nmX3 : ∀ a, a < 25 → ∀ b, b < 25 → a ≠ b → (TX3 a).2.1 ≠ (TX3 b).2.1 := by decide +kernel
set_option maxRecDepth 100000 in
theorem tyX3_ok : ∀ k, k < 25 → parseFieldDescriptor (TX3 k).2.2.1 = some (tyX3 k) := by decide +kernel
abbrev cX3_init : ByteArray := prog_10_method_1_code
def yX3_init : MethodName := ⟨RX3, "<init>", "()V"⟩
def dkwX3_init_9 : List UInt8 := [60, 27, 6, 162, 0, 16, 42, 180, 0, 16, 27, 27, 79, 132, 1, 1, 167, 255, 241, 42, 182, 0, 71, 177]
abbrev dktX3_init_9 : List UInt8 := dkwX3_init_9 ++ []
def dkwX3_init_8 : List UInt8 := [167, 255, 241, 3, 60, 27, 7, 162, 0, 16, 42, 180, 0, 13, 27, 4, 79, 132, 1, 1, 167, 255, 241, 3]
abbrev dktX3_init_8 : List UInt8 := dkwX3_init_8 ++ dktX3_init_9
def dkwX3_init_7 : List UInt8 := [16, 80, 188, 10, 181, 0, 68, 3, 60, 27, 8, 162, 0, 16, 42, 180, 0, 7, 27, 27, 79, 132, 1, 1]
abbrev dktX3_init_7 : List UInt8 := dkwX3_init_7 ++ dktX3_init_8
def dkwX3_init_6 : List UInt8 := [188, 10, 181, 0, 59, 42, 17, 1, 64, 188, 10, 181, 0, 62, 42, 17, 1, 64, 188, 4, 181, 0, 65, 42]
abbrev dktX3_init_6 : List UInt8 := dkwX3_init_6 ++ dktX3_init_7
def dkwX3_init_5 : List UInt8 := [181, 0, 50, 42, 16, 80, 188, 4, 181, 0, 53, 42, 17, 0, 240, 188, 10, 181, 0, 56, 42, 17, 1, 64]
abbrev dktX3_init_5 : List UInt8 := dkwX3_init_5 ++ dktX3_init_6
def dkwX3_init_4 : List UInt8 := [17, 0, 180, 188, 10, 181, 0, 44, 42, 17, 0, 180, 188, 10, 181, 0, 47, 42, 17, 0, 180, 188, 10]
abbrev dktX3_init_4 : List UInt8 := dkwX3_init_4 ++ dktX3_init_5
def dkwX3_init_3 : List UInt8 := [188, 10, 181, 0, 35, 42, 17, 1, 64, 188, 10, 181, 0, 38, 42, 16, 80, 188, 10, 181, 0, 41, 42]
abbrev dktX3_init_3 : List UInt8 := dkwX3_init_3 ++ dktX3_init_4
def dkwX3_init_2 : List UInt8 := [181, 0, 25, 42, 16, 80, 188, 10, 181, 0, 29, 42, 16, 80, 188, 10, 181, 0, 32, 42, 17, 0, 240]
abbrev dktX3_init_2 : List UInt8 := dkwX3_init_2 ++ dktX3_init_3
def dkwX3_init_1 : List UInt8 := [181, 0, 16, 42, 6, 188, 10, 181, 0, 19, 42, 7, 188, 10, 181, 0, 22, 42, 16, 10, 188, 4]
abbrev dktX3_init_1 : List UInt8 := dkwX3_init_1 ++ dktX3_init_2
def dkwX3_init_0 : List UInt8 := [42, 183, 0, 1, 42, 8, 188, 10, 181, 0, 7, 42, 7, 188, 10, 181, 0, 13, 42, 6, 188, 10]
abbrev dktX3_init_0 : List UInt8 := dkwX3_init_0 ++ dktX3_init_1
theorem dksX3_init_0 : cX3_init.data.toList.drop 0 = dktX3_init_0 := by decide +kernel
theorem dksX3_init_1 : cX3_init.data.toList.drop 22 = dktX3_init_1 := dk_seg dksX3_init_0 22 rfl rfl
theorem dksX3_init_2 : cX3_init.data.toList.drop 44 = dktX3_init_2 := dk_seg dksX3_init_1 22 rfl rfl
theorem dksX3_init_3 : cX3_init.data.toList.drop 67 = dktX3_init_3 := dk_seg dksX3_init_2 23 rfl rfl
theorem dksX3_init_4 : cX3_init.data.toList.drop 90 = dktX3_init_4 := dk_seg dksX3_init_3 23 rfl rfl
theorem dksX3_init_5 : cX3_init.data.toList.drop 113 = dktX3_init_5 := dk_seg dksX3_init_4 23 rfl rfl
theorem dksX3_init_6 : cX3_init.data.toList.drop 137 = dktX3_init_6 := dk_seg dksX3_init_5 24 rfl rfl
theorem dksX3_init_7 : cX3_init.data.toList.drop 161 = dktX3_init_7 := dk_seg dksX3_init_6 24 rfl rfl
theorem dksX3_init_8 : cX3_init.data.toList.drop 185 = dktX3_init_8 := dk_seg dksX3_init_7 24 rfl rfl
theorem dksX3_init_9 : cX3_init.data.toList.drop 209 = dktX3_init_9 := dk_seg dksX3_init_8 24 rfl rfl
theorem dX3_init_0 : decode cX3_init 0 = .ok (.aload_n 0, 1) := dk_42 (dk_at dksX3_init_0 0 rfl rfl)
theorem dX3_init_1 : decode cX3_init 1 = .ok (.invokespecial 1, 3) := dk_183 0 1 (dk_at dksX3_init_0 1 rfl rfl)
theorem dX3_init_4 : decode cX3_init 4 = .ok (.aload_n 0, 1) := dk_42 (dk_at dksX3_init_0 4 rfl rfl)
theorem dX3_init_5 : decode cX3_init 5 = .ok (.iconst 5, 1) := dk_8 (dk_at dksX3_init_0 5 rfl rfl)
theorem dX3_init_6 : decode cX3_init 6 = .ok (.newarray .int, 2) := dk_188_10 (dk_at dksX3_init_0 6 rfl rfl)
theorem dX3_init_8 : decode cX3_init 8 = .ok (.putfield 7, 3) := dk_181 0 7 (dk_at dksX3_init_0 8 rfl rfl)
theorem dX3_init_11 : decode cX3_init 11 = .ok (.aload_n 0, 1) := dk_42 (dk_at dksX3_init_0 11 rfl rfl)
theorem dX3_init_12 : decode cX3_init 12 = .ok (.iconst 4, 1) := dk_7 (dk_at dksX3_init_0 12 rfl rfl)
theorem dX3_init_13 : decode cX3_init 13 = .ok (.newarray .int, 2) := dk_188_10 (dk_at dksX3_init_0 13 rfl rfl)
theorem dX3_init_15 : decode cX3_init 15 = .ok (.putfield 13, 3) := dk_181 0 13 (dk_at dksX3_init_0 15 rfl rfl)
theorem dX3_init_18 : decode cX3_init 18 = .ok (.aload_n 0, 1) := dk_42 (dk_at dksX3_init_0 18 rfl rfl)
theorem dX3_init_19 : decode cX3_init 19 = .ok (.iconst 3, 1) := dk_6 (dk_at dksX3_init_0 19 rfl rfl)
theorem dX3_init_20 : decode cX3_init 20 = .ok (.newarray .int, 2) := dk_188_10 (dk_at dksX3_init_0 20 rfl rfl)
theorem dX3_init_22 : decode cX3_init 22 = .ok (.putfield 16, 3) := dk_181 0 16 (dk_at dksX3_init_1 0 rfl rfl)
theorem dX3_init_25 : decode cX3_init 25 = .ok (.aload_n 0, 1) := dk_42 (dk_at dksX3_init_1 3 rfl rfl)
theorem dX3_init_26 : decode cX3_init 26 = .ok (.iconst 3, 1) := dk_6 (dk_at dksX3_init_1 4 rfl rfl)
theorem dX3_init_27 : decode cX3_init 27 = .ok (.newarray .int, 2) := dk_188_10 (dk_at dksX3_init_1 5 rfl rfl)
theorem dX3_init_29 : decode cX3_init 29 = .ok (.putfield 19, 3) := dk_181 0 19 (dk_at dksX3_init_1 7 rfl rfl)
theorem dX3_init_32 : decode cX3_init 32 = .ok (.aload_n 0, 1) := dk_42 (dk_at dksX3_init_1 10 rfl rfl)
theorem dX3_init_33 : decode cX3_init 33 = .ok (.iconst 4, 1) := dk_7 (dk_at dksX3_init_1 11 rfl rfl)
theorem dX3_init_34 : decode cX3_init 34 = .ok (.newarray .int, 2) := dk_188_10 (dk_at dksX3_init_1 12 rfl rfl)
theorem dX3_init_36 : decode cX3_init 36 = .ok (.putfield 22, 3) := dk_181 0 22 (dk_at dksX3_init_1 14 rfl rfl)
theorem dX3_init_39 : decode cX3_init 39 = .ok (.aload_n 0, 1) := dk_42 (dk_at dksX3_init_1 17 rfl rfl)
theorem dX3_init_40 : decode cX3_init 40 = .ok (.bipush 10, 2) := dk_16 10 (dk_at dksX3_init_1 18 rfl rfl)
theorem dX3_init_42 : decode cX3_init 42 = .ok (.newarray .boolean, 2) := dk_188_4 (dk_at dksX3_init_1 20 rfl rfl)
theorem dX3_init_44 : decode cX3_init 44 = .ok (.putfield 25, 3) := dk_181 0 25 (dk_at dksX3_init_2 0 rfl rfl)
theorem dX3_init_47 : decode cX3_init 47 = .ok (.aload_n 0, 1) := dk_42 (dk_at dksX3_init_2 3 rfl rfl)
theorem dX3_init_48 : decode cX3_init 48 = .ok (.bipush 80, 2) := dk_16 80 (dk_at dksX3_init_2 4 rfl rfl)
theorem dX3_init_50 : decode cX3_init 50 = .ok (.newarray .int, 2) := dk_188_10 (dk_at dksX3_init_2 6 rfl rfl)
theorem dX3_init_52 : decode cX3_init 52 = .ok (.putfield 29, 3) := dk_181 0 29 (dk_at dksX3_init_2 8 rfl rfl)
theorem dX3_init_55 : decode cX3_init 55 = .ok (.aload_n 0, 1) := dk_42 (dk_at dksX3_init_2 11 rfl rfl)
theorem dX3_init_56 : decode cX3_init 56 = .ok (.bipush 80, 2) := dk_16 80 (dk_at dksX3_init_2 12 rfl rfl)
theorem dX3_init_58 : decode cX3_init 58 = .ok (.newarray .int, 2) := dk_188_10 (dk_at dksX3_init_2 14 rfl rfl)
theorem dX3_init_60 : decode cX3_init 60 = .ok (.putfield 32, 3) := dk_181 0 32 (dk_at dksX3_init_2 16 rfl rfl)
theorem dX3_init_63 : decode cX3_init 63 = .ok (.aload_n 0, 1) := dk_42 (dk_at dksX3_init_2 19 rfl rfl)
theorem dX3_init_64 : decode cX3_init 64 = .ok (.sipush 240, 3) := dk_17 0 240 (dk_at dksX3_init_2 20 rfl rfl)
theorem dX3_init_67 : decode cX3_init 67 = .ok (.newarray .int, 2) := dk_188_10 (dk_at dksX3_init_3 0 rfl rfl)
theorem dX3_init_69 : decode cX3_init 69 = .ok (.putfield 35, 3) := dk_181 0 35 (dk_at dksX3_init_3 2 rfl rfl)
theorem dX3_init_72 : decode cX3_init 72 = .ok (.aload_n 0, 1) := dk_42 (dk_at dksX3_init_3 5 rfl rfl)
theorem dX3_init_73 : decode cX3_init 73 = .ok (.sipush 320, 3) := dk_17 1 64 (dk_at dksX3_init_3 6 rfl rfl)
theorem dX3_init_76 : decode cX3_init 76 = .ok (.newarray .int, 2) := dk_188_10 (dk_at dksX3_init_3 9 rfl rfl)
theorem dX3_init_78 : decode cX3_init 78 = .ok (.putfield 38, 3) := dk_181 0 38 (dk_at dksX3_init_3 11 rfl rfl)
theorem dX3_init_81 : decode cX3_init 81 = .ok (.aload_n 0, 1) := dk_42 (dk_at dksX3_init_3 14 rfl rfl)
theorem dX3_init_82 : decode cX3_init 82 = .ok (.bipush 80, 2) := dk_16 80 (dk_at dksX3_init_3 15 rfl rfl)
theorem dX3_init_84 : decode cX3_init 84 = .ok (.newarray .int, 2) := dk_188_10 (dk_at dksX3_init_3 17 rfl rfl)
theorem dX3_init_86 : decode cX3_init 86 = .ok (.putfield 41, 3) := dk_181 0 41 (dk_at dksX3_init_3 19 rfl rfl)
theorem dX3_init_89 : decode cX3_init 89 = .ok (.aload_n 0, 1) := dk_42 (dk_at dksX3_init_3 22 rfl rfl)
theorem dX3_init_90 : decode cX3_init 90 = .ok (.sipush 180, 3) := dk_17 0 180 (dk_at dksX3_init_4 0 rfl rfl)
theorem dX3_init_93 : decode cX3_init 93 = .ok (.newarray .int, 2) := dk_188_10 (dk_at dksX3_init_4 3 rfl rfl)
theorem dX3_init_95 : decode cX3_init 95 = .ok (.putfield 44, 3) := dk_181 0 44 (dk_at dksX3_init_4 5 rfl rfl)
theorem dX3_init_98 : decode cX3_init 98 = .ok (.aload_n 0, 1) := dk_42 (dk_at dksX3_init_4 8 rfl rfl)
theorem dX3_init_99 : decode cX3_init 99 = .ok (.sipush 180, 3) := dk_17 0 180 (dk_at dksX3_init_4 9 rfl rfl)
theorem dX3_init_102 : decode cX3_init 102 = .ok (.newarray .int, 2) := dk_188_10 (dk_at dksX3_init_4 12 rfl rfl)
theorem dX3_init_104 : decode cX3_init 104 = .ok (.putfield 47, 3) := dk_181 0 47 (dk_at dksX3_init_4 14 rfl rfl)
theorem dX3_init_107 : decode cX3_init 107 = .ok (.aload_n 0, 1) := dk_42 (dk_at dksX3_init_4 17 rfl rfl)
theorem dX3_init_108 : decode cX3_init 108 = .ok (.sipush 180, 3) := dk_17 0 180 (dk_at dksX3_init_4 18 rfl rfl)
theorem dX3_init_111 : decode cX3_init 111 = .ok (.newarray .int, 2) := dk_188_10 (dk_at dksX3_init_4 21 rfl rfl)
theorem dX3_init_113 : decode cX3_init 113 = .ok (.putfield 50, 3) := dk_181 0 50 (dk_at dksX3_init_5 0 rfl rfl)
theorem dX3_init_116 : decode cX3_init 116 = .ok (.aload_n 0, 1) := dk_42 (dk_at dksX3_init_5 3 rfl rfl)
theorem dX3_init_117 : decode cX3_init 117 = .ok (.bipush 80, 2) := dk_16 80 (dk_at dksX3_init_5 4 rfl rfl)
theorem dX3_init_119 : decode cX3_init 119 = .ok (.newarray .boolean, 2) := dk_188_4 (dk_at dksX3_init_5 6 rfl rfl)
theorem dX3_init_121 : decode cX3_init 121 = .ok (.putfield 53, 3) := dk_181 0 53 (dk_at dksX3_init_5 8 rfl rfl)
theorem dX3_init_124 : decode cX3_init 124 = .ok (.aload_n 0, 1) := dk_42 (dk_at dksX3_init_5 11 rfl rfl)
theorem dX3_init_125 : decode cX3_init 125 = .ok (.sipush 240, 3) := dk_17 0 240 (dk_at dksX3_init_5 12 rfl rfl)
theorem dX3_init_128 : decode cX3_init 128 = .ok (.newarray .int, 2) := dk_188_10 (dk_at dksX3_init_5 15 rfl rfl)
theorem dX3_init_130 : decode cX3_init 130 = .ok (.putfield 56, 3) := dk_181 0 56 (dk_at dksX3_init_5 17 rfl rfl)
theorem dX3_init_133 : decode cX3_init 133 = .ok (.aload_n 0, 1) := dk_42 (dk_at dksX3_init_5 20 rfl rfl)
theorem dX3_init_134 : decode cX3_init 134 = .ok (.sipush 320, 3) := dk_17 1 64 (dk_at dksX3_init_5 21 rfl rfl)
theorem dX3_init_137 : decode cX3_init 137 = .ok (.newarray .int, 2) := dk_188_10 (dk_at dksX3_init_6 0 rfl rfl)
theorem dX3_init_139 : decode cX3_init 139 = .ok (.putfield 59, 3) := dk_181 0 59 (dk_at dksX3_init_6 2 rfl rfl)
theorem dX3_init_142 : decode cX3_init 142 = .ok (.aload_n 0, 1) := dk_42 (dk_at dksX3_init_6 5 rfl rfl)
theorem dX3_init_143 : decode cX3_init 143 = .ok (.sipush 320, 3) := dk_17 1 64 (dk_at dksX3_init_6 6 rfl rfl)
theorem dX3_init_146 : decode cX3_init 146 = .ok (.newarray .int, 2) := dk_188_10 (dk_at dksX3_init_6 9 rfl rfl)
theorem dX3_init_148 : decode cX3_init 148 = .ok (.putfield 62, 3) := dk_181 0 62 (dk_at dksX3_init_6 11 rfl rfl)
theorem dX3_init_151 : decode cX3_init 151 = .ok (.aload_n 0, 1) := dk_42 (dk_at dksX3_init_6 14 rfl rfl)
theorem dX3_init_152 : decode cX3_init 152 = .ok (.sipush 320, 3) := dk_17 1 64 (dk_at dksX3_init_6 15 rfl rfl)
theorem dX3_init_155 : decode cX3_init 155 = .ok (.newarray .boolean, 2) := dk_188_4 (dk_at dksX3_init_6 18 rfl rfl)
theorem dX3_init_157 : decode cX3_init 157 = .ok (.putfield 65, 3) := dk_181 0 65 (dk_at dksX3_init_6 20 rfl rfl)
theorem dX3_init_160 : decode cX3_init 160 = .ok (.aload_n 0, 1) := dk_42 (dk_at dksX3_init_6 23 rfl rfl)
theorem dX3_init_161 : decode cX3_init 161 = .ok (.bipush 80, 2) := dk_16 80 (dk_at dksX3_init_7 0 rfl rfl)
theorem dX3_init_163 : decode cX3_init 163 = .ok (.newarray .int, 2) := dk_188_10 (dk_at dksX3_init_7 2 rfl rfl)
theorem dX3_init_165 : decode cX3_init 165 = .ok (.putfield 68, 3) := dk_181 0 68 (dk_at dksX3_init_7 4 rfl rfl)
theorem dX3_init_168 : decode cX3_init 168 = .ok (.iconst 0, 1) := dk_3 (dk_at dksX3_init_7 7 rfl rfl)
theorem dX3_init_169 : decode cX3_init 169 = .ok (.istore_n 1, 1) := dk_60 (dk_at dksX3_init_7 8 rfl rfl)
theorem dX3_init_170 : decode cX3_init 170 = .ok (.iload_n 1, 1) := dk_27 (dk_at dksX3_init_7 9 rfl rfl)
theorem dX3_init_171 : decode cX3_init 171 = .ok (.iconst 5, 1) := dk_8 (dk_at dksX3_init_7 10 rfl rfl)
theorem dX3_init_172 : decode cX3_init 172 = .ok (.if_icmp .ge 16, 3) := dk_162 0 16 (dk_at dksX3_init_7 11 rfl rfl)
theorem dX3_init_175 : decode cX3_init 175 = .ok (.aload_n 0, 1) := dk_42 (dk_at dksX3_init_7 14 rfl rfl)
theorem dX3_init_176 : decode cX3_init 176 = .ok (.getfield 7, 3) := dk_180 0 7 (dk_at dksX3_init_7 15 rfl rfl)
theorem dX3_init_179 : decode cX3_init 179 = .ok (.iload_n 1, 1) := dk_27 (dk_at dksX3_init_7 18 rfl rfl)
theorem dX3_init_180 : decode cX3_init 180 = .ok (.iload_n 1, 1) := dk_27 (dk_at dksX3_init_7 19 rfl rfl)
theorem dX3_init_181 : decode cX3_init 181 = .ok (.iastore, 1) := dk_79 (dk_at dksX3_init_7 20 rfl rfl)
theorem dX3_init_182 : decode cX3_init 182 = .ok (.iinc 1 1, 3) := dk_132 1 1 (dk_at dksX3_init_7 21 rfl rfl)
theorem dX3_init_185 : decode cX3_init 185 = .ok (.goto (-15), 3) := dk_167 255 241 (dk_at dksX3_init_8 0 rfl rfl)
theorem dX3_init_188 : decode cX3_init 188 = .ok (.iconst 0, 1) := dk_3 (dk_at dksX3_init_8 3 rfl rfl)
theorem dX3_init_189 : decode cX3_init 189 = .ok (.istore_n 1, 1) := dk_60 (dk_at dksX3_init_8 4 rfl rfl)
theorem dX3_init_190 : decode cX3_init 190 = .ok (.iload_n 1, 1) := dk_27 (dk_at dksX3_init_8 5 rfl rfl)
theorem dX3_init_191 : decode cX3_init 191 = .ok (.iconst 4, 1) := dk_7 (dk_at dksX3_init_8 6 rfl rfl)
theorem dX3_init_192 : decode cX3_init 192 = .ok (.if_icmp .ge 16, 3) := dk_162 0 16 (dk_at dksX3_init_8 7 rfl rfl)
theorem dX3_init_195 : decode cX3_init 195 = .ok (.aload_n 0, 1) := dk_42 (dk_at dksX3_init_8 10 rfl rfl)
theorem dX3_init_196 : decode cX3_init 196 = .ok (.getfield 13, 3) := dk_180 0 13 (dk_at dksX3_init_8 11 rfl rfl)
theorem dX3_init_199 : decode cX3_init 199 = .ok (.iload_n 1, 1) := dk_27 (dk_at dksX3_init_8 14 rfl rfl)
theorem dX3_init_200 : decode cX3_init 200 = .ok (.iconst 1, 1) := dk_4 (dk_at dksX3_init_8 15 rfl rfl)
theorem dX3_init_201 : decode cX3_init 201 = .ok (.iastore, 1) := dk_79 (dk_at dksX3_init_8 16 rfl rfl)
theorem dX3_init_202 : decode cX3_init 202 = .ok (.iinc 1 1, 3) := dk_132 1 1 (dk_at dksX3_init_8 17 rfl rfl)
theorem dX3_init_205 : decode cX3_init 205 = .ok (.goto (-15), 3) := dk_167 255 241 (dk_at dksX3_init_8 20 rfl rfl)
theorem dX3_init_208 : decode cX3_init 208 = .ok (.iconst 0, 1) := dk_3 (dk_at dksX3_init_8 23 rfl rfl)
theorem dX3_init_209 : decode cX3_init 209 = .ok (.istore_n 1, 1) := dk_60 (dk_at dksX3_init_9 0 rfl rfl)
theorem dX3_init_210 : decode cX3_init 210 = .ok (.iload_n 1, 1) := dk_27 (dk_at dksX3_init_9 1 rfl rfl)
theorem dX3_init_211 : decode cX3_init 211 = .ok (.iconst 3, 1) := dk_6 (dk_at dksX3_init_9 2 rfl rfl)
theorem dX3_init_212 : decode cX3_init 212 = .ok (.if_icmp .ge 16, 3) := dk_162 0 16 (dk_at dksX3_init_9 3 rfl rfl)
theorem dX3_init_215 : decode cX3_init 215 = .ok (.aload_n 0, 1) := dk_42 (dk_at dksX3_init_9 6 rfl rfl)
theorem dX3_init_216 : decode cX3_init 216 = .ok (.getfield 16, 3) := dk_180 0 16 (dk_at dksX3_init_9 7 rfl rfl)
theorem dX3_init_219 : decode cX3_init 219 = .ok (.iload_n 1, 1) := dk_27 (dk_at dksX3_init_9 10 rfl rfl)
theorem dX3_init_220 : decode cX3_init 220 = .ok (.iload_n 1, 1) := dk_27 (dk_at dksX3_init_9 11 rfl rfl)
theorem dX3_init_221 : decode cX3_init 221 = .ok (.iastore, 1) := dk_79 (dk_at dksX3_init_9 12 rfl rfl)
theorem dX3_init_222 : decode cX3_init 222 = .ok (.iinc 1 1, 3) := dk_132 1 1 (dk_at dksX3_init_9 13 rfl rfl)
theorem dX3_init_225 : decode cX3_init 225 = .ok (.goto (-15), 3) := dk_167 255 241 (dk_at dksX3_init_9 16 rfl rfl)
theorem dX3_init_228 : decode cX3_init 228 = .ok (.aload_n 0, 1) := dk_42 (dk_at dksX3_init_9 19 rfl rfl)
theorem dX3_init_229 : decode cX3_init 229 = .ok (.invokevirtual 71, 3) := dk_182 0 71 (dk_at dksX3_init_9 20 rfl rfl)
theorem dX3_init_232 : decode cX3_init 232 = .ok (.return_, 1) := dk_177 (dk_at dksX3_init_9 23 rfl rfl)
abbrev cX3_emptyDraft : ByteArray := prog_10_method_4_code
def yX3_emptyDraft : MethodName := ⟨RX3, "emptyDraft", "()V"⟩
def dkwX3_emptyDraft_1 : List UInt8 := [162, 0, 16, 42, 180, 0, 22, 27, 2, 79, 132, 1, 1, 167, 255, 241, 177]
abbrev dktX3_emptyDraft_1 : List UInt8 := dkwX3_emptyDraft_1 ++ []
def dkwX3_emptyDraft_0 : List UInt8 := [3, 60, 27, 6, 162, 0, 16, 42, 180, 0, 19, 27, 2, 79, 132, 1, 1, 167, 255, 241, 3, 60, 27, 7]
abbrev dktX3_emptyDraft_0 : List UInt8 := dkwX3_emptyDraft_0 ++ dktX3_emptyDraft_1
theorem dksX3_emptyDraft_0 : cX3_emptyDraft.data.toList.drop 0 = dktX3_emptyDraft_0 := by decide +kernel
theorem dksX3_emptyDraft_1 : cX3_emptyDraft.data.toList.drop 24 = dktX3_emptyDraft_1 := dk_seg dksX3_emptyDraft_0 24 rfl rfl
theorem dX3_emptyDraft_0 : decode cX3_emptyDraft 0 = .ok (.iconst 0, 1) := dk_3 (dk_at dksX3_emptyDraft_0 0 rfl rfl)
theorem dX3_emptyDraft_1 : decode cX3_emptyDraft 1 = .ok (.istore_n 1, 1) := dk_60 (dk_at dksX3_emptyDraft_0 1 rfl rfl)
theorem dX3_emptyDraft_2 : decode cX3_emptyDraft 2 = .ok (.iload_n 1, 1) := dk_27 (dk_at dksX3_emptyDraft_0 2 rfl rfl)
theorem dX3_emptyDraft_3 : decode cX3_emptyDraft 3 = .ok (.iconst 3, 1) := dk_6 (dk_at dksX3_emptyDraft_0 3 rfl rfl)
theorem dX3_emptyDraft_4 : decode cX3_emptyDraft 4 = .ok (.if_icmp .ge 16, 3) := dk_162 0 16 (dk_at dksX3_emptyDraft_0 4 rfl rfl)
theorem dX3_emptyDraft_7 : decode cX3_emptyDraft 7 = .ok (.aload_n 0, 1) := dk_42 (dk_at dksX3_emptyDraft_0 7 rfl rfl)
theorem dX3_emptyDraft_8 : decode cX3_emptyDraft 8 = .ok (.getfield 19, 3) := dk_180 0 19 (dk_at dksX3_emptyDraft_0 8 rfl rfl)
theorem dX3_emptyDraft_11 : decode cX3_emptyDraft 11 = .ok (.iload_n 1, 1) := dk_27 (dk_at dksX3_emptyDraft_0 11 rfl rfl)
theorem dX3_emptyDraft_12 : decode cX3_emptyDraft 12 = .ok (.iconst (-1), 1) := dk_2 (dk_at dksX3_emptyDraft_0 12 rfl rfl)
theorem dX3_emptyDraft_13 : decode cX3_emptyDraft 13 = .ok (.iastore, 1) := dk_79 (dk_at dksX3_emptyDraft_0 13 rfl rfl)
theorem dX3_emptyDraft_14 : decode cX3_emptyDraft 14 = .ok (.iinc 1 1, 3) := dk_132 1 1 (dk_at dksX3_emptyDraft_0 14 rfl rfl)
theorem dX3_emptyDraft_17 : decode cX3_emptyDraft 17 = .ok (.goto (-15), 3) := dk_167 255 241 (dk_at dksX3_emptyDraft_0 17 rfl rfl)
theorem dX3_emptyDraft_20 : decode cX3_emptyDraft 20 = .ok (.iconst 0, 1) := dk_3 (dk_at dksX3_emptyDraft_0 20 rfl rfl)
theorem dX3_emptyDraft_21 : decode cX3_emptyDraft 21 = .ok (.istore_n 1, 1) := dk_60 (dk_at dksX3_emptyDraft_0 21 rfl rfl)
theorem dX3_emptyDraft_22 : decode cX3_emptyDraft 22 = .ok (.iload_n 1, 1) := dk_27 (dk_at dksX3_emptyDraft_0 22 rfl rfl)
theorem dX3_emptyDraft_23 : decode cX3_emptyDraft 23 = .ok (.iconst 4, 1) := dk_7 (dk_at dksX3_emptyDraft_0 23 rfl rfl)
theorem dX3_emptyDraft_24 : decode cX3_emptyDraft 24 = .ok (.if_icmp .ge 16, 3) := dk_162 0 16 (dk_at dksX3_emptyDraft_1 0 rfl rfl)
theorem dX3_emptyDraft_27 : decode cX3_emptyDraft 27 = .ok (.aload_n 0, 1) := dk_42 (dk_at dksX3_emptyDraft_1 3 rfl rfl)
theorem dX3_emptyDraft_28 : decode cX3_emptyDraft 28 = .ok (.getfield 22, 3) := dk_180 0 22 (dk_at dksX3_emptyDraft_1 4 rfl rfl)
theorem dX3_emptyDraft_31 : decode cX3_emptyDraft 31 = .ok (.iload_n 1, 1) := dk_27 (dk_at dksX3_emptyDraft_1 7 rfl rfl)
theorem dX3_emptyDraft_32 : decode cX3_emptyDraft 32 = .ok (.iconst (-1), 1) := dk_2 (dk_at dksX3_emptyDraft_1 8 rfl rfl)
theorem dX3_emptyDraft_33 : decode cX3_emptyDraft 33 = .ok (.iastore, 1) := dk_79 (dk_at dksX3_emptyDraft_1 9 rfl rfl)
theorem dX3_emptyDraft_34 : decode cX3_emptyDraft 34 = .ok (.iinc 1 1, 3) := dk_132 1 1 (dk_at dksX3_emptyDraft_1 10 rfl rfl)
theorem dX3_emptyDraft_37 : decode cX3_emptyDraft 37 = .ok (.goto (-15), 3) := dk_167 255 241 (dk_at dksX3_emptyDraft_1 13 rfl rfl)
theorem dX3_emptyDraft_40 : decode cX3_emptyDraft 40 = .ok (.return_, 1) := dk_177 (dk_at dksX3_emptyDraft_1 16 rfl rfl)
abbrev cX3_thrown : ByteArray := prog_10_method_2_code
def yX3_thrown : MethodName := ⟨RX3, "thrown", "()I"⟩
theorem dX3_thrown_0 : decode cX3_thrown 0 = .ok (.aload_n 0, 1) := by decide +kernel
theorem dX3_thrown_1 : decode cX3_thrown 1 = .ok (.getfield 74, 3) := by decide +kernel
theorem dX3_thrown_4 : decode cX3_thrown 4 = .ok (.ireturn, 1) := by decide +kernel
abbrev cX3_setRank : ByteArray := prog_10_method_5_code
def yX3_setRank : MethodName := ⟨RX3, "setRank", "(II)I"⟩
def dkwX3_setRank_2 : List UInt8 := [158, 0, 5, 3, 172, 42, 180, 0, 7, 27, 46, 62, 42, 180, 0, 7, 27, 28, 79, 29, 172]
abbrev dktX3_setRank_2 : List UInt8 := dkwX3_setRank_2 ++ []
def dkwX3_setRank_1 : List UInt8 := [5, 167, 0, 15, 42, 180, 0, 82, 158, 0, 7, 6, 167, 0, 4, 3, 181, 0, 74, 42, 180, 0, 74]
abbrev dktX3_setRank_1 : List UInt8 := dkwX3_setRank_1 ++ dktX3_setRank_2
def dkwX3_setRank_0 : List UInt8 := [42, 27, 3, 7, 184, 0, 78, 154, 0, 7, 4, 167, 0, 29, 28, 3, 16, 9, 184, 0, 78, 154, 0, 7]
abbrev dktX3_setRank_0 : List UInt8 := dkwX3_setRank_0 ++ dktX3_setRank_1
theorem dksX3_setRank_0 : cX3_setRank.data.toList.drop 0 = dktX3_setRank_0 := by decide +kernel
theorem dksX3_setRank_1 : cX3_setRank.data.toList.drop 24 = dktX3_setRank_1 := dk_seg dksX3_setRank_0 24 rfl rfl
theorem dksX3_setRank_2 : cX3_setRank.data.toList.drop 47 = dktX3_setRank_2 := dk_seg dksX3_setRank_1 23 rfl rfl
theorem dX3_setRank_0 : decode cX3_setRank 0 = .ok (.aload_n 0, 1) := dk_42 (dk_at dksX3_setRank_0 0 rfl rfl)
theorem dX3_setRank_1 : decode cX3_setRank 1 = .ok (.iload_n 1, 1) := dk_27 (dk_at dksX3_setRank_0 1 rfl rfl)
theorem dX3_setRank_2 : decode cX3_setRank 2 = .ok (.iconst 0, 1) := dk_3 (dk_at dksX3_setRank_0 2 rfl rfl)
theorem dX3_setRank_3 : decode cX3_setRank 3 = .ok (.iconst 4, 1) := dk_7 (dk_at dksX3_setRank_0 3 rfl rfl)
theorem dX3_setRank_4 : decode cX3_setRank 4 = .ok (.invokestatic 78, 3) := dk_184 0 78 (dk_at dksX3_setRank_0 4 rfl rfl)
theorem dX3_setRank_7 : decode cX3_setRank 7 = .ok (.ifCond .ne 7, 3) := dk_154 0 7 (dk_at dksX3_setRank_0 7 rfl rfl)
theorem dX3_setRank_10 : decode cX3_setRank 10 = .ok (.iconst 1, 1) := dk_4 (dk_at dksX3_setRank_0 10 rfl rfl)
theorem dX3_setRank_11 : decode cX3_setRank 11 = .ok (.goto 29, 3) := dk_167 0 29 (dk_at dksX3_setRank_0 11 rfl rfl)
theorem dX3_setRank_14 : decode cX3_setRank 14 = .ok (.iload_n 2, 1) := dk_28 (dk_at dksX3_setRank_0 14 rfl rfl)
theorem dX3_setRank_15 : decode cX3_setRank 15 = .ok (.iconst 0, 1) := dk_3 (dk_at dksX3_setRank_0 15 rfl rfl)
theorem dX3_setRank_16 : decode cX3_setRank 16 = .ok (.bipush 9, 2) := dk_16 9 (dk_at dksX3_setRank_0 16 rfl rfl)
theorem dX3_setRank_18 : decode cX3_setRank 18 = .ok (.invokestatic 78, 3) := dk_184 0 78 (dk_at dksX3_setRank_0 18 rfl rfl)
theorem dX3_setRank_21 : decode cX3_setRank 21 = .ok (.ifCond .ne 7, 3) := dk_154 0 7 (dk_at dksX3_setRank_0 21 rfl rfl)
theorem dX3_setRank_24 : decode cX3_setRank 24 = .ok (.iconst 2, 1) := dk_5 (dk_at dksX3_setRank_1 0 rfl rfl)
theorem dX3_setRank_25 : decode cX3_setRank 25 = .ok (.goto 15, 3) := dk_167 0 15 (dk_at dksX3_setRank_1 1 rfl rfl)
theorem dX3_setRank_28 : decode cX3_setRank 28 = .ok (.aload_n 0, 1) := dk_42 (dk_at dksX3_setRank_1 4 rfl rfl)
theorem dX3_setRank_29 : decode cX3_setRank 29 = .ok (.getfield 82, 3) := dk_180 0 82 (dk_at dksX3_setRank_1 5 rfl rfl)
theorem dX3_setRank_32 : decode cX3_setRank 32 = .ok (.ifCond .le 7, 3) := dk_158 0 7 (dk_at dksX3_setRank_1 8 rfl rfl)
theorem dX3_setRank_35 : decode cX3_setRank 35 = .ok (.iconst 3, 1) := dk_6 (dk_at dksX3_setRank_1 11 rfl rfl)
theorem dX3_setRank_36 : decode cX3_setRank 36 = .ok (.goto 4, 3) := dk_167 0 4 (dk_at dksX3_setRank_1 12 rfl rfl)
theorem dX3_setRank_39 : decode cX3_setRank 39 = .ok (.iconst 0, 1) := dk_3 (dk_at dksX3_setRank_1 15 rfl rfl)
theorem dX3_setRank_40 : decode cX3_setRank 40 = .ok (.putfield 74, 3) := dk_181 0 74 (dk_at dksX3_setRank_1 16 rfl rfl)
theorem dX3_setRank_43 : decode cX3_setRank 43 = .ok (.aload_n 0, 1) := dk_42 (dk_at dksX3_setRank_1 19 rfl rfl)
theorem dX3_setRank_44 : decode cX3_setRank 44 = .ok (.getfield 74, 3) := dk_180 0 74 (dk_at dksX3_setRank_1 20 rfl rfl)
theorem dX3_setRank_47 : decode cX3_setRank 47 = .ok (.ifCond .le 5, 3) := dk_158 0 5 (dk_at dksX3_setRank_2 0 rfl rfl)
theorem dX3_setRank_50 : decode cX3_setRank 50 = .ok (.iconst 0, 1) := dk_3 (dk_at dksX3_setRank_2 3 rfl rfl)
theorem dX3_setRank_51 : decode cX3_setRank 51 = .ok (.ireturn, 1) := dk_172 (dk_at dksX3_setRank_2 4 rfl rfl)
theorem dX3_setRank_52 : decode cX3_setRank 52 = .ok (.aload_n 0, 1) := dk_42 (dk_at dksX3_setRank_2 5 rfl rfl)
theorem dX3_setRank_53 : decode cX3_setRank 53 = .ok (.getfield 7, 3) := dk_180 0 7 (dk_at dksX3_setRank_2 6 rfl rfl)
theorem dX3_setRank_56 : decode cX3_setRank 56 = .ok (.iload_n 1, 1) := dk_27 (dk_at dksX3_setRank_2 9 rfl rfl)
theorem dX3_setRank_57 : decode cX3_setRank 57 = .ok (.iaload, 1) := dk_46 (dk_at dksX3_setRank_2 10 rfl rfl)
theorem dX3_setRank_58 : decode cX3_setRank 58 = .ok (.istore_n 3, 1) := dk_62 (dk_at dksX3_setRank_2 11 rfl rfl)
theorem dX3_setRank_59 : decode cX3_setRank 59 = .ok (.aload_n 0, 1) := dk_42 (dk_at dksX3_setRank_2 12 rfl rfl)
theorem dX3_setRank_60 : decode cX3_setRank 60 = .ok (.getfield 7, 3) := dk_180 0 7 (dk_at dksX3_setRank_2 13 rfl rfl)
theorem dX3_setRank_63 : decode cX3_setRank 63 = .ok (.iload_n 1, 1) := dk_27 (dk_at dksX3_setRank_2 16 rfl rfl)
theorem dX3_setRank_64 : decode cX3_setRank 64 = .ok (.iload_n 2, 1) := dk_28 (dk_at dksX3_setRank_2 17 rfl rfl)
theorem dX3_setRank_65 : decode cX3_setRank 65 = .ok (.iastore, 1) := dk_79 (dk_at dksX3_setRank_2 18 rfl rfl)
theorem dX3_setRank_66 : decode cX3_setRank 66 = .ok (.iload_n 3, 1) := dk_29 (dk_at dksX3_setRank_2 19 rfl rfl)
theorem dX3_setRank_67 : decode cX3_setRank 67 = .ok (.ireturn, 1) := dk_172 (dk_at dksX3_setRank_2 20 rfl rfl)
abbrev cX3_in : ByteArray := prog_10_method_3_code
def yX3_in : MethodName := ⟨RX3, "in", "(III)Z"⟩
def dkwX3_in_0 : List UInt8 := [26, 27, 161, 0, 12, 26, 28, 163, 0, 7, 4, 167, 0, 4, 3, 172]
abbrev dktX3_in_0 : List UInt8 := dkwX3_in_0 ++ []
theorem dksX3_in_0 : cX3_in.data.toList.drop 0 = dktX3_in_0 := by decide +kernel
theorem dX3_in_0 : decode cX3_in 0 = .ok (.iload_n 0, 1) := dk_26 (dk_at dksX3_in_0 0 rfl rfl)
theorem dX3_in_1 : decode cX3_in 1 = .ok (.iload_n 1, 1) := dk_27 (dk_at dksX3_in_0 1 rfl rfl)
theorem dX3_in_2 : decode cX3_in 2 = .ok (.if_icmp .lt 12, 3) := dk_161 0 12 (dk_at dksX3_in_0 2 rfl rfl)
theorem dX3_in_5 : decode cX3_in 5 = .ok (.iload_n 0, 1) := dk_26 (dk_at dksX3_in_0 5 rfl rfl)
theorem dX3_in_6 : decode cX3_in 6 = .ok (.iload_n 2, 1) := dk_28 (dk_at dksX3_in_0 6 rfl rfl)
theorem dX3_in_7 : decode cX3_in 7 = .ok (.if_icmp .gt 7, 3) := dk_163 0 7 (dk_at dksX3_in_0 7 rfl rfl)
theorem dX3_in_10 : decode cX3_in 10 = .ok (.iconst 1, 1) := dk_4 (dk_at dksX3_in_0 10 rfl rfl)
theorem dX3_in_11 : decode cX3_in 11 = .ok (.goto 4, 3) := dk_167 0 4 (dk_at dksX3_in_0 11 rfl rfl)
theorem dX3_in_14 : decode cX3_in 14 = .ok (.iconst 0, 1) := dk_3 (dk_at dksX3_in_0 14 rfl rfl)
theorem dX3_in_15 : decode cX3_in 15 = .ok (.ireturn, 1) := dk_172 (dk_at dksX3_in_0 15 rfl rfl)
abbrev cX3_setRule : ByteArray := prog_10_method_6_code
def yX3_setRule : MethodName := ⟨RX3, "setRule", "(II)I"⟩
def dkwX3_setRule_2 : List UInt8 := [158, 0, 5, 3, 172, 42, 180, 0, 13, 27, 46, 62, 42, 180, 0, 13, 27, 28, 79, 29, 172]
abbrev dktX3_setRule_2 : List UInt8 := dkwX3_setRule_2 ++ []
def dkwX3_setRule_1 : List UInt8 := [167, 0, 15, 42, 180, 0, 82, 158, 0, 7, 6, 167, 0, 4, 3, 181, 0, 74, 42, 180, 0, 74]
abbrev dktX3_setRule_1 : List UInt8 := dkwX3_setRule_1 ++ dktX3_setRule_2
def dkwX3_setRule_0 : List UInt8 := [42, 27, 3, 6, 184, 0, 78, 154, 0, 7, 4, 167, 0, 28, 28, 3, 5, 184, 0, 78, 154, 0, 7, 5]
abbrev dktX3_setRule_0 : List UInt8 := dkwX3_setRule_0 ++ dktX3_setRule_1
theorem dksX3_setRule_0 : cX3_setRule.data.toList.drop 0 = dktX3_setRule_0 := by decide +kernel
theorem dksX3_setRule_1 : cX3_setRule.data.toList.drop 24 = dktX3_setRule_1 := dk_seg dksX3_setRule_0 24 rfl rfl
theorem dksX3_setRule_2 : cX3_setRule.data.toList.drop 46 = dktX3_setRule_2 := dk_seg dksX3_setRule_1 22 rfl rfl
theorem dX3_setRule_0 : decode cX3_setRule 0 = .ok (.aload_n 0, 1) := dk_42 (dk_at dksX3_setRule_0 0 rfl rfl)
theorem dX3_setRule_1 : decode cX3_setRule 1 = .ok (.iload_n 1, 1) := dk_27 (dk_at dksX3_setRule_0 1 rfl rfl)
theorem dX3_setRule_2 : decode cX3_setRule 2 = .ok (.iconst 0, 1) := dk_3 (dk_at dksX3_setRule_0 2 rfl rfl)
theorem dX3_setRule_3 : decode cX3_setRule 3 = .ok (.iconst 3, 1) := dk_6 (dk_at dksX3_setRule_0 3 rfl rfl)
theorem dX3_setRule_4 : decode cX3_setRule 4 = .ok (.invokestatic 78, 3) := dk_184 0 78 (dk_at dksX3_setRule_0 4 rfl rfl)
theorem dX3_setRule_7 : decode cX3_setRule 7 = .ok (.ifCond .ne 7, 3) := dk_154 0 7 (dk_at dksX3_setRule_0 7 rfl rfl)
theorem dX3_setRule_10 : decode cX3_setRule 10 = .ok (.iconst 1, 1) := dk_4 (dk_at dksX3_setRule_0 10 rfl rfl)
theorem dX3_setRule_11 : decode cX3_setRule 11 = .ok (.goto 28, 3) := dk_167 0 28 (dk_at dksX3_setRule_0 11 rfl rfl)
theorem dX3_setRule_14 : decode cX3_setRule 14 = .ok (.iload_n 2, 1) := dk_28 (dk_at dksX3_setRule_0 14 rfl rfl)
theorem dX3_setRule_15 : decode cX3_setRule 15 = .ok (.iconst 0, 1) := dk_3 (dk_at dksX3_setRule_0 15 rfl rfl)
theorem dX3_setRule_16 : decode cX3_setRule 16 = .ok (.iconst 2, 1) := dk_5 (dk_at dksX3_setRule_0 16 rfl rfl)
theorem dX3_setRule_17 : decode cX3_setRule 17 = .ok (.invokestatic 78, 3) := dk_184 0 78 (dk_at dksX3_setRule_0 17 rfl rfl)
theorem dX3_setRule_20 : decode cX3_setRule 20 = .ok (.ifCond .ne 7, 3) := dk_154 0 7 (dk_at dksX3_setRule_0 20 rfl rfl)
theorem dX3_setRule_23 : decode cX3_setRule 23 = .ok (.iconst 2, 1) := dk_5 (dk_at dksX3_setRule_0 23 rfl rfl)
theorem dX3_setRule_24 : decode cX3_setRule 24 = .ok (.goto 15, 3) := dk_167 0 15 (dk_at dksX3_setRule_1 0 rfl rfl)
theorem dX3_setRule_27 : decode cX3_setRule 27 = .ok (.aload_n 0, 1) := dk_42 (dk_at dksX3_setRule_1 3 rfl rfl)
theorem dX3_setRule_28 : decode cX3_setRule 28 = .ok (.getfield 82, 3) := dk_180 0 82 (dk_at dksX3_setRule_1 4 rfl rfl)
theorem dX3_setRule_31 : decode cX3_setRule 31 = .ok (.ifCond .le 7, 3) := dk_158 0 7 (dk_at dksX3_setRule_1 7 rfl rfl)
theorem dX3_setRule_34 : decode cX3_setRule 34 = .ok (.iconst 3, 1) := dk_6 (dk_at dksX3_setRule_1 10 rfl rfl)
theorem dX3_setRule_35 : decode cX3_setRule 35 = .ok (.goto 4, 3) := dk_167 0 4 (dk_at dksX3_setRule_1 11 rfl rfl)
theorem dX3_setRule_38 : decode cX3_setRule 38 = .ok (.iconst 0, 1) := dk_3 (dk_at dksX3_setRule_1 14 rfl rfl)
theorem dX3_setRule_39 : decode cX3_setRule 39 = .ok (.putfield 74, 3) := dk_181 0 74 (dk_at dksX3_setRule_1 15 rfl rfl)
theorem dX3_setRule_42 : decode cX3_setRule 42 = .ok (.aload_n 0, 1) := dk_42 (dk_at dksX3_setRule_1 18 rfl rfl)
theorem dX3_setRule_43 : decode cX3_setRule 43 = .ok (.getfield 74, 3) := dk_180 0 74 (dk_at dksX3_setRule_1 19 rfl rfl)
theorem dX3_setRule_46 : decode cX3_setRule 46 = .ok (.ifCond .le 5, 3) := dk_158 0 5 (dk_at dksX3_setRule_2 0 rfl rfl)
theorem dX3_setRule_49 : decode cX3_setRule 49 = .ok (.iconst 0, 1) := dk_3 (dk_at dksX3_setRule_2 3 rfl rfl)
theorem dX3_setRule_50 : decode cX3_setRule 50 = .ok (.ireturn, 1) := dk_172 (dk_at dksX3_setRule_2 4 rfl rfl)
theorem dX3_setRule_51 : decode cX3_setRule 51 = .ok (.aload_n 0, 1) := dk_42 (dk_at dksX3_setRule_2 5 rfl rfl)
theorem dX3_setRule_52 : decode cX3_setRule 52 = .ok (.getfield 13, 3) := dk_180 0 13 (dk_at dksX3_setRule_2 6 rfl rfl)
theorem dX3_setRule_55 : decode cX3_setRule 55 = .ok (.iload_n 1, 1) := dk_27 (dk_at dksX3_setRule_2 9 rfl rfl)
theorem dX3_setRule_56 : decode cX3_setRule 56 = .ok (.iaload, 1) := dk_46 (dk_at dksX3_setRule_2 10 rfl rfl)
theorem dX3_setRule_57 : decode cX3_setRule 57 = .ok (.istore_n 3, 1) := dk_62 (dk_at dksX3_setRule_2 11 rfl rfl)
theorem dX3_setRule_58 : decode cX3_setRule 58 = .ok (.aload_n 0, 1) := dk_42 (dk_at dksX3_setRule_2 12 rfl rfl)
theorem dX3_setRule_59 : decode cX3_setRule 59 = .ok (.getfield 13, 3) := dk_180 0 13 (dk_at dksX3_setRule_2 13 rfl rfl)
theorem dX3_setRule_62 : decode cX3_setRule 62 = .ok (.iload_n 1, 1) := dk_27 (dk_at dksX3_setRule_2 16 rfl rfl)
theorem dX3_setRule_63 : decode cX3_setRule 63 = .ok (.iload_n 2, 1) := dk_28 (dk_at dksX3_setRule_2 17 rfl rfl)
theorem dX3_setRule_64 : decode cX3_setRule 64 = .ok (.iastore, 1) := dk_79 (dk_at dksX3_setRule_2 18 rfl rfl)
theorem dX3_setRule_65 : decode cX3_setRule 65 = .ok (.iload_n 3, 1) := dk_29 (dk_at dksX3_setRule_2 19 rfl rfl)
theorem dX3_setRule_66 : decode cX3_setRule 66 = .ok (.ireturn, 1) := dk_172 (dk_at dksX3_setRule_2 20 rfl rfl)
abbrev cX3_setOrder : ByteArray := prog_10_method_7_code
def yX3_setOrder : MethodName := ⟨RX3, "setOrder", "(III)V"⟩
def dkwX3_setOrder_4 : List UInt8 := [42, 180, 0, 16, 5, 29, 79, 177]
abbrev dktX3_setOrder_4 : List UInt8 := dkwX3_setOrder_4 ++ []
def dkwX3_setOrder_3 : List UInt8 := [181, 0, 74, 42, 180, 0, 74, 154, 0, 24, 42, 180, 0, 16, 3, 27, 79, 42, 180, 0, 16, 4, 28, 79]
abbrev dktX3_setOrder_3 : List UInt8 := dkwX3_setOrder_3 ++ dktX3_setOrder_4
def dkwX3_setOrder_2 : List UInt8 := [54, 4, 42, 21, 4, 154, 0, 7, 4, 167, 0, 15, 42, 180, 0, 82, 158, 0, 7, 5, 167, 0, 4, 3]
abbrev dktX3_setOrder_2 : List UInt8 := dkwX3_setOrder_2 ++ dktX3_setOrder_3
def dkwX3_setOrder_1 : List UInt8 := [153, 0, 22, 27, 28, 159, 0, 17, 27, 29, 159, 0, 12, 28, 29, 159, 0, 7, 4, 167, 0, 4, 3]
abbrev dktX3_setOrder_1 : List UInt8 := dkwX3_setOrder_1 ++ dktX3_setOrder_2
def dkwX3_setOrder_0 : List UInt8 := [27, 3, 5, 184, 0, 78, 153, 0, 40, 28, 3, 5, 184, 0, 78, 153, 0, 31, 29, 3, 5, 184, 0, 78]
abbrev dktX3_setOrder_0 : List UInt8 := dkwX3_setOrder_0 ++ dktX3_setOrder_1
theorem dksX3_setOrder_0 : cX3_setOrder.data.toList.drop 0 = dktX3_setOrder_0 := by decide +kernel
theorem dksX3_setOrder_1 : cX3_setOrder.data.toList.drop 24 = dktX3_setOrder_1 := dk_seg dksX3_setOrder_0 24 rfl rfl
theorem dksX3_setOrder_2 : cX3_setOrder.data.toList.drop 47 = dktX3_setOrder_2 := dk_seg dksX3_setOrder_1 23 rfl rfl
theorem dksX3_setOrder_3 : cX3_setOrder.data.toList.drop 71 = dktX3_setOrder_3 := dk_seg dksX3_setOrder_2 24 rfl rfl
theorem dksX3_setOrder_4 : cX3_setOrder.data.toList.drop 95 = dktX3_setOrder_4 := dk_seg dksX3_setOrder_3 24 rfl rfl
theorem dX3_setOrder_0 : decode cX3_setOrder 0 = .ok (.iload_n 1, 1) := dk_27 (dk_at dksX3_setOrder_0 0 rfl rfl)
theorem dX3_setOrder_1 : decode cX3_setOrder 1 = .ok (.iconst 0, 1) := dk_3 (dk_at dksX3_setOrder_0 1 rfl rfl)
theorem dX3_setOrder_2 : decode cX3_setOrder 2 = .ok (.iconst 2, 1) := dk_5 (dk_at dksX3_setOrder_0 2 rfl rfl)
theorem dX3_setOrder_3 : decode cX3_setOrder 3 = .ok (.invokestatic 78, 3) := dk_184 0 78 (dk_at dksX3_setOrder_0 3 rfl rfl)
theorem dX3_setOrder_6 : decode cX3_setOrder 6 = .ok (.ifCond .eq 40, 3) := dk_153 0 40 (dk_at dksX3_setOrder_0 6 rfl rfl)
theorem dX3_setOrder_9 : decode cX3_setOrder 9 = .ok (.iload_n 2, 1) := dk_28 (dk_at dksX3_setOrder_0 9 rfl rfl)
theorem dX3_setOrder_10 : decode cX3_setOrder 10 = .ok (.iconst 0, 1) := dk_3 (dk_at dksX3_setOrder_0 10 rfl rfl)
theorem dX3_setOrder_11 : decode cX3_setOrder 11 = .ok (.iconst 2, 1) := dk_5 (dk_at dksX3_setOrder_0 11 rfl rfl)
theorem dX3_setOrder_12 : decode cX3_setOrder 12 = .ok (.invokestatic 78, 3) := dk_184 0 78 (dk_at dksX3_setOrder_0 12 rfl rfl)
theorem dX3_setOrder_15 : decode cX3_setOrder 15 = .ok (.ifCond .eq 31, 3) := dk_153 0 31 (dk_at dksX3_setOrder_0 15 rfl rfl)
theorem dX3_setOrder_18 : decode cX3_setOrder 18 = .ok (.iload_n 3, 1) := dk_29 (dk_at dksX3_setOrder_0 18 rfl rfl)
theorem dX3_setOrder_19 : decode cX3_setOrder 19 = .ok (.iconst 0, 1) := dk_3 (dk_at dksX3_setOrder_0 19 rfl rfl)
theorem dX3_setOrder_20 : decode cX3_setOrder 20 = .ok (.iconst 2, 1) := dk_5 (dk_at dksX3_setOrder_0 20 rfl rfl)
theorem dX3_setOrder_21 : decode cX3_setOrder 21 = .ok (.invokestatic 78, 3) := dk_184 0 78 (dk_at dksX3_setOrder_0 21 rfl rfl)
theorem dX3_setOrder_24 : decode cX3_setOrder 24 = .ok (.ifCond .eq 22, 3) := dk_153 0 22 (dk_at dksX3_setOrder_1 0 rfl rfl)
theorem dX3_setOrder_27 : decode cX3_setOrder 27 = .ok (.iload_n 1, 1) := dk_27 (dk_at dksX3_setOrder_1 3 rfl rfl)
theorem dX3_setOrder_28 : decode cX3_setOrder 28 = .ok (.iload_n 2, 1) := dk_28 (dk_at dksX3_setOrder_1 4 rfl rfl)
theorem dX3_setOrder_29 : decode cX3_setOrder 29 = .ok (.if_icmp .eq 17, 3) := dk_159 0 17 (dk_at dksX3_setOrder_1 5 rfl rfl)
theorem dX3_setOrder_32 : decode cX3_setOrder 32 = .ok (.iload_n 1, 1) := dk_27 (dk_at dksX3_setOrder_1 8 rfl rfl)
theorem dX3_setOrder_33 : decode cX3_setOrder 33 = .ok (.iload_n 3, 1) := dk_29 (dk_at dksX3_setOrder_1 9 rfl rfl)
theorem dX3_setOrder_34 : decode cX3_setOrder 34 = .ok (.if_icmp .eq 12, 3) := dk_159 0 12 (dk_at dksX3_setOrder_1 10 rfl rfl)
theorem dX3_setOrder_37 : decode cX3_setOrder 37 = .ok (.iload_n 2, 1) := dk_28 (dk_at dksX3_setOrder_1 13 rfl rfl)
theorem dX3_setOrder_38 : decode cX3_setOrder 38 = .ok (.iload_n 3, 1) := dk_29 (dk_at dksX3_setOrder_1 14 rfl rfl)
theorem dX3_setOrder_39 : decode cX3_setOrder 39 = .ok (.if_icmp .eq 7, 3) := dk_159 0 7 (dk_at dksX3_setOrder_1 15 rfl rfl)
theorem dX3_setOrder_42 : decode cX3_setOrder 42 = .ok (.iconst 1, 1) := dk_4 (dk_at dksX3_setOrder_1 18 rfl rfl)
theorem dX3_setOrder_43 : decode cX3_setOrder 43 = .ok (.goto 4, 3) := dk_167 0 4 (dk_at dksX3_setOrder_1 19 rfl rfl)
theorem dX3_setOrder_46 : decode cX3_setOrder 46 = .ok (.iconst 0, 1) := dk_3 (dk_at dksX3_setOrder_1 22 rfl rfl)
theorem dX3_setOrder_47 : decode cX3_setOrder 47 = .ok (.istore 4, 2) := dk_54 4 (dk_at dksX3_setOrder_2 0 rfl rfl)
theorem dX3_setOrder_49 : decode cX3_setOrder 49 = .ok (.aload_n 0, 1) := dk_42 (dk_at dksX3_setOrder_2 2 rfl rfl)
theorem dX3_setOrder_50 : decode cX3_setOrder 50 = .ok (.iload 4, 2) := dk_21 4 (dk_at dksX3_setOrder_2 3 rfl rfl)
theorem dX3_setOrder_52 : decode cX3_setOrder 52 = .ok (.ifCond .ne 7, 3) := dk_154 0 7 (dk_at dksX3_setOrder_2 5 rfl rfl)
theorem dX3_setOrder_55 : decode cX3_setOrder 55 = .ok (.iconst 1, 1) := dk_4 (dk_at dksX3_setOrder_2 8 rfl rfl)
theorem dX3_setOrder_56 : decode cX3_setOrder 56 = .ok (.goto 15, 3) := dk_167 0 15 (dk_at dksX3_setOrder_2 9 rfl rfl)
theorem dX3_setOrder_59 : decode cX3_setOrder 59 = .ok (.aload_n 0, 1) := dk_42 (dk_at dksX3_setOrder_2 12 rfl rfl)
theorem dX3_setOrder_60 : decode cX3_setOrder 60 = .ok (.getfield 82, 3) := dk_180 0 82 (dk_at dksX3_setOrder_2 13 rfl rfl)
theorem dX3_setOrder_63 : decode cX3_setOrder 63 = .ok (.ifCond .le 7, 3) := dk_158 0 7 (dk_at dksX3_setOrder_2 16 rfl rfl)
theorem dX3_setOrder_66 : decode cX3_setOrder 66 = .ok (.iconst 2, 1) := dk_5 (dk_at dksX3_setOrder_2 19 rfl rfl)
theorem dX3_setOrder_67 : decode cX3_setOrder 67 = .ok (.goto 4, 3) := dk_167 0 4 (dk_at dksX3_setOrder_2 20 rfl rfl)
theorem dX3_setOrder_70 : decode cX3_setOrder 70 = .ok (.iconst 0, 1) := dk_3 (dk_at dksX3_setOrder_2 23 rfl rfl)
theorem dX3_setOrder_71 : decode cX3_setOrder 71 = .ok (.putfield 74, 3) := dk_181 0 74 (dk_at dksX3_setOrder_3 0 rfl rfl)
theorem dX3_setOrder_74 : decode cX3_setOrder 74 = .ok (.aload_n 0, 1) := dk_42 (dk_at dksX3_setOrder_3 3 rfl rfl)
theorem dX3_setOrder_75 : decode cX3_setOrder 75 = .ok (.getfield 74, 3) := dk_180 0 74 (dk_at dksX3_setOrder_3 4 rfl rfl)
theorem dX3_setOrder_78 : decode cX3_setOrder 78 = .ok (.ifCond .ne 24, 3) := dk_154 0 24 (dk_at dksX3_setOrder_3 7 rfl rfl)
theorem dX3_setOrder_81 : decode cX3_setOrder 81 = .ok (.aload_n 0, 1) := dk_42 (dk_at dksX3_setOrder_3 10 rfl rfl)
theorem dX3_setOrder_82 : decode cX3_setOrder 82 = .ok (.getfield 16, 3) := dk_180 0 16 (dk_at dksX3_setOrder_3 11 rfl rfl)
theorem dX3_setOrder_85 : decode cX3_setOrder 85 = .ok (.iconst 0, 1) := dk_3 (dk_at dksX3_setOrder_3 14 rfl rfl)
theorem dX3_setOrder_86 : decode cX3_setOrder 86 = .ok (.iload_n 1, 1) := dk_27 (dk_at dksX3_setOrder_3 15 rfl rfl)
theorem dX3_setOrder_87 : decode cX3_setOrder 87 = .ok (.iastore, 1) := dk_79 (dk_at dksX3_setOrder_3 16 rfl rfl)
theorem dX3_setOrder_88 : decode cX3_setOrder 88 = .ok (.aload_n 0, 1) := dk_42 (dk_at dksX3_setOrder_3 17 rfl rfl)
theorem dX3_setOrder_89 : decode cX3_setOrder 89 = .ok (.getfield 16, 3) := dk_180 0 16 (dk_at dksX3_setOrder_3 18 rfl rfl)
theorem dX3_setOrder_92 : decode cX3_setOrder 92 = .ok (.iconst 1, 1) := dk_4 (dk_at dksX3_setOrder_3 21 rfl rfl)
theorem dX3_setOrder_93 : decode cX3_setOrder 93 = .ok (.iload_n 2, 1) := dk_28 (dk_at dksX3_setOrder_3 22 rfl rfl)
theorem dX3_setOrder_94 : decode cX3_setOrder 94 = .ok (.iastore, 1) := dk_79 (dk_at dksX3_setOrder_3 23 rfl rfl)
theorem dX3_setOrder_95 : decode cX3_setOrder 95 = .ok (.aload_n 0, 1) := dk_42 (dk_at dksX3_setOrder_4 0 rfl rfl)
theorem dX3_setOrder_96 : decode cX3_setOrder 96 = .ok (.getfield 16, 3) := dk_180 0 16 (dk_at dksX3_setOrder_4 1 rfl rfl)
theorem dX3_setOrder_99 : decode cX3_setOrder 99 = .ok (.iconst 2, 1) := dk_5 (dk_at dksX3_setOrder_4 4 rfl rfl)
theorem dX3_setOrder_100 : decode cX3_setOrder 100 = .ok (.iload_n 3, 1) := dk_29 (dk_at dksX3_setOrder_4 5 rfl rfl)
theorem dX3_setOrder_101 : decode cX3_setOrder 101 = .ok (.iastore, 1) := dk_79 (dk_at dksX3_setOrder_4 6 rfl rfl)
theorem dX3_setOrder_102 : decode cX3_setOrder 102 = .ok (.return_, 1) := dk_177 (dk_at dksX3_setOrder_4 7 rfl rfl)
abbrev cX3_beginBatch : ByteArray := prog_10_method_16_code
def yX3_beginBatch : MethodName := ⟨RX3, "beginBatch", "()I"⟩
def dkwX3_beginBatch_2 : List UInt8 := [181, 0, 109, 42, 180, 0, 109, 4, 100, 172]
abbrev dktX3_beginBatch_2 : List UInt8 := dkwX3_beginBatch_2 ++ []
def dkwX3_beginBatch_1 : List UInt8 := [158, 0, 5, 3, 172, 42, 180, 0, 25, 42, 180, 0, 109, 3, 84, 42, 89, 180, 0, 109, 4, 96]
abbrev dktX3_beginBatch_1 : List UInt8 := dkwX3_beginBatch_1 ++ dktX3_beginBatch_2
def dkwX3_beginBatch_0 : List UInt8 := [42, 42, 180, 0, 109, 16, 10, 160, 0, 7, 4, 167, 0, 4, 3, 181, 0, 74, 42, 180, 0, 74]
abbrev dktX3_beginBatch_0 : List UInt8 := dkwX3_beginBatch_0 ++ dktX3_beginBatch_1
theorem dksX3_beginBatch_0 : cX3_beginBatch.data.toList.drop 0 = dktX3_beginBatch_0 := by decide +kernel
theorem dksX3_beginBatch_1 : cX3_beginBatch.data.toList.drop 22 = dktX3_beginBatch_1 := dk_seg dksX3_beginBatch_0 22 rfl rfl
theorem dksX3_beginBatch_2 : cX3_beginBatch.data.toList.drop 44 = dktX3_beginBatch_2 := dk_seg dksX3_beginBatch_1 22 rfl rfl
theorem dX3_beginBatch_0 : decode cX3_beginBatch 0 = .ok (.aload_n 0, 1) := dk_42 (dk_at dksX3_beginBatch_0 0 rfl rfl)
theorem dX3_beginBatch_1 : decode cX3_beginBatch 1 = .ok (.aload_n 0, 1) := dk_42 (dk_at dksX3_beginBatch_0 1 rfl rfl)
theorem dX3_beginBatch_2 : decode cX3_beginBatch 2 = .ok (.getfield 109, 3) := dk_180 0 109 (dk_at dksX3_beginBatch_0 2 rfl rfl)
theorem dX3_beginBatch_5 : decode cX3_beginBatch 5 = .ok (.bipush 10, 2) := dk_16 10 (dk_at dksX3_beginBatch_0 5 rfl rfl)
theorem dX3_beginBatch_7 : decode cX3_beginBatch 7 = .ok (.if_icmp .ne 7, 3) := dk_160 0 7 (dk_at dksX3_beginBatch_0 7 rfl rfl)
theorem dX3_beginBatch_10 : decode cX3_beginBatch 10 = .ok (.iconst 1, 1) := dk_4 (dk_at dksX3_beginBatch_0 10 rfl rfl)
theorem dX3_beginBatch_11 : decode cX3_beginBatch 11 = .ok (.goto 4, 3) := dk_167 0 4 (dk_at dksX3_beginBatch_0 11 rfl rfl)
theorem dX3_beginBatch_14 : decode cX3_beginBatch 14 = .ok (.iconst 0, 1) := dk_3 (dk_at dksX3_beginBatch_0 14 rfl rfl)
theorem dX3_beginBatch_15 : decode cX3_beginBatch 15 = .ok (.putfield 74, 3) := dk_181 0 74 (dk_at dksX3_beginBatch_0 15 rfl rfl)
theorem dX3_beginBatch_18 : decode cX3_beginBatch 18 = .ok (.aload_n 0, 1) := dk_42 (dk_at dksX3_beginBatch_0 18 rfl rfl)
theorem dX3_beginBatch_19 : decode cX3_beginBatch 19 = .ok (.getfield 74, 3) := dk_180 0 74 (dk_at dksX3_beginBatch_0 19 rfl rfl)
theorem dX3_beginBatch_22 : decode cX3_beginBatch 22 = .ok (.ifCond .le 5, 3) := dk_158 0 5 (dk_at dksX3_beginBatch_1 0 rfl rfl)
theorem dX3_beginBatch_25 : decode cX3_beginBatch 25 = .ok (.iconst 0, 1) := dk_3 (dk_at dksX3_beginBatch_1 3 rfl rfl)
theorem dX3_beginBatch_26 : decode cX3_beginBatch 26 = .ok (.ireturn, 1) := dk_172 (dk_at dksX3_beginBatch_1 4 rfl rfl)
theorem dX3_beginBatch_27 : decode cX3_beginBatch 27 = .ok (.aload_n 0, 1) := dk_42 (dk_at dksX3_beginBatch_1 5 rfl rfl)
theorem dX3_beginBatch_28 : decode cX3_beginBatch 28 = .ok (.getfield 25, 3) := dk_180 0 25 (dk_at dksX3_beginBatch_1 6 rfl rfl)
theorem dX3_beginBatch_31 : decode cX3_beginBatch 31 = .ok (.aload_n 0, 1) := dk_42 (dk_at dksX3_beginBatch_1 9 rfl rfl)
theorem dX3_beginBatch_32 : decode cX3_beginBatch 32 = .ok (.getfield 109, 3) := dk_180 0 109 (dk_at dksX3_beginBatch_1 10 rfl rfl)
theorem dX3_beginBatch_35 : decode cX3_beginBatch 35 = .ok (.iconst 0, 1) := dk_3 (dk_at dksX3_beginBatch_1 13 rfl rfl)
theorem dX3_beginBatch_36 : decode cX3_beginBatch 36 = .ok (.bastore, 1) := dk_84 (dk_at dksX3_beginBatch_1 14 rfl rfl)
theorem dX3_beginBatch_37 : decode cX3_beginBatch 37 = .ok (.aload_n 0, 1) := dk_42 (dk_at dksX3_beginBatch_1 15 rfl rfl)
theorem dX3_beginBatch_38 : decode cX3_beginBatch 38 = .ok (.dup, 1) := dk_89 (dk_at dksX3_beginBatch_1 16 rfl rfl)
theorem dX3_beginBatch_39 : decode cX3_beginBatch 39 = .ok (.getfield 109, 3) := dk_180 0 109 (dk_at dksX3_beginBatch_1 17 rfl rfl)
theorem dX3_beginBatch_42 : decode cX3_beginBatch 42 = .ok (.iconst 1, 1) := dk_4 (dk_at dksX3_beginBatch_1 20 rfl rfl)
theorem dX3_beginBatch_43 : decode cX3_beginBatch 43 = .ok (.iadd, 1) := dk_96 (dk_at dksX3_beginBatch_1 21 rfl rfl)
theorem dX3_beginBatch_44 : decode cX3_beginBatch 44 = .ok (.putfield 109, 3) := dk_181 0 109 (dk_at dksX3_beginBatch_2 0 rfl rfl)
theorem dX3_beginBatch_47 : decode cX3_beginBatch 47 = .ok (.aload_n 0, 1) := dk_42 (dk_at dksX3_beginBatch_2 3 rfl rfl)
theorem dX3_beginBatch_48 : decode cX3_beginBatch 48 = .ok (.getfield 109, 3) := dk_180 0 109 (dk_at dksX3_beginBatch_2 4 rfl rfl)
theorem dX3_beginBatch_51 : decode cX3_beginBatch 51 = .ok (.iconst 1, 1) := dk_4 (dk_at dksX3_beginBatch_2 7 rfl rfl)
theorem dX3_beginBatch_52 : decode cX3_beginBatch 52 = .ok (.isub, 1) := dk_100 (dk_at dksX3_beginBatch_2 8 rfl rfl)
theorem dX3_beginBatch_53 : decode cX3_beginBatch 53 = .ok (.ireturn, 1) := dk_172 (dk_at dksX3_beginBatch_2 9 rfl rfl)
abbrev cX3_key : ByteArray := prog_10_method_17_code
def yX3_key : MethodName := ⟨RX3, "key", "(II)I"⟩
def dkwX3_key_2 : List UInt8 := [42, 180, 0, 19, 27, 28, 79, 29, 172]
abbrev dktX3_key_2 : List UInt8 := dkwX3_key_2 ++ []
def dkwX3_key_1 : List UInt8 := [5, 167, 0, 4, 3, 181, 0, 74, 42, 180, 0, 74, 158, 0, 5, 3, 172, 42, 180, 0, 19, 27, 46, 62]
abbrev dktX3_key_1 : List UInt8 := dkwX3_key_1 ++ dktX3_key_2
def dkwX3_key_0 : List UInt8 := [42, 27, 3, 5, 184, 0, 78, 154, 0, 7, 4, 167, 0, 18, 28, 2, 16, 49, 184, 0, 78, 154, 0, 7]
abbrev dktX3_key_0 : List UInt8 := dkwX3_key_0 ++ dktX3_key_1
theorem dksX3_key_0 : cX3_key.data.toList.drop 0 = dktX3_key_0 := by decide +kernel
theorem dksX3_key_1 : cX3_key.data.toList.drop 24 = dktX3_key_1 := dk_seg dksX3_key_0 24 rfl rfl
theorem dksX3_key_2 : cX3_key.data.toList.drop 48 = dktX3_key_2 := dk_seg dksX3_key_1 24 rfl rfl
theorem dX3_key_0 : decode cX3_key 0 = .ok (.aload_n 0, 1) := dk_42 (dk_at dksX3_key_0 0 rfl rfl)
theorem dX3_key_1 : decode cX3_key 1 = .ok (.iload_n 1, 1) := dk_27 (dk_at dksX3_key_0 1 rfl rfl)
theorem dX3_key_2 : decode cX3_key 2 = .ok (.iconst 0, 1) := dk_3 (dk_at dksX3_key_0 2 rfl rfl)
theorem dX3_key_3 : decode cX3_key 3 = .ok (.iconst 2, 1) := dk_5 (dk_at dksX3_key_0 3 rfl rfl)
theorem dX3_key_4 : decode cX3_key 4 = .ok (.invokestatic 78, 3) := dk_184 0 78 (dk_at dksX3_key_0 4 rfl rfl)
theorem dX3_key_7 : decode cX3_key 7 = .ok (.ifCond .ne 7, 3) := dk_154 0 7 (dk_at dksX3_key_0 7 rfl rfl)
theorem dX3_key_10 : decode cX3_key 10 = .ok (.iconst 1, 1) := dk_4 (dk_at dksX3_key_0 10 rfl rfl)
theorem dX3_key_11 : decode cX3_key 11 = .ok (.goto 18, 3) := dk_167 0 18 (dk_at dksX3_key_0 11 rfl rfl)
theorem dX3_key_14 : decode cX3_key 14 = .ok (.iload_n 2, 1) := dk_28 (dk_at dksX3_key_0 14 rfl rfl)
theorem dX3_key_15 : decode cX3_key 15 = .ok (.iconst (-1), 1) := dk_2 (dk_at dksX3_key_0 15 rfl rfl)
theorem dX3_key_16 : decode cX3_key 16 = .ok (.bipush 49, 2) := dk_16 49 (dk_at dksX3_key_0 16 rfl rfl)
theorem dX3_key_18 : decode cX3_key 18 = .ok (.invokestatic 78, 3) := dk_184 0 78 (dk_at dksX3_key_0 18 rfl rfl)
theorem dX3_key_21 : decode cX3_key 21 = .ok (.ifCond .ne 7, 3) := dk_154 0 7 (dk_at dksX3_key_0 21 rfl rfl)
theorem dX3_key_24 : decode cX3_key 24 = .ok (.iconst 2, 1) := dk_5 (dk_at dksX3_key_1 0 rfl rfl)
theorem dX3_key_25 : decode cX3_key 25 = .ok (.goto 4, 3) := dk_167 0 4 (dk_at dksX3_key_1 1 rfl rfl)
theorem dX3_key_28 : decode cX3_key 28 = .ok (.iconst 0, 1) := dk_3 (dk_at dksX3_key_1 4 rfl rfl)
theorem dX3_key_29 : decode cX3_key 29 = .ok (.putfield 74, 3) := dk_181 0 74 (dk_at dksX3_key_1 5 rfl rfl)
theorem dX3_key_32 : decode cX3_key 32 = .ok (.aload_n 0, 1) := dk_42 (dk_at dksX3_key_1 8 rfl rfl)
theorem dX3_key_33 : decode cX3_key 33 = .ok (.getfield 74, 3) := dk_180 0 74 (dk_at dksX3_key_1 9 rfl rfl)
theorem dX3_key_36 : decode cX3_key 36 = .ok (.ifCond .le 5, 3) := dk_158 0 5 (dk_at dksX3_key_1 12 rfl rfl)
theorem dX3_key_39 : decode cX3_key 39 = .ok (.iconst 0, 1) := dk_3 (dk_at dksX3_key_1 15 rfl rfl)
theorem dX3_key_40 : decode cX3_key 40 = .ok (.ireturn, 1) := dk_172 (dk_at dksX3_key_1 16 rfl rfl)
theorem dX3_key_41 : decode cX3_key 41 = .ok (.aload_n 0, 1) := dk_42 (dk_at dksX3_key_1 17 rfl rfl)
theorem dX3_key_42 : decode cX3_key 42 = .ok (.getfield 19, 3) := dk_180 0 19 (dk_at dksX3_key_1 18 rfl rfl)
theorem dX3_key_45 : decode cX3_key 45 = .ok (.iload_n 1, 1) := dk_27 (dk_at dksX3_key_1 21 rfl rfl)
theorem dX3_key_46 : decode cX3_key 46 = .ok (.iaload, 1) := dk_46 (dk_at dksX3_key_1 22 rfl rfl)
theorem dX3_key_47 : decode cX3_key 47 = .ok (.istore_n 3, 1) := dk_62 (dk_at dksX3_key_1 23 rfl rfl)
theorem dX3_key_48 : decode cX3_key 48 = .ok (.aload_n 0, 1) := dk_42 (dk_at dksX3_key_2 0 rfl rfl)
theorem dX3_key_49 : decode cX3_key 49 = .ok (.getfield 19, 3) := dk_180 0 19 (dk_at dksX3_key_2 1 rfl rfl)
theorem dX3_key_52 : decode cX3_key 52 = .ok (.iload_n 1, 1) := dk_27 (dk_at dksX3_key_2 4 rfl rfl)
theorem dX3_key_53 : decode cX3_key 53 = .ok (.iload_n 2, 1) := dk_28 (dk_at dksX3_key_2 5 rfl rfl)
theorem dX3_key_54 : decode cX3_key 54 = .ok (.iastore, 1) := dk_79 (dk_at dksX3_key_2 6 rfl rfl)
theorem dX3_key_55 : decode cX3_key 55 = .ok (.iload_n 3, 1) := dk_29 (dk_at dksX3_key_2 7 rfl rfl)
theorem dX3_key_56 : decode cX3_key 56 = .ok (.ireturn, 1) := dk_172 (dk_at dksX3_key_2 8 rfl rfl)
abbrev cX3_field : ByteArray := prog_10_method_18_code
def yX3_field : MethodName := ⟨RX3, "field", "(II)I"⟩
def dkwX3_field_2 : List UInt8 := [42, 180, 0, 22, 27, 28, 79, 29, 172]
abbrev dktX3_field_2 : List UInt8 := dkwX3_field_2 ++ []
def dkwX3_field_1 : List UInt8 := [5, 167, 0, 4, 3, 181, 0, 74, 42, 180, 0, 74, 158, 0, 5, 3, 172, 42, 180, 0, 22, 27, 46, 62]
abbrev dktX3_field_1 : List UInt8 := dkwX3_field_1 ++ dktX3_field_2
def dkwX3_field_0 : List UInt8 := [42, 27, 3, 6, 184, 0, 78, 154, 0, 7, 4, 167, 0, 18, 28, 2, 16, 99, 184, 0, 78, 154, 0, 7]
abbrev dktX3_field_0 : List UInt8 := dkwX3_field_0 ++ dktX3_field_1
theorem dksX3_field_0 : cX3_field.data.toList.drop 0 = dktX3_field_0 := by decide +kernel
theorem dksX3_field_1 : cX3_field.data.toList.drop 24 = dktX3_field_1 := dk_seg dksX3_field_0 24 rfl rfl
theorem dksX3_field_2 : cX3_field.data.toList.drop 48 = dktX3_field_2 := dk_seg dksX3_field_1 24 rfl rfl
theorem dX3_field_0 : decode cX3_field 0 = .ok (.aload_n 0, 1) := dk_42 (dk_at dksX3_field_0 0 rfl rfl)
theorem dX3_field_1 : decode cX3_field 1 = .ok (.iload_n 1, 1) := dk_27 (dk_at dksX3_field_0 1 rfl rfl)
theorem dX3_field_2 : decode cX3_field 2 = .ok (.iconst 0, 1) := dk_3 (dk_at dksX3_field_0 2 rfl rfl)
theorem dX3_field_3 : decode cX3_field 3 = .ok (.iconst 3, 1) := dk_6 (dk_at dksX3_field_0 3 rfl rfl)
theorem dX3_field_4 : decode cX3_field 4 = .ok (.invokestatic 78, 3) := dk_184 0 78 (dk_at dksX3_field_0 4 rfl rfl)
theorem dX3_field_7 : decode cX3_field 7 = .ok (.ifCond .ne 7, 3) := dk_154 0 7 (dk_at dksX3_field_0 7 rfl rfl)
theorem dX3_field_10 : decode cX3_field 10 = .ok (.iconst 1, 1) := dk_4 (dk_at dksX3_field_0 10 rfl rfl)
theorem dX3_field_11 : decode cX3_field 11 = .ok (.goto 18, 3) := dk_167 0 18 (dk_at dksX3_field_0 11 rfl rfl)
theorem dX3_field_14 : decode cX3_field 14 = .ok (.iload_n 2, 1) := dk_28 (dk_at dksX3_field_0 14 rfl rfl)
theorem dX3_field_15 : decode cX3_field 15 = .ok (.iconst (-1), 1) := dk_2 (dk_at dksX3_field_0 15 rfl rfl)
theorem dX3_field_16 : decode cX3_field 16 = .ok (.bipush 99, 2) := dk_16 99 (dk_at dksX3_field_0 16 rfl rfl)
theorem dX3_field_18 : decode cX3_field 18 = .ok (.invokestatic 78, 3) := dk_184 0 78 (dk_at dksX3_field_0 18 rfl rfl)
theorem dX3_field_21 : decode cX3_field 21 = .ok (.ifCond .ne 7, 3) := dk_154 0 7 (dk_at dksX3_field_0 21 rfl rfl)
theorem dX3_field_24 : decode cX3_field 24 = .ok (.iconst 2, 1) := dk_5 (dk_at dksX3_field_1 0 rfl rfl)
theorem dX3_field_25 : decode cX3_field 25 = .ok (.goto 4, 3) := dk_167 0 4 (dk_at dksX3_field_1 1 rfl rfl)
theorem dX3_field_28 : decode cX3_field 28 = .ok (.iconst 0, 1) := dk_3 (dk_at dksX3_field_1 4 rfl rfl)
theorem dX3_field_29 : decode cX3_field 29 = .ok (.putfield 74, 3) := dk_181 0 74 (dk_at dksX3_field_1 5 rfl rfl)
theorem dX3_field_32 : decode cX3_field 32 = .ok (.aload_n 0, 1) := dk_42 (dk_at dksX3_field_1 8 rfl rfl)
theorem dX3_field_33 : decode cX3_field 33 = .ok (.getfield 74, 3) := dk_180 0 74 (dk_at dksX3_field_1 9 rfl rfl)
theorem dX3_field_36 : decode cX3_field 36 = .ok (.ifCond .le 5, 3) := dk_158 0 5 (dk_at dksX3_field_1 12 rfl rfl)
theorem dX3_field_39 : decode cX3_field 39 = .ok (.iconst 0, 1) := dk_3 (dk_at dksX3_field_1 15 rfl rfl)
theorem dX3_field_40 : decode cX3_field 40 = .ok (.ireturn, 1) := dk_172 (dk_at dksX3_field_1 16 rfl rfl)
theorem dX3_field_41 : decode cX3_field 41 = .ok (.aload_n 0, 1) := dk_42 (dk_at dksX3_field_1 17 rfl rfl)
theorem dX3_field_42 : decode cX3_field 42 = .ok (.getfield 22, 3) := dk_180 0 22 (dk_at dksX3_field_1 18 rfl rfl)
theorem dX3_field_45 : decode cX3_field 45 = .ok (.iload_n 1, 1) := dk_27 (dk_at dksX3_field_1 21 rfl rfl)
theorem dX3_field_46 : decode cX3_field 46 = .ok (.iaload, 1) := dk_46 (dk_at dksX3_field_1 22 rfl rfl)
theorem dX3_field_47 : decode cX3_field 47 = .ok (.istore_n 3, 1) := dk_62 (dk_at dksX3_field_1 23 rfl rfl)
theorem dX3_field_48 : decode cX3_field 48 = .ok (.aload_n 0, 1) := dk_42 (dk_at dksX3_field_2 0 rfl rfl)
theorem dX3_field_49 : decode cX3_field 49 = .ok (.getfield 22, 3) := dk_180 0 22 (dk_at dksX3_field_2 1 rfl rfl)
theorem dX3_field_52 : decode cX3_field 52 = .ok (.iload_n 1, 1) := dk_27 (dk_at dksX3_field_2 4 rfl rfl)
theorem dX3_field_53 : decode cX3_field 53 = .ok (.iload_n 2, 1) := dk_28 (dk_at dksX3_field_2 5 rfl rfl)
theorem dX3_field_54 : decode cX3_field 54 = .ok (.iastore, 1) := dk_79 (dk_at dksX3_field_2 6 rfl rfl)
theorem dX3_field_55 : decode cX3_field 55 = .ok (.iload_n 3, 1) := dk_29 (dk_at dksX3_field_2 7 rfl rfl)
theorem dX3_field_56 : decode cX3_field 56 = .ok (.ireturn, 1) := dk_172 (dk_at dksX3_field_2 8 rfl rfl)
abbrev cX3_load : ByteArray := prog_10_method_19_code
def yX3_load : MethodName := ⟨RX3, "load", "(I)I"⟩
def dkwX3_load_6 : List UInt8 := [167, 255, 232, 42, 182, 0, 71, 42, 3, 28, 3, 182, 0, 112, 42, 180, 0, 41, 28, 46, 172]
abbrev dktX3_load_6 : List UInt8 := dkwX3_load_6 ++ []
def dkwX3_load_5 : List UInt8 := [162, 0, 25, 42, 180, 0, 38, 7, 28, 104, 29, 96, 42, 180, 0, 22, 29, 46, 79, 132, 3, 1]
abbrev dktX3_load_5 : List UInt8 := dkwX3_load_5 ++ dktX3_load_6
def dkwX3_load_4 : List UInt8 := [6, 28, 104, 29, 96, 42, 180, 0, 19, 29, 46, 79, 132, 3, 1, 167, 255, 232, 3, 62, 29, 7]
abbrev dktX3_load_4 : List UInt8 := dkwX3_load_4 ++ dktX3_load_5
def dkwX3_load_3 : List UInt8 := [180, 0, 109, 4, 100, 79, 42, 180, 0, 32, 28, 27, 79, 3, 62, 29, 6, 162, 0, 25, 42, 180, 0, 35]
abbrev dktX3_load_3 : List UInt8 := dkwX3_load_3 ++ dktX3_load_4
def dkwX3_load_2 : List UInt8 := [172, 42, 180, 0, 82, 61, 42, 89, 180, 0, 82, 4, 96, 181, 0, 82, 42, 180, 0, 29, 28, 42]
abbrev dktX3_load_2 : List UInt8 := dkwX3_load_2 ++ dktX3_load_3
def dkwX3_load_1 : List UInt8 := [180, 0, 82, 16, 80, 160, 0, 7, 5, 167, 0, 4, 3, 181, 0, 74, 42, 180, 0, 74, 158, 0, 5, 3]
abbrev dktX3_load_1 : List UInt8 := dkwX3_load_1 ++ dktX3_load_2
def dkwX3_load_0 : List UInt8 := [42, 27, 3, 7, 184, 0, 78, 154, 0, 7, 4, 167, 0, 24, 42, 180, 0, 109, 153, 0, 12, 42]
abbrev dktX3_load_0 : List UInt8 := dkwX3_load_0 ++ dktX3_load_1
theorem dksX3_load_0 : cX3_load.data.toList.drop 0 = dktX3_load_0 := by decide +kernel
theorem dksX3_load_1 : cX3_load.data.toList.drop 22 = dktX3_load_1 := dk_seg dksX3_load_0 22 rfl rfl
theorem dksX3_load_2 : cX3_load.data.toList.drop 46 = dktX3_load_2 := dk_seg dksX3_load_1 24 rfl rfl
theorem dksX3_load_3 : cX3_load.data.toList.drop 68 = dktX3_load_3 := dk_seg dksX3_load_2 22 rfl rfl
theorem dksX3_load_4 : cX3_load.data.toList.drop 92 = dktX3_load_4 := dk_seg dksX3_load_3 24 rfl rfl
theorem dksX3_load_5 : cX3_load.data.toList.drop 114 = dktX3_load_5 := dk_seg dksX3_load_4 22 rfl rfl
theorem dksX3_load_6 : cX3_load.data.toList.drop 136 = dktX3_load_6 := dk_seg dksX3_load_5 22 rfl rfl
theorem dX3_load_0 : decode cX3_load 0 = .ok (.aload_n 0, 1) := dk_42 (dk_at dksX3_load_0 0 rfl rfl)
theorem dX3_load_1 : decode cX3_load 1 = .ok (.iload_n 1, 1) := dk_27 (dk_at dksX3_load_0 1 rfl rfl)
theorem dX3_load_2 : decode cX3_load 2 = .ok (.iconst 0, 1) := dk_3 (dk_at dksX3_load_0 2 rfl rfl)
theorem dX3_load_3 : decode cX3_load 3 = .ok (.iconst 4, 1) := dk_7 (dk_at dksX3_load_0 3 rfl rfl)
theorem dX3_load_4 : decode cX3_load 4 = .ok (.invokestatic 78, 3) := dk_184 0 78 (dk_at dksX3_load_0 4 rfl rfl)
theorem dX3_load_7 : decode cX3_load 7 = .ok (.ifCond .ne 7, 3) := dk_154 0 7 (dk_at dksX3_load_0 7 rfl rfl)
theorem dX3_load_10 : decode cX3_load 10 = .ok (.iconst 1, 1) := dk_4 (dk_at dksX3_load_0 10 rfl rfl)
theorem dX3_load_11 : decode cX3_load 11 = .ok (.goto 24, 3) := dk_167 0 24 (dk_at dksX3_load_0 11 rfl rfl)
theorem dX3_load_14 : decode cX3_load 14 = .ok (.aload_n 0, 1) := dk_42 (dk_at dksX3_load_0 14 rfl rfl)
theorem dX3_load_15 : decode cX3_load 15 = .ok (.getfield 109, 3) := dk_180 0 109 (dk_at dksX3_load_0 15 rfl rfl)
theorem dX3_load_18 : decode cX3_load 18 = .ok (.ifCond .eq 12, 3) := dk_153 0 12 (dk_at dksX3_load_0 18 rfl rfl)
theorem dX3_load_21 : decode cX3_load 21 = .ok (.aload_n 0, 1) := dk_42 (dk_at dksX3_load_0 21 rfl rfl)
theorem dX3_load_22 : decode cX3_load 22 = .ok (.getfield 82, 3) := dk_180 0 82 (dk_at dksX3_load_1 0 rfl rfl)
theorem dX3_load_25 : decode cX3_load 25 = .ok (.bipush 80, 2) := dk_16 80 (dk_at dksX3_load_1 3 rfl rfl)
theorem dX3_load_27 : decode cX3_load 27 = .ok (.if_icmp .ne 7, 3) := dk_160 0 7 (dk_at dksX3_load_1 5 rfl rfl)
theorem dX3_load_30 : decode cX3_load 30 = .ok (.iconst 2, 1) := dk_5 (dk_at dksX3_load_1 8 rfl rfl)
theorem dX3_load_31 : decode cX3_load 31 = .ok (.goto 4, 3) := dk_167 0 4 (dk_at dksX3_load_1 9 rfl rfl)
theorem dX3_load_34 : decode cX3_load 34 = .ok (.iconst 0, 1) := dk_3 (dk_at dksX3_load_1 12 rfl rfl)
theorem dX3_load_35 : decode cX3_load 35 = .ok (.putfield 74, 3) := dk_181 0 74 (dk_at dksX3_load_1 13 rfl rfl)
theorem dX3_load_38 : decode cX3_load 38 = .ok (.aload_n 0, 1) := dk_42 (dk_at dksX3_load_1 16 rfl rfl)
theorem dX3_load_39 : decode cX3_load 39 = .ok (.getfield 74, 3) := dk_180 0 74 (dk_at dksX3_load_1 17 rfl rfl)
theorem dX3_load_42 : decode cX3_load 42 = .ok (.ifCond .le 5, 3) := dk_158 0 5 (dk_at dksX3_load_1 20 rfl rfl)
theorem dX3_load_45 : decode cX3_load 45 = .ok (.iconst 0, 1) := dk_3 (dk_at dksX3_load_1 23 rfl rfl)
theorem dX3_load_46 : decode cX3_load 46 = .ok (.ireturn, 1) := dk_172 (dk_at dksX3_load_2 0 rfl rfl)
theorem dX3_load_47 : decode cX3_load 47 = .ok (.aload_n 0, 1) := dk_42 (dk_at dksX3_load_2 1 rfl rfl)
theorem dX3_load_48 : decode cX3_load 48 = .ok (.getfield 82, 3) := dk_180 0 82 (dk_at dksX3_load_2 2 rfl rfl)
theorem dX3_load_51 : decode cX3_load 51 = .ok (.istore_n 2, 1) := dk_61 (dk_at dksX3_load_2 5 rfl rfl)
theorem dX3_load_52 : decode cX3_load 52 = .ok (.aload_n 0, 1) := dk_42 (dk_at dksX3_load_2 6 rfl rfl)
theorem dX3_load_53 : decode cX3_load 53 = .ok (.dup, 1) := dk_89 (dk_at dksX3_load_2 7 rfl rfl)
theorem dX3_load_54 : decode cX3_load 54 = .ok (.getfield 82, 3) := dk_180 0 82 (dk_at dksX3_load_2 8 rfl rfl)
theorem dX3_load_57 : decode cX3_load 57 = .ok (.iconst 1, 1) := dk_4 (dk_at dksX3_load_2 11 rfl rfl)
theorem dX3_load_58 : decode cX3_load 58 = .ok (.iadd, 1) := dk_96 (dk_at dksX3_load_2 12 rfl rfl)
theorem dX3_load_59 : decode cX3_load 59 = .ok (.putfield 82, 3) := dk_181 0 82 (dk_at dksX3_load_2 13 rfl rfl)
theorem dX3_load_62 : decode cX3_load 62 = .ok (.aload_n 0, 1) := dk_42 (dk_at dksX3_load_2 16 rfl rfl)
theorem dX3_load_63 : decode cX3_load 63 = .ok (.getfield 29, 3) := dk_180 0 29 (dk_at dksX3_load_2 17 rfl rfl)
theorem dX3_load_66 : decode cX3_load 66 = .ok (.iload_n 2, 1) := dk_28 (dk_at dksX3_load_2 20 rfl rfl)
theorem dX3_load_67 : decode cX3_load 67 = .ok (.aload_n 0, 1) := dk_42 (dk_at dksX3_load_2 21 rfl rfl)
theorem dX3_load_68 : decode cX3_load 68 = .ok (.getfield 109, 3) := dk_180 0 109 (dk_at dksX3_load_3 0 rfl rfl)
theorem dX3_load_71 : decode cX3_load 71 = .ok (.iconst 1, 1) := dk_4 (dk_at dksX3_load_3 3 rfl rfl)
theorem dX3_load_72 : decode cX3_load 72 = .ok (.isub, 1) := dk_100 (dk_at dksX3_load_3 4 rfl rfl)
theorem dX3_load_73 : decode cX3_load 73 = .ok (.iastore, 1) := dk_79 (dk_at dksX3_load_3 5 rfl rfl)
theorem dX3_load_74 : decode cX3_load 74 = .ok (.aload_n 0, 1) := dk_42 (dk_at dksX3_load_3 6 rfl rfl)
theorem dX3_load_75 : decode cX3_load 75 = .ok (.getfield 32, 3) := dk_180 0 32 (dk_at dksX3_load_3 7 rfl rfl)
theorem dX3_load_78 : decode cX3_load 78 = .ok (.iload_n 2, 1) := dk_28 (dk_at dksX3_load_3 10 rfl rfl)
theorem dX3_load_79 : decode cX3_load 79 = .ok (.iload_n 1, 1) := dk_27 (dk_at dksX3_load_3 11 rfl rfl)
theorem dX3_load_80 : decode cX3_load 80 = .ok (.iastore, 1) := dk_79 (dk_at dksX3_load_3 12 rfl rfl)
theorem dX3_load_81 : decode cX3_load 81 = .ok (.iconst 0, 1) := dk_3 (dk_at dksX3_load_3 13 rfl rfl)
theorem dX3_load_82 : decode cX3_load 82 = .ok (.istore_n 3, 1) := dk_62 (dk_at dksX3_load_3 14 rfl rfl)
theorem dX3_load_83 : decode cX3_load 83 = .ok (.iload_n 3, 1) := dk_29 (dk_at dksX3_load_3 15 rfl rfl)
theorem dX3_load_84 : decode cX3_load 84 = .ok (.iconst 3, 1) := dk_6 (dk_at dksX3_load_3 16 rfl rfl)
theorem dX3_load_85 : decode cX3_load 85 = .ok (.if_icmp .ge 25, 3) := dk_162 0 25 (dk_at dksX3_load_3 17 rfl rfl)
theorem dX3_load_88 : decode cX3_load 88 = .ok (.aload_n 0, 1) := dk_42 (dk_at dksX3_load_3 20 rfl rfl)
theorem dX3_load_89 : decode cX3_load 89 = .ok (.getfield 35, 3) := dk_180 0 35 (dk_at dksX3_load_3 21 rfl rfl)
theorem dX3_load_92 : decode cX3_load 92 = .ok (.iconst 3, 1) := dk_6 (dk_at dksX3_load_4 0 rfl rfl)
theorem dX3_load_93 : decode cX3_load 93 = .ok (.iload_n 2, 1) := dk_28 (dk_at dksX3_load_4 1 rfl rfl)
theorem dX3_load_94 : decode cX3_load 94 = .ok (.imul, 1) := dk_104 (dk_at dksX3_load_4 2 rfl rfl)
theorem dX3_load_95 : decode cX3_load 95 = .ok (.iload_n 3, 1) := dk_29 (dk_at dksX3_load_4 3 rfl rfl)
theorem dX3_load_96 : decode cX3_load 96 = .ok (.iadd, 1) := dk_96 (dk_at dksX3_load_4 4 rfl rfl)
theorem dX3_load_97 : decode cX3_load 97 = .ok (.aload_n 0, 1) := dk_42 (dk_at dksX3_load_4 5 rfl rfl)
theorem dX3_load_98 : decode cX3_load 98 = .ok (.getfield 19, 3) := dk_180 0 19 (dk_at dksX3_load_4 6 rfl rfl)
theorem dX3_load_101 : decode cX3_load 101 = .ok (.iload_n 3, 1) := dk_29 (dk_at dksX3_load_4 9 rfl rfl)
theorem dX3_load_102 : decode cX3_load 102 = .ok (.iaload, 1) := dk_46 (dk_at dksX3_load_4 10 rfl rfl)
theorem dX3_load_103 : decode cX3_load 103 = .ok (.iastore, 1) := dk_79 (dk_at dksX3_load_4 11 rfl rfl)
theorem dX3_load_104 : decode cX3_load 104 = .ok (.iinc 3 1, 3) := dk_132 3 1 (dk_at dksX3_load_4 12 rfl rfl)
theorem dX3_load_107 : decode cX3_load 107 = .ok (.goto (-24), 3) := dk_167 255 232 (dk_at dksX3_load_4 15 rfl rfl)
theorem dX3_load_110 : decode cX3_load 110 = .ok (.iconst 0, 1) := dk_3 (dk_at dksX3_load_4 18 rfl rfl)
theorem dX3_load_111 : decode cX3_load 111 = .ok (.istore_n 3, 1) := dk_62 (dk_at dksX3_load_4 19 rfl rfl)
theorem dX3_load_112 : decode cX3_load 112 = .ok (.iload_n 3, 1) := dk_29 (dk_at dksX3_load_4 20 rfl rfl)
theorem dX3_load_113 : decode cX3_load 113 = .ok (.iconst 4, 1) := dk_7 (dk_at dksX3_load_4 21 rfl rfl)
theorem dX3_load_114 : decode cX3_load 114 = .ok (.if_icmp .ge 25, 3) := dk_162 0 25 (dk_at dksX3_load_5 0 rfl rfl)
theorem dX3_load_117 : decode cX3_load 117 = .ok (.aload_n 0, 1) := dk_42 (dk_at dksX3_load_5 3 rfl rfl)
theorem dX3_load_118 : decode cX3_load 118 = .ok (.getfield 38, 3) := dk_180 0 38 (dk_at dksX3_load_5 4 rfl rfl)
theorem dX3_load_121 : decode cX3_load 121 = .ok (.iconst 4, 1) := dk_7 (dk_at dksX3_load_5 7 rfl rfl)
theorem dX3_load_122 : decode cX3_load 122 = .ok (.iload_n 2, 1) := dk_28 (dk_at dksX3_load_5 8 rfl rfl)
theorem dX3_load_123 : decode cX3_load 123 = .ok (.imul, 1) := dk_104 (dk_at dksX3_load_5 9 rfl rfl)
theorem dX3_load_124 : decode cX3_load 124 = .ok (.iload_n 3, 1) := dk_29 (dk_at dksX3_load_5 10 rfl rfl)
theorem dX3_load_125 : decode cX3_load 125 = .ok (.iadd, 1) := dk_96 (dk_at dksX3_load_5 11 rfl rfl)
theorem dX3_load_126 : decode cX3_load 126 = .ok (.aload_n 0, 1) := dk_42 (dk_at dksX3_load_5 12 rfl rfl)
theorem dX3_load_127 : decode cX3_load 127 = .ok (.getfield 22, 3) := dk_180 0 22 (dk_at dksX3_load_5 13 rfl rfl)
theorem dX3_load_130 : decode cX3_load 130 = .ok (.iload_n 3, 1) := dk_29 (dk_at dksX3_load_5 16 rfl rfl)
theorem dX3_load_131 : decode cX3_load 131 = .ok (.iaload, 1) := dk_46 (dk_at dksX3_load_5 17 rfl rfl)
theorem dX3_load_132 : decode cX3_load 132 = .ok (.iastore, 1) := dk_79 (dk_at dksX3_load_5 18 rfl rfl)
theorem dX3_load_133 : decode cX3_load 133 = .ok (.iinc 3 1, 3) := dk_132 3 1 (dk_at dksX3_load_5 19 rfl rfl)
theorem dX3_load_136 : decode cX3_load 136 = .ok (.goto (-24), 3) := dk_167 255 232 (dk_at dksX3_load_6 0 rfl rfl)
theorem dX3_load_139 : decode cX3_load 139 = .ok (.aload_n 0, 1) := dk_42 (dk_at dksX3_load_6 3 rfl rfl)
theorem dX3_load_140 : decode cX3_load 140 = .ok (.invokevirtual 71, 3) := dk_182 0 71 (dk_at dksX3_load_6 4 rfl rfl)
theorem dX3_load_143 : decode cX3_load 143 = .ok (.aload_n 0, 1) := dk_42 (dk_at dksX3_load_6 7 rfl rfl)
theorem dX3_load_144 : decode cX3_load 144 = .ok (.iconst 0, 1) := dk_3 (dk_at dksX3_load_6 8 rfl rfl)
theorem dX3_load_145 : decode cX3_load 145 = .ok (.iload_n 2, 1) := dk_28 (dk_at dksX3_load_6 9 rfl rfl)
theorem dX3_load_146 : decode cX3_load 146 = .ok (.iconst 0, 1) := dk_3 (dk_at dksX3_load_6 10 rfl rfl)
theorem dX3_load_147 : decode cX3_load 147 = .ok (.invokevirtual 112, 3) := dk_182 0 112 (dk_at dksX3_load_6 11 rfl rfl)
theorem dX3_load_150 : decode cX3_load 150 = .ok (.aload_n 0, 1) := dk_42 (dk_at dksX3_load_6 14 rfl rfl)
theorem dX3_load_151 : decode cX3_load 151 = .ok (.getfield 41, 3) := dk_180 0 41 (dk_at dksX3_load_6 15 rfl rfl)
theorem dX3_load_154 : decode cX3_load 154 = .ok (.iload_n 2, 1) := dk_28 (dk_at dksX3_load_6 18 rfl rfl)
theorem dX3_load_155 : decode cX3_load 155 = .ok (.iaload, 1) := dk_46 (dk_at dksX3_load_6 19 rfl rfl)
theorem dX3_load_156 : decode cX3_load 156 = .ok (.ireturn, 1) := dk_172 (dk_at dksX3_load_6 20 rfl rfl)
abbrev cX3_add : ByteArray := prog_10_method_14_code
def yX3_add : MethodName := ⟨RX3, "add", "(III)V"⟩
def dkwX3_add_2 : List UInt8 := [182, 0, 106, 177]
abbrev dktX3_add_2 : List UInt8 := dkwX3_add_2 ++ []
def dkwX3_add_1 : List UInt8 := [42, 180, 0, 103, 29, 79, 42, 89, 180, 0, 103, 4, 96, 181, 0, 103, 42, 42, 180, 0, 103, 4, 100]
abbrev dktX3_add_1 : List UInt8 := dkwX3_add_1 ++ dktX3_add_2
def dkwX3_add_0 : List UInt8 := [42, 180, 0, 44, 42, 180, 0, 103, 27, 79, 42, 180, 0, 47, 42, 180, 0, 103, 28, 79, 42, 180, 0, 50]
abbrev dktX3_add_0 : List UInt8 := dkwX3_add_0 ++ dktX3_add_1
theorem dksX3_add_0 : cX3_add.data.toList.drop 0 = dktX3_add_0 := by decide +kernel
theorem dksX3_add_1 : cX3_add.data.toList.drop 24 = dktX3_add_1 := dk_seg dksX3_add_0 24 rfl rfl
theorem dksX3_add_2 : cX3_add.data.toList.drop 47 = dktX3_add_2 := dk_seg dksX3_add_1 23 rfl rfl
theorem dX3_add_0 : decode cX3_add 0 = .ok (.aload_n 0, 1) := dk_42 (dk_at dksX3_add_0 0 rfl rfl)
theorem dX3_add_1 : decode cX3_add 1 = .ok (.getfield 44, 3) := dk_180 0 44 (dk_at dksX3_add_0 1 rfl rfl)
theorem dX3_add_4 : decode cX3_add 4 = .ok (.aload_n 0, 1) := dk_42 (dk_at dksX3_add_0 4 rfl rfl)
theorem dX3_add_5 : decode cX3_add 5 = .ok (.getfield 103, 3) := dk_180 0 103 (dk_at dksX3_add_0 5 rfl rfl)
theorem dX3_add_8 : decode cX3_add 8 = .ok (.iload_n 1, 1) := dk_27 (dk_at dksX3_add_0 8 rfl rfl)
theorem dX3_add_9 : decode cX3_add 9 = .ok (.iastore, 1) := dk_79 (dk_at dksX3_add_0 9 rfl rfl)
theorem dX3_add_10 : decode cX3_add 10 = .ok (.aload_n 0, 1) := dk_42 (dk_at dksX3_add_0 10 rfl rfl)
theorem dX3_add_11 : decode cX3_add 11 = .ok (.getfield 47, 3) := dk_180 0 47 (dk_at dksX3_add_0 11 rfl rfl)
theorem dX3_add_14 : decode cX3_add 14 = .ok (.aload_n 0, 1) := dk_42 (dk_at dksX3_add_0 14 rfl rfl)
theorem dX3_add_15 : decode cX3_add 15 = .ok (.getfield 103, 3) := dk_180 0 103 (dk_at dksX3_add_0 15 rfl rfl)
theorem dX3_add_18 : decode cX3_add 18 = .ok (.iload_n 2, 1) := dk_28 (dk_at dksX3_add_0 18 rfl rfl)
theorem dX3_add_19 : decode cX3_add 19 = .ok (.iastore, 1) := dk_79 (dk_at dksX3_add_0 19 rfl rfl)
theorem dX3_add_20 : decode cX3_add 20 = .ok (.aload_n 0, 1) := dk_42 (dk_at dksX3_add_0 20 rfl rfl)
theorem dX3_add_21 : decode cX3_add 21 = .ok (.getfield 50, 3) := dk_180 0 50 (dk_at dksX3_add_0 21 rfl rfl)
theorem dX3_add_24 : decode cX3_add 24 = .ok (.aload_n 0, 1) := dk_42 (dk_at dksX3_add_1 0 rfl rfl)
theorem dX3_add_25 : decode cX3_add 25 = .ok (.getfield 103, 3) := dk_180 0 103 (dk_at dksX3_add_1 1 rfl rfl)
theorem dX3_add_28 : decode cX3_add 28 = .ok (.iload_n 3, 1) := dk_29 (dk_at dksX3_add_1 4 rfl rfl)
theorem dX3_add_29 : decode cX3_add 29 = .ok (.iastore, 1) := dk_79 (dk_at dksX3_add_1 5 rfl rfl)
theorem dX3_add_30 : decode cX3_add 30 = .ok (.aload_n 0, 1) := dk_42 (dk_at dksX3_add_1 6 rfl rfl)
theorem dX3_add_31 : decode cX3_add 31 = .ok (.dup, 1) := dk_89 (dk_at dksX3_add_1 7 rfl rfl)
theorem dX3_add_32 : decode cX3_add 32 = .ok (.getfield 103, 3) := dk_180 0 103 (dk_at dksX3_add_1 8 rfl rfl)
theorem dX3_add_35 : decode cX3_add 35 = .ok (.iconst 1, 1) := dk_4 (dk_at dksX3_add_1 11 rfl rfl)
theorem dX3_add_36 : decode cX3_add 36 = .ok (.iadd, 1) := dk_96 (dk_at dksX3_add_1 12 rfl rfl)
theorem dX3_add_37 : decode cX3_add 37 = .ok (.putfield 103, 3) := dk_181 0 103 (dk_at dksX3_add_1 13 rfl rfl)
theorem dX3_add_40 : decode cX3_add 40 = .ok (.aload_n 0, 1) := dk_42 (dk_at dksX3_add_1 16 rfl rfl)
theorem dX3_add_41 : decode cX3_add 41 = .ok (.aload_n 0, 1) := dk_42 (dk_at dksX3_add_1 17 rfl rfl)
theorem dX3_add_42 : decode cX3_add 42 = .ok (.getfield 103, 3) := dk_180 0 103 (dk_at dksX3_add_1 18 rfl rfl)
theorem dX3_add_45 : decode cX3_add 45 = .ok (.iconst 1, 1) := dk_4 (dk_at dksX3_add_1 21 rfl rfl)
theorem dX3_add_46 : decode cX3_add 46 = .ok (.isub, 1) := dk_100 (dk_at dksX3_add_1 22 rfl rfl)
theorem dX3_add_47 : decode cX3_add 47 = .ok (.invokevirtual 106, 3) := dk_182 0 106 (dk_at dksX3_add_2 0 rfl rfl)
theorem dX3_add_50 : decode cX3_add 50 = .ok (.return_, 1) := dk_177 (dk_at dksX3_add_2 3 rfl rfl)
abbrev cX3_perform : ByteArray := prog_10_method_13_code
def yX3_perform : MethodName := ⟨RX3, "perform", "(I)V"⟩
def dkwX3_perform_5 : List UInt8 := [96, 42, 180, 0, 44, 27, 46, 4, 160, 0, 7, 4, 167, 0, 4, 3, 84, 177]
abbrev dktX3_perform_5 : List UInt8 := dkwX3_perform_5 ++ []
def dkwX3_perform_4 : List UInt8 := [29, 182, 0, 100, 167, 0, 37, 42, 180, 0, 53, 28, 51, 153, 0, 28, 42, 180, 0, 65, 7, 28, 104, 29]
abbrev dktX3_perform_4 : List UInt8 := dkwX3_perform_4 ++ dktX3_perform_5
def dkwX3_perform_3 : List UInt8 := [153, 0, 31, 42, 180, 0, 44, 27, 46, 7, 160, 0, 21, 42, 180, 0, 53, 29, 51, 153, 0, 46, 42, 28]
abbrev dktX3_perform_3 : List UInt8 := dkwX3_perform_3 ++ dktX3_perform_4
def dkwX3_perform_2 : List UInt8 := [160, 0, 16, 42, 180, 0, 68, 28, 92, 46, 4, 96, 79, 167, 0, 74, 42, 180, 0, 53, 28, 51]
abbrev dktX3_perform_2 : List UInt8 := dkwX3_perform_2 ++ dktX3_perform_3
def dkwX3_perform_1 : List UInt8 := [28, 182, 0, 97, 167, 0, 106, 42, 180, 0, 53, 28, 51, 153, 0, 26, 42, 180, 0, 44, 27, 46, 6]
abbrev dktX3_perform_1 : List UInt8 := dkwX3_perform_1 ++ dktX3_perform_2
def dkwX3_perform_0 : List UInt8 := [42, 180, 0, 47, 27, 46, 61, 42, 180, 0, 50, 27, 46, 62, 42, 180, 0, 44, 27, 46, 154, 0, 11, 42]
abbrev dktX3_perform_0 : List UInt8 := dkwX3_perform_0 ++ dktX3_perform_1
theorem dksX3_perform_0 : cX3_perform.data.toList.drop 0 = dktX3_perform_0 := by decide +kernel
theorem dksX3_perform_1 : cX3_perform.data.toList.drop 24 = dktX3_perform_1 := dk_seg dksX3_perform_0 24 rfl rfl
theorem dksX3_perform_2 : cX3_perform.data.toList.drop 47 = dktX3_perform_2 := dk_seg dksX3_perform_1 23 rfl rfl
theorem dksX3_perform_3 : cX3_perform.data.toList.drop 69 = dktX3_perform_3 := dk_seg dksX3_perform_2 22 rfl rfl
theorem dksX3_perform_4 : cX3_perform.data.toList.drop 93 = dktX3_perform_4 := dk_seg dksX3_perform_3 24 rfl rfl
theorem dksX3_perform_5 : cX3_perform.data.toList.drop 117 = dktX3_perform_5 := dk_seg dksX3_perform_4 24 rfl rfl
theorem dX3_perform_0 : decode cX3_perform 0 = .ok (.aload_n 0, 1) := dk_42 (dk_at dksX3_perform_0 0 rfl rfl)
theorem dX3_perform_1 : decode cX3_perform 1 = .ok (.getfield 47, 3) := dk_180 0 47 (dk_at dksX3_perform_0 1 rfl rfl)
theorem dX3_perform_4 : decode cX3_perform 4 = .ok (.iload_n 1, 1) := dk_27 (dk_at dksX3_perform_0 4 rfl rfl)
theorem dX3_perform_5 : decode cX3_perform 5 = .ok (.iaload, 1) := dk_46 (dk_at dksX3_perform_0 5 rfl rfl)
theorem dX3_perform_6 : decode cX3_perform 6 = .ok (.istore_n 2, 1) := dk_61 (dk_at dksX3_perform_0 6 rfl rfl)
theorem dX3_perform_7 : decode cX3_perform 7 = .ok (.aload_n 0, 1) := dk_42 (dk_at dksX3_perform_0 7 rfl rfl)
theorem dX3_perform_8 : decode cX3_perform 8 = .ok (.getfield 50, 3) := dk_180 0 50 (dk_at dksX3_perform_0 8 rfl rfl)
theorem dX3_perform_11 : decode cX3_perform 11 = .ok (.iload_n 1, 1) := dk_27 (dk_at dksX3_perform_0 11 rfl rfl)
theorem dX3_perform_12 : decode cX3_perform 12 = .ok (.iaload, 1) := dk_46 (dk_at dksX3_perform_0 12 rfl rfl)
theorem dX3_perform_13 : decode cX3_perform 13 = .ok (.istore_n 3, 1) := dk_62 (dk_at dksX3_perform_0 13 rfl rfl)
theorem dX3_perform_14 : decode cX3_perform 14 = .ok (.aload_n 0, 1) := dk_42 (dk_at dksX3_perform_0 14 rfl rfl)
theorem dX3_perform_15 : decode cX3_perform 15 = .ok (.getfield 44, 3) := dk_180 0 44 (dk_at dksX3_perform_0 15 rfl rfl)
theorem dX3_perform_18 : decode cX3_perform 18 = .ok (.iload_n 1, 1) := dk_27 (dk_at dksX3_perform_0 18 rfl rfl)
theorem dX3_perform_19 : decode cX3_perform 19 = .ok (.iaload, 1) := dk_46 (dk_at dksX3_perform_0 19 rfl rfl)
theorem dX3_perform_20 : decode cX3_perform 20 = .ok (.ifCond .ne 11, 3) := dk_154 0 11 (dk_at dksX3_perform_0 20 rfl rfl)
theorem dX3_perform_23 : decode cX3_perform 23 = .ok (.aload_n 0, 1) := dk_42 (dk_at dksX3_perform_0 23 rfl rfl)
theorem dX3_perform_24 : decode cX3_perform 24 = .ok (.iload_n 2, 1) := dk_28 (dk_at dksX3_perform_1 0 rfl rfl)
theorem dX3_perform_25 : decode cX3_perform 25 = .ok (.invokevirtual 97, 3) := dk_182 0 97 (dk_at dksX3_perform_1 1 rfl rfl)
theorem dX3_perform_28 : decode cX3_perform 28 = .ok (.goto 106, 3) := dk_167 0 106 (dk_at dksX3_perform_1 4 rfl rfl)
theorem dX3_perform_31 : decode cX3_perform 31 = .ok (.aload_n 0, 1) := dk_42 (dk_at dksX3_perform_1 7 rfl rfl)
theorem dX3_perform_32 : decode cX3_perform 32 = .ok (.getfield 53, 3) := dk_180 0 53 (dk_at dksX3_perform_1 8 rfl rfl)
theorem dX3_perform_35 : decode cX3_perform 35 = .ok (.iload_n 2, 1) := dk_28 (dk_at dksX3_perform_1 11 rfl rfl)
theorem dX3_perform_36 : decode cX3_perform 36 = .ok (.baload, 1) := dk_51 (dk_at dksX3_perform_1 12 rfl rfl)
theorem dX3_perform_37 : decode cX3_perform 37 = .ok (.ifCond .eq 26, 3) := dk_153 0 26 (dk_at dksX3_perform_1 13 rfl rfl)
theorem dX3_perform_40 : decode cX3_perform 40 = .ok (.aload_n 0, 1) := dk_42 (dk_at dksX3_perform_1 16 rfl rfl)
theorem dX3_perform_41 : decode cX3_perform 41 = .ok (.getfield 44, 3) := dk_180 0 44 (dk_at dksX3_perform_1 17 rfl rfl)
theorem dX3_perform_44 : decode cX3_perform 44 = .ok (.iload_n 1, 1) := dk_27 (dk_at dksX3_perform_1 20 rfl rfl)
theorem dX3_perform_45 : decode cX3_perform 45 = .ok (.iaload, 1) := dk_46 (dk_at dksX3_perform_1 21 rfl rfl)
theorem dX3_perform_46 : decode cX3_perform 46 = .ok (.iconst 3, 1) := dk_6 (dk_at dksX3_perform_1 22 rfl rfl)
theorem dX3_perform_47 : decode cX3_perform 47 = .ok (.if_icmp .ne 16, 3) := dk_160 0 16 (dk_at dksX3_perform_2 0 rfl rfl)
theorem dX3_perform_50 : decode cX3_perform 50 = .ok (.aload_n 0, 1) := dk_42 (dk_at dksX3_perform_2 3 rfl rfl)
theorem dX3_perform_51 : decode cX3_perform 51 = .ok (.getfield 68, 3) := dk_180 0 68 (dk_at dksX3_perform_2 4 rfl rfl)
theorem dX3_perform_54 : decode cX3_perform 54 = .ok (.iload_n 2, 1) := dk_28 (dk_at dksX3_perform_2 7 rfl rfl)
theorem dX3_perform_55 : decode cX3_perform 55 = .ok (.dup2, 1) := dk_92 (dk_at dksX3_perform_2 8 rfl rfl)
theorem dX3_perform_56 : decode cX3_perform 56 = .ok (.iaload, 1) := dk_46 (dk_at dksX3_perform_2 9 rfl rfl)
theorem dX3_perform_57 : decode cX3_perform 57 = .ok (.iconst 1, 1) := dk_4 (dk_at dksX3_perform_2 10 rfl rfl)
theorem dX3_perform_58 : decode cX3_perform 58 = .ok (.iadd, 1) := dk_96 (dk_at dksX3_perform_2 11 rfl rfl)
theorem dX3_perform_59 : decode cX3_perform 59 = .ok (.iastore, 1) := dk_79 (dk_at dksX3_perform_2 12 rfl rfl)
theorem dX3_perform_60 : decode cX3_perform 60 = .ok (.goto 74, 3) := dk_167 0 74 (dk_at dksX3_perform_2 13 rfl rfl)
theorem dX3_perform_63 : decode cX3_perform 63 = .ok (.aload_n 0, 1) := dk_42 (dk_at dksX3_perform_2 16 rfl rfl)
theorem dX3_perform_64 : decode cX3_perform 64 = .ok (.getfield 53, 3) := dk_180 0 53 (dk_at dksX3_perform_2 17 rfl rfl)
theorem dX3_perform_67 : decode cX3_perform 67 = .ok (.iload_n 2, 1) := dk_28 (dk_at dksX3_perform_2 20 rfl rfl)
theorem dX3_perform_68 : decode cX3_perform 68 = .ok (.baload, 1) := dk_51 (dk_at dksX3_perform_2 21 rfl rfl)
theorem dX3_perform_69 : decode cX3_perform 69 = .ok (.ifCond .eq 31, 3) := dk_153 0 31 (dk_at dksX3_perform_3 0 rfl rfl)
theorem dX3_perform_72 : decode cX3_perform 72 = .ok (.aload_n 0, 1) := dk_42 (dk_at dksX3_perform_3 3 rfl rfl)
theorem dX3_perform_73 : decode cX3_perform 73 = .ok (.getfield 44, 3) := dk_180 0 44 (dk_at dksX3_perform_3 4 rfl rfl)
theorem dX3_perform_76 : decode cX3_perform 76 = .ok (.iload_n 1, 1) := dk_27 (dk_at dksX3_perform_3 7 rfl rfl)
theorem dX3_perform_77 : decode cX3_perform 77 = .ok (.iaload, 1) := dk_46 (dk_at dksX3_perform_3 8 rfl rfl)
theorem dX3_perform_78 : decode cX3_perform 78 = .ok (.iconst 4, 1) := dk_7 (dk_at dksX3_perform_3 9 rfl rfl)
theorem dX3_perform_79 : decode cX3_perform 79 = .ok (.if_icmp .ne 21, 3) := dk_160 0 21 (dk_at dksX3_perform_3 10 rfl rfl)
theorem dX3_perform_82 : decode cX3_perform 82 = .ok (.aload_n 0, 1) := dk_42 (dk_at dksX3_perform_3 13 rfl rfl)
theorem dX3_perform_83 : decode cX3_perform 83 = .ok (.getfield 53, 3) := dk_180 0 53 (dk_at dksX3_perform_3 14 rfl rfl)
theorem dX3_perform_86 : decode cX3_perform 86 = .ok (.iload_n 3, 1) := dk_29 (dk_at dksX3_perform_3 17 rfl rfl)
theorem dX3_perform_87 : decode cX3_perform 87 = .ok (.baload, 1) := dk_51 (dk_at dksX3_perform_3 18 rfl rfl)
theorem dX3_perform_88 : decode cX3_perform 88 = .ok (.ifCond .eq 46, 3) := dk_153 0 46 (dk_at dksX3_perform_3 19 rfl rfl)
theorem dX3_perform_91 : decode cX3_perform 91 = .ok (.aload_n 0, 1) := dk_42 (dk_at dksX3_perform_3 22 rfl rfl)
theorem dX3_perform_92 : decode cX3_perform 92 = .ok (.iload_n 2, 1) := dk_28 (dk_at dksX3_perform_3 23 rfl rfl)
theorem dX3_perform_93 : decode cX3_perform 93 = .ok (.iload_n 3, 1) := dk_29 (dk_at dksX3_perform_4 0 rfl rfl)
theorem dX3_perform_94 : decode cX3_perform 94 = .ok (.invokevirtual 100, 3) := dk_182 0 100 (dk_at dksX3_perform_4 1 rfl rfl)
theorem dX3_perform_97 : decode cX3_perform 97 = .ok (.goto 37, 3) := dk_167 0 37 (dk_at dksX3_perform_4 4 rfl rfl)
theorem dX3_perform_100 : decode cX3_perform 100 = .ok (.aload_n 0, 1) := dk_42 (dk_at dksX3_perform_4 7 rfl rfl)
theorem dX3_perform_101 : decode cX3_perform 101 = .ok (.getfield 53, 3) := dk_180 0 53 (dk_at dksX3_perform_4 8 rfl rfl)
theorem dX3_perform_104 : decode cX3_perform 104 = .ok (.iload_n 2, 1) := dk_28 (dk_at dksX3_perform_4 11 rfl rfl)
theorem dX3_perform_105 : decode cX3_perform 105 = .ok (.baload, 1) := dk_51 (dk_at dksX3_perform_4 12 rfl rfl)
theorem dX3_perform_106 : decode cX3_perform 106 = .ok (.ifCond .eq 28, 3) := dk_153 0 28 (dk_at dksX3_perform_4 13 rfl rfl)
theorem dX3_perform_109 : decode cX3_perform 109 = .ok (.aload_n 0, 1) := dk_42 (dk_at dksX3_perform_4 16 rfl rfl)
theorem dX3_perform_110 : decode cX3_perform 110 = .ok (.getfield 65, 3) := dk_180 0 65 (dk_at dksX3_perform_4 17 rfl rfl)
theorem dX3_perform_113 : decode cX3_perform 113 = .ok (.iconst 4, 1) := dk_7 (dk_at dksX3_perform_4 20 rfl rfl)
theorem dX3_perform_114 : decode cX3_perform 114 = .ok (.iload_n 2, 1) := dk_28 (dk_at dksX3_perform_4 21 rfl rfl)
theorem dX3_perform_115 : decode cX3_perform 115 = .ok (.imul, 1) := dk_104 (dk_at dksX3_perform_4 22 rfl rfl)
theorem dX3_perform_116 : decode cX3_perform 116 = .ok (.iload_n 3, 1) := dk_29 (dk_at dksX3_perform_4 23 rfl rfl)
theorem dX3_perform_117 : decode cX3_perform 117 = .ok (.iadd, 1) := dk_96 (dk_at dksX3_perform_5 0 rfl rfl)
theorem dX3_perform_118 : decode cX3_perform 118 = .ok (.aload_n 0, 1) := dk_42 (dk_at dksX3_perform_5 1 rfl rfl)
theorem dX3_perform_119 : decode cX3_perform 119 = .ok (.getfield 44, 3) := dk_180 0 44 (dk_at dksX3_perform_5 2 rfl rfl)
theorem dX3_perform_122 : decode cX3_perform 122 = .ok (.iload_n 1, 1) := dk_27 (dk_at dksX3_perform_5 5 rfl rfl)
theorem dX3_perform_123 : decode cX3_perform 123 = .ok (.iaload, 1) := dk_46 (dk_at dksX3_perform_5 6 rfl rfl)
theorem dX3_perform_124 : decode cX3_perform 124 = .ok (.iconst 1, 1) := dk_4 (dk_at dksX3_perform_5 7 rfl rfl)
theorem dX3_perform_125 : decode cX3_perform 125 = .ok (.if_icmp .ne 7, 3) := dk_160 0 7 (dk_at dksX3_perform_5 8 rfl rfl)
theorem dX3_perform_128 : decode cX3_perform 128 = .ok (.iconst 1, 1) := dk_4 (dk_at dksX3_perform_5 11 rfl rfl)
theorem dX3_perform_129 : decode cX3_perform 129 = .ok (.goto 4, 3) := dk_167 0 4 (dk_at dksX3_perform_5 12 rfl rfl)
theorem dX3_perform_132 : decode cX3_perform 132 = .ok (.iconst 0, 1) := dk_3 (dk_at dksX3_perform_5 15 rfl rfl)
theorem dX3_perform_133 : decode cX3_perform 133 = .ok (.bastore, 1) := dk_84 (dk_at dksX3_perform_5 16 rfl rfl)
theorem dX3_perform_134 : decode cX3_perform 134 = .ok (.return_, 1) := dk_177 (dk_at dksX3_perform_5 17 rfl rfl)
abbrev cX3_doLoad : ByteArray := prog_10_method_11_code
def yX3_doLoad : MethodName := ⟨RX3, "doLoad", "(I)V"⟩
def dkwX3_doLoad_2 : List UInt8 := [42, 180, 0, 41, 27, 28, 79, 28, 16, 254, 159, 0, 9, 42, 27, 28, 182, 0, 93, 177]
abbrev dktX3_doLoad_2 : List UInt8 := dkwX3_doLoad_2 ++ []
def dkwX3_doLoad_1 : List UInt8 := [182, 0, 85, 61, 28, 2, 160, 0, 18, 42, 27, 182, 0, 89, 42, 180, 0, 41, 27, 27, 79, 167, 0, 22]
abbrev dktX3_doLoad_1 : List UInt8 := dkwX3_doLoad_1 ++ dktX3_doLoad_2
def dkwX3_doLoad_0 : List UInt8 := [42, 180, 0, 25, 42, 180, 0, 29, 27, 46, 51, 153, 0, 11, 42, 180, 0, 41, 27, 2, 79, 177, 42, 27]
abbrev dktX3_doLoad_0 : List UInt8 := dkwX3_doLoad_0 ++ dktX3_doLoad_1
theorem dksX3_doLoad_0 : cX3_doLoad.data.toList.drop 0 = dktX3_doLoad_0 := by decide +kernel
theorem dksX3_doLoad_1 : cX3_doLoad.data.toList.drop 24 = dktX3_doLoad_1 := dk_seg dksX3_doLoad_0 24 rfl rfl
theorem dksX3_doLoad_2 : cX3_doLoad.data.toList.drop 48 = dktX3_doLoad_2 := dk_seg dksX3_doLoad_1 24 rfl rfl
theorem dX3_doLoad_0 : decode cX3_doLoad 0 = .ok (.aload_n 0, 1) := dk_42 (dk_at dksX3_doLoad_0 0 rfl rfl)
theorem dX3_doLoad_1 : decode cX3_doLoad 1 = .ok (.getfield 25, 3) := dk_180 0 25 (dk_at dksX3_doLoad_0 1 rfl rfl)
theorem dX3_doLoad_4 : decode cX3_doLoad 4 = .ok (.aload_n 0, 1) := dk_42 (dk_at dksX3_doLoad_0 4 rfl rfl)
theorem dX3_doLoad_5 : decode cX3_doLoad 5 = .ok (.getfield 29, 3) := dk_180 0 29 (dk_at dksX3_doLoad_0 5 rfl rfl)
theorem dX3_doLoad_8 : decode cX3_doLoad 8 = .ok (.iload_n 1, 1) := dk_27 (dk_at dksX3_doLoad_0 8 rfl rfl)
theorem dX3_doLoad_9 : decode cX3_doLoad 9 = .ok (.iaload, 1) := dk_46 (dk_at dksX3_doLoad_0 9 rfl rfl)
theorem dX3_doLoad_10 : decode cX3_doLoad 10 = .ok (.baload, 1) := dk_51 (dk_at dksX3_doLoad_0 10 rfl rfl)
theorem dX3_doLoad_11 : decode cX3_doLoad 11 = .ok (.ifCond .eq 11, 3) := dk_153 0 11 (dk_at dksX3_doLoad_0 11 rfl rfl)
theorem dX3_doLoad_14 : decode cX3_doLoad 14 = .ok (.aload_n 0, 1) := dk_42 (dk_at dksX3_doLoad_0 14 rfl rfl)
theorem dX3_doLoad_15 : decode cX3_doLoad 15 = .ok (.getfield 41, 3) := dk_180 0 41 (dk_at dksX3_doLoad_0 15 rfl rfl)
theorem dX3_doLoad_18 : decode cX3_doLoad 18 = .ok (.iload_n 1, 1) := dk_27 (dk_at dksX3_doLoad_0 18 rfl rfl)
theorem dX3_doLoad_19 : decode cX3_doLoad 19 = .ok (.iconst (-1), 1) := dk_2 (dk_at dksX3_doLoad_0 19 rfl rfl)
theorem dX3_doLoad_20 : decode cX3_doLoad 20 = .ok (.iastore, 1) := dk_79 (dk_at dksX3_doLoad_0 20 rfl rfl)
theorem dX3_doLoad_21 : decode cX3_doLoad 21 = .ok (.return_, 1) := dk_177 (dk_at dksX3_doLoad_0 21 rfl rfl)
theorem dX3_doLoad_22 : decode cX3_doLoad 22 = .ok (.aload_n 0, 1) := dk_42 (dk_at dksX3_doLoad_0 22 rfl rfl)
theorem dX3_doLoad_23 : decode cX3_doLoad 23 = .ok (.iload_n 1, 1) := dk_27 (dk_at dksX3_doLoad_0 23 rfl rfl)
theorem dX3_doLoad_24 : decode cX3_doLoad 24 = .ok (.invokevirtual 85, 3) := dk_182 0 85 (dk_at dksX3_doLoad_1 0 rfl rfl)
theorem dX3_doLoad_27 : decode cX3_doLoad 27 = .ok (.istore_n 2, 1) := dk_61 (dk_at dksX3_doLoad_1 3 rfl rfl)
theorem dX3_doLoad_28 : decode cX3_doLoad 28 = .ok (.iload_n 2, 1) := dk_28 (dk_at dksX3_doLoad_1 4 rfl rfl)
theorem dX3_doLoad_29 : decode cX3_doLoad 29 = .ok (.iconst (-1), 1) := dk_2 (dk_at dksX3_doLoad_1 5 rfl rfl)
theorem dX3_doLoad_30 : decode cX3_doLoad 30 = .ok (.if_icmp .ne 18, 3) := dk_160 0 18 (dk_at dksX3_doLoad_1 6 rfl rfl)
theorem dX3_doLoad_33 : decode cX3_doLoad 33 = .ok (.aload_n 0, 1) := dk_42 (dk_at dksX3_doLoad_1 9 rfl rfl)
theorem dX3_doLoad_34 : decode cX3_doLoad 34 = .ok (.iload_n 1, 1) := dk_27 (dk_at dksX3_doLoad_1 10 rfl rfl)
theorem dX3_doLoad_35 : decode cX3_doLoad 35 = .ok (.invokevirtual 89, 3) := dk_182 0 89 (dk_at dksX3_doLoad_1 11 rfl rfl)
theorem dX3_doLoad_38 : decode cX3_doLoad 38 = .ok (.aload_n 0, 1) := dk_42 (dk_at dksX3_doLoad_1 14 rfl rfl)
theorem dX3_doLoad_39 : decode cX3_doLoad 39 = .ok (.getfield 41, 3) := dk_180 0 41 (dk_at dksX3_doLoad_1 15 rfl rfl)
theorem dX3_doLoad_42 : decode cX3_doLoad 42 = .ok (.iload_n 1, 1) := dk_27 (dk_at dksX3_doLoad_1 18 rfl rfl)
theorem dX3_doLoad_43 : decode cX3_doLoad 43 = .ok (.iload_n 1, 1) := dk_27 (dk_at dksX3_doLoad_1 19 rfl rfl)
theorem dX3_doLoad_44 : decode cX3_doLoad 44 = .ok (.iastore, 1) := dk_79 (dk_at dksX3_doLoad_1 20 rfl rfl)
theorem dX3_doLoad_45 : decode cX3_doLoad 45 = .ok (.goto 22, 3) := dk_167 0 22 (dk_at dksX3_doLoad_1 21 rfl rfl)
theorem dX3_doLoad_48 : decode cX3_doLoad 48 = .ok (.aload_n 0, 1) := dk_42 (dk_at dksX3_doLoad_2 0 rfl rfl)
theorem dX3_doLoad_49 : decode cX3_doLoad 49 = .ok (.getfield 41, 3) := dk_180 0 41 (dk_at dksX3_doLoad_2 1 rfl rfl)
theorem dX3_doLoad_52 : decode cX3_doLoad 52 = .ok (.iload_n 1, 1) := dk_27 (dk_at dksX3_doLoad_2 4 rfl rfl)
theorem dX3_doLoad_53 : decode cX3_doLoad 53 = .ok (.iload_n 2, 1) := dk_28 (dk_at dksX3_doLoad_2 5 rfl rfl)
theorem dX3_doLoad_54 : decode cX3_doLoad 54 = .ok (.iastore, 1) := dk_79 (dk_at dksX3_doLoad_2 6 rfl rfl)
theorem dX3_doLoad_55 : decode cX3_doLoad 55 = .ok (.iload_n 2, 1) := dk_28 (dk_at dksX3_doLoad_2 7 rfl rfl)
theorem dX3_doLoad_56 : decode cX3_doLoad 56 = .ok (.bipush (-2), 2) := dk_16 254 (dk_at dksX3_doLoad_2 8 rfl rfl)
theorem dX3_doLoad_58 : decode cX3_doLoad 58 = .ok (.if_icmp .eq 9, 3) := dk_159 0 9 (dk_at dksX3_doLoad_2 10 rfl rfl)
theorem dX3_doLoad_61 : decode cX3_doLoad 61 = .ok (.aload_n 0, 1) := dk_42 (dk_at dksX3_doLoad_2 13 rfl rfl)
theorem dX3_doLoad_62 : decode cX3_doLoad 62 = .ok (.iload_n 1, 1) := dk_27 (dk_at dksX3_doLoad_2 14 rfl rfl)
theorem dX3_doLoad_63 : decode cX3_doLoad 63 = .ok (.iload_n 2, 1) := dk_28 (dk_at dksX3_doLoad_2 15 rfl rfl)
theorem dX3_doLoad_64 : decode cX3_doLoad 64 = .ok (.invokevirtual 93, 3) := dk_182 0 93 (dk_at dksX3_doLoad_2 16 rfl rfl)
theorem dX3_doLoad_67 : decode cX3_doLoad 67 = .ok (.return_, 1) := dk_177 (dk_at dksX3_doLoad_2 19 rfl rfl)
abbrev cX3_match : ByteArray := prog_10_method_10_code
def yX3_match : MethodName := ⟨RX3, "match", "(I)I"⟩
def dkwX3_match_4 : List UInt8 := [160, 0, 8, 21, 5, 167, 0, 5, 16, 254, 172, 132, 2, 1, 167, 255, 149, 2, 172]
abbrev dktX3_match_4 : List UInt8 := dkwX3_match_4 ++ []
def dkwX3_match_3 : List UInt8 := [160, 0, 10, 132, 4, 1, 21, 6, 54, 5, 132, 6, 1, 167, 255, 204, 21, 4, 158, 0, 17, 21, 4, 4]
abbrev dktX3_match_3 : List UInt8 := dkwX3_match_3 ++ dktX3_match_4
def dkwX3_match_2 : List UInt8 := [21, 6, 51, 153, 0, 30, 42, 180, 0, 56, 6, 21, 6, 104, 42, 180, 0, 16, 28, 46, 96, 46, 29]
abbrev dktX3_match_2 : List UInt8 := dkwX3_match_2 ++ dktX3_match_3
def dkwX3_match_1 : List UInt8 := [54, 4, 2, 54, 5, 3, 54, 6, 21, 6, 16, 80, 162, 0, 51, 29, 2, 159, 0, 46, 42, 180, 0, 53]
abbrev dktX3_match_1 : List UInt8 := dkwX3_match_1 ++ dktX3_match_2
def dkwX3_match_0 : List UInt8 := [3, 61, 28, 6, 162, 0, 108, 42, 180, 0, 35, 6, 27, 104, 42, 180, 0, 16, 28, 46, 96, 46, 62, 3]
abbrev dktX3_match_0 : List UInt8 := dkwX3_match_0 ++ dktX3_match_1
theorem dksX3_match_0 : cX3_match.data.toList.drop 0 = dktX3_match_0 := by decide +kernel
theorem dksX3_match_1 : cX3_match.data.toList.drop 24 = dktX3_match_1 := dk_seg dksX3_match_0 24 rfl rfl
theorem dksX3_match_2 : cX3_match.data.toList.drop 48 = dktX3_match_2 := dk_seg dksX3_match_1 24 rfl rfl
theorem dksX3_match_3 : cX3_match.data.toList.drop 71 = dktX3_match_3 := dk_seg dksX3_match_2 23 rfl rfl
theorem dksX3_match_4 : cX3_match.data.toList.drop 95 = dktX3_match_4 := dk_seg dksX3_match_3 24 rfl rfl
theorem dX3_match_0 : decode cX3_match 0 = .ok (.iconst 0, 1) := dk_3 (dk_at dksX3_match_0 0 rfl rfl)
theorem dX3_match_1 : decode cX3_match 1 = .ok (.istore_n 2, 1) := dk_61 (dk_at dksX3_match_0 1 rfl rfl)
theorem dX3_match_2 : decode cX3_match 2 = .ok (.iload_n 2, 1) := dk_28 (dk_at dksX3_match_0 2 rfl rfl)
theorem dX3_match_3 : decode cX3_match 3 = .ok (.iconst 3, 1) := dk_6 (dk_at dksX3_match_0 3 rfl rfl)
theorem dX3_match_4 : decode cX3_match 4 = .ok (.if_icmp .ge 108, 3) := dk_162 0 108 (dk_at dksX3_match_0 4 rfl rfl)
theorem dX3_match_7 : decode cX3_match 7 = .ok (.aload_n 0, 1) := dk_42 (dk_at dksX3_match_0 7 rfl rfl)
theorem dX3_match_8 : decode cX3_match 8 = .ok (.getfield 35, 3) := dk_180 0 35 (dk_at dksX3_match_0 8 rfl rfl)
theorem dX3_match_11 : decode cX3_match 11 = .ok (.iconst 3, 1) := dk_6 (dk_at dksX3_match_0 11 rfl rfl)
theorem dX3_match_12 : decode cX3_match 12 = .ok (.iload_n 1, 1) := dk_27 (dk_at dksX3_match_0 12 rfl rfl)
theorem dX3_match_13 : decode cX3_match 13 = .ok (.imul, 1) := dk_104 (dk_at dksX3_match_0 13 rfl rfl)
theorem dX3_match_14 : decode cX3_match 14 = .ok (.aload_n 0, 1) := dk_42 (dk_at dksX3_match_0 14 rfl rfl)
theorem dX3_match_15 : decode cX3_match 15 = .ok (.getfield 16, 3) := dk_180 0 16 (dk_at dksX3_match_0 15 rfl rfl)
theorem dX3_match_18 : decode cX3_match 18 = .ok (.iload_n 2, 1) := dk_28 (dk_at dksX3_match_0 18 rfl rfl)
theorem dX3_match_19 : decode cX3_match 19 = .ok (.iaload, 1) := dk_46 (dk_at dksX3_match_0 19 rfl rfl)
theorem dX3_match_20 : decode cX3_match 20 = .ok (.iadd, 1) := dk_96 (dk_at dksX3_match_0 20 rfl rfl)
theorem dX3_match_21 : decode cX3_match 21 = .ok (.iaload, 1) := dk_46 (dk_at dksX3_match_0 21 rfl rfl)
theorem dX3_match_22 : decode cX3_match 22 = .ok (.istore_n 3, 1) := dk_62 (dk_at dksX3_match_0 22 rfl rfl)
theorem dX3_match_23 : decode cX3_match 23 = .ok (.iconst 0, 1) := dk_3 (dk_at dksX3_match_0 23 rfl rfl)
theorem dX3_match_24 : decode cX3_match 24 = .ok (.istore 4, 2) := dk_54 4 (dk_at dksX3_match_1 0 rfl rfl)
theorem dX3_match_26 : decode cX3_match 26 = .ok (.iconst (-1), 1) := dk_2 (dk_at dksX3_match_1 2 rfl rfl)
theorem dX3_match_27 : decode cX3_match 27 = .ok (.istore 5, 2) := dk_54 5 (dk_at dksX3_match_1 3 rfl rfl)
theorem dX3_match_29 : decode cX3_match 29 = .ok (.iconst 0, 1) := dk_3 (dk_at dksX3_match_1 5 rfl rfl)
theorem dX3_match_30 : decode cX3_match 30 = .ok (.istore 6, 2) := dk_54 6 (dk_at dksX3_match_1 6 rfl rfl)
theorem dX3_match_32 : decode cX3_match 32 = .ok (.iload 6, 2) := dk_21 6 (dk_at dksX3_match_1 8 rfl rfl)
theorem dX3_match_34 : decode cX3_match 34 = .ok (.bipush 80, 2) := dk_16 80 (dk_at dksX3_match_1 10 rfl rfl)
theorem dX3_match_36 : decode cX3_match 36 = .ok (.if_icmp .ge 51, 3) := dk_162 0 51 (dk_at dksX3_match_1 12 rfl rfl)
theorem dX3_match_39 : decode cX3_match 39 = .ok (.iload_n 3, 1) := dk_29 (dk_at dksX3_match_1 15 rfl rfl)
theorem dX3_match_40 : decode cX3_match 40 = .ok (.iconst (-1), 1) := dk_2 (dk_at dksX3_match_1 16 rfl rfl)
theorem dX3_match_41 : decode cX3_match 41 = .ok (.if_icmp .eq 46, 3) := dk_159 0 46 (dk_at dksX3_match_1 17 rfl rfl)
theorem dX3_match_44 : decode cX3_match 44 = .ok (.aload_n 0, 1) := dk_42 (dk_at dksX3_match_1 20 rfl rfl)
theorem dX3_match_45 : decode cX3_match 45 = .ok (.getfield 53, 3) := dk_180 0 53 (dk_at dksX3_match_1 21 rfl rfl)
theorem dX3_match_48 : decode cX3_match 48 = .ok (.iload 6, 2) := dk_21 6 (dk_at dksX3_match_2 0 rfl rfl)
theorem dX3_match_50 : decode cX3_match 50 = .ok (.baload, 1) := dk_51 (dk_at dksX3_match_2 2 rfl rfl)
theorem dX3_match_51 : decode cX3_match 51 = .ok (.ifCond .eq 30, 3) := dk_153 0 30 (dk_at dksX3_match_2 3 rfl rfl)
theorem dX3_match_54 : decode cX3_match 54 = .ok (.aload_n 0, 1) := dk_42 (dk_at dksX3_match_2 6 rfl rfl)
theorem dX3_match_55 : decode cX3_match 55 = .ok (.getfield 56, 3) := dk_180 0 56 (dk_at dksX3_match_2 7 rfl rfl)
theorem dX3_match_58 : decode cX3_match 58 = .ok (.iconst 3, 1) := dk_6 (dk_at dksX3_match_2 10 rfl rfl)
theorem dX3_match_59 : decode cX3_match 59 = .ok (.iload 6, 2) := dk_21 6 (dk_at dksX3_match_2 11 rfl rfl)
theorem dX3_match_61 : decode cX3_match 61 = .ok (.imul, 1) := dk_104 (dk_at dksX3_match_2 13 rfl rfl)
theorem dX3_match_62 : decode cX3_match 62 = .ok (.aload_n 0, 1) := dk_42 (dk_at dksX3_match_2 14 rfl rfl)
theorem dX3_match_63 : decode cX3_match 63 = .ok (.getfield 16, 3) := dk_180 0 16 (dk_at dksX3_match_2 15 rfl rfl)
theorem dX3_match_66 : decode cX3_match 66 = .ok (.iload_n 2, 1) := dk_28 (dk_at dksX3_match_2 18 rfl rfl)
theorem dX3_match_67 : decode cX3_match 67 = .ok (.iaload, 1) := dk_46 (dk_at dksX3_match_2 19 rfl rfl)
theorem dX3_match_68 : decode cX3_match 68 = .ok (.iadd, 1) := dk_96 (dk_at dksX3_match_2 20 rfl rfl)
theorem dX3_match_69 : decode cX3_match 69 = .ok (.iaload, 1) := dk_46 (dk_at dksX3_match_2 21 rfl rfl)
theorem dX3_match_70 : decode cX3_match 70 = .ok (.iload_n 3, 1) := dk_29 (dk_at dksX3_match_2 22 rfl rfl)
theorem dX3_match_71 : decode cX3_match 71 = .ok (.if_icmp .ne 10, 3) := dk_160 0 10 (dk_at dksX3_match_3 0 rfl rfl)
theorem dX3_match_74 : decode cX3_match 74 = .ok (.iinc 4 1, 3) := dk_132 4 1 (dk_at dksX3_match_3 3 rfl rfl)
theorem dX3_match_77 : decode cX3_match 77 = .ok (.iload 6, 2) := dk_21 6 (dk_at dksX3_match_3 6 rfl rfl)
theorem dX3_match_79 : decode cX3_match 79 = .ok (.istore 5, 2) := dk_54 5 (dk_at dksX3_match_3 8 rfl rfl)
theorem dX3_match_81 : decode cX3_match 81 = .ok (.iinc 6 1, 3) := dk_132 6 1 (dk_at dksX3_match_3 10 rfl rfl)
theorem dX3_match_84 : decode cX3_match 84 = .ok (.goto (-52), 3) := dk_167 255 204 (dk_at dksX3_match_3 13 rfl rfl)
theorem dX3_match_87 : decode cX3_match 87 = .ok (.iload 4, 2) := dk_21 4 (dk_at dksX3_match_3 16 rfl rfl)
theorem dX3_match_89 : decode cX3_match 89 = .ok (.ifCond .le 17, 3) := dk_158 0 17 (dk_at dksX3_match_3 18 rfl rfl)
theorem dX3_match_92 : decode cX3_match 92 = .ok (.iload 4, 2) := dk_21 4 (dk_at dksX3_match_3 21 rfl rfl)
theorem dX3_match_94 : decode cX3_match 94 = .ok (.iconst 1, 1) := dk_4 (dk_at dksX3_match_3 23 rfl rfl)
theorem dX3_match_95 : decode cX3_match 95 = .ok (.if_icmp .ne 8, 3) := dk_160 0 8 (dk_at dksX3_match_4 0 rfl rfl)
theorem dX3_match_98 : decode cX3_match 98 = .ok (.iload 5, 2) := dk_21 5 (dk_at dksX3_match_4 3 rfl rfl)
theorem dX3_match_100 : decode cX3_match 100 = .ok (.goto 5, 3) := dk_167 0 5 (dk_at dksX3_match_4 5 rfl rfl)
theorem dX3_match_103 : decode cX3_match 103 = .ok (.bipush (-2), 2) := dk_16 254 (dk_at dksX3_match_4 8 rfl rfl)
theorem dX3_match_105 : decode cX3_match 105 = .ok (.ireturn, 1) := dk_172 (dk_at dksX3_match_4 10 rfl rfl)
theorem dX3_match_106 : decode cX3_match 106 = .ok (.iinc 2 1, 3) := dk_132 2 1 (dk_at dksX3_match_4 11 rfl rfl)
theorem dX3_match_109 : decode cX3_match 109 = .ok (.goto (-107), 3) := dk_167 255 149 (dk_at dksX3_match_4 14 rfl rfl)
theorem dX3_match_112 : decode cX3_match 112 = .ok (.iconst (-1), 1) := dk_2 (dk_at dksX3_match_4 17 rfl rfl)
theorem dX3_match_113 : decode cX3_match 113 = .ok (.ireturn, 1) := dk_172 (dk_at dksX3_match_4 18 rfl rfl)
abbrev cX3_makeRecord : ByteArray := prog_10_method_8_code
def yX3_makeRecord : MethodName := ⟨RX3, "makeRecord", "(I)V"⟩
def dkwX3_makeRecord_5 : List UInt8 := [132, 2, 1, 167, 255, 190, 177]
abbrev dktX3_makeRecord_5 : List UInt8 := dkwX3_makeRecord_5 ++ []
def dkwX3_makeRecord_4 : List UInt8 := [2, 167, 0, 9, 42, 180, 0, 32, 27, 46, 79, 42, 180, 0, 65, 7, 27, 104, 28, 96, 3, 84]
abbrev dktX3_makeRecord_4 : List UInt8 := dkwX3_makeRecord_4 ++ dktX3_makeRecord_5
def dkwX3_makeRecord_3 : List UInt8 := [180, 0, 59, 7, 27, 104, 28, 96, 29, 79, 42, 180, 0, 62, 7, 27, 104, 28, 96, 29, 2, 160, 0, 7]
abbrev dktX3_makeRecord_3 : List UInt8 := dkwX3_makeRecord_3 ++ dktX3_makeRecord_4
def dkwX3_makeRecord_2 : List UInt8 := [167, 255, 228, 3, 61, 28, 7, 162, 0, 67, 42, 180, 0, 38, 7, 27, 104, 28, 96, 46, 62, 42]
abbrev dktX3_makeRecord_2 : List UInt8 := dkwX3_makeRecord_2 ++ dktX3_makeRecord_3
def dkwX3_makeRecord_1 : List UInt8 := [180, 0, 56, 6, 27, 104, 28, 96, 42, 180, 0, 35, 6, 27, 104, 28, 96, 46, 79, 132, 2, 1]
abbrev dktX3_makeRecord_1 : List UInt8 := dkwX3_makeRecord_1 ++ dktX3_makeRecord_2
def dkwX3_makeRecord_0 : List UInt8 := [42, 180, 0, 53, 27, 4, 84, 42, 180, 0, 68, 27, 3, 79, 3, 61, 28, 6, 162, 0, 29, 42]
abbrev dktX3_makeRecord_0 : List UInt8 := dkwX3_makeRecord_0 ++ dktX3_makeRecord_1
theorem dksX3_makeRecord_0 : cX3_makeRecord.data.toList.drop 0 = dktX3_makeRecord_0 := by decide +kernel
theorem dksX3_makeRecord_1 : cX3_makeRecord.data.toList.drop 22 = dktX3_makeRecord_1 := dk_seg dksX3_makeRecord_0 22 rfl rfl
theorem dksX3_makeRecord_2 : cX3_makeRecord.data.toList.drop 44 = dktX3_makeRecord_2 := dk_seg dksX3_makeRecord_1 22 rfl rfl
theorem dksX3_makeRecord_3 : cX3_makeRecord.data.toList.drop 66 = dktX3_makeRecord_3 := dk_seg dksX3_makeRecord_2 22 rfl rfl
theorem dksX3_makeRecord_4 : cX3_makeRecord.data.toList.drop 90 = dktX3_makeRecord_4 := dk_seg dksX3_makeRecord_3 24 rfl rfl
theorem dksX3_makeRecord_5 : cX3_makeRecord.data.toList.drop 112 = dktX3_makeRecord_5 := dk_seg dksX3_makeRecord_4 22 rfl rfl
theorem dX3_makeRecord_0 : decode cX3_makeRecord 0 = .ok (.aload_n 0, 1) := dk_42 (dk_at dksX3_makeRecord_0 0 rfl rfl)
theorem dX3_makeRecord_1 : decode cX3_makeRecord 1 = .ok (.getfield 53, 3) := dk_180 0 53 (dk_at dksX3_makeRecord_0 1 rfl rfl)
theorem dX3_makeRecord_4 : decode cX3_makeRecord 4 = .ok (.iload_n 1, 1) := dk_27 (dk_at dksX3_makeRecord_0 4 rfl rfl)
theorem dX3_makeRecord_5 : decode cX3_makeRecord 5 = .ok (.iconst 1, 1) := dk_4 (dk_at dksX3_makeRecord_0 5 rfl rfl)
theorem dX3_makeRecord_6 : decode cX3_makeRecord 6 = .ok (.bastore, 1) := dk_84 (dk_at dksX3_makeRecord_0 6 rfl rfl)
theorem dX3_makeRecord_7 : decode cX3_makeRecord 7 = .ok (.aload_n 0, 1) := dk_42 (dk_at dksX3_makeRecord_0 7 rfl rfl)
theorem dX3_makeRecord_8 : decode cX3_makeRecord 8 = .ok (.getfield 68, 3) := dk_180 0 68 (dk_at dksX3_makeRecord_0 8 rfl rfl)
theorem dX3_makeRecord_11 : decode cX3_makeRecord 11 = .ok (.iload_n 1, 1) := dk_27 (dk_at dksX3_makeRecord_0 11 rfl rfl)
theorem dX3_makeRecord_12 : decode cX3_makeRecord 12 = .ok (.iconst 0, 1) := dk_3 (dk_at dksX3_makeRecord_0 12 rfl rfl)
theorem dX3_makeRecord_13 : decode cX3_makeRecord 13 = .ok (.iastore, 1) := dk_79 (dk_at dksX3_makeRecord_0 13 rfl rfl)
theorem dX3_makeRecord_14 : decode cX3_makeRecord 14 = .ok (.iconst 0, 1) := dk_3 (dk_at dksX3_makeRecord_0 14 rfl rfl)
theorem dX3_makeRecord_15 : decode cX3_makeRecord 15 = .ok (.istore_n 2, 1) := dk_61 (dk_at dksX3_makeRecord_0 15 rfl rfl)
theorem dX3_makeRecord_16 : decode cX3_makeRecord 16 = .ok (.iload_n 2, 1) := dk_28 (dk_at dksX3_makeRecord_0 16 rfl rfl)
theorem dX3_makeRecord_17 : decode cX3_makeRecord 17 = .ok (.iconst 3, 1) := dk_6 (dk_at dksX3_makeRecord_0 17 rfl rfl)
theorem dX3_makeRecord_18 : decode cX3_makeRecord 18 = .ok (.if_icmp .ge 29, 3) := dk_162 0 29 (dk_at dksX3_makeRecord_0 18 rfl rfl)
theorem dX3_makeRecord_21 : decode cX3_makeRecord 21 = .ok (.aload_n 0, 1) := dk_42 (dk_at dksX3_makeRecord_0 21 rfl rfl)
theorem dX3_makeRecord_22 : decode cX3_makeRecord 22 = .ok (.getfield 56, 3) := dk_180 0 56 (dk_at dksX3_makeRecord_1 0 rfl rfl)
theorem dX3_makeRecord_25 : decode cX3_makeRecord 25 = .ok (.iconst 3, 1) := dk_6 (dk_at dksX3_makeRecord_1 3 rfl rfl)
theorem dX3_makeRecord_26 : decode cX3_makeRecord 26 = .ok (.iload_n 1, 1) := dk_27 (dk_at dksX3_makeRecord_1 4 rfl rfl)
theorem dX3_makeRecord_27 : decode cX3_makeRecord 27 = .ok (.imul, 1) := dk_104 (dk_at dksX3_makeRecord_1 5 rfl rfl)
theorem dX3_makeRecord_28 : decode cX3_makeRecord 28 = .ok (.iload_n 2, 1) := dk_28 (dk_at dksX3_makeRecord_1 6 rfl rfl)
theorem dX3_makeRecord_29 : decode cX3_makeRecord 29 = .ok (.iadd, 1) := dk_96 (dk_at dksX3_makeRecord_1 7 rfl rfl)
theorem dX3_makeRecord_30 : decode cX3_makeRecord 30 = .ok (.aload_n 0, 1) := dk_42 (dk_at dksX3_makeRecord_1 8 rfl rfl)
theorem dX3_makeRecord_31 : decode cX3_makeRecord 31 = .ok (.getfield 35, 3) := dk_180 0 35 (dk_at dksX3_makeRecord_1 9 rfl rfl)
theorem dX3_makeRecord_34 : decode cX3_makeRecord 34 = .ok (.iconst 3, 1) := dk_6 (dk_at dksX3_makeRecord_1 12 rfl rfl)
theorem dX3_makeRecord_35 : decode cX3_makeRecord 35 = .ok (.iload_n 1, 1) := dk_27 (dk_at dksX3_makeRecord_1 13 rfl rfl)
theorem dX3_makeRecord_36 : decode cX3_makeRecord 36 = .ok (.imul, 1) := dk_104 (dk_at dksX3_makeRecord_1 14 rfl rfl)
theorem dX3_makeRecord_37 : decode cX3_makeRecord 37 = .ok (.iload_n 2, 1) := dk_28 (dk_at dksX3_makeRecord_1 15 rfl rfl)
theorem dX3_makeRecord_38 : decode cX3_makeRecord 38 = .ok (.iadd, 1) := dk_96 (dk_at dksX3_makeRecord_1 16 rfl rfl)
theorem dX3_makeRecord_39 : decode cX3_makeRecord 39 = .ok (.iaload, 1) := dk_46 (dk_at dksX3_makeRecord_1 17 rfl rfl)
theorem dX3_makeRecord_40 : decode cX3_makeRecord 40 = .ok (.iastore, 1) := dk_79 (dk_at dksX3_makeRecord_1 18 rfl rfl)
theorem dX3_makeRecord_41 : decode cX3_makeRecord 41 = .ok (.iinc 2 1, 3) := dk_132 2 1 (dk_at dksX3_makeRecord_1 19 rfl rfl)
theorem dX3_makeRecord_44 : decode cX3_makeRecord 44 = .ok (.goto (-28), 3) := dk_167 255 228 (dk_at dksX3_makeRecord_2 0 rfl rfl)
theorem dX3_makeRecord_47 : decode cX3_makeRecord 47 = .ok (.iconst 0, 1) := dk_3 (dk_at dksX3_makeRecord_2 3 rfl rfl)
theorem dX3_makeRecord_48 : decode cX3_makeRecord 48 = .ok (.istore_n 2, 1) := dk_61 (dk_at dksX3_makeRecord_2 4 rfl rfl)
theorem dX3_makeRecord_49 : decode cX3_makeRecord 49 = .ok (.iload_n 2, 1) := dk_28 (dk_at dksX3_makeRecord_2 5 rfl rfl)
theorem dX3_makeRecord_50 : decode cX3_makeRecord 50 = .ok (.iconst 4, 1) := dk_7 (dk_at dksX3_makeRecord_2 6 rfl rfl)
theorem dX3_makeRecord_51 : decode cX3_makeRecord 51 = .ok (.if_icmp .ge 67, 3) := dk_162 0 67 (dk_at dksX3_makeRecord_2 7 rfl rfl)
theorem dX3_makeRecord_54 : decode cX3_makeRecord 54 = .ok (.aload_n 0, 1) := dk_42 (dk_at dksX3_makeRecord_2 10 rfl rfl)
theorem dX3_makeRecord_55 : decode cX3_makeRecord 55 = .ok (.getfield 38, 3) := dk_180 0 38 (dk_at dksX3_makeRecord_2 11 rfl rfl)
theorem dX3_makeRecord_58 : decode cX3_makeRecord 58 = .ok (.iconst 4, 1) := dk_7 (dk_at dksX3_makeRecord_2 14 rfl rfl)
theorem dX3_makeRecord_59 : decode cX3_makeRecord 59 = .ok (.iload_n 1, 1) := dk_27 (dk_at dksX3_makeRecord_2 15 rfl rfl)
theorem dX3_makeRecord_60 : decode cX3_makeRecord 60 = .ok (.imul, 1) := dk_104 (dk_at dksX3_makeRecord_2 16 rfl rfl)
theorem dX3_makeRecord_61 : decode cX3_makeRecord 61 = .ok (.iload_n 2, 1) := dk_28 (dk_at dksX3_makeRecord_2 17 rfl rfl)
theorem dX3_makeRecord_62 : decode cX3_makeRecord 62 = .ok (.iadd, 1) := dk_96 (dk_at dksX3_makeRecord_2 18 rfl rfl)
theorem dX3_makeRecord_63 : decode cX3_makeRecord 63 = .ok (.iaload, 1) := dk_46 (dk_at dksX3_makeRecord_2 19 rfl rfl)
theorem dX3_makeRecord_64 : decode cX3_makeRecord 64 = .ok (.istore_n 3, 1) := dk_62 (dk_at dksX3_makeRecord_2 20 rfl rfl)
theorem dX3_makeRecord_65 : decode cX3_makeRecord 65 = .ok (.aload_n 0, 1) := dk_42 (dk_at dksX3_makeRecord_2 21 rfl rfl)
theorem dX3_makeRecord_66 : decode cX3_makeRecord 66 = .ok (.getfield 59, 3) := dk_180 0 59 (dk_at dksX3_makeRecord_3 0 rfl rfl)
theorem dX3_makeRecord_69 : decode cX3_makeRecord 69 = .ok (.iconst 4, 1) := dk_7 (dk_at dksX3_makeRecord_3 3 rfl rfl)
theorem dX3_makeRecord_70 : decode cX3_makeRecord 70 = .ok (.iload_n 1, 1) := dk_27 (dk_at dksX3_makeRecord_3 4 rfl rfl)
theorem dX3_makeRecord_71 : decode cX3_makeRecord 71 = .ok (.imul, 1) := dk_104 (dk_at dksX3_makeRecord_3 5 rfl rfl)
theorem dX3_makeRecord_72 : decode cX3_makeRecord 72 = .ok (.iload_n 2, 1) := dk_28 (dk_at dksX3_makeRecord_3 6 rfl rfl)
theorem dX3_makeRecord_73 : decode cX3_makeRecord 73 = .ok (.iadd, 1) := dk_96 (dk_at dksX3_makeRecord_3 7 rfl rfl)
theorem dX3_makeRecord_74 : decode cX3_makeRecord 74 = .ok (.iload_n 3, 1) := dk_29 (dk_at dksX3_makeRecord_3 8 rfl rfl)
theorem dX3_makeRecord_75 : decode cX3_makeRecord 75 = .ok (.iastore, 1) := dk_79 (dk_at dksX3_makeRecord_3 9 rfl rfl)
theorem dX3_makeRecord_76 : decode cX3_makeRecord 76 = .ok (.aload_n 0, 1) := dk_42 (dk_at dksX3_makeRecord_3 10 rfl rfl)
theorem dX3_makeRecord_77 : decode cX3_makeRecord 77 = .ok (.getfield 62, 3) := dk_180 0 62 (dk_at dksX3_makeRecord_3 11 rfl rfl)
theorem dX3_makeRecord_80 : decode cX3_makeRecord 80 = .ok (.iconst 4, 1) := dk_7 (dk_at dksX3_makeRecord_3 14 rfl rfl)
theorem dX3_makeRecord_81 : decode cX3_makeRecord 81 = .ok (.iload_n 1, 1) := dk_27 (dk_at dksX3_makeRecord_3 15 rfl rfl)
theorem dX3_makeRecord_82 : decode cX3_makeRecord 82 = .ok (.imul, 1) := dk_104 (dk_at dksX3_makeRecord_3 16 rfl rfl)
theorem dX3_makeRecord_83 : decode cX3_makeRecord 83 = .ok (.iload_n 2, 1) := dk_28 (dk_at dksX3_makeRecord_3 17 rfl rfl)
theorem dX3_makeRecord_84 : decode cX3_makeRecord 84 = .ok (.iadd, 1) := dk_96 (dk_at dksX3_makeRecord_3 18 rfl rfl)
theorem dX3_makeRecord_85 : decode cX3_makeRecord 85 = .ok (.iload_n 3, 1) := dk_29 (dk_at dksX3_makeRecord_3 19 rfl rfl)
theorem dX3_makeRecord_86 : decode cX3_makeRecord 86 = .ok (.iconst (-1), 1) := dk_2 (dk_at dksX3_makeRecord_3 20 rfl rfl)
theorem dX3_makeRecord_87 : decode cX3_makeRecord 87 = .ok (.if_icmp .ne 7, 3) := dk_160 0 7 (dk_at dksX3_makeRecord_3 21 rfl rfl)
theorem dX3_makeRecord_90 : decode cX3_makeRecord 90 = .ok (.iconst (-1), 1) := dk_2 (dk_at dksX3_makeRecord_4 0 rfl rfl)
theorem dX3_makeRecord_91 : decode cX3_makeRecord 91 = .ok (.goto 9, 3) := dk_167 0 9 (dk_at dksX3_makeRecord_4 1 rfl rfl)
theorem dX3_makeRecord_94 : decode cX3_makeRecord 94 = .ok (.aload_n 0, 1) := dk_42 (dk_at dksX3_makeRecord_4 4 rfl rfl)
theorem dX3_makeRecord_95 : decode cX3_makeRecord 95 = .ok (.getfield 32, 3) := dk_180 0 32 (dk_at dksX3_makeRecord_4 5 rfl rfl)
theorem dX3_makeRecord_98 : decode cX3_makeRecord 98 = .ok (.iload_n 1, 1) := dk_27 (dk_at dksX3_makeRecord_4 8 rfl rfl)
theorem dX3_makeRecord_99 : decode cX3_makeRecord 99 = .ok (.iaload, 1) := dk_46 (dk_at dksX3_makeRecord_4 9 rfl rfl)
theorem dX3_makeRecord_100 : decode cX3_makeRecord 100 = .ok (.iastore, 1) := dk_79 (dk_at dksX3_makeRecord_4 10 rfl rfl)
theorem dX3_makeRecord_101 : decode cX3_makeRecord 101 = .ok (.aload_n 0, 1) := dk_42 (dk_at dksX3_makeRecord_4 11 rfl rfl)
theorem dX3_makeRecord_102 : decode cX3_makeRecord 102 = .ok (.getfield 65, 3) := dk_180 0 65 (dk_at dksX3_makeRecord_4 12 rfl rfl)
theorem dX3_makeRecord_105 : decode cX3_makeRecord 105 = .ok (.iconst 4, 1) := dk_7 (dk_at dksX3_makeRecord_4 15 rfl rfl)
theorem dX3_makeRecord_106 : decode cX3_makeRecord 106 = .ok (.iload_n 1, 1) := dk_27 (dk_at dksX3_makeRecord_4 16 rfl rfl)
theorem dX3_makeRecord_107 : decode cX3_makeRecord 107 = .ok (.imul, 1) := dk_104 (dk_at dksX3_makeRecord_4 17 rfl rfl)
theorem dX3_makeRecord_108 : decode cX3_makeRecord 108 = .ok (.iload_n 2, 1) := dk_28 (dk_at dksX3_makeRecord_4 18 rfl rfl)
theorem dX3_makeRecord_109 : decode cX3_makeRecord 109 = .ok (.iadd, 1) := dk_96 (dk_at dksX3_makeRecord_4 19 rfl rfl)
theorem dX3_makeRecord_110 : decode cX3_makeRecord 110 = .ok (.iconst 0, 1) := dk_3 (dk_at dksX3_makeRecord_4 20 rfl rfl)
theorem dX3_makeRecord_111 : decode cX3_makeRecord 111 = .ok (.bastore, 1) := dk_84 (dk_at dksX3_makeRecord_4 21 rfl rfl)
theorem dX3_makeRecord_112 : decode cX3_makeRecord 112 = .ok (.iinc 2 1, 3) := dk_132 2 1 (dk_at dksX3_makeRecord_5 0 rfl rfl)
theorem dX3_makeRecord_115 : decode cX3_makeRecord 115 = .ok (.goto (-66), 3) := dk_167 255 190 (dk_at dksX3_makeRecord_5 3 rfl rfl)
theorem dX3_makeRecord_118 : decode cX3_makeRecord 118 = .ok (.return_, 1) := dk_177 (dk_at dksX3_makeRecord_5 6 rfl rfl)
abbrev cX3_layOver : ByteArray := prog_10_method_9_code
def yX3_layOver : MethodName := ⟨RX3, "layOver", "(II)V"⟩
def dkwX3_layOver_8 : List UInt8 := [42, 180, 0, 62, 21, 4, 42, 180, 0, 32, 27, 46, 79, 132, 3, 1, 167, 255, 111, 177]
abbrev dktX3_layOver_8 : List UInt8 := dkwX3_layOver_8 ++ []
def dkwX3_layOver_7 : List UInt8 := [180, 0, 59, 21, 4, 46, 2, 159, 0, 8, 21, 6, 153, 0, 25, 42, 180, 0, 59, 21, 4, 21, 5, 79]
abbrev dktX3_layOver_7 : List UInt8 := dkwX3_layOver_7 ++ dktX3_layOver_8
def dkwX3_layOver_6 : List UInt8 := [167, 0, 4, 3, 54, 6, 21, 5, 2, 159, 0, 51, 42, 180, 0, 65, 21, 4, 51, 154, 0, 41, 42]
abbrev dktX3_layOver_6 : List UInt8 := dkwX3_layOver_6 ++ dktX3_layOver_7
def dkwX3_layOver_5 : List UInt8 := [42, 180, 0, 32, 27, 46, 46, 42, 180, 0, 7, 42, 180, 0, 62, 21, 4, 46, 46, 161, 0, 7, 4]
abbrev dktX3_layOver_5 : List UInt8 := dkwX3_layOver_5 ++ dktX3_layOver_6
def dkwX3_layOver_4 : List UInt8 := [180, 0, 13, 29, 46, 4, 160, 0, 44, 42, 180, 0, 62, 21, 4, 46, 2, 159, 0, 29, 42, 180, 0, 7]
abbrev dktX3_layOver_4 : List UInt8 := dkwX3_layOver_4 ++ dktX3_layOver_5
def dkwX3_layOver_3 : List UInt8 := [42, 180, 0, 38, 7, 27, 104, 29, 96, 46, 54, 5, 42, 180, 0, 13, 29, 46, 5, 159, 0, 50, 42]
abbrev dktX3_layOver_3 : List UInt8 := dkwX3_layOver_3 ++ dktX3_layOver_4
def dkwX3_layOver_2 : List UInt8 := [21, 4, 46, 79, 132, 3, 1, 167, 255, 203, 3, 62, 29, 7, 162, 0, 146, 7, 28, 104, 29, 96, 54, 4]
abbrev dktX3_layOver_2 : List UInt8 := dkwX3_layOver_2 ++ dktX3_layOver_3
def dkwX3_layOver_1 : List UInt8 := [21, 4, 46, 2, 160, 0, 16, 42, 180, 0, 35, 6, 27, 104, 29, 96, 46, 167, 0, 10, 42, 180, 0, 56]
abbrev dktX3_layOver_1 : List UInt8 := dkwX3_layOver_1 ++ dktX3_layOver_2
def dkwX3_layOver_0 : List UInt8 := [3, 62, 29, 6, 162, 0, 54, 6, 28, 104, 29, 96, 54, 4, 42, 180, 0, 56, 21, 4, 42, 180, 0, 56]
abbrev dktX3_layOver_0 : List UInt8 := dkwX3_layOver_0 ++ dktX3_layOver_1
theorem dksX3_layOver_0 : cX3_layOver.data.toList.drop 0 = dktX3_layOver_0 := by decide +kernel
theorem dksX3_layOver_1 : cX3_layOver.data.toList.drop 24 = dktX3_layOver_1 := dk_seg dksX3_layOver_0 24 rfl rfl
theorem dksX3_layOver_2 : cX3_layOver.data.toList.drop 48 = dktX3_layOver_2 := dk_seg dksX3_layOver_1 24 rfl rfl
theorem dksX3_layOver_3 : cX3_layOver.data.toList.drop 72 = dktX3_layOver_3 := dk_seg dksX3_layOver_2 24 rfl rfl
theorem dksX3_layOver_4 : cX3_layOver.data.toList.drop 95 = dktX3_layOver_4 := dk_seg dksX3_layOver_3 23 rfl rfl
theorem dksX3_layOver_5 : cX3_layOver.data.toList.drop 119 = dktX3_layOver_5 := dk_seg dksX3_layOver_4 24 rfl rfl
theorem dksX3_layOver_6 : cX3_layOver.data.toList.drop 142 = dktX3_layOver_6 := dk_seg dksX3_layOver_5 23 rfl rfl
theorem dksX3_layOver_7 : cX3_layOver.data.toList.drop 165 = dktX3_layOver_7 := dk_seg dksX3_layOver_6 23 rfl rfl
theorem dksX3_layOver_8 : cX3_layOver.data.toList.drop 189 = dktX3_layOver_8 := dk_seg dksX3_layOver_7 24 rfl rfl
theorem dX3_layOver_0 : decode cX3_layOver 0 = .ok (.iconst 0, 1) := dk_3 (dk_at dksX3_layOver_0 0 rfl rfl)
theorem dX3_layOver_1 : decode cX3_layOver 1 = .ok (.istore_n 3, 1) := dk_62 (dk_at dksX3_layOver_0 1 rfl rfl)
theorem dX3_layOver_2 : decode cX3_layOver 2 = .ok (.iload_n 3, 1) := dk_29 (dk_at dksX3_layOver_0 2 rfl rfl)
theorem dX3_layOver_3 : decode cX3_layOver 3 = .ok (.iconst 3, 1) := dk_6 (dk_at dksX3_layOver_0 3 rfl rfl)
theorem dX3_layOver_4 : decode cX3_layOver 4 = .ok (.if_icmp .ge 54, 3) := dk_162 0 54 (dk_at dksX3_layOver_0 4 rfl rfl)
theorem dX3_layOver_7 : decode cX3_layOver 7 = .ok (.iconst 3, 1) := dk_6 (dk_at dksX3_layOver_0 7 rfl rfl)
theorem dX3_layOver_8 : decode cX3_layOver 8 = .ok (.iload_n 2, 1) := dk_28 (dk_at dksX3_layOver_0 8 rfl rfl)
theorem dX3_layOver_9 : decode cX3_layOver 9 = .ok (.imul, 1) := dk_104 (dk_at dksX3_layOver_0 9 rfl rfl)
theorem dX3_layOver_10 : decode cX3_layOver 10 = .ok (.iload_n 3, 1) := dk_29 (dk_at dksX3_layOver_0 10 rfl rfl)
theorem dX3_layOver_11 : decode cX3_layOver 11 = .ok (.iadd, 1) := dk_96 (dk_at dksX3_layOver_0 11 rfl rfl)
theorem dX3_layOver_12 : decode cX3_layOver 12 = .ok (.istore 4, 2) := dk_54 4 (dk_at dksX3_layOver_0 12 rfl rfl)
theorem dX3_layOver_14 : decode cX3_layOver 14 = .ok (.aload_n 0, 1) := dk_42 (dk_at dksX3_layOver_0 14 rfl rfl)
theorem dX3_layOver_15 : decode cX3_layOver 15 = .ok (.getfield 56, 3) := dk_180 0 56 (dk_at dksX3_layOver_0 15 rfl rfl)
theorem dX3_layOver_18 : decode cX3_layOver 18 = .ok (.iload 4, 2) := dk_21 4 (dk_at dksX3_layOver_0 18 rfl rfl)
theorem dX3_layOver_20 : decode cX3_layOver 20 = .ok (.aload_n 0, 1) := dk_42 (dk_at dksX3_layOver_0 20 rfl rfl)
theorem dX3_layOver_21 : decode cX3_layOver 21 = .ok (.getfield 56, 3) := dk_180 0 56 (dk_at dksX3_layOver_0 21 rfl rfl)
theorem dX3_layOver_24 : decode cX3_layOver 24 = .ok (.iload 4, 2) := dk_21 4 (dk_at dksX3_layOver_1 0 rfl rfl)
theorem dX3_layOver_26 : decode cX3_layOver 26 = .ok (.iaload, 1) := dk_46 (dk_at dksX3_layOver_1 2 rfl rfl)
theorem dX3_layOver_27 : decode cX3_layOver 27 = .ok (.iconst (-1), 1) := dk_2 (dk_at dksX3_layOver_1 3 rfl rfl)
theorem dX3_layOver_28 : decode cX3_layOver 28 = .ok (.if_icmp .ne 16, 3) := dk_160 0 16 (dk_at dksX3_layOver_1 4 rfl rfl)
theorem dX3_layOver_31 : decode cX3_layOver 31 = .ok (.aload_n 0, 1) := dk_42 (dk_at dksX3_layOver_1 7 rfl rfl)
theorem dX3_layOver_32 : decode cX3_layOver 32 = .ok (.getfield 35, 3) := dk_180 0 35 (dk_at dksX3_layOver_1 8 rfl rfl)
theorem dX3_layOver_35 : decode cX3_layOver 35 = .ok (.iconst 3, 1) := dk_6 (dk_at dksX3_layOver_1 11 rfl rfl)
theorem dX3_layOver_36 : decode cX3_layOver 36 = .ok (.iload_n 1, 1) := dk_27 (dk_at dksX3_layOver_1 12 rfl rfl)
theorem dX3_layOver_37 : decode cX3_layOver 37 = .ok (.imul, 1) := dk_104 (dk_at dksX3_layOver_1 13 rfl rfl)
theorem dX3_layOver_38 : decode cX3_layOver 38 = .ok (.iload_n 3, 1) := dk_29 (dk_at dksX3_layOver_1 14 rfl rfl)
theorem dX3_layOver_39 : decode cX3_layOver 39 = .ok (.iadd, 1) := dk_96 (dk_at dksX3_layOver_1 15 rfl rfl)
theorem dX3_layOver_40 : decode cX3_layOver 40 = .ok (.iaload, 1) := dk_46 (dk_at dksX3_layOver_1 16 rfl rfl)
theorem dX3_layOver_41 : decode cX3_layOver 41 = .ok (.goto 10, 3) := dk_167 0 10 (dk_at dksX3_layOver_1 17 rfl rfl)
theorem dX3_layOver_44 : decode cX3_layOver 44 = .ok (.aload_n 0, 1) := dk_42 (dk_at dksX3_layOver_1 20 rfl rfl)
theorem dX3_layOver_45 : decode cX3_layOver 45 = .ok (.getfield 56, 3) := dk_180 0 56 (dk_at dksX3_layOver_1 21 rfl rfl)
theorem dX3_layOver_48 : decode cX3_layOver 48 = .ok (.iload 4, 2) := dk_21 4 (dk_at dksX3_layOver_2 0 rfl rfl)
theorem dX3_layOver_50 : decode cX3_layOver 50 = .ok (.iaload, 1) := dk_46 (dk_at dksX3_layOver_2 2 rfl rfl)
theorem dX3_layOver_51 : decode cX3_layOver 51 = .ok (.iastore, 1) := dk_79 (dk_at dksX3_layOver_2 3 rfl rfl)
theorem dX3_layOver_52 : decode cX3_layOver 52 = .ok (.iinc 3 1, 3) := dk_132 3 1 (dk_at dksX3_layOver_2 4 rfl rfl)
theorem dX3_layOver_55 : decode cX3_layOver 55 = .ok (.goto (-53), 3) := dk_167 255 203 (dk_at dksX3_layOver_2 7 rfl rfl)
theorem dX3_layOver_58 : decode cX3_layOver 58 = .ok (.iconst 0, 1) := dk_3 (dk_at dksX3_layOver_2 10 rfl rfl)
theorem dX3_layOver_59 : decode cX3_layOver 59 = .ok (.istore_n 3, 1) := dk_62 (dk_at dksX3_layOver_2 11 rfl rfl)
theorem dX3_layOver_60 : decode cX3_layOver 60 = .ok (.iload_n 3, 1) := dk_29 (dk_at dksX3_layOver_2 12 rfl rfl)
theorem dX3_layOver_61 : decode cX3_layOver 61 = .ok (.iconst 4, 1) := dk_7 (dk_at dksX3_layOver_2 13 rfl rfl)
theorem dX3_layOver_62 : decode cX3_layOver 62 = .ok (.if_icmp .ge 146, 3) := dk_162 0 146 (dk_at dksX3_layOver_2 14 rfl rfl)
theorem dX3_layOver_65 : decode cX3_layOver 65 = .ok (.iconst 4, 1) := dk_7 (dk_at dksX3_layOver_2 17 rfl rfl)
theorem dX3_layOver_66 : decode cX3_layOver 66 = .ok (.iload_n 2, 1) := dk_28 (dk_at dksX3_layOver_2 18 rfl rfl)
theorem dX3_layOver_67 : decode cX3_layOver 67 = .ok (.imul, 1) := dk_104 (dk_at dksX3_layOver_2 19 rfl rfl)
theorem dX3_layOver_68 : decode cX3_layOver 68 = .ok (.iload_n 3, 1) := dk_29 (dk_at dksX3_layOver_2 20 rfl rfl)
theorem dX3_layOver_69 : decode cX3_layOver 69 = .ok (.iadd, 1) := dk_96 (dk_at dksX3_layOver_2 21 rfl rfl)
theorem dX3_layOver_70 : decode cX3_layOver 70 = .ok (.istore 4, 2) := dk_54 4 (dk_at dksX3_layOver_2 22 rfl rfl)
theorem dX3_layOver_72 : decode cX3_layOver 72 = .ok (.aload_n 0, 1) := dk_42 (dk_at dksX3_layOver_3 0 rfl rfl)
theorem dX3_layOver_73 : decode cX3_layOver 73 = .ok (.getfield 38, 3) := dk_180 0 38 (dk_at dksX3_layOver_3 1 rfl rfl)
theorem dX3_layOver_76 : decode cX3_layOver 76 = .ok (.iconst 4, 1) := dk_7 (dk_at dksX3_layOver_3 4 rfl rfl)
theorem dX3_layOver_77 : decode cX3_layOver 77 = .ok (.iload_n 1, 1) := dk_27 (dk_at dksX3_layOver_3 5 rfl rfl)
theorem dX3_layOver_78 : decode cX3_layOver 78 = .ok (.imul, 1) := dk_104 (dk_at dksX3_layOver_3 6 rfl rfl)
theorem dX3_layOver_79 : decode cX3_layOver 79 = .ok (.iload_n 3, 1) := dk_29 (dk_at dksX3_layOver_3 7 rfl rfl)
theorem dX3_layOver_80 : decode cX3_layOver 80 = .ok (.iadd, 1) := dk_96 (dk_at dksX3_layOver_3 8 rfl rfl)
theorem dX3_layOver_81 : decode cX3_layOver 81 = .ok (.iaload, 1) := dk_46 (dk_at dksX3_layOver_3 9 rfl rfl)
theorem dX3_layOver_82 : decode cX3_layOver 82 = .ok (.istore 5, 2) := dk_54 5 (dk_at dksX3_layOver_3 10 rfl rfl)
theorem dX3_layOver_84 : decode cX3_layOver 84 = .ok (.aload_n 0, 1) := dk_42 (dk_at dksX3_layOver_3 12 rfl rfl)
theorem dX3_layOver_85 : decode cX3_layOver 85 = .ok (.getfield 13, 3) := dk_180 0 13 (dk_at dksX3_layOver_3 13 rfl rfl)
theorem dX3_layOver_88 : decode cX3_layOver 88 = .ok (.iload_n 3, 1) := dk_29 (dk_at dksX3_layOver_3 16 rfl rfl)
theorem dX3_layOver_89 : decode cX3_layOver 89 = .ok (.iaload, 1) := dk_46 (dk_at dksX3_layOver_3 17 rfl rfl)
theorem dX3_layOver_90 : decode cX3_layOver 90 = .ok (.iconst 2, 1) := dk_5 (dk_at dksX3_layOver_3 18 rfl rfl)
theorem dX3_layOver_91 : decode cX3_layOver 91 = .ok (.if_icmp .eq 50, 3) := dk_159 0 50 (dk_at dksX3_layOver_3 19 rfl rfl)
theorem dX3_layOver_94 : decode cX3_layOver 94 = .ok (.aload_n 0, 1) := dk_42 (dk_at dksX3_layOver_3 22 rfl rfl)
theorem dX3_layOver_95 : decode cX3_layOver 95 = .ok (.getfield 13, 3) := dk_180 0 13 (dk_at dksX3_layOver_4 0 rfl rfl)
theorem dX3_layOver_98 : decode cX3_layOver 98 = .ok (.iload_n 3, 1) := dk_29 (dk_at dksX3_layOver_4 3 rfl rfl)
theorem dX3_layOver_99 : decode cX3_layOver 99 = .ok (.iaload, 1) := dk_46 (dk_at dksX3_layOver_4 4 rfl rfl)
theorem dX3_layOver_100 : decode cX3_layOver 100 = .ok (.iconst 1, 1) := dk_4 (dk_at dksX3_layOver_4 5 rfl rfl)
theorem dX3_layOver_101 : decode cX3_layOver 101 = .ok (.if_icmp .ne 44, 3) := dk_160 0 44 (dk_at dksX3_layOver_4 6 rfl rfl)
theorem dX3_layOver_104 : decode cX3_layOver 104 = .ok (.aload_n 0, 1) := dk_42 (dk_at dksX3_layOver_4 9 rfl rfl)
theorem dX3_layOver_105 : decode cX3_layOver 105 = .ok (.getfield 62, 3) := dk_180 0 62 (dk_at dksX3_layOver_4 10 rfl rfl)
theorem dX3_layOver_108 : decode cX3_layOver 108 = .ok (.iload 4, 2) := dk_21 4 (dk_at dksX3_layOver_4 13 rfl rfl)
theorem dX3_layOver_110 : decode cX3_layOver 110 = .ok (.iaload, 1) := dk_46 (dk_at dksX3_layOver_4 15 rfl rfl)
theorem dX3_layOver_111 : decode cX3_layOver 111 = .ok (.iconst (-1), 1) := dk_2 (dk_at dksX3_layOver_4 16 rfl rfl)
theorem dX3_layOver_112 : decode cX3_layOver 112 = .ok (.if_icmp .eq 29, 3) := dk_159 0 29 (dk_at dksX3_layOver_4 17 rfl rfl)
theorem dX3_layOver_115 : decode cX3_layOver 115 = .ok (.aload_n 0, 1) := dk_42 (dk_at dksX3_layOver_4 20 rfl rfl)
theorem dX3_layOver_116 : decode cX3_layOver 116 = .ok (.getfield 7, 3) := dk_180 0 7 (dk_at dksX3_layOver_4 21 rfl rfl)
theorem dX3_layOver_119 : decode cX3_layOver 119 = .ok (.aload_n 0, 1) := dk_42 (dk_at dksX3_layOver_5 0 rfl rfl)
theorem dX3_layOver_120 : decode cX3_layOver 120 = .ok (.getfield 32, 3) := dk_180 0 32 (dk_at dksX3_layOver_5 1 rfl rfl)
theorem dX3_layOver_123 : decode cX3_layOver 123 = .ok (.iload_n 1, 1) := dk_27 (dk_at dksX3_layOver_5 4 rfl rfl)
theorem dX3_layOver_124 : decode cX3_layOver 124 = .ok (.iaload, 1) := dk_46 (dk_at dksX3_layOver_5 5 rfl rfl)
theorem dX3_layOver_125 : decode cX3_layOver 125 = .ok (.iaload, 1) := dk_46 (dk_at dksX3_layOver_5 6 rfl rfl)
theorem dX3_layOver_126 : decode cX3_layOver 126 = .ok (.aload_n 0, 1) := dk_42 (dk_at dksX3_layOver_5 7 rfl rfl)
theorem dX3_layOver_127 : decode cX3_layOver 127 = .ok (.getfield 7, 3) := dk_180 0 7 (dk_at dksX3_layOver_5 8 rfl rfl)
theorem dX3_layOver_130 : decode cX3_layOver 130 = .ok (.aload_n 0, 1) := dk_42 (dk_at dksX3_layOver_5 11 rfl rfl)
theorem dX3_layOver_131 : decode cX3_layOver 131 = .ok (.getfield 62, 3) := dk_180 0 62 (dk_at dksX3_layOver_5 12 rfl rfl)
theorem dX3_layOver_134 : decode cX3_layOver 134 = .ok (.iload 4, 2) := dk_21 4 (dk_at dksX3_layOver_5 15 rfl rfl)
theorem dX3_layOver_136 : decode cX3_layOver 136 = .ok (.iaload, 1) := dk_46 (dk_at dksX3_layOver_5 17 rfl rfl)
theorem dX3_layOver_137 : decode cX3_layOver 137 = .ok (.iaload, 1) := dk_46 (dk_at dksX3_layOver_5 18 rfl rfl)
theorem dX3_layOver_138 : decode cX3_layOver 138 = .ok (.if_icmp .lt 7, 3) := dk_161 0 7 (dk_at dksX3_layOver_5 19 rfl rfl)
theorem dX3_layOver_141 : decode cX3_layOver 141 = .ok (.iconst 1, 1) := dk_4 (dk_at dksX3_layOver_5 22 rfl rfl)
theorem dX3_layOver_142 : decode cX3_layOver 142 = .ok (.goto 4, 3) := dk_167 0 4 (dk_at dksX3_layOver_6 0 rfl rfl)
theorem dX3_layOver_145 : decode cX3_layOver 145 = .ok (.iconst 0, 1) := dk_3 (dk_at dksX3_layOver_6 3 rfl rfl)
theorem dX3_layOver_146 : decode cX3_layOver 146 = .ok (.istore 6, 2) := dk_54 6 (dk_at dksX3_layOver_6 4 rfl rfl)
theorem dX3_layOver_148 : decode cX3_layOver 148 = .ok (.iload 5, 2) := dk_21 5 (dk_at dksX3_layOver_6 6 rfl rfl)
theorem dX3_layOver_150 : decode cX3_layOver 150 = .ok (.iconst (-1), 1) := dk_2 (dk_at dksX3_layOver_6 8 rfl rfl)
theorem dX3_layOver_151 : decode cX3_layOver 151 = .ok (.if_icmp .eq 51, 3) := dk_159 0 51 (dk_at dksX3_layOver_6 9 rfl rfl)
theorem dX3_layOver_154 : decode cX3_layOver 154 = .ok (.aload_n 0, 1) := dk_42 (dk_at dksX3_layOver_6 12 rfl rfl)
theorem dX3_layOver_155 : decode cX3_layOver 155 = .ok (.getfield 65, 3) := dk_180 0 65 (dk_at dksX3_layOver_6 13 rfl rfl)
theorem dX3_layOver_158 : decode cX3_layOver 158 = .ok (.iload 4, 2) := dk_21 4 (dk_at dksX3_layOver_6 16 rfl rfl)
theorem dX3_layOver_160 : decode cX3_layOver 160 = .ok (.baload, 1) := dk_51 (dk_at dksX3_layOver_6 18 rfl rfl)
theorem dX3_layOver_161 : decode cX3_layOver 161 = .ok (.ifCond .ne 41, 3) := dk_154 0 41 (dk_at dksX3_layOver_6 19 rfl rfl)
theorem dX3_layOver_164 : decode cX3_layOver 164 = .ok (.aload_n 0, 1) := dk_42 (dk_at dksX3_layOver_6 22 rfl rfl)
theorem dX3_layOver_165 : decode cX3_layOver 165 = .ok (.getfield 59, 3) := dk_180 0 59 (dk_at dksX3_layOver_7 0 rfl rfl)
theorem dX3_layOver_168 : decode cX3_layOver 168 = .ok (.iload 4, 2) := dk_21 4 (dk_at dksX3_layOver_7 3 rfl rfl)
theorem dX3_layOver_170 : decode cX3_layOver 170 = .ok (.iaload, 1) := dk_46 (dk_at dksX3_layOver_7 5 rfl rfl)
theorem dX3_layOver_171 : decode cX3_layOver 171 = .ok (.iconst (-1), 1) := dk_2 (dk_at dksX3_layOver_7 6 rfl rfl)
theorem dX3_layOver_172 : decode cX3_layOver 172 = .ok (.if_icmp .eq 8, 3) := dk_159 0 8 (dk_at dksX3_layOver_7 7 rfl rfl)
theorem dX3_layOver_175 : decode cX3_layOver 175 = .ok (.iload 6, 2) := dk_21 6 (dk_at dksX3_layOver_7 10 rfl rfl)
theorem dX3_layOver_177 : decode cX3_layOver 177 = .ok (.ifCond .eq 25, 3) := dk_153 0 25 (dk_at dksX3_layOver_7 12 rfl rfl)
theorem dX3_layOver_180 : decode cX3_layOver 180 = .ok (.aload_n 0, 1) := dk_42 (dk_at dksX3_layOver_7 15 rfl rfl)
theorem dX3_layOver_181 : decode cX3_layOver 181 = .ok (.getfield 59, 3) := dk_180 0 59 (dk_at dksX3_layOver_7 16 rfl rfl)
theorem dX3_layOver_184 : decode cX3_layOver 184 = .ok (.iload 4, 2) := dk_21 4 (dk_at dksX3_layOver_7 19 rfl rfl)
theorem dX3_layOver_186 : decode cX3_layOver 186 = .ok (.iload 5, 2) := dk_21 5 (dk_at dksX3_layOver_7 21 rfl rfl)
theorem dX3_layOver_188 : decode cX3_layOver 188 = .ok (.iastore, 1) := dk_79 (dk_at dksX3_layOver_7 23 rfl rfl)
theorem dX3_layOver_189 : decode cX3_layOver 189 = .ok (.aload_n 0, 1) := dk_42 (dk_at dksX3_layOver_8 0 rfl rfl)
theorem dX3_layOver_190 : decode cX3_layOver 190 = .ok (.getfield 62, 3) := dk_180 0 62 (dk_at dksX3_layOver_8 1 rfl rfl)
theorem dX3_layOver_193 : decode cX3_layOver 193 = .ok (.iload 4, 2) := dk_21 4 (dk_at dksX3_layOver_8 4 rfl rfl)
theorem dX3_layOver_195 : decode cX3_layOver 195 = .ok (.aload_n 0, 1) := dk_42 (dk_at dksX3_layOver_8 6 rfl rfl)
theorem dX3_layOver_196 : decode cX3_layOver 196 = .ok (.getfield 32, 3) := dk_180 0 32 (dk_at dksX3_layOver_8 7 rfl rfl)
theorem dX3_layOver_199 : decode cX3_layOver 199 = .ok (.iload_n 1, 1) := dk_27 (dk_at dksX3_layOver_8 10 rfl rfl)
theorem dX3_layOver_200 : decode cX3_layOver 200 = .ok (.iaload, 1) := dk_46 (dk_at dksX3_layOver_8 11 rfl rfl)
theorem dX3_layOver_201 : decode cX3_layOver 201 = .ok (.iastore, 1) := dk_79 (dk_at dksX3_layOver_8 12 rfl rfl)
theorem dX3_layOver_202 : decode cX3_layOver 202 = .ok (.iinc 3 1, 3) := dk_132 3 1 (dk_at dksX3_layOver_8 13 rfl rfl)
theorem dX3_layOver_205 : decode cX3_layOver 205 = .ok (.goto (-145), 3) := dk_167 255 111 (dk_at dksX3_layOver_8 16 rfl rfl)
theorem dX3_layOver_208 : decode cX3_layOver 208 = .ok (.return_, 1) := dk_177 (dk_at dksX3_layOver_8 19 rfl rfl)
abbrev cX3_doMerge : ByteArray := prog_10_method_12_code
def yX3_doMerge : MethodName := ⟨RX3, "doMerge", "(II)V"⟩
def dkwX3_doMerge_6 : List UInt8 := [180, 0, 53, 27, 3, 84, 177]
abbrev dktX3_doMerge_6 : List UInt8 := dkwX3_doMerge_6 ++ []
def dkwX3_doMerge_5 : List UInt8 := [180, 0, 62, 21, 4, 42, 180, 0, 62, 7, 27, 104, 29, 96, 46, 79, 132, 3, 1, 167, 255, 196, 42]
abbrev dktX3_doMerge_5 : List UInt8 := dkwX3_doMerge_5 ++ dktX3_doMerge_6
def dkwX3_doMerge_4 : List UInt8 := [2, 160, 0, 37, 42, 180, 0, 59, 21, 4, 42, 180, 0, 59, 7, 27, 104, 29, 96, 46, 79, 42]
abbrev dktX3_doMerge_4 : List UInt8 := dkwX3_doMerge_4 ++ dktX3_doMerge_5
def dkwX3_doMerge_3 : List UInt8 := [167, 255, 203, 3, 62, 29, 7, 162, 0, 61, 7, 28, 104, 29, 96, 54, 4, 42, 180, 0, 59, 21, 4, 46]
abbrev dktX3_doMerge_3 : List UInt8 := dkwX3_doMerge_3 ++ dktX3_doMerge_4
def dkwX3_doMerge_2 : List UInt8 := [180, 0, 56, 6, 27, 104, 29, 96, 46, 167, 0, 10, 42, 180, 0, 56, 21, 4, 46, 79, 132, 3, 1]
abbrev dktX3_doMerge_2 : List UInt8 := dkwX3_doMerge_2 ++ dktX3_doMerge_3
def dkwX3_doMerge_1 : List UInt8 := [104, 29, 96, 54, 4, 42, 180, 0, 56, 21, 4, 42, 180, 0, 56, 21, 4, 46, 2, 160, 0, 16, 42]
abbrev dktX3_doMerge_1 : List UInt8 := dkwX3_doMerge_1 ++ dktX3_doMerge_2
def dkwX3_doMerge_0 : List UInt8 := [42, 180, 0, 68, 28, 92, 46, 42, 180, 0, 68, 27, 46, 96, 79, 3, 62, 29, 6, 162, 0, 54, 6, 28]
abbrev dktX3_doMerge_0 : List UInt8 := dkwX3_doMerge_0 ++ dktX3_doMerge_1
theorem dksX3_doMerge_0 : cX3_doMerge.data.toList.drop 0 = dktX3_doMerge_0 := by decide +kernel
theorem dksX3_doMerge_1 : cX3_doMerge.data.toList.drop 24 = dktX3_doMerge_1 := dk_seg dksX3_doMerge_0 24 rfl rfl
theorem dksX3_doMerge_2 : cX3_doMerge.data.toList.drop 47 = dktX3_doMerge_2 := dk_seg dksX3_doMerge_1 23 rfl rfl
theorem dksX3_doMerge_3 : cX3_doMerge.data.toList.drop 70 = dktX3_doMerge_3 := dk_seg dksX3_doMerge_2 23 rfl rfl
theorem dksX3_doMerge_4 : cX3_doMerge.data.toList.drop 94 = dktX3_doMerge_4 := dk_seg dksX3_doMerge_3 24 rfl rfl
theorem dksX3_doMerge_5 : cX3_doMerge.data.toList.drop 116 = dktX3_doMerge_5 := dk_seg dksX3_doMerge_4 22 rfl rfl
theorem dksX3_doMerge_6 : cX3_doMerge.data.toList.drop 139 = dktX3_doMerge_6 := dk_seg dksX3_doMerge_5 23 rfl rfl
theorem dX3_doMerge_0 : decode cX3_doMerge 0 = .ok (.aload_n 0, 1) := dk_42 (dk_at dksX3_doMerge_0 0 rfl rfl)
theorem dX3_doMerge_1 : decode cX3_doMerge 1 = .ok (.getfield 68, 3) := dk_180 0 68 (dk_at dksX3_doMerge_0 1 rfl rfl)
theorem dX3_doMerge_4 : decode cX3_doMerge 4 = .ok (.iload_n 2, 1) := dk_28 (dk_at dksX3_doMerge_0 4 rfl rfl)
theorem dX3_doMerge_5 : decode cX3_doMerge 5 = .ok (.dup2, 1) := dk_92 (dk_at dksX3_doMerge_0 5 rfl rfl)
theorem dX3_doMerge_6 : decode cX3_doMerge 6 = .ok (.iaload, 1) := dk_46 (dk_at dksX3_doMerge_0 6 rfl rfl)
theorem dX3_doMerge_7 : decode cX3_doMerge 7 = .ok (.aload_n 0, 1) := dk_42 (dk_at dksX3_doMerge_0 7 rfl rfl)
theorem dX3_doMerge_8 : decode cX3_doMerge 8 = .ok (.getfield 68, 3) := dk_180 0 68 (dk_at dksX3_doMerge_0 8 rfl rfl)
theorem dX3_doMerge_11 : decode cX3_doMerge 11 = .ok (.iload_n 1, 1) := dk_27 (dk_at dksX3_doMerge_0 11 rfl rfl)
theorem dX3_doMerge_12 : decode cX3_doMerge 12 = .ok (.iaload, 1) := dk_46 (dk_at dksX3_doMerge_0 12 rfl rfl)
theorem dX3_doMerge_13 : decode cX3_doMerge 13 = .ok (.iadd, 1) := dk_96 (dk_at dksX3_doMerge_0 13 rfl rfl)
theorem dX3_doMerge_14 : decode cX3_doMerge 14 = .ok (.iastore, 1) := dk_79 (dk_at dksX3_doMerge_0 14 rfl rfl)
theorem dX3_doMerge_15 : decode cX3_doMerge 15 = .ok (.iconst 0, 1) := dk_3 (dk_at dksX3_doMerge_0 15 rfl rfl)
theorem dX3_doMerge_16 : decode cX3_doMerge 16 = .ok (.istore_n 3, 1) := dk_62 (dk_at dksX3_doMerge_0 16 rfl rfl)
theorem dX3_doMerge_17 : decode cX3_doMerge 17 = .ok (.iload_n 3, 1) := dk_29 (dk_at dksX3_doMerge_0 17 rfl rfl)
theorem dX3_doMerge_18 : decode cX3_doMerge 18 = .ok (.iconst 3, 1) := dk_6 (dk_at dksX3_doMerge_0 18 rfl rfl)
theorem dX3_doMerge_19 : decode cX3_doMerge 19 = .ok (.if_icmp .ge 54, 3) := dk_162 0 54 (dk_at dksX3_doMerge_0 19 rfl rfl)
theorem dX3_doMerge_22 : decode cX3_doMerge 22 = .ok (.iconst 3, 1) := dk_6 (dk_at dksX3_doMerge_0 22 rfl rfl)
theorem dX3_doMerge_23 : decode cX3_doMerge 23 = .ok (.iload_n 2, 1) := dk_28 (dk_at dksX3_doMerge_0 23 rfl rfl)
theorem dX3_doMerge_24 : decode cX3_doMerge 24 = .ok (.imul, 1) := dk_104 (dk_at dksX3_doMerge_1 0 rfl rfl)
theorem dX3_doMerge_25 : decode cX3_doMerge 25 = .ok (.iload_n 3, 1) := dk_29 (dk_at dksX3_doMerge_1 1 rfl rfl)
theorem dX3_doMerge_26 : decode cX3_doMerge 26 = .ok (.iadd, 1) := dk_96 (dk_at dksX3_doMerge_1 2 rfl rfl)
theorem dX3_doMerge_27 : decode cX3_doMerge 27 = .ok (.istore 4, 2) := dk_54 4 (dk_at dksX3_doMerge_1 3 rfl rfl)
theorem dX3_doMerge_29 : decode cX3_doMerge 29 = .ok (.aload_n 0, 1) := dk_42 (dk_at dksX3_doMerge_1 5 rfl rfl)
theorem dX3_doMerge_30 : decode cX3_doMerge 30 = .ok (.getfield 56, 3) := dk_180 0 56 (dk_at dksX3_doMerge_1 6 rfl rfl)
theorem dX3_doMerge_33 : decode cX3_doMerge 33 = .ok (.iload 4, 2) := dk_21 4 (dk_at dksX3_doMerge_1 9 rfl rfl)
theorem dX3_doMerge_35 : decode cX3_doMerge 35 = .ok (.aload_n 0, 1) := dk_42 (dk_at dksX3_doMerge_1 11 rfl rfl)
theorem dX3_doMerge_36 : decode cX3_doMerge 36 = .ok (.getfield 56, 3) := dk_180 0 56 (dk_at dksX3_doMerge_1 12 rfl rfl)
theorem dX3_doMerge_39 : decode cX3_doMerge 39 = .ok (.iload 4, 2) := dk_21 4 (dk_at dksX3_doMerge_1 15 rfl rfl)
theorem dX3_doMerge_41 : decode cX3_doMerge 41 = .ok (.iaload, 1) := dk_46 (dk_at dksX3_doMerge_1 17 rfl rfl)
theorem dX3_doMerge_42 : decode cX3_doMerge 42 = .ok (.iconst (-1), 1) := dk_2 (dk_at dksX3_doMerge_1 18 rfl rfl)
theorem dX3_doMerge_43 : decode cX3_doMerge 43 = .ok (.if_icmp .ne 16, 3) := dk_160 0 16 (dk_at dksX3_doMerge_1 19 rfl rfl)
theorem dX3_doMerge_46 : decode cX3_doMerge 46 = .ok (.aload_n 0, 1) := dk_42 (dk_at dksX3_doMerge_1 22 rfl rfl)
theorem dX3_doMerge_47 : decode cX3_doMerge 47 = .ok (.getfield 56, 3) := dk_180 0 56 (dk_at dksX3_doMerge_2 0 rfl rfl)
theorem dX3_doMerge_50 : decode cX3_doMerge 50 = .ok (.iconst 3, 1) := dk_6 (dk_at dksX3_doMerge_2 3 rfl rfl)
theorem dX3_doMerge_51 : decode cX3_doMerge 51 = .ok (.iload_n 1, 1) := dk_27 (dk_at dksX3_doMerge_2 4 rfl rfl)
theorem dX3_doMerge_52 : decode cX3_doMerge 52 = .ok (.imul, 1) := dk_104 (dk_at dksX3_doMerge_2 5 rfl rfl)
theorem dX3_doMerge_53 : decode cX3_doMerge 53 = .ok (.iload_n 3, 1) := dk_29 (dk_at dksX3_doMerge_2 6 rfl rfl)
theorem dX3_doMerge_54 : decode cX3_doMerge 54 = .ok (.iadd, 1) := dk_96 (dk_at dksX3_doMerge_2 7 rfl rfl)
theorem dX3_doMerge_55 : decode cX3_doMerge 55 = .ok (.iaload, 1) := dk_46 (dk_at dksX3_doMerge_2 8 rfl rfl)
theorem dX3_doMerge_56 : decode cX3_doMerge 56 = .ok (.goto 10, 3) := dk_167 0 10 (dk_at dksX3_doMerge_2 9 rfl rfl)
theorem dX3_doMerge_59 : decode cX3_doMerge 59 = .ok (.aload_n 0, 1) := dk_42 (dk_at dksX3_doMerge_2 12 rfl rfl)
theorem dX3_doMerge_60 : decode cX3_doMerge 60 = .ok (.getfield 56, 3) := dk_180 0 56 (dk_at dksX3_doMerge_2 13 rfl rfl)
theorem dX3_doMerge_63 : decode cX3_doMerge 63 = .ok (.iload 4, 2) := dk_21 4 (dk_at dksX3_doMerge_2 16 rfl rfl)
theorem dX3_doMerge_65 : decode cX3_doMerge 65 = .ok (.iaload, 1) := dk_46 (dk_at dksX3_doMerge_2 18 rfl rfl)
theorem dX3_doMerge_66 : decode cX3_doMerge 66 = .ok (.iastore, 1) := dk_79 (dk_at dksX3_doMerge_2 19 rfl rfl)
theorem dX3_doMerge_67 : decode cX3_doMerge 67 = .ok (.iinc 3 1, 3) := dk_132 3 1 (dk_at dksX3_doMerge_2 20 rfl rfl)
theorem dX3_doMerge_70 : decode cX3_doMerge 70 = .ok (.goto (-53), 3) := dk_167 255 203 (dk_at dksX3_doMerge_3 0 rfl rfl)
theorem dX3_doMerge_73 : decode cX3_doMerge 73 = .ok (.iconst 0, 1) := dk_3 (dk_at dksX3_doMerge_3 3 rfl rfl)
theorem dX3_doMerge_74 : decode cX3_doMerge 74 = .ok (.istore_n 3, 1) := dk_62 (dk_at dksX3_doMerge_3 4 rfl rfl)
theorem dX3_doMerge_75 : decode cX3_doMerge 75 = .ok (.iload_n 3, 1) := dk_29 (dk_at dksX3_doMerge_3 5 rfl rfl)
theorem dX3_doMerge_76 : decode cX3_doMerge 76 = .ok (.iconst 4, 1) := dk_7 (dk_at dksX3_doMerge_3 6 rfl rfl)
theorem dX3_doMerge_77 : decode cX3_doMerge 77 = .ok (.if_icmp .ge 61, 3) := dk_162 0 61 (dk_at dksX3_doMerge_3 7 rfl rfl)
theorem dX3_doMerge_80 : decode cX3_doMerge 80 = .ok (.iconst 4, 1) := dk_7 (dk_at dksX3_doMerge_3 10 rfl rfl)
theorem dX3_doMerge_81 : decode cX3_doMerge 81 = .ok (.iload_n 2, 1) := dk_28 (dk_at dksX3_doMerge_3 11 rfl rfl)
theorem dX3_doMerge_82 : decode cX3_doMerge 82 = .ok (.imul, 1) := dk_104 (dk_at dksX3_doMerge_3 12 rfl rfl)
theorem dX3_doMerge_83 : decode cX3_doMerge 83 = .ok (.iload_n 3, 1) := dk_29 (dk_at dksX3_doMerge_3 13 rfl rfl)
theorem dX3_doMerge_84 : decode cX3_doMerge 84 = .ok (.iadd, 1) := dk_96 (dk_at dksX3_doMerge_3 14 rfl rfl)
theorem dX3_doMerge_85 : decode cX3_doMerge 85 = .ok (.istore 4, 2) := dk_54 4 (dk_at dksX3_doMerge_3 15 rfl rfl)
theorem dX3_doMerge_87 : decode cX3_doMerge 87 = .ok (.aload_n 0, 1) := dk_42 (dk_at dksX3_doMerge_3 17 rfl rfl)
theorem dX3_doMerge_88 : decode cX3_doMerge 88 = .ok (.getfield 59, 3) := dk_180 0 59 (dk_at dksX3_doMerge_3 18 rfl rfl)
theorem dX3_doMerge_91 : decode cX3_doMerge 91 = .ok (.iload 4, 2) := dk_21 4 (dk_at dksX3_doMerge_3 21 rfl rfl)
theorem dX3_doMerge_93 : decode cX3_doMerge 93 = .ok (.iaload, 1) := dk_46 (dk_at dksX3_doMerge_3 23 rfl rfl)
theorem dX3_doMerge_94 : decode cX3_doMerge 94 = .ok (.iconst (-1), 1) := dk_2 (dk_at dksX3_doMerge_4 0 rfl rfl)
theorem dX3_doMerge_95 : decode cX3_doMerge 95 = .ok (.if_icmp .ne 37, 3) := dk_160 0 37 (dk_at dksX3_doMerge_4 1 rfl rfl)
theorem dX3_doMerge_98 : decode cX3_doMerge 98 = .ok (.aload_n 0, 1) := dk_42 (dk_at dksX3_doMerge_4 4 rfl rfl)
theorem dX3_doMerge_99 : decode cX3_doMerge 99 = .ok (.getfield 59, 3) := dk_180 0 59 (dk_at dksX3_doMerge_4 5 rfl rfl)
theorem dX3_doMerge_102 : decode cX3_doMerge 102 = .ok (.iload 4, 2) := dk_21 4 (dk_at dksX3_doMerge_4 8 rfl rfl)
theorem dX3_doMerge_104 : decode cX3_doMerge 104 = .ok (.aload_n 0, 1) := dk_42 (dk_at dksX3_doMerge_4 10 rfl rfl)
theorem dX3_doMerge_105 : decode cX3_doMerge 105 = .ok (.getfield 59, 3) := dk_180 0 59 (dk_at dksX3_doMerge_4 11 rfl rfl)
theorem dX3_doMerge_108 : decode cX3_doMerge 108 = .ok (.iconst 4, 1) := dk_7 (dk_at dksX3_doMerge_4 14 rfl rfl)
theorem dX3_doMerge_109 : decode cX3_doMerge 109 = .ok (.iload_n 1, 1) := dk_27 (dk_at dksX3_doMerge_4 15 rfl rfl)
theorem dX3_doMerge_110 : decode cX3_doMerge 110 = .ok (.imul, 1) := dk_104 (dk_at dksX3_doMerge_4 16 rfl rfl)
theorem dX3_doMerge_111 : decode cX3_doMerge 111 = .ok (.iload_n 3, 1) := dk_29 (dk_at dksX3_doMerge_4 17 rfl rfl)
theorem dX3_doMerge_112 : decode cX3_doMerge 112 = .ok (.iadd, 1) := dk_96 (dk_at dksX3_doMerge_4 18 rfl rfl)
theorem dX3_doMerge_113 : decode cX3_doMerge 113 = .ok (.iaload, 1) := dk_46 (dk_at dksX3_doMerge_4 19 rfl rfl)
theorem dX3_doMerge_114 : decode cX3_doMerge 114 = .ok (.iastore, 1) := dk_79 (dk_at dksX3_doMerge_4 20 rfl rfl)
theorem dX3_doMerge_115 : decode cX3_doMerge 115 = .ok (.aload_n 0, 1) := dk_42 (dk_at dksX3_doMerge_4 21 rfl rfl)
theorem dX3_doMerge_116 : decode cX3_doMerge 116 = .ok (.getfield 62, 3) := dk_180 0 62 (dk_at dksX3_doMerge_5 0 rfl rfl)
theorem dX3_doMerge_119 : decode cX3_doMerge 119 = .ok (.iload 4, 2) := dk_21 4 (dk_at dksX3_doMerge_5 3 rfl rfl)
theorem dX3_doMerge_121 : decode cX3_doMerge 121 = .ok (.aload_n 0, 1) := dk_42 (dk_at dksX3_doMerge_5 5 rfl rfl)
theorem dX3_doMerge_122 : decode cX3_doMerge 122 = .ok (.getfield 62, 3) := dk_180 0 62 (dk_at dksX3_doMerge_5 6 rfl rfl)
theorem dX3_doMerge_125 : decode cX3_doMerge 125 = .ok (.iconst 4, 1) := dk_7 (dk_at dksX3_doMerge_5 9 rfl rfl)
theorem dX3_doMerge_126 : decode cX3_doMerge 126 = .ok (.iload_n 1, 1) := dk_27 (dk_at dksX3_doMerge_5 10 rfl rfl)
theorem dX3_doMerge_127 : decode cX3_doMerge 127 = .ok (.imul, 1) := dk_104 (dk_at dksX3_doMerge_5 11 rfl rfl)
theorem dX3_doMerge_128 : decode cX3_doMerge 128 = .ok (.iload_n 3, 1) := dk_29 (dk_at dksX3_doMerge_5 12 rfl rfl)
theorem dX3_doMerge_129 : decode cX3_doMerge 129 = .ok (.iadd, 1) := dk_96 (dk_at dksX3_doMerge_5 13 rfl rfl)
theorem dX3_doMerge_130 : decode cX3_doMerge 130 = .ok (.iaload, 1) := dk_46 (dk_at dksX3_doMerge_5 14 rfl rfl)
theorem dX3_doMerge_131 : decode cX3_doMerge 131 = .ok (.iastore, 1) := dk_79 (dk_at dksX3_doMerge_5 15 rfl rfl)
theorem dX3_doMerge_132 : decode cX3_doMerge 132 = .ok (.iinc 3 1, 3) := dk_132 3 1 (dk_at dksX3_doMerge_5 16 rfl rfl)
theorem dX3_doMerge_135 : decode cX3_doMerge 135 = .ok (.goto (-60), 3) := dk_167 255 196 (dk_at dksX3_doMerge_5 19 rfl rfl)
theorem dX3_doMerge_138 : decode cX3_doMerge 138 = .ok (.aload_n 0, 1) := dk_42 (dk_at dksX3_doMerge_5 22 rfl rfl)
theorem dX3_doMerge_139 : decode cX3_doMerge 139 = .ok (.getfield 53, 3) := dk_180 0 53 (dk_at dksX3_doMerge_6 0 rfl rfl)
theorem dX3_doMerge_142 : decode cX3_doMerge 142 = .ok (.iload_n 1, 1) := dk_27 (dk_at dksX3_doMerge_6 3 rfl rfl)
theorem dX3_doMerge_143 : decode cX3_doMerge 143 = .ok (.iconst 0, 1) := dk_3 (dk_at dksX3_doMerge_6 4 rfl rfl)
theorem dX3_doMerge_144 : decode cX3_doMerge 144 = .ok (.bastore, 1) := dk_84 (dk_at dksX3_doMerge_6 5 rfl rfl)
theorem dX3_doMerge_145 : decode cX3_doMerge 145 = .ok (.return_, 1) := dk_177 (dk_at dksX3_doMerge_6 6 rfl rfl)
abbrev cX3_protect : ByteArray := prog_10_method_21_code
def yX3_protect : MethodName := ⟨RX3, "protect", "(IIZ)Z"⟩
def dkwX3_protect_3 : List UInt8 := [29, 153, 0, 7, 4, 167, 0, 4, 5, 27, 28, 182, 0, 112, 21, 4, 172]
abbrev dktX3_protect_3 : List UInt8 := dkwX3_protect_3 ++ []
def dkwX3_protect_2 : List UInt8 := [172, 42, 180, 0, 65, 7, 27, 104, 28, 96, 51, 54, 4, 42, 89, 180, 0, 120, 4, 96, 181, 0, 120, 42]
abbrev dktX3_protect_2 : List UInt8 := dkwX3_protect_2 ++ dktX3_protect_3
def dkwX3_protect_1 : List UInt8 := [180, 0, 120, 16, 100, 160, 0, 7, 5, 167, 0, 4, 3, 181, 0, 74, 42, 180, 0, 74, 158, 0, 5, 3]
abbrev dktX3_protect_1 : List UInt8 := dkwX3_protect_1 ++ dktX3_protect_2
def dkwX3_protect_0 : List UInt8 := [42, 42, 27, 182, 0, 116, 153, 0, 12, 28, 3, 6, 184, 0, 78, 154, 0, 7, 4, 167, 0, 17, 42]
abbrev dktX3_protect_0 : List UInt8 := dkwX3_protect_0 ++ dktX3_protect_1
theorem dksX3_protect_0 : cX3_protect.data.toList.drop 0 = dktX3_protect_0 := by decide +kernel
theorem dksX3_protect_1 : cX3_protect.data.toList.drop 23 = dktX3_protect_1 := dk_seg dksX3_protect_0 23 rfl rfl
theorem dksX3_protect_2 : cX3_protect.data.toList.drop 47 = dktX3_protect_2 := dk_seg dksX3_protect_1 24 rfl rfl
theorem dksX3_protect_3 : cX3_protect.data.toList.drop 71 = dktX3_protect_3 := dk_seg dksX3_protect_2 24 rfl rfl
theorem dX3_protect_0 : decode cX3_protect 0 = .ok (.aload_n 0, 1) := dk_42 (dk_at dksX3_protect_0 0 rfl rfl)
theorem dX3_protect_1 : decode cX3_protect 1 = .ok (.aload_n 0, 1) := dk_42 (dk_at dksX3_protect_0 1 rfl rfl)
theorem dX3_protect_2 : decode cX3_protect 2 = .ok (.iload_n 1, 1) := dk_27 (dk_at dksX3_protect_0 2 rfl rfl)
theorem dX3_protect_3 : decode cX3_protect 3 = .ok (.invokevirtual 116, 3) := dk_182 0 116 (dk_at dksX3_protect_0 3 rfl rfl)
theorem dX3_protect_6 : decode cX3_protect 6 = .ok (.ifCond .eq 12, 3) := dk_153 0 12 (dk_at dksX3_protect_0 6 rfl rfl)
theorem dX3_protect_9 : decode cX3_protect 9 = .ok (.iload_n 2, 1) := dk_28 (dk_at dksX3_protect_0 9 rfl rfl)
theorem dX3_protect_10 : decode cX3_protect 10 = .ok (.iconst 0, 1) := dk_3 (dk_at dksX3_protect_0 10 rfl rfl)
theorem dX3_protect_11 : decode cX3_protect 11 = .ok (.iconst 3, 1) := dk_6 (dk_at dksX3_protect_0 11 rfl rfl)
theorem dX3_protect_12 : decode cX3_protect 12 = .ok (.invokestatic 78, 3) := dk_184 0 78 (dk_at dksX3_protect_0 12 rfl rfl)
theorem dX3_protect_15 : decode cX3_protect 15 = .ok (.ifCond .ne 7, 3) := dk_154 0 7 (dk_at dksX3_protect_0 15 rfl rfl)
theorem dX3_protect_18 : decode cX3_protect 18 = .ok (.iconst 1, 1) := dk_4 (dk_at dksX3_protect_0 18 rfl rfl)
theorem dX3_protect_19 : decode cX3_protect 19 = .ok (.goto 17, 3) := dk_167 0 17 (dk_at dksX3_protect_0 19 rfl rfl)
theorem dX3_protect_22 : decode cX3_protect 22 = .ok (.aload_n 0, 1) := dk_42 (dk_at dksX3_protect_0 22 rfl rfl)
theorem dX3_protect_23 : decode cX3_protect 23 = .ok (.getfield 120, 3) := dk_180 0 120 (dk_at dksX3_protect_1 0 rfl rfl)
theorem dX3_protect_26 : decode cX3_protect 26 = .ok (.bipush 100, 2) := dk_16 100 (dk_at dksX3_protect_1 3 rfl rfl)
theorem dX3_protect_28 : decode cX3_protect 28 = .ok (.if_icmp .ne 7, 3) := dk_160 0 7 (dk_at dksX3_protect_1 5 rfl rfl)
theorem dX3_protect_31 : decode cX3_protect 31 = .ok (.iconst 2, 1) := dk_5 (dk_at dksX3_protect_1 8 rfl rfl)
theorem dX3_protect_32 : decode cX3_protect 32 = .ok (.goto 4, 3) := dk_167 0 4 (dk_at dksX3_protect_1 9 rfl rfl)
theorem dX3_protect_35 : decode cX3_protect 35 = .ok (.iconst 0, 1) := dk_3 (dk_at dksX3_protect_1 12 rfl rfl)
theorem dX3_protect_36 : decode cX3_protect 36 = .ok (.putfield 74, 3) := dk_181 0 74 (dk_at dksX3_protect_1 13 rfl rfl)
theorem dX3_protect_39 : decode cX3_protect 39 = .ok (.aload_n 0, 1) := dk_42 (dk_at dksX3_protect_1 16 rfl rfl)
theorem dX3_protect_40 : decode cX3_protect 40 = .ok (.getfield 74, 3) := dk_180 0 74 (dk_at dksX3_protect_1 17 rfl rfl)
theorem dX3_protect_43 : decode cX3_protect 43 = .ok (.ifCond .le 5, 3) := dk_158 0 5 (dk_at dksX3_protect_1 20 rfl rfl)
theorem dX3_protect_46 : decode cX3_protect 46 = .ok (.iconst 0, 1) := dk_3 (dk_at dksX3_protect_1 23 rfl rfl)
theorem dX3_protect_47 : decode cX3_protect 47 = .ok (.ireturn, 1) := dk_172 (dk_at dksX3_protect_2 0 rfl rfl)
theorem dX3_protect_48 : decode cX3_protect 48 = .ok (.aload_n 0, 1) := dk_42 (dk_at dksX3_protect_2 1 rfl rfl)
theorem dX3_protect_49 : decode cX3_protect 49 = .ok (.getfield 65, 3) := dk_180 0 65 (dk_at dksX3_protect_2 2 rfl rfl)
theorem dX3_protect_52 : decode cX3_protect 52 = .ok (.iconst 4, 1) := dk_7 (dk_at dksX3_protect_2 5 rfl rfl)
theorem dX3_protect_53 : decode cX3_protect 53 = .ok (.iload_n 1, 1) := dk_27 (dk_at dksX3_protect_2 6 rfl rfl)
theorem dX3_protect_54 : decode cX3_protect 54 = .ok (.imul, 1) := dk_104 (dk_at dksX3_protect_2 7 rfl rfl)
theorem dX3_protect_55 : decode cX3_protect 55 = .ok (.iload_n 2, 1) := dk_28 (dk_at dksX3_protect_2 8 rfl rfl)
theorem dX3_protect_56 : decode cX3_protect 56 = .ok (.iadd, 1) := dk_96 (dk_at dksX3_protect_2 9 rfl rfl)
theorem dX3_protect_57 : decode cX3_protect 57 = .ok (.baload, 1) := dk_51 (dk_at dksX3_protect_2 10 rfl rfl)
theorem dX3_protect_58 : decode cX3_protect 58 = .ok (.istore 4, 2) := dk_54 4 (dk_at dksX3_protect_2 11 rfl rfl)
theorem dX3_protect_60 : decode cX3_protect 60 = .ok (.aload_n 0, 1) := dk_42 (dk_at dksX3_protect_2 13 rfl rfl)
theorem dX3_protect_61 : decode cX3_protect 61 = .ok (.dup, 1) := dk_89 (dk_at dksX3_protect_2 14 rfl rfl)
theorem dX3_protect_62 : decode cX3_protect 62 = .ok (.getfield 120, 3) := dk_180 0 120 (dk_at dksX3_protect_2 15 rfl rfl)
theorem dX3_protect_65 : decode cX3_protect 65 = .ok (.iconst 1, 1) := dk_4 (dk_at dksX3_protect_2 18 rfl rfl)
theorem dX3_protect_66 : decode cX3_protect 66 = .ok (.iadd, 1) := dk_96 (dk_at dksX3_protect_2 19 rfl rfl)
theorem dX3_protect_67 : decode cX3_protect 67 = .ok (.putfield 120, 3) := dk_181 0 120 (dk_at dksX3_protect_2 20 rfl rfl)
theorem dX3_protect_70 : decode cX3_protect 70 = .ok (.aload_n 0, 1) := dk_42 (dk_at dksX3_protect_2 23 rfl rfl)
theorem dX3_protect_71 : decode cX3_protect 71 = .ok (.iload_n 3, 1) := dk_29 (dk_at dksX3_protect_3 0 rfl rfl)
theorem dX3_protect_72 : decode cX3_protect 72 = .ok (.ifCond .eq 7, 3) := dk_153 0 7 (dk_at dksX3_protect_3 1 rfl rfl)
theorem dX3_protect_75 : decode cX3_protect 75 = .ok (.iconst 1, 1) := dk_4 (dk_at dksX3_protect_3 4 rfl rfl)
theorem dX3_protect_76 : decode cX3_protect 76 = .ok (.goto 4, 3) := dk_167 0 4 (dk_at dksX3_protect_3 5 rfl rfl)
theorem dX3_protect_79 : decode cX3_protect 79 = .ok (.iconst 2, 1) := dk_5 (dk_at dksX3_protect_3 8 rfl rfl)
theorem dX3_protect_80 : decode cX3_protect 80 = .ok (.iload_n 1, 1) := dk_27 (dk_at dksX3_protect_3 9 rfl rfl)
theorem dX3_protect_81 : decode cX3_protect 81 = .ok (.iload_n 2, 1) := dk_28 (dk_at dksX3_protect_3 10 rfl rfl)
theorem dX3_protect_82 : decode cX3_protect 82 = .ok (.invokevirtual 112, 3) := dk_182 0 112 (dk_at dksX3_protect_3 11 rfl rfl)
theorem dX3_protect_85 : decode cX3_protect 85 = .ok (.iload 4, 2) := dk_21 4 (dk_at dksX3_protect_3 14 rfl rfl)
theorem dX3_protect_87 : decode cX3_protect 87 = .ok (.ireturn, 1) := dk_172 (dk_at dksX3_protect_3 16 rfl rfl)
abbrev cX3_isRecord : ByteArray := prog_10_method_20_code
def yX3_isRecord : MethodName := ⟨RX3, "isRecord", "(I)Z"⟩
def dkwX3_isRecord_1 : List UInt8 := [172]
abbrev dktX3_isRecord_1 : List UInt8 := dkwX3_isRecord_1 ++ []
def dkwX3_isRecord_0 : List UInt8 := [27, 3, 16, 79, 184, 0, 78, 153, 0, 16, 42, 180, 0, 53, 27, 51, 153, 0, 7, 4, 167, 0, 4, 3]
abbrev dktX3_isRecord_0 : List UInt8 := dkwX3_isRecord_0 ++ dktX3_isRecord_1
theorem dksX3_isRecord_0 : cX3_isRecord.data.toList.drop 0 = dktX3_isRecord_0 := by decide +kernel
theorem dksX3_isRecord_1 : cX3_isRecord.data.toList.drop 24 = dktX3_isRecord_1 := dk_seg dksX3_isRecord_0 24 rfl rfl
theorem dX3_isRecord_0 : decode cX3_isRecord 0 = .ok (.iload_n 1, 1) := dk_27 (dk_at dksX3_isRecord_0 0 rfl rfl)
theorem dX3_isRecord_1 : decode cX3_isRecord 1 = .ok (.iconst 0, 1) := dk_3 (dk_at dksX3_isRecord_0 1 rfl rfl)
theorem dX3_isRecord_2 : decode cX3_isRecord 2 = .ok (.bipush 79, 2) := dk_16 79 (dk_at dksX3_isRecord_0 2 rfl rfl)
theorem dX3_isRecord_4 : decode cX3_isRecord 4 = .ok (.invokestatic 78, 3) := dk_184 0 78 (dk_at dksX3_isRecord_0 4 rfl rfl)
theorem dX3_isRecord_7 : decode cX3_isRecord 7 = .ok (.ifCond .eq 16, 3) := dk_153 0 16 (dk_at dksX3_isRecord_0 7 rfl rfl)
theorem dX3_isRecord_10 : decode cX3_isRecord 10 = .ok (.aload_n 0, 1) := dk_42 (dk_at dksX3_isRecord_0 10 rfl rfl)
theorem dX3_isRecord_11 : decode cX3_isRecord 11 = .ok (.getfield 53, 3) := dk_180 0 53 (dk_at dksX3_isRecord_0 11 rfl rfl)
theorem dX3_isRecord_14 : decode cX3_isRecord 14 = .ok (.iload_n 1, 1) := dk_27 (dk_at dksX3_isRecord_0 14 rfl rfl)
theorem dX3_isRecord_15 : decode cX3_isRecord 15 = .ok (.baload, 1) := dk_51 (dk_at dksX3_isRecord_0 15 rfl rfl)
theorem dX3_isRecord_16 : decode cX3_isRecord 16 = .ok (.ifCond .eq 7, 3) := dk_153 0 7 (dk_at dksX3_isRecord_0 16 rfl rfl)
theorem dX3_isRecord_19 : decode cX3_isRecord 19 = .ok (.iconst 1, 1) := dk_4 (dk_at dksX3_isRecord_0 19 rfl rfl)
theorem dX3_isRecord_20 : decode cX3_isRecord 20 = .ok (.goto 4, 3) := dk_167 0 4 (dk_at dksX3_isRecord_0 20 rfl rfl)
theorem dX3_isRecord_23 : decode cX3_isRecord 23 = .ok (.iconst 0, 1) := dk_3 (dk_at dksX3_isRecord_0 23 rfl rfl)
theorem dX3_isRecord_24 : decode cX3_isRecord 24 = .ok (.ireturn, 1) := dk_172 (dk_at dksX3_isRecord_1 0 rfl rfl)
abbrev cX3_hold : ByteArray := prog_10_method_22_code
def yX3_hold : MethodName := ⟨RX3, "hold", "(I)I"⟩
def dkwX3_hold_2 : List UInt8 := [181, 0, 120, 42, 6, 27, 3, 182, 0, 112, 42, 180, 0, 68, 27, 46, 172]
abbrev dktX3_hold_2 : List UInt8 := dkwX3_hold_2 ++ []
def dkwX3_hold_1 : List UInt8 := [167, 0, 4, 3, 181, 0, 74, 42, 180, 0, 74, 158, 0, 5, 3, 172, 42, 89, 180, 0, 120, 4, 96]
abbrev dktX3_hold_1 : List UInt8 := dkwX3_hold_1 ++ dktX3_hold_2
def dkwX3_hold_0 : List UInt8 := [42, 42, 27, 182, 0, 116, 154, 0, 7, 4, 167, 0, 17, 42, 180, 0, 120, 16, 100, 160, 0, 7, 5]
abbrev dktX3_hold_0 : List UInt8 := dkwX3_hold_0 ++ dktX3_hold_1
theorem dksX3_hold_0 : cX3_hold.data.toList.drop 0 = dktX3_hold_0 := by decide +kernel
theorem dksX3_hold_1 : cX3_hold.data.toList.drop 23 = dktX3_hold_1 := dk_seg dksX3_hold_0 23 rfl rfl
theorem dksX3_hold_2 : cX3_hold.data.toList.drop 46 = dktX3_hold_2 := dk_seg dksX3_hold_1 23 rfl rfl
theorem dX3_hold_0 : decode cX3_hold 0 = .ok (.aload_n 0, 1) := dk_42 (dk_at dksX3_hold_0 0 rfl rfl)
theorem dX3_hold_1 : decode cX3_hold 1 = .ok (.aload_n 0, 1) := dk_42 (dk_at dksX3_hold_0 1 rfl rfl)
theorem dX3_hold_2 : decode cX3_hold 2 = .ok (.iload_n 1, 1) := dk_27 (dk_at dksX3_hold_0 2 rfl rfl)
theorem dX3_hold_3 : decode cX3_hold 3 = .ok (.invokevirtual 116, 3) := dk_182 0 116 (dk_at dksX3_hold_0 3 rfl rfl)
theorem dX3_hold_6 : decode cX3_hold 6 = .ok (.ifCond .ne 7, 3) := dk_154 0 7 (dk_at dksX3_hold_0 6 rfl rfl)
theorem dX3_hold_9 : decode cX3_hold 9 = .ok (.iconst 1, 1) := dk_4 (dk_at dksX3_hold_0 9 rfl rfl)
theorem dX3_hold_10 : decode cX3_hold 10 = .ok (.goto 17, 3) := dk_167 0 17 (dk_at dksX3_hold_0 10 rfl rfl)
theorem dX3_hold_13 : decode cX3_hold 13 = .ok (.aload_n 0, 1) := dk_42 (dk_at dksX3_hold_0 13 rfl rfl)
theorem dX3_hold_14 : decode cX3_hold 14 = .ok (.getfield 120, 3) := dk_180 0 120 (dk_at dksX3_hold_0 14 rfl rfl)
theorem dX3_hold_17 : decode cX3_hold 17 = .ok (.bipush 100, 2) := dk_16 100 (dk_at dksX3_hold_0 17 rfl rfl)
theorem dX3_hold_19 : decode cX3_hold 19 = .ok (.if_icmp .ne 7, 3) := dk_160 0 7 (dk_at dksX3_hold_0 19 rfl rfl)
theorem dX3_hold_22 : decode cX3_hold 22 = .ok (.iconst 2, 1) := dk_5 (dk_at dksX3_hold_0 22 rfl rfl)
theorem dX3_hold_23 : decode cX3_hold 23 = .ok (.goto 4, 3) := dk_167 0 4 (dk_at dksX3_hold_1 0 rfl rfl)
theorem dX3_hold_26 : decode cX3_hold 26 = .ok (.iconst 0, 1) := dk_3 (dk_at dksX3_hold_1 3 rfl rfl)
theorem dX3_hold_27 : decode cX3_hold 27 = .ok (.putfield 74, 3) := dk_181 0 74 (dk_at dksX3_hold_1 4 rfl rfl)
theorem dX3_hold_30 : decode cX3_hold 30 = .ok (.aload_n 0, 1) := dk_42 (dk_at dksX3_hold_1 7 rfl rfl)
theorem dX3_hold_31 : decode cX3_hold 31 = .ok (.getfield 74, 3) := dk_180 0 74 (dk_at dksX3_hold_1 8 rfl rfl)
theorem dX3_hold_34 : decode cX3_hold 34 = .ok (.ifCond .le 5, 3) := dk_158 0 5 (dk_at dksX3_hold_1 11 rfl rfl)
theorem dX3_hold_37 : decode cX3_hold 37 = .ok (.iconst 0, 1) := dk_3 (dk_at dksX3_hold_1 14 rfl rfl)
theorem dX3_hold_38 : decode cX3_hold 38 = .ok (.ireturn, 1) := dk_172 (dk_at dksX3_hold_1 15 rfl rfl)
theorem dX3_hold_39 : decode cX3_hold 39 = .ok (.aload_n 0, 1) := dk_42 (dk_at dksX3_hold_1 16 rfl rfl)
theorem dX3_hold_40 : decode cX3_hold 40 = .ok (.dup, 1) := dk_89 (dk_at dksX3_hold_1 17 rfl rfl)
theorem dX3_hold_41 : decode cX3_hold 41 = .ok (.getfield 120, 3) := dk_180 0 120 (dk_at dksX3_hold_1 18 rfl rfl)
theorem dX3_hold_44 : decode cX3_hold 44 = .ok (.iconst 1, 1) := dk_4 (dk_at dksX3_hold_1 21 rfl rfl)
theorem dX3_hold_45 : decode cX3_hold 45 = .ok (.iadd, 1) := dk_96 (dk_at dksX3_hold_1 22 rfl rfl)
theorem dX3_hold_46 : decode cX3_hold 46 = .ok (.putfield 120, 3) := dk_181 0 120 (dk_at dksX3_hold_2 0 rfl rfl)
theorem dX3_hold_49 : decode cX3_hold 49 = .ok (.aload_n 0, 1) := dk_42 (dk_at dksX3_hold_2 3 rfl rfl)
theorem dX3_hold_50 : decode cX3_hold 50 = .ok (.iconst 3, 1) := dk_6 (dk_at dksX3_hold_2 4 rfl rfl)
theorem dX3_hold_51 : decode cX3_hold 51 = .ok (.iload_n 1, 1) := dk_27 (dk_at dksX3_hold_2 5 rfl rfl)
theorem dX3_hold_52 : decode cX3_hold 52 = .ok (.iconst 0, 1) := dk_3 (dk_at dksX3_hold_2 6 rfl rfl)
theorem dX3_hold_53 : decode cX3_hold 53 = .ok (.invokevirtual 112, 3) := dk_182 0 112 (dk_at dksX3_hold_2 7 rfl rfl)
theorem dX3_hold_56 : decode cX3_hold 56 = .ok (.aload_n 0, 1) := dk_42 (dk_at dksX3_hold_2 10 rfl rfl)
theorem dX3_hold_57 : decode cX3_hold 57 = .ok (.getfield 68, 3) := dk_180 0 68 (dk_at dksX3_hold_2 11 rfl rfl)
theorem dX3_hold_60 : decode cX3_hold 60 = .ok (.iload_n 1, 1) := dk_27 (dk_at dksX3_hold_2 14 rfl rfl)
theorem dX3_hold_61 : decode cX3_hold 61 = .ok (.iaload, 1) := dk_46 (dk_at dksX3_hold_2 15 rfl rfl)
theorem dX3_hold_62 : decode cX3_hold 62 = .ok (.ireturn, 1) := dk_172 (dk_at dksX3_hold_2 16 rfl rfl)
abbrev cX3_merge : ByteArray := prog_10_method_23_code
def yX3_merge : MethodName := ⟨RX3, "merge", "(II)I"⟩
def dkwX3_merge_3 : List UInt8 := [182, 0, 112, 42, 180, 0, 68, 28, 46, 172]
abbrev dktX3_merge_3 : List UInt8 := dkwX3_merge_3 ++ []
def dkwX3_merge_2 : List UInt8 := [42, 180, 0, 74, 158, 0, 5, 3, 172, 42, 89, 180, 0, 120, 4, 96, 181, 0, 120, 42, 7, 27, 28]
abbrev dktX3_merge_2 : List UInt8 := dkwX3_merge_2 ++ dktX3_merge_3
def dkwX3_merge_1 : List UInt8 := [160, 0, 7, 5, 167, 0, 17, 42, 180, 0, 120, 16, 100, 160, 0, 7, 6, 167, 0, 4, 3, 181, 0, 74]
abbrev dktX3_merge_1 : List UInt8 := dkwX3_merge_1 ++ dktX3_merge_2
def dkwX3_merge_0 : List UInt8 := [42, 42, 27, 182, 0, 116, 153, 0, 11, 42, 28, 182, 0, 116, 154, 0, 7, 4, 167, 0, 26, 27, 28]
abbrev dktX3_merge_0 : List UInt8 := dkwX3_merge_0 ++ dktX3_merge_1
theorem dksX3_merge_0 : cX3_merge.data.toList.drop 0 = dktX3_merge_0 := by decide +kernel
theorem dksX3_merge_1 : cX3_merge.data.toList.drop 23 = dktX3_merge_1 := dk_seg dksX3_merge_0 23 rfl rfl
theorem dksX3_merge_2 : cX3_merge.data.toList.drop 47 = dktX3_merge_2 := dk_seg dksX3_merge_1 24 rfl rfl
theorem dksX3_merge_3 : cX3_merge.data.toList.drop 70 = dktX3_merge_3 := dk_seg dksX3_merge_2 23 rfl rfl
theorem dX3_merge_0 : decode cX3_merge 0 = .ok (.aload_n 0, 1) := dk_42 (dk_at dksX3_merge_0 0 rfl rfl)
theorem dX3_merge_1 : decode cX3_merge 1 = .ok (.aload_n 0, 1) := dk_42 (dk_at dksX3_merge_0 1 rfl rfl)
theorem dX3_merge_2 : decode cX3_merge 2 = .ok (.iload_n 1, 1) := dk_27 (dk_at dksX3_merge_0 2 rfl rfl)
theorem dX3_merge_3 : decode cX3_merge 3 = .ok (.invokevirtual 116, 3) := dk_182 0 116 (dk_at dksX3_merge_0 3 rfl rfl)
theorem dX3_merge_6 : decode cX3_merge 6 = .ok (.ifCond .eq 11, 3) := dk_153 0 11 (dk_at dksX3_merge_0 6 rfl rfl)
theorem dX3_merge_9 : decode cX3_merge 9 = .ok (.aload_n 0, 1) := dk_42 (dk_at dksX3_merge_0 9 rfl rfl)
theorem dX3_merge_10 : decode cX3_merge 10 = .ok (.iload_n 2, 1) := dk_28 (dk_at dksX3_merge_0 10 rfl rfl)
theorem dX3_merge_11 : decode cX3_merge 11 = .ok (.invokevirtual 116, 3) := dk_182 0 116 (dk_at dksX3_merge_0 11 rfl rfl)
theorem dX3_merge_14 : decode cX3_merge 14 = .ok (.ifCond .ne 7, 3) := dk_154 0 7 (dk_at dksX3_merge_0 14 rfl rfl)
theorem dX3_merge_17 : decode cX3_merge 17 = .ok (.iconst 1, 1) := dk_4 (dk_at dksX3_merge_0 17 rfl rfl)
theorem dX3_merge_18 : decode cX3_merge 18 = .ok (.goto 26, 3) := dk_167 0 26 (dk_at dksX3_merge_0 18 rfl rfl)
theorem dX3_merge_21 : decode cX3_merge 21 = .ok (.iload_n 1, 1) := dk_27 (dk_at dksX3_merge_0 21 rfl rfl)
theorem dX3_merge_22 : decode cX3_merge 22 = .ok (.iload_n 2, 1) := dk_28 (dk_at dksX3_merge_0 22 rfl rfl)
theorem dX3_merge_23 : decode cX3_merge 23 = .ok (.if_icmp .ne 7, 3) := dk_160 0 7 (dk_at dksX3_merge_1 0 rfl rfl)
theorem dX3_merge_26 : decode cX3_merge 26 = .ok (.iconst 2, 1) := dk_5 (dk_at dksX3_merge_1 3 rfl rfl)
theorem dX3_merge_27 : decode cX3_merge 27 = .ok (.goto 17, 3) := dk_167 0 17 (dk_at dksX3_merge_1 4 rfl rfl)
theorem dX3_merge_30 : decode cX3_merge 30 = .ok (.aload_n 0, 1) := dk_42 (dk_at dksX3_merge_1 7 rfl rfl)
theorem dX3_merge_31 : decode cX3_merge 31 = .ok (.getfield 120, 3) := dk_180 0 120 (dk_at dksX3_merge_1 8 rfl rfl)
theorem dX3_merge_34 : decode cX3_merge 34 = .ok (.bipush 100, 2) := dk_16 100 (dk_at dksX3_merge_1 11 rfl rfl)
theorem dX3_merge_36 : decode cX3_merge 36 = .ok (.if_icmp .ne 7, 3) := dk_160 0 7 (dk_at dksX3_merge_1 13 rfl rfl)
theorem dX3_merge_39 : decode cX3_merge 39 = .ok (.iconst 3, 1) := dk_6 (dk_at dksX3_merge_1 16 rfl rfl)
theorem dX3_merge_40 : decode cX3_merge 40 = .ok (.goto 4, 3) := dk_167 0 4 (dk_at dksX3_merge_1 17 rfl rfl)
theorem dX3_merge_43 : decode cX3_merge 43 = .ok (.iconst 0, 1) := dk_3 (dk_at dksX3_merge_1 20 rfl rfl)
theorem dX3_merge_44 : decode cX3_merge 44 = .ok (.putfield 74, 3) := dk_181 0 74 (dk_at dksX3_merge_1 21 rfl rfl)
theorem dX3_merge_47 : decode cX3_merge 47 = .ok (.aload_n 0, 1) := dk_42 (dk_at dksX3_merge_2 0 rfl rfl)
theorem dX3_merge_48 : decode cX3_merge 48 = .ok (.getfield 74, 3) := dk_180 0 74 (dk_at dksX3_merge_2 1 rfl rfl)
theorem dX3_merge_51 : decode cX3_merge 51 = .ok (.ifCond .le 5, 3) := dk_158 0 5 (dk_at dksX3_merge_2 4 rfl rfl)
theorem dX3_merge_54 : decode cX3_merge 54 = .ok (.iconst 0, 1) := dk_3 (dk_at dksX3_merge_2 7 rfl rfl)
theorem dX3_merge_55 : decode cX3_merge 55 = .ok (.ireturn, 1) := dk_172 (dk_at dksX3_merge_2 8 rfl rfl)
theorem dX3_merge_56 : decode cX3_merge 56 = .ok (.aload_n 0, 1) := dk_42 (dk_at dksX3_merge_2 9 rfl rfl)
theorem dX3_merge_57 : decode cX3_merge 57 = .ok (.dup, 1) := dk_89 (dk_at dksX3_merge_2 10 rfl rfl)
theorem dX3_merge_58 : decode cX3_merge 58 = .ok (.getfield 120, 3) := dk_180 0 120 (dk_at dksX3_merge_2 11 rfl rfl)
theorem dX3_merge_61 : decode cX3_merge 61 = .ok (.iconst 1, 1) := dk_4 (dk_at dksX3_merge_2 14 rfl rfl)
theorem dX3_merge_62 : decode cX3_merge 62 = .ok (.iadd, 1) := dk_96 (dk_at dksX3_merge_2 15 rfl rfl)
theorem dX3_merge_63 : decode cX3_merge 63 = .ok (.putfield 120, 3) := dk_181 0 120 (dk_at dksX3_merge_2 16 rfl rfl)
theorem dX3_merge_66 : decode cX3_merge 66 = .ok (.aload_n 0, 1) := dk_42 (dk_at dksX3_merge_2 19 rfl rfl)
theorem dX3_merge_67 : decode cX3_merge 67 = .ok (.iconst 4, 1) := dk_7 (dk_at dksX3_merge_2 20 rfl rfl)
theorem dX3_merge_68 : decode cX3_merge 68 = .ok (.iload_n 1, 1) := dk_27 (dk_at dksX3_merge_2 21 rfl rfl)
theorem dX3_merge_69 : decode cX3_merge 69 = .ok (.iload_n 2, 1) := dk_28 (dk_at dksX3_merge_2 22 rfl rfl)
theorem dX3_merge_70 : decode cX3_merge 70 = .ok (.invokevirtual 112, 3) := dk_182 0 112 (dk_at dksX3_merge_3 0 rfl rfl)
theorem dX3_merge_73 : decode cX3_merge 73 = .ok (.aload_n 0, 1) := dk_42 (dk_at dksX3_merge_3 3 rfl rfl)
theorem dX3_merge_74 : decode cX3_merge 74 = .ok (.getfield 68, 3) := dk_180 0 68 (dk_at dksX3_merge_3 4 rfl rfl)
theorem dX3_merge_77 : decode cX3_merge 77 = .ok (.iload_n 2, 1) := dk_28 (dk_at dksX3_merge_3 7 rfl rfl)
theorem dX3_merge_78 : decode cX3_merge 78 = .ok (.iaload, 1) := dk_46 (dk_at dksX3_merge_3 8 rfl rfl)
theorem dX3_merge_79 : decode cX3_merge 79 = .ok (.ireturn, 1) := dk_172 (dk_at dksX3_merge_3 9 rfl rfl)
abbrev cX3_undo : ByteArray := prog_10_method_25_code
def yX3_undo : MethodName := ⟨RX3, "undo", "(IZ)I"⟩
def dkwX3_undo_2 : List UInt8 := [180, 0, 25, 27, 28, 84, 42, 182, 0, 123, 42, 182, 0, 126, 172]
abbrev dktX3_undo_2 : List UInt8 := dkwX3_undo_2 ++ []
def dkwX3_undo_1 : List UInt8 := [51, 28, 160, 0, 7, 5, 167, 0, 4, 3, 181, 0, 74, 42, 180, 0, 74, 158, 0, 5, 3, 172, 42]
abbrev dktX3_undo_1 : List UInt8 := dkwX3_undo_1 ++ dktX3_undo_2
def dkwX3_undo_0 : List UInt8 := [42, 27, 3, 42, 180, 0, 109, 4, 100, 184, 0, 78, 154, 0, 7, 4, 167, 0, 18, 42, 180, 0, 25, 27]
abbrev dktX3_undo_0 : List UInt8 := dkwX3_undo_0 ++ dktX3_undo_1
theorem dksX3_undo_0 : cX3_undo.data.toList.drop 0 = dktX3_undo_0 := by decide +kernel
theorem dksX3_undo_1 : cX3_undo.data.toList.drop 24 = dktX3_undo_1 := dk_seg dksX3_undo_0 24 rfl rfl
theorem dksX3_undo_2 : cX3_undo.data.toList.drop 47 = dktX3_undo_2 := dk_seg dksX3_undo_1 23 rfl rfl
theorem dX3_undo_0 : decode cX3_undo 0 = .ok (.aload_n 0, 1) := dk_42 (dk_at dksX3_undo_0 0 rfl rfl)
theorem dX3_undo_1 : decode cX3_undo 1 = .ok (.iload_n 1, 1) := dk_27 (dk_at dksX3_undo_0 1 rfl rfl)
theorem dX3_undo_2 : decode cX3_undo 2 = .ok (.iconst 0, 1) := dk_3 (dk_at dksX3_undo_0 2 rfl rfl)
theorem dX3_undo_3 : decode cX3_undo 3 = .ok (.aload_n 0, 1) := dk_42 (dk_at dksX3_undo_0 3 rfl rfl)
theorem dX3_undo_4 : decode cX3_undo 4 = .ok (.getfield 109, 3) := dk_180 0 109 (dk_at dksX3_undo_0 4 rfl rfl)
theorem dX3_undo_7 : decode cX3_undo 7 = .ok (.iconst 1, 1) := dk_4 (dk_at dksX3_undo_0 7 rfl rfl)
theorem dX3_undo_8 : decode cX3_undo 8 = .ok (.isub, 1) := dk_100 (dk_at dksX3_undo_0 8 rfl rfl)
theorem dX3_undo_9 : decode cX3_undo 9 = .ok (.invokestatic 78, 3) := dk_184 0 78 (dk_at dksX3_undo_0 9 rfl rfl)
theorem dX3_undo_12 : decode cX3_undo 12 = .ok (.ifCond .ne 7, 3) := dk_154 0 7 (dk_at dksX3_undo_0 12 rfl rfl)
theorem dX3_undo_15 : decode cX3_undo 15 = .ok (.iconst 1, 1) := dk_4 (dk_at dksX3_undo_0 15 rfl rfl)
theorem dX3_undo_16 : decode cX3_undo 16 = .ok (.goto 18, 3) := dk_167 0 18 (dk_at dksX3_undo_0 16 rfl rfl)
theorem dX3_undo_19 : decode cX3_undo 19 = .ok (.aload_n 0, 1) := dk_42 (dk_at dksX3_undo_0 19 rfl rfl)
theorem dX3_undo_20 : decode cX3_undo 20 = .ok (.getfield 25, 3) := dk_180 0 25 (dk_at dksX3_undo_0 20 rfl rfl)
theorem dX3_undo_23 : decode cX3_undo 23 = .ok (.iload_n 1, 1) := dk_27 (dk_at dksX3_undo_0 23 rfl rfl)
theorem dX3_undo_24 : decode cX3_undo 24 = .ok (.baload, 1) := dk_51 (dk_at dksX3_undo_1 0 rfl rfl)
theorem dX3_undo_25 : decode cX3_undo 25 = .ok (.iload_n 2, 1) := dk_28 (dk_at dksX3_undo_1 1 rfl rfl)
theorem dX3_undo_26 : decode cX3_undo 26 = .ok (.if_icmp .ne 7, 3) := dk_160 0 7 (dk_at dksX3_undo_1 2 rfl rfl)
theorem dX3_undo_29 : decode cX3_undo 29 = .ok (.iconst 2, 1) := dk_5 (dk_at dksX3_undo_1 5 rfl rfl)
theorem dX3_undo_30 : decode cX3_undo 30 = .ok (.goto 4, 3) := dk_167 0 4 (dk_at dksX3_undo_1 6 rfl rfl)
theorem dX3_undo_33 : decode cX3_undo 33 = .ok (.iconst 0, 1) := dk_3 (dk_at dksX3_undo_1 9 rfl rfl)
theorem dX3_undo_34 : decode cX3_undo 34 = .ok (.putfield 74, 3) := dk_181 0 74 (dk_at dksX3_undo_1 10 rfl rfl)
theorem dX3_undo_37 : decode cX3_undo 37 = .ok (.aload_n 0, 1) := dk_42 (dk_at dksX3_undo_1 13 rfl rfl)
theorem dX3_undo_38 : decode cX3_undo 38 = .ok (.getfield 74, 3) := dk_180 0 74 (dk_at dksX3_undo_1 14 rfl rfl)
theorem dX3_undo_41 : decode cX3_undo 41 = .ok (.ifCond .le 5, 3) := dk_158 0 5 (dk_at dksX3_undo_1 17 rfl rfl)
theorem dX3_undo_44 : decode cX3_undo 44 = .ok (.iconst 0, 1) := dk_3 (dk_at dksX3_undo_1 20 rfl rfl)
theorem dX3_undo_45 : decode cX3_undo 45 = .ok (.ireturn, 1) := dk_172 (dk_at dksX3_undo_1 21 rfl rfl)
theorem dX3_undo_46 : decode cX3_undo 46 = .ok (.aload_n 0, 1) := dk_42 (dk_at dksX3_undo_1 22 rfl rfl)
theorem dX3_undo_47 : decode cX3_undo 47 = .ok (.getfield 25, 3) := dk_180 0 25 (dk_at dksX3_undo_2 0 rfl rfl)
theorem dX3_undo_50 : decode cX3_undo 50 = .ok (.iload_n 1, 1) := dk_27 (dk_at dksX3_undo_2 3 rfl rfl)
theorem dX3_undo_51 : decode cX3_undo 51 = .ok (.iload_n 2, 1) := dk_28 (dk_at dksX3_undo_2 4 rfl rfl)
theorem dX3_undo_52 : decode cX3_undo 52 = .ok (.bastore, 1) := dk_84 (dk_at dksX3_undo_2 5 rfl rfl)
theorem dX3_undo_53 : decode cX3_undo 53 = .ok (.aload_n 0, 1) := dk_42 (dk_at dksX3_undo_2 6 rfl rfl)
theorem dX3_undo_54 : decode cX3_undo 54 = .ok (.invokevirtual 123, 3) := dk_182 0 123 (dk_at dksX3_undo_2 7 rfl rfl)
theorem dX3_undo_57 : decode cX3_undo 57 = .ok (.aload_n 0, 1) := dk_42 (dk_at dksX3_undo_2 10 rfl rfl)
theorem dX3_undo_58 : decode cX3_undo 58 = .ok (.invokevirtual 126, 3) := dk_182 0 126 (dk_at dksX3_undo_2 11 rfl rfl)
theorem dX3_undo_61 : decode cX3_undo 61 = .ok (.ireturn, 1) := dk_172 (dk_at dksX3_undo_2 14 rfl rfl)
abbrev cX3_makeAnew : ByteArray := prog_10_method_15_code
def yX3_makeAnew : MethodName := ⟨RX3, "makeAnew", "()V"⟩
def dkwX3_makeAnew_1 : List UInt8 := [42, 180, 0, 103, 162, 0, 14, 42, 27, 182, 0, 106, 132, 1, 1, 167, 255, 240, 177]
abbrev dktX3_makeAnew_1 : List UInt8 := dkwX3_makeAnew_1 ++ []
def dkwX3_makeAnew_0 : List UInt8 := [3, 60, 27, 16, 80, 162, 0, 16, 42, 180, 0, 53, 27, 3, 84, 132, 1, 1, 167, 255, 240, 3, 60, 27]
abbrev dktX3_makeAnew_0 : List UInt8 := dkwX3_makeAnew_0 ++ dktX3_makeAnew_1
theorem dksX3_makeAnew_0 : cX3_makeAnew.data.toList.drop 0 = dktX3_makeAnew_0 := by decide +kernel
theorem dksX3_makeAnew_1 : cX3_makeAnew.data.toList.drop 24 = dktX3_makeAnew_1 := dk_seg dksX3_makeAnew_0 24 rfl rfl
theorem dX3_makeAnew_0 : decode cX3_makeAnew 0 = .ok (.iconst 0, 1) := dk_3 (dk_at dksX3_makeAnew_0 0 rfl rfl)
theorem dX3_makeAnew_1 : decode cX3_makeAnew 1 = .ok (.istore_n 1, 1) := dk_60 (dk_at dksX3_makeAnew_0 1 rfl rfl)
theorem dX3_makeAnew_2 : decode cX3_makeAnew 2 = .ok (.iload_n 1, 1) := dk_27 (dk_at dksX3_makeAnew_0 2 rfl rfl)
theorem dX3_makeAnew_3 : decode cX3_makeAnew 3 = .ok (.bipush 80, 2) := dk_16 80 (dk_at dksX3_makeAnew_0 3 rfl rfl)
theorem dX3_makeAnew_5 : decode cX3_makeAnew 5 = .ok (.if_icmp .ge 16, 3) := dk_162 0 16 (dk_at dksX3_makeAnew_0 5 rfl rfl)
theorem dX3_makeAnew_8 : decode cX3_makeAnew 8 = .ok (.aload_n 0, 1) := dk_42 (dk_at dksX3_makeAnew_0 8 rfl rfl)
theorem dX3_makeAnew_9 : decode cX3_makeAnew 9 = .ok (.getfield 53, 3) := dk_180 0 53 (dk_at dksX3_makeAnew_0 9 rfl rfl)
theorem dX3_makeAnew_12 : decode cX3_makeAnew 12 = .ok (.iload_n 1, 1) := dk_27 (dk_at dksX3_makeAnew_0 12 rfl rfl)
theorem dX3_makeAnew_13 : decode cX3_makeAnew 13 = .ok (.iconst 0, 1) := dk_3 (dk_at dksX3_makeAnew_0 13 rfl rfl)
theorem dX3_makeAnew_14 : decode cX3_makeAnew 14 = .ok (.bastore, 1) := dk_84 (dk_at dksX3_makeAnew_0 14 rfl rfl)
theorem dX3_makeAnew_15 : decode cX3_makeAnew 15 = .ok (.iinc 1 1, 3) := dk_132 1 1 (dk_at dksX3_makeAnew_0 15 rfl rfl)
theorem dX3_makeAnew_18 : decode cX3_makeAnew 18 = .ok (.goto (-16), 3) := dk_167 255 240 (dk_at dksX3_makeAnew_0 18 rfl rfl)
theorem dX3_makeAnew_21 : decode cX3_makeAnew 21 = .ok (.iconst 0, 1) := dk_3 (dk_at dksX3_makeAnew_0 21 rfl rfl)
theorem dX3_makeAnew_22 : decode cX3_makeAnew 22 = .ok (.istore_n 1, 1) := dk_60 (dk_at dksX3_makeAnew_0 22 rfl rfl)
theorem dX3_makeAnew_23 : decode cX3_makeAnew 23 = .ok (.iload_n 1, 1) := dk_27 (dk_at dksX3_makeAnew_0 23 rfl rfl)
theorem dX3_makeAnew_24 : decode cX3_makeAnew 24 = .ok (.aload_n 0, 1) := dk_42 (dk_at dksX3_makeAnew_1 0 rfl rfl)
theorem dX3_makeAnew_25 : decode cX3_makeAnew 25 = .ok (.getfield 103, 3) := dk_180 0 103 (dk_at dksX3_makeAnew_1 1 rfl rfl)
theorem dX3_makeAnew_28 : decode cX3_makeAnew 28 = .ok (.if_icmp .ge 14, 3) := dk_162 0 14 (dk_at dksX3_makeAnew_1 4 rfl rfl)
theorem dX3_makeAnew_31 : decode cX3_makeAnew 31 = .ok (.aload_n 0, 1) := dk_42 (dk_at dksX3_makeAnew_1 7 rfl rfl)
theorem dX3_makeAnew_32 : decode cX3_makeAnew 32 = .ok (.iload_n 1, 1) := dk_27 (dk_at dksX3_makeAnew_1 8 rfl rfl)
theorem dX3_makeAnew_33 : decode cX3_makeAnew 33 = .ok (.invokevirtual 106, 3) := dk_182 0 106 (dk_at dksX3_makeAnew_1 9 rfl rfl)
theorem dX3_makeAnew_36 : decode cX3_makeAnew 36 = .ok (.iinc 1 1, 3) := dk_132 1 1 (dk_at dksX3_makeAnew_1 12 rfl rfl)
theorem dX3_makeAnew_39 : decode cX3_makeAnew 39 = .ok (.goto (-16), 3) := dk_167 255 240 (dk_at dksX3_makeAnew_1 15 rfl rfl)
theorem dX3_makeAnew_42 : decode cX3_makeAnew 42 = .ok (.return_, 1) := dk_177 (dk_at dksX3_makeAnew_1 18 rfl rfl)
abbrev cX3_recordMany : ByteArray := prog_10_method_24_code
def yX3_recordMany : MethodName := ⟨RX3, "recordMany", "()I"⟩
def dkwX3_recordMany_1 : List UInt8 := [3, 96, 60, 132, 2, 1, 167, 255, 230, 27, 172]
abbrev dktX3_recordMany_1 : List UInt8 := dkwX3_recordMany_1 ++ []
def dkwX3_recordMany_0 : List UInt8 := [3, 60, 3, 61, 28, 16, 80, 162, 0, 26, 27, 42, 180, 0, 53, 28, 51, 153, 0, 7, 4, 167, 0, 4]
abbrev dktX3_recordMany_0 : List UInt8 := dkwX3_recordMany_0 ++ dktX3_recordMany_1
theorem dksX3_recordMany_0 : cX3_recordMany.data.toList.drop 0 = dktX3_recordMany_0 := by decide +kernel
theorem dksX3_recordMany_1 : cX3_recordMany.data.toList.drop 24 = dktX3_recordMany_1 := dk_seg dksX3_recordMany_0 24 rfl rfl
theorem dX3_recordMany_0 : decode cX3_recordMany 0 = .ok (.iconst 0, 1) := dk_3 (dk_at dksX3_recordMany_0 0 rfl rfl)
theorem dX3_recordMany_1 : decode cX3_recordMany 1 = .ok (.istore_n 1, 1) := dk_60 (dk_at dksX3_recordMany_0 1 rfl rfl)
theorem dX3_recordMany_2 : decode cX3_recordMany 2 = .ok (.iconst 0, 1) := dk_3 (dk_at dksX3_recordMany_0 2 rfl rfl)
theorem dX3_recordMany_3 : decode cX3_recordMany 3 = .ok (.istore_n 2, 1) := dk_61 (dk_at dksX3_recordMany_0 3 rfl rfl)
theorem dX3_recordMany_4 : decode cX3_recordMany 4 = .ok (.iload_n 2, 1) := dk_28 (dk_at dksX3_recordMany_0 4 rfl rfl)
theorem dX3_recordMany_5 : decode cX3_recordMany 5 = .ok (.bipush 80, 2) := dk_16 80 (dk_at dksX3_recordMany_0 5 rfl rfl)
theorem dX3_recordMany_7 : decode cX3_recordMany 7 = .ok (.if_icmp .ge 26, 3) := dk_162 0 26 (dk_at dksX3_recordMany_0 7 rfl rfl)
theorem dX3_recordMany_10 : decode cX3_recordMany 10 = .ok (.iload_n 1, 1) := dk_27 (dk_at dksX3_recordMany_0 10 rfl rfl)
theorem dX3_recordMany_11 : decode cX3_recordMany 11 = .ok (.aload_n 0, 1) := dk_42 (dk_at dksX3_recordMany_0 11 rfl rfl)
theorem dX3_recordMany_12 : decode cX3_recordMany 12 = .ok (.getfield 53, 3) := dk_180 0 53 (dk_at dksX3_recordMany_0 12 rfl rfl)
theorem dX3_recordMany_15 : decode cX3_recordMany 15 = .ok (.iload_n 2, 1) := dk_28 (dk_at dksX3_recordMany_0 15 rfl rfl)
theorem dX3_recordMany_16 : decode cX3_recordMany 16 = .ok (.baload, 1) := dk_51 (dk_at dksX3_recordMany_0 16 rfl rfl)
theorem dX3_recordMany_17 : decode cX3_recordMany 17 = .ok (.ifCond .eq 7, 3) := dk_153 0 7 (dk_at dksX3_recordMany_0 17 rfl rfl)
theorem dX3_recordMany_20 : decode cX3_recordMany 20 = .ok (.iconst 1, 1) := dk_4 (dk_at dksX3_recordMany_0 20 rfl rfl)
theorem dX3_recordMany_21 : decode cX3_recordMany 21 = .ok (.goto 4, 3) := dk_167 0 4 (dk_at dksX3_recordMany_0 21 rfl rfl)
theorem dX3_recordMany_24 : decode cX3_recordMany 24 = .ok (.iconst 0, 1) := dk_3 (dk_at dksX3_recordMany_1 0 rfl rfl)
theorem dX3_recordMany_25 : decode cX3_recordMany 25 = .ok (.iadd, 1) := dk_96 (dk_at dksX3_recordMany_1 1 rfl rfl)
theorem dX3_recordMany_26 : decode cX3_recordMany 26 = .ok (.istore_n 1, 1) := dk_60 (dk_at dksX3_recordMany_1 2 rfl rfl)
theorem dX3_recordMany_27 : decode cX3_recordMany 27 = .ok (.iinc 2 1, 3) := dk_132 2 1 (dk_at dksX3_recordMany_1 3 rfl rfl)
theorem dX3_recordMany_30 : decode cX3_recordMany 30 = .ok (.goto (-26), 3) := dk_167 255 230 (dk_at dksX3_recordMany_1 6 rfl rfl)
theorem dX3_recordMany_33 : decode cX3_recordMany 33 = .ok (.iload_n 1, 1) := dk_27 (dk_at dksX3_recordMany_1 9 rfl rfl)
theorem dX3_recordMany_34 : decode cX3_recordMany 34 = .ok (.ireturn, 1) := dk_172 (dk_at dksX3_recordMany_1 10 rfl rfl)
abbrev cX3_batches : ByteArray := prog_10_method_26_code
def yX3_batches : MethodName := ⟨RX3, "batches", "()I"⟩
def dkwX3_batches_0 : List UInt8 := [42, 3, 181, 0, 74, 42, 180, 0, 109, 172]
abbrev dktX3_batches_0 : List UInt8 := dkwX3_batches_0 ++ []
theorem dksX3_batches_0 : cX3_batches.data.toList.drop 0 = dktX3_batches_0 := by decide +kernel
theorem dX3_batches_0 : decode cX3_batches 0 = .ok (.aload_n 0, 1) := dk_42 (dk_at dksX3_batches_0 0 rfl rfl)
theorem dX3_batches_1 : decode cX3_batches 1 = .ok (.iconst 0, 1) := dk_3 (dk_at dksX3_batches_0 1 rfl rfl)
theorem dX3_batches_2 : decode cX3_batches 2 = .ok (.putfield 74, 3) := dk_181 0 74 (dk_at dksX3_batches_0 2 rfl rfl)
theorem dX3_batches_5 : decode cX3_batches 5 = .ok (.aload_n 0, 1) := dk_42 (dk_at dksX3_batches_0 5 rfl rfl)
theorem dX3_batches_6 : decode cX3_batches 6 = .ok (.getfield 109, 3) := dk_180 0 109 (dk_at dksX3_batches_0 6 rfl rfl)
theorem dX3_batches_9 : decode cX3_batches 9 = .ok (.ireturn, 1) := dk_172 (dk_at dksX3_batches_0 9 rfl rfl)
abbrev cX3_loads : ByteArray := prog_10_method_27_code
def yX3_loads : MethodName := ⟨RX3, "loads", "()I"⟩
def dkwX3_loads_0 : List UInt8 := [42, 3, 181, 0, 74, 42, 180, 0, 82, 172]
abbrev dktX3_loads_0 : List UInt8 := dkwX3_loads_0 ++ []
theorem dksX3_loads_0 : cX3_loads.data.toList.drop 0 = dktX3_loads_0 := by decide +kernel
theorem dX3_loads_0 : decode cX3_loads 0 = .ok (.aload_n 0, 1) := dk_42 (dk_at dksX3_loads_0 0 rfl rfl)
theorem dX3_loads_1 : decode cX3_loads 1 = .ok (.iconst 0, 1) := dk_3 (dk_at dksX3_loads_0 1 rfl rfl)
theorem dX3_loads_2 : decode cX3_loads 2 = .ok (.putfield 74, 3) := dk_181 0 74 (dk_at dksX3_loads_0 2 rfl rfl)
theorem dX3_loads_5 : decode cX3_loads 5 = .ok (.aload_n 0, 1) := dk_42 (dk_at dksX3_loads_0 5 rfl rfl)
theorem dX3_loads_6 : decode cX3_loads 6 = .ok (.getfield 82, 3) := dk_180 0 82 (dk_at dksX3_loads_0 6 rfl rfl)
theorem dX3_loads_9 : decode cX3_loads 9 = .ok (.ireturn, 1) := dk_172 (dk_at dksX3_loads_0 9 rfl rfl)
abbrev cX3_records : ByteArray := prog_10_method_28_code
def yX3_records : MethodName := ⟨RX3, "records", "()I"⟩
def dkwX3_records_0 : List UInt8 := [42, 3, 181, 0, 74, 42, 182, 0, 126, 172]
abbrev dktX3_records_0 : List UInt8 := dkwX3_records_0 ++ []
theorem dksX3_records_0 : cX3_records.data.toList.drop 0 = dktX3_records_0 := by decide +kernel
theorem dX3_records_0 : decode cX3_records 0 = .ok (.aload_n 0, 1) := dk_42 (dk_at dksX3_records_0 0 rfl rfl)
theorem dX3_records_1 : decode cX3_records 1 = .ok (.iconst 0, 1) := dk_3 (dk_at dksX3_records_0 1 rfl rfl)
theorem dX3_records_2 : decode cX3_records 2 = .ok (.putfield 74, 3) := dk_181 0 74 (dk_at dksX3_records_0 2 rfl rfl)
theorem dX3_records_5 : decode cX3_records 5 = .ok (.aload_n 0, 1) := dk_42 (dk_at dksX3_records_0 5 rfl rfl)
theorem dX3_records_6 : decode cX3_records 6 = .ok (.invokevirtual 126, 3) := dk_182 0 126 (dk_at dksX3_records_0 6 rfl rfl)
theorem dX3_records_9 : decode cX3_records 9 = .ok (.ireturn, 1) := dk_172 (dk_at dksX3_records_0 9 rfl rfl)
abbrev cX3_isUndone : ByteArray := prog_10_method_29_code
def yX3_isUndone : MethodName := ⟨RX3, "isUndone", "(I)Z"⟩
def dkwX3_isUndone_1 : List UInt8 := [180, 0, 74, 154, 0, 16, 42, 180, 0, 25, 27, 51, 153, 0, 7, 4, 167, 0, 4, 3, 172]
abbrev dktX3_isUndone_1 : List UInt8 := dkwX3_isUndone_1 ++ []
def dkwX3_isUndone_0 : List UInt8 := [42, 27, 3, 42, 180, 0, 109, 4, 100, 184, 0, 78, 153, 0, 7, 3, 167, 0, 4, 4, 181, 0, 74, 42]
abbrev dktX3_isUndone_0 : List UInt8 := dkwX3_isUndone_0 ++ dktX3_isUndone_1
theorem dksX3_isUndone_0 : cX3_isUndone.data.toList.drop 0 = dktX3_isUndone_0 := by decide +kernel
theorem dksX3_isUndone_1 : cX3_isUndone.data.toList.drop 24 = dktX3_isUndone_1 := dk_seg dksX3_isUndone_0 24 rfl rfl
theorem dX3_isUndone_0 : decode cX3_isUndone 0 = .ok (.aload_n 0, 1) := dk_42 (dk_at dksX3_isUndone_0 0 rfl rfl)
theorem dX3_isUndone_1 : decode cX3_isUndone 1 = .ok (.iload_n 1, 1) := dk_27 (dk_at dksX3_isUndone_0 1 rfl rfl)
theorem dX3_isUndone_2 : decode cX3_isUndone 2 = .ok (.iconst 0, 1) := dk_3 (dk_at dksX3_isUndone_0 2 rfl rfl)
theorem dX3_isUndone_3 : decode cX3_isUndone 3 = .ok (.aload_n 0, 1) := dk_42 (dk_at dksX3_isUndone_0 3 rfl rfl)
theorem dX3_isUndone_4 : decode cX3_isUndone 4 = .ok (.getfield 109, 3) := dk_180 0 109 (dk_at dksX3_isUndone_0 4 rfl rfl)
theorem dX3_isUndone_7 : decode cX3_isUndone 7 = .ok (.iconst 1, 1) := dk_4 (dk_at dksX3_isUndone_0 7 rfl rfl)
theorem dX3_isUndone_8 : decode cX3_isUndone 8 = .ok (.isub, 1) := dk_100 (dk_at dksX3_isUndone_0 8 rfl rfl)
theorem dX3_isUndone_9 : decode cX3_isUndone 9 = .ok (.invokestatic 78, 3) := dk_184 0 78 (dk_at dksX3_isUndone_0 9 rfl rfl)
theorem dX3_isUndone_12 : decode cX3_isUndone 12 = .ok (.ifCond .eq 7, 3) := dk_153 0 7 (dk_at dksX3_isUndone_0 12 rfl rfl)
theorem dX3_isUndone_15 : decode cX3_isUndone 15 = .ok (.iconst 0, 1) := dk_3 (dk_at dksX3_isUndone_0 15 rfl rfl)
theorem dX3_isUndone_16 : decode cX3_isUndone 16 = .ok (.goto 4, 3) := dk_167 0 4 (dk_at dksX3_isUndone_0 16 rfl rfl)
theorem dX3_isUndone_19 : decode cX3_isUndone 19 = .ok (.iconst 1, 1) := dk_4 (dk_at dksX3_isUndone_0 19 rfl rfl)
theorem dX3_isUndone_20 : decode cX3_isUndone 20 = .ok (.putfield 74, 3) := dk_181 0 74 (dk_at dksX3_isUndone_0 20 rfl rfl)
theorem dX3_isUndone_23 : decode cX3_isUndone 23 = .ok (.aload_n 0, 1) := dk_42 (dk_at dksX3_isUndone_0 23 rfl rfl)
theorem dX3_isUndone_24 : decode cX3_isUndone 24 = .ok (.getfield 74, 3) := dk_180 0 74 (dk_at dksX3_isUndone_1 0 rfl rfl)
theorem dX3_isUndone_27 : decode cX3_isUndone 27 = .ok (.ifCond .ne 16, 3) := dk_154 0 16 (dk_at dksX3_isUndone_1 3 rfl rfl)
theorem dX3_isUndone_30 : decode cX3_isUndone 30 = .ok (.aload_n 0, 1) := dk_42 (dk_at dksX3_isUndone_1 6 rfl rfl)
theorem dX3_isUndone_31 : decode cX3_isUndone 31 = .ok (.getfield 25, 3) := dk_180 0 25 (dk_at dksX3_isUndone_1 7 rfl rfl)
theorem dX3_isUndone_34 : decode cX3_isUndone 34 = .ok (.iload_n 1, 1) := dk_27 (dk_at dksX3_isUndone_1 10 rfl rfl)
theorem dX3_isUndone_35 : decode cX3_isUndone 35 = .ok (.baload, 1) := dk_51 (dk_at dksX3_isUndone_1 11 rfl rfl)
theorem dX3_isUndone_36 : decode cX3_isUndone 36 = .ok (.ifCond .eq 7, 3) := dk_153 0 7 (dk_at dksX3_isUndone_1 12 rfl rfl)
theorem dX3_isUndone_39 : decode cX3_isUndone 39 = .ok (.iconst 1, 1) := dk_4 (dk_at dksX3_isUndone_1 15 rfl rfl)
theorem dX3_isUndone_40 : decode cX3_isUndone 40 = .ok (.goto 4, 3) := dk_167 0 4 (dk_at dksX3_isUndone_1 16 rfl rfl)
theorem dX3_isUndone_43 : decode cX3_isUndone 43 = .ok (.iconst 0, 1) := dk_3 (dk_at dksX3_isUndone_1 19 rfl rfl)
theorem dX3_isUndone_44 : decode cX3_isUndone 44 = .ok (.ireturn, 1) := dk_172 (dk_at dksX3_isUndone_1 20 rfl rfl)
abbrev cX3_isThere : ByteArray := prog_10_method_30_code
def yX3_isThere : MethodName := ⟨RX3, "isThere", "(I)Z"⟩
def dkwX3_isThere_0 : List UInt8 := [42, 3, 181, 0, 74, 42, 27, 182, 0, 116, 172]
abbrev dktX3_isThere_0 : List UInt8 := dkwX3_isThere_0 ++ []
theorem dksX3_isThere_0 : cX3_isThere.data.toList.drop 0 = dktX3_isThere_0 := by decide +kernel
theorem dX3_isThere_0 : decode cX3_isThere 0 = .ok (.aload_n 0, 1) := dk_42 (dk_at dksX3_isThere_0 0 rfl rfl)
theorem dX3_isThere_1 : decode cX3_isThere 1 = .ok (.iconst 0, 1) := dk_3 (dk_at dksX3_isThere_0 1 rfl rfl)
theorem dX3_isThere_2 : decode cX3_isThere 2 = .ok (.putfield 74, 3) := dk_181 0 74 (dk_at dksX3_isThere_0 2 rfl rfl)
theorem dX3_isThere_5 : decode cX3_isThere 5 = .ok (.aload_n 0, 1) := dk_42 (dk_at dksX3_isThere_0 5 rfl rfl)
theorem dX3_isThere_6 : decode cX3_isThere 6 = .ok (.iload_n 1, 1) := dk_27 (dk_at dksX3_isThere_0 6 rfl rfl)
theorem dX3_isThere_7 : decode cX3_isThere 7 = .ok (.invokevirtual 116, 3) := dk_182 0 116 (dk_at dksX3_isThere_0 7 rfl rfl)
theorem dX3_isThere_10 : decode cX3_isThere 10 = .ok (.ireturn, 1) := dk_172 (dk_at dksX3_isThere_0 10 rfl rfl)
abbrev cX3_hit : ByteArray := prog_10_method_31_code
def yX3_hit : MethodName := ⟨RX3, "hit", "(I)I"⟩
def dkwX3_hit_1 : List UInt8 := [180, 0, 74, 154, 0, 12, 42, 180, 0, 41, 27, 46, 167, 0, 4, 3, 172]
abbrev dktX3_hit_1 : List UInt8 := dkwX3_hit_1 ++ []
def dkwX3_hit_0 : List UInt8 := [42, 27, 3, 42, 180, 0, 82, 4, 100, 184, 0, 78, 153, 0, 7, 3, 167, 0, 4, 4, 181, 0, 74, 42]
abbrev dktX3_hit_0 : List UInt8 := dkwX3_hit_0 ++ dktX3_hit_1
theorem dksX3_hit_0 : cX3_hit.data.toList.drop 0 = dktX3_hit_0 := by decide +kernel
theorem dksX3_hit_1 : cX3_hit.data.toList.drop 24 = dktX3_hit_1 := dk_seg dksX3_hit_0 24 rfl rfl
theorem dX3_hit_0 : decode cX3_hit 0 = .ok (.aload_n 0, 1) := dk_42 (dk_at dksX3_hit_0 0 rfl rfl)
theorem dX3_hit_1 : decode cX3_hit 1 = .ok (.iload_n 1, 1) := dk_27 (dk_at dksX3_hit_0 1 rfl rfl)
theorem dX3_hit_2 : decode cX3_hit 2 = .ok (.iconst 0, 1) := dk_3 (dk_at dksX3_hit_0 2 rfl rfl)
theorem dX3_hit_3 : decode cX3_hit 3 = .ok (.aload_n 0, 1) := dk_42 (dk_at dksX3_hit_0 3 rfl rfl)
theorem dX3_hit_4 : decode cX3_hit 4 = .ok (.getfield 82, 3) := dk_180 0 82 (dk_at dksX3_hit_0 4 rfl rfl)
theorem dX3_hit_7 : decode cX3_hit 7 = .ok (.iconst 1, 1) := dk_4 (dk_at dksX3_hit_0 7 rfl rfl)
theorem dX3_hit_8 : decode cX3_hit 8 = .ok (.isub, 1) := dk_100 (dk_at dksX3_hit_0 8 rfl rfl)
theorem dX3_hit_9 : decode cX3_hit 9 = .ok (.invokestatic 78, 3) := dk_184 0 78 (dk_at dksX3_hit_0 9 rfl rfl)
theorem dX3_hit_12 : decode cX3_hit 12 = .ok (.ifCond .eq 7, 3) := dk_153 0 7 (dk_at dksX3_hit_0 12 rfl rfl)
theorem dX3_hit_15 : decode cX3_hit 15 = .ok (.iconst 0, 1) := dk_3 (dk_at dksX3_hit_0 15 rfl rfl)
theorem dX3_hit_16 : decode cX3_hit 16 = .ok (.goto 4, 3) := dk_167 0 4 (dk_at dksX3_hit_0 16 rfl rfl)
theorem dX3_hit_19 : decode cX3_hit 19 = .ok (.iconst 1, 1) := dk_4 (dk_at dksX3_hit_0 19 rfl rfl)
theorem dX3_hit_20 : decode cX3_hit 20 = .ok (.putfield 74, 3) := dk_181 0 74 (dk_at dksX3_hit_0 20 rfl rfl)
theorem dX3_hit_23 : decode cX3_hit 23 = .ok (.aload_n 0, 1) := dk_42 (dk_at dksX3_hit_0 23 rfl rfl)
theorem dX3_hit_24 : decode cX3_hit 24 = .ok (.getfield 74, 3) := dk_180 0 74 (dk_at dksX3_hit_1 0 rfl rfl)
theorem dX3_hit_27 : decode cX3_hit 27 = .ok (.ifCond .ne 12, 3) := dk_154 0 12 (dk_at dksX3_hit_1 3 rfl rfl)
theorem dX3_hit_30 : decode cX3_hit 30 = .ok (.aload_n 0, 1) := dk_42 (dk_at dksX3_hit_1 6 rfl rfl)
theorem dX3_hit_31 : decode cX3_hit 31 = .ok (.getfield 41, 3) := dk_180 0 41 (dk_at dksX3_hit_1 7 rfl rfl)
theorem dX3_hit_34 : decode cX3_hit 34 = .ok (.iload_n 1, 1) := dk_27 (dk_at dksX3_hit_1 10 rfl rfl)
theorem dX3_hit_35 : decode cX3_hit 35 = .ok (.iaload, 1) := dk_46 (dk_at dksX3_hit_1 11 rfl rfl)
theorem dX3_hit_36 : decode cX3_hit 36 = .ok (.goto 4, 3) := dk_167 0 4 (dk_at dksX3_hit_1 12 rfl rfl)
theorem dX3_hit_39 : decode cX3_hit 39 = .ok (.iconst 0, 1) := dk_3 (dk_at dksX3_hit_1 15 rfl rfl)
theorem dX3_hit_40 : decode cX3_hit 40 = .ok (.ireturn, 1) := dk_172 (dk_at dksX3_hit_1 16 rfl rfl)
abbrev cX3_keyOf : ByteArray := prog_10_method_32_code
def yX3_keyOf : MethodName := ⟨RX3, "keyOf", "(II)I"⟩
def dkwX3_keyOf_2 : List UInt8 := [172]
abbrev dktX3_keyOf_2 : List UInt8 := dkwX3_keyOf_2 ++ []
def dkwX3_keyOf_1 : List UInt8 := [181, 0, 74, 42, 180, 0, 74, 154, 0, 16, 42, 180, 0, 56, 6, 27, 104, 28, 96, 46, 167, 0, 4, 3]
abbrev dktX3_keyOf_1 : List UInt8 := dkwX3_keyOf_1 ++ dktX3_keyOf_2
def dkwX3_keyOf_0 : List UInt8 := [42, 42, 27, 182, 0, 116, 153, 0, 16, 28, 3, 5, 184, 0, 78, 153, 0, 7, 3, 167, 0, 4, 4]
abbrev dktX3_keyOf_0 : List UInt8 := dkwX3_keyOf_0 ++ dktX3_keyOf_1
theorem dksX3_keyOf_0 : cX3_keyOf.data.toList.drop 0 = dktX3_keyOf_0 := by decide +kernel
theorem dksX3_keyOf_1 : cX3_keyOf.data.toList.drop 23 = dktX3_keyOf_1 := dk_seg dksX3_keyOf_0 23 rfl rfl
theorem dksX3_keyOf_2 : cX3_keyOf.data.toList.drop 47 = dktX3_keyOf_2 := dk_seg dksX3_keyOf_1 24 rfl rfl
theorem dX3_keyOf_0 : decode cX3_keyOf 0 = .ok (.aload_n 0, 1) := dk_42 (dk_at dksX3_keyOf_0 0 rfl rfl)
theorem dX3_keyOf_1 : decode cX3_keyOf 1 = .ok (.aload_n 0, 1) := dk_42 (dk_at dksX3_keyOf_0 1 rfl rfl)
theorem dX3_keyOf_2 : decode cX3_keyOf 2 = .ok (.iload_n 1, 1) := dk_27 (dk_at dksX3_keyOf_0 2 rfl rfl)
theorem dX3_keyOf_3 : decode cX3_keyOf 3 = .ok (.invokevirtual 116, 3) := dk_182 0 116 (dk_at dksX3_keyOf_0 3 rfl rfl)
theorem dX3_keyOf_6 : decode cX3_keyOf 6 = .ok (.ifCond .eq 16, 3) := dk_153 0 16 (dk_at dksX3_keyOf_0 6 rfl rfl)
theorem dX3_keyOf_9 : decode cX3_keyOf 9 = .ok (.iload_n 2, 1) := dk_28 (dk_at dksX3_keyOf_0 9 rfl rfl)
theorem dX3_keyOf_10 : decode cX3_keyOf 10 = .ok (.iconst 0, 1) := dk_3 (dk_at dksX3_keyOf_0 10 rfl rfl)
theorem dX3_keyOf_11 : decode cX3_keyOf 11 = .ok (.iconst 2, 1) := dk_5 (dk_at dksX3_keyOf_0 11 rfl rfl)
theorem dX3_keyOf_12 : decode cX3_keyOf 12 = .ok (.invokestatic 78, 3) := dk_184 0 78 (dk_at dksX3_keyOf_0 12 rfl rfl)
theorem dX3_keyOf_15 : decode cX3_keyOf 15 = .ok (.ifCond .eq 7, 3) := dk_153 0 7 (dk_at dksX3_keyOf_0 15 rfl rfl)
theorem dX3_keyOf_18 : decode cX3_keyOf 18 = .ok (.iconst 0, 1) := dk_3 (dk_at dksX3_keyOf_0 18 rfl rfl)
theorem dX3_keyOf_19 : decode cX3_keyOf 19 = .ok (.goto 4, 3) := dk_167 0 4 (dk_at dksX3_keyOf_0 19 rfl rfl)
theorem dX3_keyOf_22 : decode cX3_keyOf 22 = .ok (.iconst 1, 1) := dk_4 (dk_at dksX3_keyOf_0 22 rfl rfl)
theorem dX3_keyOf_23 : decode cX3_keyOf 23 = .ok (.putfield 74, 3) := dk_181 0 74 (dk_at dksX3_keyOf_1 0 rfl rfl)
theorem dX3_keyOf_26 : decode cX3_keyOf 26 = .ok (.aload_n 0, 1) := dk_42 (dk_at dksX3_keyOf_1 3 rfl rfl)
theorem dX3_keyOf_27 : decode cX3_keyOf 27 = .ok (.getfield 74, 3) := dk_180 0 74 (dk_at dksX3_keyOf_1 4 rfl rfl)
theorem dX3_keyOf_30 : decode cX3_keyOf 30 = .ok (.ifCond .ne 16, 3) := dk_154 0 16 (dk_at dksX3_keyOf_1 7 rfl rfl)
theorem dX3_keyOf_33 : decode cX3_keyOf 33 = .ok (.aload_n 0, 1) := dk_42 (dk_at dksX3_keyOf_1 10 rfl rfl)
theorem dX3_keyOf_34 : decode cX3_keyOf 34 = .ok (.getfield 56, 3) := dk_180 0 56 (dk_at dksX3_keyOf_1 11 rfl rfl)
theorem dX3_keyOf_37 : decode cX3_keyOf 37 = .ok (.iconst 3, 1) := dk_6 (dk_at dksX3_keyOf_1 14 rfl rfl)
theorem dX3_keyOf_38 : decode cX3_keyOf 38 = .ok (.iload_n 1, 1) := dk_27 (dk_at dksX3_keyOf_1 15 rfl rfl)
theorem dX3_keyOf_39 : decode cX3_keyOf 39 = .ok (.imul, 1) := dk_104 (dk_at dksX3_keyOf_1 16 rfl rfl)
theorem dX3_keyOf_40 : decode cX3_keyOf 40 = .ok (.iload_n 2, 1) := dk_28 (dk_at dksX3_keyOf_1 17 rfl rfl)
theorem dX3_keyOf_41 : decode cX3_keyOf 41 = .ok (.iadd, 1) := dk_96 (dk_at dksX3_keyOf_1 18 rfl rfl)
theorem dX3_keyOf_42 : decode cX3_keyOf 42 = .ok (.iaload, 1) := dk_46 (dk_at dksX3_keyOf_1 19 rfl rfl)
theorem dX3_keyOf_43 : decode cX3_keyOf 43 = .ok (.goto 4, 3) := dk_167 0 4 (dk_at dksX3_keyOf_1 20 rfl rfl)
theorem dX3_keyOf_46 : decode cX3_keyOf 46 = .ok (.iconst 0, 1) := dk_3 (dk_at dksX3_keyOf_1 23 rfl rfl)
theorem dX3_keyOf_47 : decode cX3_keyOf 47 = .ok (.ireturn, 1) := dk_172 (dk_at dksX3_keyOf_2 0 rfl rfl)
abbrev cX3_fieldOf : ByteArray := prog_10_method_33_code
def yX3_fieldOf : MethodName := ⟨RX3, "fieldOf", "(II)I"⟩
def dkwX3_fieldOf_2 : List UInt8 := [172]
abbrev dktX3_fieldOf_2 : List UInt8 := dkwX3_fieldOf_2 ++ []
def dkwX3_fieldOf_1 : List UInt8 := [181, 0, 74, 42, 180, 0, 74, 154, 0, 16, 42, 180, 0, 59, 7, 27, 104, 28, 96, 46, 167, 0, 4, 3]
abbrev dktX3_fieldOf_1 : List UInt8 := dkwX3_fieldOf_1 ++ dktX3_fieldOf_2
def dkwX3_fieldOf_0 : List UInt8 := [42, 42, 27, 182, 0, 116, 153, 0, 16, 28, 3, 6, 184, 0, 78, 153, 0, 7, 3, 167, 0, 4, 4]
abbrev dktX3_fieldOf_0 : List UInt8 := dkwX3_fieldOf_0 ++ dktX3_fieldOf_1
theorem dksX3_fieldOf_0 : cX3_fieldOf.data.toList.drop 0 = dktX3_fieldOf_0 := by decide +kernel
theorem dksX3_fieldOf_1 : cX3_fieldOf.data.toList.drop 23 = dktX3_fieldOf_1 := dk_seg dksX3_fieldOf_0 23 rfl rfl
theorem dksX3_fieldOf_2 : cX3_fieldOf.data.toList.drop 47 = dktX3_fieldOf_2 := dk_seg dksX3_fieldOf_1 24 rfl rfl
theorem dX3_fieldOf_0 : decode cX3_fieldOf 0 = .ok (.aload_n 0, 1) := dk_42 (dk_at dksX3_fieldOf_0 0 rfl rfl)
theorem dX3_fieldOf_1 : decode cX3_fieldOf 1 = .ok (.aload_n 0, 1) := dk_42 (dk_at dksX3_fieldOf_0 1 rfl rfl)
theorem dX3_fieldOf_2 : decode cX3_fieldOf 2 = .ok (.iload_n 1, 1) := dk_27 (dk_at dksX3_fieldOf_0 2 rfl rfl)
theorem dX3_fieldOf_3 : decode cX3_fieldOf 3 = .ok (.invokevirtual 116, 3) := dk_182 0 116 (dk_at dksX3_fieldOf_0 3 rfl rfl)
theorem dX3_fieldOf_6 : decode cX3_fieldOf 6 = .ok (.ifCond .eq 16, 3) := dk_153 0 16 (dk_at dksX3_fieldOf_0 6 rfl rfl)
theorem dX3_fieldOf_9 : decode cX3_fieldOf 9 = .ok (.iload_n 2, 1) := dk_28 (dk_at dksX3_fieldOf_0 9 rfl rfl)
theorem dX3_fieldOf_10 : decode cX3_fieldOf 10 = .ok (.iconst 0, 1) := dk_3 (dk_at dksX3_fieldOf_0 10 rfl rfl)
theorem dX3_fieldOf_11 : decode cX3_fieldOf 11 = .ok (.iconst 3, 1) := dk_6 (dk_at dksX3_fieldOf_0 11 rfl rfl)
theorem dX3_fieldOf_12 : decode cX3_fieldOf 12 = .ok (.invokestatic 78, 3) := dk_184 0 78 (dk_at dksX3_fieldOf_0 12 rfl rfl)
theorem dX3_fieldOf_15 : decode cX3_fieldOf 15 = .ok (.ifCond .eq 7, 3) := dk_153 0 7 (dk_at dksX3_fieldOf_0 15 rfl rfl)
theorem dX3_fieldOf_18 : decode cX3_fieldOf 18 = .ok (.iconst 0, 1) := dk_3 (dk_at dksX3_fieldOf_0 18 rfl rfl)
theorem dX3_fieldOf_19 : decode cX3_fieldOf 19 = .ok (.goto 4, 3) := dk_167 0 4 (dk_at dksX3_fieldOf_0 19 rfl rfl)
theorem dX3_fieldOf_22 : decode cX3_fieldOf 22 = .ok (.iconst 1, 1) := dk_4 (dk_at dksX3_fieldOf_0 22 rfl rfl)
theorem dX3_fieldOf_23 : decode cX3_fieldOf 23 = .ok (.putfield 74, 3) := dk_181 0 74 (dk_at dksX3_fieldOf_1 0 rfl rfl)
theorem dX3_fieldOf_26 : decode cX3_fieldOf 26 = .ok (.aload_n 0, 1) := dk_42 (dk_at dksX3_fieldOf_1 3 rfl rfl)
theorem dX3_fieldOf_27 : decode cX3_fieldOf 27 = .ok (.getfield 74, 3) := dk_180 0 74 (dk_at dksX3_fieldOf_1 4 rfl rfl)
theorem dX3_fieldOf_30 : decode cX3_fieldOf 30 = .ok (.ifCond .ne 16, 3) := dk_154 0 16 (dk_at dksX3_fieldOf_1 7 rfl rfl)
theorem dX3_fieldOf_33 : decode cX3_fieldOf 33 = .ok (.aload_n 0, 1) := dk_42 (dk_at dksX3_fieldOf_1 10 rfl rfl)
theorem dX3_fieldOf_34 : decode cX3_fieldOf 34 = .ok (.getfield 59, 3) := dk_180 0 59 (dk_at dksX3_fieldOf_1 11 rfl rfl)
theorem dX3_fieldOf_37 : decode cX3_fieldOf 37 = .ok (.iconst 4, 1) := dk_7 (dk_at dksX3_fieldOf_1 14 rfl rfl)
theorem dX3_fieldOf_38 : decode cX3_fieldOf 38 = .ok (.iload_n 1, 1) := dk_27 (dk_at dksX3_fieldOf_1 15 rfl rfl)
theorem dX3_fieldOf_39 : decode cX3_fieldOf 39 = .ok (.imul, 1) := dk_104 (dk_at dksX3_fieldOf_1 16 rfl rfl)
theorem dX3_fieldOf_40 : decode cX3_fieldOf 40 = .ok (.iload_n 2, 1) := dk_28 (dk_at dksX3_fieldOf_1 17 rfl rfl)
theorem dX3_fieldOf_41 : decode cX3_fieldOf 41 = .ok (.iadd, 1) := dk_96 (dk_at dksX3_fieldOf_1 18 rfl rfl)
theorem dX3_fieldOf_42 : decode cX3_fieldOf 42 = .ok (.iaload, 1) := dk_46 (dk_at dksX3_fieldOf_1 19 rfl rfl)
theorem dX3_fieldOf_43 : decode cX3_fieldOf 43 = .ok (.goto 4, 3) := dk_167 0 4 (dk_at dksX3_fieldOf_1 20 rfl rfl)
theorem dX3_fieldOf_46 : decode cX3_fieldOf 46 = .ok (.iconst 0, 1) := dk_3 (dk_at dksX3_fieldOf_1 23 rfl rfl)
theorem dX3_fieldOf_47 : decode cX3_fieldOf 47 = .ok (.ireturn, 1) := dk_172 (dk_at dksX3_fieldOf_2 0 rfl rfl)
abbrev cX3_sourceOf : ByteArray := prog_10_method_34_code
def yX3_sourceOf : MethodName := ⟨RX3, "sourceOf", "(II)I"⟩
def dkwX3_sourceOf_2 : List UInt8 := [172]
abbrev dktX3_sourceOf_2 : List UInt8 := dkwX3_sourceOf_2 ++ []
def dkwX3_sourceOf_1 : List UInt8 := [181, 0, 74, 42, 180, 0, 74, 154, 0, 16, 42, 180, 0, 62, 7, 27, 104, 28, 96, 46, 167, 0, 4, 3]
abbrev dktX3_sourceOf_1 : List UInt8 := dkwX3_sourceOf_1 ++ dktX3_sourceOf_2
def dkwX3_sourceOf_0 : List UInt8 := [42, 42, 27, 182, 0, 116, 153, 0, 16, 28, 3, 6, 184, 0, 78, 153, 0, 7, 3, 167, 0, 4, 4]
abbrev dktX3_sourceOf_0 : List UInt8 := dkwX3_sourceOf_0 ++ dktX3_sourceOf_1
theorem dksX3_sourceOf_0 : cX3_sourceOf.data.toList.drop 0 = dktX3_sourceOf_0 := by decide +kernel
theorem dksX3_sourceOf_1 : cX3_sourceOf.data.toList.drop 23 = dktX3_sourceOf_1 := dk_seg dksX3_sourceOf_0 23 rfl rfl
theorem dksX3_sourceOf_2 : cX3_sourceOf.data.toList.drop 47 = dktX3_sourceOf_2 := dk_seg dksX3_sourceOf_1 24 rfl rfl
theorem dX3_sourceOf_0 : decode cX3_sourceOf 0 = .ok (.aload_n 0, 1) := dk_42 (dk_at dksX3_sourceOf_0 0 rfl rfl)
theorem dX3_sourceOf_1 : decode cX3_sourceOf 1 = .ok (.aload_n 0, 1) := dk_42 (dk_at dksX3_sourceOf_0 1 rfl rfl)
theorem dX3_sourceOf_2 : decode cX3_sourceOf 2 = .ok (.iload_n 1, 1) := dk_27 (dk_at dksX3_sourceOf_0 2 rfl rfl)
theorem dX3_sourceOf_3 : decode cX3_sourceOf 3 = .ok (.invokevirtual 116, 3) := dk_182 0 116 (dk_at dksX3_sourceOf_0 3 rfl rfl)
theorem dX3_sourceOf_6 : decode cX3_sourceOf 6 = .ok (.ifCond .eq 16, 3) := dk_153 0 16 (dk_at dksX3_sourceOf_0 6 rfl rfl)
theorem dX3_sourceOf_9 : decode cX3_sourceOf 9 = .ok (.iload_n 2, 1) := dk_28 (dk_at dksX3_sourceOf_0 9 rfl rfl)
theorem dX3_sourceOf_10 : decode cX3_sourceOf 10 = .ok (.iconst 0, 1) := dk_3 (dk_at dksX3_sourceOf_0 10 rfl rfl)
theorem dX3_sourceOf_11 : decode cX3_sourceOf 11 = .ok (.iconst 3, 1) := dk_6 (dk_at dksX3_sourceOf_0 11 rfl rfl)
theorem dX3_sourceOf_12 : decode cX3_sourceOf 12 = .ok (.invokestatic 78, 3) := dk_184 0 78 (dk_at dksX3_sourceOf_0 12 rfl rfl)
theorem dX3_sourceOf_15 : decode cX3_sourceOf 15 = .ok (.ifCond .eq 7, 3) := dk_153 0 7 (dk_at dksX3_sourceOf_0 15 rfl rfl)
theorem dX3_sourceOf_18 : decode cX3_sourceOf 18 = .ok (.iconst 0, 1) := dk_3 (dk_at dksX3_sourceOf_0 18 rfl rfl)
theorem dX3_sourceOf_19 : decode cX3_sourceOf 19 = .ok (.goto 4, 3) := dk_167 0 4 (dk_at dksX3_sourceOf_0 19 rfl rfl)
theorem dX3_sourceOf_22 : decode cX3_sourceOf 22 = .ok (.iconst 1, 1) := dk_4 (dk_at dksX3_sourceOf_0 22 rfl rfl)
theorem dX3_sourceOf_23 : decode cX3_sourceOf 23 = .ok (.putfield 74, 3) := dk_181 0 74 (dk_at dksX3_sourceOf_1 0 rfl rfl)
theorem dX3_sourceOf_26 : decode cX3_sourceOf 26 = .ok (.aload_n 0, 1) := dk_42 (dk_at dksX3_sourceOf_1 3 rfl rfl)
theorem dX3_sourceOf_27 : decode cX3_sourceOf 27 = .ok (.getfield 74, 3) := dk_180 0 74 (dk_at dksX3_sourceOf_1 4 rfl rfl)
theorem dX3_sourceOf_30 : decode cX3_sourceOf 30 = .ok (.ifCond .ne 16, 3) := dk_154 0 16 (dk_at dksX3_sourceOf_1 7 rfl rfl)
theorem dX3_sourceOf_33 : decode cX3_sourceOf 33 = .ok (.aload_n 0, 1) := dk_42 (dk_at dksX3_sourceOf_1 10 rfl rfl)
theorem dX3_sourceOf_34 : decode cX3_sourceOf 34 = .ok (.getfield 62, 3) := dk_180 0 62 (dk_at dksX3_sourceOf_1 11 rfl rfl)
theorem dX3_sourceOf_37 : decode cX3_sourceOf 37 = .ok (.iconst 4, 1) := dk_7 (dk_at dksX3_sourceOf_1 14 rfl rfl)
theorem dX3_sourceOf_38 : decode cX3_sourceOf 38 = .ok (.iload_n 1, 1) := dk_27 (dk_at dksX3_sourceOf_1 15 rfl rfl)
theorem dX3_sourceOf_39 : decode cX3_sourceOf 39 = .ok (.imul, 1) := dk_104 (dk_at dksX3_sourceOf_1 16 rfl rfl)
theorem dX3_sourceOf_40 : decode cX3_sourceOf 40 = .ok (.iload_n 2, 1) := dk_28 (dk_at dksX3_sourceOf_1 17 rfl rfl)
theorem dX3_sourceOf_41 : decode cX3_sourceOf 41 = .ok (.iadd, 1) := dk_96 (dk_at dksX3_sourceOf_1 18 rfl rfl)
theorem dX3_sourceOf_42 : decode cX3_sourceOf 42 = .ok (.iaload, 1) := dk_46 (dk_at dksX3_sourceOf_1 19 rfl rfl)
theorem dX3_sourceOf_43 : decode cX3_sourceOf 43 = .ok (.goto 4, 3) := dk_167 0 4 (dk_at dksX3_sourceOf_1 20 rfl rfl)
theorem dX3_sourceOf_46 : decode cX3_sourceOf 46 = .ok (.iconst 0, 1) := dk_3 (dk_at dksX3_sourceOf_1 23 rfl rfl)
theorem dX3_sourceOf_47 : decode cX3_sourceOf 47 = .ok (.ireturn, 1) := dk_172 (dk_at dksX3_sourceOf_2 0 rfl rfl)
abbrev cX3_holdings : ByteArray := prog_10_method_35_code
def yX3_holdings : MethodName := ⟨RX3, "holdings", "(I)I"⟩
def dkwX3_holdings_1 : List UInt8 := [42, 180, 0, 68, 27, 46, 167, 0, 4, 3, 172]
abbrev dktX3_holdings_1 : List UInt8 := dkwX3_holdings_1 ++ []
def dkwX3_holdings_0 : List UInt8 := [42, 42, 27, 182, 0, 116, 153, 0, 7, 3, 167, 0, 4, 4, 181, 0, 74, 42, 180, 0, 74, 154, 0, 12]
abbrev dktX3_holdings_0 : List UInt8 := dkwX3_holdings_0 ++ dktX3_holdings_1
theorem dksX3_holdings_0 : cX3_holdings.data.toList.drop 0 = dktX3_holdings_0 := by decide +kernel
theorem dksX3_holdings_1 : cX3_holdings.data.toList.drop 24 = dktX3_holdings_1 := dk_seg dksX3_holdings_0 24 rfl rfl
theorem dX3_holdings_0 : decode cX3_holdings 0 = .ok (.aload_n 0, 1) := dk_42 (dk_at dksX3_holdings_0 0 rfl rfl)
theorem dX3_holdings_1 : decode cX3_holdings 1 = .ok (.aload_n 0, 1) := dk_42 (dk_at dksX3_holdings_0 1 rfl rfl)
theorem dX3_holdings_2 : decode cX3_holdings 2 = .ok (.iload_n 1, 1) := dk_27 (dk_at dksX3_holdings_0 2 rfl rfl)
theorem dX3_holdings_3 : decode cX3_holdings 3 = .ok (.invokevirtual 116, 3) := dk_182 0 116 (dk_at dksX3_holdings_0 3 rfl rfl)
theorem dX3_holdings_6 : decode cX3_holdings 6 = .ok (.ifCond .eq 7, 3) := dk_153 0 7 (dk_at dksX3_holdings_0 6 rfl rfl)
theorem dX3_holdings_9 : decode cX3_holdings 9 = .ok (.iconst 0, 1) := dk_3 (dk_at dksX3_holdings_0 9 rfl rfl)
theorem dX3_holdings_10 : decode cX3_holdings 10 = .ok (.goto 4, 3) := dk_167 0 4 (dk_at dksX3_holdings_0 10 rfl rfl)
theorem dX3_holdings_13 : decode cX3_holdings 13 = .ok (.iconst 1, 1) := dk_4 (dk_at dksX3_holdings_0 13 rfl rfl)
theorem dX3_holdings_14 : decode cX3_holdings 14 = .ok (.putfield 74, 3) := dk_181 0 74 (dk_at dksX3_holdings_0 14 rfl rfl)
theorem dX3_holdings_17 : decode cX3_holdings 17 = .ok (.aload_n 0, 1) := dk_42 (dk_at dksX3_holdings_0 17 rfl rfl)
theorem dX3_holdings_18 : decode cX3_holdings 18 = .ok (.getfield 74, 3) := dk_180 0 74 (dk_at dksX3_holdings_0 18 rfl rfl)
theorem dX3_holdings_21 : decode cX3_holdings 21 = .ok (.ifCond .ne 12, 3) := dk_154 0 12 (dk_at dksX3_holdings_0 21 rfl rfl)
theorem dX3_holdings_24 : decode cX3_holdings 24 = .ok (.aload_n 0, 1) := dk_42 (dk_at dksX3_holdings_1 0 rfl rfl)
theorem dX3_holdings_25 : decode cX3_holdings 25 = .ok (.getfield 68, 3) := dk_180 0 68 (dk_at dksX3_holdings_1 1 rfl rfl)
theorem dX3_holdings_28 : decode cX3_holdings 28 = .ok (.iload_n 1, 1) := dk_27 (dk_at dksX3_holdings_1 4 rfl rfl)
theorem dX3_holdings_29 : decode cX3_holdings 29 = .ok (.iaload, 1) := dk_46 (dk_at dksX3_holdings_1 5 rfl rfl)
theorem dX3_holdings_30 : decode cX3_holdings 30 = .ok (.goto 4, 3) := dk_167 0 4 (dk_at dksX3_holdings_1 6 rfl rfl)
theorem dX3_holdings_33 : decode cX3_holdings 33 = .ok (.iconst 0, 1) := dk_3 (dk_at dksX3_holdings_1 9 rfl rfl)
theorem dX3_holdings_34 : decode cX3_holdings 34 = .ok (.ireturn, 1) := dk_172 (dk_at dksX3_holdings_1 10 rfl rfl)
abbrev cX3_digest : ByteArray := prog_10_method_37_code
def yX3_digest : MethodName := ⟨RX3, "digest", "()I"⟩
def dkwX3_digest_0 : List UInt8 := [42, 3, 181, 0, 74, 42, 182, 0, 130, 172]
abbrev dktX3_digest_0 : List UInt8 := dkwX3_digest_0 ++ []
theorem dksX3_digest_0 : cX3_digest.data.toList.drop 0 = dktX3_digest_0 := by decide +kernel
theorem dX3_digest_0 : decode cX3_digest 0 = .ok (.aload_n 0, 1) := dk_42 (dk_at dksX3_digest_0 0 rfl rfl)
theorem dX3_digest_1 : decode cX3_digest 1 = .ok (.iconst 0, 1) := dk_3 (dk_at dksX3_digest_0 1 rfl rfl)
theorem dX3_digest_2 : decode cX3_digest 2 = .ok (.putfield 74, 3) := dk_181 0 74 (dk_at dksX3_digest_0 2 rfl rfl)
theorem dX3_digest_5 : decode cX3_digest 5 = .ok (.aload_n 0, 1) := dk_42 (dk_at dksX3_digest_0 5 rfl rfl)
theorem dX3_digest_6 : decode cX3_digest 6 = .ok (.invokevirtual 130, 3) := dk_182 0 130 (dk_at dksX3_digest_0 6 rfl rfl)
theorem dX3_digest_9 : decode cX3_digest 9 = .ok (.ireturn, 1) := dk_172 (dk_at dksX3_digest_0 9 rfl rfl)
abbrev cX3_sum : ByteArray := prog_10_method_36_code
def yX3_sum : MethodName := ⟨RX3, "sum", "()I"⟩
def dkwX3_sum_6 : List UInt8 := [172]
abbrev dktX3_sum_6 : List UInt8 := dkwX3_sum_6 ++ []
def dkwX3_sum_5 : List UInt8 := [4, 28, 96, 104, 42, 180, 0, 68, 28, 46, 96, 167, 0, 4, 3, 96, 60, 132, 2, 1, 167, 255, 121, 27]
abbrev dktX3_sum_5 : List UInt8 := dkwX3_sum_5 ++ dktX3_sum_6
def dkwX3_sum_4 : List UInt8 := [104, 21, 4, 96, 46, 96, 62, 132, 4, 1, 167, 255, 214, 27, 42, 180, 0, 53, 28, 51, 153, 0, 18, 29]
abbrev dktX3_sum_4 : List UInt8 := dkwX3_sum_4 ++ dktX3_sum_5
def dkwX3_sum_3 : List UInt8 := [180, 0, 59, 7, 28, 104, 21, 4, 96, 46, 2, 160, 0, 7, 3, 167, 0, 14, 42, 180, 0, 59, 7, 28]
abbrev dktX3_sum_3 : List UInt8 := dkwX3_sum_3 ++ dktX3_sum_4
def dkwX3_sum_2 : List UInt8 := [104, 21, 4, 96, 46, 96, 62, 132, 4, 1, 167, 255, 214, 3, 54, 4, 21, 4, 7, 162, 0, 42, 29, 42]
abbrev dktX3_sum_2 : List UInt8 := dkwX3_sum_2 ++ dktX3_sum_3
def dkwX3_sum_1 : List UInt8 := [180, 0, 56, 6, 28, 104, 21, 4, 96, 46, 2, 160, 0, 7, 3, 167, 0, 14, 42, 180, 0, 56, 6, 28]
abbrev dktX3_sum_1 : List UInt8 := dkwX3_sum_1 ++ dktX3_sum_2
def dkwX3_sum_0 : List UInt8 := [3, 60, 3, 61, 28, 16, 80, 162, 0, 135, 3, 62, 3, 54, 4, 21, 4, 6, 162, 0, 42, 29, 42]
abbrev dktX3_sum_0 : List UInt8 := dkwX3_sum_0 ++ dktX3_sum_1
theorem dksX3_sum_0 : cX3_sum.data.toList.drop 0 = dktX3_sum_0 := by decide +kernel
theorem dksX3_sum_1 : cX3_sum.data.toList.drop 23 = dktX3_sum_1 := dk_seg dksX3_sum_0 23 rfl rfl
theorem dksX3_sum_2 : cX3_sum.data.toList.drop 47 = dktX3_sum_2 := dk_seg dksX3_sum_1 24 rfl rfl
theorem dksX3_sum_3 : cX3_sum.data.toList.drop 71 = dktX3_sum_3 := dk_seg dksX3_sum_2 24 rfl rfl
theorem dksX3_sum_4 : cX3_sum.data.toList.drop 95 = dktX3_sum_4 := dk_seg dksX3_sum_3 24 rfl rfl
theorem dksX3_sum_5 : cX3_sum.data.toList.drop 119 = dktX3_sum_5 := dk_seg dksX3_sum_4 24 rfl rfl
theorem dksX3_sum_6 : cX3_sum.data.toList.drop 143 = dktX3_sum_6 := dk_seg dksX3_sum_5 24 rfl rfl
theorem dX3_sum_0 : decode cX3_sum 0 = .ok (.iconst 0, 1) := dk_3 (dk_at dksX3_sum_0 0 rfl rfl)
theorem dX3_sum_1 : decode cX3_sum 1 = .ok (.istore_n 1, 1) := dk_60 (dk_at dksX3_sum_0 1 rfl rfl)
theorem dX3_sum_2 : decode cX3_sum 2 = .ok (.iconst 0, 1) := dk_3 (dk_at dksX3_sum_0 2 rfl rfl)
theorem dX3_sum_3 : decode cX3_sum 3 = .ok (.istore_n 2, 1) := dk_61 (dk_at dksX3_sum_0 3 rfl rfl)
theorem dX3_sum_4 : decode cX3_sum 4 = .ok (.iload_n 2, 1) := dk_28 (dk_at dksX3_sum_0 4 rfl rfl)
theorem dX3_sum_5 : decode cX3_sum 5 = .ok (.bipush 80, 2) := dk_16 80 (dk_at dksX3_sum_0 5 rfl rfl)
theorem dX3_sum_7 : decode cX3_sum 7 = .ok (.if_icmp .ge 135, 3) := dk_162 0 135 (dk_at dksX3_sum_0 7 rfl rfl)
theorem dX3_sum_10 : decode cX3_sum 10 = .ok (.iconst 0, 1) := dk_3 (dk_at dksX3_sum_0 10 rfl rfl)
theorem dX3_sum_11 : decode cX3_sum 11 = .ok (.istore_n 3, 1) := dk_62 (dk_at dksX3_sum_0 11 rfl rfl)
theorem dX3_sum_12 : decode cX3_sum 12 = .ok (.iconst 0, 1) := dk_3 (dk_at dksX3_sum_0 12 rfl rfl)
theorem dX3_sum_13 : decode cX3_sum 13 = .ok (.istore 4, 2) := dk_54 4 (dk_at dksX3_sum_0 13 rfl rfl)
theorem dX3_sum_15 : decode cX3_sum 15 = .ok (.iload 4, 2) := dk_21 4 (dk_at dksX3_sum_0 15 rfl rfl)
theorem dX3_sum_17 : decode cX3_sum 17 = .ok (.iconst 3, 1) := dk_6 (dk_at dksX3_sum_0 17 rfl rfl)
theorem dX3_sum_18 : decode cX3_sum 18 = .ok (.if_icmp .ge 42, 3) := dk_162 0 42 (dk_at dksX3_sum_0 18 rfl rfl)
theorem dX3_sum_21 : decode cX3_sum 21 = .ok (.iload_n 3, 1) := dk_29 (dk_at dksX3_sum_0 21 rfl rfl)
theorem dX3_sum_22 : decode cX3_sum 22 = .ok (.aload_n 0, 1) := dk_42 (dk_at dksX3_sum_0 22 rfl rfl)
theorem dX3_sum_23 : decode cX3_sum 23 = .ok (.getfield 56, 3) := dk_180 0 56 (dk_at dksX3_sum_1 0 rfl rfl)
theorem dX3_sum_26 : decode cX3_sum 26 = .ok (.iconst 3, 1) := dk_6 (dk_at dksX3_sum_1 3 rfl rfl)
theorem dX3_sum_27 : decode cX3_sum 27 = .ok (.iload_n 2, 1) := dk_28 (dk_at dksX3_sum_1 4 rfl rfl)
theorem dX3_sum_28 : decode cX3_sum 28 = .ok (.imul, 1) := dk_104 (dk_at dksX3_sum_1 5 rfl rfl)
theorem dX3_sum_29 : decode cX3_sum 29 = .ok (.iload 4, 2) := dk_21 4 (dk_at dksX3_sum_1 6 rfl rfl)
theorem dX3_sum_31 : decode cX3_sum 31 = .ok (.iadd, 1) := dk_96 (dk_at dksX3_sum_1 8 rfl rfl)
theorem dX3_sum_32 : decode cX3_sum 32 = .ok (.iaload, 1) := dk_46 (dk_at dksX3_sum_1 9 rfl rfl)
theorem dX3_sum_33 : decode cX3_sum 33 = .ok (.iconst (-1), 1) := dk_2 (dk_at dksX3_sum_1 10 rfl rfl)
theorem dX3_sum_34 : decode cX3_sum 34 = .ok (.if_icmp .ne 7, 3) := dk_160 0 7 (dk_at dksX3_sum_1 11 rfl rfl)
theorem dX3_sum_37 : decode cX3_sum 37 = .ok (.iconst 0, 1) := dk_3 (dk_at dksX3_sum_1 14 rfl rfl)
theorem dX3_sum_38 : decode cX3_sum 38 = .ok (.goto 14, 3) := dk_167 0 14 (dk_at dksX3_sum_1 15 rfl rfl)
theorem dX3_sum_41 : decode cX3_sum 41 = .ok (.aload_n 0, 1) := dk_42 (dk_at dksX3_sum_1 18 rfl rfl)
theorem dX3_sum_42 : decode cX3_sum 42 = .ok (.getfield 56, 3) := dk_180 0 56 (dk_at dksX3_sum_1 19 rfl rfl)
theorem dX3_sum_45 : decode cX3_sum 45 = .ok (.iconst 3, 1) := dk_6 (dk_at dksX3_sum_1 22 rfl rfl)
theorem dX3_sum_46 : decode cX3_sum 46 = .ok (.iload_n 2, 1) := dk_28 (dk_at dksX3_sum_1 23 rfl rfl)
theorem dX3_sum_47 : decode cX3_sum 47 = .ok (.imul, 1) := dk_104 (dk_at dksX3_sum_2 0 rfl rfl)
theorem dX3_sum_48 : decode cX3_sum 48 = .ok (.iload 4, 2) := dk_21 4 (dk_at dksX3_sum_2 1 rfl rfl)
theorem dX3_sum_50 : decode cX3_sum 50 = .ok (.iadd, 1) := dk_96 (dk_at dksX3_sum_2 3 rfl rfl)
theorem dX3_sum_51 : decode cX3_sum 51 = .ok (.iaload, 1) := dk_46 (dk_at dksX3_sum_2 4 rfl rfl)
theorem dX3_sum_52 : decode cX3_sum 52 = .ok (.iadd, 1) := dk_96 (dk_at dksX3_sum_2 5 rfl rfl)
theorem dX3_sum_53 : decode cX3_sum 53 = .ok (.istore_n 3, 1) := dk_62 (dk_at dksX3_sum_2 6 rfl rfl)
theorem dX3_sum_54 : decode cX3_sum 54 = .ok (.iinc 4 1, 3) := dk_132 4 1 (dk_at dksX3_sum_2 7 rfl rfl)
theorem dX3_sum_57 : decode cX3_sum 57 = .ok (.goto (-42), 3) := dk_167 255 214 (dk_at dksX3_sum_2 10 rfl rfl)
theorem dX3_sum_60 : decode cX3_sum 60 = .ok (.iconst 0, 1) := dk_3 (dk_at dksX3_sum_2 13 rfl rfl)
theorem dX3_sum_61 : decode cX3_sum 61 = .ok (.istore 4, 2) := dk_54 4 (dk_at dksX3_sum_2 14 rfl rfl)
theorem dX3_sum_63 : decode cX3_sum 63 = .ok (.iload 4, 2) := dk_21 4 (dk_at dksX3_sum_2 16 rfl rfl)
theorem dX3_sum_65 : decode cX3_sum 65 = .ok (.iconst 4, 1) := dk_7 (dk_at dksX3_sum_2 18 rfl rfl)
theorem dX3_sum_66 : decode cX3_sum 66 = .ok (.if_icmp .ge 42, 3) := dk_162 0 42 (dk_at dksX3_sum_2 19 rfl rfl)
theorem dX3_sum_69 : decode cX3_sum 69 = .ok (.iload_n 3, 1) := dk_29 (dk_at dksX3_sum_2 22 rfl rfl)
theorem dX3_sum_70 : decode cX3_sum 70 = .ok (.aload_n 0, 1) := dk_42 (dk_at dksX3_sum_2 23 rfl rfl)
theorem dX3_sum_71 : decode cX3_sum 71 = .ok (.getfield 59, 3) := dk_180 0 59 (dk_at dksX3_sum_3 0 rfl rfl)
theorem dX3_sum_74 : decode cX3_sum 74 = .ok (.iconst 4, 1) := dk_7 (dk_at dksX3_sum_3 3 rfl rfl)
theorem dX3_sum_75 : decode cX3_sum 75 = .ok (.iload_n 2, 1) := dk_28 (dk_at dksX3_sum_3 4 rfl rfl)
theorem dX3_sum_76 : decode cX3_sum 76 = .ok (.imul, 1) := dk_104 (dk_at dksX3_sum_3 5 rfl rfl)
theorem dX3_sum_77 : decode cX3_sum 77 = .ok (.iload 4, 2) := dk_21 4 (dk_at dksX3_sum_3 6 rfl rfl)
theorem dX3_sum_79 : decode cX3_sum 79 = .ok (.iadd, 1) := dk_96 (dk_at dksX3_sum_3 8 rfl rfl)
theorem dX3_sum_80 : decode cX3_sum 80 = .ok (.iaload, 1) := dk_46 (dk_at dksX3_sum_3 9 rfl rfl)
theorem dX3_sum_81 : decode cX3_sum 81 = .ok (.iconst (-1), 1) := dk_2 (dk_at dksX3_sum_3 10 rfl rfl)
theorem dX3_sum_82 : decode cX3_sum 82 = .ok (.if_icmp .ne 7, 3) := dk_160 0 7 (dk_at dksX3_sum_3 11 rfl rfl)
theorem dX3_sum_85 : decode cX3_sum 85 = .ok (.iconst 0, 1) := dk_3 (dk_at dksX3_sum_3 14 rfl rfl)
theorem dX3_sum_86 : decode cX3_sum 86 = .ok (.goto 14, 3) := dk_167 0 14 (dk_at dksX3_sum_3 15 rfl rfl)
theorem dX3_sum_89 : decode cX3_sum 89 = .ok (.aload_n 0, 1) := dk_42 (dk_at dksX3_sum_3 18 rfl rfl)
theorem dX3_sum_90 : decode cX3_sum 90 = .ok (.getfield 59, 3) := dk_180 0 59 (dk_at dksX3_sum_3 19 rfl rfl)
theorem dX3_sum_93 : decode cX3_sum 93 = .ok (.iconst 4, 1) := dk_7 (dk_at dksX3_sum_3 22 rfl rfl)
theorem dX3_sum_94 : decode cX3_sum 94 = .ok (.iload_n 2, 1) := dk_28 (dk_at dksX3_sum_3 23 rfl rfl)
theorem dX3_sum_95 : decode cX3_sum 95 = .ok (.imul, 1) := dk_104 (dk_at dksX3_sum_4 0 rfl rfl)
theorem dX3_sum_96 : decode cX3_sum 96 = .ok (.iload 4, 2) := dk_21 4 (dk_at dksX3_sum_4 1 rfl rfl)
theorem dX3_sum_98 : decode cX3_sum 98 = .ok (.iadd, 1) := dk_96 (dk_at dksX3_sum_4 3 rfl rfl)
theorem dX3_sum_99 : decode cX3_sum 99 = .ok (.iaload, 1) := dk_46 (dk_at dksX3_sum_4 4 rfl rfl)
theorem dX3_sum_100 : decode cX3_sum 100 = .ok (.iadd, 1) := dk_96 (dk_at dksX3_sum_4 5 rfl rfl)
theorem dX3_sum_101 : decode cX3_sum 101 = .ok (.istore_n 3, 1) := dk_62 (dk_at dksX3_sum_4 6 rfl rfl)
theorem dX3_sum_102 : decode cX3_sum 102 = .ok (.iinc 4 1, 3) := dk_132 4 1 (dk_at dksX3_sum_4 7 rfl rfl)
theorem dX3_sum_105 : decode cX3_sum 105 = .ok (.goto (-42), 3) := dk_167 255 214 (dk_at dksX3_sum_4 10 rfl rfl)
theorem dX3_sum_108 : decode cX3_sum 108 = .ok (.iload_n 1, 1) := dk_27 (dk_at dksX3_sum_4 13 rfl rfl)
theorem dX3_sum_109 : decode cX3_sum 109 = .ok (.aload_n 0, 1) := dk_42 (dk_at dksX3_sum_4 14 rfl rfl)
theorem dX3_sum_110 : decode cX3_sum 110 = .ok (.getfield 53, 3) := dk_180 0 53 (dk_at dksX3_sum_4 15 rfl rfl)
theorem dX3_sum_113 : decode cX3_sum 113 = .ok (.iload_n 2, 1) := dk_28 (dk_at dksX3_sum_4 18 rfl rfl)
theorem dX3_sum_114 : decode cX3_sum 114 = .ok (.baload, 1) := dk_51 (dk_at dksX3_sum_4 19 rfl rfl)
theorem dX3_sum_115 : decode cX3_sum 115 = .ok (.ifCond .eq 18, 3) := dk_153 0 18 (dk_at dksX3_sum_4 20 rfl rfl)
theorem dX3_sum_118 : decode cX3_sum 118 = .ok (.iload_n 3, 1) := dk_29 (dk_at dksX3_sum_4 23 rfl rfl)
theorem dX3_sum_119 : decode cX3_sum 119 = .ok (.iconst 1, 1) := dk_4 (dk_at dksX3_sum_5 0 rfl rfl)
theorem dX3_sum_120 : decode cX3_sum 120 = .ok (.iload_n 2, 1) := dk_28 (dk_at dksX3_sum_5 1 rfl rfl)
theorem dX3_sum_121 : decode cX3_sum 121 = .ok (.iadd, 1) := dk_96 (dk_at dksX3_sum_5 2 rfl rfl)
theorem dX3_sum_122 : decode cX3_sum 122 = .ok (.imul, 1) := dk_104 (dk_at dksX3_sum_5 3 rfl rfl)
theorem dX3_sum_123 : decode cX3_sum 123 = .ok (.aload_n 0, 1) := dk_42 (dk_at dksX3_sum_5 4 rfl rfl)
theorem dX3_sum_124 : decode cX3_sum 124 = .ok (.getfield 68, 3) := dk_180 0 68 (dk_at dksX3_sum_5 5 rfl rfl)
theorem dX3_sum_127 : decode cX3_sum 127 = .ok (.iload_n 2, 1) := dk_28 (dk_at dksX3_sum_5 8 rfl rfl)
theorem dX3_sum_128 : decode cX3_sum 128 = .ok (.iaload, 1) := dk_46 (dk_at dksX3_sum_5 9 rfl rfl)
theorem dX3_sum_129 : decode cX3_sum 129 = .ok (.iadd, 1) := dk_96 (dk_at dksX3_sum_5 10 rfl rfl)
theorem dX3_sum_130 : decode cX3_sum 130 = .ok (.goto 4, 3) := dk_167 0 4 (dk_at dksX3_sum_5 11 rfl rfl)
theorem dX3_sum_133 : decode cX3_sum 133 = .ok (.iconst 0, 1) := dk_3 (dk_at dksX3_sum_5 14 rfl rfl)
theorem dX3_sum_134 : decode cX3_sum 134 = .ok (.iadd, 1) := dk_96 (dk_at dksX3_sum_5 15 rfl rfl)
theorem dX3_sum_135 : decode cX3_sum 135 = .ok (.istore_n 1, 1) := dk_60 (dk_at dksX3_sum_5 16 rfl rfl)
theorem dX3_sum_136 : decode cX3_sum 136 = .ok (.iinc 2 1, 3) := dk_132 2 1 (dk_at dksX3_sum_5 17 rfl rfl)
theorem dX3_sum_139 : decode cX3_sum 139 = .ok (.goto (-135), 3) := dk_167 255 121 (dk_at dksX3_sum_5 20 rfl rfl)
theorem dX3_sum_142 : decode cX3_sum 142 = .ok (.iload_n 1, 1) := dk_27 (dk_at dksX3_sum_5 23 rfl rfl)
theorem dX3_sum_143 : decode cX3_sum 143 = .ok (.ireturn, 1) := dk_172 (dk_at dksX3_sum_6 0 rfl rfl)
abbrev cX3_digestAnew : ByteArray := prog_10_method_38_code
def yX3_digestAnew : MethodName := ⟨RX3, "digestAnew", "()I"⟩
def dkwX3_digestAnew_0 : List UInt8 := [42, 3, 181, 0, 74, 42, 182, 0, 123, 42, 182, 0, 130, 172]
abbrev dktX3_digestAnew_0 : List UInt8 := dkwX3_digestAnew_0 ++ []
theorem dksX3_digestAnew_0 : cX3_digestAnew.data.toList.drop 0 = dktX3_digestAnew_0 := by decide +kernel
theorem dX3_digestAnew_0 : decode cX3_digestAnew 0 = .ok (.aload_n 0, 1) := dk_42 (dk_at dksX3_digestAnew_0 0 rfl rfl)
theorem dX3_digestAnew_1 : decode cX3_digestAnew 1 = .ok (.iconst 0, 1) := dk_3 (dk_at dksX3_digestAnew_0 1 rfl rfl)
theorem dX3_digestAnew_2 : decode cX3_digestAnew 2 = .ok (.putfield 74, 3) := dk_181 0 74 (dk_at dksX3_digestAnew_0 2 rfl rfl)
theorem dX3_digestAnew_5 : decode cX3_digestAnew 5 = .ok (.aload_n 0, 1) := dk_42 (dk_at dksX3_digestAnew_0 5 rfl rfl)
theorem dX3_digestAnew_6 : decode cX3_digestAnew 6 = .ok (.invokevirtual 123, 3) := dk_182 0 123 (dk_at dksX3_digestAnew_0 6 rfl rfl)
theorem dX3_digestAnew_9 : decode cX3_digestAnew 9 = .ok (.aload_n 0, 1) := dk_42 (dk_at dksX3_digestAnew_0 9 rfl rfl)
theorem dX3_digestAnew_10 : decode cX3_digestAnew 10 = .ok (.invokevirtual 130, 3) := dk_182 0 130 (dk_at dksX3_digestAnew_0 10 rfl rfl)
theorem dX3_digestAnew_13 : decode cX3_digestAnew 13 = .ok (.ireturn, 1) := dk_172 (dk_at dksX3_digestAnew_0 13 rfl rfl)
theorem q26 : (Jvm.Cond.initialized "CatalogueLoaderModel") ∈ lw_all := lw_g (lw_at lw_m1 6 rfl) rfl
theorem q607 : (Jvm.Cond.selects "CatalogueLoaderModel" ({ cls := "java/lang/Object", name := "getClass", desc := "()Ljava/lang/Class;" } : Jvm.MethodName) ({ cls := "java/lang/Object", name := "getClass", desc := "()Ljava/lang/Class;" } : Jvm.MethodName)) ∈ lw_all := lw_g (lw_at lw_m3 107 rfl) rfl
theorem q747 : (Jvm.Cond.instantiable "CatalogueLoaderModel" (25 : Nat)) ∈ lw_all := lw_g (lw_at lw_m4 7 rfl) rfl
theorem q749 : (Jvm.Cond.instanceMethod ({ cls := "CatalogueLoaderModel", name := "<init>", desc := "()V" } : Jvm.MethodName)) ∈ lw_all := lw_g (lw_at lw_m4 9 rfl) rfl
theorem q750 : (Jvm.Cond.code ({ cls := "CatalogueLoaderModel", name := "<init>", desc := "()V" } : Jvm.MethodName) prog_10_method_1_code (2 : Nat) (Option.none : Option Jvm.ClassFile.FieldType)) ∈ lw_all := lw_g (lw_at lw_m4 10 rfl) rfl
theorem q751 : (Jvm.Cond.methodLink "CatalogueLoaderModel" (1 : Nat) ({ cls := "java/lang/Object", name := "<init>", desc := "()V" } : Jvm.MethodName)) ∈ lw_all := lw_g (lw_at lw_m4 11 rfl) rfl
theorem q752 : (Jvm.Cond.methodLink "CatalogueLoaderModel" (71 : Nat) ({ cls := "CatalogueLoaderModel", name := "emptyDraft", desc := "()V" } : Jvm.MethodName)) ∈ lw_all := lw_g (lw_at lw_m4 12 rfl) rfl
theorem q753 : (Jvm.Cond.privateMethod ({ cls := "CatalogueLoaderModel", name := "emptyDraft", desc := "()V" } : Jvm.MethodName)) ∈ lw_tbl := lw_at lw_m4 13 rfl
theorem q754 : (Jvm.Cond.instanceMethod ({ cls := "CatalogueLoaderModel", name := "emptyDraft", desc := "()V" } : Jvm.MethodName)) ∈ lw_all := lw_g (lw_at lw_m4 14 rfl) rfl
theorem q755 : (Jvm.Cond.code ({ cls := "CatalogueLoaderModel", name := "emptyDraft", desc := "()V" } : Jvm.MethodName) prog_10_method_4_code (2 : Nat) (Option.none : Option Jvm.ClassFile.FieldType)) ∈ lw_all := lw_g (lw_at lw_m4 15 rfl) rfl
theorem q756 : (Jvm.Cond.fieldLink "CatalogueLoaderModel" (7 : Nat) "CatalogueLoaderModel" "ranks" "[I") ∈ lw_all := lw_g (lw_at lw_m4 16 rfl) rfl
theorem q757 : (Jvm.Cond.fieldLink "CatalogueLoaderModel" (13 : Nat) "CatalogueLoaderModel" "rules" "[I") ∈ lw_all := lw_g (lw_at lw_m4 17 rfl) rfl
theorem q758 : (Jvm.Cond.fieldLink "CatalogueLoaderModel" (16 : Nat) "CatalogueLoaderModel" "order" "[I") ∈ lw_all := lw_g (lw_at lw_m4 18 rfl) rfl
theorem q759 : (Jvm.Cond.fieldLink "CatalogueLoaderModel" (19 : Nat) "CatalogueLoaderModel" "draftKeys" "[I") ∈ lw_all := lw_g (lw_at lw_m4 19 rfl) rfl
theorem q760 : (Jvm.Cond.fieldLink "CatalogueLoaderModel" (22 : Nat) "CatalogueLoaderModel" "draftFields" "[I") ∈ lw_all := lw_g (lw_at lw_m4 20 rfl) rfl
theorem q761 : (Jvm.Cond.fieldLink "CatalogueLoaderModel" (109 : Nat) "CatalogueLoaderModel" "batchMany" "I") ∈ lw_all := lw_g (lw_at lw_m4 21 rfl) rfl
theorem q762 : (Jvm.Cond.fieldLink "CatalogueLoaderModel" (25 : Nat) "CatalogueLoaderModel" "isOut" "[Z") ∈ lw_all := lw_g (lw_at lw_m4 22 rfl) rfl
theorem q763 : (Jvm.Cond.fieldLink "CatalogueLoaderModel" (82 : Nat) "CatalogueLoaderModel" "loadMany" "I") ∈ lw_all := lw_g (lw_at lw_m4 23 rfl) rfl
theorem q764 : (Jvm.Cond.fieldLink "CatalogueLoaderModel" (29 : Nat) "CatalogueLoaderModel" "loadBatch" "[I") ∈ lw_all := lw_g (lw_at lw_m4 24 rfl) rfl
theorem q765 : (Jvm.Cond.fieldLink "CatalogueLoaderModel" (32 : Nat) "CatalogueLoaderModel" "loadSource" "[I") ∈ lw_all := lw_g (lw_at lw_m4 25 rfl) rfl
theorem q766 : (Jvm.Cond.fieldLink "CatalogueLoaderModel" (35 : Nat) "CatalogueLoaderModel" "loadKeys" "[I") ∈ lw_all := lw_g (lw_at lw_m4 26 rfl) rfl
theorem q767 : (Jvm.Cond.fieldLink "CatalogueLoaderModel" (38 : Nat) "CatalogueLoaderModel" "loadFields" "[I") ∈ lw_all := lw_g (lw_at lw_m4 27 rfl) rfl
theorem q768 : (Jvm.Cond.fieldLink "CatalogueLoaderModel" (41 : Nat) "CatalogueLoaderModel" "hits" "[I") ∈ lw_all := lw_g (lw_at lw_m4 28 rfl) rfl
theorem q769 : (Jvm.Cond.fieldLink "CatalogueLoaderModel" (120 : Nat) "CatalogueLoaderModel" "actMany" "I") ∈ lw_all := lw_g (lw_at lw_m4 29 rfl) rfl
theorem q770 : (Jvm.Cond.fieldLink "CatalogueLoaderModel" (103 : Nat) "CatalogueLoaderModel" "doneMany" "I") ∈ lw_all := lw_g (lw_at lw_m4 30 rfl) rfl
theorem q771 : (Jvm.Cond.fieldLink "CatalogueLoaderModel" (44 : Nat) "CatalogueLoaderModel" "kinds" "[I") ∈ lw_all := lw_g (lw_at lw_m4 31 rfl) rfl
theorem q772 : (Jvm.Cond.fieldLink "CatalogueLoaderModel" (47 : Nat) "CatalogueLoaderModel" "ones" "[I") ∈ lw_all := lw_g (lw_at lw_m4 32 rfl) rfl
theorem q773 : (Jvm.Cond.fieldLink "CatalogueLoaderModel" (50 : Nat) "CatalogueLoaderModel" "others" "[I") ∈ lw_all := lw_g (lw_at lw_m4 33 rfl) rfl
theorem q774 : (Jvm.Cond.fieldLink "CatalogueLoaderModel" (53 : Nat) "CatalogueLoaderModel" "isIn" "[Z") ∈ lw_all := lw_g (lw_at lw_m4 34 rfl) rfl
theorem q775 : (Jvm.Cond.fieldLink "CatalogueLoaderModel" (56 : Nat) "CatalogueLoaderModel" "keys" "[I") ∈ lw_all := lw_g (lw_at lw_m4 35 rfl) rfl
theorem q776 : (Jvm.Cond.fieldLink "CatalogueLoaderModel" (59 : Nat) "CatalogueLoaderModel" "fields" "[I") ∈ lw_all := lw_g (lw_at lw_m4 36 rfl) rfl
theorem q777 : (Jvm.Cond.fieldLink "CatalogueLoaderModel" (62 : Nat) "CatalogueLoaderModel" "sources" "[I") ∈ lw_all := lw_g (lw_at lw_m4 37 rfl) rfl
theorem q778 : (Jvm.Cond.fieldLink "CatalogueLoaderModel" (65 : Nat) "CatalogueLoaderModel" "isKept" "[Z") ∈ lw_all := lw_g (lw_at lw_m4 38 rfl) rfl
theorem q779 : (Jvm.Cond.fieldLink "CatalogueLoaderModel" (68 : Nat) "CatalogueLoaderModel" "held" "[I") ∈ lw_all := lw_g (lw_at lw_m4 39 rfl) rfl
theorem q780 : (Jvm.Cond.fieldLink "CatalogueLoaderModel" (74 : Nat) "CatalogueLoaderModel" "thrown" "I") ∈ lw_all := lw_g (lw_at lw_m4 40 rfl) rfl
theorem q781 : (Jvm.Cond.laysFinal "CatalogueLoaderModel" "CatalogueLoaderModel" "ranks" "[I") ∈ lw_all := lw_g (lw_at lw_m4 41 rfl) rfl
theorem q782 : (Jvm.Cond.soleField "CatalogueLoaderModel" "ranks") ∈ lw_all := lw_g (lw_at lw_m4 42 rfl) rfl
theorem q783 : (Jvm.Cond.laysFinal "CatalogueLoaderModel" "CatalogueLoaderModel" "rules" "[I") ∈ lw_all := lw_g (lw_at lw_m4 43 rfl) rfl
theorem q784 : (Jvm.Cond.soleField "CatalogueLoaderModel" "rules") ∈ lw_all := lw_g (lw_at lw_m4 44 rfl) rfl
theorem q785 : (Jvm.Cond.laysFinal "CatalogueLoaderModel" "CatalogueLoaderModel" "order" "[I") ∈ lw_all := lw_g (lw_at lw_m4 45 rfl) rfl
theorem q786 : (Jvm.Cond.soleField "CatalogueLoaderModel" "order") ∈ lw_all := lw_g (lw_at lw_m4 46 rfl) rfl
theorem q787 : (Jvm.Cond.laysFinal "CatalogueLoaderModel" "CatalogueLoaderModel" "draftKeys" "[I") ∈ lw_all := lw_g (lw_at lw_m4 47 rfl) rfl
theorem q788 : (Jvm.Cond.soleField "CatalogueLoaderModel" "draftKeys") ∈ lw_all := lw_g (lw_at lw_m4 48 rfl) rfl
theorem q789 : (Jvm.Cond.laysFinal "CatalogueLoaderModel" "CatalogueLoaderModel" "draftFields" "[I") ∈ lw_all := lw_g (lw_at lw_m4 49 rfl) rfl
theorem q790 : (Jvm.Cond.soleField "CatalogueLoaderModel" "draftFields") ∈ lw_all := lw_g (lw_at lw_m4 50 rfl) rfl
theorem q791 : (Jvm.Cond.lays "CatalogueLoaderModel" "CatalogueLoaderModel" "batchMany" "I") ∈ lw_all := lw_g (lw_at lw_m4 51 rfl) rfl
theorem q792 : (Jvm.Cond.soleField "CatalogueLoaderModel" "batchMany") ∈ lw_all := lw_g (lw_at lw_m4 52 rfl) rfl
theorem q793 : (Jvm.Cond.laysFinal "CatalogueLoaderModel" "CatalogueLoaderModel" "isOut" "[Z") ∈ lw_all := lw_g (lw_at lw_m4 53 rfl) rfl
theorem q794 : (Jvm.Cond.soleField "CatalogueLoaderModel" "isOut") ∈ lw_all := lw_g (lw_at lw_m4 54 rfl) rfl
theorem q795 : (Jvm.Cond.lays "CatalogueLoaderModel" "CatalogueLoaderModel" "loadMany" "I") ∈ lw_all := lw_g (lw_at lw_m4 55 rfl) rfl
theorem q796 : (Jvm.Cond.soleField "CatalogueLoaderModel" "loadMany") ∈ lw_all := lw_g (lw_at lw_m4 56 rfl) rfl
theorem q797 : (Jvm.Cond.laysFinal "CatalogueLoaderModel" "CatalogueLoaderModel" "loadBatch" "[I") ∈ lw_all := lw_g (lw_at lw_m4 57 rfl) rfl
theorem q798 : (Jvm.Cond.soleField "CatalogueLoaderModel" "loadBatch") ∈ lw_all := lw_g (lw_at lw_m4 58 rfl) rfl
theorem q799 : (Jvm.Cond.laysFinal "CatalogueLoaderModel" "CatalogueLoaderModel" "loadSource" "[I") ∈ lw_all := lw_g (lw_at lw_m4 59 rfl) rfl
theorem q800 : (Jvm.Cond.soleField "CatalogueLoaderModel" "loadSource") ∈ lw_all := lw_g (lw_at lw_m4 60 rfl) rfl
theorem q801 : (Jvm.Cond.laysFinal "CatalogueLoaderModel" "CatalogueLoaderModel" "loadKeys" "[I") ∈ lw_all := lw_g (lw_at lw_m4 61 rfl) rfl
theorem q802 : (Jvm.Cond.soleField "CatalogueLoaderModel" "loadKeys") ∈ lw_all := lw_g (lw_at lw_m4 62 rfl) rfl
theorem q803 : (Jvm.Cond.laysFinal "CatalogueLoaderModel" "CatalogueLoaderModel" "loadFields" "[I") ∈ lw_all := lw_g (lw_at lw_m4 63 rfl) rfl
theorem q804 : (Jvm.Cond.soleField "CatalogueLoaderModel" "loadFields") ∈ lw_all := lw_g (lw_at lw_m4 64 rfl) rfl
theorem q805 : (Jvm.Cond.laysFinal "CatalogueLoaderModel" "CatalogueLoaderModel" "hits" "[I") ∈ lw_all := lw_g (lw_at lw_m4 65 rfl) rfl
theorem q806 : (Jvm.Cond.soleField "CatalogueLoaderModel" "hits") ∈ lw_all := lw_g (lw_at lw_m4 66 rfl) rfl
theorem q807 : (Jvm.Cond.lays "CatalogueLoaderModel" "CatalogueLoaderModel" "actMany" "I") ∈ lw_all := lw_g (lw_at lw_m4 67 rfl) rfl
theorem q808 : (Jvm.Cond.soleField "CatalogueLoaderModel" "actMany") ∈ lw_all := lw_g (lw_at lw_m4 68 rfl) rfl
theorem q809 : (Jvm.Cond.lays "CatalogueLoaderModel" "CatalogueLoaderModel" "doneMany" "I") ∈ lw_all := lw_g (lw_at lw_m4 69 rfl) rfl
theorem q810 : (Jvm.Cond.soleField "CatalogueLoaderModel" "doneMany") ∈ lw_all := lw_g (lw_at lw_m4 70 rfl) rfl
theorem q811 : (Jvm.Cond.laysFinal "CatalogueLoaderModel" "CatalogueLoaderModel" "kinds" "[I") ∈ lw_all := lw_g (lw_at lw_m4 71 rfl) rfl
theorem q812 : (Jvm.Cond.soleField "CatalogueLoaderModel" "kinds") ∈ lw_all := lw_g (lw_at lw_m4 72 rfl) rfl
theorem q813 : (Jvm.Cond.laysFinal "CatalogueLoaderModel" "CatalogueLoaderModel" "ones" "[I") ∈ lw_all := lw_g (lw_at lw_m4 73 rfl) rfl
theorem q814 : (Jvm.Cond.soleField "CatalogueLoaderModel" "ones") ∈ lw_all := lw_g (lw_at lw_m4 74 rfl) rfl
theorem q815 : (Jvm.Cond.laysFinal "CatalogueLoaderModel" "CatalogueLoaderModel" "others" "[I") ∈ lw_all := lw_g (lw_at lw_m4 75 rfl) rfl
theorem q816 : (Jvm.Cond.soleField "CatalogueLoaderModel" "others") ∈ lw_all := lw_g (lw_at lw_m4 76 rfl) rfl
theorem q817 : (Jvm.Cond.laysFinal "CatalogueLoaderModel" "CatalogueLoaderModel" "isIn" "[Z") ∈ lw_all := lw_g (lw_at lw_m4 77 rfl) rfl
theorem q818 : (Jvm.Cond.soleField "CatalogueLoaderModel" "isIn") ∈ lw_all := lw_g (lw_at lw_m4 78 rfl) rfl
theorem q819 : (Jvm.Cond.laysFinal "CatalogueLoaderModel" "CatalogueLoaderModel" "keys" "[I") ∈ lw_all := lw_g (lw_at lw_m4 79 rfl) rfl
theorem q820 : (Jvm.Cond.soleField "CatalogueLoaderModel" "keys") ∈ lw_all := lw_g (lw_at lw_m4 80 rfl) rfl
theorem q821 : (Jvm.Cond.laysFinal "CatalogueLoaderModel" "CatalogueLoaderModel" "fields" "[I") ∈ lw_all := lw_g (lw_at lw_m4 81 rfl) rfl
theorem q822 : (Jvm.Cond.soleField "CatalogueLoaderModel" "fields") ∈ lw_all := lw_g (lw_at lw_m4 82 rfl) rfl
theorem q823 : (Jvm.Cond.laysFinal "CatalogueLoaderModel" "CatalogueLoaderModel" "sources" "[I") ∈ lw_all := lw_g (lw_at lw_m4 83 rfl) rfl
theorem q824 : (Jvm.Cond.soleField "CatalogueLoaderModel" "sources") ∈ lw_all := lw_g (lw_at lw_m4 84 rfl) rfl
theorem q825 : (Jvm.Cond.laysFinal "CatalogueLoaderModel" "CatalogueLoaderModel" "isKept" "[Z") ∈ lw_all := lw_g (lw_at lw_m4 85 rfl) rfl
theorem q826 : (Jvm.Cond.soleField "CatalogueLoaderModel" "isKept") ∈ lw_all := lw_g (lw_at lw_m4 86 rfl) rfl
theorem q827 : (Jvm.Cond.laysFinal "CatalogueLoaderModel" "CatalogueLoaderModel" "held" "[I") ∈ lw_all := lw_g (lw_at lw_m4 87 rfl) rfl
theorem q828 : (Jvm.Cond.soleField "CatalogueLoaderModel" "held") ∈ lw_all := lw_g (lw_at lw_m4 88 rfl) rfl
theorem q829 : (Jvm.Cond.lays "CatalogueLoaderModel" "CatalogueLoaderModel" "thrown" "I") ∈ lw_all := lw_g (lw_at lw_m4 89 rfl) rfl
theorem q830 : (Jvm.Cond.soleField "CatalogueLoaderModel" "thrown") ∈ lw_all := lw_g (lw_at lw_m4 90 rfl) rfl
theorem q831 : (Jvm.Cond.superclass "CatalogueLoaderModel" "java/lang/Object") ∈ lw_all := lw_g (lw_at lw_m4 91 rfl) rfl
theorem q833 : (Jvm.Cond.instanceMethod ({ cls := "CatalogueLoaderModel", name := "thrown", desc := "()I" } : Jvm.MethodName)) ∈ lw_all := lw_g (lw_at lw_m4 93 rfl) rfl
theorem q834 : (Jvm.Cond.selects "CatalogueLoaderModel" ({ cls := "CatalogueLoaderModel", name := "thrown", desc := "()I" } : Jvm.MethodName) ({ cls := "CatalogueLoaderModel", name := "thrown", desc := "()I" } : Jvm.MethodName)) ∈ lw_all := lw_g (lw_at lw_m4 94 rfl) rfl
theorem q835 : (Jvm.Cond.code ({ cls := "CatalogueLoaderModel", name := "thrown", desc := "()I" } : Jvm.MethodName) prog_10_method_2_code (1 : Nat) (Option.some Jvm.ClassFile.FieldType.int)) ∈ lw_all := lw_g (lw_at lw_m4 95 rfl) rfl
theorem q837 : (Jvm.Cond.instanceMethod ({ cls := "CatalogueLoaderModel", name := "setRank", desc := "(II)I" } : Jvm.MethodName)) ∈ lw_all := lw_g (lw_at lw_m4 97 rfl) rfl
theorem q838 : (Jvm.Cond.selects "CatalogueLoaderModel" ({ cls := "CatalogueLoaderModel", name := "setRank", desc := "(II)I" } : Jvm.MethodName) ({ cls := "CatalogueLoaderModel", name := "setRank", desc := "(II)I" } : Jvm.MethodName)) ∈ lw_all := lw_g (lw_at lw_m4 98 rfl) rfl
theorem q839 : (Jvm.Cond.code ({ cls := "CatalogueLoaderModel", name := "setRank", desc := "(II)I" } : Jvm.MethodName) prog_10_method_5_code (4 : Nat) (Option.some Jvm.ClassFile.FieldType.int)) ∈ lw_all := lw_g (lw_at lw_m4 99 rfl) rfl
theorem q840 : (Jvm.Cond.methodLink "CatalogueLoaderModel" (78 : Nat) ({ cls := "CatalogueLoaderModel", name := "in", desc := "(III)Z" } : Jvm.MethodName)) ∈ lw_all := lw_g (lw_at lw_m4 100 rfl) rfl
theorem q841 : (Jvm.Cond.static ({ cls := "CatalogueLoaderModel", name := "in", desc := "(III)Z" } : Jvm.MethodName)) ∈ lw_all := lw_g (lw_at lw_m4 101 rfl) rfl
theorem q842 : (Jvm.Cond.code ({ cls := "CatalogueLoaderModel", name := "in", desc := "(III)Z" } : Jvm.MethodName) prog_10_method_3_code (3 : Nat) (Option.some Jvm.ClassFile.FieldType.boolean)) ∈ lw_all := lw_g (lw_at lw_m4 102 rfl) rfl
theorem q844 : (Jvm.Cond.instanceMethod ({ cls := "CatalogueLoaderModel", name := "setRule", desc := "(II)I" } : Jvm.MethodName)) ∈ lw_all := lw_g (lw_at lw_m4 104 rfl) rfl
theorem q845 : (Jvm.Cond.selects "CatalogueLoaderModel" ({ cls := "CatalogueLoaderModel", name := "setRule", desc := "(II)I" } : Jvm.MethodName) ({ cls := "CatalogueLoaderModel", name := "setRule", desc := "(II)I" } : Jvm.MethodName)) ∈ lw_all := lw_g (lw_at lw_m4 105 rfl) rfl
theorem q846 : (Jvm.Cond.code ({ cls := "CatalogueLoaderModel", name := "setRule", desc := "(II)I" } : Jvm.MethodName) prog_10_method_6_code (4 : Nat) (Option.some Jvm.ClassFile.FieldType.int)) ∈ lw_all := lw_g (lw_at lw_m4 106 rfl) rfl
theorem q848 : (Jvm.Cond.instanceMethod ({ cls := "CatalogueLoaderModel", name := "setOrder", desc := "(III)V" } : Jvm.MethodName)) ∈ lw_all := lw_g (lw_at lw_m4 108 rfl) rfl
theorem q849 : (Jvm.Cond.selects "CatalogueLoaderModel" ({ cls := "CatalogueLoaderModel", name := "setOrder", desc := "(III)V" } : Jvm.MethodName) ({ cls := "CatalogueLoaderModel", name := "setOrder", desc := "(III)V" } : Jvm.MethodName)) ∈ lw_all := lw_g (lw_at lw_m4 109 rfl) rfl
theorem q850 : (Jvm.Cond.code ({ cls := "CatalogueLoaderModel", name := "setOrder", desc := "(III)V" } : Jvm.MethodName) prog_10_method_7_code (5 : Nat) (Option.none : Option Jvm.ClassFile.FieldType)) ∈ lw_all := lw_g (lw_at lw_m4 110 rfl) rfl
theorem q852 : (Jvm.Cond.instanceMethod ({ cls := "CatalogueLoaderModel", name := "beginBatch", desc := "()I" } : Jvm.MethodName)) ∈ lw_all := lw_g (lw_at lw_m4 112 rfl) rfl
theorem q853 : (Jvm.Cond.selects "CatalogueLoaderModel" ({ cls := "CatalogueLoaderModel", name := "beginBatch", desc := "()I" } : Jvm.MethodName) ({ cls := "CatalogueLoaderModel", name := "beginBatch", desc := "()I" } : Jvm.MethodName)) ∈ lw_all := lw_g (lw_at lw_m4 113 rfl) rfl
theorem q854 : (Jvm.Cond.code ({ cls := "CatalogueLoaderModel", name := "beginBatch", desc := "()I" } : Jvm.MethodName) prog_10_method_16_code (1 : Nat) (Option.some Jvm.ClassFile.FieldType.int)) ∈ lw_all := lw_g (lw_at lw_m4 114 rfl) rfl
theorem q856 : (Jvm.Cond.instanceMethod ({ cls := "CatalogueLoaderModel", name := "key", desc := "(II)I" } : Jvm.MethodName)) ∈ lw_all := lw_g (lw_at lw_m4 116 rfl) rfl
theorem q857 : (Jvm.Cond.selects "CatalogueLoaderModel" ({ cls := "CatalogueLoaderModel", name := "key", desc := "(II)I" } : Jvm.MethodName) ({ cls := "CatalogueLoaderModel", name := "key", desc := "(II)I" } : Jvm.MethodName)) ∈ lw_all := lw_g (lw_at lw_m4 117 rfl) rfl
theorem q858 : (Jvm.Cond.code ({ cls := "CatalogueLoaderModel", name := "key", desc := "(II)I" } : Jvm.MethodName) prog_10_method_17_code (4 : Nat) (Option.some Jvm.ClassFile.FieldType.int)) ∈ lw_all := lw_g (lw_at lw_m4 118 rfl) rfl
theorem q860 : (Jvm.Cond.instanceMethod ({ cls := "CatalogueLoaderModel", name := "field", desc := "(II)I" } : Jvm.MethodName)) ∈ lw_all := lw_g (lw_at lw_m4 120 rfl) rfl
theorem q861 : (Jvm.Cond.selects "CatalogueLoaderModel" ({ cls := "CatalogueLoaderModel", name := "field", desc := "(II)I" } : Jvm.MethodName) ({ cls := "CatalogueLoaderModel", name := "field", desc := "(II)I" } : Jvm.MethodName)) ∈ lw_all := lw_g (lw_at lw_m4 121 rfl) rfl
theorem q862 : (Jvm.Cond.code ({ cls := "CatalogueLoaderModel", name := "field", desc := "(II)I" } : Jvm.MethodName) prog_10_method_18_code (4 : Nat) (Option.some Jvm.ClassFile.FieldType.int)) ∈ lw_all := lw_g (lw_at lw_m4 122 rfl) rfl
theorem q864 : (Jvm.Cond.instanceMethod ({ cls := "CatalogueLoaderModel", name := "load", desc := "(I)I" } : Jvm.MethodName)) ∈ lw_all := lw_g (lw_at lw_m4 124 rfl) rfl
theorem q865 : (Jvm.Cond.selects "CatalogueLoaderModel" ({ cls := "CatalogueLoaderModel", name := "load", desc := "(I)I" } : Jvm.MethodName) ({ cls := "CatalogueLoaderModel", name := "load", desc := "(I)I" } : Jvm.MethodName)) ∈ lw_all := lw_g (lw_at lw_m4 125 rfl) rfl
theorem q866 : (Jvm.Cond.code ({ cls := "CatalogueLoaderModel", name := "load", desc := "(I)I" } : Jvm.MethodName) prog_10_method_19_code (4 : Nat) (Option.some Jvm.ClassFile.FieldType.int)) ∈ lw_all := lw_g (lw_at lw_m4 126 rfl) rfl
theorem q867 : (Jvm.Cond.methodLink "CatalogueLoaderModel" (112 : Nat) ({ cls := "CatalogueLoaderModel", name := "add", desc := "(III)V" } : Jvm.MethodName)) ∈ lw_all := lw_g (lw_at lw_m4 127 rfl) rfl
theorem q868 : (Jvm.Cond.privateMethod ({ cls := "CatalogueLoaderModel", name := "add", desc := "(III)V" } : Jvm.MethodName)) ∈ lw_tbl := lw_at lw_m4 128 rfl
theorem q869 : (Jvm.Cond.instanceMethod ({ cls := "CatalogueLoaderModel", name := "add", desc := "(III)V" } : Jvm.MethodName)) ∈ lw_all := lw_g (lw_at lw_m4 129 rfl) rfl
theorem q870 : (Jvm.Cond.code ({ cls := "CatalogueLoaderModel", name := "add", desc := "(III)V" } : Jvm.MethodName) prog_10_method_14_code (4 : Nat) (Option.none : Option Jvm.ClassFile.FieldType)) ∈ lw_all := lw_g (lw_at lw_m4 130 rfl) rfl
theorem q871 : (Jvm.Cond.methodLink "CatalogueLoaderModel" (106 : Nat) ({ cls := "CatalogueLoaderModel", name := "perform", desc := "(I)V" } : Jvm.MethodName)) ∈ lw_all := lw_g (lw_at lw_m4 131 rfl) rfl
theorem q872 : (Jvm.Cond.privateMethod ({ cls := "CatalogueLoaderModel", name := "perform", desc := "(I)V" } : Jvm.MethodName)) ∈ lw_tbl := lw_at lw_m4 132 rfl
theorem q873 : (Jvm.Cond.instanceMethod ({ cls := "CatalogueLoaderModel", name := "perform", desc := "(I)V" } : Jvm.MethodName)) ∈ lw_all := lw_g (lw_at lw_m4 133 rfl) rfl
theorem q874 : (Jvm.Cond.code ({ cls := "CatalogueLoaderModel", name := "perform", desc := "(I)V" } : Jvm.MethodName) prog_10_method_13_code (4 : Nat) (Option.none : Option Jvm.ClassFile.FieldType)) ∈ lw_all := lw_g (lw_at lw_m4 134 rfl) rfl
theorem q875 : (Jvm.Cond.methodLink "CatalogueLoaderModel" (97 : Nat) ({ cls := "CatalogueLoaderModel", name := "doLoad", desc := "(I)V" } : Jvm.MethodName)) ∈ lw_all := lw_g (lw_at lw_m4 135 rfl) rfl
theorem q876 : (Jvm.Cond.privateMethod ({ cls := "CatalogueLoaderModel", name := "doLoad", desc := "(I)V" } : Jvm.MethodName)) ∈ lw_tbl := lw_at lw_m4 136 rfl
theorem q877 : (Jvm.Cond.instanceMethod ({ cls := "CatalogueLoaderModel", name := "doLoad", desc := "(I)V" } : Jvm.MethodName)) ∈ lw_all := lw_g (lw_at lw_m4 137 rfl) rfl
theorem q878 : (Jvm.Cond.code ({ cls := "CatalogueLoaderModel", name := "doLoad", desc := "(I)V" } : Jvm.MethodName) prog_10_method_11_code (3 : Nat) (Option.none : Option Jvm.ClassFile.FieldType)) ∈ lw_all := lw_g (lw_at lw_m4 138 rfl) rfl
theorem q879 : (Jvm.Cond.methodLink "CatalogueLoaderModel" (85 : Nat) ({ cls := "CatalogueLoaderModel", name := "match", desc := "(I)I" } : Jvm.MethodName)) ∈ lw_all := lw_g (lw_at lw_m4 139 rfl) rfl
theorem q880 : (Jvm.Cond.privateMethod ({ cls := "CatalogueLoaderModel", name := "match", desc := "(I)I" } : Jvm.MethodName)) ∈ lw_tbl := lw_at lw_m4 140 rfl
theorem q881 : (Jvm.Cond.instanceMethod ({ cls := "CatalogueLoaderModel", name := "match", desc := "(I)I" } : Jvm.MethodName)) ∈ lw_all := lw_g (lw_at lw_m4 141 rfl) rfl
theorem q882 : (Jvm.Cond.code ({ cls := "CatalogueLoaderModel", name := "match", desc := "(I)I" } : Jvm.MethodName) prog_10_method_10_code (7 : Nat) (Option.some Jvm.ClassFile.FieldType.int)) ∈ lw_all := lw_g (lw_at lw_m4 142 rfl) rfl
theorem q883 : (Jvm.Cond.methodLink "CatalogueLoaderModel" (89 : Nat) ({ cls := "CatalogueLoaderModel", name := "makeRecord", desc := "(I)V" } : Jvm.MethodName)) ∈ lw_all := lw_g (lw_at lw_m4 143 rfl) rfl
theorem q884 : (Jvm.Cond.privateMethod ({ cls := "CatalogueLoaderModel", name := "makeRecord", desc := "(I)V" } : Jvm.MethodName)) ∈ lw_tbl := lw_at lw_m4 144 rfl
theorem q885 : (Jvm.Cond.instanceMethod ({ cls := "CatalogueLoaderModel", name := "makeRecord", desc := "(I)V" } : Jvm.MethodName)) ∈ lw_all := lw_g (lw_at lw_m4 145 rfl) rfl
theorem q886 : (Jvm.Cond.code ({ cls := "CatalogueLoaderModel", name := "makeRecord", desc := "(I)V" } : Jvm.MethodName) prog_10_method_8_code (4 : Nat) (Option.none : Option Jvm.ClassFile.FieldType)) ∈ lw_all := lw_g (lw_at lw_m4 146 rfl) rfl
theorem q887 : (Jvm.Cond.methodLink "CatalogueLoaderModel" (93 : Nat) ({ cls := "CatalogueLoaderModel", name := "layOver", desc := "(II)V" } : Jvm.MethodName)) ∈ lw_all := lw_g (lw_at lw_m4 147 rfl) rfl
theorem q888 : (Jvm.Cond.privateMethod ({ cls := "CatalogueLoaderModel", name := "layOver", desc := "(II)V" } : Jvm.MethodName)) ∈ lw_tbl := lw_at lw_m4 148 rfl
theorem q889 : (Jvm.Cond.instanceMethod ({ cls := "CatalogueLoaderModel", name := "layOver", desc := "(II)V" } : Jvm.MethodName)) ∈ lw_all := lw_g (lw_at lw_m4 149 rfl) rfl
theorem q890 : (Jvm.Cond.code ({ cls := "CatalogueLoaderModel", name := "layOver", desc := "(II)V" } : Jvm.MethodName) prog_10_method_9_code (7 : Nat) (Option.none : Option Jvm.ClassFile.FieldType)) ∈ lw_all := lw_g (lw_at lw_m4 150 rfl) rfl
theorem q891 : (Jvm.Cond.methodLink "CatalogueLoaderModel" (100 : Nat) ({ cls := "CatalogueLoaderModel", name := "doMerge", desc := "(II)V" } : Jvm.MethodName)) ∈ lw_all := lw_g (lw_at lw_m4 151 rfl) rfl
theorem q892 : (Jvm.Cond.privateMethod ({ cls := "CatalogueLoaderModel", name := "doMerge", desc := "(II)V" } : Jvm.MethodName)) ∈ lw_tbl := lw_at lw_m4 152 rfl
theorem q893 : (Jvm.Cond.instanceMethod ({ cls := "CatalogueLoaderModel", name := "doMerge", desc := "(II)V" } : Jvm.MethodName)) ∈ lw_all := lw_g (lw_at lw_m4 153 rfl) rfl
theorem q894 : (Jvm.Cond.code ({ cls := "CatalogueLoaderModel", name := "doMerge", desc := "(II)V" } : Jvm.MethodName) prog_10_method_12_code (5 : Nat) (Option.none : Option Jvm.ClassFile.FieldType)) ∈ lw_all := lw_g (lw_at lw_m4 154 rfl) rfl
theorem q896 : (Jvm.Cond.instanceMethod ({ cls := "CatalogueLoaderModel", name := "protect", desc := "(IIZ)Z" } : Jvm.MethodName)) ∈ lw_all := lw_g (lw_at lw_m4 156 rfl) rfl
theorem q897 : (Jvm.Cond.selects "CatalogueLoaderModel" ({ cls := "CatalogueLoaderModel", name := "protect", desc := "(IIZ)Z" } : Jvm.MethodName) ({ cls := "CatalogueLoaderModel", name := "protect", desc := "(IIZ)Z" } : Jvm.MethodName)) ∈ lw_all := lw_g (lw_at lw_m4 157 rfl) rfl
theorem q898 : (Jvm.Cond.code ({ cls := "CatalogueLoaderModel", name := "protect", desc := "(IIZ)Z" } : Jvm.MethodName) prog_10_method_21_code (5 : Nat) (Option.some Jvm.ClassFile.FieldType.boolean)) ∈ lw_all := lw_g (lw_at lw_m4 158 rfl) rfl
theorem q899 : (Jvm.Cond.methodLink "CatalogueLoaderModel" (116 : Nat) ({ cls := "CatalogueLoaderModel", name := "isRecord", desc := "(I)Z" } : Jvm.MethodName)) ∈ lw_all := lw_g (lw_at lw_m4 159 rfl) rfl
theorem q900 : (Jvm.Cond.privateMethod ({ cls := "CatalogueLoaderModel", name := "isRecord", desc := "(I)Z" } : Jvm.MethodName)) ∈ lw_tbl := lw_at lw_m4 160 rfl
theorem q901 : (Jvm.Cond.instanceMethod ({ cls := "CatalogueLoaderModel", name := "isRecord", desc := "(I)Z" } : Jvm.MethodName)) ∈ lw_all := lw_g (lw_at lw_m4 161 rfl) rfl
theorem q902 : (Jvm.Cond.code ({ cls := "CatalogueLoaderModel", name := "isRecord", desc := "(I)Z" } : Jvm.MethodName) prog_10_method_20_code (2 : Nat) (Option.some Jvm.ClassFile.FieldType.boolean)) ∈ lw_all := lw_g (lw_at lw_m4 162 rfl) rfl
theorem q904 : (Jvm.Cond.instanceMethod ({ cls := "CatalogueLoaderModel", name := "hold", desc := "(I)I" } : Jvm.MethodName)) ∈ lw_all := lw_g (lw_at lw_m4 164 rfl) rfl
theorem q905 : (Jvm.Cond.selects "CatalogueLoaderModel" ({ cls := "CatalogueLoaderModel", name := "hold", desc := "(I)I" } : Jvm.MethodName) ({ cls := "CatalogueLoaderModel", name := "hold", desc := "(I)I" } : Jvm.MethodName)) ∈ lw_all := lw_g (lw_at lw_m4 165 rfl) rfl
theorem q906 : (Jvm.Cond.code ({ cls := "CatalogueLoaderModel", name := "hold", desc := "(I)I" } : Jvm.MethodName) prog_10_method_22_code (2 : Nat) (Option.some Jvm.ClassFile.FieldType.int)) ∈ lw_all := lw_g (lw_at lw_m4 166 rfl) rfl
theorem q908 : (Jvm.Cond.instanceMethod ({ cls := "CatalogueLoaderModel", name := "merge", desc := "(II)I" } : Jvm.MethodName)) ∈ lw_all := lw_g (lw_at lw_m4 168 rfl) rfl
theorem q909 : (Jvm.Cond.selects "CatalogueLoaderModel" ({ cls := "CatalogueLoaderModel", name := "merge", desc := "(II)I" } : Jvm.MethodName) ({ cls := "CatalogueLoaderModel", name := "merge", desc := "(II)I" } : Jvm.MethodName)) ∈ lw_all := lw_g (lw_at lw_m4 169 rfl) rfl
theorem q910 : (Jvm.Cond.code ({ cls := "CatalogueLoaderModel", name := "merge", desc := "(II)I" } : Jvm.MethodName) prog_10_method_23_code (3 : Nat) (Option.some Jvm.ClassFile.FieldType.int)) ∈ lw_all := lw_g (lw_at lw_m4 170 rfl) rfl
theorem q912 : (Jvm.Cond.instanceMethod ({ cls := "CatalogueLoaderModel", name := "undo", desc := "(IZ)I" } : Jvm.MethodName)) ∈ lw_all := lw_g (lw_at lw_m4 172 rfl) rfl
theorem q913 : (Jvm.Cond.selects "CatalogueLoaderModel" ({ cls := "CatalogueLoaderModel", name := "undo", desc := "(IZ)I" } : Jvm.MethodName) ({ cls := "CatalogueLoaderModel", name := "undo", desc := "(IZ)I" } : Jvm.MethodName)) ∈ lw_all := lw_g (lw_at lw_m4 173 rfl) rfl
theorem q914 : (Jvm.Cond.code ({ cls := "CatalogueLoaderModel", name := "undo", desc := "(IZ)I" } : Jvm.MethodName) prog_10_method_25_code (3 : Nat) (Option.some Jvm.ClassFile.FieldType.int)) ∈ lw_all := lw_g (lw_at lw_m4 174 rfl) rfl
theorem q915 : (Jvm.Cond.methodLink "CatalogueLoaderModel" (123 : Nat) ({ cls := "CatalogueLoaderModel", name := "makeAnew", desc := "()V" } : Jvm.MethodName)) ∈ lw_all := lw_g (lw_at lw_m4 175 rfl) rfl
theorem q916 : (Jvm.Cond.privateMethod ({ cls := "CatalogueLoaderModel", name := "makeAnew", desc := "()V" } : Jvm.MethodName)) ∈ lw_tbl := lw_at lw_m4 176 rfl
theorem q917 : (Jvm.Cond.instanceMethod ({ cls := "CatalogueLoaderModel", name := "makeAnew", desc := "()V" } : Jvm.MethodName)) ∈ lw_all := lw_g (lw_at lw_m4 177 rfl) rfl
theorem q918 : (Jvm.Cond.code ({ cls := "CatalogueLoaderModel", name := "makeAnew", desc := "()V" } : Jvm.MethodName) prog_10_method_15_code (2 : Nat) (Option.none : Option Jvm.ClassFile.FieldType)) ∈ lw_all := lw_g (lw_at lw_m4 178 rfl) rfl
theorem q919 : (Jvm.Cond.methodLink "CatalogueLoaderModel" (126 : Nat) ({ cls := "CatalogueLoaderModel", name := "recordMany", desc := "()I" } : Jvm.MethodName)) ∈ lw_all := lw_g (lw_at lw_m4 179 rfl) rfl
theorem q920 : (Jvm.Cond.privateMethod ({ cls := "CatalogueLoaderModel", name := "recordMany", desc := "()I" } : Jvm.MethodName)) ∈ lw_tbl := lw_at lw_m4 180 rfl
theorem q921 : (Jvm.Cond.instanceMethod ({ cls := "CatalogueLoaderModel", name := "recordMany", desc := "()I" } : Jvm.MethodName)) ∈ lw_all := lw_g (lw_at lw_m4 181 rfl) rfl
theorem q922 : (Jvm.Cond.code ({ cls := "CatalogueLoaderModel", name := "recordMany", desc := "()I" } : Jvm.MethodName) prog_10_method_24_code (3 : Nat) (Option.some Jvm.ClassFile.FieldType.int)) ∈ lw_all := lw_g (lw_at lw_m4 182 rfl) rfl
theorem q924 : (Jvm.Cond.instanceMethod ({ cls := "CatalogueLoaderModel", name := "batches", desc := "()I" } : Jvm.MethodName)) ∈ lw_all := lw_g (lw_at lw_m4 184 rfl) rfl
theorem q925 : (Jvm.Cond.selects "CatalogueLoaderModel" ({ cls := "CatalogueLoaderModel", name := "batches", desc := "()I" } : Jvm.MethodName) ({ cls := "CatalogueLoaderModel", name := "batches", desc := "()I" } : Jvm.MethodName)) ∈ lw_all := lw_g (lw_at lw_m4 185 rfl) rfl
theorem q926 : (Jvm.Cond.code ({ cls := "CatalogueLoaderModel", name := "batches", desc := "()I" } : Jvm.MethodName) prog_10_method_26_code (1 : Nat) (Option.some Jvm.ClassFile.FieldType.int)) ∈ lw_all := lw_g (lw_at lw_m4 186 rfl) rfl
theorem q928 : (Jvm.Cond.instanceMethod ({ cls := "CatalogueLoaderModel", name := "loads", desc := "()I" } : Jvm.MethodName)) ∈ lw_all := lw_g (lw_at lw_m4 188 rfl) rfl
theorem q929 : (Jvm.Cond.selects "CatalogueLoaderModel" ({ cls := "CatalogueLoaderModel", name := "loads", desc := "()I" } : Jvm.MethodName) ({ cls := "CatalogueLoaderModel", name := "loads", desc := "()I" } : Jvm.MethodName)) ∈ lw_all := lw_g (lw_at lw_m4 189 rfl) rfl
theorem q930 : (Jvm.Cond.code ({ cls := "CatalogueLoaderModel", name := "loads", desc := "()I" } : Jvm.MethodName) prog_10_method_27_code (1 : Nat) (Option.some Jvm.ClassFile.FieldType.int)) ∈ lw_all := lw_g (lw_at lw_m4 190 rfl) rfl
theorem q932 : (Jvm.Cond.instanceMethod ({ cls := "CatalogueLoaderModel", name := "records", desc := "()I" } : Jvm.MethodName)) ∈ lw_all := lw_g (lw_at lw_m4 192 rfl) rfl
theorem q933 : (Jvm.Cond.selects "CatalogueLoaderModel" ({ cls := "CatalogueLoaderModel", name := "records", desc := "()I" } : Jvm.MethodName) ({ cls := "CatalogueLoaderModel", name := "records", desc := "()I" } : Jvm.MethodName)) ∈ lw_all := lw_g (lw_at lw_m4 193 rfl) rfl
theorem q934 : (Jvm.Cond.code ({ cls := "CatalogueLoaderModel", name := "records", desc := "()I" } : Jvm.MethodName) prog_10_method_28_code (1 : Nat) (Option.some Jvm.ClassFile.FieldType.int)) ∈ lw_all := lw_g (lw_at lw_m4 194 rfl) rfl
theorem q936 : (Jvm.Cond.instanceMethod ({ cls := "CatalogueLoaderModel", name := "isUndone", desc := "(I)Z" } : Jvm.MethodName)) ∈ lw_all := lw_g (lw_at lw_m4 196 rfl) rfl
theorem q937 : (Jvm.Cond.selects "CatalogueLoaderModel" ({ cls := "CatalogueLoaderModel", name := "isUndone", desc := "(I)Z" } : Jvm.MethodName) ({ cls := "CatalogueLoaderModel", name := "isUndone", desc := "(I)Z" } : Jvm.MethodName)) ∈ lw_all := lw_g (lw_at lw_m4 197 rfl) rfl
theorem q938 : (Jvm.Cond.code ({ cls := "CatalogueLoaderModel", name := "isUndone", desc := "(I)Z" } : Jvm.MethodName) prog_10_method_29_code (2 : Nat) (Option.some Jvm.ClassFile.FieldType.boolean)) ∈ lw_all := lw_g (lw_at lw_m4 198 rfl) rfl
theorem q940 : (Jvm.Cond.instanceMethod ({ cls := "CatalogueLoaderModel", name := "isThere", desc := "(I)Z" } : Jvm.MethodName)) ∈ lw_all := lw_g (lw_at lw_m4 200 rfl) rfl
theorem q941 : (Jvm.Cond.selects "CatalogueLoaderModel" ({ cls := "CatalogueLoaderModel", name := "isThere", desc := "(I)Z" } : Jvm.MethodName) ({ cls := "CatalogueLoaderModel", name := "isThere", desc := "(I)Z" } : Jvm.MethodName)) ∈ lw_all := lw_g (lw_at lw_m4 201 rfl) rfl
theorem q942 : (Jvm.Cond.code ({ cls := "CatalogueLoaderModel", name := "isThere", desc := "(I)Z" } : Jvm.MethodName) prog_10_method_30_code (2 : Nat) (Option.some Jvm.ClassFile.FieldType.boolean)) ∈ lw_all := lw_g (lw_at lw_m4 202 rfl) rfl
theorem q944 : (Jvm.Cond.instanceMethod ({ cls := "CatalogueLoaderModel", name := "hit", desc := "(I)I" } : Jvm.MethodName)) ∈ lw_all := lw_g (lw_at lw_m4 204 rfl) rfl
theorem q945 : (Jvm.Cond.selects "CatalogueLoaderModel" ({ cls := "CatalogueLoaderModel", name := "hit", desc := "(I)I" } : Jvm.MethodName) ({ cls := "CatalogueLoaderModel", name := "hit", desc := "(I)I" } : Jvm.MethodName)) ∈ lw_all := lw_g (lw_at lw_m4 205 rfl) rfl
theorem q946 : (Jvm.Cond.code ({ cls := "CatalogueLoaderModel", name := "hit", desc := "(I)I" } : Jvm.MethodName) prog_10_method_31_code (2 : Nat) (Option.some Jvm.ClassFile.FieldType.int)) ∈ lw_all := lw_g (lw_at lw_m4 206 rfl) rfl
theorem q948 : (Jvm.Cond.instanceMethod ({ cls := "CatalogueLoaderModel", name := "keyOf", desc := "(II)I" } : Jvm.MethodName)) ∈ lw_all := lw_g (lw_at lw_m4 208 rfl) rfl
theorem q949 : (Jvm.Cond.selects "CatalogueLoaderModel" ({ cls := "CatalogueLoaderModel", name := "keyOf", desc := "(II)I" } : Jvm.MethodName) ({ cls := "CatalogueLoaderModel", name := "keyOf", desc := "(II)I" } : Jvm.MethodName)) ∈ lw_all := lw_g (lw_at lw_m4 209 rfl) rfl
theorem q950 : (Jvm.Cond.code ({ cls := "CatalogueLoaderModel", name := "keyOf", desc := "(II)I" } : Jvm.MethodName) prog_10_method_32_code (3 : Nat) (Option.some Jvm.ClassFile.FieldType.int)) ∈ lw_all := lw_g (lw_at lw_m4 210 rfl) rfl
theorem q952 : (Jvm.Cond.instanceMethod ({ cls := "CatalogueLoaderModel", name := "fieldOf", desc := "(II)I" } : Jvm.MethodName)) ∈ lw_all := lw_g (lw_at lw_m4 212 rfl) rfl
theorem q953 : (Jvm.Cond.selects "CatalogueLoaderModel" ({ cls := "CatalogueLoaderModel", name := "fieldOf", desc := "(II)I" } : Jvm.MethodName) ({ cls := "CatalogueLoaderModel", name := "fieldOf", desc := "(II)I" } : Jvm.MethodName)) ∈ lw_all := lw_g (lw_at lw_m4 213 rfl) rfl
theorem q954 : (Jvm.Cond.code ({ cls := "CatalogueLoaderModel", name := "fieldOf", desc := "(II)I" } : Jvm.MethodName) prog_10_method_33_code (3 : Nat) (Option.some Jvm.ClassFile.FieldType.int)) ∈ lw_all := lw_g (lw_at lw_m4 214 rfl) rfl
theorem q956 : (Jvm.Cond.instanceMethod ({ cls := "CatalogueLoaderModel", name := "sourceOf", desc := "(II)I" } : Jvm.MethodName)) ∈ lw_all := lw_g (lw_at lw_m4 216 rfl) rfl
theorem q957 : (Jvm.Cond.selects "CatalogueLoaderModel" ({ cls := "CatalogueLoaderModel", name := "sourceOf", desc := "(II)I" } : Jvm.MethodName) ({ cls := "CatalogueLoaderModel", name := "sourceOf", desc := "(II)I" } : Jvm.MethodName)) ∈ lw_all := lw_g (lw_at lw_m4 217 rfl) rfl
theorem q958 : (Jvm.Cond.code ({ cls := "CatalogueLoaderModel", name := "sourceOf", desc := "(II)I" } : Jvm.MethodName) prog_10_method_34_code (3 : Nat) (Option.some Jvm.ClassFile.FieldType.int)) ∈ lw_all := lw_g (lw_at lw_m4 218 rfl) rfl
theorem q960 : (Jvm.Cond.instanceMethod ({ cls := "CatalogueLoaderModel", name := "holdings", desc := "(I)I" } : Jvm.MethodName)) ∈ lw_all := lw_g (lw_at lw_m4 220 rfl) rfl
theorem q961 : (Jvm.Cond.selects "CatalogueLoaderModel" ({ cls := "CatalogueLoaderModel", name := "holdings", desc := "(I)I" } : Jvm.MethodName) ({ cls := "CatalogueLoaderModel", name := "holdings", desc := "(I)I" } : Jvm.MethodName)) ∈ lw_all := lw_g (lw_at lw_m4 221 rfl) rfl
theorem q962 : (Jvm.Cond.code ({ cls := "CatalogueLoaderModel", name := "holdings", desc := "(I)I" } : Jvm.MethodName) prog_10_method_35_code (2 : Nat) (Option.some Jvm.ClassFile.FieldType.int)) ∈ lw_all := lw_g (lw_at lw_m4 222 rfl) rfl
theorem q964 : (Jvm.Cond.instanceMethod ({ cls := "CatalogueLoaderModel", name := "digest", desc := "()I" } : Jvm.MethodName)) ∈ lw_all := lw_g (lw_at lw_m4 224 rfl) rfl
theorem q965 : (Jvm.Cond.selects "CatalogueLoaderModel" ({ cls := "CatalogueLoaderModel", name := "digest", desc := "()I" } : Jvm.MethodName) ({ cls := "CatalogueLoaderModel", name := "digest", desc := "()I" } : Jvm.MethodName)) ∈ lw_all := lw_g (lw_at lw_m4 225 rfl) rfl
theorem q966 : (Jvm.Cond.code ({ cls := "CatalogueLoaderModel", name := "digest", desc := "()I" } : Jvm.MethodName) prog_10_method_37_code (1 : Nat) (Option.some Jvm.ClassFile.FieldType.int)) ∈ lw_all := lw_g (lw_at lw_m4 226 rfl) rfl
theorem q967 : (Jvm.Cond.methodLink "CatalogueLoaderModel" (130 : Nat) ({ cls := "CatalogueLoaderModel", name := "sum", desc := "()I" } : Jvm.MethodName)) ∈ lw_all := lw_g (lw_at lw_m4 227 rfl) rfl
theorem q968 : (Jvm.Cond.privateMethod ({ cls := "CatalogueLoaderModel", name := "sum", desc := "()I" } : Jvm.MethodName)) ∈ lw_tbl := lw_at lw_m4 228 rfl
theorem q969 : (Jvm.Cond.instanceMethod ({ cls := "CatalogueLoaderModel", name := "sum", desc := "()I" } : Jvm.MethodName)) ∈ lw_all := lw_g (lw_at lw_m4 229 rfl) rfl
theorem q970 : (Jvm.Cond.code ({ cls := "CatalogueLoaderModel", name := "sum", desc := "()I" } : Jvm.MethodName) prog_10_method_36_code (5 : Nat) (Option.some Jvm.ClassFile.FieldType.int)) ∈ lw_all := lw_g (lw_at lw_m4 230 rfl) rfl
theorem q972 : (Jvm.Cond.instanceMethod ({ cls := "CatalogueLoaderModel", name := "digestAnew", desc := "()I" } : Jvm.MethodName)) ∈ lw_all := lw_g (lw_at lw_m4 232 rfl) rfl
theorem q973 : (Jvm.Cond.selects "CatalogueLoaderModel" ({ cls := "CatalogueLoaderModel", name := "digestAnew", desc := "()I" } : Jvm.MethodName) ({ cls := "CatalogueLoaderModel", name := "digestAnew", desc := "()I" } : Jvm.MethodName)) ∈ lw_all := lw_g (lw_at lw_m4 233 rfl) rfl
theorem q974 : (Jvm.Cond.code ({ cls := "CatalogueLoaderModel", name := "digestAnew", desc := "()I" } : Jvm.MethodName) prog_10_method_38_code (1 : Nat) (Option.some Jvm.ClassFile.FieldType.int)) ∈ lw_all := lw_g (lw_at lw_m4 234 rfl) rfl
theorem q983 : (Jvm.Cond.castable "CatalogueLoaderModel" "java/lang/Object") ∈ lw_tbl := lw_at lw_m5 3 rfl
theorem in_X3 : ∀ w ∈ wsX30, w ∈ lw_all := lw_in wsX30 [781, 783, 785, 787, 789, 791, 793, 795, 797, 799, 801, 803, 805, 807, 809, 811, 813, 815, 817, 819, 821, 823, 825, 827, 829] (by decide +kernel) (by decide +kernel)

