/-! CatalogueLoader -/
set_option maxRecDepth 100000
def RX1 : String := "CatalogueLoader"
def TX1 : u_T := fun k => match k with
  | 0 => ("CatalogueLoader", "ranks", "[I", true)
  | 1 => ("CatalogueLoader", "rules", "[I", true)
  | 2 => ("CatalogueLoader", "order", "[I", true)
  | 3 => ("CatalogueLoader", "draftKeys", "[I", true)
  | 4 => ("CatalogueLoader", "draftFields", "[I", true)
  | 5 => ("CatalogueLoader", "isUndone", "[Z", true)
  | 6 => ("CatalogueLoader", "batches", "I", false)
  | 7 => ("CatalogueLoader", "loads", "I", false)
  | 8 => ("CatalogueLoader", "acts", "I", false)
  | 9 => ("CatalogueLoader", "events", "Ljava/util/ArrayList;", true)
  | _ => ("CatalogueLoader", "now", "LCatalogueLoader$Catalogue;", false)
def tyX1 : Nat → FieldType := fun k => match k with
  | 0 => .array .int
  | 1 => .array .int
  | 2 => .array .int
  | 3 => .array .int
  | 4 => .array .int
  | 5 => .array .boolean
  | 6 => .int
  | 7 => .int
  | 8 => .int
  | 9 => .object "java/util/ArrayList"
  | _ => .object "CatalogueLoader$Catalogue"
abbrev wsX10 : List Cond := u_ws RX1 TX1 11
theorem nmX1 : ∀ a, a < 11 → ∀ b, b < 11 → a ≠ b → (TX1 a).2.1 ≠ (TX1 b).2.1 := by decide +kernel
theorem tyX1_ok : ∀ k, k < 11 → parseFieldDescriptor (TX1 k).2.2.1 = some (tyX1 k) := by decide +kernel
abbrev cX1_init : ByteArray := prog_1_method_1_code
def yX1_init : MethodName := ⟨RX1, "<init>", "()V"⟩
def dkwX1_init_6 : List UInt8 := [183, 0, 38, 181, 0, 41, 177]
abbrev dktX1_init_6 : List UInt8 := dkwX1_init_6 ++ []
def dkwX1_init_5 : List UInt8 := [188, 4, 181, 0, 25, 42, 187, 0, 29, 89, 183, 0, 31, 181, 0, 32, 42, 187, 0, 36, 89, 42]
abbrev dktX1_init_5 : List UInt8 := dkwX1_init_5 ++ dktX1_init_6
def dkwX1_init_4 : List UInt8 := [188, 10, 89, 3, 2, 79, 89, 4, 2, 79, 89, 5, 2, 79, 89, 6, 2, 79, 181, 0, 22, 42, 16, 10]
abbrev dktX1_init_4 : List UInt8 := dkwX1_init_4 ++ dktX1_init_5
def dkwX1_init_3 : List UInt8 := [181, 0, 16, 42, 6, 188, 10, 89, 3, 2, 79, 89, 4, 2, 79, 89, 5, 2, 79, 181, 0, 19, 42, 7]
abbrev dktX1_init_3 : List UInt8 := dkwX1_init_3 ++ dktX1_init_4
def dkwX1_init_2 : List UInt8 := [6, 4, 79, 181, 0, 13, 42, 6, 188, 10, 89, 3, 3, 79, 89, 4, 4, 79, 89, 5, 5, 79]
abbrev dktX1_init_2 : List UInt8 := dkwX1_init_2 ++ dktX1_init_3
def dkwX1_init_1 : List UInt8 := [89, 7, 7, 79, 181, 0, 7, 42, 7, 188, 10, 89, 3, 4, 79, 89, 4, 4, 79, 89, 5, 4, 79, 89]
abbrev dktX1_init_1 : List UInt8 := dkwX1_init_1 ++ dktX1_init_2
def dkwX1_init_0 : List UInt8 := [42, 183, 0, 1, 42, 8, 188, 10, 89, 3, 3, 79, 89, 4, 4, 79, 89, 5, 5, 79, 89, 6, 6, 79]
abbrev dktX1_init_0 : List UInt8 := dkwX1_init_0 ++ dktX1_init_1
theorem dksX1_init_0 : cX1_init.data.toList.drop 0 = dktX1_init_0 := by decide +kernel
theorem dksX1_init_1 : cX1_init.data.toList.drop 24 = dktX1_init_1 := dk_seg dksX1_init_0 24 rfl rfl
theorem dksX1_init_2 : cX1_init.data.toList.drop 48 = dktX1_init_2 := dk_seg dksX1_init_1 24 rfl rfl
theorem dksX1_init_3 : cX1_init.data.toList.drop 70 = dktX1_init_3 := dk_seg dksX1_init_2 22 rfl rfl
theorem dksX1_init_4 : cX1_init.data.toList.drop 94 = dktX1_init_4 := dk_seg dksX1_init_3 24 rfl rfl
theorem dksX1_init_5 : cX1_init.data.toList.drop 118 = dktX1_init_5 := dk_seg dksX1_init_4 24 rfl rfl
theorem dksX1_init_6 : cX1_init.data.toList.drop 140 = dktX1_init_6 := dk_seg dksX1_init_5 22 rfl rfl
theorem dX1_init_0 : decode cX1_init 0 = .ok (.aload_n 0, 1) := dk_42 (dk_at dksX1_init_0 0 rfl rfl)
theorem dX1_init_1 : decode cX1_init 1 = .ok (.invokespecial 1, 3) := dk_183 0 1 (dk_at dksX1_init_0 1 rfl rfl)
theorem dX1_init_4 : decode cX1_init 4 = .ok (.aload_n 0, 1) := dk_42 (dk_at dksX1_init_0 4 rfl rfl)
theorem dX1_init_5 : decode cX1_init 5 = .ok (.iconst 5, 1) := dk_8 (dk_at dksX1_init_0 5 rfl rfl)
theorem dX1_init_6 : decode cX1_init 6 = .ok (.newarray .int, 2) := dk_188_10 (dk_at dksX1_init_0 6 rfl rfl)
theorem dX1_init_8 : decode cX1_init 8 = .ok (.dup, 1) := dk_89 (dk_at dksX1_init_0 8 rfl rfl)
theorem dX1_init_9 : decode cX1_init 9 = .ok (.iconst 0, 1) := dk_3 (dk_at dksX1_init_0 9 rfl rfl)
theorem dX1_init_10 : decode cX1_init 10 = .ok (.iconst 0, 1) := dk_3 (dk_at dksX1_init_0 10 rfl rfl)
theorem dX1_init_11 : decode cX1_init 11 = .ok (.iastore, 1) := dk_79 (dk_at dksX1_init_0 11 rfl rfl)
theorem dX1_init_12 : decode cX1_init 12 = .ok (.dup, 1) := dk_89 (dk_at dksX1_init_0 12 rfl rfl)
theorem dX1_init_13 : decode cX1_init 13 = .ok (.iconst 1, 1) := dk_4 (dk_at dksX1_init_0 13 rfl rfl)
theorem dX1_init_14 : decode cX1_init 14 = .ok (.iconst 1, 1) := dk_4 (dk_at dksX1_init_0 14 rfl rfl)
theorem dX1_init_15 : decode cX1_init 15 = .ok (.iastore, 1) := dk_79 (dk_at dksX1_init_0 15 rfl rfl)
theorem dX1_init_16 : decode cX1_init 16 = .ok (.dup, 1) := dk_89 (dk_at dksX1_init_0 16 rfl rfl)
theorem dX1_init_17 : decode cX1_init 17 = .ok (.iconst 2, 1) := dk_5 (dk_at dksX1_init_0 17 rfl rfl)
theorem dX1_init_18 : decode cX1_init 18 = .ok (.iconst 2, 1) := dk_5 (dk_at dksX1_init_0 18 rfl rfl)
theorem dX1_init_19 : decode cX1_init 19 = .ok (.iastore, 1) := dk_79 (dk_at dksX1_init_0 19 rfl rfl)
theorem dX1_init_20 : decode cX1_init 20 = .ok (.dup, 1) := dk_89 (dk_at dksX1_init_0 20 rfl rfl)
theorem dX1_init_21 : decode cX1_init 21 = .ok (.iconst 3, 1) := dk_6 (dk_at dksX1_init_0 21 rfl rfl)
theorem dX1_init_22 : decode cX1_init 22 = .ok (.iconst 3, 1) := dk_6 (dk_at dksX1_init_0 22 rfl rfl)
theorem dX1_init_23 : decode cX1_init 23 = .ok (.iastore, 1) := dk_79 (dk_at dksX1_init_0 23 rfl rfl)
theorem dX1_init_24 : decode cX1_init 24 = .ok (.dup, 1) := dk_89 (dk_at dksX1_init_1 0 rfl rfl)
theorem dX1_init_25 : decode cX1_init 25 = .ok (.iconst 4, 1) := dk_7 (dk_at dksX1_init_1 1 rfl rfl)
theorem dX1_init_26 : decode cX1_init 26 = .ok (.iconst 4, 1) := dk_7 (dk_at dksX1_init_1 2 rfl rfl)
theorem dX1_init_27 : decode cX1_init 27 = .ok (.iastore, 1) := dk_79 (dk_at dksX1_init_1 3 rfl rfl)
theorem dX1_init_28 : decode cX1_init 28 = .ok (.putfield 7, 3) := dk_181 0 7 (dk_at dksX1_init_1 4 rfl rfl)
theorem dX1_init_31 : decode cX1_init 31 = .ok (.aload_n 0, 1) := dk_42 (dk_at dksX1_init_1 7 rfl rfl)
theorem dX1_init_32 : decode cX1_init 32 = .ok (.iconst 4, 1) := dk_7 (dk_at dksX1_init_1 8 rfl rfl)
theorem dX1_init_33 : decode cX1_init 33 = .ok (.newarray .int, 2) := dk_188_10 (dk_at dksX1_init_1 9 rfl rfl)
theorem dX1_init_35 : decode cX1_init 35 = .ok (.dup, 1) := dk_89 (dk_at dksX1_init_1 11 rfl rfl)
theorem dX1_init_36 : decode cX1_init 36 = .ok (.iconst 0, 1) := dk_3 (dk_at dksX1_init_1 12 rfl rfl)
theorem dX1_init_37 : decode cX1_init 37 = .ok (.iconst 1, 1) := dk_4 (dk_at dksX1_init_1 13 rfl rfl)
theorem dX1_init_38 : decode cX1_init 38 = .ok (.iastore, 1) := dk_79 (dk_at dksX1_init_1 14 rfl rfl)
theorem dX1_init_39 : decode cX1_init 39 = .ok (.dup, 1) := dk_89 (dk_at dksX1_init_1 15 rfl rfl)
theorem dX1_init_40 : decode cX1_init 40 = .ok (.iconst 1, 1) := dk_4 (dk_at dksX1_init_1 16 rfl rfl)
theorem dX1_init_41 : decode cX1_init 41 = .ok (.iconst 1, 1) := dk_4 (dk_at dksX1_init_1 17 rfl rfl)
theorem dX1_init_42 : decode cX1_init 42 = .ok (.iastore, 1) := dk_79 (dk_at dksX1_init_1 18 rfl rfl)
theorem dX1_init_43 : decode cX1_init 43 = .ok (.dup, 1) := dk_89 (dk_at dksX1_init_1 19 rfl rfl)
theorem dX1_init_44 : decode cX1_init 44 = .ok (.iconst 2, 1) := dk_5 (dk_at dksX1_init_1 20 rfl rfl)
theorem dX1_init_45 : decode cX1_init 45 = .ok (.iconst 1, 1) := dk_4 (dk_at dksX1_init_1 21 rfl rfl)
theorem dX1_init_46 : decode cX1_init 46 = .ok (.iastore, 1) := dk_79 (dk_at dksX1_init_1 22 rfl rfl)
theorem dX1_init_47 : decode cX1_init 47 = .ok (.dup, 1) := dk_89 (dk_at dksX1_init_1 23 rfl rfl)
theorem dX1_init_48 : decode cX1_init 48 = .ok (.iconst 3, 1) := dk_6 (dk_at dksX1_init_2 0 rfl rfl)
theorem dX1_init_49 : decode cX1_init 49 = .ok (.iconst 1, 1) := dk_4 (dk_at dksX1_init_2 1 rfl rfl)
theorem dX1_init_50 : decode cX1_init 50 = .ok (.iastore, 1) := dk_79 (dk_at dksX1_init_2 2 rfl rfl)
theorem dX1_init_51 : decode cX1_init 51 = .ok (.putfield 13, 3) := dk_181 0 13 (dk_at dksX1_init_2 3 rfl rfl)
theorem dX1_init_54 : decode cX1_init 54 = .ok (.aload_n 0, 1) := dk_42 (dk_at dksX1_init_2 6 rfl rfl)
theorem dX1_init_55 : decode cX1_init 55 = .ok (.iconst 3, 1) := dk_6 (dk_at dksX1_init_2 7 rfl rfl)
theorem dX1_init_56 : decode cX1_init 56 = .ok (.newarray .int, 2) := dk_188_10 (dk_at dksX1_init_2 8 rfl rfl)
theorem dX1_init_58 : decode cX1_init 58 = .ok (.dup, 1) := dk_89 (dk_at dksX1_init_2 10 rfl rfl)
theorem dX1_init_59 : decode cX1_init 59 = .ok (.iconst 0, 1) := dk_3 (dk_at dksX1_init_2 11 rfl rfl)
theorem dX1_init_60 : decode cX1_init 60 = .ok (.iconst 0, 1) := dk_3 (dk_at dksX1_init_2 12 rfl rfl)
theorem dX1_init_61 : decode cX1_init 61 = .ok (.iastore, 1) := dk_79 (dk_at dksX1_init_2 13 rfl rfl)
theorem dX1_init_62 : decode cX1_init 62 = .ok (.dup, 1) := dk_89 (dk_at dksX1_init_2 14 rfl rfl)
theorem dX1_init_63 : decode cX1_init 63 = .ok (.iconst 1, 1) := dk_4 (dk_at dksX1_init_2 15 rfl rfl)
theorem dX1_init_64 : decode cX1_init 64 = .ok (.iconst 1, 1) := dk_4 (dk_at dksX1_init_2 16 rfl rfl)
theorem dX1_init_65 : decode cX1_init 65 = .ok (.iastore, 1) := dk_79 (dk_at dksX1_init_2 17 rfl rfl)
theorem dX1_init_66 : decode cX1_init 66 = .ok (.dup, 1) := dk_89 (dk_at dksX1_init_2 18 rfl rfl)
theorem dX1_init_67 : decode cX1_init 67 = .ok (.iconst 2, 1) := dk_5 (dk_at dksX1_init_2 19 rfl rfl)
theorem dX1_init_68 : decode cX1_init 68 = .ok (.iconst 2, 1) := dk_5 (dk_at dksX1_init_2 20 rfl rfl)
theorem dX1_init_69 : decode cX1_init 69 = .ok (.iastore, 1) := dk_79 (dk_at dksX1_init_2 21 rfl rfl)
theorem dX1_init_70 : decode cX1_init 70 = .ok (.putfield 16, 3) := dk_181 0 16 (dk_at dksX1_init_3 0 rfl rfl)
theorem dX1_init_73 : decode cX1_init 73 = .ok (.aload_n 0, 1) := dk_42 (dk_at dksX1_init_3 3 rfl rfl)
theorem dX1_init_74 : decode cX1_init 74 = .ok (.iconst 3, 1) := dk_6 (dk_at dksX1_init_3 4 rfl rfl)
theorem dX1_init_75 : decode cX1_init 75 = .ok (.newarray .int, 2) := dk_188_10 (dk_at dksX1_init_3 5 rfl rfl)
theorem dX1_init_77 : decode cX1_init 77 = .ok (.dup, 1) := dk_89 (dk_at dksX1_init_3 7 rfl rfl)
theorem dX1_init_78 : decode cX1_init 78 = .ok (.iconst 0, 1) := dk_3 (dk_at dksX1_init_3 8 rfl rfl)
theorem dX1_init_79 : decode cX1_init 79 = .ok (.iconst (-1), 1) := dk_2 (dk_at dksX1_init_3 9 rfl rfl)
theorem dX1_init_80 : decode cX1_init 80 = .ok (.iastore, 1) := dk_79 (dk_at dksX1_init_3 10 rfl rfl)
theorem dX1_init_81 : decode cX1_init 81 = .ok (.dup, 1) := dk_89 (dk_at dksX1_init_3 11 rfl rfl)
theorem dX1_init_82 : decode cX1_init 82 = .ok (.iconst 1, 1) := dk_4 (dk_at dksX1_init_3 12 rfl rfl)
theorem dX1_init_83 : decode cX1_init 83 = .ok (.iconst (-1), 1) := dk_2 (dk_at dksX1_init_3 13 rfl rfl)
theorem dX1_init_84 : decode cX1_init 84 = .ok (.iastore, 1) := dk_79 (dk_at dksX1_init_3 14 rfl rfl)
theorem dX1_init_85 : decode cX1_init 85 = .ok (.dup, 1) := dk_89 (dk_at dksX1_init_3 15 rfl rfl)
theorem dX1_init_86 : decode cX1_init 86 = .ok (.iconst 2, 1) := dk_5 (dk_at dksX1_init_3 16 rfl rfl)
theorem dX1_init_87 : decode cX1_init 87 = .ok (.iconst (-1), 1) := dk_2 (dk_at dksX1_init_3 17 rfl rfl)
theorem dX1_init_88 : decode cX1_init 88 = .ok (.iastore, 1) := dk_79 (dk_at dksX1_init_3 18 rfl rfl)
theorem dX1_init_89 : decode cX1_init 89 = .ok (.putfield 19, 3) := dk_181 0 19 (dk_at dksX1_init_3 19 rfl rfl)
theorem dX1_init_92 : decode cX1_init 92 = .ok (.aload_n 0, 1) := dk_42 (dk_at dksX1_init_3 22 rfl rfl)
theorem dX1_init_93 : decode cX1_init 93 = .ok (.iconst 4, 1) := dk_7 (dk_at dksX1_init_3 23 rfl rfl)
theorem dX1_init_94 : decode cX1_init 94 = .ok (.newarray .int, 2) := dk_188_10 (dk_at dksX1_init_4 0 rfl rfl)
theorem dX1_init_96 : decode cX1_init 96 = .ok (.dup, 1) := dk_89 (dk_at dksX1_init_4 2 rfl rfl)
theorem dX1_init_97 : decode cX1_init 97 = .ok (.iconst 0, 1) := dk_3 (dk_at dksX1_init_4 3 rfl rfl)
theorem dX1_init_98 : decode cX1_init 98 = .ok (.iconst (-1), 1) := dk_2 (dk_at dksX1_init_4 4 rfl rfl)
theorem dX1_init_99 : decode cX1_init 99 = .ok (.iastore, 1) := dk_79 (dk_at dksX1_init_4 5 rfl rfl)
theorem dX1_init_100 : decode cX1_init 100 = .ok (.dup, 1) := dk_89 (dk_at dksX1_init_4 6 rfl rfl)
theorem dX1_init_101 : decode cX1_init 101 = .ok (.iconst 1, 1) := dk_4 (dk_at dksX1_init_4 7 rfl rfl)
theorem dX1_init_102 : decode cX1_init 102 = .ok (.iconst (-1), 1) := dk_2 (dk_at dksX1_init_4 8 rfl rfl)
theorem dX1_init_103 : decode cX1_init 103 = .ok (.iastore, 1) := dk_79 (dk_at dksX1_init_4 9 rfl rfl)
theorem dX1_init_104 : decode cX1_init 104 = .ok (.dup, 1) := dk_89 (dk_at dksX1_init_4 10 rfl rfl)
theorem dX1_init_105 : decode cX1_init 105 = .ok (.iconst 2, 1) := dk_5 (dk_at dksX1_init_4 11 rfl rfl)
theorem dX1_init_106 : decode cX1_init 106 = .ok (.iconst (-1), 1) := dk_2 (dk_at dksX1_init_4 12 rfl rfl)
theorem dX1_init_107 : decode cX1_init 107 = .ok (.iastore, 1) := dk_79 (dk_at dksX1_init_4 13 rfl rfl)
theorem dX1_init_108 : decode cX1_init 108 = .ok (.dup, 1) := dk_89 (dk_at dksX1_init_4 14 rfl rfl)
theorem dX1_init_109 : decode cX1_init 109 = .ok (.iconst 3, 1) := dk_6 (dk_at dksX1_init_4 15 rfl rfl)
theorem dX1_init_110 : decode cX1_init 110 = .ok (.iconst (-1), 1) := dk_2 (dk_at dksX1_init_4 16 rfl rfl)
theorem dX1_init_111 : decode cX1_init 111 = .ok (.iastore, 1) := dk_79 (dk_at dksX1_init_4 17 rfl rfl)
theorem dX1_init_112 : decode cX1_init 112 = .ok (.putfield 22, 3) := dk_181 0 22 (dk_at dksX1_init_4 18 rfl rfl)
theorem dX1_init_115 : decode cX1_init 115 = .ok (.aload_n 0, 1) := dk_42 (dk_at dksX1_init_4 21 rfl rfl)
theorem dX1_init_116 : decode cX1_init 116 = .ok (.bipush 10, 2) := dk_16 10 (dk_at dksX1_init_4 22 rfl rfl)
theorem dX1_init_118 : decode cX1_init 118 = .ok (.newarray .boolean, 2) := dk_188_4 (dk_at dksX1_init_5 0 rfl rfl)
theorem dX1_init_120 : decode cX1_init 120 = .ok (.putfield 25, 3) := dk_181 0 25 (dk_at dksX1_init_5 2 rfl rfl)
theorem dX1_init_123 : decode cX1_init 123 = .ok (.aload_n 0, 1) := dk_42 (dk_at dksX1_init_5 5 rfl rfl)
theorem dX1_init_124 : decode cX1_init 124 = .ok (.new 29, 3) := dk_187 0 29 (dk_at dksX1_init_5 6 rfl rfl)
theorem dX1_init_127 : decode cX1_init 127 = .ok (.dup, 1) := dk_89 (dk_at dksX1_init_5 9 rfl rfl)
theorem dX1_init_128 : decode cX1_init 128 = .ok (.invokespecial 31, 3) := dk_183 0 31 (dk_at dksX1_init_5 10 rfl rfl)
theorem dX1_init_131 : decode cX1_init 131 = .ok (.putfield 32, 3) := dk_181 0 32 (dk_at dksX1_init_5 13 rfl rfl)
theorem dX1_init_134 : decode cX1_init 134 = .ok (.aload_n 0, 1) := dk_42 (dk_at dksX1_init_5 16 rfl rfl)
theorem dX1_init_135 : decode cX1_init 135 = .ok (.new 36, 3) := dk_187 0 36 (dk_at dksX1_init_5 17 rfl rfl)
theorem dX1_init_138 : decode cX1_init 138 = .ok (.dup, 1) := dk_89 (dk_at dksX1_init_5 20 rfl rfl)
theorem dX1_init_139 : decode cX1_init 139 = .ok (.aload_n 0, 1) := dk_42 (dk_at dksX1_init_5 21 rfl rfl)
theorem dX1_init_140 : decode cX1_init 140 = .ok (.invokespecial 38, 3) := dk_183 0 38 (dk_at dksX1_init_6 0 rfl rfl)
theorem dX1_init_143 : decode cX1_init 143 = .ok (.putfield 41, 3) := dk_181 0 41 (dk_at dksX1_init_6 3 rfl rfl)
theorem dX1_init_146 : decode cX1_init 146 = .ok (.return_, 1) := dk_177 (dk_at dksX1_init_6 6 rfl rfl)
abbrev cX1_batches : ByteArray := prog_1_method_24_code
def yX1_batches : MethodName := ⟨RX1, "batches", "()I"⟩
theorem dX1_batches_0 : decode cX1_batches 0 = .ok (.aload_n 0, 1) := by decide +kernel
theorem dX1_batches_1 : decode cX1_batches 1 = .ok (.getfield 94, 3) := by decide +kernel
theorem dX1_batches_4 : decode cX1_batches 4 = .ok (.ireturn, 1) := by decide +kernel
abbrev cX1_loads : ByteArray := prog_1_method_25_code
def yX1_loads : MethodName := ⟨RX1, "loads", "()I"⟩
theorem dX1_loads_0 : decode cX1_loads 0 = .ok (.aload_n 0, 1) := by decide +kernel
theorem dX1_loads_1 : decode cX1_loads 1 = .ok (.getfield 73, 3) := by decide +kernel
theorem dX1_loads_4 : decode cX1_loads 4 = .ok (.ireturn, 1) := by decide +kernel
abbrev cX1_records : ByteArray := prog_1_method_26_code
def yX1_records : MethodName := ⟨RX1, "records", "()I"⟩
def dkwX1_records_0 : List UInt8 := [42, 180, 0, 41, 182, 0, 170, 172]
abbrev dktX1_records_0 : List UInt8 := dkwX1_records_0 ++ []
theorem dksX1_records_0 : cX1_records.data.toList.drop 0 = dktX1_records_0 := by decide +kernel
theorem dX1_records_0 : decode cX1_records 0 = .ok (.aload_n 0, 1) := dk_42 (dk_at dksX1_records_0 0 rfl rfl)
theorem dX1_records_1 : decode cX1_records 1 = .ok (.getfield 41, 3) := dk_180 0 41 (dk_at dksX1_records_0 1 rfl rfl)
theorem dX1_records_4 : decode cX1_records 4 = .ok (.invokevirtual 170, 3) := dk_182 0 170 (dk_at dksX1_records_0 4 rfl rfl)
theorem dX1_records_7 : decode cX1_records 7 = .ok (.ireturn, 1) := dk_172 (dk_at dksX1_records_0 7 rfl rfl)
abbrev cX1_isThere : ByteArray := prog_1_method_28_code
def yX1_isThere : MethodName := ⟨RX1, "isThere", "(I)Z"⟩
def dkwX1_isThere_0 : List UInt8 := [42, 180, 0, 41, 27, 182, 0, 54, 172]
abbrev dktX1_isThere_0 : List UInt8 := dkwX1_isThere_0 ++ []
theorem dksX1_isThere_0 : cX1_isThere.data.toList.drop 0 = dktX1_isThere_0 := by decide +kernel
theorem dX1_isThere_0 : decode cX1_isThere 0 = .ok (.aload_n 0, 1) := dk_42 (dk_at dksX1_isThere_0 0 rfl rfl)
theorem dX1_isThere_1 : decode cX1_isThere 1 = .ok (.getfield 41, 3) := dk_180 0 41 (dk_at dksX1_isThere_0 1 rfl rfl)
theorem dX1_isThere_4 : decode cX1_isThere 4 = .ok (.iload_n 1, 1) := dk_27 (dk_at dksX1_isThere_0 4 rfl rfl)
theorem dX1_isThere_5 : decode cX1_isThere 5 = .ok (.invokevirtual 54, 3) := dk_182 0 54 (dk_at dksX1_isThere_0 5 rfl rfl)
theorem dX1_isThere_8 : decode cX1_isThere 8 = .ok (.ireturn, 1) := dk_172 (dk_at dksX1_isThere_0 8 rfl rfl)
abbrev cX1_digest : ByteArray := prog_1_method_34_code
def yX1_digest : MethodName := ⟨RX1, "digest", "()I"⟩
def dkwX1_digest_0 : List UInt8 := [42, 180, 0, 41, 182, 0, 183, 172]
abbrev dktX1_digest_0 : List UInt8 := dkwX1_digest_0 ++ []
theorem dksX1_digest_0 : cX1_digest.data.toList.drop 0 = dktX1_digest_0 := by decide +kernel
theorem dX1_digest_0 : decode cX1_digest 0 = .ok (.aload_n 0, 1) := dk_42 (dk_at dksX1_digest_0 0 rfl rfl)
theorem dX1_digest_1 : decode cX1_digest 1 = .ok (.getfield 41, 3) := dk_180 0 41 (dk_at dksX1_digest_0 1 rfl rfl)
theorem dX1_digest_4 : decode cX1_digest 4 = .ok (.invokevirtual 183, 3) := dk_182 0 183 (dk_at dksX1_digest_0 4 rfl rfl)
theorem dX1_digest_7 : decode cX1_digest 7 = .ok (.ireturn, 1) := dk_172 (dk_at dksX1_digest_0 7 rfl rfl)
abbrev cX1_digestAnew : ByteArray := prog_1_method_35_code
def yX1_digestAnew : MethodName := ⟨RX1, "digestAnew", "()I"⟩
def dkwX1_digestAnew_0 : List UInt8 := [42, 182, 0, 166, 182, 0, 183, 172]
abbrev dktX1_digestAnew_0 : List UInt8 := dkwX1_digestAnew_0 ++ []
theorem dksX1_digestAnew_0 : cX1_digestAnew.data.toList.drop 0 = dktX1_digestAnew_0 := by decide +kernel
theorem dX1_digestAnew_0 : decode cX1_digestAnew 0 = .ok (.aload_n 0, 1) := dk_42 (dk_at dksX1_digestAnew_0 0 rfl rfl)
theorem dX1_digestAnew_1 : decode cX1_digestAnew 1 = .ok (.invokevirtual 166, 3) := dk_182 0 166 (dk_at dksX1_digestAnew_0 1 rfl rfl)
theorem dX1_digestAnew_4 : decode cX1_digestAnew 4 = .ok (.invokevirtual 183, 3) := dk_182 0 183 (dk_at dksX1_digestAnew_0 4 rfl rfl)
theorem dX1_digestAnew_7 : decode cX1_digestAnew 7 = .ok (.ireturn, 1) := dk_172 (dk_at dksX1_digestAnew_0 7 rfl rfl)
abbrev cX1_made : ByteArray := prog_1_method_22_code
def yX1_made : MethodName := ⟨RX1, "made", "()LCatalogueLoader$Catalogue;"⟩
def dkwX1_made_2 : List UInt8 := [176]
abbrev dktX1_made_2 : List UInt8 := dkwX1_made_2 ++ []
def dkwX1_made_1 : List UInt8 := [153, 0, 23, 44, 185, 0, 163, 1, 0, 192, 0, 89, 78, 45, 43, 185, 0, 88, 2, 0, 167, 255, 230, 43]
abbrev dktX1_made_1 : List UInt8 := dkwX1_made_1 ++ dktX1_made_2
def dkwX1_made_0 : List UInt8 := [187, 0, 36, 89, 42, 183, 0, 38, 76, 42, 180, 0, 32, 182, 0, 153, 77, 44, 185, 0, 157, 1, 0]
abbrev dktX1_made_0 : List UInt8 := dkwX1_made_0 ++ dktX1_made_1
theorem dksX1_made_0 : cX1_made.data.toList.drop 0 = dktX1_made_0 := by decide +kernel
theorem dksX1_made_1 : cX1_made.data.toList.drop 23 = dktX1_made_1 := dk_seg dksX1_made_0 23 rfl rfl
theorem dksX1_made_2 : cX1_made.data.toList.drop 47 = dktX1_made_2 := dk_seg dksX1_made_1 24 rfl rfl
theorem dX1_made_0 : decode cX1_made 0 = .ok (.new 36, 3) := dk_187 0 36 (dk_at dksX1_made_0 0 rfl rfl)
theorem dX1_made_3 : decode cX1_made 3 = .ok (.dup, 1) := dk_89 (dk_at dksX1_made_0 3 rfl rfl)
theorem dX1_made_4 : decode cX1_made 4 = .ok (.aload_n 0, 1) := dk_42 (dk_at dksX1_made_0 4 rfl rfl)
theorem dX1_made_5 : decode cX1_made 5 = .ok (.invokespecial 38, 3) := dk_183 0 38 (dk_at dksX1_made_0 5 rfl rfl)
theorem dX1_made_8 : decode cX1_made 8 = .ok (.astore_n 1, 1) := dk_76 (dk_at dksX1_made_0 8 rfl rfl)
theorem dX1_made_9 : decode cX1_made 9 = .ok (.aload_n 0, 1) := dk_42 (dk_at dksX1_made_0 9 rfl rfl)
theorem dX1_made_10 : decode cX1_made 10 = .ok (.getfield 32, 3) := dk_180 0 32 (dk_at dksX1_made_0 10 rfl rfl)
theorem dX1_made_13 : decode cX1_made 13 = .ok (.invokevirtual 153, 3) := dk_182 0 153 (dk_at dksX1_made_0 13 rfl rfl)
theorem dX1_made_16 : decode cX1_made 16 = .ok (.astore_n 2, 1) := dk_77 (dk_at dksX1_made_0 16 rfl rfl)
theorem dX1_made_17 : decode cX1_made 17 = .ok (.aload_n 2, 1) := dk_44 (dk_at dksX1_made_0 17 rfl rfl)
theorem dX1_made_18 : decode cX1_made 18 = .ok (.invokeinterface 157 1, 5) := by decide +kernel
theorem dX1_made_23 : decode cX1_made 23 = .ok (.ifCond .eq 23, 3) := dk_153 0 23 (dk_at dksX1_made_1 0 rfl rfl)
theorem dX1_made_26 : decode cX1_made 26 = .ok (.aload_n 2, 1) := dk_44 (dk_at dksX1_made_1 3 rfl rfl)
theorem dX1_made_27 : decode cX1_made 27 = .ok (.invokeinterface 163 1, 5) := by decide +kernel
theorem dX1_made_32 : decode cX1_made 32 = .ok (.checkcast 89, 3) := dk_192 0 89 (dk_at dksX1_made_1 9 rfl rfl)
theorem dX1_made_35 : decode cX1_made 35 = .ok (.astore_n 3, 1) := dk_78 (dk_at dksX1_made_1 12 rfl rfl)
theorem dX1_made_36 : decode cX1_made 36 = .ok (.aload_n 3, 1) := dk_45 (dk_at dksX1_made_1 13 rfl rfl)
theorem dX1_made_37 : decode cX1_made 37 = .ok (.aload_n 1, 1) := dk_43 (dk_at dksX1_made_1 14 rfl rfl)
theorem dX1_made_38 : decode cX1_made 38 = .ok (.invokeinterface 88 2, 5) := by decide +kernel
theorem dX1_made_43 : decode cX1_made 43 = .ok (.goto (-26), 3) := dk_167 255 230 (dk_at dksX1_made_1 20 rfl rfl)
theorem dX1_made_46 : decode cX1_made 46 = .ok (.aload_n 1, 1) := dk_43 (dk_at dksX1_made_1 23 rfl rfl)
theorem dX1_made_47 : decode cX1_made 47 = .ok (.areturn, 1) := dk_176 (dk_at dksX1_made_2 0 rfl rfl)
abbrev cX1_setRank : ByteArray := prog_1_method_9_code
def yX1_setRank : MethodName := ⟨RX1, "setRank", "(II)I"⟩
def dkwX1_setRank_2 : List UInt8 := [79, 29, 172]
abbrev dktX1_setRank_2 : List UInt8 := dkwX1_setRank_2 ++ []
def dkwX1_setRank_1 : List UInt8 := [154, 0, 7, 4, 167, 0, 4, 3, 184, 0, 77, 42, 180, 0, 7, 27, 46, 62, 42, 180, 0, 7, 27, 28]
abbrev dktX1_setRank_1 : List UInt8 := dkwX1_setRank_1 ++ dktX1_setRank_2
def dkwX1_setRank_0 : List UInt8 := [27, 3, 7, 184, 0, 66, 184, 0, 58, 28, 3, 16, 9, 184, 0, 66, 184, 0, 70, 42, 180, 0, 73]
abbrev dktX1_setRank_0 : List UInt8 := dkwX1_setRank_0 ++ dktX1_setRank_1
theorem dksX1_setRank_0 : cX1_setRank.data.toList.drop 0 = dktX1_setRank_0 := by decide +kernel
theorem dksX1_setRank_1 : cX1_setRank.data.toList.drop 23 = dktX1_setRank_1 := dk_seg dksX1_setRank_0 23 rfl rfl
theorem dksX1_setRank_2 : cX1_setRank.data.toList.drop 47 = dktX1_setRank_2 := dk_seg dksX1_setRank_1 24 rfl rfl
theorem dX1_setRank_0 : decode cX1_setRank 0 = .ok (.iload_n 1, 1) := dk_27 (dk_at dksX1_setRank_0 0 rfl rfl)
theorem dX1_setRank_1 : decode cX1_setRank 1 = .ok (.iconst 0, 1) := dk_3 (dk_at dksX1_setRank_0 1 rfl rfl)
theorem dX1_setRank_2 : decode cX1_setRank 2 = .ok (.iconst 4, 1) := dk_7 (dk_at dksX1_setRank_0 2 rfl rfl)
theorem dX1_setRank_3 : decode cX1_setRank 3 = .ok (.invokestatic 66, 3) := dk_184 0 66 (dk_at dksX1_setRank_0 3 rfl rfl)
theorem dX1_setRank_6 : decode cX1_setRank 6 = .ok (.invokestatic 58, 3) := dk_184 0 58 (dk_at dksX1_setRank_0 6 rfl rfl)
theorem dX1_setRank_9 : decode cX1_setRank 9 = .ok (.iload_n 2, 1) := dk_28 (dk_at dksX1_setRank_0 9 rfl rfl)
theorem dX1_setRank_10 : decode cX1_setRank 10 = .ok (.iconst 0, 1) := dk_3 (dk_at dksX1_setRank_0 10 rfl rfl)
theorem dX1_setRank_11 : decode cX1_setRank 11 = .ok (.bipush 9, 2) := dk_16 9 (dk_at dksX1_setRank_0 11 rfl rfl)
theorem dX1_setRank_13 : decode cX1_setRank 13 = .ok (.invokestatic 66, 3) := dk_184 0 66 (dk_at dksX1_setRank_0 13 rfl rfl)
theorem dX1_setRank_16 : decode cX1_setRank 16 = .ok (.invokestatic 70, 3) := dk_184 0 70 (dk_at dksX1_setRank_0 16 rfl rfl)
theorem dX1_setRank_19 : decode cX1_setRank 19 = .ok (.aload_n 0, 1) := dk_42 (dk_at dksX1_setRank_0 19 rfl rfl)
theorem dX1_setRank_20 : decode cX1_setRank 20 = .ok (.getfield 73, 3) := dk_180 0 73 (dk_at dksX1_setRank_0 20 rfl rfl)
theorem dX1_setRank_23 : decode cX1_setRank 23 = .ok (.ifCond .ne 7, 3) := dk_154 0 7 (dk_at dksX1_setRank_1 0 rfl rfl)
theorem dX1_setRank_26 : decode cX1_setRank 26 = .ok (.iconst 1, 1) := dk_4 (dk_at dksX1_setRank_1 3 rfl rfl)
theorem dX1_setRank_27 : decode cX1_setRank 27 = .ok (.goto 4, 3) := dk_167 0 4 (dk_at dksX1_setRank_1 4 rfl rfl)
theorem dX1_setRank_30 : decode cX1_setRank 30 = .ok (.iconst 0, 1) := dk_3 (dk_at dksX1_setRank_1 7 rfl rfl)
theorem dX1_setRank_31 : decode cX1_setRank 31 = .ok (.invokestatic 77, 3) := dk_184 0 77 (dk_at dksX1_setRank_1 8 rfl rfl)
theorem dX1_setRank_34 : decode cX1_setRank 34 = .ok (.aload_n 0, 1) := dk_42 (dk_at dksX1_setRank_1 11 rfl rfl)
theorem dX1_setRank_35 : decode cX1_setRank 35 = .ok (.getfield 7, 3) := dk_180 0 7 (dk_at dksX1_setRank_1 12 rfl rfl)
theorem dX1_setRank_38 : decode cX1_setRank 38 = .ok (.iload_n 1, 1) := dk_27 (dk_at dksX1_setRank_1 15 rfl rfl)
theorem dX1_setRank_39 : decode cX1_setRank 39 = .ok (.iaload, 1) := dk_46 (dk_at dksX1_setRank_1 16 rfl rfl)
theorem dX1_setRank_40 : decode cX1_setRank 40 = .ok (.istore_n 3, 1) := dk_62 (dk_at dksX1_setRank_1 17 rfl rfl)
theorem dX1_setRank_41 : decode cX1_setRank 41 = .ok (.aload_n 0, 1) := dk_42 (dk_at dksX1_setRank_1 18 rfl rfl)
theorem dX1_setRank_42 : decode cX1_setRank 42 = .ok (.getfield 7, 3) := dk_180 0 7 (dk_at dksX1_setRank_1 19 rfl rfl)
theorem dX1_setRank_45 : decode cX1_setRank 45 = .ok (.iload_n 1, 1) := dk_27 (dk_at dksX1_setRank_1 22 rfl rfl)
theorem dX1_setRank_46 : decode cX1_setRank 46 = .ok (.iload_n 2, 1) := dk_28 (dk_at dksX1_setRank_1 23 rfl rfl)
theorem dX1_setRank_47 : decode cX1_setRank 47 = .ok (.iastore, 1) := dk_79 (dk_at dksX1_setRank_2 0 rfl rfl)
theorem dX1_setRank_48 : decode cX1_setRank 48 = .ok (.iload_n 3, 1) := dk_29 (dk_at dksX1_setRank_2 1 rfl rfl)
theorem dX1_setRank_49 : decode cX1_setRank 49 = .ok (.ireturn, 1) := dk_172 (dk_at dksX1_setRank_2 2 rfl rfl)
abbrev cX1_in : ByteArray := prog_1_method_2_code
def yX1_in : MethodName := ⟨RX1, "in", "(III)Z"⟩
def dkwX1_in_0 : List UInt8 := [26, 27, 161, 0, 12, 26, 28, 163, 0, 7, 4, 167, 0, 4, 3, 172]
abbrev dktX1_in_0 : List UInt8 := dkwX1_in_0 ++ []
theorem dksX1_in_0 : cX1_in.data.toList.drop 0 = dktX1_in_0 := by decide +kernel
theorem dX1_in_0 : decode cX1_in 0 = .ok (.iload_n 0, 1) := dk_26 (dk_at dksX1_in_0 0 rfl rfl)
theorem dX1_in_1 : decode cX1_in 1 = .ok (.iload_n 1, 1) := dk_27 (dk_at dksX1_in_0 1 rfl rfl)
theorem dX1_in_2 : decode cX1_in 2 = .ok (.if_icmp .lt 12, 3) := dk_161 0 12 (dk_at dksX1_in_0 2 rfl rfl)
theorem dX1_in_5 : decode cX1_in 5 = .ok (.iload_n 0, 1) := dk_26 (dk_at dksX1_in_0 5 rfl rfl)
theorem dX1_in_6 : decode cX1_in 6 = .ok (.iload_n 2, 1) := dk_28 (dk_at dksX1_in_0 6 rfl rfl)
theorem dX1_in_7 : decode cX1_in 7 = .ok (.if_icmp .gt 7, 3) := dk_163 0 7 (dk_at dksX1_in_0 7 rfl rfl)
theorem dX1_in_10 : decode cX1_in 10 = .ok (.iconst 1, 1) := dk_4 (dk_at dksX1_in_0 10 rfl rfl)
theorem dX1_in_11 : decode cX1_in 11 = .ok (.goto 4, 3) := dk_167 0 4 (dk_at dksX1_in_0 11 rfl rfl)
theorem dX1_in_14 : decode cX1_in 14 = .ok (.iconst 0, 1) := dk_3 (dk_at dksX1_in_0 14 rfl rfl)
theorem dX1_in_15 : decode cX1_in 15 = .ok (.ireturn, 1) := dk_172 (dk_at dksX1_in_0 15 rfl rfl)
abbrev cX1_needIndex : ByteArray := prog_1_method_3_code
def yX1_needIndex : MethodName := ⟨RX1, "needIndex", "(Z)V"⟩
def dkwX1_needIndex_0 : List UInt8 := [26, 154, 0, 11, 187, 0, 45, 89, 183, 0, 47, 191, 177]
abbrev dktX1_needIndex_0 : List UInt8 := dkwX1_needIndex_0 ++ []
theorem dksX1_needIndex_0 : cX1_needIndex.data.toList.drop 0 = dktX1_needIndex_0 := by decide +kernel
theorem dX1_needIndex_0 : decode cX1_needIndex 0 = .ok (.iload_n 0, 1) := dk_26 (dk_at dksX1_needIndex_0 0 rfl rfl)
theorem dX1_needIndex_1 : decode cX1_needIndex 1 = .ok (.ifCond .ne 11, 3) := dk_154 0 11 (dk_at dksX1_needIndex_0 1 rfl rfl)
theorem dX1_needIndex_4 : decode cX1_needIndex 4 = .ok (.new 45, 3) := dk_187 0 45 (dk_at dksX1_needIndex_0 4 rfl rfl)
theorem dX1_needIndex_7 : decode cX1_needIndex 7 = .ok (.dup, 1) := dk_89 (dk_at dksX1_needIndex_0 7 rfl rfl)
theorem dX1_needIndex_8 : decode cX1_needIndex 8 = .ok (.invokespecial 47, 3) := dk_183 0 47 (dk_at dksX1_needIndex_0 8 rfl rfl)
theorem dX1_needIndex_11 : decode cX1_needIndex 11 = .ok (.athrow, 1) := dk_191 (dk_at dksX1_needIndex_0 11 rfl rfl)
theorem dX1_needIndex_12 : decode cX1_needIndex 12 = .ok (.return_, 1) := dk_177 (dk_at dksX1_needIndex_0 12 rfl rfl)
abbrev cX1_need : ByteArray := prog_1_method_4_code
def yX1_need : MethodName := ⟨RX1, "need", "(Z)V"⟩
def dkwX1_need_0 : List UInt8 := [26, 154, 0, 11, 187, 0, 48, 89, 183, 0, 50, 191, 177]
abbrev dktX1_need_0 : List UInt8 := dkwX1_need_0 ++ []
theorem dksX1_need_0 : cX1_need.data.toList.drop 0 = dktX1_need_0 := by decide +kernel
theorem dX1_need_0 : decode cX1_need 0 = .ok (.iload_n 0, 1) := dk_26 (dk_at dksX1_need_0 0 rfl rfl)
theorem dX1_need_1 : decode cX1_need 1 = .ok (.ifCond .ne 11, 3) := dk_154 0 11 (dk_at dksX1_need_0 1 rfl rfl)
theorem dX1_need_4 : decode cX1_need 4 = .ok (.new 48, 3) := dk_187 0 48 (dk_at dksX1_need_0 4 rfl rfl)
theorem dX1_need_7 : decode cX1_need 7 = .ok (.dup, 1) := dk_89 (dk_at dksX1_need_0 7 rfl rfl)
theorem dX1_need_8 : decode cX1_need 8 = .ok (.invokespecial 50, 3) := dk_183 0 50 (dk_at dksX1_need_0 8 rfl rfl)
theorem dX1_need_11 : decode cX1_need 11 = .ok (.athrow, 1) := dk_191 (dk_at dksX1_need_0 11 rfl rfl)
theorem dX1_need_12 : decode cX1_need 12 = .ok (.return_, 1) := dk_177 (dk_at dksX1_need_0 12 rfl rfl)
abbrev cX1_needState : ByteArray := prog_1_method_5_code
def yX1_needState : MethodName := ⟨RX1, "needState", "(Z)V"⟩
def dkwX1_needState_0 : List UInt8 := [26, 154, 0, 11, 187, 0, 51, 89, 183, 0, 53, 191, 177]
abbrev dktX1_needState_0 : List UInt8 := dkwX1_needState_0 ++ []
theorem dksX1_needState_0 : cX1_needState.data.toList.drop 0 = dktX1_needState_0 := by decide +kernel
theorem dX1_needState_0 : decode cX1_needState 0 = .ok (.iload_n 0, 1) := dk_26 (dk_at dksX1_needState_0 0 rfl rfl)
theorem dX1_needState_1 : decode cX1_needState 1 = .ok (.ifCond .ne 11, 3) := dk_154 0 11 (dk_at dksX1_needState_0 1 rfl rfl)
theorem dX1_needState_4 : decode cX1_needState 4 = .ok (.new 51, 3) := dk_187 0 51 (dk_at dksX1_needState_0 4 rfl rfl)
theorem dX1_needState_7 : decode cX1_needState 7 = .ok (.dup, 1) := dk_89 (dk_at dksX1_needState_0 7 rfl rfl)
theorem dX1_needState_8 : decode cX1_needState 8 = .ok (.invokespecial 53, 3) := dk_183 0 53 (dk_at dksX1_needState_0 8 rfl rfl)
theorem dX1_needState_11 : decode cX1_needState 11 = .ok (.athrow, 1) := dk_191 (dk_at dksX1_needState_0 11 rfl rfl)
theorem dX1_needState_12 : decode cX1_needState 12 = .ok (.return_, 1) := dk_177 (dk_at dksX1_needState_0 12 rfl rfl)
abbrev cX1_setRule : ByteArray := prog_1_method_10_code
def yX1_setRule : MethodName := ⟨RX1, "setRule", "(II)I"⟩
def dkwX1_setRule_1 : List UInt8 := [3, 184, 0, 77, 42, 180, 0, 13, 27, 46, 62, 42, 180, 0, 13, 27, 28, 79, 29, 172]
abbrev dktX1_setRule_1 : List UInt8 := dkwX1_setRule_1 ++ []
def dkwX1_setRule_0 : List UInt8 := [27, 184, 0, 80, 28, 3, 5, 184, 0, 66, 184, 0, 70, 42, 180, 0, 73, 154, 0, 7, 4, 167, 0, 4]
abbrev dktX1_setRule_0 : List UInt8 := dkwX1_setRule_0 ++ dktX1_setRule_1
theorem dksX1_setRule_0 : cX1_setRule.data.toList.drop 0 = dktX1_setRule_0 := by decide +kernel
theorem dksX1_setRule_1 : cX1_setRule.data.toList.drop 24 = dktX1_setRule_1 := dk_seg dksX1_setRule_0 24 rfl rfl
theorem dX1_setRule_0 : decode cX1_setRule 0 = .ok (.iload_n 1, 1) := dk_27 (dk_at dksX1_setRule_0 0 rfl rfl)
theorem dX1_setRule_1 : decode cX1_setRule 1 = .ok (.invokestatic 80, 3) := dk_184 0 80 (dk_at dksX1_setRule_0 1 rfl rfl)
theorem dX1_setRule_4 : decode cX1_setRule 4 = .ok (.iload_n 2, 1) := dk_28 (dk_at dksX1_setRule_0 4 rfl rfl)
theorem dX1_setRule_5 : decode cX1_setRule 5 = .ok (.iconst 0, 1) := dk_3 (dk_at dksX1_setRule_0 5 rfl rfl)
theorem dX1_setRule_6 : decode cX1_setRule 6 = .ok (.iconst 2, 1) := dk_5 (dk_at dksX1_setRule_0 6 rfl rfl)
theorem dX1_setRule_7 : decode cX1_setRule 7 = .ok (.invokestatic 66, 3) := dk_184 0 66 (dk_at dksX1_setRule_0 7 rfl rfl)
theorem dX1_setRule_10 : decode cX1_setRule 10 = .ok (.invokestatic 70, 3) := dk_184 0 70 (dk_at dksX1_setRule_0 10 rfl rfl)
theorem dX1_setRule_13 : decode cX1_setRule 13 = .ok (.aload_n 0, 1) := dk_42 (dk_at dksX1_setRule_0 13 rfl rfl)
theorem dX1_setRule_14 : decode cX1_setRule 14 = .ok (.getfield 73, 3) := dk_180 0 73 (dk_at dksX1_setRule_0 14 rfl rfl)
theorem dX1_setRule_17 : decode cX1_setRule 17 = .ok (.ifCond .ne 7, 3) := dk_154 0 7 (dk_at dksX1_setRule_0 17 rfl rfl)
theorem dX1_setRule_20 : decode cX1_setRule 20 = .ok (.iconst 1, 1) := dk_4 (dk_at dksX1_setRule_0 20 rfl rfl)
theorem dX1_setRule_21 : decode cX1_setRule 21 = .ok (.goto 4, 3) := dk_167 0 4 (dk_at dksX1_setRule_0 21 rfl rfl)
theorem dX1_setRule_24 : decode cX1_setRule 24 = .ok (.iconst 0, 1) := dk_3 (dk_at dksX1_setRule_1 0 rfl rfl)
theorem dX1_setRule_25 : decode cX1_setRule 25 = .ok (.invokestatic 77, 3) := dk_184 0 77 (dk_at dksX1_setRule_1 1 rfl rfl)
theorem dX1_setRule_28 : decode cX1_setRule 28 = .ok (.aload_n 0, 1) := dk_42 (dk_at dksX1_setRule_1 4 rfl rfl)
theorem dX1_setRule_29 : decode cX1_setRule 29 = .ok (.getfield 13, 3) := dk_180 0 13 (dk_at dksX1_setRule_1 5 rfl rfl)
theorem dX1_setRule_32 : decode cX1_setRule 32 = .ok (.iload_n 1, 1) := dk_27 (dk_at dksX1_setRule_1 8 rfl rfl)
theorem dX1_setRule_33 : decode cX1_setRule 33 = .ok (.iaload, 1) := dk_46 (dk_at dksX1_setRule_1 9 rfl rfl)
theorem dX1_setRule_34 : decode cX1_setRule 34 = .ok (.istore_n 3, 1) := dk_62 (dk_at dksX1_setRule_1 10 rfl rfl)
theorem dX1_setRule_35 : decode cX1_setRule 35 = .ok (.aload_n 0, 1) := dk_42 (dk_at dksX1_setRule_1 11 rfl rfl)
theorem dX1_setRule_36 : decode cX1_setRule 36 = .ok (.getfield 13, 3) := dk_180 0 13 (dk_at dksX1_setRule_1 12 rfl rfl)
theorem dX1_setRule_39 : decode cX1_setRule 39 = .ok (.iload_n 1, 1) := dk_27 (dk_at dksX1_setRule_1 15 rfl rfl)
theorem dX1_setRule_40 : decode cX1_setRule 40 = .ok (.iload_n 2, 1) := dk_28 (dk_at dksX1_setRule_1 16 rfl rfl)
theorem dX1_setRule_41 : decode cX1_setRule 41 = .ok (.iastore, 1) := dk_79 (dk_at dksX1_setRule_1 17 rfl rfl)
theorem dX1_setRule_42 : decode cX1_setRule 42 = .ok (.iload_n 3, 1) := dk_29 (dk_at dksX1_setRule_1 18 rfl rfl)
theorem dX1_setRule_43 : decode cX1_setRule 43 = .ok (.ireturn, 1) := dk_172 (dk_at dksX1_setRule_1 19 rfl rfl)
abbrev cX1_needField : ByteArray := prog_1_method_8_code
def yX1_needField : MethodName := ⟨RX1, "needField", "(I)V"⟩
def dkwX1_needField_0 : List UInt8 := [26, 3, 6, 184, 0, 66, 184, 0, 58, 177]
abbrev dktX1_needField_0 : List UInt8 := dkwX1_needField_0 ++ []
theorem dksX1_needField_0 : cX1_needField.data.toList.drop 0 = dktX1_needField_0 := by decide +kernel
theorem dX1_needField_0 : decode cX1_needField 0 = .ok (.iload_n 0, 1) := dk_26 (dk_at dksX1_needField_0 0 rfl rfl)
theorem dX1_needField_1 : decode cX1_needField 1 = .ok (.iconst 0, 1) := dk_3 (dk_at dksX1_needField_0 1 rfl rfl)
theorem dX1_needField_2 : decode cX1_needField 2 = .ok (.iconst 3, 1) := dk_6 (dk_at dksX1_needField_0 2 rfl rfl)
theorem dX1_needField_3 : decode cX1_needField 3 = .ok (.invokestatic 66, 3) := dk_184 0 66 (dk_at dksX1_needField_0 3 rfl rfl)
theorem dX1_needField_6 : decode cX1_needField 6 = .ok (.invokestatic 58, 3) := dk_184 0 58 (dk_at dksX1_needField_0 6 rfl rfl)
theorem dX1_needField_9 : decode cX1_needField 9 = .ok (.return_, 1) := dk_177 (dk_at dksX1_needField_0 9 rfl rfl)
abbrev cX1_setOrder : ByteArray := prog_1_method_11_code
def yX1_setOrder : MethodName := ⟨RX1, "setOrder", "(III)V"⟩
def dkwX1_setOrder_4 : List UInt8 := [180, 0, 16, 5, 29, 79, 177]
abbrev dktX1_setOrder_4 : List UInt8 := dkwX1_setOrder_4 ++ []
def dkwX1_setOrder_3 : List UInt8 := [167, 0, 4, 3, 184, 0, 77, 42, 180, 0, 16, 3, 27, 79, 42, 180, 0, 16, 4, 28, 79, 42]
abbrev dktX1_setOrder_3 : List UInt8 := dkwX1_setOrder_3 ++ dktX1_setOrder_4
def dkwX1_setOrder_2 : List UInt8 := [159, 0, 12, 28, 29, 159, 0, 7, 4, 167, 0, 4, 3, 184, 0, 70, 42, 180, 0, 73, 154, 0, 7, 4]
abbrev dktX1_setOrder_2 : List UInt8 := dkwX1_setOrder_2 ++ dktX1_setOrder_3
def dkwX1_setOrder_1 : List UInt8 := [153, 0, 7, 4, 167, 0, 4, 3, 54, 4, 21, 4, 153, 0, 22, 27, 28, 159, 0, 17, 27, 29]
abbrev dktX1_setOrder_1 : List UInt8 := dkwX1_setOrder_1 ++ dktX1_setOrder_2
def dkwX1_setOrder_0 : List UInt8 := [27, 3, 5, 184, 0, 66, 153, 0, 25, 28, 3, 5, 184, 0, 66, 153, 0, 16, 29, 3, 5, 184, 0, 66]
abbrev dktX1_setOrder_0 : List UInt8 := dkwX1_setOrder_0 ++ dktX1_setOrder_1
theorem dksX1_setOrder_0 : cX1_setOrder.data.toList.drop 0 = dktX1_setOrder_0 := by decide +kernel
theorem dksX1_setOrder_1 : cX1_setOrder.data.toList.drop 24 = dktX1_setOrder_1 := dk_seg dksX1_setOrder_0 24 rfl rfl
theorem dksX1_setOrder_2 : cX1_setOrder.data.toList.drop 46 = dktX1_setOrder_2 := dk_seg dksX1_setOrder_1 22 rfl rfl
theorem dksX1_setOrder_3 : cX1_setOrder.data.toList.drop 70 = dktX1_setOrder_3 := dk_seg dksX1_setOrder_2 24 rfl rfl
theorem dksX1_setOrder_4 : cX1_setOrder.data.toList.drop 92 = dktX1_setOrder_4 := dk_seg dksX1_setOrder_3 22 rfl rfl
theorem dX1_setOrder_0 : decode cX1_setOrder 0 = .ok (.iload_n 1, 1) := dk_27 (dk_at dksX1_setOrder_0 0 rfl rfl)
theorem dX1_setOrder_1 : decode cX1_setOrder 1 = .ok (.iconst 0, 1) := dk_3 (dk_at dksX1_setOrder_0 1 rfl rfl)
theorem dX1_setOrder_2 : decode cX1_setOrder 2 = .ok (.iconst 2, 1) := dk_5 (dk_at dksX1_setOrder_0 2 rfl rfl)
theorem dX1_setOrder_3 : decode cX1_setOrder 3 = .ok (.invokestatic 66, 3) := dk_184 0 66 (dk_at dksX1_setOrder_0 3 rfl rfl)
theorem dX1_setOrder_6 : decode cX1_setOrder 6 = .ok (.ifCond .eq 25, 3) := dk_153 0 25 (dk_at dksX1_setOrder_0 6 rfl rfl)
theorem dX1_setOrder_9 : decode cX1_setOrder 9 = .ok (.iload_n 2, 1) := dk_28 (dk_at dksX1_setOrder_0 9 rfl rfl)
theorem dX1_setOrder_10 : decode cX1_setOrder 10 = .ok (.iconst 0, 1) := dk_3 (dk_at dksX1_setOrder_0 10 rfl rfl)
theorem dX1_setOrder_11 : decode cX1_setOrder 11 = .ok (.iconst 2, 1) := dk_5 (dk_at dksX1_setOrder_0 11 rfl rfl)
theorem dX1_setOrder_12 : decode cX1_setOrder 12 = .ok (.invokestatic 66, 3) := dk_184 0 66 (dk_at dksX1_setOrder_0 12 rfl rfl)
theorem dX1_setOrder_15 : decode cX1_setOrder 15 = .ok (.ifCond .eq 16, 3) := dk_153 0 16 (dk_at dksX1_setOrder_0 15 rfl rfl)
theorem dX1_setOrder_18 : decode cX1_setOrder 18 = .ok (.iload_n 3, 1) := dk_29 (dk_at dksX1_setOrder_0 18 rfl rfl)
theorem dX1_setOrder_19 : decode cX1_setOrder 19 = .ok (.iconst 0, 1) := dk_3 (dk_at dksX1_setOrder_0 19 rfl rfl)
theorem dX1_setOrder_20 : decode cX1_setOrder 20 = .ok (.iconst 2, 1) := dk_5 (dk_at dksX1_setOrder_0 20 rfl rfl)
theorem dX1_setOrder_21 : decode cX1_setOrder 21 = .ok (.invokestatic 66, 3) := dk_184 0 66 (dk_at dksX1_setOrder_0 21 rfl rfl)
theorem dX1_setOrder_24 : decode cX1_setOrder 24 = .ok (.ifCond .eq 7, 3) := dk_153 0 7 (dk_at dksX1_setOrder_1 0 rfl rfl)
theorem dX1_setOrder_27 : decode cX1_setOrder 27 = .ok (.iconst 1, 1) := dk_4 (dk_at dksX1_setOrder_1 3 rfl rfl)
theorem dX1_setOrder_28 : decode cX1_setOrder 28 = .ok (.goto 4, 3) := dk_167 0 4 (dk_at dksX1_setOrder_1 4 rfl rfl)
theorem dX1_setOrder_31 : decode cX1_setOrder 31 = .ok (.iconst 0, 1) := dk_3 (dk_at dksX1_setOrder_1 7 rfl rfl)
theorem dX1_setOrder_32 : decode cX1_setOrder 32 = .ok (.istore 4, 2) := dk_54 4 (dk_at dksX1_setOrder_1 8 rfl rfl)
theorem dX1_setOrder_34 : decode cX1_setOrder 34 = .ok (.iload 4, 2) := dk_21 4 (dk_at dksX1_setOrder_1 10 rfl rfl)
theorem dX1_setOrder_36 : decode cX1_setOrder 36 = .ok (.ifCond .eq 22, 3) := dk_153 0 22 (dk_at dksX1_setOrder_1 12 rfl rfl)
theorem dX1_setOrder_39 : decode cX1_setOrder 39 = .ok (.iload_n 1, 1) := dk_27 (dk_at dksX1_setOrder_1 15 rfl rfl)
theorem dX1_setOrder_40 : decode cX1_setOrder 40 = .ok (.iload_n 2, 1) := dk_28 (dk_at dksX1_setOrder_1 16 rfl rfl)
theorem dX1_setOrder_41 : decode cX1_setOrder 41 = .ok (.if_icmp .eq 17, 3) := dk_159 0 17 (dk_at dksX1_setOrder_1 17 rfl rfl)
theorem dX1_setOrder_44 : decode cX1_setOrder 44 = .ok (.iload_n 1, 1) := dk_27 (dk_at dksX1_setOrder_1 20 rfl rfl)
theorem dX1_setOrder_45 : decode cX1_setOrder 45 = .ok (.iload_n 3, 1) := dk_29 (dk_at dksX1_setOrder_1 21 rfl rfl)
theorem dX1_setOrder_46 : decode cX1_setOrder 46 = .ok (.if_icmp .eq 12, 3) := dk_159 0 12 (dk_at dksX1_setOrder_2 0 rfl rfl)
theorem dX1_setOrder_49 : decode cX1_setOrder 49 = .ok (.iload_n 2, 1) := dk_28 (dk_at dksX1_setOrder_2 3 rfl rfl)
theorem dX1_setOrder_50 : decode cX1_setOrder 50 = .ok (.iload_n 3, 1) := dk_29 (dk_at dksX1_setOrder_2 4 rfl rfl)
theorem dX1_setOrder_51 : decode cX1_setOrder 51 = .ok (.if_icmp .eq 7, 3) := dk_159 0 7 (dk_at dksX1_setOrder_2 5 rfl rfl)
theorem dX1_setOrder_54 : decode cX1_setOrder 54 = .ok (.iconst 1, 1) := dk_4 (dk_at dksX1_setOrder_2 8 rfl rfl)
theorem dX1_setOrder_55 : decode cX1_setOrder 55 = .ok (.goto 4, 3) := dk_167 0 4 (dk_at dksX1_setOrder_2 9 rfl rfl)
theorem dX1_setOrder_58 : decode cX1_setOrder 58 = .ok (.iconst 0, 1) := dk_3 (dk_at dksX1_setOrder_2 12 rfl rfl)
theorem dX1_setOrder_59 : decode cX1_setOrder 59 = .ok (.invokestatic 70, 3) := dk_184 0 70 (dk_at dksX1_setOrder_2 13 rfl rfl)
theorem dX1_setOrder_62 : decode cX1_setOrder 62 = .ok (.aload_n 0, 1) := dk_42 (dk_at dksX1_setOrder_2 16 rfl rfl)
theorem dX1_setOrder_63 : decode cX1_setOrder 63 = .ok (.getfield 73, 3) := dk_180 0 73 (dk_at dksX1_setOrder_2 17 rfl rfl)
theorem dX1_setOrder_66 : decode cX1_setOrder 66 = .ok (.ifCond .ne 7, 3) := dk_154 0 7 (dk_at dksX1_setOrder_2 20 rfl rfl)
theorem dX1_setOrder_69 : decode cX1_setOrder 69 = .ok (.iconst 1, 1) := dk_4 (dk_at dksX1_setOrder_2 23 rfl rfl)
theorem dX1_setOrder_70 : decode cX1_setOrder 70 = .ok (.goto 4, 3) := dk_167 0 4 (dk_at dksX1_setOrder_3 0 rfl rfl)
theorem dX1_setOrder_73 : decode cX1_setOrder 73 = .ok (.iconst 0, 1) := dk_3 (dk_at dksX1_setOrder_3 3 rfl rfl)
theorem dX1_setOrder_74 : decode cX1_setOrder 74 = .ok (.invokestatic 77, 3) := dk_184 0 77 (dk_at dksX1_setOrder_3 4 rfl rfl)
theorem dX1_setOrder_77 : decode cX1_setOrder 77 = .ok (.aload_n 0, 1) := dk_42 (dk_at dksX1_setOrder_3 7 rfl rfl)
theorem dX1_setOrder_78 : decode cX1_setOrder 78 = .ok (.getfield 16, 3) := dk_180 0 16 (dk_at dksX1_setOrder_3 8 rfl rfl)
theorem dX1_setOrder_81 : decode cX1_setOrder 81 = .ok (.iconst 0, 1) := dk_3 (dk_at dksX1_setOrder_3 11 rfl rfl)
theorem dX1_setOrder_82 : decode cX1_setOrder 82 = .ok (.iload_n 1, 1) := dk_27 (dk_at dksX1_setOrder_3 12 rfl rfl)
theorem dX1_setOrder_83 : decode cX1_setOrder 83 = .ok (.iastore, 1) := dk_79 (dk_at dksX1_setOrder_3 13 rfl rfl)
theorem dX1_setOrder_84 : decode cX1_setOrder 84 = .ok (.aload_n 0, 1) := dk_42 (dk_at dksX1_setOrder_3 14 rfl rfl)
theorem dX1_setOrder_85 : decode cX1_setOrder 85 = .ok (.getfield 16, 3) := dk_180 0 16 (dk_at dksX1_setOrder_3 15 rfl rfl)
theorem dX1_setOrder_88 : decode cX1_setOrder 88 = .ok (.iconst 1, 1) := dk_4 (dk_at dksX1_setOrder_3 18 rfl rfl)
theorem dX1_setOrder_89 : decode cX1_setOrder 89 = .ok (.iload_n 2, 1) := dk_28 (dk_at dksX1_setOrder_3 19 rfl rfl)
theorem dX1_setOrder_90 : decode cX1_setOrder 90 = .ok (.iastore, 1) := dk_79 (dk_at dksX1_setOrder_3 20 rfl rfl)
theorem dX1_setOrder_91 : decode cX1_setOrder 91 = .ok (.aload_n 0, 1) := dk_42 (dk_at dksX1_setOrder_3 21 rfl rfl)
theorem dX1_setOrder_92 : decode cX1_setOrder 92 = .ok (.getfield 16, 3) := dk_180 0 16 (dk_at dksX1_setOrder_4 0 rfl rfl)
theorem dX1_setOrder_95 : decode cX1_setOrder 95 = .ok (.iconst 2, 1) := dk_5 (dk_at dksX1_setOrder_4 3 rfl rfl)
theorem dX1_setOrder_96 : decode cX1_setOrder 96 = .ok (.iload_n 3, 1) := dk_29 (dk_at dksX1_setOrder_4 4 rfl rfl)
theorem dX1_setOrder_97 : decode cX1_setOrder 97 = .ok (.iastore, 1) := dk_79 (dk_at dksX1_setOrder_4 5 rfl rfl)
theorem dX1_setOrder_98 : decode cX1_setOrder 98 = .ok (.return_, 1) := dk_177 (dk_at dksX1_setOrder_4 6 rfl rfl)
abbrev cX1_beginBatch : ByteArray := prog_1_method_13_code
def yX1_beginBatch : MethodName := ⟨RX1, "beginBatch", "()I"⟩
def dkwX1_beginBatch_1 : List UInt8 := [181, 0, 94, 42, 180, 0, 94, 4, 100, 172]
abbrev dktX1_beginBatch_1 : List UInt8 := dkwX1_beginBatch_1 ++ []
def dkwX1_beginBatch_0 : List UInt8 := [42, 180, 0, 94, 16, 10, 162, 0, 7, 4, 167, 0, 4, 3, 184, 0, 77, 42, 89, 180, 0, 94, 4, 96]
abbrev dktX1_beginBatch_0 : List UInt8 := dkwX1_beginBatch_0 ++ dktX1_beginBatch_1
theorem dksX1_beginBatch_0 : cX1_beginBatch.data.toList.drop 0 = dktX1_beginBatch_0 := by decide +kernel
theorem dksX1_beginBatch_1 : cX1_beginBatch.data.toList.drop 24 = dktX1_beginBatch_1 := dk_seg dksX1_beginBatch_0 24 rfl rfl
theorem dX1_beginBatch_0 : decode cX1_beginBatch 0 = .ok (.aload_n 0, 1) := dk_42 (dk_at dksX1_beginBatch_0 0 rfl rfl)
theorem dX1_beginBatch_1 : decode cX1_beginBatch 1 = .ok (.getfield 94, 3) := dk_180 0 94 (dk_at dksX1_beginBatch_0 1 rfl rfl)
theorem dX1_beginBatch_4 : decode cX1_beginBatch 4 = .ok (.bipush 10, 2) := dk_16 10 (dk_at dksX1_beginBatch_0 4 rfl rfl)
theorem dX1_beginBatch_6 : decode cX1_beginBatch 6 = .ok (.if_icmp .ge 7, 3) := dk_162 0 7 (dk_at dksX1_beginBatch_0 6 rfl rfl)
theorem dX1_beginBatch_9 : decode cX1_beginBatch 9 = .ok (.iconst 1, 1) := dk_4 (dk_at dksX1_beginBatch_0 9 rfl rfl)
theorem dX1_beginBatch_10 : decode cX1_beginBatch 10 = .ok (.goto 4, 3) := dk_167 0 4 (dk_at dksX1_beginBatch_0 10 rfl rfl)
theorem dX1_beginBatch_13 : decode cX1_beginBatch 13 = .ok (.iconst 0, 1) := dk_3 (dk_at dksX1_beginBatch_0 13 rfl rfl)
theorem dX1_beginBatch_14 : decode cX1_beginBatch 14 = .ok (.invokestatic 77, 3) := dk_184 0 77 (dk_at dksX1_beginBatch_0 14 rfl rfl)
theorem dX1_beginBatch_17 : decode cX1_beginBatch 17 = .ok (.aload_n 0, 1) := dk_42 (dk_at dksX1_beginBatch_0 17 rfl rfl)
theorem dX1_beginBatch_18 : decode cX1_beginBatch 18 = .ok (.dup, 1) := dk_89 (dk_at dksX1_beginBatch_0 18 rfl rfl)
theorem dX1_beginBatch_19 : decode cX1_beginBatch 19 = .ok (.getfield 94, 3) := dk_180 0 94 (dk_at dksX1_beginBatch_0 19 rfl rfl)
theorem dX1_beginBatch_22 : decode cX1_beginBatch 22 = .ok (.iconst 1, 1) := dk_4 (dk_at dksX1_beginBatch_0 22 rfl rfl)
theorem dX1_beginBatch_23 : decode cX1_beginBatch 23 = .ok (.iadd, 1) := dk_96 (dk_at dksX1_beginBatch_0 23 rfl rfl)
theorem dX1_beginBatch_24 : decode cX1_beginBatch 24 = .ok (.putfield 94, 3) := dk_181 0 94 (dk_at dksX1_beginBatch_1 0 rfl rfl)
theorem dX1_beginBatch_27 : decode cX1_beginBatch 27 = .ok (.aload_n 0, 1) := dk_42 (dk_at dksX1_beginBatch_1 3 rfl rfl)
theorem dX1_beginBatch_28 : decode cX1_beginBatch 28 = .ok (.getfield 94, 3) := dk_180 0 94 (dk_at dksX1_beginBatch_1 4 rfl rfl)
theorem dX1_beginBatch_31 : decode cX1_beginBatch 31 = .ok (.iconst 1, 1) := dk_4 (dk_at dksX1_beginBatch_1 7 rfl rfl)
theorem dX1_beginBatch_32 : decode cX1_beginBatch 32 = .ok (.isub, 1) := dk_100 (dk_at dksX1_beginBatch_1 8 rfl rfl)
theorem dX1_beginBatch_33 : decode cX1_beginBatch 33 = .ok (.ireturn, 1) := dk_172 (dk_at dksX1_beginBatch_1 9 rfl rfl)
abbrev cX1_key : ByteArray := prog_1_method_14_code
def yX1_key : MethodName := ⟨RX1, "key", "(II)I"⟩
def dkwX1_key_1 : List UInt8 := [180, 0, 19, 27, 28, 79, 29, 172]
abbrev dktX1_key_1 : List UInt8 := dkwX1_key_1 ++ []
def dkwX1_key_0 : List UInt8 := [27, 184, 0, 97, 28, 2, 16, 49, 184, 0, 66, 184, 0, 70, 42, 180, 0, 19, 27, 46, 62, 42]
abbrev dktX1_key_0 : List UInt8 := dkwX1_key_0 ++ dktX1_key_1
theorem dksX1_key_0 : cX1_key.data.toList.drop 0 = dktX1_key_0 := by decide +kernel
theorem dksX1_key_1 : cX1_key.data.toList.drop 22 = dktX1_key_1 := dk_seg dksX1_key_0 22 rfl rfl
theorem dX1_key_0 : decode cX1_key 0 = .ok (.iload_n 1, 1) := dk_27 (dk_at dksX1_key_0 0 rfl rfl)
theorem dX1_key_1 : decode cX1_key 1 = .ok (.invokestatic 97, 3) := dk_184 0 97 (dk_at dksX1_key_0 1 rfl rfl)
theorem dX1_key_4 : decode cX1_key 4 = .ok (.iload_n 2, 1) := dk_28 (dk_at dksX1_key_0 4 rfl rfl)
theorem dX1_key_5 : decode cX1_key 5 = .ok (.iconst (-1), 1) := dk_2 (dk_at dksX1_key_0 5 rfl rfl)
theorem dX1_key_6 : decode cX1_key 6 = .ok (.bipush 49, 2) := dk_16 49 (dk_at dksX1_key_0 6 rfl rfl)
theorem dX1_key_8 : decode cX1_key 8 = .ok (.invokestatic 66, 3) := dk_184 0 66 (dk_at dksX1_key_0 8 rfl rfl)
theorem dX1_key_11 : decode cX1_key 11 = .ok (.invokestatic 70, 3) := dk_184 0 70 (dk_at dksX1_key_0 11 rfl rfl)
theorem dX1_key_14 : decode cX1_key 14 = .ok (.aload_n 0, 1) := dk_42 (dk_at dksX1_key_0 14 rfl rfl)
theorem dX1_key_15 : decode cX1_key 15 = .ok (.getfield 19, 3) := dk_180 0 19 (dk_at dksX1_key_0 15 rfl rfl)
theorem dX1_key_18 : decode cX1_key 18 = .ok (.iload_n 1, 1) := dk_27 (dk_at dksX1_key_0 18 rfl rfl)
theorem dX1_key_19 : decode cX1_key 19 = .ok (.iaload, 1) := dk_46 (dk_at dksX1_key_0 19 rfl rfl)
theorem dX1_key_20 : decode cX1_key 20 = .ok (.istore_n 3, 1) := dk_62 (dk_at dksX1_key_0 20 rfl rfl)
theorem dX1_key_21 : decode cX1_key 21 = .ok (.aload_n 0, 1) := dk_42 (dk_at dksX1_key_0 21 rfl rfl)
theorem dX1_key_22 : decode cX1_key 22 = .ok (.getfield 19, 3) := dk_180 0 19 (dk_at dksX1_key_1 0 rfl rfl)
theorem dX1_key_25 : decode cX1_key 25 = .ok (.iload_n 1, 1) := dk_27 (dk_at dksX1_key_1 3 rfl rfl)
theorem dX1_key_26 : decode cX1_key 26 = .ok (.iload_n 2, 1) := dk_28 (dk_at dksX1_key_1 4 rfl rfl)
theorem dX1_key_27 : decode cX1_key 27 = .ok (.iastore, 1) := dk_79 (dk_at dksX1_key_1 5 rfl rfl)
theorem dX1_key_28 : decode cX1_key 28 = .ok (.iload_n 3, 1) := dk_29 (dk_at dksX1_key_1 6 rfl rfl)
theorem dX1_key_29 : decode cX1_key 29 = .ok (.ireturn, 1) := dk_172 (dk_at dksX1_key_1 7 rfl rfl)
abbrev cX1_needKey : ByteArray := prog_1_method_7_code
def yX1_needKey : MethodName := ⟨RX1, "needKey", "(I)V"⟩
def dkwX1_needKey_0 : List UInt8 := [26, 3, 5, 184, 0, 66, 184, 0, 58, 177]
abbrev dktX1_needKey_0 : List UInt8 := dkwX1_needKey_0 ++ []
theorem dksX1_needKey_0 : cX1_needKey.data.toList.drop 0 = dktX1_needKey_0 := by decide +kernel
theorem dX1_needKey_0 : decode cX1_needKey 0 = .ok (.iload_n 0, 1) := dk_26 (dk_at dksX1_needKey_0 0 rfl rfl)
theorem dX1_needKey_1 : decode cX1_needKey 1 = .ok (.iconst 0, 1) := dk_3 (dk_at dksX1_needKey_0 1 rfl rfl)
theorem dX1_needKey_2 : decode cX1_needKey 2 = .ok (.iconst 2, 1) := dk_5 (dk_at dksX1_needKey_0 2 rfl rfl)
theorem dX1_needKey_3 : decode cX1_needKey 3 = .ok (.invokestatic 66, 3) := dk_184 0 66 (dk_at dksX1_needKey_0 3 rfl rfl)
theorem dX1_needKey_6 : decode cX1_needKey 6 = .ok (.invokestatic 58, 3) := dk_184 0 58 (dk_at dksX1_needKey_0 6 rfl rfl)
theorem dX1_needKey_9 : decode cX1_needKey 9 = .ok (.return_, 1) := dk_177 (dk_at dksX1_needKey_0 9 rfl rfl)
abbrev cX1_field : ByteArray := prog_1_method_15_code
def yX1_field : MethodName := ⟨RX1, "field", "(II)I"⟩
def dkwX1_field_1 : List UInt8 := [180, 0, 22, 27, 28, 79, 29, 172]
abbrev dktX1_field_1 : List UInt8 := dkwX1_field_1 ++ []
def dkwX1_field_0 : List UInt8 := [27, 184, 0, 80, 28, 2, 16, 99, 184, 0, 66, 184, 0, 70, 42, 180, 0, 22, 27, 46, 62, 42]
abbrev dktX1_field_0 : List UInt8 := dkwX1_field_0 ++ dktX1_field_1
theorem dksX1_field_0 : cX1_field.data.toList.drop 0 = dktX1_field_0 := by decide +kernel
theorem dksX1_field_1 : cX1_field.data.toList.drop 22 = dktX1_field_1 := dk_seg dksX1_field_0 22 rfl rfl
theorem dX1_field_0 : decode cX1_field 0 = .ok (.iload_n 1, 1) := dk_27 (dk_at dksX1_field_0 0 rfl rfl)
theorem dX1_field_1 : decode cX1_field 1 = .ok (.invokestatic 80, 3) := dk_184 0 80 (dk_at dksX1_field_0 1 rfl rfl)
theorem dX1_field_4 : decode cX1_field 4 = .ok (.iload_n 2, 1) := dk_28 (dk_at dksX1_field_0 4 rfl rfl)
theorem dX1_field_5 : decode cX1_field 5 = .ok (.iconst (-1), 1) := dk_2 (dk_at dksX1_field_0 5 rfl rfl)
theorem dX1_field_6 : decode cX1_field 6 = .ok (.bipush 99, 2) := dk_16 99 (dk_at dksX1_field_0 6 rfl rfl)
theorem dX1_field_8 : decode cX1_field 8 = .ok (.invokestatic 66, 3) := dk_184 0 66 (dk_at dksX1_field_0 8 rfl rfl)
theorem dX1_field_11 : decode cX1_field 11 = .ok (.invokestatic 70, 3) := dk_184 0 70 (dk_at dksX1_field_0 11 rfl rfl)
theorem dX1_field_14 : decode cX1_field 14 = .ok (.aload_n 0, 1) := dk_42 (dk_at dksX1_field_0 14 rfl rfl)
theorem dX1_field_15 : decode cX1_field 15 = .ok (.getfield 22, 3) := dk_180 0 22 (dk_at dksX1_field_0 15 rfl rfl)
theorem dX1_field_18 : decode cX1_field 18 = .ok (.iload_n 1, 1) := dk_27 (dk_at dksX1_field_0 18 rfl rfl)
theorem dX1_field_19 : decode cX1_field 19 = .ok (.iaload, 1) := dk_46 (dk_at dksX1_field_0 19 rfl rfl)
theorem dX1_field_20 : decode cX1_field 20 = .ok (.istore_n 3, 1) := dk_62 (dk_at dksX1_field_0 20 rfl rfl)
theorem dX1_field_21 : decode cX1_field 21 = .ok (.aload_n 0, 1) := dk_42 (dk_at dksX1_field_0 21 rfl rfl)
theorem dX1_field_22 : decode cX1_field 22 = .ok (.getfield 22, 3) := dk_180 0 22 (dk_at dksX1_field_1 0 rfl rfl)
theorem dX1_field_25 : decode cX1_field 25 = .ok (.iload_n 1, 1) := dk_27 (dk_at dksX1_field_1 3 rfl rfl)
theorem dX1_field_26 : decode cX1_field 26 = .ok (.iload_n 2, 1) := dk_28 (dk_at dksX1_field_1 4 rfl rfl)
theorem dX1_field_27 : decode cX1_field 27 = .ok (.iastore, 1) := dk_79 (dk_at dksX1_field_1 5 rfl rfl)
theorem dX1_field_28 : decode cX1_field 28 = .ok (.iload_n 3, 1) := dk_29 (dk_at dksX1_field_1 6 rfl rfl)
theorem dX1_field_29 : decode cX1_field 29 = .ok (.ireturn, 1) := dk_172 (dk_at dksX1_field_1 7 rfl rfl)
abbrev cX1_load : ByteArray := prog_1_method_17_code
def yX1_load : MethodName := ⟨RX1, "load", "(I)I"⟩
def dkwX1_load_4 : List UInt8 := [180, 0, 73, 4, 100, 46, 172]
abbrev dktX1_load_4 : List UInt8 := dkwX1_load_4 ++ []
def dkwX1_load_3 : List UInt8 := [184, 0, 107, 42, 180, 0, 22, 184, 0, 107, 183, 0, 111, 182, 0, 114, 42, 180, 0, 41, 180, 0, 118, 42]
abbrev dktX1_load_3 : List UInt8 := dkwX1_load_3 ++ dktX1_load_4
def dkwX1_load_2 : List UInt8 := [187, 0, 105, 89, 42, 42, 180, 0, 73, 4, 100, 42, 180, 0, 94, 4, 100, 27, 42, 180, 0, 19]
abbrev dktX1_load_2 : List UInt8 := dkwX1_load_2 ++ dktX1_load_3
def dkwX1_load_1 : List UInt8 := [162, 0, 7, 4, 167, 0, 4, 3, 184, 0, 77, 42, 89, 180, 0, 73, 4, 96, 181, 0, 73, 42]
abbrev dktX1_load_1 : List UInt8 := dkwX1_load_1 ++ dktX1_load_2
def dkwX1_load_0 : List UInt8 := [27, 3, 7, 184, 0, 66, 184, 0, 58, 42, 180, 0, 94, 158, 0, 16, 42, 180, 0, 73, 16, 80]
abbrev dktX1_load_0 : List UInt8 := dkwX1_load_0 ++ dktX1_load_1
theorem dksX1_load_0 : cX1_load.data.toList.drop 0 = dktX1_load_0 := by decide +kernel
theorem dksX1_load_1 : cX1_load.data.toList.drop 22 = dktX1_load_1 := dk_seg dksX1_load_0 22 rfl rfl
theorem dksX1_load_2 : cX1_load.data.toList.drop 44 = dktX1_load_2 := dk_seg dksX1_load_1 22 rfl rfl
theorem dksX1_load_3 : cX1_load.data.toList.drop 66 = dktX1_load_3 := dk_seg dksX1_load_2 22 rfl rfl
theorem dksX1_load_4 : cX1_load.data.toList.drop 90 = dktX1_load_4 := dk_seg dksX1_load_3 24 rfl rfl
theorem dX1_load_0 : decode cX1_load 0 = .ok (.iload_n 1, 1) := dk_27 (dk_at dksX1_load_0 0 rfl rfl)
theorem dX1_load_1 : decode cX1_load 1 = .ok (.iconst 0, 1) := dk_3 (dk_at dksX1_load_0 1 rfl rfl)
theorem dX1_load_2 : decode cX1_load 2 = .ok (.iconst 4, 1) := dk_7 (dk_at dksX1_load_0 2 rfl rfl)
theorem dX1_load_3 : decode cX1_load 3 = .ok (.invokestatic 66, 3) := dk_184 0 66 (dk_at dksX1_load_0 3 rfl rfl)
theorem dX1_load_6 : decode cX1_load 6 = .ok (.invokestatic 58, 3) := dk_184 0 58 (dk_at dksX1_load_0 6 rfl rfl)
theorem dX1_load_9 : decode cX1_load 9 = .ok (.aload_n 0, 1) := dk_42 (dk_at dksX1_load_0 9 rfl rfl)
theorem dX1_load_10 : decode cX1_load 10 = .ok (.getfield 94, 3) := dk_180 0 94 (dk_at dksX1_load_0 10 rfl rfl)
theorem dX1_load_13 : decode cX1_load 13 = .ok (.ifCond .le 16, 3) := dk_158 0 16 (dk_at dksX1_load_0 13 rfl rfl)
theorem dX1_load_16 : decode cX1_load 16 = .ok (.aload_n 0, 1) := dk_42 (dk_at dksX1_load_0 16 rfl rfl)
theorem dX1_load_17 : decode cX1_load 17 = .ok (.getfield 73, 3) := dk_180 0 73 (dk_at dksX1_load_0 17 rfl rfl)
theorem dX1_load_20 : decode cX1_load 20 = .ok (.bipush 80, 2) := dk_16 80 (dk_at dksX1_load_0 20 rfl rfl)
theorem dX1_load_22 : decode cX1_load 22 = .ok (.if_icmp .ge 7, 3) := dk_162 0 7 (dk_at dksX1_load_1 0 rfl rfl)
theorem dX1_load_25 : decode cX1_load 25 = .ok (.iconst 1, 1) := dk_4 (dk_at dksX1_load_1 3 rfl rfl)
theorem dX1_load_26 : decode cX1_load 26 = .ok (.goto 4, 3) := dk_167 0 4 (dk_at dksX1_load_1 4 rfl rfl)
theorem dX1_load_29 : decode cX1_load 29 = .ok (.iconst 0, 1) := dk_3 (dk_at dksX1_load_1 7 rfl rfl)
theorem dX1_load_30 : decode cX1_load 30 = .ok (.invokestatic 77, 3) := dk_184 0 77 (dk_at dksX1_load_1 8 rfl rfl)
theorem dX1_load_33 : decode cX1_load 33 = .ok (.aload_n 0, 1) := dk_42 (dk_at dksX1_load_1 11 rfl rfl)
theorem dX1_load_34 : decode cX1_load 34 = .ok (.dup, 1) := dk_89 (dk_at dksX1_load_1 12 rfl rfl)
theorem dX1_load_35 : decode cX1_load 35 = .ok (.getfield 73, 3) := dk_180 0 73 (dk_at dksX1_load_1 13 rfl rfl)
theorem dX1_load_38 : decode cX1_load 38 = .ok (.iconst 1, 1) := dk_4 (dk_at dksX1_load_1 16 rfl rfl)
theorem dX1_load_39 : decode cX1_load 39 = .ok (.iadd, 1) := dk_96 (dk_at dksX1_load_1 17 rfl rfl)
theorem dX1_load_40 : decode cX1_load 40 = .ok (.putfield 73, 3) := dk_181 0 73 (dk_at dksX1_load_1 18 rfl rfl)
theorem dX1_load_43 : decode cX1_load 43 = .ok (.aload_n 0, 1) := dk_42 (dk_at dksX1_load_1 21 rfl rfl)
theorem dX1_load_44 : decode cX1_load 44 = .ok (.new 105, 3) := dk_187 0 105 (dk_at dksX1_load_2 0 rfl rfl)
theorem dX1_load_47 : decode cX1_load 47 = .ok (.dup, 1) := dk_89 (dk_at dksX1_load_2 3 rfl rfl)
theorem dX1_load_48 : decode cX1_load 48 = .ok (.aload_n 0, 1) := dk_42 (dk_at dksX1_load_2 4 rfl rfl)
theorem dX1_load_49 : decode cX1_load 49 = .ok (.aload_n 0, 1) := dk_42 (dk_at dksX1_load_2 5 rfl rfl)
theorem dX1_load_50 : decode cX1_load 50 = .ok (.getfield 73, 3) := dk_180 0 73 (dk_at dksX1_load_2 6 rfl rfl)
theorem dX1_load_53 : decode cX1_load 53 = .ok (.iconst 1, 1) := dk_4 (dk_at dksX1_load_2 9 rfl rfl)
theorem dX1_load_54 : decode cX1_load 54 = .ok (.isub, 1) := dk_100 (dk_at dksX1_load_2 10 rfl rfl)
theorem dX1_load_55 : decode cX1_load 55 = .ok (.aload_n 0, 1) := dk_42 (dk_at dksX1_load_2 11 rfl rfl)
theorem dX1_load_56 : decode cX1_load 56 = .ok (.getfield 94, 3) := dk_180 0 94 (dk_at dksX1_load_2 12 rfl rfl)
theorem dX1_load_59 : decode cX1_load 59 = .ok (.iconst 1, 1) := dk_4 (dk_at dksX1_load_2 15 rfl rfl)
theorem dX1_load_60 : decode cX1_load 60 = .ok (.isub, 1) := dk_100 (dk_at dksX1_load_2 16 rfl rfl)
theorem dX1_load_61 : decode cX1_load 61 = .ok (.iload_n 1, 1) := dk_27 (dk_at dksX1_load_2 17 rfl rfl)
theorem dX1_load_62 : decode cX1_load 62 = .ok (.aload_n 0, 1) := dk_42 (dk_at dksX1_load_2 18 rfl rfl)
theorem dX1_load_63 : decode cX1_load 63 = .ok (.getfield 19, 3) := dk_180 0 19 (dk_at dksX1_load_2 19 rfl rfl)
theorem dX1_load_66 : decode cX1_load 66 = .ok (.invokestatic 107, 3) := dk_184 0 107 (dk_at dksX1_load_3 0 rfl rfl)
theorem dX1_load_69 : decode cX1_load 69 = .ok (.aload_n 0, 1) := dk_42 (dk_at dksX1_load_3 3 rfl rfl)
theorem dX1_load_70 : decode cX1_load 70 = .ok (.getfield 22, 3) := dk_180 0 22 (dk_at dksX1_load_3 4 rfl rfl)
theorem dX1_load_73 : decode cX1_load 73 = .ok (.invokestatic 107, 3) := dk_184 0 107 (dk_at dksX1_load_3 7 rfl rfl)
theorem dX1_load_76 : decode cX1_load 76 = .ok (.invokespecial 111, 3) := dk_183 0 111 (dk_at dksX1_load_3 10 rfl rfl)
theorem dX1_load_79 : decode cX1_load 79 = .ok (.invokevirtual 114, 3) := dk_182 0 114 (dk_at dksX1_load_3 13 rfl rfl)
theorem dX1_load_82 : decode cX1_load 82 = .ok (.aload_n 0, 1) := dk_42 (dk_at dksX1_load_3 16 rfl rfl)
theorem dX1_load_83 : decode cX1_load 83 = .ok (.getfield 41, 3) := dk_180 0 41 (dk_at dksX1_load_3 17 rfl rfl)
theorem dX1_load_86 : decode cX1_load 86 = .ok (.getfield 118, 3) := dk_180 0 118 (dk_at dksX1_load_3 20 rfl rfl)
theorem dX1_load_89 : decode cX1_load 89 = .ok (.aload_n 0, 1) := dk_42 (dk_at dksX1_load_3 23 rfl rfl)
theorem dX1_load_90 : decode cX1_load 90 = .ok (.getfield 73, 3) := dk_180 0 73 (dk_at dksX1_load_4 0 rfl rfl)
theorem dX1_load_93 : decode cX1_load 93 = .ok (.iconst 1, 1) := dk_4 (dk_at dksX1_load_4 3 rfl rfl)
theorem dX1_load_94 : decode cX1_load 94 = .ok (.isub, 1) := dk_100 (dk_at dksX1_load_4 4 rfl rfl)
theorem dX1_load_95 : decode cX1_load 95 = .ok (.iaload, 1) := dk_46 (dk_at dksX1_load_4 5 rfl rfl)
theorem dX1_load_96 : decode cX1_load 96 = .ok (.ireturn, 1) := dk_172 (dk_at dksX1_load_4 6 rfl rfl)
abbrev cX1_taken : ByteArray := prog_1_method_16_code
def yX1_taken : MethodName := ⟨RX1, "taken", "([I)[I"⟩
def dkwX1_taken_1 : List UInt8 := [167, 255, 243, 43, 176]
abbrev dktX1_taken_1 : List UInt8 := dkwX1_taken_1 ++ []
def dkwX1_taken_0 : List UInt8 := [42, 182, 0, 100, 192, 0, 101, 76, 3, 61, 28, 42, 190, 162, 0, 13, 42, 28, 2, 79, 132, 2, 1]
abbrev dktX1_taken_0 : List UInt8 := dkwX1_taken_0 ++ dktX1_taken_1
theorem dksX1_taken_0 : cX1_taken.data.toList.drop 0 = dktX1_taken_0 := by decide +kernel
theorem dksX1_taken_1 : cX1_taken.data.toList.drop 23 = dktX1_taken_1 := dk_seg dksX1_taken_0 23 rfl rfl
theorem dX1_taken_0 : decode cX1_taken 0 = .ok (.aload_n 0, 1) := dk_42 (dk_at dksX1_taken_0 0 rfl rfl)
theorem dX1_taken_1 : decode cX1_taken 1 = .ok (.invokevirtual 100, 3) := dk_182 0 100 (dk_at dksX1_taken_0 1 rfl rfl)
theorem dX1_taken_4 : decode cX1_taken 4 = .ok (.checkcast 101, 3) := dk_192 0 101 (dk_at dksX1_taken_0 4 rfl rfl)
theorem dX1_taken_7 : decode cX1_taken 7 = .ok (.astore_n 1, 1) := dk_76 (dk_at dksX1_taken_0 7 rfl rfl)
theorem dX1_taken_8 : decode cX1_taken 8 = .ok (.iconst 0, 1) := dk_3 (dk_at dksX1_taken_0 8 rfl rfl)
theorem dX1_taken_9 : decode cX1_taken 9 = .ok (.istore_n 2, 1) := dk_61 (dk_at dksX1_taken_0 9 rfl rfl)
theorem dX1_taken_10 : decode cX1_taken 10 = .ok (.iload_n 2, 1) := dk_28 (dk_at dksX1_taken_0 10 rfl rfl)
theorem dX1_taken_11 : decode cX1_taken 11 = .ok (.aload_n 0, 1) := dk_42 (dk_at dksX1_taken_0 11 rfl rfl)
theorem dX1_taken_12 : decode cX1_taken 12 = .ok (.arraylength, 1) := dk_190 (dk_at dksX1_taken_0 12 rfl rfl)
theorem dX1_taken_13 : decode cX1_taken 13 = .ok (.if_icmp .ge 13, 3) := dk_162 0 13 (dk_at dksX1_taken_0 13 rfl rfl)
theorem dX1_taken_16 : decode cX1_taken 16 = .ok (.aload_n 0, 1) := dk_42 (dk_at dksX1_taken_0 16 rfl rfl)
theorem dX1_taken_17 : decode cX1_taken 17 = .ok (.iload_n 2, 1) := dk_28 (dk_at dksX1_taken_0 17 rfl rfl)
theorem dX1_taken_18 : decode cX1_taken 18 = .ok (.iconst (-1), 1) := dk_2 (dk_at dksX1_taken_0 18 rfl rfl)
theorem dX1_taken_19 : decode cX1_taken 19 = .ok (.iastore, 1) := dk_79 (dk_at dksX1_taken_0 19 rfl rfl)
theorem dX1_taken_20 : decode cX1_taken 20 = .ok (.iinc 2 1, 3) := dk_132 2 1 (dk_at dksX1_taken_0 20 rfl rfl)
theorem dX1_taken_23 : decode cX1_taken 23 = .ok (.goto (-13), 3) := dk_167 255 243 (dk_at dksX1_taken_1 0 rfl rfl)
theorem dX1_taken_26 : decode cX1_taken 26 = .ok (.aload_n 1, 1) := dk_43 (dk_at dksX1_taken_1 3 rfl rfl)
theorem dX1_taken_27 : decode cX1_taken 27 = .ok (.areturn, 1) := dk_176 (dk_at dksX1_taken_1 4 rfl rfl)
abbrev cX1_happen : ByteArray := prog_1_method_12_code
def yX1_happen : MethodName := ⟨RX1, "happen", "(LCatalogueLoader$Event;)V"⟩
def dkwX1_happen_0 : List UInt8 := [42, 180, 0, 32, 43, 182, 0, 84, 87, 43, 42, 180, 0, 41, 185, 0, 88, 2, 0, 177]
abbrev dktX1_happen_0 : List UInt8 := dkwX1_happen_0 ++ []
theorem dksX1_happen_0 : cX1_happen.data.toList.drop 0 = dktX1_happen_0 := by decide +kernel
theorem dX1_happen_0 : decode cX1_happen 0 = .ok (.aload_n 0, 1) := dk_42 (dk_at dksX1_happen_0 0 rfl rfl)
theorem dX1_happen_1 : decode cX1_happen 1 = .ok (.getfield 32, 3) := dk_180 0 32 (dk_at dksX1_happen_0 1 rfl rfl)
theorem dX1_happen_4 : decode cX1_happen 4 = .ok (.aload_n 1, 1) := dk_43 (dk_at dksX1_happen_0 4 rfl rfl)
theorem dX1_happen_5 : decode cX1_happen 5 = .ok (.invokevirtual 84, 3) := dk_182 0 84 (dk_at dksX1_happen_0 5 rfl rfl)
theorem dX1_happen_8 : decode cX1_happen 8 = .ok (.pop, 1) := dk_87 (dk_at dksX1_happen_0 8 rfl rfl)
theorem dX1_happen_9 : decode cX1_happen 9 = .ok (.aload_n 1, 1) := dk_43 (dk_at dksX1_happen_0 9 rfl rfl)
theorem dX1_happen_10 : decode cX1_happen 10 = .ok (.aload_n 0, 1) := dk_42 (dk_at dksX1_happen_0 10 rfl rfl)
theorem dX1_happen_11 : decode cX1_happen 11 = .ok (.getfield 41, 3) := dk_180 0 41 (dk_at dksX1_happen_0 11 rfl rfl)
theorem dX1_happen_14 : decode cX1_happen 14 = .ok (.invokeinterface 88 2, 5) := by decide +kernel
theorem dX1_happen_19 : decode cX1_happen 19 = .ok (.return_, 1) := dk_177 (dk_at dksX1_happen_0 19 rfl rfl)
abbrev cX1_protect : ByteArray := prog_1_method_19_code
def yX1_protect : MethodName := ⟨RX1, "protect", "(IIZ)Z"⟩
def dkwX1_protect_1 : List UInt8 := [89, 27, 28, 29, 183, 0, 135, 182, 0, 138, 21, 5, 172]
abbrev dktX1_protect_1 : List UInt8 := dkwX1_protect_1 ++ []
def dkwX1_protect_0 : List UInt8 := [42, 27, 182, 0, 124, 58, 4, 28, 184, 0, 80, 25, 4, 180, 0, 128, 28, 51, 54, 5, 42, 187, 0, 133]
abbrev dktX1_protect_0 : List UInt8 := dkwX1_protect_0 ++ dktX1_protect_1
theorem dksX1_protect_0 : cX1_protect.data.toList.drop 0 = dktX1_protect_0 := by decide +kernel
theorem dksX1_protect_1 : cX1_protect.data.toList.drop 24 = dktX1_protect_1 := dk_seg dksX1_protect_0 24 rfl rfl
theorem dX1_protect_0 : decode cX1_protect 0 = .ok (.aload_n 0, 1) := dk_42 (dk_at dksX1_protect_0 0 rfl rfl)
theorem dX1_protect_1 : decode cX1_protect 1 = .ok (.iload_n 1, 1) := dk_27 (dk_at dksX1_protect_0 1 rfl rfl)
theorem dX1_protect_2 : decode cX1_protect 2 = .ok (.invokevirtual 124, 3) := dk_182 0 124 (dk_at dksX1_protect_0 2 rfl rfl)
theorem dX1_protect_5 : decode cX1_protect 5 = .ok (.astore 4, 2) := dk_58 4 (dk_at dksX1_protect_0 5 rfl rfl)
theorem dX1_protect_7 : decode cX1_protect 7 = .ok (.iload_n 2, 1) := dk_28 (dk_at dksX1_protect_0 7 rfl rfl)
theorem dX1_protect_8 : decode cX1_protect 8 = .ok (.invokestatic 80, 3) := dk_184 0 80 (dk_at dksX1_protect_0 8 rfl rfl)
theorem dX1_protect_11 : decode cX1_protect 11 = .ok (.aload 4, 2) := dk_25 4 (dk_at dksX1_protect_0 11 rfl rfl)
theorem dX1_protect_13 : decode cX1_protect 13 = .ok (.getfield 128, 3) := dk_180 0 128 (dk_at dksX1_protect_0 13 rfl rfl)
theorem dX1_protect_16 : decode cX1_protect 16 = .ok (.iload_n 2, 1) := dk_28 (dk_at dksX1_protect_0 16 rfl rfl)
theorem dX1_protect_17 : decode cX1_protect 17 = .ok (.baload, 1) := dk_51 (dk_at dksX1_protect_0 17 rfl rfl)
theorem dX1_protect_18 : decode cX1_protect 18 = .ok (.istore 5, 2) := dk_54 5 (dk_at dksX1_protect_0 18 rfl rfl)
theorem dX1_protect_20 : decode cX1_protect 20 = .ok (.aload_n 0, 1) := dk_42 (dk_at dksX1_protect_0 20 rfl rfl)
theorem dX1_protect_21 : decode cX1_protect 21 = .ok (.new 133, 3) := dk_187 0 133 (dk_at dksX1_protect_0 21 rfl rfl)
theorem dX1_protect_24 : decode cX1_protect 24 = .ok (.dup, 1) := dk_89 (dk_at dksX1_protect_1 0 rfl rfl)
theorem dX1_protect_25 : decode cX1_protect 25 = .ok (.iload_n 1, 1) := dk_27 (dk_at dksX1_protect_1 1 rfl rfl)
theorem dX1_protect_26 : decode cX1_protect 26 = .ok (.iload_n 2, 1) := dk_28 (dk_at dksX1_protect_1 2 rfl rfl)
theorem dX1_protect_27 : decode cX1_protect 27 = .ok (.iload_n 3, 1) := dk_29 (dk_at dksX1_protect_1 3 rfl rfl)
theorem dX1_protect_28 : decode cX1_protect 28 = .ok (.invokespecial 135, 3) := dk_183 0 135 (dk_at dksX1_protect_1 4 rfl rfl)
theorem dX1_protect_31 : decode cX1_protect 31 = .ok (.invokevirtual 138, 3) := dk_182 0 138 (dk_at dksX1_protect_1 7 rfl rfl)
theorem dX1_protect_34 : decode cX1_protect 34 = .ok (.iload 5, 2) := dk_21 5 (dk_at dksX1_protect_1 10 rfl rfl)
theorem dX1_protect_36 : decode cX1_protect 36 = .ok (.ireturn, 1) := dk_172 (dk_at dksX1_protect_1 12 rfl rfl)
abbrev cX1_record : ByteArray := prog_1_method_6_code
def yX1_record : MethodName := ⟨RX1, "record", "(I)LCatalogueLoader$Record;"⟩
def dkwX1_record_0 : List UInt8 := [42, 180, 0, 41, 27, 182, 0, 54, 184, 0, 58, 42, 180, 0, 41, 180, 0, 62, 27, 50, 176]
abbrev dktX1_record_0 : List UInt8 := dkwX1_record_0 ++ []
theorem dksX1_record_0 : cX1_record.data.toList.drop 0 = dktX1_record_0 := by decide +kernel
theorem dX1_record_0 : decode cX1_record 0 = .ok (.aload_n 0, 1) := dk_42 (dk_at dksX1_record_0 0 rfl rfl)
theorem dX1_record_1 : decode cX1_record 1 = .ok (.getfield 41, 3) := dk_180 0 41 (dk_at dksX1_record_0 1 rfl rfl)
theorem dX1_record_4 : decode cX1_record 4 = .ok (.iload_n 1, 1) := dk_27 (dk_at dksX1_record_0 4 rfl rfl)
theorem dX1_record_5 : decode cX1_record 5 = .ok (.invokevirtual 54, 3) := dk_182 0 54 (dk_at dksX1_record_0 5 rfl rfl)
theorem dX1_record_8 : decode cX1_record 8 = .ok (.invokestatic 58, 3) := dk_184 0 58 (dk_at dksX1_record_0 8 rfl rfl)
theorem dX1_record_11 : decode cX1_record 11 = .ok (.aload_n 0, 1) := dk_42 (dk_at dksX1_record_0 11 rfl rfl)
theorem dX1_record_12 : decode cX1_record 12 = .ok (.getfield 41, 3) := dk_180 0 41 (dk_at dksX1_record_0 12 rfl rfl)
theorem dX1_record_15 : decode cX1_record 15 = .ok (.getfield 62, 3) := dk_180 0 62 (dk_at dksX1_record_0 15 rfl rfl)
theorem dX1_record_18 : decode cX1_record 18 = .ok (.iload_n 1, 1) := dk_27 (dk_at dksX1_record_0 18 rfl rfl)
theorem dX1_record_19 : decode cX1_record 19 = .ok (.aaload, 1) := dk_50 (dk_at dksX1_record_0 19 rfl rfl)
theorem dX1_record_20 : decode cX1_record 20 = .ok (.areturn, 1) := dk_176 (dk_at dksX1_record_0 20 rfl rfl)
abbrev cX1_act : ByteArray := prog_1_method_18_code
def yX1_act : MethodName := ⟨RX1, "act", "(LCatalogueLoader$Event;)V"⟩
def dkwX1_act_1 : List UInt8 := [181, 0, 121, 42, 43, 182, 0, 114, 177]
abbrev dktX1_act_1 : List UInt8 := dkwX1_act_1 ++ []
def dkwX1_act_0 : List UInt8 := [42, 180, 0, 121, 16, 100, 162, 0, 7, 4, 167, 0, 4, 3, 184, 0, 77, 42, 89, 180, 0, 121, 4, 96]
abbrev dktX1_act_0 : List UInt8 := dkwX1_act_0 ++ dktX1_act_1
theorem dksX1_act_0 : cX1_act.data.toList.drop 0 = dktX1_act_0 := by decide +kernel
theorem dksX1_act_1 : cX1_act.data.toList.drop 24 = dktX1_act_1 := dk_seg dksX1_act_0 24 rfl rfl
theorem dX1_act_0 : decode cX1_act 0 = .ok (.aload_n 0, 1) := dk_42 (dk_at dksX1_act_0 0 rfl rfl)
theorem dX1_act_1 : decode cX1_act 1 = .ok (.getfield 121, 3) := dk_180 0 121 (dk_at dksX1_act_0 1 rfl rfl)
theorem dX1_act_4 : decode cX1_act 4 = .ok (.bipush 100, 2) := dk_16 100 (dk_at dksX1_act_0 4 rfl rfl)
theorem dX1_act_6 : decode cX1_act 6 = .ok (.if_icmp .ge 7, 3) := dk_162 0 7 (dk_at dksX1_act_0 6 rfl rfl)
theorem dX1_act_9 : decode cX1_act 9 = .ok (.iconst 1, 1) := dk_4 (dk_at dksX1_act_0 9 rfl rfl)
theorem dX1_act_10 : decode cX1_act 10 = .ok (.goto 4, 3) := dk_167 0 4 (dk_at dksX1_act_0 10 rfl rfl)
theorem dX1_act_13 : decode cX1_act 13 = .ok (.iconst 0, 1) := dk_3 (dk_at dksX1_act_0 13 rfl rfl)
theorem dX1_act_14 : decode cX1_act 14 = .ok (.invokestatic 77, 3) := dk_184 0 77 (dk_at dksX1_act_0 14 rfl rfl)
theorem dX1_act_17 : decode cX1_act 17 = .ok (.aload_n 0, 1) := dk_42 (dk_at dksX1_act_0 17 rfl rfl)
theorem dX1_act_18 : decode cX1_act 18 = .ok (.dup, 1) := dk_89 (dk_at dksX1_act_0 18 rfl rfl)
theorem dX1_act_19 : decode cX1_act 19 = .ok (.getfield 121, 3) := dk_180 0 121 (dk_at dksX1_act_0 19 rfl rfl)
theorem dX1_act_22 : decode cX1_act 22 = .ok (.iconst 1, 1) := dk_4 (dk_at dksX1_act_0 22 rfl rfl)
theorem dX1_act_23 : decode cX1_act 23 = .ok (.iadd, 1) := dk_96 (dk_at dksX1_act_0 23 rfl rfl)
theorem dX1_act_24 : decode cX1_act 24 = .ok (.putfield 121, 3) := dk_181 0 121 (dk_at dksX1_act_1 0 rfl rfl)
theorem dX1_act_27 : decode cX1_act 27 = .ok (.aload_n 0, 1) := dk_42 (dk_at dksX1_act_1 3 rfl rfl)
theorem dX1_act_28 : decode cX1_act 28 = .ok (.aload_n 1, 1) := dk_43 (dk_at dksX1_act_1 4 rfl rfl)
theorem dX1_act_29 : decode cX1_act 29 = .ok (.invokevirtual 114, 3) := dk_182 0 114 (dk_at dksX1_act_1 5 rfl rfl)
theorem dX1_act_32 : decode cX1_act 32 = .ok (.return_, 1) := dk_177 (dk_at dksX1_act_1 8 rfl rfl)
abbrev cX1_hold : ByteArray := prog_1_method_20_code
def yX1_hold : MethodName := ⟨RX1, "hold", "(I)I"⟩
def dkwX1_hold_0 : List UInt8 := [42, 27, 182, 0, 124, 77, 42, 187, 0, 141, 89, 27, 183, 0, 143, 182, 0, 138, 44, 180, 0, 145, 172]
abbrev dktX1_hold_0 : List UInt8 := dkwX1_hold_0 ++ []
theorem dksX1_hold_0 : cX1_hold.data.toList.drop 0 = dktX1_hold_0 := by decide +kernel
theorem dX1_hold_0 : decode cX1_hold 0 = .ok (.aload_n 0, 1) := dk_42 (dk_at dksX1_hold_0 0 rfl rfl)
theorem dX1_hold_1 : decode cX1_hold 1 = .ok (.iload_n 1, 1) := dk_27 (dk_at dksX1_hold_0 1 rfl rfl)
theorem dX1_hold_2 : decode cX1_hold 2 = .ok (.invokevirtual 124, 3) := dk_182 0 124 (dk_at dksX1_hold_0 2 rfl rfl)
theorem dX1_hold_5 : decode cX1_hold 5 = .ok (.astore_n 2, 1) := dk_77 (dk_at dksX1_hold_0 5 rfl rfl)
theorem dX1_hold_6 : decode cX1_hold 6 = .ok (.aload_n 0, 1) := dk_42 (dk_at dksX1_hold_0 6 rfl rfl)
theorem dX1_hold_7 : decode cX1_hold 7 = .ok (.new 141, 3) := dk_187 0 141 (dk_at dksX1_hold_0 7 rfl rfl)
theorem dX1_hold_10 : decode cX1_hold 10 = .ok (.dup, 1) := dk_89 (dk_at dksX1_hold_0 10 rfl rfl)
theorem dX1_hold_11 : decode cX1_hold 11 = .ok (.iload_n 1, 1) := dk_27 (dk_at dksX1_hold_0 11 rfl rfl)
theorem dX1_hold_12 : decode cX1_hold 12 = .ok (.invokespecial 143, 3) := dk_183 0 143 (dk_at dksX1_hold_0 12 rfl rfl)
theorem dX1_hold_15 : decode cX1_hold 15 = .ok (.invokevirtual 138, 3) := dk_182 0 138 (dk_at dksX1_hold_0 15 rfl rfl)
theorem dX1_hold_18 : decode cX1_hold 18 = .ok (.aload_n 2, 1) := dk_44 (dk_at dksX1_hold_0 18 rfl rfl)
theorem dX1_hold_19 : decode cX1_hold 19 = .ok (.getfield 145, 3) := dk_180 0 145 (dk_at dksX1_hold_0 19 rfl rfl)
theorem dX1_hold_22 : decode cX1_hold 22 = .ok (.ireturn, 1) := dk_172 (dk_at dksX1_hold_0 22 rfl rfl)
abbrev cX1_merge : ByteArray := prog_1_method_21_code
def yX1_merge : MethodName := ⟨RX1, "merge", "(II)I"⟩
def dkwX1_merge_1 : List UInt8 := [184, 0, 70, 42, 187, 0, 148, 89, 27, 28, 183, 0, 150, 182, 0, 138, 45, 180, 0, 145, 172]
abbrev dktX1_merge_1 : List UInt8 := dkwX1_merge_1 ++ []
def dkwX1_merge_0 : List UInt8 := [42, 27, 182, 0, 124, 87, 42, 28, 182, 0, 124, 78, 27, 28, 159, 0, 7, 4, 167, 0, 4, 3]
abbrev dktX1_merge_0 : List UInt8 := dkwX1_merge_0 ++ dktX1_merge_1
theorem dksX1_merge_0 : cX1_merge.data.toList.drop 0 = dktX1_merge_0 := by decide +kernel
theorem dksX1_merge_1 : cX1_merge.data.toList.drop 22 = dktX1_merge_1 := dk_seg dksX1_merge_0 22 rfl rfl
theorem dX1_merge_0 : decode cX1_merge 0 = .ok (.aload_n 0, 1) := dk_42 (dk_at dksX1_merge_0 0 rfl rfl)
theorem dX1_merge_1 : decode cX1_merge 1 = .ok (.iload_n 1, 1) := dk_27 (dk_at dksX1_merge_0 1 rfl rfl)
theorem dX1_merge_2 : decode cX1_merge 2 = .ok (.invokevirtual 124, 3) := dk_182 0 124 (dk_at dksX1_merge_0 2 rfl rfl)
theorem dX1_merge_5 : decode cX1_merge 5 = .ok (.pop, 1) := dk_87 (dk_at dksX1_merge_0 5 rfl rfl)
theorem dX1_merge_6 : decode cX1_merge 6 = .ok (.aload_n 0, 1) := dk_42 (dk_at dksX1_merge_0 6 rfl rfl)
theorem dX1_merge_7 : decode cX1_merge 7 = .ok (.iload_n 2, 1) := dk_28 (dk_at dksX1_merge_0 7 rfl rfl)
theorem dX1_merge_8 : decode cX1_merge 8 = .ok (.invokevirtual 124, 3) := dk_182 0 124 (dk_at dksX1_merge_0 8 rfl rfl)
theorem dX1_merge_11 : decode cX1_merge 11 = .ok (.astore_n 3, 1) := dk_78 (dk_at dksX1_merge_0 11 rfl rfl)
theorem dX1_merge_12 : decode cX1_merge 12 = .ok (.iload_n 1, 1) := dk_27 (dk_at dksX1_merge_0 12 rfl rfl)
theorem dX1_merge_13 : decode cX1_merge 13 = .ok (.iload_n 2, 1) := dk_28 (dk_at dksX1_merge_0 13 rfl rfl)
theorem dX1_merge_14 : decode cX1_merge 14 = .ok (.if_icmp .eq 7, 3) := dk_159 0 7 (dk_at dksX1_merge_0 14 rfl rfl)
theorem dX1_merge_17 : decode cX1_merge 17 = .ok (.iconst 1, 1) := dk_4 (dk_at dksX1_merge_0 17 rfl rfl)
theorem dX1_merge_18 : decode cX1_merge 18 = .ok (.goto 4, 3) := dk_167 0 4 (dk_at dksX1_merge_0 18 rfl rfl)
theorem dX1_merge_21 : decode cX1_merge 21 = .ok (.iconst 0, 1) := dk_3 (dk_at dksX1_merge_0 21 rfl rfl)
theorem dX1_merge_22 : decode cX1_merge 22 = .ok (.invokestatic 70, 3) := dk_184 0 70 (dk_at dksX1_merge_1 0 rfl rfl)
theorem dX1_merge_25 : decode cX1_merge 25 = .ok (.aload_n 0, 1) := dk_42 (dk_at dksX1_merge_1 3 rfl rfl)
theorem dX1_merge_26 : decode cX1_merge 26 = .ok (.new 148, 3) := dk_187 0 148 (dk_at dksX1_merge_1 4 rfl rfl)
theorem dX1_merge_29 : decode cX1_merge 29 = .ok (.dup, 1) := dk_89 (dk_at dksX1_merge_1 7 rfl rfl)
theorem dX1_merge_30 : decode cX1_merge 30 = .ok (.iload_n 1, 1) := dk_27 (dk_at dksX1_merge_1 8 rfl rfl)
theorem dX1_merge_31 : decode cX1_merge 31 = .ok (.iload_n 2, 1) := dk_28 (dk_at dksX1_merge_1 9 rfl rfl)
theorem dX1_merge_32 : decode cX1_merge 32 = .ok (.invokespecial 150, 3) := dk_183 0 150 (dk_at dksX1_merge_1 10 rfl rfl)
theorem dX1_merge_35 : decode cX1_merge 35 = .ok (.invokevirtual 138, 3) := dk_182 0 138 (dk_at dksX1_merge_1 13 rfl rfl)
theorem dX1_merge_38 : decode cX1_merge 38 = .ok (.aload_n 3, 1) := dk_45 (dk_at dksX1_merge_1 16 rfl rfl)
theorem dX1_merge_39 : decode cX1_merge 39 = .ok (.getfield 145, 3) := dk_180 0 145 (dk_at dksX1_merge_1 17 rfl rfl)
theorem dX1_merge_42 : decode cX1_merge 42 = .ok (.ireturn, 1) := dk_172 (dk_at dksX1_merge_1 20 rfl rfl)
abbrev cX1_undo : ByteArray := prog_1_method_23_code
def yX1_undo : MethodName := ⟨RX1, "undo", "(IZ)I"⟩
def dkwX1_undo_2 : List UInt8 := [180, 0, 41, 182, 0, 170, 172]
abbrev dktX1_undo_2 : List UInt8 := dkwX1_undo_2 ++ []
def dkwX1_undo_1 : List UInt8 := [4, 167, 0, 4, 3, 184, 0, 77, 42, 180, 0, 25, 27, 28, 84, 42, 42, 182, 0, 166, 181, 0, 41, 42]
abbrev dktX1_undo_1 : List UInt8 := dkwX1_undo_1 ++ dktX1_undo_2
def dkwX1_undo_0 : List UInt8 := [27, 3, 42, 180, 0, 94, 4, 100, 184, 0, 66, 184, 0, 58, 42, 180, 0, 25, 27, 51, 28, 159, 0, 7]
abbrev dktX1_undo_0 : List UInt8 := dkwX1_undo_0 ++ dktX1_undo_1
theorem dksX1_undo_0 : cX1_undo.data.toList.drop 0 = dktX1_undo_0 := by decide +kernel
theorem dksX1_undo_1 : cX1_undo.data.toList.drop 24 = dktX1_undo_1 := dk_seg dksX1_undo_0 24 rfl rfl
theorem dksX1_undo_2 : cX1_undo.data.toList.drop 48 = dktX1_undo_2 := dk_seg dksX1_undo_1 24 rfl rfl
theorem dX1_undo_0 : decode cX1_undo 0 = .ok (.iload_n 1, 1) := dk_27 (dk_at dksX1_undo_0 0 rfl rfl)
theorem dX1_undo_1 : decode cX1_undo 1 = .ok (.iconst 0, 1) := dk_3 (dk_at dksX1_undo_0 1 rfl rfl)
theorem dX1_undo_2 : decode cX1_undo 2 = .ok (.aload_n 0, 1) := dk_42 (dk_at dksX1_undo_0 2 rfl rfl)
theorem dX1_undo_3 : decode cX1_undo 3 = .ok (.getfield 94, 3) := dk_180 0 94 (dk_at dksX1_undo_0 3 rfl rfl)
theorem dX1_undo_6 : decode cX1_undo 6 = .ok (.iconst 1, 1) := dk_4 (dk_at dksX1_undo_0 6 rfl rfl)
theorem dX1_undo_7 : decode cX1_undo 7 = .ok (.isub, 1) := dk_100 (dk_at dksX1_undo_0 7 rfl rfl)
theorem dX1_undo_8 : decode cX1_undo 8 = .ok (.invokestatic 66, 3) := dk_184 0 66 (dk_at dksX1_undo_0 8 rfl rfl)
theorem dX1_undo_11 : decode cX1_undo 11 = .ok (.invokestatic 58, 3) := dk_184 0 58 (dk_at dksX1_undo_0 11 rfl rfl)
theorem dX1_undo_14 : decode cX1_undo 14 = .ok (.aload_n 0, 1) := dk_42 (dk_at dksX1_undo_0 14 rfl rfl)
theorem dX1_undo_15 : decode cX1_undo 15 = .ok (.getfield 25, 3) := dk_180 0 25 (dk_at dksX1_undo_0 15 rfl rfl)
theorem dX1_undo_18 : decode cX1_undo 18 = .ok (.iload_n 1, 1) := dk_27 (dk_at dksX1_undo_0 18 rfl rfl)
theorem dX1_undo_19 : decode cX1_undo 19 = .ok (.baload, 1) := dk_51 (dk_at dksX1_undo_0 19 rfl rfl)
theorem dX1_undo_20 : decode cX1_undo 20 = .ok (.iload_n 2, 1) := dk_28 (dk_at dksX1_undo_0 20 rfl rfl)
theorem dX1_undo_21 : decode cX1_undo 21 = .ok (.if_icmp .eq 7, 3) := dk_159 0 7 (dk_at dksX1_undo_0 21 rfl rfl)
theorem dX1_undo_24 : decode cX1_undo 24 = .ok (.iconst 1, 1) := dk_4 (dk_at dksX1_undo_1 0 rfl rfl)
theorem dX1_undo_25 : decode cX1_undo 25 = .ok (.goto 4, 3) := dk_167 0 4 (dk_at dksX1_undo_1 1 rfl rfl)
theorem dX1_undo_28 : decode cX1_undo 28 = .ok (.iconst 0, 1) := dk_3 (dk_at dksX1_undo_1 4 rfl rfl)
theorem dX1_undo_29 : decode cX1_undo 29 = .ok (.invokestatic 77, 3) := dk_184 0 77 (dk_at dksX1_undo_1 5 rfl rfl)
theorem dX1_undo_32 : decode cX1_undo 32 = .ok (.aload_n 0, 1) := dk_42 (dk_at dksX1_undo_1 8 rfl rfl)
theorem dX1_undo_33 : decode cX1_undo 33 = .ok (.getfield 25, 3) := dk_180 0 25 (dk_at dksX1_undo_1 9 rfl rfl)
theorem dX1_undo_36 : decode cX1_undo 36 = .ok (.iload_n 1, 1) := dk_27 (dk_at dksX1_undo_1 12 rfl rfl)
theorem dX1_undo_37 : decode cX1_undo 37 = .ok (.iload_n 2, 1) := dk_28 (dk_at dksX1_undo_1 13 rfl rfl)
theorem dX1_undo_38 : decode cX1_undo 38 = .ok (.bastore, 1) := dk_84 (dk_at dksX1_undo_1 14 rfl rfl)
theorem dX1_undo_39 : decode cX1_undo 39 = .ok (.aload_n 0, 1) := dk_42 (dk_at dksX1_undo_1 15 rfl rfl)
theorem dX1_undo_40 : decode cX1_undo 40 = .ok (.aload_n 0, 1) := dk_42 (dk_at dksX1_undo_1 16 rfl rfl)
theorem dX1_undo_41 : decode cX1_undo 41 = .ok (.invokevirtual 166, 3) := dk_182 0 166 (dk_at dksX1_undo_1 17 rfl rfl)
theorem dX1_undo_44 : decode cX1_undo 44 = .ok (.putfield 41, 3) := dk_181 0 41 (dk_at dksX1_undo_1 20 rfl rfl)
theorem dX1_undo_47 : decode cX1_undo 47 = .ok (.aload_n 0, 1) := dk_42 (dk_at dksX1_undo_1 23 rfl rfl)
theorem dX1_undo_48 : decode cX1_undo 48 = .ok (.getfield 41, 3) := dk_180 0 41 (dk_at dksX1_undo_2 0 rfl rfl)
theorem dX1_undo_51 : decode cX1_undo 51 = .ok (.invokevirtual 170, 3) := dk_182 0 170 (dk_at dksX1_undo_2 3 rfl rfl)
theorem dX1_undo_54 : decode cX1_undo 54 = .ok (.ireturn, 1) := dk_172 (dk_at dksX1_undo_2 6 rfl rfl)
abbrev cX1_isUndone : ByteArray := prog_1_method_27_code
def yX1_isUndone : MethodName := ⟨RX1, "isUndone", "(I)Z"⟩
def dkwX1_isUndone_0 : List UInt8 := [27, 3, 42, 180, 0, 94, 4, 100, 184, 0, 66, 184, 0, 58, 42, 180, 0, 25, 27, 51, 172]
abbrev dktX1_isUndone_0 : List UInt8 := dkwX1_isUndone_0 ++ []
theorem dksX1_isUndone_0 : cX1_isUndone.data.toList.drop 0 = dktX1_isUndone_0 := by decide +kernel
theorem dX1_isUndone_0 : decode cX1_isUndone 0 = .ok (.iload_n 1, 1) := dk_27 (dk_at dksX1_isUndone_0 0 rfl rfl)
theorem dX1_isUndone_1 : decode cX1_isUndone 1 = .ok (.iconst 0, 1) := dk_3 (dk_at dksX1_isUndone_0 1 rfl rfl)
theorem dX1_isUndone_2 : decode cX1_isUndone 2 = .ok (.aload_n 0, 1) := dk_42 (dk_at dksX1_isUndone_0 2 rfl rfl)
theorem dX1_isUndone_3 : decode cX1_isUndone 3 = .ok (.getfield 94, 3) := dk_180 0 94 (dk_at dksX1_isUndone_0 3 rfl rfl)
theorem dX1_isUndone_6 : decode cX1_isUndone 6 = .ok (.iconst 1, 1) := dk_4 (dk_at dksX1_isUndone_0 6 rfl rfl)
theorem dX1_isUndone_7 : decode cX1_isUndone 7 = .ok (.isub, 1) := dk_100 (dk_at dksX1_isUndone_0 7 rfl rfl)
theorem dX1_isUndone_8 : decode cX1_isUndone 8 = .ok (.invokestatic 66, 3) := dk_184 0 66 (dk_at dksX1_isUndone_0 8 rfl rfl)
theorem dX1_isUndone_11 : decode cX1_isUndone 11 = .ok (.invokestatic 58, 3) := dk_184 0 58 (dk_at dksX1_isUndone_0 11 rfl rfl)
theorem dX1_isUndone_14 : decode cX1_isUndone 14 = .ok (.aload_n 0, 1) := dk_42 (dk_at dksX1_isUndone_0 14 rfl rfl)
theorem dX1_isUndone_15 : decode cX1_isUndone 15 = .ok (.getfield 25, 3) := dk_180 0 25 (dk_at dksX1_isUndone_0 15 rfl rfl)
theorem dX1_isUndone_18 : decode cX1_isUndone 18 = .ok (.iload_n 1, 1) := dk_27 (dk_at dksX1_isUndone_0 18 rfl rfl)
theorem dX1_isUndone_19 : decode cX1_isUndone 19 = .ok (.baload, 1) := dk_51 (dk_at dksX1_isUndone_0 19 rfl rfl)
theorem dX1_isUndone_20 : decode cX1_isUndone 20 = .ok (.ireturn, 1) := dk_172 (dk_at dksX1_isUndone_0 20 rfl rfl)
abbrev cX1_hit : ByteArray := prog_1_method_29_code
def yX1_hit : MethodName := ⟨RX1, "hit", "(I)I"⟩
def dkwX1_hit_0 : List UInt8 := [27, 3, 42, 180, 0, 73, 4, 100, 184, 0, 66, 184, 0, 58, 42, 180, 0, 41, 180, 0, 118, 27, 46, 172]
abbrev dktX1_hit_0 : List UInt8 := dkwX1_hit_0 ++ []
theorem dksX1_hit_0 : cX1_hit.data.toList.drop 0 = dktX1_hit_0 := by decide +kernel
theorem dX1_hit_0 : decode cX1_hit 0 = .ok (.iload_n 1, 1) := dk_27 (dk_at dksX1_hit_0 0 rfl rfl)
theorem dX1_hit_1 : decode cX1_hit 1 = .ok (.iconst 0, 1) := dk_3 (dk_at dksX1_hit_0 1 rfl rfl)
theorem dX1_hit_2 : decode cX1_hit 2 = .ok (.aload_n 0, 1) := dk_42 (dk_at dksX1_hit_0 2 rfl rfl)
theorem dX1_hit_3 : decode cX1_hit 3 = .ok (.getfield 73, 3) := dk_180 0 73 (dk_at dksX1_hit_0 3 rfl rfl)
theorem dX1_hit_6 : decode cX1_hit 6 = .ok (.iconst 1, 1) := dk_4 (dk_at dksX1_hit_0 6 rfl rfl)
theorem dX1_hit_7 : decode cX1_hit 7 = .ok (.isub, 1) := dk_100 (dk_at dksX1_hit_0 7 rfl rfl)
theorem dX1_hit_8 : decode cX1_hit 8 = .ok (.invokestatic 66, 3) := dk_184 0 66 (dk_at dksX1_hit_0 8 rfl rfl)
theorem dX1_hit_11 : decode cX1_hit 11 = .ok (.invokestatic 58, 3) := dk_184 0 58 (dk_at dksX1_hit_0 11 rfl rfl)
theorem dX1_hit_14 : decode cX1_hit 14 = .ok (.aload_n 0, 1) := dk_42 (dk_at dksX1_hit_0 14 rfl rfl)
theorem dX1_hit_15 : decode cX1_hit 15 = .ok (.getfield 41, 3) := dk_180 0 41 (dk_at dksX1_hit_0 15 rfl rfl)
theorem dX1_hit_18 : decode cX1_hit 18 = .ok (.getfield 118, 3) := dk_180 0 118 (dk_at dksX1_hit_0 18 rfl rfl)
theorem dX1_hit_21 : decode cX1_hit 21 = .ok (.iload_n 1, 1) := dk_27 (dk_at dksX1_hit_0 21 rfl rfl)
theorem dX1_hit_22 : decode cX1_hit 22 = .ok (.iaload, 1) := dk_46 (dk_at dksX1_hit_0 22 rfl rfl)
theorem dX1_hit_23 : decode cX1_hit 23 = .ok (.ireturn, 1) := dk_172 (dk_at dksX1_hit_0 23 rfl rfl)
abbrev cX1_keyOf : ByteArray := prog_1_method_30_code
def yX1_keyOf : MethodName := ⟨RX1, "keyOf", "(II)I"⟩
def dkwX1_keyOf_0 : List UInt8 := [42, 27, 182, 0, 124, 78, 28, 184, 0, 97, 45, 180, 0, 174, 28, 46, 172]
abbrev dktX1_keyOf_0 : List UInt8 := dkwX1_keyOf_0 ++ []
theorem dksX1_keyOf_0 : cX1_keyOf.data.toList.drop 0 = dktX1_keyOf_0 := by decide +kernel
theorem dX1_keyOf_0 : decode cX1_keyOf 0 = .ok (.aload_n 0, 1) := dk_42 (dk_at dksX1_keyOf_0 0 rfl rfl)
theorem dX1_keyOf_1 : decode cX1_keyOf 1 = .ok (.iload_n 1, 1) := dk_27 (dk_at dksX1_keyOf_0 1 rfl rfl)
theorem dX1_keyOf_2 : decode cX1_keyOf 2 = .ok (.invokevirtual 124, 3) := dk_182 0 124 (dk_at dksX1_keyOf_0 2 rfl rfl)
theorem dX1_keyOf_5 : decode cX1_keyOf 5 = .ok (.astore_n 3, 1) := dk_78 (dk_at dksX1_keyOf_0 5 rfl rfl)
theorem dX1_keyOf_6 : decode cX1_keyOf 6 = .ok (.iload_n 2, 1) := dk_28 (dk_at dksX1_keyOf_0 6 rfl rfl)
theorem dX1_keyOf_7 : decode cX1_keyOf 7 = .ok (.invokestatic 97, 3) := dk_184 0 97 (dk_at dksX1_keyOf_0 7 rfl rfl)
theorem dX1_keyOf_10 : decode cX1_keyOf 10 = .ok (.aload_n 3, 1) := dk_45 (dk_at dksX1_keyOf_0 10 rfl rfl)
theorem dX1_keyOf_11 : decode cX1_keyOf 11 = .ok (.getfield 174, 3) := dk_180 0 174 (dk_at dksX1_keyOf_0 11 rfl rfl)
theorem dX1_keyOf_14 : decode cX1_keyOf 14 = .ok (.iload_n 2, 1) := dk_28 (dk_at dksX1_keyOf_0 14 rfl rfl)
theorem dX1_keyOf_15 : decode cX1_keyOf 15 = .ok (.iaload, 1) := dk_46 (dk_at dksX1_keyOf_0 15 rfl rfl)
theorem dX1_keyOf_16 : decode cX1_keyOf 16 = .ok (.ireturn, 1) := dk_172 (dk_at dksX1_keyOf_0 16 rfl rfl)
abbrev cX1_fieldOf : ByteArray := prog_1_method_31_code
def yX1_fieldOf : MethodName := ⟨RX1, "fieldOf", "(II)I"⟩
def dkwX1_fieldOf_0 : List UInt8 := [42, 27, 182, 0, 124, 78, 28, 184, 0, 80, 45, 180, 0, 177, 28, 46, 172]
abbrev dktX1_fieldOf_0 : List UInt8 := dkwX1_fieldOf_0 ++ []
theorem dksX1_fieldOf_0 : cX1_fieldOf.data.toList.drop 0 = dktX1_fieldOf_0 := by decide +kernel
theorem dX1_fieldOf_0 : decode cX1_fieldOf 0 = .ok (.aload_n 0, 1) := dk_42 (dk_at dksX1_fieldOf_0 0 rfl rfl)
theorem dX1_fieldOf_1 : decode cX1_fieldOf 1 = .ok (.iload_n 1, 1) := dk_27 (dk_at dksX1_fieldOf_0 1 rfl rfl)
theorem dX1_fieldOf_2 : decode cX1_fieldOf 2 = .ok (.invokevirtual 124, 3) := dk_182 0 124 (dk_at dksX1_fieldOf_0 2 rfl rfl)
theorem dX1_fieldOf_5 : decode cX1_fieldOf 5 = .ok (.astore_n 3, 1) := dk_78 (dk_at dksX1_fieldOf_0 5 rfl rfl)
theorem dX1_fieldOf_6 : decode cX1_fieldOf 6 = .ok (.iload_n 2, 1) := dk_28 (dk_at dksX1_fieldOf_0 6 rfl rfl)
theorem dX1_fieldOf_7 : decode cX1_fieldOf 7 = .ok (.invokestatic 80, 3) := dk_184 0 80 (dk_at dksX1_fieldOf_0 7 rfl rfl)
theorem dX1_fieldOf_10 : decode cX1_fieldOf 10 = .ok (.aload_n 3, 1) := dk_45 (dk_at dksX1_fieldOf_0 10 rfl rfl)
theorem dX1_fieldOf_11 : decode cX1_fieldOf 11 = .ok (.getfield 177, 3) := dk_180 0 177 (dk_at dksX1_fieldOf_0 11 rfl rfl)
theorem dX1_fieldOf_14 : decode cX1_fieldOf 14 = .ok (.iload_n 2, 1) := dk_28 (dk_at dksX1_fieldOf_0 14 rfl rfl)
theorem dX1_fieldOf_15 : decode cX1_fieldOf 15 = .ok (.iaload, 1) := dk_46 (dk_at dksX1_fieldOf_0 15 rfl rfl)
theorem dX1_fieldOf_16 : decode cX1_fieldOf 16 = .ok (.ireturn, 1) := dk_172 (dk_at dksX1_fieldOf_0 16 rfl rfl)
abbrev cX1_sourceOf : ByteArray := prog_1_method_32_code
def yX1_sourceOf : MethodName := ⟨RX1, "sourceOf", "(II)I"⟩
def dkwX1_sourceOf_0 : List UInt8 := [42, 27, 182, 0, 124, 78, 28, 184, 0, 80, 45, 180, 0, 180, 28, 46, 172]
abbrev dktX1_sourceOf_0 : List UInt8 := dkwX1_sourceOf_0 ++ []
theorem dksX1_sourceOf_0 : cX1_sourceOf.data.toList.drop 0 = dktX1_sourceOf_0 := by decide +kernel
theorem dX1_sourceOf_0 : decode cX1_sourceOf 0 = .ok (.aload_n 0, 1) := dk_42 (dk_at dksX1_sourceOf_0 0 rfl rfl)
theorem dX1_sourceOf_1 : decode cX1_sourceOf 1 = .ok (.iload_n 1, 1) := dk_27 (dk_at dksX1_sourceOf_0 1 rfl rfl)
theorem dX1_sourceOf_2 : decode cX1_sourceOf 2 = .ok (.invokevirtual 124, 3) := dk_182 0 124 (dk_at dksX1_sourceOf_0 2 rfl rfl)
theorem dX1_sourceOf_5 : decode cX1_sourceOf 5 = .ok (.astore_n 3, 1) := dk_78 (dk_at dksX1_sourceOf_0 5 rfl rfl)
theorem dX1_sourceOf_6 : decode cX1_sourceOf 6 = .ok (.iload_n 2, 1) := dk_28 (dk_at dksX1_sourceOf_0 6 rfl rfl)
theorem dX1_sourceOf_7 : decode cX1_sourceOf 7 = .ok (.invokestatic 80, 3) := dk_184 0 80 (dk_at dksX1_sourceOf_0 7 rfl rfl)
theorem dX1_sourceOf_10 : decode cX1_sourceOf 10 = .ok (.aload_n 3, 1) := dk_45 (dk_at dksX1_sourceOf_0 10 rfl rfl)
theorem dX1_sourceOf_11 : decode cX1_sourceOf 11 = .ok (.getfield 180, 3) := dk_180 0 180 (dk_at dksX1_sourceOf_0 11 rfl rfl)
theorem dX1_sourceOf_14 : decode cX1_sourceOf 14 = .ok (.iload_n 2, 1) := dk_28 (dk_at dksX1_sourceOf_0 14 rfl rfl)
theorem dX1_sourceOf_15 : decode cX1_sourceOf 15 = .ok (.iaload, 1) := dk_46 (dk_at dksX1_sourceOf_0 15 rfl rfl)
theorem dX1_sourceOf_16 : decode cX1_sourceOf 16 = .ok (.ireturn, 1) := dk_172 (dk_at dksX1_sourceOf_0 16 rfl rfl)
abbrev cX1_holdings : ByteArray := prog_1_method_33_code
def yX1_holdings : MethodName := ⟨RX1, "holdings", "(I)I"⟩
def dkwX1_holdings_0 : List UInt8 := [42, 27, 182, 0, 124, 180, 0, 145, 172]
abbrev dktX1_holdings_0 : List UInt8 := dkwX1_holdings_0 ++ []
theorem dksX1_holdings_0 : cX1_holdings.data.toList.drop 0 = dktX1_holdings_0 := by decide +kernel
theorem dX1_holdings_0 : decode cX1_holdings 0 = .ok (.aload_n 0, 1) := dk_42 (dk_at dksX1_holdings_0 0 rfl rfl)
theorem dX1_holdings_1 : decode cX1_holdings 1 = .ok (.iload_n 1, 1) := dk_27 (dk_at dksX1_holdings_0 1 rfl rfl)
theorem dX1_holdings_2 : decode cX1_holdings 2 = .ok (.invokevirtual 124, 3) := dk_182 0 124 (dk_at dksX1_holdings_0 2 rfl rfl)
theorem dX1_holdings_5 : decode cX1_holdings 5 = .ok (.getfield 145, 3) := dk_180 0 145 (dk_at dksX1_holdings_0 5 rfl rfl)
theorem dX1_holdings_8 : decode cX1_holdings 8 = .ok (.ireturn, 1) := dk_172 (dk_at dksX1_holdings_0 8 rfl rfl)
theorem q21 : (Jvm.Cond.initialized "CatalogueLoader") ∈ lw_all := lw_g (lw_at lw_m1 1 rfl) rfl
theorem q46 : (Jvm.Cond.instantiable "CatalogueLoader" (11 : Nat)) ∈ lw_all := lw_g (lw_at lw_m1 26 rfl) rfl
theorem q48 : (Jvm.Cond.instanceMethod ({ cls := "CatalogueLoader", name := "<init>", desc := "()V" } : Jvm.MethodName)) ∈ lw_all := lw_g (lw_at lw_m1 28 rfl) rfl
theorem q49 : (Jvm.Cond.code ({ cls := "CatalogueLoader", name := "<init>", desc := "()V" } : Jvm.MethodName) prog_1_method_1_code (1 : Nat) (Option.none : Option Jvm.ClassFile.FieldType)) ∈ lw_all := lw_g (lw_at lw_m1 29 rfl) rfl
theorem q50 : (Jvm.Cond.methodLink "CatalogueLoader" (1 : Nat) ({ cls := "java/lang/Object", name := "<init>", desc := "()V" } : Jvm.MethodName)) ∈ lw_all := lw_g (lw_at lw_m1 30 rfl) rfl
theorem q53 : (Jvm.Cond.classLink "CatalogueLoader" (29 : Nat) "java/util/ArrayList") ∈ lw_all := lw_g (lw_at lw_m1 33 rfl) rfl
theorem q55 : (Jvm.Cond.methodLink "CatalogueLoader" (31 : Nat) ({ cls := "java/util/ArrayList", name := "<init>", desc := "()V" } : Jvm.MethodName)) ∈ lw_all := lw_g (lw_at lw_m1 35 rfl) rfl
theorem q84 : (Jvm.Cond.classLink "CatalogueLoader" (36 : Nat) "CatalogueLoader$Catalogue") ∈ lw_all := lw_g (lw_at lw_m1 64 rfl) rfl
theorem q86 : (Jvm.Cond.methodLinkNest "CatalogueLoader" (38 : Nat) ({ cls := "CatalogueLoader$Catalogue", name := "<init>", desc := "(LCatalogueLoader;)V" } : Jvm.MethodName) "CatalogueLoader") ∈ lw_tbl := lw_at lw_m1 66 rfl
theorem q97 : (Jvm.Cond.fieldLinkNest "CatalogueLoader" (62 : Nat) "CatalogueLoader$Catalogue" "records" "[LCatalogueLoader$Record;" "CatalogueLoader") ∈ lw_tbl := lw_at lw_m1 77 rfl
theorem q100 : (Jvm.Cond.fieldLinkNest "CatalogueLoader" (118 : Nat) "CatalogueLoader$Catalogue" "hits" "[I" "CatalogueLoader") ∈ lw_tbl := lw_at lw_m1 80 rfl
theorem q109 : (Jvm.Cond.fieldLink "CatalogueLoader" (7 : Nat) "CatalogueLoader" "ranks" "[I") ∈ lw_all := lw_g (lw_at lw_m1 89 rfl) rfl
theorem q111 : (Jvm.Cond.fieldLink "CatalogueLoader" (13 : Nat) "CatalogueLoader" "rules" "[I") ∈ lw_all := lw_g (lw_at lw_m1 91 rfl) rfl
theorem q113 : (Jvm.Cond.fieldLink "CatalogueLoader" (16 : Nat) "CatalogueLoader" "order" "[I") ∈ lw_all := lw_g (lw_at lw_m1 93 rfl) rfl
theorem q115 : (Jvm.Cond.fieldLink "CatalogueLoader" (19 : Nat) "CatalogueLoader" "draftKeys" "[I") ∈ lw_all := lw_g (lw_at lw_m1 95 rfl) rfl
theorem q116 : (Jvm.Cond.fieldLink "CatalogueLoader" (22 : Nat) "CatalogueLoader" "draftFields" "[I") ∈ lw_all := lw_g (lw_at lw_m1 96 rfl) rfl
theorem q117 : (Jvm.Cond.fieldLink "CatalogueLoader" (25 : Nat) "CatalogueLoader" "isUndone" "[Z") ∈ lw_all := lw_g (lw_at lw_m1 97 rfl) rfl
theorem q119 : (Jvm.Cond.fieldLink "CatalogueLoader" (94 : Nat) "CatalogueLoader" "batches" "I") ∈ lw_all := lw_g (lw_at lw_m1 99 rfl) rfl
theorem q120 : (Jvm.Cond.fieldLink "CatalogueLoader" (73 : Nat) "CatalogueLoader" "loads" "I") ∈ lw_all := lw_g (lw_at lw_m1 100 rfl) rfl
theorem q121 : (Jvm.Cond.fieldLink "CatalogueLoader" (121 : Nat) "CatalogueLoader" "acts" "I") ∈ lw_all := lw_g (lw_at lw_m1 101 rfl) rfl
theorem q122 : (Jvm.Cond.fieldLink "CatalogueLoader" (32 : Nat) "CatalogueLoader" "events" "Ljava/util/ArrayList;") ∈ lw_all := lw_g (lw_at lw_m1 102 rfl) rfl
theorem q123 : (Jvm.Cond.fieldLink "CatalogueLoader" (41 : Nat) "CatalogueLoader" "now" "LCatalogueLoader$Catalogue;") ∈ lw_all := lw_g (lw_at lw_m1 103 rfl) rfl
theorem q124 : (Jvm.Cond.laysFinal "CatalogueLoader" "CatalogueLoader" "ranks" "[I") ∈ lw_all := lw_g (lw_at lw_m1 104 rfl) rfl
theorem q125 : (Jvm.Cond.soleField "CatalogueLoader" "ranks") ∈ lw_all := lw_g (lw_at lw_m1 105 rfl) rfl
theorem q126 : (Jvm.Cond.laysFinal "CatalogueLoader" "CatalogueLoader" "rules" "[I") ∈ lw_all := lw_g (lw_at lw_m1 106 rfl) rfl
theorem q127 : (Jvm.Cond.soleField "CatalogueLoader" "rules") ∈ lw_all := lw_g (lw_at lw_m1 107 rfl) rfl
theorem q128 : (Jvm.Cond.laysFinal "CatalogueLoader" "CatalogueLoader" "order" "[I") ∈ lw_all := lw_g (lw_at lw_m1 108 rfl) rfl
theorem q129 : (Jvm.Cond.soleField "CatalogueLoader" "order") ∈ lw_all := lw_g (lw_at lw_m1 109 rfl) rfl
theorem q130 : (Jvm.Cond.laysFinal "CatalogueLoader" "CatalogueLoader" "draftKeys" "[I") ∈ lw_all := lw_g (lw_at lw_m1 110 rfl) rfl
theorem q131 : (Jvm.Cond.soleField "CatalogueLoader" "draftKeys") ∈ lw_all := lw_g (lw_at lw_m1 111 rfl) rfl
theorem q132 : (Jvm.Cond.laysFinal "CatalogueLoader" "CatalogueLoader" "draftFields" "[I") ∈ lw_all := lw_g (lw_at lw_m1 112 rfl) rfl
theorem q133 : (Jvm.Cond.soleField "CatalogueLoader" "draftFields") ∈ lw_all := lw_g (lw_at lw_m1 113 rfl) rfl
theorem q134 : (Jvm.Cond.laysFinal "CatalogueLoader" "CatalogueLoader" "isUndone" "[Z") ∈ lw_all := lw_g (lw_at lw_m1 114 rfl) rfl
theorem q135 : (Jvm.Cond.soleField "CatalogueLoader" "isUndone") ∈ lw_all := lw_g (lw_at lw_m1 115 rfl) rfl
theorem q136 : (Jvm.Cond.lays "CatalogueLoader" "CatalogueLoader" "batches" "I") ∈ lw_all := lw_g (lw_at lw_m1 116 rfl) rfl
theorem q137 : (Jvm.Cond.soleField "CatalogueLoader" "batches") ∈ lw_all := lw_g (lw_at lw_m1 117 rfl) rfl
theorem q138 : (Jvm.Cond.lays "CatalogueLoader" "CatalogueLoader" "loads" "I") ∈ lw_all := lw_g (lw_at lw_m1 118 rfl) rfl
theorem q139 : (Jvm.Cond.soleField "CatalogueLoader" "loads") ∈ lw_all := lw_g (lw_at lw_m1 119 rfl) rfl
theorem q140 : (Jvm.Cond.lays "CatalogueLoader" "CatalogueLoader" "acts" "I") ∈ lw_all := lw_g (lw_at lw_m1 120 rfl) rfl
theorem q141 : (Jvm.Cond.soleField "CatalogueLoader" "acts") ∈ lw_all := lw_g (lw_at lw_m1 121 rfl) rfl
theorem q142 : (Jvm.Cond.laysFinal "CatalogueLoader" "CatalogueLoader" "events" "Ljava/util/ArrayList;") ∈ lw_all := lw_g (lw_at lw_m1 122 rfl) rfl
theorem q143 : (Jvm.Cond.soleField "CatalogueLoader" "events") ∈ lw_all := lw_g (lw_at lw_m1 123 rfl) rfl
theorem q144 : (Jvm.Cond.lays "CatalogueLoader" "CatalogueLoader" "now" "LCatalogueLoader$Catalogue;") ∈ lw_all := lw_g (lw_at lw_m1 124 rfl) rfl
theorem q145 : (Jvm.Cond.soleField "CatalogueLoader" "now") ∈ lw_all := lw_g (lw_at lw_m1 125 rfl) rfl
theorem q146 : (Jvm.Cond.superclass "CatalogueLoader" "java/lang/Object") ∈ lw_all := lw_g (lw_at lw_m1 126 rfl) rfl
theorem q148 : (Jvm.Cond.instanceMethod ({ cls := "CatalogueLoader", name := "batches", desc := "()I" } : Jvm.MethodName)) ∈ lw_all := lw_g (lw_at lw_m1 128 rfl) rfl
theorem q149 : (Jvm.Cond.selects "CatalogueLoader" ({ cls := "CatalogueLoader", name := "batches", desc := "()I" } : Jvm.MethodName) ({ cls := "CatalogueLoader", name := "batches", desc := "()I" } : Jvm.MethodName)) ∈ lw_all := lw_g (lw_at lw_m1 129 rfl) rfl
theorem q150 : (Jvm.Cond.code ({ cls := "CatalogueLoader", name := "batches", desc := "()I" } : Jvm.MethodName) prog_1_method_24_code (1 : Nat) (Option.some Jvm.ClassFile.FieldType.int)) ∈ lw_all := lw_g (lw_at lw_m1 130 rfl) rfl
theorem q152 : (Jvm.Cond.instanceMethod ({ cls := "CatalogueLoader", name := "loads", desc := "()I" } : Jvm.MethodName)) ∈ lw_all := lw_g (lw_at lw_m1 132 rfl) rfl
theorem q153 : (Jvm.Cond.selects "CatalogueLoader" ({ cls := "CatalogueLoader", name := "loads", desc := "()I" } : Jvm.MethodName) ({ cls := "CatalogueLoader", name := "loads", desc := "()I" } : Jvm.MethodName)) ∈ lw_all := lw_g (lw_at lw_m1 133 rfl) rfl
theorem q154 : (Jvm.Cond.code ({ cls := "CatalogueLoader", name := "loads", desc := "()I" } : Jvm.MethodName) prog_1_method_25_code (1 : Nat) (Option.some Jvm.ClassFile.FieldType.int)) ∈ lw_all := lw_g (lw_at lw_m1 134 rfl) rfl
theorem q156 : (Jvm.Cond.instanceMethod ({ cls := "CatalogueLoader", name := "records", desc := "()I" } : Jvm.MethodName)) ∈ lw_all := lw_g (lw_at lw_m1 136 rfl) rfl
theorem q157 : (Jvm.Cond.selects "CatalogueLoader" ({ cls := "CatalogueLoader", name := "records", desc := "()I" } : Jvm.MethodName) ({ cls := "CatalogueLoader", name := "records", desc := "()I" } : Jvm.MethodName)) ∈ lw_all := lw_g (lw_at lw_m1 137 rfl) rfl
theorem q158 : (Jvm.Cond.code ({ cls := "CatalogueLoader", name := "records", desc := "()I" } : Jvm.MethodName) prog_1_method_26_code (1 : Nat) (Option.some Jvm.ClassFile.FieldType.int)) ∈ lw_all := lw_g (lw_at lw_m1 138 rfl) rfl
theorem q159 : (Jvm.Cond.methodLink "CatalogueLoader" (170 : Nat) ({ cls := "CatalogueLoader$Catalogue", name := "count", desc := "()I" } : Jvm.MethodName)) ∈ lw_all := lw_g (lw_at lw_m1 139 rfl) rfl
theorem q164 : (Jvm.Cond.instanceMethod ({ cls := "CatalogueLoader", name := "isThere", desc := "(I)Z" } : Jvm.MethodName)) ∈ lw_all := lw_g (lw_at lw_m1 144 rfl) rfl
theorem q165 : (Jvm.Cond.selects "CatalogueLoader" ({ cls := "CatalogueLoader", name := "isThere", desc := "(I)Z" } : Jvm.MethodName) ({ cls := "CatalogueLoader", name := "isThere", desc := "(I)Z" } : Jvm.MethodName)) ∈ lw_all := lw_g (lw_at lw_m1 145 rfl) rfl
theorem q166 : (Jvm.Cond.code ({ cls := "CatalogueLoader", name := "isThere", desc := "(I)Z" } : Jvm.MethodName) prog_1_method_28_code (2 : Nat) (Option.some Jvm.ClassFile.FieldType.boolean)) ∈ lw_all := lw_g (lw_at lw_m1 146 rfl) rfl
theorem q167 : (Jvm.Cond.methodLink "CatalogueLoader" (54 : Nat) ({ cls := "CatalogueLoader$Catalogue", name := "has", desc := "(I)Z" } : Jvm.MethodName)) ∈ lw_all := lw_g (lw_at lw_m1 147 rfl) rfl
theorem q172 : (Jvm.Cond.instanceMethod ({ cls := "CatalogueLoader", name := "digest", desc := "()I" } : Jvm.MethodName)) ∈ lw_all := lw_g (lw_at lw_m1 152 rfl) rfl
theorem q173 : (Jvm.Cond.selects "CatalogueLoader" ({ cls := "CatalogueLoader", name := "digest", desc := "()I" } : Jvm.MethodName) ({ cls := "CatalogueLoader", name := "digest", desc := "()I" } : Jvm.MethodName)) ∈ lw_all := lw_g (lw_at lw_m1 153 rfl) rfl
theorem q174 : (Jvm.Cond.code ({ cls := "CatalogueLoader", name := "digest", desc := "()I" } : Jvm.MethodName) prog_1_method_34_code (1 : Nat) (Option.some Jvm.ClassFile.FieldType.int)) ∈ lw_all := lw_g (lw_at lw_m1 154 rfl) rfl
theorem q175 : (Jvm.Cond.methodLink "CatalogueLoader" (183 : Nat) ({ cls := "CatalogueLoader$Catalogue", name := "digest", desc := "()I" } : Jvm.MethodName)) ∈ lw_all := lw_g (lw_at lw_m1 155 rfl) rfl
theorem q183 : (Jvm.Cond.instanceMethod ({ cls := "CatalogueLoader", name := "digestAnew", desc := "()I" } : Jvm.MethodName)) ∈ lw_all := lw_g (lw_at lw_m1 163 rfl) rfl
theorem q184 : (Jvm.Cond.selects "CatalogueLoader" ({ cls := "CatalogueLoader", name := "digestAnew", desc := "()I" } : Jvm.MethodName) ({ cls := "CatalogueLoader", name := "digestAnew", desc := "()I" } : Jvm.MethodName)) ∈ lw_all := lw_g (lw_at lw_m1 164 rfl) rfl
theorem q185 : (Jvm.Cond.code ({ cls := "CatalogueLoader", name := "digestAnew", desc := "()I" } : Jvm.MethodName) prog_1_method_35_code (1 : Nat) (Option.some Jvm.ClassFile.FieldType.int)) ∈ lw_all := lw_g (lw_at lw_m1 165 rfl) rfl
theorem q186 : (Jvm.Cond.methodLink "CatalogueLoader" (166 : Nat) ({ cls := "CatalogueLoader", name := "made", desc := "()LCatalogueLoader$Catalogue;" } : Jvm.MethodName)) ∈ lw_all := lw_g (lw_at lw_m1 166 rfl) rfl
theorem q187 : (Jvm.Cond.privateMethod ({ cls := "CatalogueLoader", name := "made", desc := "()LCatalogueLoader$Catalogue;" } : Jvm.MethodName)) ∈ lw_tbl := lw_at lw_m1 167 rfl
theorem q188 : (Jvm.Cond.instanceMethod ({ cls := "CatalogueLoader", name := "made", desc := "()LCatalogueLoader$Catalogue;" } : Jvm.MethodName)) ∈ lw_all := lw_g (lw_at lw_m1 168 rfl) rfl
theorem q189 : (Jvm.Cond.code ({ cls := "CatalogueLoader", name := "made", desc := "()LCatalogueLoader$Catalogue;" } : Jvm.MethodName) prog_1_method_22_code (4 : Nat) (Option.some (Jvm.ClassFile.FieldType.object "CatalogueLoader$Catalogue"))) ∈ lw_all := lw_g (lw_at lw_m1 169 rfl) rfl
theorem q190 : (Jvm.Cond.methodLink "CatalogueLoader" (153 : Nat) ({ cls := "java/util/ArrayList", name := "iterator", desc := "()Ljava/util/Iterator;" } : Jvm.MethodName)) ∈ lw_all := lw_g (lw_at lw_m1 170 rfl) rfl
theorem q213 : (Jvm.Cond.interfaceEntry "CatalogueLoader" (157 : Nat)) ∈ lw_tbl := lw_at lw_m1 193 rfl
theorem q214 : (Jvm.Cond.methodLink "CatalogueLoader" (157 : Nat) ({ cls := "java/util/Iterator", name := "hasNext", desc := "()Z" } : Jvm.MethodName)) ∈ lw_all := lw_g (lw_at lw_m1 194 rfl) rfl
theorem q223 : (Jvm.Cond.interfaceEntry "CatalogueLoader" (163 : Nat)) ∈ lw_tbl := lw_at lw_m1 203 rfl
theorem q224 : (Jvm.Cond.methodLink "CatalogueLoader" (163 : Nat) ({ cls := "java/util/Iterator", name := "next", desc := "()Ljava/lang/Object;" } : Jvm.MethodName)) ∈ lw_all := lw_g (lw_at lw_m1 204 rfl) rfl
theorem q236 : (Jvm.Cond.classLink "CatalogueLoader" (89 : Nat) "CatalogueLoader$Event") ∈ lw_all := lw_g (lw_at lw_m1 216 rfl) rfl
theorem q237 : (Jvm.Cond.interfaceEntry "CatalogueLoader" (88 : Nat)) ∈ lw_tbl := lw_at lw_m1 217 rfl
theorem q238 : (Jvm.Cond.methodLink "CatalogueLoader" (88 : Nat) ({ cls := "CatalogueLoader$Event", name := "doTo", desc := "(LCatalogueLoader$Catalogue;)V" } : Jvm.MethodName)) ∈ lw_all := lw_g (lw_at lw_m1 218 rfl) rfl
theorem q271 : (Jvm.Cond.fieldLinkNest "CatalogueLoader" (174 : Nat) "CatalogueLoader$Record" "keys" "[I" "CatalogueLoader") ∈ lw_tbl := lw_at lw_m2 11 rfl
theorem q275 : (Jvm.Cond.fieldLinkNest "CatalogueLoader" (177 : Nat) "CatalogueLoader$Record" "fields" "[I" "CatalogueLoader") ∈ lw_tbl := lw_at lw_m2 15 rfl
theorem q279 : (Jvm.Cond.fieldLinkNest "CatalogueLoader" (180 : Nat) "CatalogueLoader$Record" "sources" "[I" "CatalogueLoader") ∈ lw_tbl := lw_at lw_m2 19 rfl
theorem q283 : (Jvm.Cond.fieldLinkNest "CatalogueLoader" (128 : Nat) "CatalogueLoader$Record" "isProtected" "[Z" "CatalogueLoader") ∈ lw_tbl := lw_at lw_m2 23 rfl
theorem q287 : (Jvm.Cond.fieldLinkNest "CatalogueLoader" (145 : Nat) "CatalogueLoader$Record" "holdings" "I" "CatalogueLoader") ∈ lw_tbl := lw_at lw_m2 27 rfl
theorem q414 : (Jvm.Cond.instanceMethod ({ cls := "CatalogueLoader", name := "setRank", desc := "(II)I" } : Jvm.MethodName)) ∈ lw_all := lw_g (lw_at lw_m2 154 rfl) rfl
theorem q415 : (Jvm.Cond.selects "CatalogueLoader" ({ cls := "CatalogueLoader", name := "setRank", desc := "(II)I" } : Jvm.MethodName) ({ cls := "CatalogueLoader", name := "setRank", desc := "(II)I" } : Jvm.MethodName)) ∈ lw_all := lw_g (lw_at lw_m2 155 rfl) rfl
theorem q416 : (Jvm.Cond.code ({ cls := "CatalogueLoader", name := "setRank", desc := "(II)I" } : Jvm.MethodName) prog_1_method_9_code (4 : Nat) (Option.some Jvm.ClassFile.FieldType.int)) ∈ lw_all := lw_g (lw_at lw_m2 156 rfl) rfl
theorem q417 : (Jvm.Cond.methodLink "CatalogueLoader" (66 : Nat) ({ cls := "CatalogueLoader", name := "in", desc := "(III)Z" } : Jvm.MethodName)) ∈ lw_all := lw_g (lw_at lw_m2 157 rfl) rfl
theorem q418 : (Jvm.Cond.static ({ cls := "CatalogueLoader", name := "in", desc := "(III)Z" } : Jvm.MethodName)) ∈ lw_all := lw_g (lw_at lw_m2 158 rfl) rfl
theorem q419 : (Jvm.Cond.code ({ cls := "CatalogueLoader", name := "in", desc := "(III)Z" } : Jvm.MethodName) prog_1_method_2_code (3 : Nat) (Option.some Jvm.ClassFile.FieldType.boolean)) ∈ lw_all := lw_g (lw_at lw_m2 159 rfl) rfl
theorem q420 : (Jvm.Cond.methodLink "CatalogueLoader" (58 : Nat) ({ cls := "CatalogueLoader", name := "needIndex", desc := "(Z)V" } : Jvm.MethodName)) ∈ lw_all := lw_g (lw_at lw_m2 160 rfl) rfl
theorem q421 : (Jvm.Cond.static ({ cls := "CatalogueLoader", name := "needIndex", desc := "(Z)V" } : Jvm.MethodName)) ∈ lw_all := lw_g (lw_at lw_m2 161 rfl) rfl
theorem q422 : (Jvm.Cond.code ({ cls := "CatalogueLoader", name := "needIndex", desc := "(Z)V" } : Jvm.MethodName) prog_1_method_3_code (1 : Nat) (Option.none : Option Jvm.ClassFile.FieldType)) ∈ lw_all := lw_g (lw_at lw_m2 162 rfl) rfl
theorem q423 : (Jvm.Cond.classLink "CatalogueLoader" (45 : Nat) "java/lang/IndexOutOfBoundsException") ∈ lw_all := lw_g (lw_at lw_m2 163 rfl) rfl
theorem q432 : (Jvm.Cond.methodLink "CatalogueLoader" (47 : Nat) ({ cls := "java/lang/IndexOutOfBoundsException", name := "<init>", desc := "()V" } : Jvm.MethodName)) ∈ lw_all := lw_g (lw_at lw_m2 172 rfl) rfl
theorem q444 : (Jvm.Cond.methodLink "CatalogueLoader" (70 : Nat) ({ cls := "CatalogueLoader", name := "need", desc := "(Z)V" } : Jvm.MethodName)) ∈ lw_all := lw_g (lw_at lw_m2 184 rfl) rfl
theorem q445 : (Jvm.Cond.static ({ cls := "CatalogueLoader", name := "need", desc := "(Z)V" } : Jvm.MethodName)) ∈ lw_all := lw_g (lw_at lw_m2 185 rfl) rfl
theorem q446 : (Jvm.Cond.code ({ cls := "CatalogueLoader", name := "need", desc := "(Z)V" } : Jvm.MethodName) prog_1_method_4_code (1 : Nat) (Option.none : Option Jvm.ClassFile.FieldType)) ∈ lw_all := lw_g (lw_at lw_m2 186 rfl) rfl
theorem q447 : (Jvm.Cond.classLink "CatalogueLoader" (48 : Nat) "java/lang/IllegalArgumentException") ∈ lw_all := lw_g (lw_at lw_m2 187 rfl) rfl
theorem q456 : (Jvm.Cond.methodLink "CatalogueLoader" (50 : Nat) ({ cls := "java/lang/IllegalArgumentException", name := "<init>", desc := "()V" } : Jvm.MethodName)) ∈ lw_all := lw_g (lw_at lw_m2 196 rfl) rfl
theorem q462 : (Jvm.Cond.methodLink "CatalogueLoader" (77 : Nat) ({ cls := "CatalogueLoader", name := "needState", desc := "(Z)V" } : Jvm.MethodName)) ∈ lw_all := lw_g (lw_at lw_m2 202 rfl) rfl
theorem q463 : (Jvm.Cond.static ({ cls := "CatalogueLoader", name := "needState", desc := "(Z)V" } : Jvm.MethodName)) ∈ lw_all := lw_g (lw_at lw_m2 203 rfl) rfl
theorem q464 : (Jvm.Cond.code ({ cls := "CatalogueLoader", name := "needState", desc := "(Z)V" } : Jvm.MethodName) prog_1_method_5_code (1 : Nat) (Option.none : Option Jvm.ClassFile.FieldType)) ∈ lw_all := lw_g (lw_at lw_m2 204 rfl) rfl
theorem q465 : (Jvm.Cond.classLink "CatalogueLoader" (51 : Nat) "java/lang/IllegalStateException") ∈ lw_all := lw_g (lw_at lw_m2 205 rfl) rfl
theorem q474 : (Jvm.Cond.methodLink "CatalogueLoader" (53 : Nat) ({ cls := "java/lang/IllegalStateException", name := "<init>", desc := "()V" } : Jvm.MethodName)) ∈ lw_all := lw_g (lw_at lw_m2 214 rfl) rfl
theorem q484 : (Jvm.Cond.instanceMethod ({ cls := "CatalogueLoader", name := "setRule", desc := "(II)I" } : Jvm.MethodName)) ∈ lw_all := lw_g (lw_at lw_m2 224 rfl) rfl
theorem q485 : (Jvm.Cond.selects "CatalogueLoader" ({ cls := "CatalogueLoader", name := "setRule", desc := "(II)I" } : Jvm.MethodName) ({ cls := "CatalogueLoader", name := "setRule", desc := "(II)I" } : Jvm.MethodName)) ∈ lw_all := lw_g (lw_at lw_m2 225 rfl) rfl
theorem q486 : (Jvm.Cond.code ({ cls := "CatalogueLoader", name := "setRule", desc := "(II)I" } : Jvm.MethodName) prog_1_method_10_code (4 : Nat) (Option.some Jvm.ClassFile.FieldType.int)) ∈ lw_all := lw_g (lw_at lw_m2 226 rfl) rfl
theorem q487 : (Jvm.Cond.methodLink "CatalogueLoader" (80 : Nat) ({ cls := "CatalogueLoader", name := "needField", desc := "(I)V" } : Jvm.MethodName)) ∈ lw_all := lw_g (lw_at lw_m2 227 rfl) rfl
theorem q488 : (Jvm.Cond.static ({ cls := "CatalogueLoader", name := "needField", desc := "(I)V" } : Jvm.MethodName)) ∈ lw_all := lw_g (lw_at lw_m2 228 rfl) rfl
theorem q489 : (Jvm.Cond.code ({ cls := "CatalogueLoader", name := "needField", desc := "(I)V" } : Jvm.MethodName) prog_1_method_8_code (1 : Nat) (Option.none : Option Jvm.ClassFile.FieldType)) ∈ lw_all := lw_g (lw_at lw_m2 229 rfl) rfl
theorem q494 : (Jvm.Cond.instanceMethod ({ cls := "CatalogueLoader", name := "setOrder", desc := "(III)V" } : Jvm.MethodName)) ∈ lw_all := lw_g (lw_at lw_m2 234 rfl) rfl
theorem q495 : (Jvm.Cond.selects "CatalogueLoader" ({ cls := "CatalogueLoader", name := "setOrder", desc := "(III)V" } : Jvm.MethodName) ({ cls := "CatalogueLoader", name := "setOrder", desc := "(III)V" } : Jvm.MethodName)) ∈ lw_all := lw_g (lw_at lw_m2 235 rfl) rfl
theorem q496 : (Jvm.Cond.code ({ cls := "CatalogueLoader", name := "setOrder", desc := "(III)V" } : Jvm.MethodName) prog_1_method_11_code (5 : Nat) (Option.none : Option Jvm.ClassFile.FieldType)) ∈ lw_all := lw_g (lw_at lw_m2 236 rfl) rfl
theorem q501 : (Jvm.Cond.instanceMethod ({ cls := "CatalogueLoader", name := "beginBatch", desc := "()I" } : Jvm.MethodName)) ∈ lw_all := lw_g (lw_at lw_m3 1 rfl) rfl
theorem q502 : (Jvm.Cond.selects "CatalogueLoader" ({ cls := "CatalogueLoader", name := "beginBatch", desc := "()I" } : Jvm.MethodName) ({ cls := "CatalogueLoader", name := "beginBatch", desc := "()I" } : Jvm.MethodName)) ∈ lw_all := lw_g (lw_at lw_m3 2 rfl) rfl
theorem q503 : (Jvm.Cond.code ({ cls := "CatalogueLoader", name := "beginBatch", desc := "()I" } : Jvm.MethodName) prog_1_method_13_code (1 : Nat) (Option.some Jvm.ClassFile.FieldType.int)) ∈ lw_all := lw_g (lw_at lw_m3 3 rfl) rfl
theorem q508 : (Jvm.Cond.instanceMethod ({ cls := "CatalogueLoader", name := "key", desc := "(II)I" } : Jvm.MethodName)) ∈ lw_all := lw_g (lw_at lw_m3 8 rfl) rfl
theorem q509 : (Jvm.Cond.selects "CatalogueLoader" ({ cls := "CatalogueLoader", name := "key", desc := "(II)I" } : Jvm.MethodName) ({ cls := "CatalogueLoader", name := "key", desc := "(II)I" } : Jvm.MethodName)) ∈ lw_all := lw_g (lw_at lw_m3 9 rfl) rfl
theorem q510 : (Jvm.Cond.code ({ cls := "CatalogueLoader", name := "key", desc := "(II)I" } : Jvm.MethodName) prog_1_method_14_code (4 : Nat) (Option.some Jvm.ClassFile.FieldType.int)) ∈ lw_all := lw_g (lw_at lw_m3 10 rfl) rfl
theorem q511 : (Jvm.Cond.methodLink "CatalogueLoader" (97 : Nat) ({ cls := "CatalogueLoader", name := "needKey", desc := "(I)V" } : Jvm.MethodName)) ∈ lw_all := lw_g (lw_at lw_m3 11 rfl) rfl
theorem q512 : (Jvm.Cond.static ({ cls := "CatalogueLoader", name := "needKey", desc := "(I)V" } : Jvm.MethodName)) ∈ lw_all := lw_g (lw_at lw_m3 12 rfl) rfl
theorem q513 : (Jvm.Cond.code ({ cls := "CatalogueLoader", name := "needKey", desc := "(I)V" } : Jvm.MethodName) prog_1_method_7_code (1 : Nat) (Option.none : Option Jvm.ClassFile.FieldType)) ∈ lw_all := lw_g (lw_at lw_m3 13 rfl) rfl
theorem q518 : (Jvm.Cond.instanceMethod ({ cls := "CatalogueLoader", name := "field", desc := "(II)I" } : Jvm.MethodName)) ∈ lw_all := lw_g (lw_at lw_m3 18 rfl) rfl
theorem q519 : (Jvm.Cond.selects "CatalogueLoader" ({ cls := "CatalogueLoader", name := "field", desc := "(II)I" } : Jvm.MethodName) ({ cls := "CatalogueLoader", name := "field", desc := "(II)I" } : Jvm.MethodName)) ∈ lw_all := lw_g (lw_at lw_m3 19 rfl) rfl
theorem q520 : (Jvm.Cond.code ({ cls := "CatalogueLoader", name := "field", desc := "(II)I" } : Jvm.MethodName) prog_1_method_15_code (4 : Nat) (Option.some Jvm.ClassFile.FieldType.int)) ∈ lw_all := lw_g (lw_at lw_m3 20 rfl) rfl
theorem q525 : (Jvm.Cond.instanceMethod ({ cls := "CatalogueLoader", name := "load", desc := "(I)I" } : Jvm.MethodName)) ∈ lw_all := lw_g (lw_at lw_m3 25 rfl) rfl
theorem q526 : (Jvm.Cond.selects "CatalogueLoader" ({ cls := "CatalogueLoader", name := "load", desc := "(I)I" } : Jvm.MethodName) ({ cls := "CatalogueLoader", name := "load", desc := "(I)I" } : Jvm.MethodName)) ∈ lw_all := lw_g (lw_at lw_m3 26 rfl) rfl
theorem q527 : (Jvm.Cond.code ({ cls := "CatalogueLoader", name := "load", desc := "(I)I" } : Jvm.MethodName) prog_1_method_17_code (2 : Nat) (Option.some Jvm.ClassFile.FieldType.int)) ∈ lw_all := lw_g (lw_at lw_m3 27 rfl) rfl
theorem q528 : (Jvm.Cond.classLink "CatalogueLoader" (105 : Nat) "CatalogueLoader$Load") ∈ lw_all := lw_g (lw_at lw_m3 28 rfl) rfl
theorem q530 : (Jvm.Cond.methodLink "CatalogueLoader" (107 : Nat) ({ cls := "CatalogueLoader", name := "taken", desc := "([I)[I" } : Jvm.MethodName)) ∈ lw_all := lw_g (lw_at lw_m3 30 rfl) rfl
theorem q531 : (Jvm.Cond.static ({ cls := "CatalogueLoader", name := "taken", desc := "([I)[I" } : Jvm.MethodName)) ∈ lw_all := lw_g (lw_at lw_m3 31 rfl) rfl
theorem q532 : (Jvm.Cond.code ({ cls := "CatalogueLoader", name := "taken", desc := "([I)[I" } : Jvm.MethodName) prog_1_method_16_code (3 : Nat) (Option.some (Jvm.ClassFile.FieldType.array Jvm.ClassFile.FieldType.int))) ∈ lw_all := lw_g (lw_at lw_m3 32 rfl) rfl
theorem q533 : (Jvm.Cond.methodLink "CatalogueLoader" (100 : Nat) ({ cls := "[I", name := "clone", desc := "()Ljava/lang/Object;" } : Jvm.MethodName)) ∈ lw_all := lw_g (lw_at lw_m3 33 rfl) rfl
theorem q539 : (Jvm.Cond.classLink "CatalogueLoader" (101 : Nat) "[I") ∈ lw_all := lw_g (lw_at lw_m3 39 rfl) rfl
theorem q540 : (Jvm.Cond.methodLink "CatalogueLoader" (111 : Nat) ({ cls := "CatalogueLoader$Load", name := "<init>", desc := "(LCatalogueLoader;III[I[I)V" } : Jvm.MethodName)) ∈ lw_all := lw_g (lw_at lw_m3 40 rfl) rfl
theorem q566 : (Jvm.Cond.methodLink "CatalogueLoader" (114 : Nat) ({ cls := "CatalogueLoader", name := "happen", desc := "(LCatalogueLoader$Event;)V" } : Jvm.MethodName)) ∈ lw_all := lw_g (lw_at lw_m3 66 rfl) rfl
theorem q567 : (Jvm.Cond.privateMethod ({ cls := "CatalogueLoader", name := "happen", desc := "(LCatalogueLoader$Event;)V" } : Jvm.MethodName)) ∈ lw_tbl := lw_at lw_m3 67 rfl
theorem q568 : (Jvm.Cond.instanceMethod ({ cls := "CatalogueLoader", name := "happen", desc := "(LCatalogueLoader$Event;)V" } : Jvm.MethodName)) ∈ lw_all := lw_g (lw_at lw_m3 68 rfl) rfl
theorem q569 : (Jvm.Cond.code ({ cls := "CatalogueLoader", name := "happen", desc := "(LCatalogueLoader$Event;)V" } : Jvm.MethodName) prog_1_method_12_code (2 : Nat) (Option.none : Option Jvm.ClassFile.FieldType)) ∈ lw_all := lw_g (lw_at lw_m3 69 rfl) rfl
theorem q570 : (Jvm.Cond.methodLink "CatalogueLoader" (84 : Nat) ({ cls := "java/util/ArrayList", name := "add", desc := "(Ljava/lang/Object;)Z" } : Jvm.MethodName)) ∈ lw_all := lw_g (lw_at lw_m3 70 rfl) rfl
theorem q600 : (Jvm.Cond.selects "CatalogueLoader" ({ cls := "java/lang/Object", name := "getClass", desc := "()Ljava/lang/Class;" } : Jvm.MethodName) ({ cls := "java/lang/Object", name := "getClass", desc := "()Ljava/lang/Class;" } : Jvm.MethodName)) ∈ lw_all := lw_g (lw_at lw_m3 100 rfl) rfl
theorem q633 : (Jvm.Cond.instanceMethod ({ cls := "CatalogueLoader", name := "protect", desc := "(IIZ)Z" } : Jvm.MethodName)) ∈ lw_all := lw_g (lw_at lw_m3 133 rfl) rfl
theorem q634 : (Jvm.Cond.selects "CatalogueLoader" ({ cls := "CatalogueLoader", name := "protect", desc := "(IIZ)Z" } : Jvm.MethodName) ({ cls := "CatalogueLoader", name := "protect", desc := "(IIZ)Z" } : Jvm.MethodName)) ∈ lw_all := lw_g (lw_at lw_m3 134 rfl) rfl
theorem q635 : (Jvm.Cond.code ({ cls := "CatalogueLoader", name := "protect", desc := "(IIZ)Z" } : Jvm.MethodName) prog_1_method_19_code (6 : Nat) (Option.some Jvm.ClassFile.FieldType.boolean)) ∈ lw_all := lw_g (lw_at lw_m3 135 rfl) rfl
theorem q636 : (Jvm.Cond.methodLink "CatalogueLoader" (124 : Nat) ({ cls := "CatalogueLoader", name := "record", desc := "(I)LCatalogueLoader$Record;" } : Jvm.MethodName)) ∈ lw_all := lw_g (lw_at lw_m3 136 rfl) rfl
theorem q637 : (Jvm.Cond.privateMethod ({ cls := "CatalogueLoader", name := "record", desc := "(I)LCatalogueLoader$Record;" } : Jvm.MethodName)) ∈ lw_tbl := lw_at lw_m3 137 rfl
theorem q638 : (Jvm.Cond.instanceMethod ({ cls := "CatalogueLoader", name := "record", desc := "(I)LCatalogueLoader$Record;" } : Jvm.MethodName)) ∈ lw_all := lw_g (lw_at lw_m3 138 rfl) rfl
theorem q639 : (Jvm.Cond.code ({ cls := "CatalogueLoader", name := "record", desc := "(I)LCatalogueLoader$Record;" } : Jvm.MethodName) prog_1_method_6_code (2 : Nat) (Option.some (Jvm.ClassFile.FieldType.object "CatalogueLoader$Record"))) ∈ lw_all := lw_g (lw_at lw_m3 139 rfl) rfl
theorem q640 : (Jvm.Cond.classLink "CatalogueLoader" (133 : Nat) "CatalogueLoader$Protecting") ∈ lw_all := lw_g (lw_at lw_m3 140 rfl) rfl
theorem q642 : (Jvm.Cond.methodLink "CatalogueLoader" (135 : Nat) ({ cls := "CatalogueLoader$Protecting", name := "<init>", desc := "(IIZ)V" } : Jvm.MethodName)) ∈ lw_all := lw_g (lw_at lw_m3 142 rfl) rfl
theorem q656 : (Jvm.Cond.methodLink "CatalogueLoader" (138 : Nat) ({ cls := "CatalogueLoader", name := "act", desc := "(LCatalogueLoader$Event;)V" } : Jvm.MethodName)) ∈ lw_all := lw_g (lw_at lw_m3 156 rfl) rfl
theorem q657 : (Jvm.Cond.privateMethod ({ cls := "CatalogueLoader", name := "act", desc := "(LCatalogueLoader$Event;)V" } : Jvm.MethodName)) ∈ lw_tbl := lw_at lw_m3 157 rfl
theorem q658 : (Jvm.Cond.instanceMethod ({ cls := "CatalogueLoader", name := "act", desc := "(LCatalogueLoader$Event;)V" } : Jvm.MethodName)) ∈ lw_all := lw_g (lw_at lw_m3 158 rfl) rfl
theorem q659 : (Jvm.Cond.code ({ cls := "CatalogueLoader", name := "act", desc := "(LCatalogueLoader$Event;)V" } : Jvm.MethodName) prog_1_method_18_code (2 : Nat) (Option.none : Option Jvm.ClassFile.FieldType)) ∈ lw_all := lw_g (lw_at lw_m3 159 rfl) rfl
theorem q664 : (Jvm.Cond.instanceMethod ({ cls := "CatalogueLoader", name := "hold", desc := "(I)I" } : Jvm.MethodName)) ∈ lw_all := lw_g (lw_at lw_m3 164 rfl) rfl
theorem q665 : (Jvm.Cond.selects "CatalogueLoader" ({ cls := "CatalogueLoader", name := "hold", desc := "(I)I" } : Jvm.MethodName) ({ cls := "CatalogueLoader", name := "hold", desc := "(I)I" } : Jvm.MethodName)) ∈ lw_all := lw_g (lw_at lw_m3 165 rfl) rfl
theorem q666 : (Jvm.Cond.code ({ cls := "CatalogueLoader", name := "hold", desc := "(I)I" } : Jvm.MethodName) prog_1_method_20_code (3 : Nat) (Option.some Jvm.ClassFile.FieldType.int)) ∈ lw_all := lw_g (lw_at lw_m3 166 rfl) rfl
theorem q667 : (Jvm.Cond.classLink "CatalogueLoader" (141 : Nat) "CatalogueLoader$Holding") ∈ lw_all := lw_g (lw_at lw_m3 167 rfl) rfl
theorem q669 : (Jvm.Cond.methodLink "CatalogueLoader" (143 : Nat) ({ cls := "CatalogueLoader$Holding", name := "<init>", desc := "(I)V" } : Jvm.MethodName)) ∈ lw_all := lw_g (lw_at lw_m3 169 rfl) rfl
theorem q681 : (Jvm.Cond.instanceMethod ({ cls := "CatalogueLoader", name := "merge", desc := "(II)I" } : Jvm.MethodName)) ∈ lw_all := lw_g (lw_at lw_m3 181 rfl) rfl
theorem q682 : (Jvm.Cond.selects "CatalogueLoader" ({ cls := "CatalogueLoader", name := "merge", desc := "(II)I" } : Jvm.MethodName) ({ cls := "CatalogueLoader", name := "merge", desc := "(II)I" } : Jvm.MethodName)) ∈ lw_all := lw_g (lw_at lw_m3 182 rfl) rfl
theorem q683 : (Jvm.Cond.code ({ cls := "CatalogueLoader", name := "merge", desc := "(II)I" } : Jvm.MethodName) prog_1_method_21_code (4 : Nat) (Option.some Jvm.ClassFile.FieldType.int)) ∈ lw_all := lw_g (lw_at lw_m3 183 rfl) rfl
theorem q684 : (Jvm.Cond.classLink "CatalogueLoader" (148 : Nat) "CatalogueLoader$Merging") ∈ lw_all := lw_g (lw_at lw_m3 184 rfl) rfl
theorem q686 : (Jvm.Cond.methodLink "CatalogueLoader" (150 : Nat) ({ cls := "CatalogueLoader$Merging", name := "<init>", desc := "(II)V" } : Jvm.MethodName)) ∈ lw_all := lw_g (lw_at lw_m3 186 rfl) rfl
theorem q701 : (Jvm.Cond.instanceMethod ({ cls := "CatalogueLoader", name := "undo", desc := "(IZ)I" } : Jvm.MethodName)) ∈ lw_all := lw_g (lw_at lw_m3 201 rfl) rfl
theorem q702 : (Jvm.Cond.selects "CatalogueLoader" ({ cls := "CatalogueLoader", name := "undo", desc := "(IZ)I" } : Jvm.MethodName) ({ cls := "CatalogueLoader", name := "undo", desc := "(IZ)I" } : Jvm.MethodName)) ∈ lw_all := lw_g (lw_at lw_m3 202 rfl) rfl
theorem q703 : (Jvm.Cond.code ({ cls := "CatalogueLoader", name := "undo", desc := "(IZ)I" } : Jvm.MethodName) prog_1_method_23_code (3 : Nat) (Option.some Jvm.ClassFile.FieldType.int)) ∈ lw_all := lw_g (lw_at lw_m3 203 rfl) rfl
theorem q708 : (Jvm.Cond.instanceMethod ({ cls := "CatalogueLoader", name := "isUndone", desc := "(I)Z" } : Jvm.MethodName)) ∈ lw_all := lw_g (lw_at lw_m3 208 rfl) rfl
theorem q709 : (Jvm.Cond.selects "CatalogueLoader" ({ cls := "CatalogueLoader", name := "isUndone", desc := "(I)Z" } : Jvm.MethodName) ({ cls := "CatalogueLoader", name := "isUndone", desc := "(I)Z" } : Jvm.MethodName)) ∈ lw_all := lw_g (lw_at lw_m3 209 rfl) rfl
theorem q710 : (Jvm.Cond.code ({ cls := "CatalogueLoader", name := "isUndone", desc := "(I)Z" } : Jvm.MethodName) prog_1_method_27_code (2 : Nat) (Option.some Jvm.ClassFile.FieldType.boolean)) ∈ lw_all := lw_g (lw_at lw_m3 210 rfl) rfl
theorem q715 : (Jvm.Cond.instanceMethod ({ cls := "CatalogueLoader", name := "hit", desc := "(I)I" } : Jvm.MethodName)) ∈ lw_all := lw_g (lw_at lw_m3 215 rfl) rfl
theorem q716 : (Jvm.Cond.selects "CatalogueLoader" ({ cls := "CatalogueLoader", name := "hit", desc := "(I)I" } : Jvm.MethodName) ({ cls := "CatalogueLoader", name := "hit", desc := "(I)I" } : Jvm.MethodName)) ∈ lw_all := lw_g (lw_at lw_m3 216 rfl) rfl
theorem q717 : (Jvm.Cond.code ({ cls := "CatalogueLoader", name := "hit", desc := "(I)I" } : Jvm.MethodName) prog_1_method_29_code (2 : Nat) (Option.some Jvm.ClassFile.FieldType.int)) ∈ lw_all := lw_g (lw_at lw_m3 217 rfl) rfl
theorem q722 : (Jvm.Cond.instanceMethod ({ cls := "CatalogueLoader", name := "keyOf", desc := "(II)I" } : Jvm.MethodName)) ∈ lw_all := lw_g (lw_at lw_m3 222 rfl) rfl
theorem q723 : (Jvm.Cond.selects "CatalogueLoader" ({ cls := "CatalogueLoader", name := "keyOf", desc := "(II)I" } : Jvm.MethodName) ({ cls := "CatalogueLoader", name := "keyOf", desc := "(II)I" } : Jvm.MethodName)) ∈ lw_all := lw_g (lw_at lw_m3 223 rfl) rfl
theorem q724 : (Jvm.Cond.code ({ cls := "CatalogueLoader", name := "keyOf", desc := "(II)I" } : Jvm.MethodName) prog_1_method_30_code (4 : Nat) (Option.some Jvm.ClassFile.FieldType.int)) ∈ lw_all := lw_g (lw_at lw_m3 224 rfl) rfl
theorem q729 : (Jvm.Cond.instanceMethod ({ cls := "CatalogueLoader", name := "fieldOf", desc := "(II)I" } : Jvm.MethodName)) ∈ lw_all := lw_g (lw_at lw_m3 229 rfl) rfl
theorem q730 : (Jvm.Cond.selects "CatalogueLoader" ({ cls := "CatalogueLoader", name := "fieldOf", desc := "(II)I" } : Jvm.MethodName) ({ cls := "CatalogueLoader", name := "fieldOf", desc := "(II)I" } : Jvm.MethodName)) ∈ lw_all := lw_g (lw_at lw_m3 230 rfl) rfl
theorem q731 : (Jvm.Cond.code ({ cls := "CatalogueLoader", name := "fieldOf", desc := "(II)I" } : Jvm.MethodName) prog_1_method_31_code (4 : Nat) (Option.some Jvm.ClassFile.FieldType.int)) ∈ lw_all := lw_g (lw_at lw_m3 231 rfl) rfl
theorem q736 : (Jvm.Cond.instanceMethod ({ cls := "CatalogueLoader", name := "sourceOf", desc := "(II)I" } : Jvm.MethodName)) ∈ lw_all := lw_g (lw_at lw_m3 236 rfl) rfl
theorem q737 : (Jvm.Cond.selects "CatalogueLoader" ({ cls := "CatalogueLoader", name := "sourceOf", desc := "(II)I" } : Jvm.MethodName) ({ cls := "CatalogueLoader", name := "sourceOf", desc := "(II)I" } : Jvm.MethodName)) ∈ lw_all := lw_g (lw_at lw_m3 237 rfl) rfl
theorem q738 : (Jvm.Cond.code ({ cls := "CatalogueLoader", name := "sourceOf", desc := "(II)I" } : Jvm.MethodName) prog_1_method_32_code (4 : Nat) (Option.some Jvm.ClassFile.FieldType.int)) ∈ lw_all := lw_g (lw_at lw_m3 238 rfl) rfl
theorem q743 : (Jvm.Cond.instanceMethod ({ cls := "CatalogueLoader", name := "holdings", desc := "(I)I" } : Jvm.MethodName)) ∈ lw_all := lw_g (lw_at lw_m4 3 rfl) rfl
theorem q744 : (Jvm.Cond.selects "CatalogueLoader" ({ cls := "CatalogueLoader", name := "holdings", desc := "(I)I" } : Jvm.MethodName) ({ cls := "CatalogueLoader", name := "holdings", desc := "(I)I" } : Jvm.MethodName)) ∈ lw_all := lw_g (lw_at lw_m4 4 rfl) rfl
theorem q745 : (Jvm.Cond.code ({ cls := "CatalogueLoader", name := "holdings", desc := "(I)I" } : Jvm.MethodName) prog_1_method_33_code (2 : Nat) (Option.some Jvm.ClassFile.FieldType.int)) ∈ lw_all := lw_g (lw_at lw_m4 5 rfl) rfl
theorem q980 : (Jvm.Cond.castable "CatalogueLoader" "java/lang/Object") ∈ lw_tbl := lw_at lw_m5 0 rfl
theorem in_X1 : ∀ w ∈ wsX10, w ∈ lw_all := lw_in wsX10 [124, 126, 128, 130, 132, 134, 136, 138, 140, 142, 144] (by decide +kernel) (by decide +kernel)

/-! CatalogueLoader$Catalogue -/
set_option maxRecDepth 100000
def RX2 : String := "CatalogueLoader$Catalogue"
def TX2 : u_T := fun k => match k with
  | 0 => ("CatalogueLoader$Catalogue", "records", "[LCatalogueLoader$Record;", true)
  | 1 => ("CatalogueLoader$Catalogue", "hits", "[I", true)
  | _ => ("CatalogueLoader$Catalogue", "this$0", "LCatalogueLoader;", true)
def tyX2 : Nat → FieldType := fun k => match k with
  | 0 => .array (.object "CatalogueLoader$Record")
  | 1 => .array .int
  | _ => .object "CatalogueLoader"
abbrev wsX20 : List Cond := u_ws RX2 TX2 3
theorem nmX2 : ∀ a, a < 3 → ∀ b, b < 3 → a ≠ b → (TX2 a).2.1 ≠ (TX2 b).2.1 := by decide +kernel
theorem tyX2_ok : ∀ k, k < 3 → parseFieldDescriptor (TX2 k).2.2.1 = some (tyX2 k) := by decide +kernel
abbrev cX2_init : ByteArray := prog_2_method_1_code
def yX2_init : MethodName := ⟨RX2, "<init>", "(LCatalogueLoader;)V"⟩
def dkwX2_init_1 : List UInt8 := [181, 0, 21, 177]
abbrev dktX2_init_1 : List UInt8 := dkwX2_init_1 ++ []
def dkwX2_init_0 : List UInt8 := [42, 43, 181, 0, 3, 42, 183, 0, 9, 42, 16, 80, 189, 0, 15, 181, 0, 17, 42, 16, 80, 188, 10]
abbrev dktX2_init_0 : List UInt8 := dkwX2_init_0 ++ dktX2_init_1
theorem dksX2_init_0 : cX2_init.data.toList.drop 0 = dktX2_init_0 := by decide +kernel
theorem dksX2_init_1 : cX2_init.data.toList.drop 23 = dktX2_init_1 := dk_seg dksX2_init_0 23 rfl rfl
theorem dX2_init_0 : decode cX2_init 0 = .ok (.aload_n 0, 1) := dk_42 (dk_at dksX2_init_0 0 rfl rfl)
theorem dX2_init_1 : decode cX2_init 1 = .ok (.aload_n 1, 1) := dk_43 (dk_at dksX2_init_0 1 rfl rfl)
theorem dX2_init_2 : decode cX2_init 2 = .ok (.putfield 3, 3) := dk_181 0 3 (dk_at dksX2_init_0 2 rfl rfl)
theorem dX2_init_5 : decode cX2_init 5 = .ok (.aload_n 0, 1) := dk_42 (dk_at dksX2_init_0 5 rfl rfl)
theorem dX2_init_6 : decode cX2_init 6 = .ok (.invokespecial 9, 3) := dk_183 0 9 (dk_at dksX2_init_0 6 rfl rfl)
theorem dX2_init_9 : decode cX2_init 9 = .ok (.aload_n 0, 1) := dk_42 (dk_at dksX2_init_0 9 rfl rfl)
theorem dX2_init_10 : decode cX2_init 10 = .ok (.bipush 80, 2) := dk_16 80 (dk_at dksX2_init_0 10 rfl rfl)
theorem dX2_init_12 : decode cX2_init 12 = .ok (.anewarray 15, 3) := dk_189 0 15 (dk_at dksX2_init_0 12 rfl rfl)
theorem dX2_init_15 : decode cX2_init 15 = .ok (.putfield 17, 3) := dk_181 0 17 (dk_at dksX2_init_0 15 rfl rfl)
theorem dX2_init_18 : decode cX2_init 18 = .ok (.aload_n 0, 1) := dk_42 (dk_at dksX2_init_0 18 rfl rfl)
theorem dX2_init_19 : decode cX2_init 19 = .ok (.bipush 80, 2) := dk_16 80 (dk_at dksX2_init_0 19 rfl rfl)
theorem dX2_init_21 : decode cX2_init 21 = .ok (.newarray .int, 2) := dk_188_10 (dk_at dksX2_init_0 21 rfl rfl)
theorem dX2_init_23 : decode cX2_init 23 = .ok (.putfield 21, 3) := dk_181 0 21 (dk_at dksX2_init_1 0 rfl rfl)
theorem dX2_init_26 : decode cX2_init 26 = .ok (.return_, 1) := dk_177 (dk_at dksX2_init_1 3 rfl rfl)
abbrev cX2_count : ByteArray := prog_2_method_7_code
def yX2_count : MethodName := ⟨RX2, "count", "()I"⟩
def dkwX2_count_1 : List UInt8 := [58, 5, 27, 25, 5, 199, 0, 7, 3, 167, 0, 4, 4, 96, 60, 132, 4, 1, 167, 255, 228, 27, 172]
abbrev dktX2_count_1 : List UInt8 := dkwX2_count_1 ++ []
def dkwX2_count_0 : List UInt8 := [3, 60, 42, 180, 0, 17, 77, 44, 190, 62, 3, 54, 4, 21, 4, 29, 162, 0, 28, 44, 21, 4, 50]
abbrev dktX2_count_0 : List UInt8 := dkwX2_count_0 ++ dktX2_count_1
theorem dksX2_count_0 : cX2_count.data.toList.drop 0 = dktX2_count_0 := by decide +kernel
theorem dksX2_count_1 : cX2_count.data.toList.drop 23 = dktX2_count_1 := dk_seg dksX2_count_0 23 rfl rfl
theorem dX2_count_0 : decode cX2_count 0 = .ok (.iconst 0, 1) := dk_3 (dk_at dksX2_count_0 0 rfl rfl)
theorem dX2_count_1 : decode cX2_count 1 = .ok (.istore_n 1, 1) := dk_60 (dk_at dksX2_count_0 1 rfl rfl)
theorem dX2_count_2 : decode cX2_count 2 = .ok (.aload_n 0, 1) := dk_42 (dk_at dksX2_count_0 2 rfl rfl)
theorem dX2_count_3 : decode cX2_count 3 = .ok (.getfield 17, 3) := dk_180 0 17 (dk_at dksX2_count_0 3 rfl rfl)
theorem dX2_count_6 : decode cX2_count 6 = .ok (.astore_n 2, 1) := dk_77 (dk_at dksX2_count_0 6 rfl rfl)
theorem dX2_count_7 : decode cX2_count 7 = .ok (.aload_n 2, 1) := dk_44 (dk_at dksX2_count_0 7 rfl rfl)
theorem dX2_count_8 : decode cX2_count 8 = .ok (.arraylength, 1) := dk_190 (dk_at dksX2_count_0 8 rfl rfl)
theorem dX2_count_9 : decode cX2_count 9 = .ok (.istore_n 3, 1) := dk_62 (dk_at dksX2_count_0 9 rfl rfl)
theorem dX2_count_10 : decode cX2_count 10 = .ok (.iconst 0, 1) := dk_3 (dk_at dksX2_count_0 10 rfl rfl)
theorem dX2_count_11 : decode cX2_count 11 = .ok (.istore 4, 2) := dk_54 4 (dk_at dksX2_count_0 11 rfl rfl)
theorem dX2_count_13 : decode cX2_count 13 = .ok (.iload 4, 2) := dk_21 4 (dk_at dksX2_count_0 13 rfl rfl)
theorem dX2_count_15 : decode cX2_count 15 = .ok (.iload_n 3, 1) := dk_29 (dk_at dksX2_count_0 15 rfl rfl)
theorem dX2_count_16 : decode cX2_count 16 = .ok (.if_icmp .ge 28, 3) := dk_162 0 28 (dk_at dksX2_count_0 16 rfl rfl)
theorem dX2_count_19 : decode cX2_count 19 = .ok (.aload_n 2, 1) := dk_44 (dk_at dksX2_count_0 19 rfl rfl)
theorem dX2_count_20 : decode cX2_count 20 = .ok (.iload 4, 2) := dk_21 4 (dk_at dksX2_count_0 20 rfl rfl)
theorem dX2_count_22 : decode cX2_count 22 = .ok (.aaload, 1) := dk_50 (dk_at dksX2_count_0 22 rfl rfl)
theorem dX2_count_23 : decode cX2_count 23 = .ok (.astore 5, 2) := dk_58 5 (dk_at dksX2_count_1 0 rfl rfl)
theorem dX2_count_25 : decode cX2_count 25 = .ok (.iload_n 1, 1) := dk_27 (dk_at dksX2_count_1 2 rfl rfl)
theorem dX2_count_26 : decode cX2_count 26 = .ok (.aload 5, 2) := dk_25 5 (dk_at dksX2_count_1 3 rfl rfl)
theorem dX2_count_28 : decode cX2_count 28 = .ok (.ifnonnull 7, 3) := dk_199 0 7 (dk_at dksX2_count_1 5 rfl rfl)
theorem dX2_count_31 : decode cX2_count 31 = .ok (.iconst 0, 1) := dk_3 (dk_at dksX2_count_1 8 rfl rfl)
theorem dX2_count_32 : decode cX2_count 32 = .ok (.goto 4, 3) := dk_167 0 4 (dk_at dksX2_count_1 9 rfl rfl)
theorem dX2_count_35 : decode cX2_count 35 = .ok (.iconst 1, 1) := dk_4 (dk_at dksX2_count_1 12 rfl rfl)
theorem dX2_count_36 : decode cX2_count 36 = .ok (.iadd, 1) := dk_96 (dk_at dksX2_count_1 13 rfl rfl)
theorem dX2_count_37 : decode cX2_count 37 = .ok (.istore_n 1, 1) := dk_60 (dk_at dksX2_count_1 14 rfl rfl)
theorem dX2_count_38 : decode cX2_count 38 = .ok (.iinc 4 1, 3) := dk_132 4 1 (dk_at dksX2_count_1 15 rfl rfl)
theorem dX2_count_41 : decode cX2_count 41 = .ok (.goto (-28), 3) := dk_167 255 228 (dk_at dksX2_count_1 18 rfl rfl)
theorem dX2_count_44 : decode cX2_count 44 = .ok (.iload_n 1, 1) := dk_27 (dk_at dksX2_count_1 21 rfl rfl)
theorem dX2_count_45 : decode cX2_count 45 = .ok (.ireturn, 1) := dk_172 (dk_at dksX2_count_1 22 rfl rfl)
abbrev cX2_has : ByteArray := prog_2_method_2_code
def yX2_has : MethodName := ⟨RX2, "has", "(I)Z"⟩
def dkwX2_has_1 : List UInt8 := [172]
abbrev dktX2_has_1 : List UInt8 := dkwX2_has_1 ++ []
def dkwX2_has_0 : List UInt8 := [27, 155, 0, 22, 27, 16, 80, 162, 0, 16, 42, 180, 0, 17, 27, 50, 198, 0, 7, 4, 167, 0, 4, 3]
abbrev dktX2_has_0 : List UInt8 := dkwX2_has_0 ++ dktX2_has_1
theorem dksX2_has_0 : cX2_has.data.toList.drop 0 = dktX2_has_0 := by decide +kernel
theorem dksX2_has_1 : cX2_has.data.toList.drop 24 = dktX2_has_1 := dk_seg dksX2_has_0 24 rfl rfl
theorem dX2_has_0 : decode cX2_has 0 = .ok (.iload_n 1, 1) := dk_27 (dk_at dksX2_has_0 0 rfl rfl)
theorem dX2_has_1 : decode cX2_has 1 = .ok (.ifCond .lt 22, 3) := dk_155 0 22 (dk_at dksX2_has_0 1 rfl rfl)
theorem dX2_has_4 : decode cX2_has 4 = .ok (.iload_n 1, 1) := dk_27 (dk_at dksX2_has_0 4 rfl rfl)
theorem dX2_has_5 : decode cX2_has 5 = .ok (.bipush 80, 2) := dk_16 80 (dk_at dksX2_has_0 5 rfl rfl)
theorem dX2_has_7 : decode cX2_has 7 = .ok (.if_icmp .ge 16, 3) := dk_162 0 16 (dk_at dksX2_has_0 7 rfl rfl)
theorem dX2_has_10 : decode cX2_has 10 = .ok (.aload_n 0, 1) := dk_42 (dk_at dksX2_has_0 10 rfl rfl)
theorem dX2_has_11 : decode cX2_has 11 = .ok (.getfield 17, 3) := dk_180 0 17 (dk_at dksX2_has_0 11 rfl rfl)
theorem dX2_has_14 : decode cX2_has 14 = .ok (.iload_n 1, 1) := dk_27 (dk_at dksX2_has_0 14 rfl rfl)
theorem dX2_has_15 : decode cX2_has 15 = .ok (.aaload, 1) := dk_50 (dk_at dksX2_has_0 15 rfl rfl)
theorem dX2_has_16 : decode cX2_has 16 = .ok (.ifnull 7, 3) := dk_198 0 7 (dk_at dksX2_has_0 16 rfl rfl)
theorem dX2_has_19 : decode cX2_has 19 = .ok (.iconst 1, 1) := dk_4 (dk_at dksX2_has_0 19 rfl rfl)
theorem dX2_has_20 : decode cX2_has 20 = .ok (.goto 4, 3) := dk_167 0 4 (dk_at dksX2_has_0 20 rfl rfl)
theorem dX2_has_23 : decode cX2_has 23 = .ok (.iconst 0, 1) := dk_3 (dk_at dksX2_has_0 23 rfl rfl)
theorem dX2_has_24 : decode cX2_has 24 = .ok (.ireturn, 1) := dk_172 (dk_at dksX2_has_1 0 rfl rfl)
abbrev cX2_digest : ByteArray := prog_2_method_8_code
def yX2_digest : MethodName := ⟨RX2, "digest", "()I"⟩
def dkwX2_digest_6 : List UInt8 := [167, 255, 122, 27, 172]
abbrev dktX2_digest_6 : List UInt8 := dkwX2_digest_6 ++ []
def dkwX2_digest_5 : List UInt8 := [167, 255, 230, 27, 29, 28, 4, 96, 104, 42, 180, 0, 17, 28, 50, 180, 0, 76, 96, 96, 60, 132, 2, 1]
abbrev dktX2_digest_5 : List UInt8 := dkwX2_digest_5 ++ dktX2_digest_6
def dkwX2_digest_4 : List UInt8 := [21, 5, 162, 0, 25, 25, 4, 21, 6, 46, 54, 7, 29, 3, 21, 7, 184, 0, 71, 96, 62, 132, 6, 1]
abbrev dktX2_digest_4 : List UInt8 := dkwX2_digest_4 ++ dktX2_digest_5
def dkwX2_digest_3 : List UInt8 := [167, 255, 230, 42, 180, 0, 17, 28, 50, 180, 0, 35, 58, 4, 25, 4, 190, 54, 5, 3, 54, 6, 21, 6]
abbrev dktX2_digest_3 : List UInt8 := dkwX2_digest_3 ++ dktX2_digest_4
def dkwX2_digest_2 : List UInt8 := [162, 0, 25, 25, 4, 21, 6, 46, 54, 7, 29, 3, 21, 7, 184, 0, 71, 96, 62, 132, 6, 1]
abbrev dktX2_digest_2 : List UInt8 := dkwX2_digest_2 ++ dktX2_digest_3
def dkwX2_digest_1 : List UInt8 := [180, 0, 17, 28, 50, 180, 0, 25, 58, 4, 25, 4, 190, 54, 5, 3, 54, 6, 21, 6, 21, 5]
abbrev dktX2_digest_1 : List UInt8 := dkwX2_digest_1 ++ dktX2_digest_2
def dkwX2_digest_0 : List UInt8 := [3, 60, 3, 61, 28, 16, 80, 162, 0, 134, 42, 180, 0, 17, 28, 50, 198, 0, 119, 3, 62, 42]
abbrev dktX2_digest_0 : List UInt8 := dkwX2_digest_0 ++ dktX2_digest_1
theorem dksX2_digest_0 : cX2_digest.data.toList.drop 0 = dktX2_digest_0 := by decide +kernel
theorem dksX2_digest_1 : cX2_digest.data.toList.drop 22 = dktX2_digest_1 := dk_seg dksX2_digest_0 22 rfl rfl
theorem dksX2_digest_2 : cX2_digest.data.toList.drop 44 = dktX2_digest_2 := dk_seg dksX2_digest_1 22 rfl rfl
theorem dksX2_digest_3 : cX2_digest.data.toList.drop 66 = dktX2_digest_3 := dk_seg dksX2_digest_2 22 rfl rfl
theorem dksX2_digest_4 : cX2_digest.data.toList.drop 90 = dktX2_digest_4 := dk_seg dksX2_digest_3 24 rfl rfl
theorem dksX2_digest_5 : cX2_digest.data.toList.drop 114 = dktX2_digest_5 := dk_seg dksX2_digest_4 24 rfl rfl
theorem dksX2_digest_6 : cX2_digest.data.toList.drop 138 = dktX2_digest_6 := dk_seg dksX2_digest_5 24 rfl rfl
theorem dX2_digest_0 : decode cX2_digest 0 = .ok (.iconst 0, 1) := dk_3 (dk_at dksX2_digest_0 0 rfl rfl)
theorem dX2_digest_1 : decode cX2_digest 1 = .ok (.istore_n 1, 1) := dk_60 (dk_at dksX2_digest_0 1 rfl rfl)
theorem dX2_digest_2 : decode cX2_digest 2 = .ok (.iconst 0, 1) := dk_3 (dk_at dksX2_digest_0 2 rfl rfl)
theorem dX2_digest_3 : decode cX2_digest 3 = .ok (.istore_n 2, 1) := dk_61 (dk_at dksX2_digest_0 3 rfl rfl)
theorem dX2_digest_4 : decode cX2_digest 4 = .ok (.iload_n 2, 1) := dk_28 (dk_at dksX2_digest_0 4 rfl rfl)
theorem dX2_digest_5 : decode cX2_digest 5 = .ok (.bipush 80, 2) := dk_16 80 (dk_at dksX2_digest_0 5 rfl rfl)
theorem dX2_digest_7 : decode cX2_digest 7 = .ok (.if_icmp .ge 134, 3) := dk_162 0 134 (dk_at dksX2_digest_0 7 rfl rfl)
theorem dX2_digest_10 : decode cX2_digest 10 = .ok (.aload_n 0, 1) := dk_42 (dk_at dksX2_digest_0 10 rfl rfl)
theorem dX2_digest_11 : decode cX2_digest 11 = .ok (.getfield 17, 3) := dk_180 0 17 (dk_at dksX2_digest_0 11 rfl rfl)
theorem dX2_digest_14 : decode cX2_digest 14 = .ok (.iload_n 2, 1) := dk_28 (dk_at dksX2_digest_0 14 rfl rfl)
theorem dX2_digest_15 : decode cX2_digest 15 = .ok (.aaload, 1) := dk_50 (dk_at dksX2_digest_0 15 rfl rfl)
theorem dX2_digest_16 : decode cX2_digest 16 = .ok (.ifnull 119, 3) := dk_198 0 119 (dk_at dksX2_digest_0 16 rfl rfl)
theorem dX2_digest_19 : decode cX2_digest 19 = .ok (.iconst 0, 1) := dk_3 (dk_at dksX2_digest_0 19 rfl rfl)
theorem dX2_digest_20 : decode cX2_digest 20 = .ok (.istore_n 3, 1) := dk_62 (dk_at dksX2_digest_0 20 rfl rfl)
theorem dX2_digest_21 : decode cX2_digest 21 = .ok (.aload_n 0, 1) := dk_42 (dk_at dksX2_digest_0 21 rfl rfl)
theorem dX2_digest_22 : decode cX2_digest 22 = .ok (.getfield 17, 3) := dk_180 0 17 (dk_at dksX2_digest_1 0 rfl rfl)
theorem dX2_digest_25 : decode cX2_digest 25 = .ok (.iload_n 2, 1) := dk_28 (dk_at dksX2_digest_1 3 rfl rfl)
theorem dX2_digest_26 : decode cX2_digest 26 = .ok (.aaload, 1) := dk_50 (dk_at dksX2_digest_1 4 rfl rfl)
theorem dX2_digest_27 : decode cX2_digest 27 = .ok (.getfield 25, 3) := dk_180 0 25 (dk_at dksX2_digest_1 5 rfl rfl)
theorem dX2_digest_30 : decode cX2_digest 30 = .ok (.astore 4, 2) := dk_58 4 (dk_at dksX2_digest_1 8 rfl rfl)
theorem dX2_digest_32 : decode cX2_digest 32 = .ok (.aload 4, 2) := dk_25 4 (dk_at dksX2_digest_1 10 rfl rfl)
theorem dX2_digest_34 : decode cX2_digest 34 = .ok (.arraylength, 1) := dk_190 (dk_at dksX2_digest_1 12 rfl rfl)
theorem dX2_digest_35 : decode cX2_digest 35 = .ok (.istore 5, 2) := dk_54 5 (dk_at dksX2_digest_1 13 rfl rfl)
theorem dX2_digest_37 : decode cX2_digest 37 = .ok (.iconst 0, 1) := dk_3 (dk_at dksX2_digest_1 15 rfl rfl)
theorem dX2_digest_38 : decode cX2_digest 38 = .ok (.istore 6, 2) := dk_54 6 (dk_at dksX2_digest_1 16 rfl rfl)
theorem dX2_digest_40 : decode cX2_digest 40 = .ok (.iload 6, 2) := dk_21 6 (dk_at dksX2_digest_1 18 rfl rfl)
theorem dX2_digest_42 : decode cX2_digest 42 = .ok (.iload 5, 2) := dk_21 5 (dk_at dksX2_digest_1 20 rfl rfl)
theorem dX2_digest_44 : decode cX2_digest 44 = .ok (.if_icmp .ge 25, 3) := dk_162 0 25 (dk_at dksX2_digest_2 0 rfl rfl)
theorem dX2_digest_47 : decode cX2_digest 47 = .ok (.aload 4, 2) := dk_25 4 (dk_at dksX2_digest_2 3 rfl rfl)
theorem dX2_digest_49 : decode cX2_digest 49 = .ok (.iload 6, 2) := dk_21 6 (dk_at dksX2_digest_2 5 rfl rfl)
theorem dX2_digest_51 : decode cX2_digest 51 = .ok (.iaload, 1) := dk_46 (dk_at dksX2_digest_2 7 rfl rfl)
theorem dX2_digest_52 : decode cX2_digest 52 = .ok (.istore 7, 2) := dk_54 7 (dk_at dksX2_digest_2 8 rfl rfl)
theorem dX2_digest_54 : decode cX2_digest 54 = .ok (.iload_n 3, 1) := dk_29 (dk_at dksX2_digest_2 10 rfl rfl)
theorem dX2_digest_55 : decode cX2_digest 55 = .ok (.iconst 0, 1) := dk_3 (dk_at dksX2_digest_2 11 rfl rfl)
theorem dX2_digest_56 : decode cX2_digest 56 = .ok (.iload 7, 2) := dk_21 7 (dk_at dksX2_digest_2 12 rfl rfl)
theorem dX2_digest_58 : decode cX2_digest 58 = .ok (.invokestatic 71, 3) := dk_184 0 71 (dk_at dksX2_digest_2 14 rfl rfl)
theorem dX2_digest_61 : decode cX2_digest 61 = .ok (.iadd, 1) := dk_96 (dk_at dksX2_digest_2 17 rfl rfl)
theorem dX2_digest_62 : decode cX2_digest 62 = .ok (.istore_n 3, 1) := dk_62 (dk_at dksX2_digest_2 18 rfl rfl)
theorem dX2_digest_63 : decode cX2_digest 63 = .ok (.iinc 6 1, 3) := dk_132 6 1 (dk_at dksX2_digest_2 19 rfl rfl)
theorem dX2_digest_66 : decode cX2_digest 66 = .ok (.goto (-26), 3) := dk_167 255 230 (dk_at dksX2_digest_3 0 rfl rfl)
theorem dX2_digest_69 : decode cX2_digest 69 = .ok (.aload_n 0, 1) := dk_42 (dk_at dksX2_digest_3 3 rfl rfl)
theorem dX2_digest_70 : decode cX2_digest 70 = .ok (.getfield 17, 3) := dk_180 0 17 (dk_at dksX2_digest_3 4 rfl rfl)
theorem dX2_digest_73 : decode cX2_digest 73 = .ok (.iload_n 2, 1) := dk_28 (dk_at dksX2_digest_3 7 rfl rfl)
theorem dX2_digest_74 : decode cX2_digest 74 = .ok (.aaload, 1) := dk_50 (dk_at dksX2_digest_3 8 rfl rfl)
theorem dX2_digest_75 : decode cX2_digest 75 = .ok (.getfield 35, 3) := dk_180 0 35 (dk_at dksX2_digest_3 9 rfl rfl)
theorem dX2_digest_78 : decode cX2_digest 78 = .ok (.astore 4, 2) := dk_58 4 (dk_at dksX2_digest_3 12 rfl rfl)
theorem dX2_digest_80 : decode cX2_digest 80 = .ok (.aload 4, 2) := dk_25 4 (dk_at dksX2_digest_3 14 rfl rfl)
theorem dX2_digest_82 : decode cX2_digest 82 = .ok (.arraylength, 1) := dk_190 (dk_at dksX2_digest_3 16 rfl rfl)
theorem dX2_digest_83 : decode cX2_digest 83 = .ok (.istore 5, 2) := dk_54 5 (dk_at dksX2_digest_3 17 rfl rfl)
theorem dX2_digest_85 : decode cX2_digest 85 = .ok (.iconst 0, 1) := dk_3 (dk_at dksX2_digest_3 19 rfl rfl)
theorem dX2_digest_86 : decode cX2_digest 86 = .ok (.istore 6, 2) := dk_54 6 (dk_at dksX2_digest_3 20 rfl rfl)
theorem dX2_digest_88 : decode cX2_digest 88 = .ok (.iload 6, 2) := dk_21 6 (dk_at dksX2_digest_3 22 rfl rfl)
theorem dX2_digest_90 : decode cX2_digest 90 = .ok (.iload 5, 2) := dk_21 5 (dk_at dksX2_digest_4 0 rfl rfl)
theorem dX2_digest_92 : decode cX2_digest 92 = .ok (.if_icmp .ge 25, 3) := dk_162 0 25 (dk_at dksX2_digest_4 2 rfl rfl)
theorem dX2_digest_95 : decode cX2_digest 95 = .ok (.aload 4, 2) := dk_25 4 (dk_at dksX2_digest_4 5 rfl rfl)
theorem dX2_digest_97 : decode cX2_digest 97 = .ok (.iload 6, 2) := dk_21 6 (dk_at dksX2_digest_4 7 rfl rfl)
theorem dX2_digest_99 : decode cX2_digest 99 = .ok (.iaload, 1) := dk_46 (dk_at dksX2_digest_4 9 rfl rfl)
theorem dX2_digest_100 : decode cX2_digest 100 = .ok (.istore 7, 2) := dk_54 7 (dk_at dksX2_digest_4 10 rfl rfl)
theorem dX2_digest_102 : decode cX2_digest 102 = .ok (.iload_n 3, 1) := dk_29 (dk_at dksX2_digest_4 12 rfl rfl)
theorem dX2_digest_103 : decode cX2_digest 103 = .ok (.iconst 0, 1) := dk_3 (dk_at dksX2_digest_4 13 rfl rfl)
theorem dX2_digest_104 : decode cX2_digest 104 = .ok (.iload 7, 2) := dk_21 7 (dk_at dksX2_digest_4 14 rfl rfl)
theorem dX2_digest_106 : decode cX2_digest 106 = .ok (.invokestatic 71, 3) := dk_184 0 71 (dk_at dksX2_digest_4 16 rfl rfl)
theorem dX2_digest_109 : decode cX2_digest 109 = .ok (.iadd, 1) := dk_96 (dk_at dksX2_digest_4 19 rfl rfl)
theorem dX2_digest_110 : decode cX2_digest 110 = .ok (.istore_n 3, 1) := dk_62 (dk_at dksX2_digest_4 20 rfl rfl)
theorem dX2_digest_111 : decode cX2_digest 111 = .ok (.iinc 6 1, 3) := dk_132 6 1 (dk_at dksX2_digest_4 21 rfl rfl)
theorem dX2_digest_114 : decode cX2_digest 114 = .ok (.goto (-26), 3) := dk_167 255 230 (dk_at dksX2_digest_5 0 rfl rfl)
theorem dX2_digest_117 : decode cX2_digest 117 = .ok (.iload_n 1, 1) := dk_27 (dk_at dksX2_digest_5 3 rfl rfl)
theorem dX2_digest_118 : decode cX2_digest 118 = .ok (.iload_n 3, 1) := dk_29 (dk_at dksX2_digest_5 4 rfl rfl)
theorem dX2_digest_119 : decode cX2_digest 119 = .ok (.iload_n 2, 1) := dk_28 (dk_at dksX2_digest_5 5 rfl rfl)
theorem dX2_digest_120 : decode cX2_digest 120 = .ok (.iconst 1, 1) := dk_4 (dk_at dksX2_digest_5 6 rfl rfl)
theorem dX2_digest_121 : decode cX2_digest 121 = .ok (.iadd, 1) := dk_96 (dk_at dksX2_digest_5 7 rfl rfl)
theorem dX2_digest_122 : decode cX2_digest 122 = .ok (.imul, 1) := dk_104 (dk_at dksX2_digest_5 8 rfl rfl)
theorem dX2_digest_123 : decode cX2_digest 123 = .ok (.aload_n 0, 1) := dk_42 (dk_at dksX2_digest_5 9 rfl rfl)
theorem dX2_digest_124 : decode cX2_digest 124 = .ok (.getfield 17, 3) := dk_180 0 17 (dk_at dksX2_digest_5 10 rfl rfl)
theorem dX2_digest_127 : decode cX2_digest 127 = .ok (.iload_n 2, 1) := dk_28 (dk_at dksX2_digest_5 13 rfl rfl)
theorem dX2_digest_128 : decode cX2_digest 128 = .ok (.aaload, 1) := dk_50 (dk_at dksX2_digest_5 14 rfl rfl)
theorem dX2_digest_129 : decode cX2_digest 129 = .ok (.getfield 76, 3) := dk_180 0 76 (dk_at dksX2_digest_5 15 rfl rfl)
theorem dX2_digest_132 : decode cX2_digest 132 = .ok (.iadd, 1) := dk_96 (dk_at dksX2_digest_5 18 rfl rfl)
theorem dX2_digest_133 : decode cX2_digest 133 = .ok (.iadd, 1) := dk_96 (dk_at dksX2_digest_5 19 rfl rfl)
theorem dX2_digest_134 : decode cX2_digest 134 = .ok (.istore_n 1, 1) := dk_60 (dk_at dksX2_digest_5 20 rfl rfl)
theorem dX2_digest_135 : decode cX2_digest 135 = .ok (.iinc 2 1, 3) := dk_132 2 1 (dk_at dksX2_digest_5 21 rfl rfl)
theorem dX2_digest_138 : decode cX2_digest 138 = .ok (.goto (-134), 3) := dk_167 255 122 (dk_at dksX2_digest_6 0 rfl rfl)
theorem dX2_digest_141 : decode cX2_digest 141 = .ok (.iload_n 1, 1) := dk_27 (dk_at dksX2_digest_6 3 rfl rfl)
theorem dX2_digest_142 : decode cX2_digest 142 = .ok (.ireturn, 1) := dk_172 (dk_at dksX2_digest_6 4 rfl rfl)
abbrev cX2_match : ByteArray := prog_2_method_4_code
def yX2_match : MethodName := ⟨RX2, "match", "([I)I"⟩
def dkwX2_match_1 : List UInt8 := [43, 42, 180, 0, 3, 180, 0, 28, 29, 46, 46, 182, 0, 31, 61, 132, 3, 1, 167, 255, 218, 28, 172]
abbrev dktX2_match_1 : List UInt8 := dkwX2_match_1 ++ []
def dkwX2_match_0 : List UInt8 := [2, 61, 3, 62, 29, 6, 162, 0, 39, 28, 2, 160, 0, 34, 42, 42, 180, 0, 3, 180, 0, 28, 29, 46]
abbrev dktX2_match_0 : List UInt8 := dkwX2_match_0 ++ dktX2_match_1
theorem dksX2_match_0 : cX2_match.data.toList.drop 0 = dktX2_match_0 := by decide +kernel
theorem dksX2_match_1 : cX2_match.data.toList.drop 24 = dktX2_match_1 := dk_seg dksX2_match_0 24 rfl rfl
theorem dX2_match_0 : decode cX2_match 0 = .ok (.iconst (-1), 1) := dk_2 (dk_at dksX2_match_0 0 rfl rfl)
theorem dX2_match_1 : decode cX2_match 1 = .ok (.istore_n 2, 1) := dk_61 (dk_at dksX2_match_0 1 rfl rfl)
theorem dX2_match_2 : decode cX2_match 2 = .ok (.iconst 0, 1) := dk_3 (dk_at dksX2_match_0 2 rfl rfl)
theorem dX2_match_3 : decode cX2_match 3 = .ok (.istore_n 3, 1) := dk_62 (dk_at dksX2_match_0 3 rfl rfl)
theorem dX2_match_4 : decode cX2_match 4 = .ok (.iload_n 3, 1) := dk_29 (dk_at dksX2_match_0 4 rfl rfl)
theorem dX2_match_5 : decode cX2_match 5 = .ok (.iconst 3, 1) := dk_6 (dk_at dksX2_match_0 5 rfl rfl)
theorem dX2_match_6 : decode cX2_match 6 = .ok (.if_icmp .ge 39, 3) := dk_162 0 39 (dk_at dksX2_match_0 6 rfl rfl)
theorem dX2_match_9 : decode cX2_match 9 = .ok (.iload_n 2, 1) := dk_28 (dk_at dksX2_match_0 9 rfl rfl)
theorem dX2_match_10 : decode cX2_match 10 = .ok (.iconst (-1), 1) := dk_2 (dk_at dksX2_match_0 10 rfl rfl)
theorem dX2_match_11 : decode cX2_match 11 = .ok (.if_icmp .ne 34, 3) := dk_160 0 34 (dk_at dksX2_match_0 11 rfl rfl)
theorem dX2_match_14 : decode cX2_match 14 = .ok (.aload_n 0, 1) := dk_42 (dk_at dksX2_match_0 14 rfl rfl)
theorem dX2_match_15 : decode cX2_match 15 = .ok (.aload_n 0, 1) := dk_42 (dk_at dksX2_match_0 15 rfl rfl)
theorem dX2_match_16 : decode cX2_match 16 = .ok (.getfield 3, 3) := dk_180 0 3 (dk_at dksX2_match_0 16 rfl rfl)
theorem dX2_match_19 : decode cX2_match 19 = .ok (.getfield 28, 3) := dk_180 0 28 (dk_at dksX2_match_0 19 rfl rfl)
theorem dX2_match_22 : decode cX2_match 22 = .ok (.iload_n 3, 1) := dk_29 (dk_at dksX2_match_0 22 rfl rfl)
theorem dX2_match_23 : decode cX2_match 23 = .ok (.iaload, 1) := dk_46 (dk_at dksX2_match_0 23 rfl rfl)
theorem dX2_match_24 : decode cX2_match 24 = .ok (.aload_n 1, 1) := dk_43 (dk_at dksX2_match_1 0 rfl rfl)
theorem dX2_match_25 : decode cX2_match 25 = .ok (.aload_n 0, 1) := dk_42 (dk_at dksX2_match_1 1 rfl rfl)
theorem dX2_match_26 : decode cX2_match 26 = .ok (.getfield 3, 3) := dk_180 0 3 (dk_at dksX2_match_1 2 rfl rfl)
theorem dX2_match_29 : decode cX2_match 29 = .ok (.getfield 28, 3) := dk_180 0 28 (dk_at dksX2_match_1 5 rfl rfl)
theorem dX2_match_32 : decode cX2_match 32 = .ok (.iload_n 3, 1) := dk_29 (dk_at dksX2_match_1 8 rfl rfl)
theorem dX2_match_33 : decode cX2_match 33 = .ok (.iaload, 1) := dk_46 (dk_at dksX2_match_1 9 rfl rfl)
theorem dX2_match_34 : decode cX2_match 34 = .ok (.iaload, 1) := dk_46 (dk_at dksX2_match_1 10 rfl rfl)
theorem dX2_match_35 : decode cX2_match 35 = .ok (.invokevirtual 31, 3) := dk_182 0 31 (dk_at dksX2_match_1 11 rfl rfl)
theorem dX2_match_38 : decode cX2_match 38 = .ok (.istore_n 2, 1) := dk_61 (dk_at dksX2_match_1 14 rfl rfl)
theorem dX2_match_39 : decode cX2_match 39 = .ok (.iinc 3 1, 3) := dk_132 3 1 (dk_at dksX2_match_1 15 rfl rfl)
theorem dX2_match_42 : decode cX2_match 42 = .ok (.goto (-38), 3) := dk_167 255 218 (dk_at dksX2_match_1 18 rfl rfl)
theorem dX2_match_45 : decode cX2_match 45 = .ok (.iload_n 2, 1) := dk_28 (dk_at dksX2_match_1 21 rfl rfl)
theorem dX2_match_46 : decode cX2_match 46 = .ok (.ireturn, 1) := dk_172 (dk_at dksX2_match_1 22 rfl rfl)
abbrev cX2_find : ByteArray := prog_2_method_3_code
def yX2_find : MethodName := ⟨RX2, "find", "(II)I"⟩
def dkwX2_find_2 : List UInt8 := [21, 4, 167, 0, 5, 16, 254, 62, 132, 4, 1, 167, 255, 202, 29, 172]
abbrev dktX2_find_2 : List UInt8 := dkwX2_find_2 ++ []
def dkwX2_find_1 : List UInt8 := [198, 0, 32, 42, 180, 0, 17, 21, 4, 50, 180, 0, 25, 27, 46, 28, 160, 0, 16, 29, 2, 160, 0, 8]
abbrev dktX2_find_1 : List UInt8 := dkwX2_find_1 ++ dktX2_find_2
def dkwX2_find_0 : List UInt8 := [2, 62, 3, 54, 4, 21, 4, 16, 80, 162, 0, 53, 28, 2, 159, 0, 48, 42, 180, 0, 17, 21, 4, 50]
abbrev dktX2_find_0 : List UInt8 := dkwX2_find_0 ++ dktX2_find_1
theorem dksX2_find_0 : cX2_find.data.toList.drop 0 = dktX2_find_0 := by decide +kernel
theorem dksX2_find_1 : cX2_find.data.toList.drop 24 = dktX2_find_1 := dk_seg dksX2_find_0 24 rfl rfl
theorem dksX2_find_2 : cX2_find.data.toList.drop 48 = dktX2_find_2 := dk_seg dksX2_find_1 24 rfl rfl
theorem dX2_find_0 : decode cX2_find 0 = .ok (.iconst (-1), 1) := dk_2 (dk_at dksX2_find_0 0 rfl rfl)
theorem dX2_find_1 : decode cX2_find 1 = .ok (.istore_n 3, 1) := dk_62 (dk_at dksX2_find_0 1 rfl rfl)
theorem dX2_find_2 : decode cX2_find 2 = .ok (.iconst 0, 1) := dk_3 (dk_at dksX2_find_0 2 rfl rfl)
theorem dX2_find_3 : decode cX2_find 3 = .ok (.istore 4, 2) := dk_54 4 (dk_at dksX2_find_0 3 rfl rfl)
theorem dX2_find_5 : decode cX2_find 5 = .ok (.iload 4, 2) := dk_21 4 (dk_at dksX2_find_0 5 rfl rfl)
theorem dX2_find_7 : decode cX2_find 7 = .ok (.bipush 80, 2) := dk_16 80 (dk_at dksX2_find_0 7 rfl rfl)
theorem dX2_find_9 : decode cX2_find 9 = .ok (.if_icmp .ge 53, 3) := dk_162 0 53 (dk_at dksX2_find_0 9 rfl rfl)
theorem dX2_find_12 : decode cX2_find 12 = .ok (.iload_n 2, 1) := dk_28 (dk_at dksX2_find_0 12 rfl rfl)
theorem dX2_find_13 : decode cX2_find 13 = .ok (.iconst (-1), 1) := dk_2 (dk_at dksX2_find_0 13 rfl rfl)
theorem dX2_find_14 : decode cX2_find 14 = .ok (.if_icmp .eq 48, 3) := dk_159 0 48 (dk_at dksX2_find_0 14 rfl rfl)
theorem dX2_find_17 : decode cX2_find 17 = .ok (.aload_n 0, 1) := dk_42 (dk_at dksX2_find_0 17 rfl rfl)
theorem dX2_find_18 : decode cX2_find 18 = .ok (.getfield 17, 3) := dk_180 0 17 (dk_at dksX2_find_0 18 rfl rfl)
theorem dX2_find_21 : decode cX2_find 21 = .ok (.iload 4, 2) := dk_21 4 (dk_at dksX2_find_0 21 rfl rfl)
theorem dX2_find_23 : decode cX2_find 23 = .ok (.aaload, 1) := dk_50 (dk_at dksX2_find_0 23 rfl rfl)
theorem dX2_find_24 : decode cX2_find 24 = .ok (.ifnull 32, 3) := dk_198 0 32 (dk_at dksX2_find_1 0 rfl rfl)
theorem dX2_find_27 : decode cX2_find 27 = .ok (.aload_n 0, 1) := dk_42 (dk_at dksX2_find_1 3 rfl rfl)
theorem dX2_find_28 : decode cX2_find 28 = .ok (.getfield 17, 3) := dk_180 0 17 (dk_at dksX2_find_1 4 rfl rfl)
theorem dX2_find_31 : decode cX2_find 31 = .ok (.iload 4, 2) := dk_21 4 (dk_at dksX2_find_1 7 rfl rfl)
theorem dX2_find_33 : decode cX2_find 33 = .ok (.aaload, 1) := dk_50 (dk_at dksX2_find_1 9 rfl rfl)
theorem dX2_find_34 : decode cX2_find 34 = .ok (.getfield 25, 3) := dk_180 0 25 (dk_at dksX2_find_1 10 rfl rfl)
theorem dX2_find_37 : decode cX2_find 37 = .ok (.iload_n 1, 1) := dk_27 (dk_at dksX2_find_1 13 rfl rfl)
theorem dX2_find_38 : decode cX2_find 38 = .ok (.iaload, 1) := dk_46 (dk_at dksX2_find_1 14 rfl rfl)
theorem dX2_find_39 : decode cX2_find 39 = .ok (.iload_n 2, 1) := dk_28 (dk_at dksX2_find_1 15 rfl rfl)
theorem dX2_find_40 : decode cX2_find 40 = .ok (.if_icmp .ne 16, 3) := dk_160 0 16 (dk_at dksX2_find_1 16 rfl rfl)
theorem dX2_find_43 : decode cX2_find 43 = .ok (.iload_n 3, 1) := dk_29 (dk_at dksX2_find_1 19 rfl rfl)
theorem dX2_find_44 : decode cX2_find 44 = .ok (.iconst (-1), 1) := dk_2 (dk_at dksX2_find_1 20 rfl rfl)
theorem dX2_find_45 : decode cX2_find 45 = .ok (.if_icmp .ne 8, 3) := dk_160 0 8 (dk_at dksX2_find_1 21 rfl rfl)
theorem dX2_find_48 : decode cX2_find 48 = .ok (.iload 4, 2) := dk_21 4 (dk_at dksX2_find_2 0 rfl rfl)
theorem dX2_find_50 : decode cX2_find 50 = .ok (.goto 5, 3) := dk_167 0 5 (dk_at dksX2_find_2 2 rfl rfl)
theorem dX2_find_53 : decode cX2_find 53 = .ok (.bipush (-2), 2) := dk_16 254 (dk_at dksX2_find_2 5 rfl rfl)
theorem dX2_find_55 : decode cX2_find 55 = .ok (.istore_n 3, 1) := dk_62 (dk_at dksX2_find_2 7 rfl rfl)
theorem dX2_find_56 : decode cX2_find 56 = .ok (.iinc 4 1, 3) := dk_132 4 1 (dk_at dksX2_find_2 8 rfl rfl)
theorem dX2_find_59 : decode cX2_find 59 = .ok (.goto (-54), 3) := dk_167 255 202 (dk_at dksX2_find_2 11 rfl rfl)
theorem dX2_find_62 : decode cX2_find 62 = .ok (.iload_n 3, 1) := dk_29 (dk_at dksX2_find_2 14 rfl rfl)
theorem dX2_find_63 : decode cX2_find 63 = .ok (.ireturn, 1) := dk_172 (dk_at dksX2_find_2 15 rfl rfl)
abbrev cX2_layOver : ByteArray := prog_2_method_6_code
def yX2_layOver : MethodName := ⟨RX2, "layOver", "(LCatalogueLoader$Record;LCatalogueLoader$Load;)V"⟩
def dkwX2_layOver_3 : List UInt8 := [180, 0, 59, 182, 0, 67, 132, 3, 1, 167, 255, 189, 177]
abbrev dktX2_layOver_3 : List UInt8 := dkwX2_layOver_3 ++ []
def dkwX2_layOver_2 : List UInt8 := [42, 43, 29, 44, 180, 0, 59, 182, 0, 63, 153, 0, 18, 43, 29, 44, 180, 0, 54, 29, 46, 44]
abbrev dktX2_layOver_2 : List UInt8 := dkwX2_layOver_2 ++ dktX2_layOver_3
def dkwX2_layOver_1 : List UInt8 := [159, 0, 16, 43, 180, 0, 55, 29, 51, 154, 0, 7, 4, 167, 0, 4, 3, 54, 4, 21, 4, 153, 0, 31]
abbrev dktX2_layOver_1 : List UInt8 := dkwX2_layOver_1 ++ dktX2_layOver_2
def dkwX2_layOver_0 : List UInt8 := [43, 44, 180, 0, 47, 182, 0, 50, 3, 62, 29, 7, 162, 0, 68, 44, 180, 0, 54, 29, 46, 2]
abbrev dktX2_layOver_0 : List UInt8 := dkwX2_layOver_0 ++ dktX2_layOver_1
theorem dksX2_layOver_0 : cX2_layOver.data.toList.drop 0 = dktX2_layOver_0 := by decide +kernel
theorem dksX2_layOver_1 : cX2_layOver.data.toList.drop 22 = dktX2_layOver_1 := dk_seg dksX2_layOver_0 22 rfl rfl
theorem dksX2_layOver_2 : cX2_layOver.data.toList.drop 46 = dktX2_layOver_2 := dk_seg dksX2_layOver_1 24 rfl rfl
theorem dksX2_layOver_3 : cX2_layOver.data.toList.drop 68 = dktX2_layOver_3 := dk_seg dksX2_layOver_2 22 rfl rfl
theorem dX2_layOver_0 : decode cX2_layOver 0 = .ok (.aload_n 1, 1) := dk_43 (dk_at dksX2_layOver_0 0 rfl rfl)
theorem dX2_layOver_1 : decode cX2_layOver 1 = .ok (.aload_n 2, 1) := dk_44 (dk_at dksX2_layOver_0 1 rfl rfl)
theorem dX2_layOver_2 : decode cX2_layOver 2 = .ok (.getfield 47, 3) := dk_180 0 47 (dk_at dksX2_layOver_0 2 rfl rfl)
theorem dX2_layOver_5 : decode cX2_layOver 5 = .ok (.invokevirtual 50, 3) := dk_182 0 50 (dk_at dksX2_layOver_0 5 rfl rfl)
theorem dX2_layOver_8 : decode cX2_layOver 8 = .ok (.iconst 0, 1) := dk_3 (dk_at dksX2_layOver_0 8 rfl rfl)
theorem dX2_layOver_9 : decode cX2_layOver 9 = .ok (.istore_n 3, 1) := dk_62 (dk_at dksX2_layOver_0 9 rfl rfl)
theorem dX2_layOver_10 : decode cX2_layOver 10 = .ok (.iload_n 3, 1) := dk_29 (dk_at dksX2_layOver_0 10 rfl rfl)
theorem dX2_layOver_11 : decode cX2_layOver 11 = .ok (.iconst 4, 1) := dk_7 (dk_at dksX2_layOver_0 11 rfl rfl)
theorem dX2_layOver_12 : decode cX2_layOver 12 = .ok (.if_icmp .ge 68, 3) := dk_162 0 68 (dk_at dksX2_layOver_0 12 rfl rfl)
theorem dX2_layOver_15 : decode cX2_layOver 15 = .ok (.aload_n 2, 1) := dk_44 (dk_at dksX2_layOver_0 15 rfl rfl)
theorem dX2_layOver_16 : decode cX2_layOver 16 = .ok (.getfield 54, 3) := dk_180 0 54 (dk_at dksX2_layOver_0 16 rfl rfl)
theorem dX2_layOver_19 : decode cX2_layOver 19 = .ok (.iload_n 3, 1) := dk_29 (dk_at dksX2_layOver_0 19 rfl rfl)
theorem dX2_layOver_20 : decode cX2_layOver 20 = .ok (.iaload, 1) := dk_46 (dk_at dksX2_layOver_0 20 rfl rfl)
theorem dX2_layOver_21 : decode cX2_layOver 21 = .ok (.iconst (-1), 1) := dk_2 (dk_at dksX2_layOver_0 21 rfl rfl)
theorem dX2_layOver_22 : decode cX2_layOver 22 = .ok (.if_icmp .eq 16, 3) := dk_159 0 16 (dk_at dksX2_layOver_1 0 rfl rfl)
theorem dX2_layOver_25 : decode cX2_layOver 25 = .ok (.aload_n 1, 1) := dk_43 (dk_at dksX2_layOver_1 3 rfl rfl)
theorem dX2_layOver_26 : decode cX2_layOver 26 = .ok (.getfield 55, 3) := dk_180 0 55 (dk_at dksX2_layOver_1 4 rfl rfl)
theorem dX2_layOver_29 : decode cX2_layOver 29 = .ok (.iload_n 3, 1) := dk_29 (dk_at dksX2_layOver_1 7 rfl rfl)
theorem dX2_layOver_30 : decode cX2_layOver 30 = .ok (.baload, 1) := dk_51 (dk_at dksX2_layOver_1 8 rfl rfl)
theorem dX2_layOver_31 : decode cX2_layOver 31 = .ok (.ifCond .ne 7, 3) := dk_154 0 7 (dk_at dksX2_layOver_1 9 rfl rfl)
theorem dX2_layOver_34 : decode cX2_layOver 34 = .ok (.iconst 1, 1) := dk_4 (dk_at dksX2_layOver_1 12 rfl rfl)
theorem dX2_layOver_35 : decode cX2_layOver 35 = .ok (.goto 4, 3) := dk_167 0 4 (dk_at dksX2_layOver_1 13 rfl rfl)
theorem dX2_layOver_38 : decode cX2_layOver 38 = .ok (.iconst 0, 1) := dk_3 (dk_at dksX2_layOver_1 16 rfl rfl)
theorem dX2_layOver_39 : decode cX2_layOver 39 = .ok (.istore 4, 2) := dk_54 4 (dk_at dksX2_layOver_1 17 rfl rfl)
theorem dX2_layOver_41 : decode cX2_layOver 41 = .ok (.iload 4, 2) := dk_21 4 (dk_at dksX2_layOver_1 19 rfl rfl)
theorem dX2_layOver_43 : decode cX2_layOver 43 = .ok (.ifCond .eq 31, 3) := dk_153 0 31 (dk_at dksX2_layOver_1 21 rfl rfl)
theorem dX2_layOver_46 : decode cX2_layOver 46 = .ok (.aload_n 0, 1) := dk_42 (dk_at dksX2_layOver_2 0 rfl rfl)
theorem dX2_layOver_47 : decode cX2_layOver 47 = .ok (.aload_n 1, 1) := dk_43 (dk_at dksX2_layOver_2 1 rfl rfl)
theorem dX2_layOver_48 : decode cX2_layOver 48 = .ok (.iload_n 3, 1) := dk_29 (dk_at dksX2_layOver_2 2 rfl rfl)
theorem dX2_layOver_49 : decode cX2_layOver 49 = .ok (.aload_n 2, 1) := dk_44 (dk_at dksX2_layOver_2 3 rfl rfl)
theorem dX2_layOver_50 : decode cX2_layOver 50 = .ok (.getfield 59, 3) := dk_180 0 59 (dk_at dksX2_layOver_2 4 rfl rfl)
theorem dX2_layOver_53 : decode cX2_layOver 53 = .ok (.invokevirtual 63, 3) := dk_182 0 63 (dk_at dksX2_layOver_2 7 rfl rfl)
theorem dX2_layOver_56 : decode cX2_layOver 56 = .ok (.ifCond .eq 18, 3) := dk_153 0 18 (dk_at dksX2_layOver_2 10 rfl rfl)
theorem dX2_layOver_59 : decode cX2_layOver 59 = .ok (.aload_n 1, 1) := dk_43 (dk_at dksX2_layOver_2 13 rfl rfl)
theorem dX2_layOver_60 : decode cX2_layOver 60 = .ok (.iload_n 3, 1) := dk_29 (dk_at dksX2_layOver_2 14 rfl rfl)
theorem dX2_layOver_61 : decode cX2_layOver 61 = .ok (.aload_n 2, 1) := dk_44 (dk_at dksX2_layOver_2 15 rfl rfl)
theorem dX2_layOver_62 : decode cX2_layOver 62 = .ok (.getfield 54, 3) := dk_180 0 54 (dk_at dksX2_layOver_2 16 rfl rfl)
theorem dX2_layOver_65 : decode cX2_layOver 65 = .ok (.iload_n 3, 1) := dk_29 (dk_at dksX2_layOver_2 19 rfl rfl)
theorem dX2_layOver_66 : decode cX2_layOver 66 = .ok (.iaload, 1) := dk_46 (dk_at dksX2_layOver_2 20 rfl rfl)
theorem dX2_layOver_67 : decode cX2_layOver 67 = .ok (.aload_n 2, 1) := dk_44 (dk_at dksX2_layOver_2 21 rfl rfl)
theorem dX2_layOver_68 : decode cX2_layOver 68 = .ok (.getfield 59, 3) := dk_180 0 59 (dk_at dksX2_layOver_3 0 rfl rfl)
theorem dX2_layOver_71 : decode cX2_layOver 71 = .ok (.invokevirtual 67, 3) := dk_182 0 67 (dk_at dksX2_layOver_3 3 rfl rfl)
theorem dX2_layOver_74 : decode cX2_layOver 74 = .ok (.iinc 3 1, 3) := dk_132 3 1 (dk_at dksX2_layOver_3 6 rfl rfl)
theorem dX2_layOver_77 : decode cX2_layOver 77 = .ok (.goto (-67), 3) := dk_167 255 189 (dk_at dksX2_layOver_3 9 rfl rfl)
theorem dX2_layOver_80 : decode cX2_layOver 80 = .ok (.return_, 1) := dk_177 (dk_at dksX2_layOver_3 12 rfl rfl)
abbrev cX2_replaces : ByteArray := prog_2_method_5_code
def yX2_replaces : MethodName := ⟨RX2, "replaces", "(LCatalogueLoader$Record;II)Z"⟩
def dkwX2_replaces_2 : List UInt8 := [46, 42, 180, 0, 3, 180, 0, 41, 43, 180, 0, 44, 28, 46, 46, 161, 0, 7, 4, 167, 0, 4, 3, 172]
abbrev dktX2_replaces_2 : List UInt8 := dkwX2_replaces_2 ++ []
def dkwX2_replaces_1 : List UInt8 := [159, 0, 42, 42, 180, 0, 3, 180, 0, 38, 28, 46, 4, 160, 0, 33, 42, 180, 0, 3, 180, 0, 41, 29]
abbrev dktX2_replaces_1 : List UInt8 := dkwX2_replaces_1 ++ dktX2_replaces_2
def dkwX2_replaces_0 : List UInt8 := [43, 180, 0, 35, 28, 46, 2, 160, 0, 5, 4, 172, 42, 180, 0, 3, 180, 0, 38, 28, 46, 5]
abbrev dktX2_replaces_0 : List UInt8 := dkwX2_replaces_0 ++ dktX2_replaces_1
theorem dksX2_replaces_0 : cX2_replaces.data.toList.drop 0 = dktX2_replaces_0 := by decide +kernel
theorem dksX2_replaces_1 : cX2_replaces.data.toList.drop 22 = dktX2_replaces_1 := dk_seg dksX2_replaces_0 22 rfl rfl
theorem dksX2_replaces_2 : cX2_replaces.data.toList.drop 46 = dktX2_replaces_2 := dk_seg dksX2_replaces_1 24 rfl rfl
theorem dX2_replaces_0 : decode cX2_replaces 0 = .ok (.aload_n 1, 1) := dk_43 (dk_at dksX2_replaces_0 0 rfl rfl)
theorem dX2_replaces_1 : decode cX2_replaces 1 = .ok (.getfield 35, 3) := dk_180 0 35 (dk_at dksX2_replaces_0 1 rfl rfl)
theorem dX2_replaces_4 : decode cX2_replaces 4 = .ok (.iload_n 2, 1) := dk_28 (dk_at dksX2_replaces_0 4 rfl rfl)
theorem dX2_replaces_5 : decode cX2_replaces 5 = .ok (.iaload, 1) := dk_46 (dk_at dksX2_replaces_0 5 rfl rfl)
theorem dX2_replaces_6 : decode cX2_replaces 6 = .ok (.iconst (-1), 1) := dk_2 (dk_at dksX2_replaces_0 6 rfl rfl)
theorem dX2_replaces_7 : decode cX2_replaces 7 = .ok (.if_icmp .ne 5, 3) := dk_160 0 5 (dk_at dksX2_replaces_0 7 rfl rfl)
theorem dX2_replaces_10 : decode cX2_replaces 10 = .ok (.iconst 1, 1) := dk_4 (dk_at dksX2_replaces_0 10 rfl rfl)
theorem dX2_replaces_11 : decode cX2_replaces 11 = .ok (.ireturn, 1) := dk_172 (dk_at dksX2_replaces_0 11 rfl rfl)
theorem dX2_replaces_12 : decode cX2_replaces 12 = .ok (.aload_n 0, 1) := dk_42 (dk_at dksX2_replaces_0 12 rfl rfl)
theorem dX2_replaces_13 : decode cX2_replaces 13 = .ok (.getfield 3, 3) := dk_180 0 3 (dk_at dksX2_replaces_0 13 rfl rfl)
theorem dX2_replaces_16 : decode cX2_replaces 16 = .ok (.getfield 38, 3) := dk_180 0 38 (dk_at dksX2_replaces_0 16 rfl rfl)
theorem dX2_replaces_19 : decode cX2_replaces 19 = .ok (.iload_n 2, 1) := dk_28 (dk_at dksX2_replaces_0 19 rfl rfl)
theorem dX2_replaces_20 : decode cX2_replaces 20 = .ok (.iaload, 1) := dk_46 (dk_at dksX2_replaces_0 20 rfl rfl)
theorem dX2_replaces_21 : decode cX2_replaces 21 = .ok (.iconst 2, 1) := dk_5 (dk_at dksX2_replaces_0 21 rfl rfl)
theorem dX2_replaces_22 : decode cX2_replaces 22 = .ok (.if_icmp .eq 42, 3) := dk_159 0 42 (dk_at dksX2_replaces_1 0 rfl rfl)
theorem dX2_replaces_25 : decode cX2_replaces 25 = .ok (.aload_n 0, 1) := dk_42 (dk_at dksX2_replaces_1 3 rfl rfl)
theorem dX2_replaces_26 : decode cX2_replaces 26 = .ok (.getfield 3, 3) := dk_180 0 3 (dk_at dksX2_replaces_1 4 rfl rfl)
theorem dX2_replaces_29 : decode cX2_replaces 29 = .ok (.getfield 38, 3) := dk_180 0 38 (dk_at dksX2_replaces_1 7 rfl rfl)
theorem dX2_replaces_32 : decode cX2_replaces 32 = .ok (.iload_n 2, 1) := dk_28 (dk_at dksX2_replaces_1 10 rfl rfl)
theorem dX2_replaces_33 : decode cX2_replaces 33 = .ok (.iaload, 1) := dk_46 (dk_at dksX2_replaces_1 11 rfl rfl)
theorem dX2_replaces_34 : decode cX2_replaces 34 = .ok (.iconst 1, 1) := dk_4 (dk_at dksX2_replaces_1 12 rfl rfl)
theorem dX2_replaces_35 : decode cX2_replaces 35 = .ok (.if_icmp .ne 33, 3) := dk_160 0 33 (dk_at dksX2_replaces_1 13 rfl rfl)
theorem dX2_replaces_38 : decode cX2_replaces 38 = .ok (.aload_n 0, 1) := dk_42 (dk_at dksX2_replaces_1 16 rfl rfl)
theorem dX2_replaces_39 : decode cX2_replaces 39 = .ok (.getfield 3, 3) := dk_180 0 3 (dk_at dksX2_replaces_1 17 rfl rfl)
theorem dX2_replaces_42 : decode cX2_replaces 42 = .ok (.getfield 41, 3) := dk_180 0 41 (dk_at dksX2_replaces_1 20 rfl rfl)
theorem dX2_replaces_45 : decode cX2_replaces 45 = .ok (.iload_n 3, 1) := dk_29 (dk_at dksX2_replaces_1 23 rfl rfl)
theorem dX2_replaces_46 : decode cX2_replaces 46 = .ok (.iaload, 1) := dk_46 (dk_at dksX2_replaces_2 0 rfl rfl)
theorem dX2_replaces_47 : decode cX2_replaces 47 = .ok (.aload_n 0, 1) := dk_42 (dk_at dksX2_replaces_2 1 rfl rfl)
theorem dX2_replaces_48 : decode cX2_replaces 48 = .ok (.getfield 3, 3) := dk_180 0 3 (dk_at dksX2_replaces_2 2 rfl rfl)
theorem dX2_replaces_51 : decode cX2_replaces 51 = .ok (.getfield 41, 3) := dk_180 0 41 (dk_at dksX2_replaces_2 5 rfl rfl)
theorem dX2_replaces_54 : decode cX2_replaces 54 = .ok (.aload_n 1, 1) := dk_43 (dk_at dksX2_replaces_2 8 rfl rfl)
theorem dX2_replaces_55 : decode cX2_replaces 55 = .ok (.getfield 44, 3) := dk_180 0 44 (dk_at dksX2_replaces_2 9 rfl rfl)
theorem dX2_replaces_58 : decode cX2_replaces 58 = .ok (.iload_n 2, 1) := dk_28 (dk_at dksX2_replaces_2 12 rfl rfl)
theorem dX2_replaces_59 : decode cX2_replaces 59 = .ok (.iaload, 1) := dk_46 (dk_at dksX2_replaces_2 13 rfl rfl)
theorem dX2_replaces_60 : decode cX2_replaces 60 = .ok (.iaload, 1) := dk_46 (dk_at dksX2_replaces_2 14 rfl rfl)
theorem dX2_replaces_61 : decode cX2_replaces 61 = .ok (.if_icmp .lt 7, 3) := dk_161 0 7 (dk_at dksX2_replaces_2 15 rfl rfl)
theorem dX2_replaces_64 : decode cX2_replaces 64 = .ok (.iconst 1, 1) := dk_4 (dk_at dksX2_replaces_2 18 rfl rfl)
theorem dX2_replaces_65 : decode cX2_replaces 65 = .ok (.goto 4, 3) := dk_167 0 4 (dk_at dksX2_replaces_2 19 rfl rfl)
theorem dX2_replaces_68 : decode cX2_replaces 68 = .ok (.iconst 0, 1) := dk_3 (dk_at dksX2_replaces_2 22 rfl rfl)
theorem dX2_replaces_69 : decode cX2_replaces 69 = .ok (.ireturn, 1) := dk_172 (dk_at dksX2_replaces_2 23 rfl rfl)
theorem q25 : (Jvm.Cond.initialized "CatalogueLoader$Catalogue") ∈ lw_all := lw_g (lw_at lw_m1 5 rfl) rfl
theorem q85 : (Jvm.Cond.instantiable "CatalogueLoader$Catalogue" (3 : Nat)) ∈ lw_all := lw_g (lw_at lw_m1 65 rfl) rfl
theorem q87 : (Jvm.Cond.instanceMethod ({ cls := "CatalogueLoader$Catalogue", name := "<init>", desc := "(LCatalogueLoader;)V" } : Jvm.MethodName)) ∈ lw_all := lw_g (lw_at lw_m1 67 rfl) rfl
theorem q88 : (Jvm.Cond.code ({ cls := "CatalogueLoader$Catalogue", name := "<init>", desc := "(LCatalogueLoader;)V" } : Jvm.MethodName) prog_2_method_1_code (2 : Nat) (Option.none : Option Jvm.ClassFile.FieldType)) ∈ lw_all := lw_g (lw_at lw_m1 68 rfl) rfl
theorem q89 : (Jvm.Cond.methodLink "CatalogueLoader$Catalogue" (9 : Nat) ({ cls := "java/lang/Object", name := "<init>", desc := "()V" } : Jvm.MethodName)) ∈ lw_all := lw_g (lw_at lw_m1 69 rfl) rfl
theorem q90 : (Jvm.Cond.classLink "CatalogueLoader$Catalogue" (15 : Nat) "CatalogueLoader$Record") ∈ lw_all := lw_g (lw_at lw_m1 70 rfl) rfl
theorem q92 : (Jvm.Cond.fieldLink "CatalogueLoader$Catalogue" (17 : Nat) "CatalogueLoader$Catalogue" "records" "[LCatalogueLoader$Record;") ∈ lw_all := lw_g (lw_at lw_m1 72 rfl) rfl
theorem q98 : (Jvm.Cond.fieldLink "CatalogueLoader$Catalogue" (21 : Nat) "CatalogueLoader$Catalogue" "hits" "[I") ∈ lw_all := lw_g (lw_at lw_m1 78 rfl) rfl
theorem q101 : (Jvm.Cond.fieldLink "CatalogueLoader$Catalogue" (3 : Nat) "CatalogueLoader$Catalogue" "this$0" "LCatalogueLoader;") ∈ lw_all := lw_g (lw_at lw_m1 81 rfl) rfl
theorem q102 : (Jvm.Cond.laysFinal "CatalogueLoader$Catalogue" "CatalogueLoader$Catalogue" "records" "[LCatalogueLoader$Record;") ∈ lw_all := lw_g (lw_at lw_m1 82 rfl) rfl
theorem q103 : (Jvm.Cond.soleField "CatalogueLoader$Catalogue" "records") ∈ lw_all := lw_g (lw_at lw_m1 83 rfl) rfl
theorem q104 : (Jvm.Cond.laysFinal "CatalogueLoader$Catalogue" "CatalogueLoader$Catalogue" "hits" "[I") ∈ lw_all := lw_g (lw_at lw_m1 84 rfl) rfl
theorem q105 : (Jvm.Cond.soleField "CatalogueLoader$Catalogue" "hits") ∈ lw_all := lw_g (lw_at lw_m1 85 rfl) rfl
theorem q106 : (Jvm.Cond.laysFinal "CatalogueLoader$Catalogue" "CatalogueLoader$Catalogue" "this$0" "LCatalogueLoader;") ∈ lw_all := lw_g (lw_at lw_m1 86 rfl) rfl
theorem q107 : (Jvm.Cond.soleField "CatalogueLoader$Catalogue" "this$0") ∈ lw_all := lw_g (lw_at lw_m1 87 rfl) rfl
theorem q108 : (Jvm.Cond.superclass "CatalogueLoader$Catalogue" "java/lang/Object") ∈ lw_all := lw_g (lw_at lw_m1 88 rfl) rfl
theorem q110 : (Jvm.Cond.fieldLinkNest "CatalogueLoader$Catalogue" (41 : Nat) "CatalogueLoader" "ranks" "[I" "CatalogueLoader") ∈ lw_tbl := lw_at lw_m1 90 rfl
theorem q112 : (Jvm.Cond.fieldLinkNest "CatalogueLoader$Catalogue" (38 : Nat) "CatalogueLoader" "rules" "[I" "CatalogueLoader") ∈ lw_tbl := lw_at lw_m1 92 rfl
theorem q114 : (Jvm.Cond.fieldLinkNest "CatalogueLoader$Catalogue" (28 : Nat) "CatalogueLoader" "order" "[I" "CatalogueLoader") ∈ lw_tbl := lw_at lw_m1 94 rfl
theorem q160 : (Jvm.Cond.instanceMethod ({ cls := "CatalogueLoader$Catalogue", name := "count", desc := "()I" } : Jvm.MethodName)) ∈ lw_all := lw_g (lw_at lw_m1 140 rfl) rfl
theorem q161 : (Jvm.Cond.selects "CatalogueLoader$Catalogue" ({ cls := "CatalogueLoader$Catalogue", name := "count", desc := "()I" } : Jvm.MethodName) ({ cls := "CatalogueLoader$Catalogue", name := "count", desc := "()I" } : Jvm.MethodName)) ∈ lw_all := lw_g (lw_at lw_m1 141 rfl) rfl
theorem q162 : (Jvm.Cond.code ({ cls := "CatalogueLoader$Catalogue", name := "count", desc := "()I" } : Jvm.MethodName) prog_2_method_7_code (6 : Nat) (Option.some Jvm.ClassFile.FieldType.int)) ∈ lw_all := lw_g (lw_at lw_m1 142 rfl) rfl
theorem q168 : (Jvm.Cond.instanceMethod ({ cls := "CatalogueLoader$Catalogue", name := "has", desc := "(I)Z" } : Jvm.MethodName)) ∈ lw_all := lw_g (lw_at lw_m1 148 rfl) rfl
theorem q169 : (Jvm.Cond.selects "CatalogueLoader$Catalogue" ({ cls := "CatalogueLoader$Catalogue", name := "has", desc := "(I)Z" } : Jvm.MethodName) ({ cls := "CatalogueLoader$Catalogue", name := "has", desc := "(I)Z" } : Jvm.MethodName)) ∈ lw_all := lw_g (lw_at lw_m1 149 rfl) rfl
theorem q170 : (Jvm.Cond.code ({ cls := "CatalogueLoader$Catalogue", name := "has", desc := "(I)Z" } : Jvm.MethodName) prog_2_method_2_code (2 : Nat) (Option.some Jvm.ClassFile.FieldType.boolean)) ∈ lw_all := lw_g (lw_at lw_m1 150 rfl) rfl
theorem q176 : (Jvm.Cond.instanceMethod ({ cls := "CatalogueLoader$Catalogue", name := "digest", desc := "()I" } : Jvm.MethodName)) ∈ lw_all := lw_g (lw_at lw_m1 156 rfl) rfl
theorem q177 : (Jvm.Cond.selects "CatalogueLoader$Catalogue" ({ cls := "CatalogueLoader$Catalogue", name := "digest", desc := "()I" } : Jvm.MethodName) ({ cls := "CatalogueLoader$Catalogue", name := "digest", desc := "()I" } : Jvm.MethodName)) ∈ lw_all := lw_g (lw_at lw_m1 157 rfl) rfl
theorem q178 : (Jvm.Cond.code ({ cls := "CatalogueLoader$Catalogue", name := "digest", desc := "()I" } : Jvm.MethodName) prog_2_method_8_code (8 : Nat) (Option.some Jvm.ClassFile.FieldType.int)) ∈ lw_all := lw_g (lw_at lw_m1 158 rfl) rfl
theorem q179 : (Jvm.Cond.methodLink "CatalogueLoader$Catalogue" (71 : Nat) ({ cls := "java/lang/Math", name := "max", desc := "(II)I" } : Jvm.MethodName)) ∈ lw_all := lw_g (lw_at lw_m1 159 rfl) rfl
theorem q255 : (Jvm.Cond.instanceMethod ({ cls := "CatalogueLoader$Catalogue", name := "match", desc := "([I)I" } : Jvm.MethodName)) ∈ lw_all := lw_g (lw_at lw_m1 235 rfl) rfl
theorem q256 : (Jvm.Cond.selects "CatalogueLoader$Catalogue" ({ cls := "CatalogueLoader$Catalogue", name := "match", desc := "([I)I" } : Jvm.MethodName) ({ cls := "CatalogueLoader$Catalogue", name := "match", desc := "([I)I" } : Jvm.MethodName)) ∈ lw_all := lw_g (lw_at lw_m1 236 rfl) rfl
theorem q257 : (Jvm.Cond.code ({ cls := "CatalogueLoader$Catalogue", name := "match", desc := "([I)I" } : Jvm.MethodName) prog_2_method_4_code (4 : Nat) (Option.some Jvm.ClassFile.FieldType.int)) ∈ lw_all := lw_g (lw_at lw_m1 237 rfl) rfl
theorem q258 : (Jvm.Cond.methodLink "CatalogueLoader$Catalogue" (31 : Nat) ({ cls := "CatalogueLoader$Catalogue", name := "find", desc := "(II)I" } : Jvm.MethodName)) ∈ lw_all := lw_g (lw_at lw_m1 238 rfl) rfl
theorem q259 : (Jvm.Cond.instanceMethod ({ cls := "CatalogueLoader$Catalogue", name := "find", desc := "(II)I" } : Jvm.MethodName)) ∈ lw_all := lw_g (lw_at lw_m1 239 rfl) rfl
theorem q260 : (Jvm.Cond.selects "CatalogueLoader$Catalogue" ({ cls := "CatalogueLoader$Catalogue", name := "find", desc := "(II)I" } : Jvm.MethodName) ({ cls := "CatalogueLoader$Catalogue", name := "find", desc := "(II)I" } : Jvm.MethodName)) ∈ lw_all := lw_g (lw_at lw_m2 0 rfl) rfl
theorem q261 : (Jvm.Cond.code ({ cls := "CatalogueLoader$Catalogue", name := "find", desc := "(II)I" } : Jvm.MethodName) prog_2_method_3_code (5 : Nat) (Option.some Jvm.ClassFile.FieldType.int)) ∈ lw_all := lw_g (lw_at lw_m2 1 rfl) rfl
theorem q270 : (Jvm.Cond.fieldLinkNest "CatalogueLoader$Catalogue" (25 : Nat) "CatalogueLoader$Record" "keys" "[I" "CatalogueLoader") ∈ lw_tbl := lw_at lw_m2 10 rfl
theorem q274 : (Jvm.Cond.fieldLinkNest "CatalogueLoader$Catalogue" (35 : Nat) "CatalogueLoader$Record" "fields" "[I" "CatalogueLoader") ∈ lw_tbl := lw_at lw_m2 14 rfl
theorem q278 : (Jvm.Cond.fieldLinkNest "CatalogueLoader$Catalogue" (44 : Nat) "CatalogueLoader$Record" "sources" "[I" "CatalogueLoader") ∈ lw_tbl := lw_at lw_m2 18 rfl
theorem q282 : (Jvm.Cond.fieldLinkNest "CatalogueLoader$Catalogue" (55 : Nat) "CatalogueLoader$Record" "isProtected" "[Z" "CatalogueLoader") ∈ lw_tbl := lw_at lw_m2 22 rfl
theorem q286 : (Jvm.Cond.fieldLinkNest "CatalogueLoader$Catalogue" (76 : Nat) "CatalogueLoader$Record" "holdings" "I" "CatalogueLoader") ∈ lw_tbl := lw_at lw_m2 26 rfl
theorem q300 : (Jvm.Cond.instanceMethod ({ cls := "CatalogueLoader$Catalogue", name := "layOver", desc := "(LCatalogueLoader$Record;LCatalogueLoader$Load;)V" } : Jvm.MethodName)) ∈ lw_all := lw_g (lw_at lw_m2 40 rfl) rfl
theorem q301 : (Jvm.Cond.selects "CatalogueLoader$Catalogue" ({ cls := "CatalogueLoader$Catalogue", name := "layOver", desc := "(LCatalogueLoader$Record;LCatalogueLoader$Load;)V" } : Jvm.MethodName) ({ cls := "CatalogueLoader$Catalogue", name := "layOver", desc := "(LCatalogueLoader$Record;LCatalogueLoader$Load;)V" } : Jvm.MethodName)) ∈ lw_all := lw_g (lw_at lw_m2 41 rfl) rfl
theorem q302 : (Jvm.Cond.code ({ cls := "CatalogueLoader$Catalogue", name := "layOver", desc := "(LCatalogueLoader$Record;LCatalogueLoader$Load;)V" } : Jvm.MethodName) prog_2_method_6_code (5 : Nat) (Option.none : Option Jvm.ClassFile.FieldType)) ∈ lw_all := lw_g (lw_at lw_m2 42 rfl) rfl
theorem q303 : (Jvm.Cond.methodLink "CatalogueLoader$Catalogue" (50 : Nat) ({ cls := "CatalogueLoader$Record", name := "fillKeys", desc := "([I)V" } : Jvm.MethodName)) ∈ lw_all := lw_g (lw_at lw_m2 43 rfl) rfl
theorem q307 : (Jvm.Cond.methodLink "CatalogueLoader$Catalogue" (63 : Nat) ({ cls := "CatalogueLoader$Catalogue", name := "replaces", desc := "(LCatalogueLoader$Record;II)Z" } : Jvm.MethodName)) ∈ lw_all := lw_g (lw_at lw_m2 47 rfl) rfl
theorem q308 : (Jvm.Cond.instanceMethod ({ cls := "CatalogueLoader$Catalogue", name := "replaces", desc := "(LCatalogueLoader$Record;II)Z" } : Jvm.MethodName)) ∈ lw_all := lw_g (lw_at lw_m2 48 rfl) rfl
theorem q309 : (Jvm.Cond.selects "CatalogueLoader$Catalogue" ({ cls := "CatalogueLoader$Catalogue", name := "replaces", desc := "(LCatalogueLoader$Record;II)Z" } : Jvm.MethodName) ({ cls := "CatalogueLoader$Catalogue", name := "replaces", desc := "(LCatalogueLoader$Record;II)Z" } : Jvm.MethodName)) ∈ lw_all := lw_g (lw_at lw_m2 49 rfl) rfl
theorem q310 : (Jvm.Cond.code ({ cls := "CatalogueLoader$Catalogue", name := "replaces", desc := "(LCatalogueLoader$Record;II)Z" } : Jvm.MethodName) prog_2_method_5_code (4 : Nat) (Option.some Jvm.ClassFile.FieldType.boolean)) ∈ lw_all := lw_g (lw_at lw_m2 50 rfl) rfl
theorem q311 : (Jvm.Cond.methodLink "CatalogueLoader$Catalogue" (67 : Nat) ({ cls := "CatalogueLoader$Record", name := "put", desc := "(III)V" } : Jvm.MethodName)) ∈ lw_all := lw_g (lw_at lw_m2 51 rfl) rfl
theorem q547 : (Jvm.Cond.fieldLinkNest "CatalogueLoader$Catalogue" (59 : Nat) "CatalogueLoader$Load" "source" "I" "CatalogueLoader") ∈ lw_tbl := lw_at lw_m3 47 rfl
theorem q549 : (Jvm.Cond.fieldLinkNest "CatalogueLoader$Catalogue" (47 : Nat) "CatalogueLoader$Load" "keys" "[I" "CatalogueLoader") ∈ lw_tbl := lw_at lw_m3 49 rfl
theorem q551 : (Jvm.Cond.fieldLinkNest "CatalogueLoader$Catalogue" (54 : Nat) "CatalogueLoader$Load" "fields" "[I" "CatalogueLoader") ∈ lw_tbl := lw_at lw_m3 51 rfl
theorem q601 : (Jvm.Cond.selects "CatalogueLoader$Catalogue" ({ cls := "java/lang/Object", name := "getClass", desc := "()Ljava/lang/Class;" } : Jvm.MethodName) ({ cls := "java/lang/Object", name := "getClass", desc := "()Ljava/lang/Class;" } : Jvm.MethodName)) ∈ lw_all := lw_g (lw_at lw_m3 101 rfl) rfl
theorem q982 : (Jvm.Cond.castable "CatalogueLoader$Catalogue" "java/lang/Object") ∈ lw_tbl := lw_at lw_m5 2 rfl
theorem in_X2 : ∀ w ∈ wsX20, w ∈ lw_all := lw_in wsX20 [102, 104, 106] (by decide +kernel) (by decide +kernel)

/-! CatalogueLoader$Load -/
set_option maxRecDepth 100000
def RX4 : String := "CatalogueLoader$Load"
def TX4 : u_T := fun k => match k with
  | 0 => ("CatalogueLoader$Load", "number", "I", true)
  | 1 => ("CatalogueLoader$Load", "batch", "I", true)
  | 2 => ("CatalogueLoader$Load", "source", "I", true)
  | 3 => ("CatalogueLoader$Load", "keys", "[I", true)
  | 4 => ("CatalogueLoader$Load", "fields", "[I", true)
  | _ => ("CatalogueLoader$Load", "this$0", "LCatalogueLoader;", true)
def tyX4 : Nat → FieldType := fun k => match k with
  | 0 => .int
  | 1 => .int
  | 2 => .int
  | 3 => .array .int
  | 4 => .array .int
  | _ => .object "CatalogueLoader"
abbrev wsX40 : List Cond := u_ws RX4 TX4 6
theorem nmX4 : ∀ a, a < 6 → ∀ b, b < 6 → a ≠ b → (TX4 a).2.1 ≠ (TX4 b).2.1 := by decide +kernel
theorem tyX4_ok : ∀ k, k < 6 → parseFieldDescriptor (TX4 k).2.2.1 = some (tyX4 k) := by decide +kernel
abbrev cX4_doTo : ByteArray := prog_5_method_2_code
def yX4_doTo : MethodName := ⟨RX4, "doTo", "(LCatalogueLoader$Catalogue;)V"⟩
def dkwX4_doTo_3 : List UInt8 := [28, 50, 42, 182, 0, 52, 43, 180, 0, 36, 42, 180, 0, 15, 28, 79, 177]
abbrev dktX4_doTo_3 : List UInt8 := dkwX4_doTo_3 ++ []
def dkwX4_doTo_2 : List UInt8 := [187, 0, 49, 89, 183, 0, 51, 83, 42, 180, 0, 15, 61, 28, 16, 254, 159, 0, 14, 43, 43, 180, 0, 45]
abbrev dktX4_doTo_2 : List UInt8 := dkwX4_doTo_2 ++ dktX4_doTo_3
def dkwX4_doTo_1 : List UInt8 := [79, 177, 43, 42, 180, 0, 25, 182, 0, 41, 61, 28, 2, 160, 0, 24, 43, 180, 0, 45, 42, 180, 0, 15]
abbrev dktX4_doTo_1 : List UInt8 := dkwX4_doTo_1 ++ dktX4_doTo_2
def dkwX4_doTo_0 : List UInt8 := [42, 180, 0, 3, 180, 0, 32, 42, 180, 0, 19, 51, 153, 0, 14, 43, 180, 0, 36, 42, 180, 0, 15, 2]
abbrev dktX4_doTo_0 : List UInt8 := dkwX4_doTo_0 ++ dktX4_doTo_1
theorem dksX4_doTo_0 : cX4_doTo.data.toList.drop 0 = dktX4_doTo_0 := by decide +kernel
theorem dksX4_doTo_1 : cX4_doTo.data.toList.drop 24 = dktX4_doTo_1 := dk_seg dksX4_doTo_0 24 rfl rfl
theorem dksX4_doTo_2 : cX4_doTo.data.toList.drop 48 = dktX4_doTo_2 := dk_seg dksX4_doTo_1 24 rfl rfl
theorem dksX4_doTo_3 : cX4_doTo.data.toList.drop 72 = dktX4_doTo_3 := dk_seg dksX4_doTo_2 24 rfl rfl
theorem dX4_doTo_0 : decode cX4_doTo 0 = .ok (.aload_n 0, 1) := dk_42 (dk_at dksX4_doTo_0 0 rfl rfl)
theorem dX4_doTo_1 : decode cX4_doTo 1 = .ok (.getfield 3, 3) := dk_180 0 3 (dk_at dksX4_doTo_0 1 rfl rfl)
theorem dX4_doTo_4 : decode cX4_doTo 4 = .ok (.getfield 32, 3) := dk_180 0 32 (dk_at dksX4_doTo_0 4 rfl rfl)
theorem dX4_doTo_7 : decode cX4_doTo 7 = .ok (.aload_n 0, 1) := dk_42 (dk_at dksX4_doTo_0 7 rfl rfl)
theorem dX4_doTo_8 : decode cX4_doTo 8 = .ok (.getfield 19, 3) := dk_180 0 19 (dk_at dksX4_doTo_0 8 rfl rfl)
theorem dX4_doTo_11 : decode cX4_doTo 11 = .ok (.baload, 1) := dk_51 (dk_at dksX4_doTo_0 11 rfl rfl)
theorem dX4_doTo_12 : decode cX4_doTo 12 = .ok (.ifCond .eq 14, 3) := dk_153 0 14 (dk_at dksX4_doTo_0 12 rfl rfl)
theorem dX4_doTo_15 : decode cX4_doTo 15 = .ok (.aload_n 1, 1) := dk_43 (dk_at dksX4_doTo_0 15 rfl rfl)
theorem dX4_doTo_16 : decode cX4_doTo 16 = .ok (.getfield 36, 3) := dk_180 0 36 (dk_at dksX4_doTo_0 16 rfl rfl)
theorem dX4_doTo_19 : decode cX4_doTo 19 = .ok (.aload_n 0, 1) := dk_42 (dk_at dksX4_doTo_0 19 rfl rfl)
theorem dX4_doTo_20 : decode cX4_doTo 20 = .ok (.getfield 15, 3) := dk_180 0 15 (dk_at dksX4_doTo_0 20 rfl rfl)
theorem dX4_doTo_23 : decode cX4_doTo 23 = .ok (.iconst (-1), 1) := dk_2 (dk_at dksX4_doTo_0 23 rfl rfl)
theorem dX4_doTo_24 : decode cX4_doTo 24 = .ok (.iastore, 1) := dk_79 (dk_at dksX4_doTo_1 0 rfl rfl)
theorem dX4_doTo_25 : decode cX4_doTo 25 = .ok (.return_, 1) := dk_177 (dk_at dksX4_doTo_1 1 rfl rfl)
theorem dX4_doTo_26 : decode cX4_doTo 26 = .ok (.aload_n 1, 1) := dk_43 (dk_at dksX4_doTo_1 2 rfl rfl)
theorem dX4_doTo_27 : decode cX4_doTo 27 = .ok (.aload_n 0, 1) := dk_42 (dk_at dksX4_doTo_1 3 rfl rfl)
theorem dX4_doTo_28 : decode cX4_doTo 28 = .ok (.getfield 25, 3) := dk_180 0 25 (dk_at dksX4_doTo_1 4 rfl rfl)
theorem dX4_doTo_31 : decode cX4_doTo 31 = .ok (.invokevirtual 41, 3) := dk_182 0 41 (dk_at dksX4_doTo_1 7 rfl rfl)
theorem dX4_doTo_34 : decode cX4_doTo 34 = .ok (.istore_n 2, 1) := dk_61 (dk_at dksX4_doTo_1 10 rfl rfl)
theorem dX4_doTo_35 : decode cX4_doTo 35 = .ok (.iload_n 2, 1) := dk_28 (dk_at dksX4_doTo_1 11 rfl rfl)
theorem dX4_doTo_36 : decode cX4_doTo 36 = .ok (.iconst (-1), 1) := dk_2 (dk_at dksX4_doTo_1 12 rfl rfl)
theorem dX4_doTo_37 : decode cX4_doTo 37 = .ok (.if_icmp .ne 24, 3) := dk_160 0 24 (dk_at dksX4_doTo_1 13 rfl rfl)
theorem dX4_doTo_40 : decode cX4_doTo 40 = .ok (.aload_n 1, 1) := dk_43 (dk_at dksX4_doTo_1 16 rfl rfl)
theorem dX4_doTo_41 : decode cX4_doTo 41 = .ok (.getfield 45, 3) := dk_180 0 45 (dk_at dksX4_doTo_1 17 rfl rfl)
theorem dX4_doTo_44 : decode cX4_doTo 44 = .ok (.aload_n 0, 1) := dk_42 (dk_at dksX4_doTo_1 20 rfl rfl)
theorem dX4_doTo_45 : decode cX4_doTo 45 = .ok (.getfield 15, 3) := dk_180 0 15 (dk_at dksX4_doTo_1 21 rfl rfl)
theorem dX4_doTo_48 : decode cX4_doTo 48 = .ok (.new 49, 3) := dk_187 0 49 (dk_at dksX4_doTo_2 0 rfl rfl)
theorem dX4_doTo_51 : decode cX4_doTo 51 = .ok (.dup, 1) := dk_89 (dk_at dksX4_doTo_2 3 rfl rfl)
theorem dX4_doTo_52 : decode cX4_doTo 52 = .ok (.invokespecial 51, 3) := dk_183 0 51 (dk_at dksX4_doTo_2 4 rfl rfl)
theorem dX4_doTo_55 : decode cX4_doTo 55 = .ok (.aastore, 1) := dk_83 (dk_at dksX4_doTo_2 7 rfl rfl)
theorem dX4_doTo_56 : decode cX4_doTo 56 = .ok (.aload_n 0, 1) := dk_42 (dk_at dksX4_doTo_2 8 rfl rfl)
theorem dX4_doTo_57 : decode cX4_doTo 57 = .ok (.getfield 15, 3) := dk_180 0 15 (dk_at dksX4_doTo_2 9 rfl rfl)
theorem dX4_doTo_60 : decode cX4_doTo 60 = .ok (.istore_n 2, 1) := dk_61 (dk_at dksX4_doTo_2 12 rfl rfl)
theorem dX4_doTo_61 : decode cX4_doTo 61 = .ok (.iload_n 2, 1) := dk_28 (dk_at dksX4_doTo_2 13 rfl rfl)
theorem dX4_doTo_62 : decode cX4_doTo 62 = .ok (.bipush (-2), 2) := dk_16 254 (dk_at dksX4_doTo_2 14 rfl rfl)
theorem dX4_doTo_64 : decode cX4_doTo 64 = .ok (.if_icmp .eq 14, 3) := dk_159 0 14 (dk_at dksX4_doTo_2 16 rfl rfl)
theorem dX4_doTo_67 : decode cX4_doTo 67 = .ok (.aload_n 1, 1) := dk_43 (dk_at dksX4_doTo_2 19 rfl rfl)
theorem dX4_doTo_68 : decode cX4_doTo 68 = .ok (.aload_n 1, 1) := dk_43 (dk_at dksX4_doTo_2 20 rfl rfl)
theorem dX4_doTo_69 : decode cX4_doTo 69 = .ok (.getfield 45, 3) := dk_180 0 45 (dk_at dksX4_doTo_2 21 rfl rfl)
theorem dX4_doTo_72 : decode cX4_doTo 72 = .ok (.iload_n 2, 1) := dk_28 (dk_at dksX4_doTo_3 0 rfl rfl)
theorem dX4_doTo_73 : decode cX4_doTo 73 = .ok (.aaload, 1) := dk_50 (dk_at dksX4_doTo_3 1 rfl rfl)
theorem dX4_doTo_74 : decode cX4_doTo 74 = .ok (.aload_n 0, 1) := dk_42 (dk_at dksX4_doTo_3 2 rfl rfl)
theorem dX4_doTo_75 : decode cX4_doTo 75 = .ok (.invokevirtual 52, 3) := dk_182 0 52 (dk_at dksX4_doTo_3 3 rfl rfl)
theorem dX4_doTo_78 : decode cX4_doTo 78 = .ok (.aload_n 1, 1) := dk_43 (dk_at dksX4_doTo_3 6 rfl rfl)
theorem dX4_doTo_79 : decode cX4_doTo 79 = .ok (.getfield 36, 3) := dk_180 0 36 (dk_at dksX4_doTo_3 7 rfl rfl)
theorem dX4_doTo_82 : decode cX4_doTo 82 = .ok (.aload_n 0, 1) := dk_42 (dk_at dksX4_doTo_3 10 rfl rfl)
theorem dX4_doTo_83 : decode cX4_doTo 83 = .ok (.getfield 15, 3) := dk_180 0 15 (dk_at dksX4_doTo_3 11 rfl rfl)
theorem dX4_doTo_86 : decode cX4_doTo 86 = .ok (.iload_n 2, 1) := dk_28 (dk_at dksX4_doTo_3 14 rfl rfl)
theorem dX4_doTo_87 : decode cX4_doTo 87 = .ok (.iastore, 1) := dk_79 (dk_at dksX4_doTo_3 15 rfl rfl)
theorem dX4_doTo_88 : decode cX4_doTo 88 = .ok (.return_, 1) := dk_177 (dk_at dksX4_doTo_3 16 rfl rfl)
abbrev cX4_init : ByteArray := prog_5_method_1_code
def yX4_init : MethodName := ⟨RX4, "<init>", "(LCatalogueLoader;III[I[I)V"⟩
def dkwX4_init_1 : List UInt8 := [181, 0, 22, 42, 25, 5, 181, 0, 25, 42, 25, 6, 181, 0, 29, 177]
abbrev dktX4_init_1 : List UInt8 := dkwX4_init_1 ++ []
def dkwX4_init_0 : List UInt8 := [42, 43, 181, 0, 3, 42, 183, 0, 9, 42, 28, 181, 0, 15, 42, 29, 181, 0, 19, 42, 21, 4]
abbrev dktX4_init_0 : List UInt8 := dkwX4_init_0 ++ dktX4_init_1
theorem dksX4_init_0 : cX4_init.data.toList.drop 0 = dktX4_init_0 := by decide +kernel
theorem dksX4_init_1 : cX4_init.data.toList.drop 22 = dktX4_init_1 := dk_seg dksX4_init_0 22 rfl rfl
theorem dX4_init_0 : decode cX4_init 0 = .ok (.aload_n 0, 1) := dk_42 (dk_at dksX4_init_0 0 rfl rfl)
theorem dX4_init_1 : decode cX4_init 1 = .ok (.aload_n 1, 1) := dk_43 (dk_at dksX4_init_0 1 rfl rfl)
theorem dX4_init_2 : decode cX4_init 2 = .ok (.putfield 3, 3) := dk_181 0 3 (dk_at dksX4_init_0 2 rfl rfl)
theorem dX4_init_5 : decode cX4_init 5 = .ok (.aload_n 0, 1) := dk_42 (dk_at dksX4_init_0 5 rfl rfl)
theorem dX4_init_6 : decode cX4_init 6 = .ok (.invokespecial 9, 3) := dk_183 0 9 (dk_at dksX4_init_0 6 rfl rfl)
theorem dX4_init_9 : decode cX4_init 9 = .ok (.aload_n 0, 1) := dk_42 (dk_at dksX4_init_0 9 rfl rfl)
theorem dX4_init_10 : decode cX4_init 10 = .ok (.iload_n 2, 1) := dk_28 (dk_at dksX4_init_0 10 rfl rfl)
theorem dX4_init_11 : decode cX4_init 11 = .ok (.putfield 15, 3) := dk_181 0 15 (dk_at dksX4_init_0 11 rfl rfl)
theorem dX4_init_14 : decode cX4_init 14 = .ok (.aload_n 0, 1) := dk_42 (dk_at dksX4_init_0 14 rfl rfl)
theorem dX4_init_15 : decode cX4_init 15 = .ok (.iload_n 3, 1) := dk_29 (dk_at dksX4_init_0 15 rfl rfl)
theorem dX4_init_16 : decode cX4_init 16 = .ok (.putfield 19, 3) := dk_181 0 19 (dk_at dksX4_init_0 16 rfl rfl)
theorem dX4_init_19 : decode cX4_init 19 = .ok (.aload_n 0, 1) := dk_42 (dk_at dksX4_init_0 19 rfl rfl)
theorem dX4_init_20 : decode cX4_init 20 = .ok (.iload 4, 2) := dk_21 4 (dk_at dksX4_init_0 20 rfl rfl)
theorem dX4_init_22 : decode cX4_init 22 = .ok (.putfield 22, 3) := dk_181 0 22 (dk_at dksX4_init_1 0 rfl rfl)
theorem dX4_init_25 : decode cX4_init 25 = .ok (.aload_n 0, 1) := dk_42 (dk_at dksX4_init_1 3 rfl rfl)
theorem dX4_init_26 : decode cX4_init 26 = .ok (.aload 5, 2) := dk_25 5 (dk_at dksX4_init_1 4 rfl rfl)
theorem dX4_init_28 : decode cX4_init 28 = .ok (.putfield 25, 3) := dk_181 0 25 (dk_at dksX4_init_1 6 rfl rfl)
theorem dX4_init_31 : decode cX4_init 31 = .ok (.aload_n 0, 1) := dk_42 (dk_at dksX4_init_1 9 rfl rfl)
theorem dX4_init_32 : decode cX4_init 32 = .ok (.aload 6, 2) := dk_25 6 (dk_at dksX4_init_1 10 rfl rfl)
theorem dX4_init_34 : decode cX4_init 34 = .ok (.putfield 29, 3) := dk_181 0 29 (dk_at dksX4_init_1 12 rfl rfl)
theorem dX4_init_37 : decode cX4_init 37 = .ok (.return_, 1) := dk_177 (dk_at dksX4_init_1 15 rfl rfl)
theorem q35 : (Jvm.Cond.initialized "CatalogueLoader$Load") ∈ lw_all := lw_g (lw_at lw_m1 15 rfl) rfl
theorem q96 : (Jvm.Cond.fieldLinkNest "CatalogueLoader$Load" (45 : Nat) "CatalogueLoader$Catalogue" "records" "[LCatalogueLoader$Record;" "CatalogueLoader") ∈ lw_tbl := lw_at lw_m1 76 rfl
theorem q99 : (Jvm.Cond.fieldLinkNest "CatalogueLoader$Load" (36 : Nat) "CatalogueLoader$Catalogue" "hits" "[I" "CatalogueLoader") ∈ lw_tbl := lw_at lw_m1 79 rfl
theorem q118 : (Jvm.Cond.fieldLinkNest "CatalogueLoader$Load" (32 : Nat) "CatalogueLoader" "isUndone" "[Z" "CatalogueLoader") ∈ lw_tbl := lw_at lw_m1 98 rfl
theorem q248 : (Jvm.Cond.castable "CatalogueLoader$Load" "CatalogueLoader$Event") ∈ lw_tbl := lw_at lw_m1 228 rfl
theorem q249 : (Jvm.Cond.selects "CatalogueLoader$Load" ({ cls := "CatalogueLoader$Event", name := "doTo", desc := "(LCatalogueLoader$Catalogue;)V" } : Jvm.MethodName) ({ cls := "CatalogueLoader$Load", name := "doTo", desc := "(LCatalogueLoader$Catalogue;)V" } : Jvm.MethodName)) ∈ lw_all := lw_g (lw_at lw_m1 229 rfl) rfl
theorem q250 : (Jvm.Cond.unhidden "CatalogueLoader$Load" "doTo" "(LCatalogueLoader$Catalogue;)V") ∈ lw_tbl := lw_at lw_m1 230 rfl
theorem q251 : (Jvm.Cond.instanceMethod ({ cls := "CatalogueLoader$Load", name := "doTo", desc := "(LCatalogueLoader$Catalogue;)V" } : Jvm.MethodName)) ∈ lw_all := lw_g (lw_at lw_m1 231 rfl) rfl
theorem q252 : (Jvm.Cond.publicMethod ({ cls := "CatalogueLoader$Load", name := "doTo", desc := "(LCatalogueLoader$Catalogue;)V" } : Jvm.MethodName)) ∈ lw_tbl := lw_at lw_m1 232 rfl
theorem q253 : (Jvm.Cond.code ({ cls := "CatalogueLoader$Load", name := "doTo", desc := "(LCatalogueLoader$Catalogue;)V" } : Jvm.MethodName) prog_5_method_2_code (3 : Nat) (Option.none : Option Jvm.ClassFile.FieldType)) ∈ lw_all := lw_g (lw_at lw_m1 233 rfl) rfl
theorem q254 : (Jvm.Cond.methodLink "CatalogueLoader$Load" (41 : Nat) ({ cls := "CatalogueLoader$Catalogue", name := "match", desc := "([I)I" } : Jvm.MethodName)) ∈ lw_all := lw_g (lw_at lw_m1 234 rfl) rfl
theorem q262 : (Jvm.Cond.classLink "CatalogueLoader$Load" (49 : Nat) "CatalogueLoader$Record") ∈ lw_all := lw_g (lw_at lw_m2 2 rfl) rfl
theorem q264 : (Jvm.Cond.methodLinkNest "CatalogueLoader$Load" (51 : Nat) ({ cls := "CatalogueLoader$Record", name := "<init>", desc := "()V" } : Jvm.MethodName) "CatalogueLoader") ∈ lw_tbl := lw_at lw_m2 4 rfl
theorem q299 : (Jvm.Cond.methodLink "CatalogueLoader$Load" (52 : Nat) ({ cls := "CatalogueLoader$Catalogue", name := "layOver", desc := "(LCatalogueLoader$Record;LCatalogueLoader$Load;)V" } : Jvm.MethodName)) ∈ lw_all := lw_g (lw_at lw_m2 39 rfl) rfl
theorem q529 : (Jvm.Cond.instantiable "CatalogueLoader$Load" (6 : Nat)) ∈ lw_all := lw_g (lw_at lw_m3 29 rfl) rfl
theorem q541 : (Jvm.Cond.instanceMethod ({ cls := "CatalogueLoader$Load", name := "<init>", desc := "(LCatalogueLoader;III[I[I)V" } : Jvm.MethodName)) ∈ lw_all := lw_g (lw_at lw_m3 41 rfl) rfl
theorem q542 : (Jvm.Cond.code ({ cls := "CatalogueLoader$Load", name := "<init>", desc := "(LCatalogueLoader;III[I[I)V" } : Jvm.MethodName) prog_5_method_1_code (7 : Nat) (Option.none : Option Jvm.ClassFile.FieldType)) ∈ lw_all := lw_g (lw_at lw_m3 42 rfl) rfl
theorem q543 : (Jvm.Cond.methodLink "CatalogueLoader$Load" (9 : Nat) ({ cls := "java/lang/Object", name := "<init>", desc := "()V" } : Jvm.MethodName)) ∈ lw_all := lw_g (lw_at lw_m3 43 rfl) rfl
theorem q544 : (Jvm.Cond.fieldLink "CatalogueLoader$Load" (15 : Nat) "CatalogueLoader$Load" "number" "I") ∈ lw_all := lw_g (lw_at lw_m3 44 rfl) rfl
theorem q545 : (Jvm.Cond.fieldLink "CatalogueLoader$Load" (19 : Nat) "CatalogueLoader$Load" "batch" "I") ∈ lw_all := lw_g (lw_at lw_m3 45 rfl) rfl
theorem q546 : (Jvm.Cond.fieldLink "CatalogueLoader$Load" (22 : Nat) "CatalogueLoader$Load" "source" "I") ∈ lw_all := lw_g (lw_at lw_m3 46 rfl) rfl
theorem q548 : (Jvm.Cond.fieldLink "CatalogueLoader$Load" (25 : Nat) "CatalogueLoader$Load" "keys" "[I") ∈ lw_all := lw_g (lw_at lw_m3 48 rfl) rfl
theorem q550 : (Jvm.Cond.fieldLink "CatalogueLoader$Load" (29 : Nat) "CatalogueLoader$Load" "fields" "[I") ∈ lw_all := lw_g (lw_at lw_m3 50 rfl) rfl
theorem q552 : (Jvm.Cond.fieldLink "CatalogueLoader$Load" (3 : Nat) "CatalogueLoader$Load" "this$0" "LCatalogueLoader;") ∈ lw_all := lw_g (lw_at lw_m3 52 rfl) rfl
theorem q553 : (Jvm.Cond.laysFinal "CatalogueLoader$Load" "CatalogueLoader$Load" "number" "I") ∈ lw_all := lw_g (lw_at lw_m3 53 rfl) rfl
theorem q554 : (Jvm.Cond.soleField "CatalogueLoader$Load" "number") ∈ lw_all := lw_g (lw_at lw_m3 54 rfl) rfl
theorem q555 : (Jvm.Cond.laysFinal "CatalogueLoader$Load" "CatalogueLoader$Load" "batch" "I") ∈ lw_all := lw_g (lw_at lw_m3 55 rfl) rfl
theorem q556 : (Jvm.Cond.soleField "CatalogueLoader$Load" "batch") ∈ lw_all := lw_g (lw_at lw_m3 56 rfl) rfl
theorem q557 : (Jvm.Cond.laysFinal "CatalogueLoader$Load" "CatalogueLoader$Load" "source" "I") ∈ lw_all := lw_g (lw_at lw_m3 57 rfl) rfl
theorem q558 : (Jvm.Cond.soleField "CatalogueLoader$Load" "source") ∈ lw_all := lw_g (lw_at lw_m3 58 rfl) rfl
theorem q559 : (Jvm.Cond.laysFinal "CatalogueLoader$Load" "CatalogueLoader$Load" "keys" "[I") ∈ lw_all := lw_g (lw_at lw_m3 59 rfl) rfl
theorem q560 : (Jvm.Cond.soleField "CatalogueLoader$Load" "keys") ∈ lw_all := lw_g (lw_at lw_m3 60 rfl) rfl
theorem q561 : (Jvm.Cond.laysFinal "CatalogueLoader$Load" "CatalogueLoader$Load" "fields" "[I") ∈ lw_all := lw_g (lw_at lw_m3 61 rfl) rfl
theorem q562 : (Jvm.Cond.soleField "CatalogueLoader$Load" "fields") ∈ lw_all := lw_g (lw_at lw_m3 62 rfl) rfl
theorem q563 : (Jvm.Cond.laysFinal "CatalogueLoader$Load" "CatalogueLoader$Load" "this$0" "LCatalogueLoader;") ∈ lw_all := lw_g (lw_at lw_m3 63 rfl) rfl
theorem q564 : (Jvm.Cond.soleField "CatalogueLoader$Load" "this$0") ∈ lw_all := lw_g (lw_at lw_m3 64 rfl) rfl
theorem q565 : (Jvm.Cond.superclass "CatalogueLoader$Load" "java/lang/Object") ∈ lw_all := lw_g (lw_at lw_m3 65 rfl) rfl
theorem q603 : (Jvm.Cond.selects "CatalogueLoader$Load" ({ cls := "java/lang/Object", name := "getClass", desc := "()Ljava/lang/Class;" } : Jvm.MethodName) ({ cls := "java/lang/Object", name := "getClass", desc := "()Ljava/lang/Class;" } : Jvm.MethodName)) ∈ lw_all := lw_g (lw_at lw_m3 103 rfl) rfl
theorem q988 : (Jvm.Cond.castable "CatalogueLoader$Load" "java/lang/Object") ∈ lw_tbl := lw_at lw_m5 8 rfl
theorem in_X4 : ∀ w ∈ wsX40, w ∈ lw_all := lw_in wsX40 [553, 555, 557, 559, 561, 563] (by decide +kernel) (by decide +kernel)

/-! CatalogueLoader$Record -/
set_option maxRecDepth 100000
def RX5 : String := "CatalogueLoader$Record"
def TX5 : u_T := fun k => match k with
  | 0 => ("CatalogueLoader$Record", "keys", "[I", true)
  | 1 => ("CatalogueLoader$Record", "fields", "[I", true)
  | 2 => ("CatalogueLoader$Record", "sources", "[I", true)
  | 3 => ("CatalogueLoader$Record", "isProtected", "[Z", true)
  | _ => ("CatalogueLoader$Record", "holdings", "I", false)
def tyX5 : Nat → FieldType := fun k => match k with
  | 0 => .array .int
  | 1 => .array .int
  | 2 => .array .int
  | 3 => .array .boolean
  | _ => .int
abbrev wsX50 : List Cond := u_ws RX5 TX5 5
theorem nmX5 : ∀ a, a < 5 → ∀ b, b < 5 → a ≠ b → (TX5 a).2.1 ≠ (TX5 b).2.1 := by decide +kernel
theorem tyX5_ok : ∀ k, k < 5 → parseFieldDescriptor (TX5 k).2.2.1 = some (tyX5 k) := by decide +kernel
abbrev cX5_init : ByteArray := prog_8_method_1_code
def yX5_init : MethodName := ⟨RX5, "<init>", "()V"⟩
def dkwX5_init_3 : List UInt8 := [188, 4, 181, 0, 21, 177]
abbrev dktX5_init_3 : List UInt8 := dkwX5_init_3 ++ []
def dkwX5_init_2 : List UInt8 := [188, 10, 89, 3, 2, 79, 89, 4, 2, 79, 89, 5, 2, 79, 89, 6, 2, 79, 181, 0, 18, 42, 7]
abbrev dktX5_init_2 : List UInt8 := dkwX5_init_2 ++ dktX5_init_3
def dkwX5_init_1 : List UInt8 := [7, 188, 10, 89, 3, 2, 79, 89, 4, 2, 79, 89, 5, 2, 79, 89, 6, 2, 79, 181, 0, 15, 42, 7]
abbrev dktX5_init_1 : List UInt8 := dkwX5_init_1 ++ dktX5_init_2
def dkwX5_init_0 : List UInt8 := [42, 183, 0, 3, 42, 6, 188, 10, 89, 3, 2, 79, 89, 4, 2, 79, 89, 5, 2, 79, 181, 0, 9, 42]
abbrev dktX5_init_0 : List UInt8 := dkwX5_init_0 ++ dktX5_init_1
theorem dksX5_init_0 : cX5_init.data.toList.drop 0 = dktX5_init_0 := by decide +kernel
theorem dksX5_init_1 : cX5_init.data.toList.drop 24 = dktX5_init_1 := dk_seg dksX5_init_0 24 rfl rfl
theorem dksX5_init_2 : cX5_init.data.toList.drop 48 = dktX5_init_2 := dk_seg dksX5_init_1 24 rfl rfl
theorem dksX5_init_3 : cX5_init.data.toList.drop 71 = dktX5_init_3 := dk_seg dksX5_init_2 23 rfl rfl
theorem dX5_init_0 : decode cX5_init 0 = .ok (.aload_n 0, 1) := dk_42 (dk_at dksX5_init_0 0 rfl rfl)
theorem dX5_init_1 : decode cX5_init 1 = .ok (.invokespecial 3, 3) := dk_183 0 3 (dk_at dksX5_init_0 1 rfl rfl)
theorem dX5_init_4 : decode cX5_init 4 = .ok (.aload_n 0, 1) := dk_42 (dk_at dksX5_init_0 4 rfl rfl)
theorem dX5_init_5 : decode cX5_init 5 = .ok (.iconst 3, 1) := dk_6 (dk_at dksX5_init_0 5 rfl rfl)
theorem dX5_init_6 : decode cX5_init 6 = .ok (.newarray .int, 2) := dk_188_10 (dk_at dksX5_init_0 6 rfl rfl)
theorem dX5_init_8 : decode cX5_init 8 = .ok (.dup, 1) := dk_89 (dk_at dksX5_init_0 8 rfl rfl)
theorem dX5_init_9 : decode cX5_init 9 = .ok (.iconst 0, 1) := dk_3 (dk_at dksX5_init_0 9 rfl rfl)
theorem dX5_init_10 : decode cX5_init 10 = .ok (.iconst (-1), 1) := dk_2 (dk_at dksX5_init_0 10 rfl rfl)
theorem dX5_init_11 : decode cX5_init 11 = .ok (.iastore, 1) := dk_79 (dk_at dksX5_init_0 11 rfl rfl)
theorem dX5_init_12 : decode cX5_init 12 = .ok (.dup, 1) := dk_89 (dk_at dksX5_init_0 12 rfl rfl)
theorem dX5_init_13 : decode cX5_init 13 = .ok (.iconst 1, 1) := dk_4 (dk_at dksX5_init_0 13 rfl rfl)
theorem dX5_init_14 : decode cX5_init 14 = .ok (.iconst (-1), 1) := dk_2 (dk_at dksX5_init_0 14 rfl rfl)
theorem dX5_init_15 : decode cX5_init 15 = .ok (.iastore, 1) := dk_79 (dk_at dksX5_init_0 15 rfl rfl)
theorem dX5_init_16 : decode cX5_init 16 = .ok (.dup, 1) := dk_89 (dk_at dksX5_init_0 16 rfl rfl)
theorem dX5_init_17 : decode cX5_init 17 = .ok (.iconst 2, 1) := dk_5 (dk_at dksX5_init_0 17 rfl rfl)
theorem dX5_init_18 : decode cX5_init 18 = .ok (.iconst (-1), 1) := dk_2 (dk_at dksX5_init_0 18 rfl rfl)
theorem dX5_init_19 : decode cX5_init 19 = .ok (.iastore, 1) := dk_79 (dk_at dksX5_init_0 19 rfl rfl)
theorem dX5_init_20 : decode cX5_init 20 = .ok (.putfield 9, 3) := dk_181 0 9 (dk_at dksX5_init_0 20 rfl rfl)
theorem dX5_init_23 : decode cX5_init 23 = .ok (.aload_n 0, 1) := dk_42 (dk_at dksX5_init_0 23 rfl rfl)
theorem dX5_init_24 : decode cX5_init 24 = .ok (.iconst 4, 1) := dk_7 (dk_at dksX5_init_1 0 rfl rfl)
theorem dX5_init_25 : decode cX5_init 25 = .ok (.newarray .int, 2) := dk_188_10 (dk_at dksX5_init_1 1 rfl rfl)
theorem dX5_init_27 : decode cX5_init 27 = .ok (.dup, 1) := dk_89 (dk_at dksX5_init_1 3 rfl rfl)
theorem dX5_init_28 : decode cX5_init 28 = .ok (.iconst 0, 1) := dk_3 (dk_at dksX5_init_1 4 rfl rfl)
theorem dX5_init_29 : decode cX5_init 29 = .ok (.iconst (-1), 1) := dk_2 (dk_at dksX5_init_1 5 rfl rfl)
theorem dX5_init_30 : decode cX5_init 30 = .ok (.iastore, 1) := dk_79 (dk_at dksX5_init_1 6 rfl rfl)
theorem dX5_init_31 : decode cX5_init 31 = .ok (.dup, 1) := dk_89 (dk_at dksX5_init_1 7 rfl rfl)
theorem dX5_init_32 : decode cX5_init 32 = .ok (.iconst 1, 1) := dk_4 (dk_at dksX5_init_1 8 rfl rfl)
theorem dX5_init_33 : decode cX5_init 33 = .ok (.iconst (-1), 1) := dk_2 (dk_at dksX5_init_1 9 rfl rfl)
theorem dX5_init_34 : decode cX5_init 34 = .ok (.iastore, 1) := dk_79 (dk_at dksX5_init_1 10 rfl rfl)
theorem dX5_init_35 : decode cX5_init 35 = .ok (.dup, 1) := dk_89 (dk_at dksX5_init_1 11 rfl rfl)
theorem dX5_init_36 : decode cX5_init 36 = .ok (.iconst 2, 1) := dk_5 (dk_at dksX5_init_1 12 rfl rfl)
theorem dX5_init_37 : decode cX5_init 37 = .ok (.iconst (-1), 1) := dk_2 (dk_at dksX5_init_1 13 rfl rfl)
theorem dX5_init_38 : decode cX5_init 38 = .ok (.iastore, 1) := dk_79 (dk_at dksX5_init_1 14 rfl rfl)
theorem dX5_init_39 : decode cX5_init 39 = .ok (.dup, 1) := dk_89 (dk_at dksX5_init_1 15 rfl rfl)
theorem dX5_init_40 : decode cX5_init 40 = .ok (.iconst 3, 1) := dk_6 (dk_at dksX5_init_1 16 rfl rfl)
theorem dX5_init_41 : decode cX5_init 41 = .ok (.iconst (-1), 1) := dk_2 (dk_at dksX5_init_1 17 rfl rfl)
theorem dX5_init_42 : decode cX5_init 42 = .ok (.iastore, 1) := dk_79 (dk_at dksX5_init_1 18 rfl rfl)
theorem dX5_init_43 : decode cX5_init 43 = .ok (.putfield 15, 3) := dk_181 0 15 (dk_at dksX5_init_1 19 rfl rfl)
theorem dX5_init_46 : decode cX5_init 46 = .ok (.aload_n 0, 1) := dk_42 (dk_at dksX5_init_1 22 rfl rfl)
theorem dX5_init_47 : decode cX5_init 47 = .ok (.iconst 4, 1) := dk_7 (dk_at dksX5_init_1 23 rfl rfl)
theorem dX5_init_48 : decode cX5_init 48 = .ok (.newarray .int, 2) := dk_188_10 (dk_at dksX5_init_2 0 rfl rfl)
theorem dX5_init_50 : decode cX5_init 50 = .ok (.dup, 1) := dk_89 (dk_at dksX5_init_2 2 rfl rfl)
theorem dX5_init_51 : decode cX5_init 51 = .ok (.iconst 0, 1) := dk_3 (dk_at dksX5_init_2 3 rfl rfl)
theorem dX5_init_52 : decode cX5_init 52 = .ok (.iconst (-1), 1) := dk_2 (dk_at dksX5_init_2 4 rfl rfl)
theorem dX5_init_53 : decode cX5_init 53 = .ok (.iastore, 1) := dk_79 (dk_at dksX5_init_2 5 rfl rfl)
theorem dX5_init_54 : decode cX5_init 54 = .ok (.dup, 1) := dk_89 (dk_at dksX5_init_2 6 rfl rfl)
theorem dX5_init_55 : decode cX5_init 55 = .ok (.iconst 1, 1) := dk_4 (dk_at dksX5_init_2 7 rfl rfl)
theorem dX5_init_56 : decode cX5_init 56 = .ok (.iconst (-1), 1) := dk_2 (dk_at dksX5_init_2 8 rfl rfl)
theorem dX5_init_57 : decode cX5_init 57 = .ok (.iastore, 1) := dk_79 (dk_at dksX5_init_2 9 rfl rfl)
theorem dX5_init_58 : decode cX5_init 58 = .ok (.dup, 1) := dk_89 (dk_at dksX5_init_2 10 rfl rfl)
theorem dX5_init_59 : decode cX5_init 59 = .ok (.iconst 2, 1) := dk_5 (dk_at dksX5_init_2 11 rfl rfl)
theorem dX5_init_60 : decode cX5_init 60 = .ok (.iconst (-1), 1) := dk_2 (dk_at dksX5_init_2 12 rfl rfl)
theorem dX5_init_61 : decode cX5_init 61 = .ok (.iastore, 1) := dk_79 (dk_at dksX5_init_2 13 rfl rfl)
theorem dX5_init_62 : decode cX5_init 62 = .ok (.dup, 1) := dk_89 (dk_at dksX5_init_2 14 rfl rfl)
theorem dX5_init_63 : decode cX5_init 63 = .ok (.iconst 3, 1) := dk_6 (dk_at dksX5_init_2 15 rfl rfl)
theorem dX5_init_64 : decode cX5_init 64 = .ok (.iconst (-1), 1) := dk_2 (dk_at dksX5_init_2 16 rfl rfl)
theorem dX5_init_65 : decode cX5_init 65 = .ok (.iastore, 1) := dk_79 (dk_at dksX5_init_2 17 rfl rfl)
theorem dX5_init_66 : decode cX5_init 66 = .ok (.putfield 18, 3) := dk_181 0 18 (dk_at dksX5_init_2 18 rfl rfl)
theorem dX5_init_69 : decode cX5_init 69 = .ok (.aload_n 0, 1) := dk_42 (dk_at dksX5_init_2 21 rfl rfl)
theorem dX5_init_70 : decode cX5_init 70 = .ok (.iconst 4, 1) := dk_7 (dk_at dksX5_init_2 22 rfl rfl)
theorem dX5_init_71 : decode cX5_init 71 = .ok (.newarray .boolean, 2) := dk_188_4 (dk_at dksX5_init_3 0 rfl rfl)
theorem dX5_init_73 : decode cX5_init 73 = .ok (.putfield 21, 3) := dk_181 0 21 (dk_at dksX5_init_3 2 rfl rfl)
theorem dX5_init_76 : decode cX5_init 76 = .ok (.return_, 1) := dk_177 (dk_at dksX5_init_3 5 rfl rfl)
abbrev cX5_fillKeys : ByteArray := prog_8_method_2_code
def yX5_fillKeys : MethodName := ⟨RX5, "fillKeys", "([I)V"⟩
def dkwX5_fillKeys_1 : List UInt8 := [46, 167, 0, 9, 42, 180, 0, 9, 28, 46, 79, 132, 2, 1, 167, 255, 220, 177]
abbrev dktX5_fillKeys_1 : List UInt8 := dkwX5_fillKeys_1 ++ []
def dkwX5_fillKeys_0 : List UInt8 := [3, 61, 28, 6, 162, 0, 37, 42, 180, 0, 9, 28, 42, 180, 0, 9, 28, 46, 2, 160, 0, 9, 43, 28]
abbrev dktX5_fillKeys_0 : List UInt8 := dkwX5_fillKeys_0 ++ dktX5_fillKeys_1
theorem dksX5_fillKeys_0 : cX5_fillKeys.data.toList.drop 0 = dktX5_fillKeys_0 := by decide +kernel
theorem dksX5_fillKeys_1 : cX5_fillKeys.data.toList.drop 24 = dktX5_fillKeys_1 := dk_seg dksX5_fillKeys_0 24 rfl rfl
theorem dX5_fillKeys_0 : decode cX5_fillKeys 0 = .ok (.iconst 0, 1) := dk_3 (dk_at dksX5_fillKeys_0 0 rfl rfl)
theorem dX5_fillKeys_1 : decode cX5_fillKeys 1 = .ok (.istore_n 2, 1) := dk_61 (dk_at dksX5_fillKeys_0 1 rfl rfl)
theorem dX5_fillKeys_2 : decode cX5_fillKeys 2 = .ok (.iload_n 2, 1) := dk_28 (dk_at dksX5_fillKeys_0 2 rfl rfl)
theorem dX5_fillKeys_3 : decode cX5_fillKeys 3 = .ok (.iconst 3, 1) := dk_6 (dk_at dksX5_fillKeys_0 3 rfl rfl)
theorem dX5_fillKeys_4 : decode cX5_fillKeys 4 = .ok (.if_icmp .ge 37, 3) := dk_162 0 37 (dk_at dksX5_fillKeys_0 4 rfl rfl)
theorem dX5_fillKeys_7 : decode cX5_fillKeys 7 = .ok (.aload_n 0, 1) := dk_42 (dk_at dksX5_fillKeys_0 7 rfl rfl)
theorem dX5_fillKeys_8 : decode cX5_fillKeys 8 = .ok (.getfield 9, 3) := dk_180 0 9 (dk_at dksX5_fillKeys_0 8 rfl rfl)
theorem dX5_fillKeys_11 : decode cX5_fillKeys 11 = .ok (.iload_n 2, 1) := dk_28 (dk_at dksX5_fillKeys_0 11 rfl rfl)
theorem dX5_fillKeys_12 : decode cX5_fillKeys 12 = .ok (.aload_n 0, 1) := dk_42 (dk_at dksX5_fillKeys_0 12 rfl rfl)
theorem dX5_fillKeys_13 : decode cX5_fillKeys 13 = .ok (.getfield 9, 3) := dk_180 0 9 (dk_at dksX5_fillKeys_0 13 rfl rfl)
theorem dX5_fillKeys_16 : decode cX5_fillKeys 16 = .ok (.iload_n 2, 1) := dk_28 (dk_at dksX5_fillKeys_0 16 rfl rfl)
theorem dX5_fillKeys_17 : decode cX5_fillKeys 17 = .ok (.iaload, 1) := dk_46 (dk_at dksX5_fillKeys_0 17 rfl rfl)
theorem dX5_fillKeys_18 : decode cX5_fillKeys 18 = .ok (.iconst (-1), 1) := dk_2 (dk_at dksX5_fillKeys_0 18 rfl rfl)
theorem dX5_fillKeys_19 : decode cX5_fillKeys 19 = .ok (.if_icmp .ne 9, 3) := dk_160 0 9 (dk_at dksX5_fillKeys_0 19 rfl rfl)
theorem dX5_fillKeys_22 : decode cX5_fillKeys 22 = .ok (.aload_n 1, 1) := dk_43 (dk_at dksX5_fillKeys_0 22 rfl rfl)
theorem dX5_fillKeys_23 : decode cX5_fillKeys 23 = .ok (.iload_n 2, 1) := dk_28 (dk_at dksX5_fillKeys_0 23 rfl rfl)
theorem dX5_fillKeys_24 : decode cX5_fillKeys 24 = .ok (.iaload, 1) := dk_46 (dk_at dksX5_fillKeys_1 0 rfl rfl)
theorem dX5_fillKeys_25 : decode cX5_fillKeys 25 = .ok (.goto 9, 3) := dk_167 0 9 (dk_at dksX5_fillKeys_1 1 rfl rfl)
theorem dX5_fillKeys_28 : decode cX5_fillKeys 28 = .ok (.aload_n 0, 1) := dk_42 (dk_at dksX5_fillKeys_1 4 rfl rfl)
theorem dX5_fillKeys_29 : decode cX5_fillKeys 29 = .ok (.getfield 9, 3) := dk_180 0 9 (dk_at dksX5_fillKeys_1 5 rfl rfl)
theorem dX5_fillKeys_32 : decode cX5_fillKeys 32 = .ok (.iload_n 2, 1) := dk_28 (dk_at dksX5_fillKeys_1 8 rfl rfl)
theorem dX5_fillKeys_33 : decode cX5_fillKeys 33 = .ok (.iaload, 1) := dk_46 (dk_at dksX5_fillKeys_1 9 rfl rfl)
theorem dX5_fillKeys_34 : decode cX5_fillKeys 34 = .ok (.iastore, 1) := dk_79 (dk_at dksX5_fillKeys_1 10 rfl rfl)
theorem dX5_fillKeys_35 : decode cX5_fillKeys 35 = .ok (.iinc 2 1, 3) := dk_132 2 1 (dk_at dksX5_fillKeys_1 11 rfl rfl)
theorem dX5_fillKeys_38 : decode cX5_fillKeys 38 = .ok (.goto (-36), 3) := dk_167 255 220 (dk_at dksX5_fillKeys_1 14 rfl rfl)
theorem dX5_fillKeys_41 : decode cX5_fillKeys 41 = .ok (.return_, 1) := dk_177 (dk_at dksX5_fillKeys_1 17 rfl rfl)
abbrev cX5_put : ByteArray := prog_8_method_3_code
def yX5_put : MethodName := ⟨RX5, "put", "(III)V"⟩
def dkwX5_put_0 : List UInt8 := [42, 180, 0, 15, 27, 28, 79, 42, 180, 0, 18, 27, 29, 79, 177]
abbrev dktX5_put_0 : List UInt8 := dkwX5_put_0 ++ []
theorem dksX5_put_0 : cX5_put.data.toList.drop 0 = dktX5_put_0 := by decide +kernel
theorem dX5_put_0 : decode cX5_put 0 = .ok (.aload_n 0, 1) := dk_42 (dk_at dksX5_put_0 0 rfl rfl)
theorem dX5_put_1 : decode cX5_put 1 = .ok (.getfield 15, 3) := dk_180 0 15 (dk_at dksX5_put_0 1 rfl rfl)
theorem dX5_put_4 : decode cX5_put 4 = .ok (.iload_n 1, 1) := dk_27 (dk_at dksX5_put_0 4 rfl rfl)
theorem dX5_put_5 : decode cX5_put 5 = .ok (.iload_n 2, 1) := dk_28 (dk_at dksX5_put_0 5 rfl rfl)
theorem dX5_put_6 : decode cX5_put 6 = .ok (.iastore, 1) := dk_79 (dk_at dksX5_put_0 6 rfl rfl)
theorem dX5_put_7 : decode cX5_put 7 = .ok (.aload_n 0, 1) := dk_42 (dk_at dksX5_put_0 7 rfl rfl)
theorem dX5_put_8 : decode cX5_put 8 = .ok (.getfield 18, 3) := dk_180 0 18 (dk_at dksX5_put_0 8 rfl rfl)
theorem dX5_put_11 : decode cX5_put 11 = .ok (.iload_n 1, 1) := dk_27 (dk_at dksX5_put_0 11 rfl rfl)
theorem dX5_put_12 : decode cX5_put 12 = .ok (.iload_n 3, 1) := dk_29 (dk_at dksX5_put_0 12 rfl rfl)
theorem dX5_put_13 : decode cX5_put 13 = .ok (.iastore, 1) := dk_79 (dk_at dksX5_put_0 13 rfl rfl)
theorem dX5_put_14 : decode cX5_put 14 = .ok (.return_, 1) := dk_177 (dk_at dksX5_put_0 14 rfl rfl)
theorem q40 : (Jvm.Cond.initialized "CatalogueLoader$Record") ∈ lw_all := lw_g (lw_at lw_m1 20 rfl) rfl
theorem q263 : (Jvm.Cond.instantiable "CatalogueLoader$Record" (5 : Nat)) ∈ lw_all := lw_g (lw_at lw_m2 3 rfl) rfl
theorem q265 : (Jvm.Cond.instanceMethod ({ cls := "CatalogueLoader$Record", name := "<init>", desc := "()V" } : Jvm.MethodName)) ∈ lw_all := lw_g (lw_at lw_m2 5 rfl) rfl
theorem q266 : (Jvm.Cond.code ({ cls := "CatalogueLoader$Record", name := "<init>", desc := "()V" } : Jvm.MethodName) prog_8_method_1_code (1 : Nat) (Option.none : Option Jvm.ClassFile.FieldType)) ∈ lw_all := lw_g (lw_at lw_m2 6 rfl) rfl
theorem q267 : (Jvm.Cond.methodLink "CatalogueLoader$Record" (3 : Nat) ({ cls := "java/lang/Object", name := "<init>", desc := "()V" } : Jvm.MethodName)) ∈ lw_all := lw_g (lw_at lw_m2 7 rfl) rfl
theorem q268 : (Jvm.Cond.fieldLink "CatalogueLoader$Record" (9 : Nat) "CatalogueLoader$Record" "keys" "[I") ∈ lw_all := lw_g (lw_at lw_m2 8 rfl) rfl
theorem q272 : (Jvm.Cond.fieldLink "CatalogueLoader$Record" (15 : Nat) "CatalogueLoader$Record" "fields" "[I") ∈ lw_all := lw_g (lw_at lw_m2 12 rfl) rfl
theorem q276 : (Jvm.Cond.fieldLink "CatalogueLoader$Record" (18 : Nat) "CatalogueLoader$Record" "sources" "[I") ∈ lw_all := lw_g (lw_at lw_m2 16 rfl) rfl
theorem q280 : (Jvm.Cond.fieldLink "CatalogueLoader$Record" (21 : Nat) "CatalogueLoader$Record" "isProtected" "[Z") ∈ lw_all := lw_g (lw_at lw_m2 20 rfl) rfl
theorem q288 : (Jvm.Cond.laysFinal "CatalogueLoader$Record" "CatalogueLoader$Record" "keys" "[I") ∈ lw_all := lw_g (lw_at lw_m2 28 rfl) rfl
theorem q289 : (Jvm.Cond.soleField "CatalogueLoader$Record" "keys") ∈ lw_all := lw_g (lw_at lw_m2 29 rfl) rfl
theorem q290 : (Jvm.Cond.laysFinal "CatalogueLoader$Record" "CatalogueLoader$Record" "fields" "[I") ∈ lw_all := lw_g (lw_at lw_m2 30 rfl) rfl
theorem q291 : (Jvm.Cond.soleField "CatalogueLoader$Record" "fields") ∈ lw_all := lw_g (lw_at lw_m2 31 rfl) rfl
theorem q292 : (Jvm.Cond.laysFinal "CatalogueLoader$Record" "CatalogueLoader$Record" "sources" "[I") ∈ lw_all := lw_g (lw_at lw_m2 32 rfl) rfl
theorem q293 : (Jvm.Cond.soleField "CatalogueLoader$Record" "sources") ∈ lw_all := lw_g (lw_at lw_m2 33 rfl) rfl
theorem q294 : (Jvm.Cond.laysFinal "CatalogueLoader$Record" "CatalogueLoader$Record" "isProtected" "[Z") ∈ lw_all := lw_g (lw_at lw_m2 34 rfl) rfl
theorem q295 : (Jvm.Cond.soleField "CatalogueLoader$Record" "isProtected") ∈ lw_all := lw_g (lw_at lw_m2 35 rfl) rfl
theorem q296 : (Jvm.Cond.lays "CatalogueLoader$Record" "CatalogueLoader$Record" "holdings" "I") ∈ lw_all := lw_g (lw_at lw_m2 36 rfl) rfl
theorem q297 : (Jvm.Cond.soleField "CatalogueLoader$Record" "holdings") ∈ lw_all := lw_g (lw_at lw_m2 37 rfl) rfl
theorem q298 : (Jvm.Cond.superclass "CatalogueLoader$Record" "java/lang/Object") ∈ lw_all := lw_g (lw_at lw_m2 38 rfl) rfl
theorem q304 : (Jvm.Cond.instanceMethod ({ cls := "CatalogueLoader$Record", name := "fillKeys", desc := "([I)V" } : Jvm.MethodName)) ∈ lw_all := lw_g (lw_at lw_m2 44 rfl) rfl
theorem q305 : (Jvm.Cond.selects "CatalogueLoader$Record" ({ cls := "CatalogueLoader$Record", name := "fillKeys", desc := "([I)V" } : Jvm.MethodName) ({ cls := "CatalogueLoader$Record", name := "fillKeys", desc := "([I)V" } : Jvm.MethodName)) ∈ lw_all := lw_g (lw_at lw_m2 45 rfl) rfl
theorem q306 : (Jvm.Cond.code ({ cls := "CatalogueLoader$Record", name := "fillKeys", desc := "([I)V" } : Jvm.MethodName) prog_8_method_2_code (3 : Nat) (Option.none : Option Jvm.ClassFile.FieldType)) ∈ lw_all := lw_g (lw_at lw_m2 46 rfl) rfl
theorem q312 : (Jvm.Cond.instanceMethod ({ cls := "CatalogueLoader$Record", name := "put", desc := "(III)V" } : Jvm.MethodName)) ∈ lw_all := lw_g (lw_at lw_m2 52 rfl) rfl
theorem q313 : (Jvm.Cond.selects "CatalogueLoader$Record" ({ cls := "CatalogueLoader$Record", name := "put", desc := "(III)V" } : Jvm.MethodName) ({ cls := "CatalogueLoader$Record", name := "put", desc := "(III)V" } : Jvm.MethodName)) ∈ lw_all := lw_g (lw_at lw_m2 53 rfl) rfl
theorem q314 : (Jvm.Cond.code ({ cls := "CatalogueLoader$Record", name := "put", desc := "(III)V" } : Jvm.MethodName) prog_8_method_3_code (4 : Nat) (Option.none : Option Jvm.ClassFile.FieldType)) ∈ lw_all := lw_g (lw_at lw_m2 54 rfl) rfl
theorem q606 : (Jvm.Cond.selects "CatalogueLoader$Record" ({ cls := "java/lang/Object", name := "getClass", desc := "()Ljava/lang/Class;" } : Jvm.MethodName) ({ cls := "java/lang/Object", name := "getClass", desc := "()Ljava/lang/Class;" } : Jvm.MethodName)) ∈ lw_all := lw_g (lw_at lw_m3 106 rfl) rfl
theorem q979 : (Jvm.Cond.castable "CatalogueLoader$Record" "java/lang/Object") ∈ lw_tbl := lw_at lw_m4 239 rfl
theorem in_X5 : ∀ w ∈ wsX50, w ∈ lw_all := lw_in wsX50 [288, 290, 292, 294, 296] (by decide +kernel) (by decide +kernel)

/-! CatalogueLoader$Protecting -/
set_option maxRecDepth 100000
def RX6 : String := "CatalogueLoader$Protecting"
def TX6 : u_T := fun k => match k with
  | 0 => ("CatalogueLoader$Protecting", "record", "I", true)
  | 1 => ("CatalogueLoader$Protecting", "field", "I", true)
  | _ => ("CatalogueLoader$Protecting", "is", "Z", true)
def tyX6 : Nat → FieldType := fun k => match k with
  | 0 => .int
  | 1 => .int
  | _ => .boolean
abbrev wsX60 : List Cond := u_ws RX6 TX6 3
theorem nmX6 : ∀ a, a < 3 → ∀ b, b < 3 → a ≠ b → (TX6 a).2.1 ≠ (TX6 b).2.1 := by decide +kernel
theorem tyX6_ok : ∀ k, k < 3 → parseFieldDescriptor (TX6 k).2.2.1 = some (tyX6 k) := by decide +kernel
abbrev cX6_doTo : ByteArray := prog_7_method_2_code
def yX6_doTo : MethodName := ⟨RX6, "doTo", "(LCatalogueLoader$Catalogue;)V"⟩
def dkwX6_doTo_1 : List UInt8 := [180, 0, 13, 42, 180, 0, 16, 84, 177]
abbrev dktX6_doTo_1 : List UInt8 := dkwX6_doTo_1 ++ []
def dkwX6_doTo_0 : List UInt8 := [43, 42, 180, 0, 7, 182, 0, 20, 153, 0, 24, 43, 180, 0, 26, 42, 180, 0, 7, 50, 180, 0, 30, 42]
abbrev dktX6_doTo_0 : List UInt8 := dkwX6_doTo_0 ++ dktX6_doTo_1
theorem dksX6_doTo_0 : cX6_doTo.data.toList.drop 0 = dktX6_doTo_0 := by decide +kernel
theorem dksX6_doTo_1 : cX6_doTo.data.toList.drop 24 = dktX6_doTo_1 := dk_seg dksX6_doTo_0 24 rfl rfl
theorem dX6_doTo_0 : decode cX6_doTo 0 = .ok (.aload_n 1, 1) := dk_43 (dk_at dksX6_doTo_0 0 rfl rfl)
theorem dX6_doTo_1 : decode cX6_doTo 1 = .ok (.aload_n 0, 1) := dk_42 (dk_at dksX6_doTo_0 1 rfl rfl)
theorem dX6_doTo_2 : decode cX6_doTo 2 = .ok (.getfield 7, 3) := dk_180 0 7 (dk_at dksX6_doTo_0 2 rfl rfl)
theorem dX6_doTo_5 : decode cX6_doTo 5 = .ok (.invokevirtual 20, 3) := dk_182 0 20 (dk_at dksX6_doTo_0 5 rfl rfl)
theorem dX6_doTo_8 : decode cX6_doTo 8 = .ok (.ifCond .eq 24, 3) := dk_153 0 24 (dk_at dksX6_doTo_0 8 rfl rfl)
theorem dX6_doTo_11 : decode cX6_doTo 11 = .ok (.aload_n 1, 1) := dk_43 (dk_at dksX6_doTo_0 11 rfl rfl)
theorem dX6_doTo_12 : decode cX6_doTo 12 = .ok (.getfield 26, 3) := dk_180 0 26 (dk_at dksX6_doTo_0 12 rfl rfl)
theorem dX6_doTo_15 : decode cX6_doTo 15 = .ok (.aload_n 0, 1) := dk_42 (dk_at dksX6_doTo_0 15 rfl rfl)
theorem dX6_doTo_16 : decode cX6_doTo 16 = .ok (.getfield 7, 3) := dk_180 0 7 (dk_at dksX6_doTo_0 16 rfl rfl)
theorem dX6_doTo_19 : decode cX6_doTo 19 = .ok (.aaload, 1) := dk_50 (dk_at dksX6_doTo_0 19 rfl rfl)
theorem dX6_doTo_20 : decode cX6_doTo 20 = .ok (.getfield 30, 3) := dk_180 0 30 (dk_at dksX6_doTo_0 20 rfl rfl)
theorem dX6_doTo_23 : decode cX6_doTo 23 = .ok (.aload_n 0, 1) := dk_42 (dk_at dksX6_doTo_0 23 rfl rfl)
theorem dX6_doTo_24 : decode cX6_doTo 24 = .ok (.getfield 13, 3) := dk_180 0 13 (dk_at dksX6_doTo_1 0 rfl rfl)
theorem dX6_doTo_27 : decode cX6_doTo 27 = .ok (.aload_n 0, 1) := dk_42 (dk_at dksX6_doTo_1 3 rfl rfl)
theorem dX6_doTo_28 : decode cX6_doTo 28 = .ok (.getfield 16, 3) := dk_180 0 16 (dk_at dksX6_doTo_1 4 rfl rfl)
theorem dX6_doTo_31 : decode cX6_doTo 31 = .ok (.bastore, 1) := dk_84 (dk_at dksX6_doTo_1 7 rfl rfl)
theorem dX6_doTo_32 : decode cX6_doTo 32 = .ok (.return_, 1) := dk_177 (dk_at dksX6_doTo_1 8 rfl rfl)
abbrev cX6_init : ByteArray := prog_7_method_1_code
def yX6_init : MethodName := ⟨RX6, "<init>", "(IIZ)V"⟩
def dkwX6_init_0 : List UInt8 := [42, 183, 0, 1, 42, 27, 181, 0, 7, 42, 28, 181, 0, 13, 42, 29, 181, 0, 16, 177]
abbrev dktX6_init_0 : List UInt8 := dkwX6_init_0 ++ []
theorem dksX6_init_0 : cX6_init.data.toList.drop 0 = dktX6_init_0 := by decide +kernel
theorem dX6_init_0 : decode cX6_init 0 = .ok (.aload_n 0, 1) := dk_42 (dk_at dksX6_init_0 0 rfl rfl)
theorem dX6_init_1 : decode cX6_init 1 = .ok (.invokespecial 1, 3) := dk_183 0 1 (dk_at dksX6_init_0 1 rfl rfl)
theorem dX6_init_4 : decode cX6_init 4 = .ok (.aload_n 0, 1) := dk_42 (dk_at dksX6_init_0 4 rfl rfl)
theorem dX6_init_5 : decode cX6_init 5 = .ok (.iload_n 1, 1) := dk_27 (dk_at dksX6_init_0 5 rfl rfl)
theorem dX6_init_6 : decode cX6_init 6 = .ok (.putfield 7, 3) := dk_181 0 7 (dk_at dksX6_init_0 6 rfl rfl)
theorem dX6_init_9 : decode cX6_init 9 = .ok (.aload_n 0, 1) := dk_42 (dk_at dksX6_init_0 9 rfl rfl)
theorem dX6_init_10 : decode cX6_init 10 = .ok (.iload_n 2, 1) := dk_28 (dk_at dksX6_init_0 10 rfl rfl)
theorem dX6_init_11 : decode cX6_init 11 = .ok (.putfield 13, 3) := dk_181 0 13 (dk_at dksX6_init_0 11 rfl rfl)
theorem dX6_init_14 : decode cX6_init 14 = .ok (.aload_n 0, 1) := dk_42 (dk_at dksX6_init_0 14 rfl rfl)
theorem dX6_init_15 : decode cX6_init 15 = .ok (.iload_n 3, 1) := dk_29 (dk_at dksX6_init_0 15 rfl rfl)
theorem dX6_init_16 : decode cX6_init 16 = .ok (.putfield 16, 3) := dk_181 0 16 (dk_at dksX6_init_0 16 rfl rfl)
theorem dX6_init_19 : decode cX6_init 19 = .ok (.return_, 1) := dk_177 (dk_at dksX6_init_0 19 rfl rfl)
theorem q41 : (Jvm.Cond.initialized "CatalogueLoader$Protecting") ∈ lw_all := lw_g (lw_at lw_m1 21 rfl) rfl
theorem q94 : (Jvm.Cond.fieldLinkNest "CatalogueLoader$Protecting" (26 : Nat) "CatalogueLoader$Catalogue" "records" "[LCatalogueLoader$Record;" "CatalogueLoader") ∈ lw_tbl := lw_at lw_m1 74 rfl
theorem q281 : (Jvm.Cond.fieldLinkNest "CatalogueLoader$Protecting" (30 : Nat) "CatalogueLoader$Record" "isProtected" "[Z" "CatalogueLoader") ∈ lw_tbl := lw_at lw_m2 21 rfl
theorem q324 : (Jvm.Cond.castable "CatalogueLoader$Protecting" "CatalogueLoader$Event") ∈ lw_tbl := lw_at lw_m2 64 rfl
theorem q325 : (Jvm.Cond.selects "CatalogueLoader$Protecting" ({ cls := "CatalogueLoader$Event", name := "doTo", desc := "(LCatalogueLoader$Catalogue;)V" } : Jvm.MethodName) ({ cls := "CatalogueLoader$Protecting", name := "doTo", desc := "(LCatalogueLoader$Catalogue;)V" } : Jvm.MethodName)) ∈ lw_all := lw_g (lw_at lw_m2 65 rfl) rfl
theorem q326 : (Jvm.Cond.unhidden "CatalogueLoader$Protecting" "doTo" "(LCatalogueLoader$Catalogue;)V") ∈ lw_tbl := lw_at lw_m2 66 rfl
theorem q327 : (Jvm.Cond.instanceMethod ({ cls := "CatalogueLoader$Protecting", name := "doTo", desc := "(LCatalogueLoader$Catalogue;)V" } : Jvm.MethodName)) ∈ lw_all := lw_g (lw_at lw_m2 67 rfl) rfl
theorem q328 : (Jvm.Cond.publicMethod ({ cls := "CatalogueLoader$Protecting", name := "doTo", desc := "(LCatalogueLoader$Catalogue;)V" } : Jvm.MethodName)) ∈ lw_tbl := lw_at lw_m2 68 rfl
theorem q329 : (Jvm.Cond.code ({ cls := "CatalogueLoader$Protecting", name := "doTo", desc := "(LCatalogueLoader$Catalogue;)V" } : Jvm.MethodName) prog_7_method_2_code (2 : Nat) (Option.none : Option Jvm.ClassFile.FieldType)) ∈ lw_all := lw_g (lw_at lw_m2 69 rfl) rfl
theorem q330 : (Jvm.Cond.methodLink "CatalogueLoader$Protecting" (20 : Nat) ({ cls := "CatalogueLoader$Catalogue", name := "has", desc := "(I)Z" } : Jvm.MethodName)) ∈ lw_all := lw_g (lw_at lw_m2 70 rfl) rfl
theorem q605 : (Jvm.Cond.selects "CatalogueLoader$Protecting" ({ cls := "java/lang/Object", name := "getClass", desc := "()Ljava/lang/Class;" } : Jvm.MethodName) ({ cls := "java/lang/Object", name := "getClass", desc := "()Ljava/lang/Class;" } : Jvm.MethodName)) ∈ lw_all := lw_g (lw_at lw_m3 105 rfl) rfl
theorem q641 : (Jvm.Cond.instantiable "CatalogueLoader$Protecting" (3 : Nat)) ∈ lw_all := lw_g (lw_at lw_m3 141 rfl) rfl
theorem q643 : (Jvm.Cond.instanceMethod ({ cls := "CatalogueLoader$Protecting", name := "<init>", desc := "(IIZ)V" } : Jvm.MethodName)) ∈ lw_all := lw_g (lw_at lw_m3 143 rfl) rfl
theorem q644 : (Jvm.Cond.code ({ cls := "CatalogueLoader$Protecting", name := "<init>", desc := "(IIZ)V" } : Jvm.MethodName) prog_7_method_1_code (4 : Nat) (Option.none : Option Jvm.ClassFile.FieldType)) ∈ lw_all := lw_g (lw_at lw_m3 144 rfl) rfl
theorem q645 : (Jvm.Cond.methodLink "CatalogueLoader$Protecting" (1 : Nat) ({ cls := "java/lang/Object", name := "<init>", desc := "()V" } : Jvm.MethodName)) ∈ lw_all := lw_g (lw_at lw_m3 145 rfl) rfl
theorem q646 : (Jvm.Cond.fieldLink "CatalogueLoader$Protecting" (7 : Nat) "CatalogueLoader$Protecting" "record" "I") ∈ lw_all := lw_g (lw_at lw_m3 146 rfl) rfl
theorem q647 : (Jvm.Cond.fieldLink "CatalogueLoader$Protecting" (13 : Nat) "CatalogueLoader$Protecting" "field" "I") ∈ lw_all := lw_g (lw_at lw_m3 147 rfl) rfl
theorem q648 : (Jvm.Cond.fieldLink "CatalogueLoader$Protecting" (16 : Nat) "CatalogueLoader$Protecting" "is" "Z") ∈ lw_all := lw_g (lw_at lw_m3 148 rfl) rfl
theorem q649 : (Jvm.Cond.laysFinal "CatalogueLoader$Protecting" "CatalogueLoader$Protecting" "record" "I") ∈ lw_all := lw_g (lw_at lw_m3 149 rfl) rfl
theorem q650 : (Jvm.Cond.soleField "CatalogueLoader$Protecting" "record") ∈ lw_all := lw_g (lw_at lw_m3 150 rfl) rfl
theorem q651 : (Jvm.Cond.laysFinal "CatalogueLoader$Protecting" "CatalogueLoader$Protecting" "field" "I") ∈ lw_all := lw_g (lw_at lw_m3 151 rfl) rfl
theorem q652 : (Jvm.Cond.soleField "CatalogueLoader$Protecting" "field") ∈ lw_all := lw_g (lw_at lw_m3 152 rfl) rfl
theorem q653 : (Jvm.Cond.laysFinal "CatalogueLoader$Protecting" "CatalogueLoader$Protecting" "is" "Z") ∈ lw_all := lw_g (lw_at lw_m3 153 rfl) rfl
theorem q654 : (Jvm.Cond.soleField "CatalogueLoader$Protecting" "is") ∈ lw_all := lw_g (lw_at lw_m3 154 rfl) rfl
theorem q655 : (Jvm.Cond.superclass "CatalogueLoader$Protecting" "java/lang/Object") ∈ lw_all := lw_g (lw_at lw_m3 155 rfl) rfl
theorem q989 : (Jvm.Cond.castable "CatalogueLoader$Protecting" "java/lang/Object") ∈ lw_tbl := lw_at lw_m5 9 rfl
theorem in_X6 : ∀ w ∈ wsX60, w ∈ lw_all := lw_in wsX60 [649, 651, 653] (by decide +kernel) (by decide +kernel)

/-! CatalogueLoader$Holding -/
set_option maxRecDepth 100000
def RX7 : String := "CatalogueLoader$Holding"
def TX7 : u_T := fun k => match k with
  | _ => ("CatalogueLoader$Holding", "record", "I", true)
def tyX7 : Nat → FieldType := fun k => match k with
  | _ => .int
abbrev wsX70 : List Cond := u_ws RX7 TX7 1
theorem nmX7 : ∀ a, a < 1 → ∀ b, b < 1 → a ≠ b → (TX7 a).2.1 ≠ (TX7 b).2.1 := by decide +kernel
theorem tyX7_ok : ∀ k, k < 1 → parseFieldDescriptor (TX7 k).2.2.1 = some (tyX7 k) := by decide +kernel
abbrev cX7_doTo : ByteArray := prog_4_method_2_code
def yX7_doTo : MethodName := ⟨RX7, "doTo", "(LCatalogueLoader$Catalogue;)V"⟩
def dkwX7_doTo_1 : List UInt8 := [4, 96, 181, 0, 23, 177]
abbrev dktX7_doTo_1 : List UInt8 := dkwX7_doTo_1 ++ []
def dkwX7_doTo_0 : List UInt8 := [43, 42, 180, 0, 7, 182, 0, 13, 153, 0, 21, 43, 180, 0, 19, 42, 180, 0, 7, 50, 89, 180, 0, 23]
abbrev dktX7_doTo_0 : List UInt8 := dkwX7_doTo_0 ++ dktX7_doTo_1
theorem dksX7_doTo_0 : cX7_doTo.data.toList.drop 0 = dktX7_doTo_0 := by decide +kernel
theorem dksX7_doTo_1 : cX7_doTo.data.toList.drop 24 = dktX7_doTo_1 := dk_seg dksX7_doTo_0 24 rfl rfl
theorem dX7_doTo_0 : decode cX7_doTo 0 = .ok (.aload_n 1, 1) := dk_43 (dk_at dksX7_doTo_0 0 rfl rfl)
theorem dX7_doTo_1 : decode cX7_doTo 1 = .ok (.aload_n 0, 1) := dk_42 (dk_at dksX7_doTo_0 1 rfl rfl)
theorem dX7_doTo_2 : decode cX7_doTo 2 = .ok (.getfield 7, 3) := dk_180 0 7 (dk_at dksX7_doTo_0 2 rfl rfl)
theorem dX7_doTo_5 : decode cX7_doTo 5 = .ok (.invokevirtual 13, 3) := dk_182 0 13 (dk_at dksX7_doTo_0 5 rfl rfl)
theorem dX7_doTo_8 : decode cX7_doTo 8 = .ok (.ifCond .eq 21, 3) := dk_153 0 21 (dk_at dksX7_doTo_0 8 rfl rfl)
theorem dX7_doTo_11 : decode cX7_doTo 11 = .ok (.aload_n 1, 1) := dk_43 (dk_at dksX7_doTo_0 11 rfl rfl)
theorem dX7_doTo_12 : decode cX7_doTo 12 = .ok (.getfield 19, 3) := dk_180 0 19 (dk_at dksX7_doTo_0 12 rfl rfl)
theorem dX7_doTo_15 : decode cX7_doTo 15 = .ok (.aload_n 0, 1) := dk_42 (dk_at dksX7_doTo_0 15 rfl rfl)
theorem dX7_doTo_16 : decode cX7_doTo 16 = .ok (.getfield 7, 3) := dk_180 0 7 (dk_at dksX7_doTo_0 16 rfl rfl)
theorem dX7_doTo_19 : decode cX7_doTo 19 = .ok (.aaload, 1) := dk_50 (dk_at dksX7_doTo_0 19 rfl rfl)
theorem dX7_doTo_20 : decode cX7_doTo 20 = .ok (.dup, 1) := dk_89 (dk_at dksX7_doTo_0 20 rfl rfl)
theorem dX7_doTo_21 : decode cX7_doTo 21 = .ok (.getfield 23, 3) := dk_180 0 23 (dk_at dksX7_doTo_0 21 rfl rfl)
theorem dX7_doTo_24 : decode cX7_doTo 24 = .ok (.iconst 1, 1) := dk_4 (dk_at dksX7_doTo_1 0 rfl rfl)
theorem dX7_doTo_25 : decode cX7_doTo 25 = .ok (.iadd, 1) := dk_96 (dk_at dksX7_doTo_1 1 rfl rfl)
theorem dX7_doTo_26 : decode cX7_doTo 26 = .ok (.putfield 23, 3) := dk_181 0 23 (dk_at dksX7_doTo_1 2 rfl rfl)
theorem dX7_doTo_29 : decode cX7_doTo 29 = .ok (.return_, 1) := dk_177 (dk_at dksX7_doTo_1 5 rfl rfl)
abbrev cX7_init : ByteArray := prog_4_method_1_code
def yX7_init : MethodName := ⟨RX7, "<init>", "(I)V"⟩
def dkwX7_init_0 : List UInt8 := [42, 183, 0, 1, 42, 27, 181, 0, 7, 177]
abbrev dktX7_init_0 : List UInt8 := dkwX7_init_0 ++ []
theorem dksX7_init_0 : cX7_init.data.toList.drop 0 = dktX7_init_0 := by decide +kernel
theorem dX7_init_0 : decode cX7_init 0 = .ok (.aload_n 0, 1) := dk_42 (dk_at dksX7_init_0 0 rfl rfl)
theorem dX7_init_1 : decode cX7_init 1 = .ok (.invokespecial 1, 3) := dk_183 0 1 (dk_at dksX7_init_0 1 rfl rfl)
theorem dX7_init_4 : decode cX7_init 4 = .ok (.aload_n 0, 1) := dk_42 (dk_at dksX7_init_0 4 rfl rfl)
theorem dX7_init_5 : decode cX7_init 5 = .ok (.iload_n 1, 1) := dk_27 (dk_at dksX7_init_0 5 rfl rfl)
theorem dX7_init_6 : decode cX7_init 6 = .ok (.putfield 7, 3) := dk_181 0 7 (dk_at dksX7_init_0 6 rfl rfl)
theorem dX7_init_9 : decode cX7_init 9 = .ok (.return_, 1) := dk_177 (dk_at dksX7_init_0 9 rfl rfl)
theorem q42 : (Jvm.Cond.initialized "CatalogueLoader$Holding") ∈ lw_all := lw_g (lw_at lw_m1 22 rfl) rfl
theorem q93 : (Jvm.Cond.fieldLinkNest "CatalogueLoader$Holding" (19 : Nat) "CatalogueLoader$Catalogue" "records" "[LCatalogueLoader$Record;" "CatalogueLoader") ∈ lw_tbl := lw_at lw_m1 73 rfl
theorem q241 : (Jvm.Cond.castable "CatalogueLoader$Holding" "CatalogueLoader$Event") ∈ lw_tbl := lw_at lw_m1 221 rfl
theorem q242 : (Jvm.Cond.selects "CatalogueLoader$Holding" ({ cls := "CatalogueLoader$Event", name := "doTo", desc := "(LCatalogueLoader$Catalogue;)V" } : Jvm.MethodName) ({ cls := "CatalogueLoader$Holding", name := "doTo", desc := "(LCatalogueLoader$Catalogue;)V" } : Jvm.MethodName)) ∈ lw_all := lw_g (lw_at lw_m1 222 rfl) rfl
theorem q243 : (Jvm.Cond.unhidden "CatalogueLoader$Holding" "doTo" "(LCatalogueLoader$Catalogue;)V") ∈ lw_tbl := lw_at lw_m1 223 rfl
theorem q244 : (Jvm.Cond.instanceMethod ({ cls := "CatalogueLoader$Holding", name := "doTo", desc := "(LCatalogueLoader$Catalogue;)V" } : Jvm.MethodName)) ∈ lw_all := lw_g (lw_at lw_m1 224 rfl) rfl
theorem q245 : (Jvm.Cond.publicMethod ({ cls := "CatalogueLoader$Holding", name := "doTo", desc := "(LCatalogueLoader$Catalogue;)V" } : Jvm.MethodName)) ∈ lw_tbl := lw_at lw_m1 225 rfl
theorem q246 : (Jvm.Cond.code ({ cls := "CatalogueLoader$Holding", name := "doTo", desc := "(LCatalogueLoader$Catalogue;)V" } : Jvm.MethodName) prog_4_method_2_code (2 : Nat) (Option.none : Option Jvm.ClassFile.FieldType)) ∈ lw_all := lw_g (lw_at lw_m1 226 rfl) rfl
theorem q247 : (Jvm.Cond.methodLink "CatalogueLoader$Holding" (13 : Nat) ({ cls := "CatalogueLoader$Catalogue", name := "has", desc := "(I)Z" } : Jvm.MethodName)) ∈ lw_all := lw_g (lw_at lw_m1 227 rfl) rfl
theorem q284 : (Jvm.Cond.fieldLinkNest "CatalogueLoader$Holding" (23 : Nat) "CatalogueLoader$Record" "holdings" "I" "CatalogueLoader") ∈ lw_tbl := lw_at lw_m2 24 rfl
theorem q602 : (Jvm.Cond.selects "CatalogueLoader$Holding" ({ cls := "java/lang/Object", name := "getClass", desc := "()Ljava/lang/Class;" } : Jvm.MethodName) ({ cls := "java/lang/Object", name := "getClass", desc := "()Ljava/lang/Class;" } : Jvm.MethodName)) ∈ lw_all := lw_g (lw_at lw_m3 102 rfl) rfl
theorem q668 : (Jvm.Cond.instantiable "CatalogueLoader$Holding" (1 : Nat)) ∈ lw_all := lw_g (lw_at lw_m3 168 rfl) rfl
theorem q670 : (Jvm.Cond.instanceMethod ({ cls := "CatalogueLoader$Holding", name := "<init>", desc := "(I)V" } : Jvm.MethodName)) ∈ lw_all := lw_g (lw_at lw_m3 170 rfl) rfl
theorem q671 : (Jvm.Cond.code ({ cls := "CatalogueLoader$Holding", name := "<init>", desc := "(I)V" } : Jvm.MethodName) prog_4_method_1_code (2 : Nat) (Option.none : Option Jvm.ClassFile.FieldType)) ∈ lw_all := lw_g (lw_at lw_m3 171 rfl) rfl
theorem q672 : (Jvm.Cond.methodLink "CatalogueLoader$Holding" (1 : Nat) ({ cls := "java/lang/Object", name := "<init>", desc := "()V" } : Jvm.MethodName)) ∈ lw_all := lw_g (lw_at lw_m3 172 rfl) rfl
theorem q673 : (Jvm.Cond.fieldLink "CatalogueLoader$Holding" (7 : Nat) "CatalogueLoader$Holding" "record" "I") ∈ lw_all := lw_g (lw_at lw_m3 173 rfl) rfl
theorem q674 : (Jvm.Cond.laysFinal "CatalogueLoader$Holding" "CatalogueLoader$Holding" "record" "I") ∈ lw_all := lw_g (lw_at lw_m3 174 rfl) rfl
theorem q675 : (Jvm.Cond.soleField "CatalogueLoader$Holding" "record") ∈ lw_all := lw_g (lw_at lw_m3 175 rfl) rfl
theorem q676 : (Jvm.Cond.superclass "CatalogueLoader$Holding" "java/lang/Object") ∈ lw_all := lw_g (lw_at lw_m3 176 rfl) rfl
theorem q990 : (Jvm.Cond.castable "CatalogueLoader$Holding" "java/lang/Object") ∈ lw_tbl := lw_at lw_m5 10 rfl
theorem in_X7 : ∀ w ∈ wsX70, w ∈ lw_all := lw_in wsX70 [674] (by decide +kernel) (by decide +kernel)

/-! CatalogueLoader$Merging -/
set_option maxRecDepth 100000
def RX8 : String := "CatalogueLoader$Merging"
def TX8 : u_T := fun k => match k with
  | 0 => ("CatalogueLoader$Merging", "from", "I", true)
  | _ => ("CatalogueLoader$Merging", "to", "I", true)
def tyX8 : Nat → FieldType := fun k => match k with
  | 0 => .int
  | _ => .int
abbrev wsX80 : List Cond := u_ws RX8 TX8 2
theorem nmX8 : ∀ a, a < 2 → ∀ b, b < 2 → a ≠ b → (TX8 a).2.1 ≠ (TX8 b).2.1 := by decide +kernel
theorem tyX8_ok : ∀ k, k < 2 → parseFieldDescriptor (TX8 k).2.2.1 = some (tyX8 k) := by decide +kernel
abbrev cX8_doTo : ByteArray := prog_6_method_2_code
def yX8_doTo : MethodName := ⟨RX8, "doTo", "(LCatalogueLoader$Catalogue;)V"⟩
def dkwX8_doTo_5 : List UInt8 := [132, 4, 1, 167, 255, 205, 43, 180, 0, 24, 42, 180, 0, 9, 1, 83, 177]
abbrev dktX8_doTo_5 : List UInt8 := dkwX8_doTo_5 ++ []
def dkwX8_doTo_4 : List UInt8 := [159, 0, 23, 45, 21, 4, 44, 180, 0, 41, 21, 4, 46, 44, 180, 0, 44, 21, 4, 46, 182, 0, 47]
abbrev dktX8_doTo_4 : List UInt8 := dkwX8_doTo_4 ++ dktX8_doTo_5
def dkwX8_doTo_3 : List UInt8 := [162, 0, 51, 45, 180, 0, 41, 21, 4, 46, 2, 160, 0, 34, 44, 180, 0, 41, 21, 4, 46, 2]
abbrev dktX8_doTo_3 : List UInt8 := dkwX8_doTo_3 ++ dktX8_doTo_4
def dkwX8_doTo_2 : List UInt8 := [44, 180, 0, 28, 96, 181, 0, 28, 45, 44, 180, 0, 33, 182, 0, 37, 3, 54, 4, 21, 4, 7]
abbrev dktX8_doTo_2 : List UInt8 := dkwX8_doTo_2 ++ dktX8_doTo_3
def dkwX8_doTo_1 : List UInt8 := [180, 0, 24, 42, 180, 0, 9, 50, 77, 43, 180, 0, 24, 42, 180, 0, 15, 50, 78, 45, 89, 180, 0, 28]
abbrev dktX8_doTo_1 : List UInt8 := dkwX8_doTo_1 ++ dktX8_doTo_2
def dkwX8_doTo_0 : List UInt8 := [43, 42, 180, 0, 9, 182, 0, 18, 153, 0, 14, 43, 42, 180, 0, 15, 182, 0, 18, 154, 0, 4, 177, 43]
abbrev dktX8_doTo_0 : List UInt8 := dkwX8_doTo_0 ++ dktX8_doTo_1
theorem dksX8_doTo_0 : cX8_doTo.data.toList.drop 0 = dktX8_doTo_0 := by decide +kernel
theorem dksX8_doTo_1 : cX8_doTo.data.toList.drop 24 = dktX8_doTo_1 := dk_seg dksX8_doTo_0 24 rfl rfl
theorem dksX8_doTo_2 : cX8_doTo.data.toList.drop 48 = dktX8_doTo_2 := dk_seg dksX8_doTo_1 24 rfl rfl
theorem dksX8_doTo_3 : cX8_doTo.data.toList.drop 70 = dktX8_doTo_3 := dk_seg dksX8_doTo_2 22 rfl rfl
theorem dksX8_doTo_4 : cX8_doTo.data.toList.drop 92 = dktX8_doTo_4 := dk_seg dksX8_doTo_3 22 rfl rfl
theorem dksX8_doTo_5 : cX8_doTo.data.toList.drop 115 = dktX8_doTo_5 := dk_seg dksX8_doTo_4 23 rfl rfl
theorem dX8_doTo_0 : decode cX8_doTo 0 = .ok (.aload_n 1, 1) := dk_43 (dk_at dksX8_doTo_0 0 rfl rfl)
theorem dX8_doTo_1 : decode cX8_doTo 1 = .ok (.aload_n 0, 1) := dk_42 (dk_at dksX8_doTo_0 1 rfl rfl)
theorem dX8_doTo_2 : decode cX8_doTo 2 = .ok (.getfield 9, 3) := dk_180 0 9 (dk_at dksX8_doTo_0 2 rfl rfl)
theorem dX8_doTo_5 : decode cX8_doTo 5 = .ok (.invokevirtual 18, 3) := dk_182 0 18 (dk_at dksX8_doTo_0 5 rfl rfl)
theorem dX8_doTo_8 : decode cX8_doTo 8 = .ok (.ifCond .eq 14, 3) := dk_153 0 14 (dk_at dksX8_doTo_0 8 rfl rfl)
theorem dX8_doTo_11 : decode cX8_doTo 11 = .ok (.aload_n 1, 1) := dk_43 (dk_at dksX8_doTo_0 11 rfl rfl)
theorem dX8_doTo_12 : decode cX8_doTo 12 = .ok (.aload_n 0, 1) := dk_42 (dk_at dksX8_doTo_0 12 rfl rfl)
theorem dX8_doTo_13 : decode cX8_doTo 13 = .ok (.getfield 15, 3) := dk_180 0 15 (dk_at dksX8_doTo_0 13 rfl rfl)
theorem dX8_doTo_16 : decode cX8_doTo 16 = .ok (.invokevirtual 18, 3) := dk_182 0 18 (dk_at dksX8_doTo_0 16 rfl rfl)
theorem dX8_doTo_19 : decode cX8_doTo 19 = .ok (.ifCond .ne 4, 3) := dk_154 0 4 (dk_at dksX8_doTo_0 19 rfl rfl)
theorem dX8_doTo_22 : decode cX8_doTo 22 = .ok (.return_, 1) := dk_177 (dk_at dksX8_doTo_0 22 rfl rfl)
theorem dX8_doTo_23 : decode cX8_doTo 23 = .ok (.aload_n 1, 1) := dk_43 (dk_at dksX8_doTo_0 23 rfl rfl)
theorem dX8_doTo_24 : decode cX8_doTo 24 = .ok (.getfield 24, 3) := dk_180 0 24 (dk_at dksX8_doTo_1 0 rfl rfl)
theorem dX8_doTo_27 : decode cX8_doTo 27 = .ok (.aload_n 0, 1) := dk_42 (dk_at dksX8_doTo_1 3 rfl rfl)
theorem dX8_doTo_28 : decode cX8_doTo 28 = .ok (.getfield 9, 3) := dk_180 0 9 (dk_at dksX8_doTo_1 4 rfl rfl)
theorem dX8_doTo_31 : decode cX8_doTo 31 = .ok (.aaload, 1) := dk_50 (dk_at dksX8_doTo_1 7 rfl rfl)
theorem dX8_doTo_32 : decode cX8_doTo 32 = .ok (.astore_n 2, 1) := dk_77 (dk_at dksX8_doTo_1 8 rfl rfl)
theorem dX8_doTo_33 : decode cX8_doTo 33 = .ok (.aload_n 1, 1) := dk_43 (dk_at dksX8_doTo_1 9 rfl rfl)
theorem dX8_doTo_34 : decode cX8_doTo 34 = .ok (.getfield 24, 3) := dk_180 0 24 (dk_at dksX8_doTo_1 10 rfl rfl)
theorem dX8_doTo_37 : decode cX8_doTo 37 = .ok (.aload_n 0, 1) := dk_42 (dk_at dksX8_doTo_1 13 rfl rfl)
theorem dX8_doTo_38 : decode cX8_doTo 38 = .ok (.getfield 15, 3) := dk_180 0 15 (dk_at dksX8_doTo_1 14 rfl rfl)
theorem dX8_doTo_41 : decode cX8_doTo 41 = .ok (.aaload, 1) := dk_50 (dk_at dksX8_doTo_1 17 rfl rfl)
theorem dX8_doTo_42 : decode cX8_doTo 42 = .ok (.astore_n 3, 1) := dk_78 (dk_at dksX8_doTo_1 18 rfl rfl)
theorem dX8_doTo_43 : decode cX8_doTo 43 = .ok (.aload_n 3, 1) := dk_45 (dk_at dksX8_doTo_1 19 rfl rfl)
theorem dX8_doTo_44 : decode cX8_doTo 44 = .ok (.dup, 1) := dk_89 (dk_at dksX8_doTo_1 20 rfl rfl)
theorem dX8_doTo_45 : decode cX8_doTo 45 = .ok (.getfield 28, 3) := dk_180 0 28 (dk_at dksX8_doTo_1 21 rfl rfl)
theorem dX8_doTo_48 : decode cX8_doTo 48 = .ok (.aload_n 2, 1) := dk_44 (dk_at dksX8_doTo_2 0 rfl rfl)
theorem dX8_doTo_49 : decode cX8_doTo 49 = .ok (.getfield 28, 3) := dk_180 0 28 (dk_at dksX8_doTo_2 1 rfl rfl)
theorem dX8_doTo_52 : decode cX8_doTo 52 = .ok (.iadd, 1) := dk_96 (dk_at dksX8_doTo_2 4 rfl rfl)
theorem dX8_doTo_53 : decode cX8_doTo 53 = .ok (.putfield 28, 3) := dk_181 0 28 (dk_at dksX8_doTo_2 5 rfl rfl)
theorem dX8_doTo_56 : decode cX8_doTo 56 = .ok (.aload_n 3, 1) := dk_45 (dk_at dksX8_doTo_2 8 rfl rfl)
theorem dX8_doTo_57 : decode cX8_doTo 57 = .ok (.aload_n 2, 1) := dk_44 (dk_at dksX8_doTo_2 9 rfl rfl)
theorem dX8_doTo_58 : decode cX8_doTo 58 = .ok (.getfield 33, 3) := dk_180 0 33 (dk_at dksX8_doTo_2 10 rfl rfl)
theorem dX8_doTo_61 : decode cX8_doTo 61 = .ok (.invokevirtual 37, 3) := dk_182 0 37 (dk_at dksX8_doTo_2 13 rfl rfl)
theorem dX8_doTo_64 : decode cX8_doTo 64 = .ok (.iconst 0, 1) := dk_3 (dk_at dksX8_doTo_2 16 rfl rfl)
theorem dX8_doTo_65 : decode cX8_doTo 65 = .ok (.istore 4, 2) := dk_54 4 (dk_at dksX8_doTo_2 17 rfl rfl)
theorem dX8_doTo_67 : decode cX8_doTo 67 = .ok (.iload 4, 2) := dk_21 4 (dk_at dksX8_doTo_2 19 rfl rfl)
theorem dX8_doTo_69 : decode cX8_doTo 69 = .ok (.iconst 4, 1) := dk_7 (dk_at dksX8_doTo_2 21 rfl rfl)
theorem dX8_doTo_70 : decode cX8_doTo 70 = .ok (.if_icmp .ge 51, 3) := dk_162 0 51 (dk_at dksX8_doTo_3 0 rfl rfl)
theorem dX8_doTo_73 : decode cX8_doTo 73 = .ok (.aload_n 3, 1) := dk_45 (dk_at dksX8_doTo_3 3 rfl rfl)
theorem dX8_doTo_74 : decode cX8_doTo 74 = .ok (.getfield 41, 3) := dk_180 0 41 (dk_at dksX8_doTo_3 4 rfl rfl)
theorem dX8_doTo_77 : decode cX8_doTo 77 = .ok (.iload 4, 2) := dk_21 4 (dk_at dksX8_doTo_3 7 rfl rfl)
theorem dX8_doTo_79 : decode cX8_doTo 79 = .ok (.iaload, 1) := dk_46 (dk_at dksX8_doTo_3 9 rfl rfl)
theorem dX8_doTo_80 : decode cX8_doTo 80 = .ok (.iconst (-1), 1) := dk_2 (dk_at dksX8_doTo_3 10 rfl rfl)
theorem dX8_doTo_81 : decode cX8_doTo 81 = .ok (.if_icmp .ne 34, 3) := dk_160 0 34 (dk_at dksX8_doTo_3 11 rfl rfl)
theorem dX8_doTo_84 : decode cX8_doTo 84 = .ok (.aload_n 2, 1) := dk_44 (dk_at dksX8_doTo_3 14 rfl rfl)
theorem dX8_doTo_85 : decode cX8_doTo 85 = .ok (.getfield 41, 3) := dk_180 0 41 (dk_at dksX8_doTo_3 15 rfl rfl)
theorem dX8_doTo_88 : decode cX8_doTo 88 = .ok (.iload 4, 2) := dk_21 4 (dk_at dksX8_doTo_3 18 rfl rfl)
theorem dX8_doTo_90 : decode cX8_doTo 90 = .ok (.iaload, 1) := dk_46 (dk_at dksX8_doTo_3 20 rfl rfl)
theorem dX8_doTo_91 : decode cX8_doTo 91 = .ok (.iconst (-1), 1) := dk_2 (dk_at dksX8_doTo_3 21 rfl rfl)
theorem dX8_doTo_92 : decode cX8_doTo 92 = .ok (.if_icmp .eq 23, 3) := dk_159 0 23 (dk_at dksX8_doTo_4 0 rfl rfl)
theorem dX8_doTo_95 : decode cX8_doTo 95 = .ok (.aload_n 3, 1) := dk_45 (dk_at dksX8_doTo_4 3 rfl rfl)
theorem dX8_doTo_96 : decode cX8_doTo 96 = .ok (.iload 4, 2) := dk_21 4 (dk_at dksX8_doTo_4 4 rfl rfl)
theorem dX8_doTo_98 : decode cX8_doTo 98 = .ok (.aload_n 2, 1) := dk_44 (dk_at dksX8_doTo_4 6 rfl rfl)
theorem dX8_doTo_99 : decode cX8_doTo 99 = .ok (.getfield 41, 3) := dk_180 0 41 (dk_at dksX8_doTo_4 7 rfl rfl)
theorem dX8_doTo_102 : decode cX8_doTo 102 = .ok (.iload 4, 2) := dk_21 4 (dk_at dksX8_doTo_4 10 rfl rfl)
theorem dX8_doTo_104 : decode cX8_doTo 104 = .ok (.iaload, 1) := dk_46 (dk_at dksX8_doTo_4 12 rfl rfl)
theorem dX8_doTo_105 : decode cX8_doTo 105 = .ok (.aload_n 2, 1) := dk_44 (dk_at dksX8_doTo_4 13 rfl rfl)
theorem dX8_doTo_106 : decode cX8_doTo 106 = .ok (.getfield 44, 3) := dk_180 0 44 (dk_at dksX8_doTo_4 14 rfl rfl)
theorem dX8_doTo_109 : decode cX8_doTo 109 = .ok (.iload 4, 2) := dk_21 4 (dk_at dksX8_doTo_4 17 rfl rfl)
theorem dX8_doTo_111 : decode cX8_doTo 111 = .ok (.iaload, 1) := dk_46 (dk_at dksX8_doTo_4 19 rfl rfl)
theorem dX8_doTo_112 : decode cX8_doTo 112 = .ok (.invokevirtual 47, 3) := dk_182 0 47 (dk_at dksX8_doTo_4 20 rfl rfl)
theorem dX8_doTo_115 : decode cX8_doTo 115 = .ok (.iinc 4 1, 3) := dk_132 4 1 (dk_at dksX8_doTo_5 0 rfl rfl)
theorem dX8_doTo_118 : decode cX8_doTo 118 = .ok (.goto (-51), 3) := dk_167 255 205 (dk_at dksX8_doTo_5 3 rfl rfl)
theorem dX8_doTo_121 : decode cX8_doTo 121 = .ok (.aload_n 1, 1) := dk_43 (dk_at dksX8_doTo_5 6 rfl rfl)
theorem dX8_doTo_122 : decode cX8_doTo 122 = .ok (.getfield 24, 3) := dk_180 0 24 (dk_at dksX8_doTo_5 7 rfl rfl)
theorem dX8_doTo_125 : decode cX8_doTo 125 = .ok (.aload_n 0, 1) := dk_42 (dk_at dksX8_doTo_5 10 rfl rfl)
theorem dX8_doTo_126 : decode cX8_doTo 126 = .ok (.getfield 9, 3) := dk_180 0 9 (dk_at dksX8_doTo_5 11 rfl rfl)
theorem dX8_doTo_129 : decode cX8_doTo 129 = .ok (.aconst_null, 1) := dk_1 (dk_at dksX8_doTo_5 14 rfl rfl)
theorem dX8_doTo_130 : decode cX8_doTo 130 = .ok (.aastore, 1) := dk_83 (dk_at dksX8_doTo_5 15 rfl rfl)
theorem dX8_doTo_131 : decode cX8_doTo 131 = .ok (.return_, 1) := dk_177 (dk_at dksX8_doTo_5 16 rfl rfl)
abbrev cX8_init : ByteArray := prog_6_method_1_code
def yX8_init : MethodName := ⟨RX8, "<init>", "(II)V"⟩
def dkwX8_init_0 : List UInt8 := [42, 183, 0, 3, 42, 27, 181, 0, 9, 42, 28, 181, 0, 15, 177]
abbrev dktX8_init_0 : List UInt8 := dkwX8_init_0 ++ []
theorem dksX8_init_0 : cX8_init.data.toList.drop 0 = dktX8_init_0 := by decide +kernel
theorem dX8_init_0 : decode cX8_init 0 = .ok (.aload_n 0, 1) := dk_42 (dk_at dksX8_init_0 0 rfl rfl)
theorem dX8_init_1 : decode cX8_init 1 = .ok (.invokespecial 3, 3) := dk_183 0 3 (dk_at dksX8_init_0 1 rfl rfl)
theorem dX8_init_4 : decode cX8_init 4 = .ok (.aload_n 0, 1) := dk_42 (dk_at dksX8_init_0 4 rfl rfl)
theorem dX8_init_5 : decode cX8_init 5 = .ok (.iload_n 1, 1) := dk_27 (dk_at dksX8_init_0 5 rfl rfl)
theorem dX8_init_6 : decode cX8_init 6 = .ok (.putfield 9, 3) := dk_181 0 9 (dk_at dksX8_init_0 6 rfl rfl)
theorem dX8_init_9 : decode cX8_init 9 = .ok (.aload_n 0, 1) := dk_42 (dk_at dksX8_init_0 9 rfl rfl)
theorem dX8_init_10 : decode cX8_init 10 = .ok (.iload_n 2, 1) := dk_28 (dk_at dksX8_init_0 10 rfl rfl)
theorem dX8_init_11 : decode cX8_init 11 = .ok (.putfield 15, 3) := dk_181 0 15 (dk_at dksX8_init_0 11 rfl rfl)
theorem dX8_init_14 : decode cX8_init 14 = .ok (.return_, 1) := dk_177 (dk_at dksX8_init_0 14 rfl rfl)
theorem q43 : (Jvm.Cond.initialized "CatalogueLoader$Merging") ∈ lw_all := lw_g (lw_at lw_m1 23 rfl) rfl
theorem q95 : (Jvm.Cond.fieldLinkNest "CatalogueLoader$Merging" (24 : Nat) "CatalogueLoader$Catalogue" "records" "[LCatalogueLoader$Record;" "CatalogueLoader") ∈ lw_tbl := lw_at lw_m1 75 rfl
theorem q269 : (Jvm.Cond.fieldLinkNest "CatalogueLoader$Merging" (33 : Nat) "CatalogueLoader$Record" "keys" "[I" "CatalogueLoader") ∈ lw_tbl := lw_at lw_m2 9 rfl
theorem q273 : (Jvm.Cond.fieldLinkNest "CatalogueLoader$Merging" (41 : Nat) "CatalogueLoader$Record" "fields" "[I" "CatalogueLoader") ∈ lw_tbl := lw_at lw_m2 13 rfl
theorem q277 : (Jvm.Cond.fieldLinkNest "CatalogueLoader$Merging" (44 : Nat) "CatalogueLoader$Record" "sources" "[I" "CatalogueLoader") ∈ lw_tbl := lw_at lw_m2 17 rfl
theorem q285 : (Jvm.Cond.fieldLinkNest "CatalogueLoader$Merging" (28 : Nat) "CatalogueLoader$Record" "holdings" "I" "CatalogueLoader") ∈ lw_tbl := lw_at lw_m2 25 rfl
theorem q315 : (Jvm.Cond.castable "CatalogueLoader$Merging" "CatalogueLoader$Event") ∈ lw_tbl := lw_at lw_m2 55 rfl
theorem q316 : (Jvm.Cond.selects "CatalogueLoader$Merging" ({ cls := "CatalogueLoader$Event", name := "doTo", desc := "(LCatalogueLoader$Catalogue;)V" } : Jvm.MethodName) ({ cls := "CatalogueLoader$Merging", name := "doTo", desc := "(LCatalogueLoader$Catalogue;)V" } : Jvm.MethodName)) ∈ lw_all := lw_g (lw_at lw_m2 56 rfl) rfl
theorem q317 : (Jvm.Cond.unhidden "CatalogueLoader$Merging" "doTo" "(LCatalogueLoader$Catalogue;)V") ∈ lw_tbl := lw_at lw_m2 57 rfl
theorem q318 : (Jvm.Cond.instanceMethod ({ cls := "CatalogueLoader$Merging", name := "doTo", desc := "(LCatalogueLoader$Catalogue;)V" } : Jvm.MethodName)) ∈ lw_all := lw_g (lw_at lw_m2 58 rfl) rfl
theorem q319 : (Jvm.Cond.publicMethod ({ cls := "CatalogueLoader$Merging", name := "doTo", desc := "(LCatalogueLoader$Catalogue;)V" } : Jvm.MethodName)) ∈ lw_tbl := lw_at lw_m2 59 rfl
theorem q320 : (Jvm.Cond.code ({ cls := "CatalogueLoader$Merging", name := "doTo", desc := "(LCatalogueLoader$Catalogue;)V" } : Jvm.MethodName) prog_6_method_2_code (5 : Nat) (Option.none : Option Jvm.ClassFile.FieldType)) ∈ lw_all := lw_g (lw_at lw_m2 60 rfl) rfl
theorem q321 : (Jvm.Cond.methodLink "CatalogueLoader$Merging" (18 : Nat) ({ cls := "CatalogueLoader$Catalogue", name := "has", desc := "(I)Z" } : Jvm.MethodName)) ∈ lw_all := lw_g (lw_at lw_m2 61 rfl) rfl
theorem q322 : (Jvm.Cond.methodLink "CatalogueLoader$Merging" (37 : Nat) ({ cls := "CatalogueLoader$Record", name := "fillKeys", desc := "([I)V" } : Jvm.MethodName)) ∈ lw_all := lw_g (lw_at lw_m2 62 rfl) rfl
theorem q323 : (Jvm.Cond.methodLink "CatalogueLoader$Merging" (47 : Nat) ({ cls := "CatalogueLoader$Record", name := "put", desc := "(III)V" } : Jvm.MethodName)) ∈ lw_all := lw_g (lw_at lw_m2 63 rfl) rfl
theorem q604 : (Jvm.Cond.selects "CatalogueLoader$Merging" ({ cls := "java/lang/Object", name := "getClass", desc := "()Ljava/lang/Class;" } : Jvm.MethodName) ({ cls := "java/lang/Object", name := "getClass", desc := "()Ljava/lang/Class;" } : Jvm.MethodName)) ∈ lw_all := lw_g (lw_at lw_m3 104 rfl) rfl
theorem q685 : (Jvm.Cond.instantiable "CatalogueLoader$Merging" (2 : Nat)) ∈ lw_all := lw_g (lw_at lw_m3 185 rfl) rfl
theorem q687 : (Jvm.Cond.instanceMethod ({ cls := "CatalogueLoader$Merging", name := "<init>", desc := "(II)V" } : Jvm.MethodName)) ∈ lw_all := lw_g (lw_at lw_m3 187 rfl) rfl
theorem q688 : (Jvm.Cond.code ({ cls := "CatalogueLoader$Merging", name := "<init>", desc := "(II)V" } : Jvm.MethodName) prog_6_method_1_code (3 : Nat) (Option.none : Option Jvm.ClassFile.FieldType)) ∈ lw_all := lw_g (lw_at lw_m3 188 rfl) rfl
theorem q689 : (Jvm.Cond.methodLink "CatalogueLoader$Merging" (3 : Nat) ({ cls := "java/lang/Object", name := "<init>", desc := "()V" } : Jvm.MethodName)) ∈ lw_all := lw_g (lw_at lw_m3 189 rfl) rfl
theorem q690 : (Jvm.Cond.fieldLink "CatalogueLoader$Merging" (9 : Nat) "CatalogueLoader$Merging" "from" "I") ∈ lw_all := lw_g (lw_at lw_m3 190 rfl) rfl
theorem q691 : (Jvm.Cond.fieldLink "CatalogueLoader$Merging" (15 : Nat) "CatalogueLoader$Merging" "to" "I") ∈ lw_all := lw_g (lw_at lw_m3 191 rfl) rfl
theorem q692 : (Jvm.Cond.laysFinal "CatalogueLoader$Merging" "CatalogueLoader$Merging" "from" "I") ∈ lw_all := lw_g (lw_at lw_m3 192 rfl) rfl
theorem q693 : (Jvm.Cond.soleField "CatalogueLoader$Merging" "from") ∈ lw_all := lw_g (lw_at lw_m3 193 rfl) rfl
theorem q694 : (Jvm.Cond.laysFinal "CatalogueLoader$Merging" "CatalogueLoader$Merging" "to" "I") ∈ lw_all := lw_g (lw_at lw_m3 194 rfl) rfl
theorem q695 : (Jvm.Cond.soleField "CatalogueLoader$Merging" "to") ∈ lw_all := lw_g (lw_at lw_m3 195 rfl) rfl
theorem q696 : (Jvm.Cond.superclass "CatalogueLoader$Merging" "java/lang/Object") ∈ lw_all := lw_g (lw_at lw_m3 196 rfl) rfl
theorem q991 : (Jvm.Cond.castable "CatalogueLoader$Merging" "java/lang/Object") ∈ lw_tbl := lw_at lw_m5 11 rfl
theorem in_X8 : ∀ w ∈ wsX80, w ∈ lw_all := lw_in wsX80 [692, 694] (by decide +kernel) (by decide +kernel)

