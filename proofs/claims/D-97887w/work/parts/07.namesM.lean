/-! WildBellsModel -/
set_option maxRecDepth 100000
def RX13 : String := "WildBellsModel"
def TX13 : u_T := fun k => match k with
  | 0 => ("WildBellsModel", "now", "[I", true)
  | 1 => ("WildBellsModel", "kept", "[I", true)
  | 2 => ("WildBellsModel", "aside", "[I", true)
  | 3 => ("WildBellsModel", "isKept", "Z", false)
  | 4 => ("WildBellsModel", "found", "[I", true)
  | 5 => ("WildBellsModel", "down", "[I", true)
  | 6 => ("WildBellsModel", "right", "[I", true)
  | 7 => ("WildBellsModel", "isMoved", "Z", false)
  | 8 => ("WildBellsModel", "parts", "[I", true)
  | 9 => ("WildBellsModel", "tape", "[I", true)
  | 10 => ("WildBellsModel", "taped", "I", false)
  | 11 => ("WildBellsModel", "begins", "I", false)
  | 12 => ("WildBellsModel", "ends", "I", false)
  | 13 => ("WildBellsModel", "sort", "I", false)
  | 14 => ("WildBellsModel", "value", "I", false)
  | 15 => ("WildBellsModel", "isWrong", "Z", false)
  | 16 => ("WildBellsModel", "kindNames", "[Ljava/lang/String;", true)
  | 17 => ("WildBellsModel", "items", "[I", true)
  | 18 => ("WildBellsModel", "itemMany", "I", false)
  | 19 => ("WildBellsModel", "bellThen", "I", false)
  | 20 => ("WildBellsModel", "widths", "[I", true)
  | 21 => ("WildBellsModel", "sizes", "[I", true)
  | 22 => ("WildBellsModel", "numbers", "[I", true)
  | _ => ("WildBellsModel", "moved", "[I", true)
def tyX13 : Nat → FieldType := fun k => match k with
  | 0 => .array .int
  | 1 => .array .int
  | 2 => .array .int
  | 3 => .boolean
  | 4 => .array .int
  | 5 => .array .int
  | 6 => .array .int
  | 7 => .boolean
  | 8 => .array .int
  | 9 => .array .int
  | 10 => .int
  | 11 => .int
  | 12 => .int
  | 13 => .int
  | 14 => .int
  | 15 => .boolean
  | 16 => .array (.object "java/lang/String")
  | 17 => .array .int
  | 18 => .int
  | 19 => .int
  | 20 => .array .int
  | 21 => .array .int
  | 22 => .array .int
  | _ => .array .int
abbrev wsX130 : List Cond := u_ws RX13 TX13 24
set_option maxRecDepth 100000 in
theorem nmX13 : ∀ a, a < 24 → ∀ b, b < 24 → a ≠ b → (TX13 a).2.1 ≠ (TX13 b).2.1 := by decide +kernel
set_option maxRecDepth 100000 in
theorem tyX13_ok : ∀ k, k < 24 → parseFieldDescriptor (TX13 k).2.2.1 = some (tyX13 k) := by decide +kernel
abbrev cX13_init : ByteArray := prog_16_method_1_code
def yX13_init : MethodName := ⟨RX13, "<init>", "()V"⟩
def dkwX13_init_10 : List UInt8 := [2, 79, 132, 1, 1, 167, 255, 238, 177]
abbrev dktX13_init_10 : List UInt8 := dkwX13_init_10 ++ []
def dkwX13_init_9 : List UInt8 := [96, 2, 79, 132, 1, 1, 167, 255, 238, 3, 60, 27, 7, 162, 0, 19, 42, 180, 0, 9, 16, 14, 27, 96]
abbrev dktX13_init_9 : List UInt8 := dkwX13_init_9 ++ dktX13_init_10
def dkwX13_init_8 : List UInt8 := [4, 6, 79, 42, 180, 0, 9, 6, 4, 79, 3, 60, 27, 16, 10, 162, 0, 18, 42, 180, 0, 9, 7, 27]
abbrev dktX13_init_8 : List UInt8 := dkwX13_init_8 ++ dktX13_init_9
def dkwX13_init_7 : List UInt8 := [181, 0, 60, 42, 17, 0, 160, 188, 10, 181, 0, 63, 42, 16, 40, 188, 10, 181, 0, 66, 42, 180, 0, 9]
abbrev dktX13_init_7 : List UInt8 := dkwX13_init_7 ++ dktX13_init_8
def dkwX13_init_6 : List UInt8 := [83, 181, 0, 50, 42, 17, 1, 224, 188, 10, 181, 0, 54, 42, 7, 188, 10, 181, 0, 57, 42, 7, 188, 10]
abbrev dktX13_init_6 : List UInt8 := dkwX13_init_6 ++ dktX13_init_7
def dkwX13_init_5 : List UInt8 := [5, 18, 40, 83, 89, 6, 18, 42, 83, 89, 7, 18, 44, 83, 89, 8, 18, 46, 83, 89, 16, 6, 18, 48]
abbrev dktX13_init_5 : List UInt8 := dkwX13_init_5 ++ dktX13_init_6
def dkwX13_init_4 : List UInt8 := [16, 120, 188, 10, 181, 0, 31, 42, 16, 7, 189, 0, 34, 89, 3, 18, 36, 83, 89, 4, 18, 38, 83, 89]
abbrev dktX13_init_4 : List UInt8 := dkwX13_init_4 ++ dktX13_init_5
def dkwX13_init_3 : List UInt8 := [4, 4, 79, 89, 5, 3, 79, 89, 6, 2, 79, 181, 0, 25, 42, 16, 100, 188, 10, 181, 0, 28, 42]
abbrev dktX13_init_3 : List UInt8 := dkwX13_init_3 ++ dktX13_init_4
def dkwX13_init_2 : List UInt8 := [89, 4, 3, 79, 89, 5, 4, 79, 89, 6, 3, 79, 181, 0, 22, 42, 7, 188, 10, 89, 3, 3, 79, 89]
abbrev dktX13_init_2 : List UInt8 := dkwX13_init_2 ++ dktX13_init_3
def dkwX13_init_1 : List UInt8 := [17, 0, 186, 188, 10, 181, 0, 16, 42, 16, 8, 188, 10, 181, 0, 19, 42, 7, 188, 10, 89, 3, 2, 79]
abbrev dktX13_init_1 : List UInt8 := dkwX13_init_1 ++ dktX13_init_2
def dkwX13_init_0 : List UInt8 := [42, 183, 0, 1, 42, 17, 0, 186, 188, 10, 181, 0, 9, 42, 17, 0, 186, 188, 10, 181, 0, 13, 42]
abbrev dktX13_init_0 : List UInt8 := dkwX13_init_0 ++ dktX13_init_1
theorem dksX13_init_0 : cX13_init.data.toList.drop 0 = dktX13_init_0 := by decide +kernel
theorem dksX13_init_1 : cX13_init.data.toList.drop 23 = dktX13_init_1 := dk_seg dksX13_init_0 23 rfl rfl
theorem dksX13_init_2 : cX13_init.data.toList.drop 47 = dktX13_init_2 := dk_seg dksX13_init_1 24 rfl rfl
theorem dksX13_init_3 : cX13_init.data.toList.drop 71 = dktX13_init_3 := dk_seg dksX13_init_2 24 rfl rfl
theorem dksX13_init_4 : cX13_init.data.toList.drop 94 = dktX13_init_4 := dk_seg dksX13_init_3 23 rfl rfl
theorem dksX13_init_5 : cX13_init.data.toList.drop 118 = dktX13_init_5 := dk_seg dksX13_init_4 24 rfl rfl
theorem dksX13_init_6 : cX13_init.data.toList.drop 142 = dktX13_init_6 := dk_seg dksX13_init_5 24 rfl rfl
theorem dksX13_init_7 : cX13_init.data.toList.drop 166 = dktX13_init_7 := dk_seg dksX13_init_6 24 rfl rfl
theorem dksX13_init_8 : cX13_init.data.toList.drop 190 = dktX13_init_8 := dk_seg dksX13_init_7 24 rfl rfl
theorem dksX13_init_9 : cX13_init.data.toList.drop 214 = dktX13_init_9 := dk_seg dksX13_init_8 24 rfl rfl
theorem dksX13_init_10 : cX13_init.data.toList.drop 238 = dktX13_init_10 := dk_seg dksX13_init_9 24 rfl rfl
theorem dX13_init_0 : decode cX13_init 0 = .ok (.aload_n 0, 1) := dk_42 (dk_at dksX13_init_0 0 rfl rfl)
theorem dX13_init_1 : decode cX13_init 1 = .ok (.invokespecial 1, 3) := dk_183 0 1 (dk_at dksX13_init_0 1 rfl rfl)
theorem dX13_init_4 : decode cX13_init 4 = .ok (.aload_n 0, 1) := dk_42 (dk_at dksX13_init_0 4 rfl rfl)
theorem dX13_init_5 : decode cX13_init 5 = .ok (.sipush 186, 3) := dk_17 0 186 (dk_at dksX13_init_0 5 rfl rfl)
theorem dX13_init_8 : decode cX13_init 8 = .ok (.newarray .int, 2) := dk_188_10 (dk_at dksX13_init_0 8 rfl rfl)
theorem dX13_init_10 : decode cX13_init 10 = .ok (.putfield 9, 3) := dk_181 0 9 (dk_at dksX13_init_0 10 rfl rfl)
theorem dX13_init_13 : decode cX13_init 13 = .ok (.aload_n 0, 1) := dk_42 (dk_at dksX13_init_0 13 rfl rfl)
theorem dX13_init_14 : decode cX13_init 14 = .ok (.sipush 186, 3) := dk_17 0 186 (dk_at dksX13_init_0 14 rfl rfl)
theorem dX13_init_17 : decode cX13_init 17 = .ok (.newarray .int, 2) := dk_188_10 (dk_at dksX13_init_0 17 rfl rfl)
theorem dX13_init_19 : decode cX13_init 19 = .ok (.putfield 13, 3) := dk_181 0 13 (dk_at dksX13_init_0 19 rfl rfl)
theorem dX13_init_22 : decode cX13_init 22 = .ok (.aload_n 0, 1) := dk_42 (dk_at dksX13_init_0 22 rfl rfl)
theorem dX13_init_23 : decode cX13_init 23 = .ok (.sipush 186, 3) := dk_17 0 186 (dk_at dksX13_init_1 0 rfl rfl)
theorem dX13_init_26 : decode cX13_init 26 = .ok (.newarray .int, 2) := dk_188_10 (dk_at dksX13_init_1 3 rfl rfl)
theorem dX13_init_28 : decode cX13_init 28 = .ok (.putfield 16, 3) := dk_181 0 16 (dk_at dksX13_init_1 5 rfl rfl)
theorem dX13_init_31 : decode cX13_init 31 = .ok (.aload_n 0, 1) := dk_42 (dk_at dksX13_init_1 8 rfl rfl)
theorem dX13_init_32 : decode cX13_init 32 = .ok (.bipush 8, 2) := dk_16 8 (dk_at dksX13_init_1 9 rfl rfl)
theorem dX13_init_34 : decode cX13_init 34 = .ok (.newarray .int, 2) := dk_188_10 (dk_at dksX13_init_1 11 rfl rfl)
theorem dX13_init_36 : decode cX13_init 36 = .ok (.putfield 19, 3) := dk_181 0 19 (dk_at dksX13_init_1 13 rfl rfl)
theorem dX13_init_39 : decode cX13_init 39 = .ok (.aload_n 0, 1) := dk_42 (dk_at dksX13_init_1 16 rfl rfl)
theorem dX13_init_40 : decode cX13_init 40 = .ok (.iconst 4, 1) := dk_7 (dk_at dksX13_init_1 17 rfl rfl)
theorem dX13_init_41 : decode cX13_init 41 = .ok (.newarray .int, 2) := dk_188_10 (dk_at dksX13_init_1 18 rfl rfl)
theorem dX13_init_43 : decode cX13_init 43 = .ok (.dup, 1) := dk_89 (dk_at dksX13_init_1 20 rfl rfl)
theorem dX13_init_44 : decode cX13_init 44 = .ok (.iconst 0, 1) := dk_3 (dk_at dksX13_init_1 21 rfl rfl)
theorem dX13_init_45 : decode cX13_init 45 = .ok (.iconst (-1), 1) := dk_2 (dk_at dksX13_init_1 22 rfl rfl)
theorem dX13_init_46 : decode cX13_init 46 = .ok (.iastore, 1) := dk_79 (dk_at dksX13_init_1 23 rfl rfl)
theorem dX13_init_47 : decode cX13_init 47 = .ok (.dup, 1) := dk_89 (dk_at dksX13_init_2 0 rfl rfl)
theorem dX13_init_48 : decode cX13_init 48 = .ok (.iconst 1, 1) := dk_4 (dk_at dksX13_init_2 1 rfl rfl)
theorem dX13_init_49 : decode cX13_init 49 = .ok (.iconst 0, 1) := dk_3 (dk_at dksX13_init_2 2 rfl rfl)
theorem dX13_init_50 : decode cX13_init 50 = .ok (.iastore, 1) := dk_79 (dk_at dksX13_init_2 3 rfl rfl)
theorem dX13_init_51 : decode cX13_init 51 = .ok (.dup, 1) := dk_89 (dk_at dksX13_init_2 4 rfl rfl)
theorem dX13_init_52 : decode cX13_init 52 = .ok (.iconst 2, 1) := dk_5 (dk_at dksX13_init_2 5 rfl rfl)
theorem dX13_init_53 : decode cX13_init 53 = .ok (.iconst 1, 1) := dk_4 (dk_at dksX13_init_2 6 rfl rfl)
theorem dX13_init_54 : decode cX13_init 54 = .ok (.iastore, 1) := dk_79 (dk_at dksX13_init_2 7 rfl rfl)
theorem dX13_init_55 : decode cX13_init 55 = .ok (.dup, 1) := dk_89 (dk_at dksX13_init_2 8 rfl rfl)
theorem dX13_init_56 : decode cX13_init 56 = .ok (.iconst 3, 1) := dk_6 (dk_at dksX13_init_2 9 rfl rfl)
theorem dX13_init_57 : decode cX13_init 57 = .ok (.iconst 0, 1) := dk_3 (dk_at dksX13_init_2 10 rfl rfl)
theorem dX13_init_58 : decode cX13_init 58 = .ok (.iastore, 1) := dk_79 (dk_at dksX13_init_2 11 rfl rfl)
theorem dX13_init_59 : decode cX13_init 59 = .ok (.putfield 22, 3) := dk_181 0 22 (dk_at dksX13_init_2 12 rfl rfl)
theorem dX13_init_62 : decode cX13_init 62 = .ok (.aload_n 0, 1) := dk_42 (dk_at dksX13_init_2 15 rfl rfl)
theorem dX13_init_63 : decode cX13_init 63 = .ok (.iconst 4, 1) := dk_7 (dk_at dksX13_init_2 16 rfl rfl)
theorem dX13_init_64 : decode cX13_init 64 = .ok (.newarray .int, 2) := dk_188_10 (dk_at dksX13_init_2 17 rfl rfl)
theorem dX13_init_66 : decode cX13_init 66 = .ok (.dup, 1) := dk_89 (dk_at dksX13_init_2 19 rfl rfl)
theorem dX13_init_67 : decode cX13_init 67 = .ok (.iconst 0, 1) := dk_3 (dk_at dksX13_init_2 20 rfl rfl)
theorem dX13_init_68 : decode cX13_init 68 = .ok (.iconst 0, 1) := dk_3 (dk_at dksX13_init_2 21 rfl rfl)
theorem dX13_init_69 : decode cX13_init 69 = .ok (.iastore, 1) := dk_79 (dk_at dksX13_init_2 22 rfl rfl)
theorem dX13_init_70 : decode cX13_init 70 = .ok (.dup, 1) := dk_89 (dk_at dksX13_init_2 23 rfl rfl)
theorem dX13_init_71 : decode cX13_init 71 = .ok (.iconst 1, 1) := dk_4 (dk_at dksX13_init_3 0 rfl rfl)
theorem dX13_init_72 : decode cX13_init 72 = .ok (.iconst 1, 1) := dk_4 (dk_at dksX13_init_3 1 rfl rfl)
theorem dX13_init_73 : decode cX13_init 73 = .ok (.iastore, 1) := dk_79 (dk_at dksX13_init_3 2 rfl rfl)
theorem dX13_init_74 : decode cX13_init 74 = .ok (.dup, 1) := dk_89 (dk_at dksX13_init_3 3 rfl rfl)
theorem dX13_init_75 : decode cX13_init 75 = .ok (.iconst 2, 1) := dk_5 (dk_at dksX13_init_3 4 rfl rfl)
theorem dX13_init_76 : decode cX13_init 76 = .ok (.iconst 0, 1) := dk_3 (dk_at dksX13_init_3 5 rfl rfl)
theorem dX13_init_77 : decode cX13_init 77 = .ok (.iastore, 1) := dk_79 (dk_at dksX13_init_3 6 rfl rfl)
theorem dX13_init_78 : decode cX13_init 78 = .ok (.dup, 1) := dk_89 (dk_at dksX13_init_3 7 rfl rfl)
theorem dX13_init_79 : decode cX13_init 79 = .ok (.iconst 3, 1) := dk_6 (dk_at dksX13_init_3 8 rfl rfl)
theorem dX13_init_80 : decode cX13_init 80 = .ok (.iconst (-1), 1) := dk_2 (dk_at dksX13_init_3 9 rfl rfl)
theorem dX13_init_81 : decode cX13_init 81 = .ok (.iastore, 1) := dk_79 (dk_at dksX13_init_3 10 rfl rfl)
theorem dX13_init_82 : decode cX13_init 82 = .ok (.putfield 25, 3) := dk_181 0 25 (dk_at dksX13_init_3 11 rfl rfl)
theorem dX13_init_85 : decode cX13_init 85 = .ok (.aload_n 0, 1) := dk_42 (dk_at dksX13_init_3 14 rfl rfl)
theorem dX13_init_86 : decode cX13_init 86 = .ok (.bipush 100, 2) := dk_16 100 (dk_at dksX13_init_3 15 rfl rfl)
theorem dX13_init_88 : decode cX13_init 88 = .ok (.newarray .int, 2) := dk_188_10 (dk_at dksX13_init_3 17 rfl rfl)
theorem dX13_init_90 : decode cX13_init 90 = .ok (.putfield 28, 3) := dk_181 0 28 (dk_at dksX13_init_3 19 rfl rfl)
theorem dX13_init_93 : decode cX13_init 93 = .ok (.aload_n 0, 1) := dk_42 (dk_at dksX13_init_3 22 rfl rfl)
theorem dX13_init_94 : decode cX13_init 94 = .ok (.bipush 120, 2) := dk_16 120 (dk_at dksX13_init_4 0 rfl rfl)
theorem dX13_init_96 : decode cX13_init 96 = .ok (.newarray .int, 2) := dk_188_10 (dk_at dksX13_init_4 2 rfl rfl)
theorem dX13_init_98 : decode cX13_init 98 = .ok (.putfield 31, 3) := dk_181 0 31 (dk_at dksX13_init_4 4 rfl rfl)
theorem dX13_init_101 : decode cX13_init 101 = .ok (.aload_n 0, 1) := dk_42 (dk_at dksX13_init_4 7 rfl rfl)
theorem dX13_init_102 : decode cX13_init 102 = .ok (.bipush 7, 2) := dk_16 7 (dk_at dksX13_init_4 8 rfl rfl)
theorem dX13_init_104 : decode cX13_init 104 = .ok (.anewarray 34, 3) := dk_189 0 34 (dk_at dksX13_init_4 10 rfl rfl)
theorem dX13_init_107 : decode cX13_init 107 = .ok (.dup, 1) := dk_89 (dk_at dksX13_init_4 13 rfl rfl)
theorem dX13_init_108 : decode cX13_init 108 = .ok (.iconst 0, 1) := dk_3 (dk_at dksX13_init_4 14 rfl rfl)
theorem dX13_init_109 : decode cX13_init 109 = .ok (.ldc 36, 2) := dk_18 36 (dk_at dksX13_init_4 15 rfl rfl)
theorem dX13_init_111 : decode cX13_init 111 = .ok (.aastore, 1) := dk_83 (dk_at dksX13_init_4 17 rfl rfl)
theorem dX13_init_112 : decode cX13_init 112 = .ok (.dup, 1) := dk_89 (dk_at dksX13_init_4 18 rfl rfl)
theorem dX13_init_113 : decode cX13_init 113 = .ok (.iconst 1, 1) := dk_4 (dk_at dksX13_init_4 19 rfl rfl)
theorem dX13_init_114 : decode cX13_init 114 = .ok (.ldc 38, 2) := dk_18 38 (dk_at dksX13_init_4 20 rfl rfl)
theorem dX13_init_116 : decode cX13_init 116 = .ok (.aastore, 1) := dk_83 (dk_at dksX13_init_4 22 rfl rfl)
theorem dX13_init_117 : decode cX13_init 117 = .ok (.dup, 1) := dk_89 (dk_at dksX13_init_4 23 rfl rfl)
theorem dX13_init_118 : decode cX13_init 118 = .ok (.iconst 2, 1) := dk_5 (dk_at dksX13_init_5 0 rfl rfl)
theorem dX13_init_119 : decode cX13_init 119 = .ok (.ldc 40, 2) := dk_18 40 (dk_at dksX13_init_5 1 rfl rfl)
theorem dX13_init_121 : decode cX13_init 121 = .ok (.aastore, 1) := dk_83 (dk_at dksX13_init_5 3 rfl rfl)
theorem dX13_init_122 : decode cX13_init 122 = .ok (.dup, 1) := dk_89 (dk_at dksX13_init_5 4 rfl rfl)
theorem dX13_init_123 : decode cX13_init 123 = .ok (.iconst 3, 1) := dk_6 (dk_at dksX13_init_5 5 rfl rfl)
theorem dX13_init_124 : decode cX13_init 124 = .ok (.ldc 42, 2) := dk_18 42 (dk_at dksX13_init_5 6 rfl rfl)
theorem dX13_init_126 : decode cX13_init 126 = .ok (.aastore, 1) := dk_83 (dk_at dksX13_init_5 8 rfl rfl)
theorem dX13_init_127 : decode cX13_init 127 = .ok (.dup, 1) := dk_89 (dk_at dksX13_init_5 9 rfl rfl)
theorem dX13_init_128 : decode cX13_init 128 = .ok (.iconst 4, 1) := dk_7 (dk_at dksX13_init_5 10 rfl rfl)
theorem dX13_init_129 : decode cX13_init 129 = .ok (.ldc 44, 2) := dk_18 44 (dk_at dksX13_init_5 11 rfl rfl)
theorem dX13_init_131 : decode cX13_init 131 = .ok (.aastore, 1) := dk_83 (dk_at dksX13_init_5 13 rfl rfl)
theorem dX13_init_132 : decode cX13_init 132 = .ok (.dup, 1) := dk_89 (dk_at dksX13_init_5 14 rfl rfl)
theorem dX13_init_133 : decode cX13_init 133 = .ok (.iconst 5, 1) := dk_8 (dk_at dksX13_init_5 15 rfl rfl)
theorem dX13_init_134 : decode cX13_init 134 = .ok (.ldc 46, 2) := dk_18 46 (dk_at dksX13_init_5 16 rfl rfl)
theorem dX13_init_136 : decode cX13_init 136 = .ok (.aastore, 1) := dk_83 (dk_at dksX13_init_5 18 rfl rfl)
theorem dX13_init_137 : decode cX13_init 137 = .ok (.dup, 1) := dk_89 (dk_at dksX13_init_5 19 rfl rfl)
theorem dX13_init_138 : decode cX13_init 138 = .ok (.bipush 6, 2) := dk_16 6 (dk_at dksX13_init_5 20 rfl rfl)
theorem dX13_init_140 : decode cX13_init 140 = .ok (.ldc 48, 2) := dk_18 48 (dk_at dksX13_init_5 22 rfl rfl)
theorem dX13_init_142 : decode cX13_init 142 = .ok (.aastore, 1) := dk_83 (dk_at dksX13_init_6 0 rfl rfl)
theorem dX13_init_143 : decode cX13_init 143 = .ok (.putfield 50, 3) := dk_181 0 50 (dk_at dksX13_init_6 1 rfl rfl)
theorem dX13_init_146 : decode cX13_init 146 = .ok (.aload_n 0, 1) := dk_42 (dk_at dksX13_init_6 4 rfl rfl)
theorem dX13_init_147 : decode cX13_init 147 = .ok (.sipush 480, 3) := dk_17 1 224 (dk_at dksX13_init_6 5 rfl rfl)
theorem dX13_init_150 : decode cX13_init 150 = .ok (.newarray .int, 2) := dk_188_10 (dk_at dksX13_init_6 8 rfl rfl)
theorem dX13_init_152 : decode cX13_init 152 = .ok (.putfield 54, 3) := dk_181 0 54 (dk_at dksX13_init_6 10 rfl rfl)
theorem dX13_init_155 : decode cX13_init 155 = .ok (.aload_n 0, 1) := dk_42 (dk_at dksX13_init_6 13 rfl rfl)
theorem dX13_init_156 : decode cX13_init 156 = .ok (.iconst 4, 1) := dk_7 (dk_at dksX13_init_6 14 rfl rfl)
theorem dX13_init_157 : decode cX13_init 157 = .ok (.newarray .int, 2) := dk_188_10 (dk_at dksX13_init_6 15 rfl rfl)
theorem dX13_init_159 : decode cX13_init 159 = .ok (.putfield 57, 3) := dk_181 0 57 (dk_at dksX13_init_6 17 rfl rfl)
theorem dX13_init_162 : decode cX13_init 162 = .ok (.aload_n 0, 1) := dk_42 (dk_at dksX13_init_6 20 rfl rfl)
theorem dX13_init_163 : decode cX13_init 163 = .ok (.iconst 4, 1) := dk_7 (dk_at dksX13_init_6 21 rfl rfl)
theorem dX13_init_164 : decode cX13_init 164 = .ok (.newarray .int, 2) := dk_188_10 (dk_at dksX13_init_6 22 rfl rfl)
theorem dX13_init_166 : decode cX13_init 166 = .ok (.putfield 60, 3) := dk_181 0 60 (dk_at dksX13_init_7 0 rfl rfl)
theorem dX13_init_169 : decode cX13_init 169 = .ok (.aload_n 0, 1) := dk_42 (dk_at dksX13_init_7 3 rfl rfl)
theorem dX13_init_170 : decode cX13_init 170 = .ok (.sipush 160, 3) := dk_17 0 160 (dk_at dksX13_init_7 4 rfl rfl)
theorem dX13_init_173 : decode cX13_init 173 = .ok (.newarray .int, 2) := dk_188_10 (dk_at dksX13_init_7 7 rfl rfl)
theorem dX13_init_175 : decode cX13_init 175 = .ok (.putfield 63, 3) := dk_181 0 63 (dk_at dksX13_init_7 9 rfl rfl)
theorem dX13_init_178 : decode cX13_init 178 = .ok (.aload_n 0, 1) := dk_42 (dk_at dksX13_init_7 12 rfl rfl)
theorem dX13_init_179 : decode cX13_init 179 = .ok (.bipush 40, 2) := dk_16 40 (dk_at dksX13_init_7 13 rfl rfl)
theorem dX13_init_181 : decode cX13_init 181 = .ok (.newarray .int, 2) := dk_188_10 (dk_at dksX13_init_7 15 rfl rfl)
theorem dX13_init_183 : decode cX13_init 183 = .ok (.putfield 66, 3) := dk_181 0 66 (dk_at dksX13_init_7 17 rfl rfl)
theorem dX13_init_186 : decode cX13_init 186 = .ok (.aload_n 0, 1) := dk_42 (dk_at dksX13_init_7 20 rfl rfl)
theorem dX13_init_187 : decode cX13_init 187 = .ok (.getfield 9, 3) := dk_180 0 9 (dk_at dksX13_init_7 21 rfl rfl)
theorem dX13_init_190 : decode cX13_init 190 = .ok (.iconst 1, 1) := dk_4 (dk_at dksX13_init_8 0 rfl rfl)
theorem dX13_init_191 : decode cX13_init 191 = .ok (.iconst 3, 1) := dk_6 (dk_at dksX13_init_8 1 rfl rfl)
theorem dX13_init_192 : decode cX13_init 192 = .ok (.iastore, 1) := dk_79 (dk_at dksX13_init_8 2 rfl rfl)
theorem dX13_init_193 : decode cX13_init 193 = .ok (.aload_n 0, 1) := dk_42 (dk_at dksX13_init_8 3 rfl rfl)
theorem dX13_init_194 : decode cX13_init 194 = .ok (.getfield 9, 3) := dk_180 0 9 (dk_at dksX13_init_8 4 rfl rfl)
theorem dX13_init_197 : decode cX13_init 197 = .ok (.iconst 3, 1) := dk_6 (dk_at dksX13_init_8 7 rfl rfl)
theorem dX13_init_198 : decode cX13_init 198 = .ok (.iconst 1, 1) := dk_4 (dk_at dksX13_init_8 8 rfl rfl)
theorem dX13_init_199 : decode cX13_init 199 = .ok (.iastore, 1) := dk_79 (dk_at dksX13_init_8 9 rfl rfl)
theorem dX13_init_200 : decode cX13_init 200 = .ok (.iconst 0, 1) := dk_3 (dk_at dksX13_init_8 10 rfl rfl)
theorem dX13_init_201 : decode cX13_init 201 = .ok (.istore_n 1, 1) := dk_60 (dk_at dksX13_init_8 11 rfl rfl)
theorem dX13_init_202 : decode cX13_init 202 = .ok (.iload_n 1, 1) := dk_27 (dk_at dksX13_init_8 12 rfl rfl)
theorem dX13_init_203 : decode cX13_init 203 = .ok (.bipush 10, 2) := dk_16 10 (dk_at dksX13_init_8 13 rfl rfl)
theorem dX13_init_205 : decode cX13_init 205 = .ok (.if_icmp .ge 18, 3) := dk_162 0 18 (dk_at dksX13_init_8 15 rfl rfl)
theorem dX13_init_208 : decode cX13_init 208 = .ok (.aload_n 0, 1) := dk_42 (dk_at dksX13_init_8 18 rfl rfl)
theorem dX13_init_209 : decode cX13_init 209 = .ok (.getfield 9, 3) := dk_180 0 9 (dk_at dksX13_init_8 19 rfl rfl)
theorem dX13_init_212 : decode cX13_init 212 = .ok (.iconst 4, 1) := dk_7 (dk_at dksX13_init_8 22 rfl rfl)
theorem dX13_init_213 : decode cX13_init 213 = .ok (.iload_n 1, 1) := dk_27 (dk_at dksX13_init_8 23 rfl rfl)
theorem dX13_init_214 : decode cX13_init 214 = .ok (.iadd, 1) := dk_96 (dk_at dksX13_init_9 0 rfl rfl)
theorem dX13_init_215 : decode cX13_init 215 = .ok (.iconst (-1), 1) := dk_2 (dk_at dksX13_init_9 1 rfl rfl)
theorem dX13_init_216 : decode cX13_init 216 = .ok (.iastore, 1) := dk_79 (dk_at dksX13_init_9 2 rfl rfl)
theorem dX13_init_217 : decode cX13_init 217 = .ok (.iinc 1 1, 3) := dk_132 1 1 (dk_at dksX13_init_9 3 rfl rfl)
theorem dX13_init_220 : decode cX13_init 220 = .ok (.goto (-18), 3) := dk_167 255 238 (dk_at dksX13_init_9 6 rfl rfl)
theorem dX13_init_223 : decode cX13_init 223 = .ok (.iconst 0, 1) := dk_3 (dk_at dksX13_init_9 9 rfl rfl)
theorem dX13_init_224 : decode cX13_init 224 = .ok (.istore_n 1, 1) := dk_60 (dk_at dksX13_init_9 10 rfl rfl)
theorem dX13_init_225 : decode cX13_init 225 = .ok (.iload_n 1, 1) := dk_27 (dk_at dksX13_init_9 11 rfl rfl)
theorem dX13_init_226 : decode cX13_init 226 = .ok (.iconst 4, 1) := dk_7 (dk_at dksX13_init_9 12 rfl rfl)
theorem dX13_init_227 : decode cX13_init 227 = .ok (.if_icmp .ge 19, 3) := dk_162 0 19 (dk_at dksX13_init_9 13 rfl rfl)
theorem dX13_init_230 : decode cX13_init 230 = .ok (.aload_n 0, 1) := dk_42 (dk_at dksX13_init_9 16 rfl rfl)
theorem dX13_init_231 : decode cX13_init 231 = .ok (.getfield 9, 3) := dk_180 0 9 (dk_at dksX13_init_9 17 rfl rfl)
theorem dX13_init_234 : decode cX13_init 234 = .ok (.bipush 14, 2) := dk_16 14 (dk_at dksX13_init_9 20 rfl rfl)
theorem dX13_init_236 : decode cX13_init 236 = .ok (.iload_n 1, 1) := dk_27 (dk_at dksX13_init_9 22 rfl rfl)
theorem dX13_init_237 : decode cX13_init 237 = .ok (.iadd, 1) := dk_96 (dk_at dksX13_init_9 23 rfl rfl)
theorem dX13_init_238 : decode cX13_init 238 = .ok (.iconst (-1), 1) := dk_2 (dk_at dksX13_init_10 0 rfl rfl)
theorem dX13_init_239 : decode cX13_init 239 = .ok (.iastore, 1) := dk_79 (dk_at dksX13_init_10 1 rfl rfl)
theorem dX13_init_240 : decode cX13_init 240 = .ok (.iinc 1 1, 3) := dk_132 1 1 (dk_at dksX13_init_10 2 rfl rfl)
theorem dX13_init_243 : decode cX13_init 243 = .ok (.goto (-18), 3) := dk_167 255 238 (dk_at dksX13_init_10 5 rfl rfl)
theorem dX13_init_246 : decode cX13_init 246 = .ok (.return_, 1) := dk_177 (dk_at dksX13_init_10 8 rfl rfl)
abbrev cX13_net : ByteArray := prog_16_method_13_code
def yX13_net : MethodName := ⟨RX13, "net", "(II)I"⟩
def dkwX13_net_1 : List UInt8 := [16, 18, 27, 96, 28, 182, 0, 91, 28, 160, 0, 7, 3, 167, 0, 4, 4, 172]
abbrev dktX13_net_1 : List UInt8 := dkwX13_net_1 ++ []
def dkwX13_net_0 : List UInt8 := [27, 184, 0, 84, 153, 0, 12, 28, 3, 4, 184, 0, 74, 154, 0, 10, 42, 18, 69, 182, 0, 88, 172, 42]
abbrev dktX13_net_0 : List UInt8 := dkwX13_net_0 ++ dktX13_net_1
theorem dksX13_net_0 : cX13_net.data.toList.drop 0 = dktX13_net_0 := by decide +kernel
theorem dksX13_net_1 : cX13_net.data.toList.drop 24 = dktX13_net_1 := dk_seg dksX13_net_0 24 rfl rfl
theorem dX13_net_0 : decode cX13_net 0 = .ok (.iload_n 1, 1) := dk_27 (dk_at dksX13_net_0 0 rfl rfl)
theorem dX13_net_1 : decode cX13_net 1 = .ok (.invokestatic 84, 3) := dk_184 0 84 (dk_at dksX13_net_0 1 rfl rfl)
theorem dX13_net_4 : decode cX13_net 4 = .ok (.ifCond .eq 12, 3) := dk_153 0 12 (dk_at dksX13_net_0 4 rfl rfl)
theorem dX13_net_7 : decode cX13_net 7 = .ok (.iload_n 2, 1) := dk_28 (dk_at dksX13_net_0 7 rfl rfl)
theorem dX13_net_8 : decode cX13_net 8 = .ok (.iconst 0, 1) := dk_3 (dk_at dksX13_net_0 8 rfl rfl)
theorem dX13_net_9 : decode cX13_net 9 = .ok (.iconst 1, 1) := dk_4 (dk_at dksX13_net_0 9 rfl rfl)
theorem dX13_net_10 : decode cX13_net 10 = .ok (.invokestatic 74, 3) := dk_184 0 74 (dk_at dksX13_net_0 10 rfl rfl)
theorem dX13_net_13 : decode cX13_net 13 = .ok (.ifCond .ne 10, 3) := dk_154 0 10 (dk_at dksX13_net_0 13 rfl rfl)
theorem dX13_net_16 : decode cX13_net 16 = .ok (.aload_n 0, 1) := dk_42 (dk_at dksX13_net_0 16 rfl rfl)
theorem dX13_net_17 : decode cX13_net 17 = .ok (.ldc 69, 2) := dk_18 69 (dk_at dksX13_net_0 17 rfl rfl)
theorem dX13_net_19 : decode cX13_net 19 = .ok (.invokevirtual 88, 3) := dk_182 0 88 (dk_at dksX13_net_0 19 rfl rfl)
theorem dX13_net_22 : decode cX13_net 22 = .ok (.ireturn, 1) := dk_172 (dk_at dksX13_net_0 22 rfl rfl)
theorem dX13_net_23 : decode cX13_net 23 = .ok (.aload_n 0, 1) := dk_42 (dk_at dksX13_net_0 23 rfl rfl)
theorem dX13_net_24 : decode cX13_net 24 = .ok (.bipush 18, 2) := dk_16 18 (dk_at dksX13_net_1 0 rfl rfl)
theorem dX13_net_26 : decode cX13_net 26 = .ok (.iload_n 1, 1) := dk_27 (dk_at dksX13_net_1 2 rfl rfl)
theorem dX13_net_27 : decode cX13_net 27 = .ok (.iadd, 1) := dk_96 (dk_at dksX13_net_1 3 rfl rfl)
theorem dX13_net_28 : decode cX13_net 28 = .ok (.iload_n 2, 1) := dk_28 (dk_at dksX13_net_1 4 rfl rfl)
theorem dX13_net_29 : decode cX13_net 29 = .ok (.invokevirtual 91, 3) := dk_182 0 91 (dk_at dksX13_net_1 5 rfl rfl)
theorem dX13_net_32 : decode cX13_net 32 = .ok (.iload_n 2, 1) := dk_28 (dk_at dksX13_net_1 8 rfl rfl)
theorem dX13_net_33 : decode cX13_net 33 = .ok (.if_icmp .ne 7, 3) := dk_160 0 7 (dk_at dksX13_net_1 9 rfl rfl)
theorem dX13_net_36 : decode cX13_net 36 = .ok (.iconst 0, 1) := dk_3 (dk_at dksX13_net_1 12 rfl rfl)
theorem dX13_net_37 : decode cX13_net 37 = .ok (.goto 4, 3) := dk_167 0 4 (dk_at dksX13_net_1 13 rfl rfl)
theorem dX13_net_40 : decode cX13_net 40 = .ok (.iconst 1, 1) := dk_4 (dk_at dksX13_net_1 16 rfl rfl)
theorem dX13_net_41 : decode cX13_net 41 = .ok (.ireturn, 1) := dk_172 (dk_at dksX13_net_1 17 rfl rfl)
abbrev cX13_isCell : ByteArray := prog_16_method_9_code
def yX13_isCell : MethodName := ⟨RX13, "isCell", "(I)Z"⟩
def dkwX13_isCell_0 : List UInt8 := [26, 3, 16, 63, 184, 0, 74, 172]
abbrev dktX13_isCell_0 : List UInt8 := dkwX13_isCell_0 ++ []
theorem dksX13_isCell_0 : cX13_isCell.data.toList.drop 0 = dktX13_isCell_0 := by decide +kernel
theorem dX13_isCell_0 : decode cX13_isCell 0 = .ok (.iload_n 0, 1) := dk_26 (dk_at dksX13_isCell_0 0 rfl rfl)
theorem dX13_isCell_1 : decode cX13_isCell 1 = .ok (.iconst 0, 1) := dk_3 (dk_at dksX13_isCell_0 1 rfl rfl)
theorem dX13_isCell_2 : decode cX13_isCell 2 = .ok (.bipush 63, 2) := dk_16 63 (dk_at dksX13_isCell_0 2 rfl rfl)
theorem dX13_isCell_4 : decode cX13_isCell 4 = .ok (.invokestatic 74, 3) := dk_184 0 74 (dk_at dksX13_isCell_0 4 rfl rfl)
theorem dX13_isCell_7 : decode cX13_isCell 7 = .ok (.ireturn, 1) := dk_172 (dk_at dksX13_isCell_0 7 rfl rfl)
abbrev cX13_within : ByteArray := prog_16_method_3_code
def yX13_within : MethodName := ⟨RX13, "within", "(III)Z"⟩
def dkwX13_within_0 : List UInt8 := [26, 27, 161, 0, 12, 26, 28, 163, 0, 7, 4, 167, 0, 4, 3, 172]
abbrev dktX13_within_0 : List UInt8 := dkwX13_within_0 ++ []
theorem dksX13_within_0 : cX13_within.data.toList.drop 0 = dktX13_within_0 := by decide +kernel
theorem dX13_within_0 : decode cX13_within 0 = .ok (.iload_n 0, 1) := dk_26 (dk_at dksX13_within_0 0 rfl rfl)
theorem dX13_within_1 : decode cX13_within 1 = .ok (.iload_n 1, 1) := dk_27 (dk_at dksX13_within_0 1 rfl rfl)
theorem dX13_within_2 : decode cX13_within 2 = .ok (.if_icmp .lt 12, 3) := dk_161 0 12 (dk_at dksX13_within_0 2 rfl rfl)
theorem dX13_within_5 : decode cX13_within 5 = .ok (.iload_n 0, 1) := dk_26 (dk_at dksX13_within_0 5 rfl rfl)
theorem dX13_within_6 : decode cX13_within 6 = .ok (.iload_n 2, 1) := dk_28 (dk_at dksX13_within_0 6 rfl rfl)
theorem dX13_within_7 : decode cX13_within 7 = .ok (.if_icmp .gt 7, 3) := dk_163 0 7 (dk_at dksX13_within_0 7 rfl rfl)
theorem dX13_within_10 : decode cX13_within 10 = .ok (.iconst 1, 1) := dk_4 (dk_at dksX13_within_0 10 rfl rfl)
theorem dX13_within_11 : decode cX13_within 11 = .ok (.goto 4, 3) := dk_167 0 4 (dk_at dksX13_within_0 11 rfl rfl)
theorem dX13_within_14 : decode cX13_within 14 = .ok (.iconst 0, 1) := dk_3 (dk_at dksX13_within_0 14 rfl rfl)
theorem dX13_within_15 : decode cX13_within 15 = .ok (.ireturn, 1) := dk_172 (dk_at dksX13_within_0 15 rfl rfl)
abbrev cX13_finding : ByteArray := prog_16_method_2_code
def yX13_finding : MethodName := ⟨RX13, "finding", "(I)I"⟩
def dkwX13_finding_1 : List UInt8 := [79, 27, 172]
abbrev dktX13_finding_1 : List UInt8 := dkwX13_finding_1 ++ []
def dkwX13_finding_0 : List UInt8 := [42, 180, 0, 19, 18, 69, 27, 100, 4, 96, 92, 46, 4, 96, 79, 42, 180, 0, 19, 3, 92, 46, 4, 96]
abbrev dktX13_finding_0 : List UInt8 := dkwX13_finding_0 ++ dktX13_finding_1
theorem dksX13_finding_0 : cX13_finding.data.toList.drop 0 = dktX13_finding_0 := by decide +kernel
theorem dksX13_finding_1 : cX13_finding.data.toList.drop 24 = dktX13_finding_1 := dk_seg dksX13_finding_0 24 rfl rfl
theorem dX13_finding_0 : decode cX13_finding 0 = .ok (.aload_n 0, 1) := dk_42 (dk_at dksX13_finding_0 0 rfl rfl)
theorem dX13_finding_1 : decode cX13_finding 1 = .ok (.getfield 19, 3) := dk_180 0 19 (dk_at dksX13_finding_0 1 rfl rfl)
theorem dX13_finding_4 : decode cX13_finding 4 = .ok (.ldc 69, 2) := dk_18 69 (dk_at dksX13_finding_0 4 rfl rfl)
theorem dX13_finding_6 : decode cX13_finding 6 = .ok (.iload_n 1, 1) := dk_27 (dk_at dksX13_finding_0 6 rfl rfl)
theorem dX13_finding_7 : decode cX13_finding 7 = .ok (.isub, 1) := dk_100 (dk_at dksX13_finding_0 7 rfl rfl)
theorem dX13_finding_8 : decode cX13_finding 8 = .ok (.iconst 1, 1) := dk_4 (dk_at dksX13_finding_0 8 rfl rfl)
theorem dX13_finding_9 : decode cX13_finding 9 = .ok (.iadd, 1) := dk_96 (dk_at dksX13_finding_0 9 rfl rfl)
theorem dX13_finding_10 : decode cX13_finding 10 = .ok (.dup2, 1) := dk_92 (dk_at dksX13_finding_0 10 rfl rfl)
theorem dX13_finding_11 : decode cX13_finding 11 = .ok (.iaload, 1) := dk_46 (dk_at dksX13_finding_0 11 rfl rfl)
theorem dX13_finding_12 : decode cX13_finding 12 = .ok (.iconst 1, 1) := dk_4 (dk_at dksX13_finding_0 12 rfl rfl)
theorem dX13_finding_13 : decode cX13_finding 13 = .ok (.iadd, 1) := dk_96 (dk_at dksX13_finding_0 13 rfl rfl)
theorem dX13_finding_14 : decode cX13_finding 14 = .ok (.iastore, 1) := dk_79 (dk_at dksX13_finding_0 14 rfl rfl)
theorem dX13_finding_15 : decode cX13_finding 15 = .ok (.aload_n 0, 1) := dk_42 (dk_at dksX13_finding_0 15 rfl rfl)
theorem dX13_finding_16 : decode cX13_finding 16 = .ok (.getfield 19, 3) := dk_180 0 19 (dk_at dksX13_finding_0 16 rfl rfl)
theorem dX13_finding_19 : decode cX13_finding 19 = .ok (.iconst 0, 1) := dk_3 (dk_at dksX13_finding_0 19 rfl rfl)
theorem dX13_finding_20 : decode cX13_finding 20 = .ok (.dup2, 1) := dk_92 (dk_at dksX13_finding_0 20 rfl rfl)
theorem dX13_finding_21 : decode cX13_finding 21 = .ok (.iaload, 1) := dk_46 (dk_at dksX13_finding_0 21 rfl rfl)
theorem dX13_finding_22 : decode cX13_finding 22 = .ok (.iconst 1, 1) := dk_4 (dk_at dksX13_finding_0 22 rfl rfl)
theorem dX13_finding_23 : decode cX13_finding 23 = .ok (.iadd, 1) := dk_96 (dk_at dksX13_finding_0 23 rfl rfl)
theorem dX13_finding_24 : decode cX13_finding 24 = .ok (.iastore, 1) := dk_79 (dk_at dksX13_finding_1 0 rfl rfl)
theorem dX13_finding_25 : decode cX13_finding 25 = .ok (.iload_n 1, 1) := dk_27 (dk_at dksX13_finding_1 1 rfl rfl)
theorem dX13_finding_26 : decode cX13_finding 26 = .ok (.ireturn, 1) := dk_172 (dk_at dksX13_finding_1 2 rfl rfl)
abbrev cX13_become : ByteArray := prog_16_method_4_code
def yX13_become : MethodName := ⟨RX13, "become", "(II)I"⟩
def dkwX13_become_0 : List UInt8 := [42, 180, 0, 9, 27, 46, 62, 42, 180, 0, 9, 27, 28, 79, 29, 172]
abbrev dktX13_become_0 : List UInt8 := dkwX13_become_0 ++ []
theorem dksX13_become_0 : cX13_become.data.toList.drop 0 = dktX13_become_0 := by decide +kernel
theorem dX13_become_0 : decode cX13_become 0 = .ok (.aload_n 0, 1) := dk_42 (dk_at dksX13_become_0 0 rfl rfl)
theorem dX13_become_1 : decode cX13_become 1 = .ok (.getfield 9, 3) := dk_180 0 9 (dk_at dksX13_become_0 1 rfl rfl)
theorem dX13_become_4 : decode cX13_become 4 = .ok (.iload_n 1, 1) := dk_27 (dk_at dksX13_become_0 4 rfl rfl)
theorem dX13_become_5 : decode cX13_become 5 = .ok (.iaload, 1) := dk_46 (dk_at dksX13_become_0 5 rfl rfl)
theorem dX13_become_6 : decode cX13_become 6 = .ok (.istore_n 3, 1) := dk_62 (dk_at dksX13_become_0 6 rfl rfl)
theorem dX13_become_7 : decode cX13_become 7 = .ok (.aload_n 0, 1) := dk_42 (dk_at dksX13_become_0 7 rfl rfl)
theorem dX13_become_8 : decode cX13_become 8 = .ok (.getfield 9, 3) := dk_180 0 9 (dk_at dksX13_become_0 8 rfl rfl)
theorem dX13_become_11 : decode cX13_become 11 = .ok (.iload_n 1, 1) := dk_27 (dk_at dksX13_become_0 11 rfl rfl)
theorem dX13_become_12 : decode cX13_become 12 = .ok (.iload_n 2, 1) := dk_28 (dk_at dksX13_become_0 12 rfl rfl)
theorem dX13_become_13 : decode cX13_become 13 = .ok (.iastore, 1) := dk_79 (dk_at dksX13_become_0 13 rfl rfl)
theorem dX13_become_14 : decode cX13_become 14 = .ok (.iload_n 3, 1) := dk_29 (dk_at dksX13_become_0 14 rfl rfl)
theorem dX13_become_15 : decode cX13_become 15 = .ok (.ireturn, 1) := dk_172 (dk_at dksX13_become_0 15 rfl rfl)
abbrev cX13_thick : ByteArray := prog_16_method_14_code
def yX13_thick : MethodName := ⟨RX13, "thick", "(II)I"⟩
def dkwX13_thick_1 : List UInt8 := [182, 0, 91, 167, 0, 9, 42, 18, 69, 182, 0, 88, 172]
abbrev dktX13_thick_1 : List UInt8 := dkwX13_thick_1 ++ []
def dkwX13_thick_0 : List UInt8 := [27, 184, 0, 84, 153, 0, 25, 28, 3, 16, 9, 184, 0, 74, 153, 0, 15, 42, 16, 82, 27, 96, 28]
abbrev dktX13_thick_0 : List UInt8 := dkwX13_thick_0 ++ dktX13_thick_1
theorem dksX13_thick_0 : cX13_thick.data.toList.drop 0 = dktX13_thick_0 := by decide +kernel
theorem dksX13_thick_1 : cX13_thick.data.toList.drop 23 = dktX13_thick_1 := dk_seg dksX13_thick_0 23 rfl rfl
theorem dX13_thick_0 : decode cX13_thick 0 = .ok (.iload_n 1, 1) := dk_27 (dk_at dksX13_thick_0 0 rfl rfl)
theorem dX13_thick_1 : decode cX13_thick 1 = .ok (.invokestatic 84, 3) := dk_184 0 84 (dk_at dksX13_thick_0 1 rfl rfl)
theorem dX13_thick_4 : decode cX13_thick 4 = .ok (.ifCond .eq 25, 3) := dk_153 0 25 (dk_at dksX13_thick_0 4 rfl rfl)
theorem dX13_thick_7 : decode cX13_thick 7 = .ok (.iload_n 2, 1) := dk_28 (dk_at dksX13_thick_0 7 rfl rfl)
theorem dX13_thick_8 : decode cX13_thick 8 = .ok (.iconst 0, 1) := dk_3 (dk_at dksX13_thick_0 8 rfl rfl)
theorem dX13_thick_9 : decode cX13_thick 9 = .ok (.bipush 9, 2) := dk_16 9 (dk_at dksX13_thick_0 9 rfl rfl)
theorem dX13_thick_11 : decode cX13_thick 11 = .ok (.invokestatic 74, 3) := dk_184 0 74 (dk_at dksX13_thick_0 11 rfl rfl)
theorem dX13_thick_14 : decode cX13_thick 14 = .ok (.ifCond .eq 15, 3) := dk_153 0 15 (dk_at dksX13_thick_0 14 rfl rfl)
theorem dX13_thick_17 : decode cX13_thick 17 = .ok (.aload_n 0, 1) := dk_42 (dk_at dksX13_thick_0 17 rfl rfl)
theorem dX13_thick_18 : decode cX13_thick 18 = .ok (.bipush 82, 2) := dk_16 82 (dk_at dksX13_thick_0 18 rfl rfl)
theorem dX13_thick_20 : decode cX13_thick 20 = .ok (.iload_n 1, 1) := dk_27 (dk_at dksX13_thick_0 20 rfl rfl)
theorem dX13_thick_21 : decode cX13_thick 21 = .ok (.iadd, 1) := dk_96 (dk_at dksX13_thick_0 21 rfl rfl)
theorem dX13_thick_22 : decode cX13_thick 22 = .ok (.iload_n 2, 1) := dk_28 (dk_at dksX13_thick_0 22 rfl rfl)
theorem dX13_thick_23 : decode cX13_thick 23 = .ok (.invokevirtual 91, 3) := dk_182 0 91 (dk_at dksX13_thick_1 0 rfl rfl)
theorem dX13_thick_26 : decode cX13_thick 26 = .ok (.goto 9, 3) := dk_167 0 9 (dk_at dksX13_thick_1 3 rfl rfl)
theorem dX13_thick_29 : decode cX13_thick 29 = .ok (.aload_n 0, 1) := dk_42 (dk_at dksX13_thick_1 6 rfl rfl)
theorem dX13_thick_30 : decode cX13_thick 30 = .ok (.ldc 69, 2) := dk_18 69 (dk_at dksX13_thick_1 7 rfl rfl)
theorem dX13_thick_32 : decode cX13_thick 32 = .ok (.invokevirtual 88, 3) := dk_182 0 88 (dk_at dksX13_thick_1 9 rfl rfl)
theorem dX13_thick_35 : decode cX13_thick 35 = .ok (.ireturn, 1) := dk_172 (dk_at dksX13_thick_1 12 rfl rfl)
abbrev cX13_hunter : ByteArray := prog_16_method_16_code
def yX13_hunter : MethodName := ⟨RX13, "hunter", "(II)I"⟩
def dkwX13_hunter_1 : List UInt8 := [182, 0, 91, 167, 0, 9, 42, 18, 69, 182, 0, 88, 172]
abbrev dktX13_hunter_1 : List UInt8 := dkwX13_hunter_1 ++ []
def dkwX13_hunter_0 : List UInt8 := [27, 184, 0, 95, 153, 0, 25, 28, 2, 16, 63, 184, 0, 74, 153, 0, 15, 42, 16, 14, 27, 96, 28]
abbrev dktX13_hunter_0 : List UInt8 := dkwX13_hunter_0 ++ dktX13_hunter_1
theorem dksX13_hunter_0 : cX13_hunter.data.toList.drop 0 = dktX13_hunter_0 := by decide +kernel
theorem dksX13_hunter_1 : cX13_hunter.data.toList.drop 23 = dktX13_hunter_1 := dk_seg dksX13_hunter_0 23 rfl rfl
theorem dX13_hunter_0 : decode cX13_hunter 0 = .ok (.iload_n 1, 1) := dk_27 (dk_at dksX13_hunter_0 0 rfl rfl)
theorem dX13_hunter_1 : decode cX13_hunter 1 = .ok (.invokestatic 95, 3) := dk_184 0 95 (dk_at dksX13_hunter_0 1 rfl rfl)
theorem dX13_hunter_4 : decode cX13_hunter 4 = .ok (.ifCond .eq 25, 3) := dk_153 0 25 (dk_at dksX13_hunter_0 4 rfl rfl)
theorem dX13_hunter_7 : decode cX13_hunter 7 = .ok (.iload_n 2, 1) := dk_28 (dk_at dksX13_hunter_0 7 rfl rfl)
theorem dX13_hunter_8 : decode cX13_hunter 8 = .ok (.iconst (-1), 1) := dk_2 (dk_at dksX13_hunter_0 8 rfl rfl)
theorem dX13_hunter_9 : decode cX13_hunter 9 = .ok (.bipush 63, 2) := dk_16 63 (dk_at dksX13_hunter_0 9 rfl rfl)
theorem dX13_hunter_11 : decode cX13_hunter 11 = .ok (.invokestatic 74, 3) := dk_184 0 74 (dk_at dksX13_hunter_0 11 rfl rfl)
theorem dX13_hunter_14 : decode cX13_hunter 14 = .ok (.ifCond .eq 15, 3) := dk_153 0 15 (dk_at dksX13_hunter_0 14 rfl rfl)
theorem dX13_hunter_17 : decode cX13_hunter 17 = .ok (.aload_n 0, 1) := dk_42 (dk_at dksX13_hunter_0 17 rfl rfl)
theorem dX13_hunter_18 : decode cX13_hunter 18 = .ok (.bipush 14, 2) := dk_16 14 (dk_at dksX13_hunter_0 18 rfl rfl)
theorem dX13_hunter_20 : decode cX13_hunter 20 = .ok (.iload_n 1, 1) := dk_27 (dk_at dksX13_hunter_0 20 rfl rfl)
theorem dX13_hunter_21 : decode cX13_hunter 21 = .ok (.iadd, 1) := dk_96 (dk_at dksX13_hunter_0 21 rfl rfl)
theorem dX13_hunter_22 : decode cX13_hunter 22 = .ok (.iload_n 2, 1) := dk_28 (dk_at dksX13_hunter_0 22 rfl rfl)
theorem dX13_hunter_23 : decode cX13_hunter 23 = .ok (.invokevirtual 91, 3) := dk_182 0 91 (dk_at dksX13_hunter_1 0 rfl rfl)
theorem dX13_hunter_26 : decode cX13_hunter 26 = .ok (.goto 9, 3) := dk_167 0 9 (dk_at dksX13_hunter_1 3 rfl rfl)
theorem dX13_hunter_29 : decode cX13_hunter 29 = .ok (.aload_n 0, 1) := dk_42 (dk_at dksX13_hunter_1 6 rfl rfl)
theorem dX13_hunter_30 : decode cX13_hunter 30 = .ok (.ldc 69, 2) := dk_18 69 (dk_at dksX13_hunter_1 7 rfl rfl)
theorem dX13_hunter_32 : decode cX13_hunter 32 = .ok (.invokevirtual 88, 3) := dk_182 0 88 (dk_at dksX13_hunter_1 9 rfl rfl)
theorem dX13_hunter_35 : decode cX13_hunter 35 = .ok (.ireturn, 1) := dk_172 (dk_at dksX13_hunter_1 12 rfl rfl)
abbrev cX13_isHunter : ByteArray := prog_16_method_15_code
def yX13_isHunter : MethodName := ⟨RX13, "isHunter", "(I)Z"⟩
def dkwX13_isHunter_0 : List UInt8 := [26, 3, 6, 184, 0, 74, 172]
abbrev dktX13_isHunter_0 : List UInt8 := dkwX13_isHunter_0 ++ []
theorem dksX13_isHunter_0 : cX13_isHunter.data.toList.drop 0 = dktX13_isHunter_0 := by decide +kernel
theorem dX13_isHunter_0 : decode cX13_isHunter 0 = .ok (.iload_n 0, 1) := dk_26 (dk_at dksX13_isHunter_0 0 rfl rfl)
theorem dX13_isHunter_1 : decode cX13_isHunter 1 = .ok (.iconst 0, 1) := dk_3 (dk_at dksX13_isHunter_0 1 rfl rfl)
theorem dX13_isHunter_2 : decode cX13_isHunter 2 = .ok (.iconst 3, 1) := dk_6 (dk_at dksX13_isHunter_0 2 rfl rfl)
theorem dX13_isHunter_3 : decode cX13_isHunter 3 = .ok (.invokestatic 74, 3) := dk_184 0 74 (dk_at dksX13_isHunter_0 3 rfl rfl)
theorem dX13_isHunter_6 : decode cX13_isHunter 6 = .ok (.ireturn, 1) := dk_172 (dk_at dksX13_isHunter_0 6 rfl rfl)
abbrev cX13_fear : ByteArray := prog_16_method_17_code
def yX13_fear : MethodName := ⟨RX13, "fear", "(I)I"⟩
def dkwX13_fear_1 : List UInt8 := [182, 0, 88, 172]
abbrev dktX13_fear_1 : List UInt8 := dkwX13_fear_1 ++ []
def dkwX13_fear_0 : List UInt8 := [27, 3, 16, 9, 184, 0, 74, 153, 0, 12, 42, 4, 27, 182, 0, 91, 167, 0, 9, 42, 18, 69]
abbrev dktX13_fear_0 : List UInt8 := dkwX13_fear_0 ++ dktX13_fear_1
theorem dksX13_fear_0 : cX13_fear.data.toList.drop 0 = dktX13_fear_0 := by decide +kernel
theorem dksX13_fear_1 : cX13_fear.data.toList.drop 22 = dktX13_fear_1 := dk_seg dksX13_fear_0 22 rfl rfl
theorem dX13_fear_0 : decode cX13_fear 0 = .ok (.iload_n 1, 1) := dk_27 (dk_at dksX13_fear_0 0 rfl rfl)
theorem dX13_fear_1 : decode cX13_fear 1 = .ok (.iconst 0, 1) := dk_3 (dk_at dksX13_fear_0 1 rfl rfl)
theorem dX13_fear_2 : decode cX13_fear 2 = .ok (.bipush 9, 2) := dk_16 9 (dk_at dksX13_fear_0 2 rfl rfl)
theorem dX13_fear_4 : decode cX13_fear 4 = .ok (.invokestatic 74, 3) := dk_184 0 74 (dk_at dksX13_fear_0 4 rfl rfl)
theorem dX13_fear_7 : decode cX13_fear 7 = .ok (.ifCond .eq 12, 3) := dk_153 0 12 (dk_at dksX13_fear_0 7 rfl rfl)
theorem dX13_fear_10 : decode cX13_fear 10 = .ok (.aload_n 0, 1) := dk_42 (dk_at dksX13_fear_0 10 rfl rfl)
theorem dX13_fear_11 : decode cX13_fear 11 = .ok (.iconst 1, 1) := dk_4 (dk_at dksX13_fear_0 11 rfl rfl)
theorem dX13_fear_12 : decode cX13_fear 12 = .ok (.iload_n 1, 1) := dk_27 (dk_at dksX13_fear_0 12 rfl rfl)
theorem dX13_fear_13 : decode cX13_fear 13 = .ok (.invokevirtual 91, 3) := dk_182 0 91 (dk_at dksX13_fear_0 13 rfl rfl)
theorem dX13_fear_16 : decode cX13_fear 16 = .ok (.goto 9, 3) := dk_167 0 9 (dk_at dksX13_fear_0 16 rfl rfl)
theorem dX13_fear_19 : decode cX13_fear 19 = .ok (.aload_n 0, 1) := dk_42 (dk_at dksX13_fear_0 19 rfl rfl)
theorem dX13_fear_20 : decode cX13_fear 20 = .ok (.ldc 69, 2) := dk_18 69 (dk_at dksX13_fear_0 20 rfl rfl)
theorem dX13_fear_22 : decode cX13_fear 22 = .ok (.invokevirtual 88, 3) := dk_182 0 88 (dk_at dksX13_fear_1 0 rfl rfl)
theorem dX13_fear_25 : decode cX13_fear 25 = .ok (.ireturn, 1) := dk_172 (dk_at dksX13_fear_1 3 rfl rfl)
abbrev cX13_bell : ByteArray := prog_16_method_24_code
def yX13_bell : MethodName := ⟨RX13, "bell", "(II)I"⟩
def dkwX13_bell_2 : List UInt8 := [16, 10, 182, 0, 108, 172]
abbrev dktX13_bell_2 : List UInt8 := dkwX13_bell_2 ++ []
def dkwX13_bell_1 : List UInt8 := [180, 0, 9, 5, 46, 16, 8, 160, 0, 12, 42, 18, 107, 182, 0, 88, 167, 0, 12, 42, 27, 28, 3]
abbrev dktX13_bell_1 : List UInt8 := dkwX13_bell_1 ++ dktX13_bell_2
def dkwX13_bell_0 : List UInt8 := [27, 184, 0, 104, 153, 0, 10, 28, 184, 0, 84, 154, 0, 10, 42, 18, 69, 182, 0, 88, 172, 42]
abbrev dktX13_bell_0 : List UInt8 := dkwX13_bell_0 ++ dktX13_bell_1
theorem dksX13_bell_0 : cX13_bell.data.toList.drop 0 = dktX13_bell_0 := by decide +kernel
theorem dksX13_bell_1 : cX13_bell.data.toList.drop 22 = dktX13_bell_1 := dk_seg dksX13_bell_0 22 rfl rfl
theorem dksX13_bell_2 : cX13_bell.data.toList.drop 45 = dktX13_bell_2 := dk_seg dksX13_bell_1 23 rfl rfl
theorem dX13_bell_0 : decode cX13_bell 0 = .ok (.iload_n 1, 1) := dk_27 (dk_at dksX13_bell_0 0 rfl rfl)
theorem dX13_bell_1 : decode cX13_bell 1 = .ok (.invokestatic 104, 3) := dk_184 0 104 (dk_at dksX13_bell_0 1 rfl rfl)
theorem dX13_bell_4 : decode cX13_bell 4 = .ok (.ifCond .eq 10, 3) := dk_153 0 10 (dk_at dksX13_bell_0 4 rfl rfl)
theorem dX13_bell_7 : decode cX13_bell 7 = .ok (.iload_n 2, 1) := dk_28 (dk_at dksX13_bell_0 7 rfl rfl)
theorem dX13_bell_8 : decode cX13_bell 8 = .ok (.invokestatic 84, 3) := dk_184 0 84 (dk_at dksX13_bell_0 8 rfl rfl)
theorem dX13_bell_11 : decode cX13_bell 11 = .ok (.ifCond .ne 10, 3) := dk_154 0 10 (dk_at dksX13_bell_0 11 rfl rfl)
theorem dX13_bell_14 : decode cX13_bell 14 = .ok (.aload_n 0, 1) := dk_42 (dk_at dksX13_bell_0 14 rfl rfl)
theorem dX13_bell_15 : decode cX13_bell 15 = .ok (.ldc 69, 2) := dk_18 69 (dk_at dksX13_bell_0 15 rfl rfl)
theorem dX13_bell_17 : decode cX13_bell 17 = .ok (.invokevirtual 88, 3) := dk_182 0 88 (dk_at dksX13_bell_0 17 rfl rfl)
theorem dX13_bell_20 : decode cX13_bell 20 = .ok (.ireturn, 1) := dk_172 (dk_at dksX13_bell_0 20 rfl rfl)
theorem dX13_bell_21 : decode cX13_bell 21 = .ok (.aload_n 0, 1) := dk_42 (dk_at dksX13_bell_0 21 rfl rfl)
theorem dX13_bell_22 : decode cX13_bell 22 = .ok (.getfield 9, 3) := dk_180 0 9 (dk_at dksX13_bell_1 0 rfl rfl)
theorem dX13_bell_25 : decode cX13_bell 25 = .ok (.iconst 2, 1) := dk_5 (dk_at dksX13_bell_1 3 rfl rfl)
theorem dX13_bell_26 : decode cX13_bell 26 = .ok (.iaload, 1) := dk_46 (dk_at dksX13_bell_1 4 rfl rfl)
theorem dX13_bell_27 : decode cX13_bell 27 = .ok (.bipush 8, 2) := dk_16 8 (dk_at dksX13_bell_1 5 rfl rfl)
theorem dX13_bell_29 : decode cX13_bell 29 = .ok (.if_icmp .ne 12, 3) := dk_160 0 12 (dk_at dksX13_bell_1 7 rfl rfl)
theorem dX13_bell_32 : decode cX13_bell 32 = .ok (.aload_n 0, 1) := dk_42 (dk_at dksX13_bell_1 10 rfl rfl)
theorem dX13_bell_33 : decode cX13_bell 33 = .ok (.ldc 107, 2) := dk_18 107 (dk_at dksX13_bell_1 11 rfl rfl)
theorem dX13_bell_35 : decode cX13_bell 35 = .ok (.invokevirtual 88, 3) := dk_182 0 88 (dk_at dksX13_bell_1 13 rfl rfl)
theorem dX13_bell_38 : decode cX13_bell 38 = .ok (.goto 12, 3) := dk_167 0 12 (dk_at dksX13_bell_1 16 rfl rfl)
theorem dX13_bell_41 : decode cX13_bell 41 = .ok (.aload_n 0, 1) := dk_42 (dk_at dksX13_bell_1 19 rfl rfl)
theorem dX13_bell_42 : decode cX13_bell 42 = .ok (.iload_n 1, 1) := dk_27 (dk_at dksX13_bell_1 20 rfl rfl)
theorem dX13_bell_43 : decode cX13_bell 43 = .ok (.iload_n 2, 1) := dk_28 (dk_at dksX13_bell_1 21 rfl rfl)
theorem dX13_bell_44 : decode cX13_bell 44 = .ok (.iconst 0, 1) := dk_3 (dk_at dksX13_bell_1 22 rfl rfl)
theorem dX13_bell_45 : decode cX13_bell 45 = .ok (.bipush 10, 2) := dk_16 10 (dk_at dksX13_bell_2 0 rfl rfl)
theorem dX13_bell_47 : decode cX13_bell 47 = .ok (.invokevirtual 108, 3) := dk_182 0 108 (dk_at dksX13_bell_2 2 rfl rfl)
theorem dX13_bell_50 : decode cX13_bell 50 = .ok (.ireturn, 1) := dk_172 (dk_at dksX13_bell_2 5 rfl rfl)
abbrev cX13_isKind : ByteArray := prog_16_method_19_code
def yX13_isKind : MethodName := ⟨RX13, "isKind", "(I)Z"⟩
def dkwX13_isKind_0 : List UInt8 := [26, 3, 16, 6, 184, 0, 74, 172]
abbrev dktX13_isKind_0 : List UInt8 := dkwX13_isKind_0 ++ []
theorem dksX13_isKind_0 : cX13_isKind.data.toList.drop 0 = dktX13_isKind_0 := by decide +kernel
theorem dX13_isKind_0 : decode cX13_isKind 0 = .ok (.iload_n 0, 1) := dk_26 (dk_at dksX13_isKind_0 0 rfl rfl)
theorem dX13_isKind_1 : decode cX13_isKind 1 = .ok (.iconst 0, 1) := dk_3 (dk_at dksX13_isKind_0 1 rfl rfl)
theorem dX13_isKind_2 : decode cX13_isKind 2 = .ok (.bipush 6, 2) := dk_16 6 (dk_at dksX13_isKind_0 2 rfl rfl)
theorem dX13_isKind_4 : decode cX13_isKind 4 = .ok (.invokestatic 74, 3) := dk_184 0 74 (dk_at dksX13_isKind_0 4 rfl rfl)
theorem dX13_isKind_7 : decode cX13_isKind 7 = .ok (.ireturn, 1) := dk_172 (dk_at dksX13_isKind_0 7 rfl rfl)
abbrev cX13_comes : ByteArray := prog_16_method_23_code
def yX13_comes : MethodName := ⟨RX13, "comes", "(IIII)I"⟩
def dkwX13_comes_3 : List UInt8 := [180, 0, 9, 5, 92, 46, 4, 96, 79, 21, 5, 172]
abbrev dktX13_comes_3 : List UInt8 := dkwX13_comes_3 ++ []
def dkwX13_comes_2 : List UInt8 := [21, 5, 6, 184, 0, 98, 21, 4, 79, 42, 180, 0, 9, 21, 5, 7, 184, 0, 98, 3, 79, 42]
abbrev dktX13_comes_2 : List UInt8 := dkwX13_comes_2 ++ dktX13_comes_3
def dkwX13_comes_1 : List UInt8 := [21, 5, 4, 184, 0, 98, 28, 79, 42, 180, 0, 9, 21, 5, 5, 184, 0, 98, 29, 79, 42, 180, 0, 9]
abbrev dktX13_comes_1 : List UInt8 := dkwX13_comes_1 ++ dktX13_comes_2
def dkwX13_comes_0 : List UInt8 := [42, 180, 0, 9, 5, 46, 54, 5, 42, 180, 0, 9, 21, 5, 3, 184, 0, 98, 27, 79, 42, 180, 0, 9]
abbrev dktX13_comes_0 : List UInt8 := dkwX13_comes_0 ++ dktX13_comes_1
theorem dksX13_comes_0 : cX13_comes.data.toList.drop 0 = dktX13_comes_0 := by decide +kernel
theorem dksX13_comes_1 : cX13_comes.data.toList.drop 24 = dktX13_comes_1 := dk_seg dksX13_comes_0 24 rfl rfl
theorem dksX13_comes_2 : cX13_comes.data.toList.drop 48 = dktX13_comes_2 := dk_seg dksX13_comes_1 24 rfl rfl
theorem dksX13_comes_3 : cX13_comes.data.toList.drop 70 = dktX13_comes_3 := dk_seg dksX13_comes_2 22 rfl rfl
theorem dX13_comes_0 : decode cX13_comes 0 = .ok (.aload_n 0, 1) := dk_42 (dk_at dksX13_comes_0 0 rfl rfl)
theorem dX13_comes_1 : decode cX13_comes 1 = .ok (.getfield 9, 3) := dk_180 0 9 (dk_at dksX13_comes_0 1 rfl rfl)
theorem dX13_comes_4 : decode cX13_comes 4 = .ok (.iconst 2, 1) := dk_5 (dk_at dksX13_comes_0 4 rfl rfl)
theorem dX13_comes_5 : decode cX13_comes 5 = .ok (.iaload, 1) := dk_46 (dk_at dksX13_comes_0 5 rfl rfl)
theorem dX13_comes_6 : decode cX13_comes 6 = .ok (.istore 5, 2) := dk_54 5 (dk_at dksX13_comes_0 6 rfl rfl)
theorem dX13_comes_8 : decode cX13_comes 8 = .ok (.aload_n 0, 1) := dk_42 (dk_at dksX13_comes_0 8 rfl rfl)
theorem dX13_comes_9 : decode cX13_comes 9 = .ok (.getfield 9, 3) := dk_180 0 9 (dk_at dksX13_comes_0 9 rfl rfl)
theorem dX13_comes_12 : decode cX13_comes 12 = .ok (.iload 5, 2) := dk_21 5 (dk_at dksX13_comes_0 12 rfl rfl)
theorem dX13_comes_14 : decode cX13_comes 14 = .ok (.iconst 0, 1) := dk_3 (dk_at dksX13_comes_0 14 rfl rfl)
theorem dX13_comes_15 : decode cX13_comes 15 = .ok (.invokestatic 98, 3) := dk_184 0 98 (dk_at dksX13_comes_0 15 rfl rfl)
theorem dX13_comes_18 : decode cX13_comes 18 = .ok (.iload_n 1, 1) := dk_27 (dk_at dksX13_comes_0 18 rfl rfl)
theorem dX13_comes_19 : decode cX13_comes 19 = .ok (.iastore, 1) := dk_79 (dk_at dksX13_comes_0 19 rfl rfl)
theorem dX13_comes_20 : decode cX13_comes 20 = .ok (.aload_n 0, 1) := dk_42 (dk_at dksX13_comes_0 20 rfl rfl)
theorem dX13_comes_21 : decode cX13_comes 21 = .ok (.getfield 9, 3) := dk_180 0 9 (dk_at dksX13_comes_0 21 rfl rfl)
theorem dX13_comes_24 : decode cX13_comes 24 = .ok (.iload 5, 2) := dk_21 5 (dk_at dksX13_comes_1 0 rfl rfl)
theorem dX13_comes_26 : decode cX13_comes 26 = .ok (.iconst 1, 1) := dk_4 (dk_at dksX13_comes_1 2 rfl rfl)
theorem dX13_comes_27 : decode cX13_comes 27 = .ok (.invokestatic 98, 3) := dk_184 0 98 (dk_at dksX13_comes_1 3 rfl rfl)
theorem dX13_comes_30 : decode cX13_comes 30 = .ok (.iload_n 2, 1) := dk_28 (dk_at dksX13_comes_1 6 rfl rfl)
theorem dX13_comes_31 : decode cX13_comes 31 = .ok (.iastore, 1) := dk_79 (dk_at dksX13_comes_1 7 rfl rfl)
theorem dX13_comes_32 : decode cX13_comes 32 = .ok (.aload_n 0, 1) := dk_42 (dk_at dksX13_comes_1 8 rfl rfl)
theorem dX13_comes_33 : decode cX13_comes 33 = .ok (.getfield 9, 3) := dk_180 0 9 (dk_at dksX13_comes_1 9 rfl rfl)
theorem dX13_comes_36 : decode cX13_comes 36 = .ok (.iload 5, 2) := dk_21 5 (dk_at dksX13_comes_1 12 rfl rfl)
theorem dX13_comes_38 : decode cX13_comes 38 = .ok (.iconst 2, 1) := dk_5 (dk_at dksX13_comes_1 14 rfl rfl)
theorem dX13_comes_39 : decode cX13_comes 39 = .ok (.invokestatic 98, 3) := dk_184 0 98 (dk_at dksX13_comes_1 15 rfl rfl)
theorem dX13_comes_42 : decode cX13_comes 42 = .ok (.iload_n 3, 1) := dk_29 (dk_at dksX13_comes_1 18 rfl rfl)
theorem dX13_comes_43 : decode cX13_comes 43 = .ok (.iastore, 1) := dk_79 (dk_at dksX13_comes_1 19 rfl rfl)
theorem dX13_comes_44 : decode cX13_comes 44 = .ok (.aload_n 0, 1) := dk_42 (dk_at dksX13_comes_1 20 rfl rfl)
theorem dX13_comes_45 : decode cX13_comes 45 = .ok (.getfield 9, 3) := dk_180 0 9 (dk_at dksX13_comes_1 21 rfl rfl)
theorem dX13_comes_48 : decode cX13_comes 48 = .ok (.iload 5, 2) := dk_21 5 (dk_at dksX13_comes_2 0 rfl rfl)
theorem dX13_comes_50 : decode cX13_comes 50 = .ok (.iconst 3, 1) := dk_6 (dk_at dksX13_comes_2 2 rfl rfl)
theorem dX13_comes_51 : decode cX13_comes 51 = .ok (.invokestatic 98, 3) := dk_184 0 98 (dk_at dksX13_comes_2 3 rfl rfl)
theorem dX13_comes_54 : decode cX13_comes 54 = .ok (.iload 4, 2) := dk_21 4 (dk_at dksX13_comes_2 6 rfl rfl)
theorem dX13_comes_56 : decode cX13_comes 56 = .ok (.iastore, 1) := dk_79 (dk_at dksX13_comes_2 8 rfl rfl)
theorem dX13_comes_57 : decode cX13_comes 57 = .ok (.aload_n 0, 1) := dk_42 (dk_at dksX13_comes_2 9 rfl rfl)
theorem dX13_comes_58 : decode cX13_comes 58 = .ok (.getfield 9, 3) := dk_180 0 9 (dk_at dksX13_comes_2 10 rfl rfl)
theorem dX13_comes_61 : decode cX13_comes 61 = .ok (.iload 5, 2) := dk_21 5 (dk_at dksX13_comes_2 13 rfl rfl)
theorem dX13_comes_63 : decode cX13_comes 63 = .ok (.iconst 4, 1) := dk_7 (dk_at dksX13_comes_2 15 rfl rfl)
theorem dX13_comes_64 : decode cX13_comes 64 = .ok (.invokestatic 98, 3) := dk_184 0 98 (dk_at dksX13_comes_2 16 rfl rfl)
theorem dX13_comes_67 : decode cX13_comes 67 = .ok (.iconst 0, 1) := dk_3 (dk_at dksX13_comes_2 19 rfl rfl)
theorem dX13_comes_68 : decode cX13_comes 68 = .ok (.iastore, 1) := dk_79 (dk_at dksX13_comes_2 20 rfl rfl)
theorem dX13_comes_69 : decode cX13_comes 69 = .ok (.aload_n 0, 1) := dk_42 (dk_at dksX13_comes_2 21 rfl rfl)
theorem dX13_comes_70 : decode cX13_comes 70 = .ok (.getfield 9, 3) := dk_180 0 9 (dk_at dksX13_comes_3 0 rfl rfl)
theorem dX13_comes_73 : decode cX13_comes 73 = .ok (.iconst 2, 1) := dk_5 (dk_at dksX13_comes_3 3 rfl rfl)
theorem dX13_comes_74 : decode cX13_comes 74 = .ok (.dup2, 1) := dk_92 (dk_at dksX13_comes_3 4 rfl rfl)
theorem dX13_comes_75 : decode cX13_comes 75 = .ok (.iaload, 1) := dk_46 (dk_at dksX13_comes_3 5 rfl rfl)
theorem dX13_comes_76 : decode cX13_comes 76 = .ok (.iconst 1, 1) := dk_4 (dk_at dksX13_comes_3 6 rfl rfl)
theorem dX13_comes_77 : decode cX13_comes 77 = .ok (.iadd, 1) := dk_96 (dk_at dksX13_comes_3 7 rfl rfl)
theorem dX13_comes_78 : decode cX13_comes 78 = .ok (.iastore, 1) := dk_79 (dk_at dksX13_comes_3 8 rfl rfl)
theorem dX13_comes_79 : decode cX13_comes 79 = .ok (.iload 5, 2) := dk_21 5 (dk_at dksX13_comes_3 9 rfl rfl)
theorem dX13_comes_81 : decode cX13_comes 81 = .ok (.ireturn, 1) := dk_172 (dk_at dksX13_comes_3 11 rfl rfl)
abbrev cX13_at : ByteArray := prog_16_method_20_code
def yX13_at : MethodName := ⟨RX13, "at", "(II)I"⟩
def dkwX13_at_0 : List UInt8 := [17, 0, 146, 8, 26, 104, 96, 27, 96, 172]
abbrev dktX13_at_0 : List UInt8 := dkwX13_at_0 ++ []
theorem dksX13_at_0 : cX13_at.data.toList.drop 0 = dktX13_at_0 := by decide +kernel
theorem dX13_at_0 : decode cX13_at 0 = .ok (.sipush 146, 3) := dk_17 0 146 (dk_at dksX13_at_0 0 rfl rfl)
theorem dX13_at_3 : decode cX13_at 3 = .ok (.iconst 5, 1) := dk_8 (dk_at dksX13_at_0 3 rfl rfl)
theorem dX13_at_4 : decode cX13_at 4 = .ok (.iload_n 0, 1) := dk_26 (dk_at dksX13_at_0 4 rfl rfl)
theorem dX13_at_5 : decode cX13_at 5 = .ok (.imul, 1) := dk_104 (dk_at dksX13_at_0 5 rfl rfl)
theorem dX13_at_6 : decode cX13_at 6 = .ok (.iadd, 1) := dk_96 (dk_at dksX13_at_0 6 rfl rfl)
theorem dX13_at_7 : decode cX13_at 7 = .ok (.iload_n 1, 1) := dk_27 (dk_at dksX13_at_0 7 rfl rfl)
theorem dX13_at_8 : decode cX13_at 8 = .ok (.iadd, 1) := dk_96 (dk_at dksX13_at_0 8 rfl rfl)
theorem dX13_at_9 : decode cX13_at 9 = .ok (.ireturn, 1) := dk_172 (dk_at dksX13_at_0 9 rfl rfl)
abbrev cX13_of : ByteArray := prog_16_method_30_code
def yX13_of : MethodName := ⟨RX13, "of", "(II)I"⟩
def dkwX13_of_2 : List UInt8 := [182, 0, 144, 167, 0, 14, 42, 27, 42, 27, 4, 182, 0, 101, 182, 0, 135, 172]
abbrev dktX13_of_2 : List UInt8 := dkwX13_of_2 ++ []
def dkwX13_of_1 : List UInt8 := [172, 28, 8, 162, 0, 12, 42, 27, 28, 182, 0, 101, 167, 0, 27, 28, 8, 160, 0, 11, 42, 27]
abbrev dktX13_of_1 : List UInt8 := dkwX13_of_1 ++ dktX13_of_2
def dkwX13_of_0 : List UInt8 := [42, 27, 182, 0, 141, 153, 0, 13, 28, 3, 16, 6, 184, 0, 74, 154, 0, 10, 42, 18, 69, 182, 0, 88]
abbrev dktX13_of_0 : List UInt8 := dkwX13_of_0 ++ dktX13_of_1
theorem dksX13_of_0 : cX13_of.data.toList.drop 0 = dktX13_of_0 := by decide +kernel
theorem dksX13_of_1 : cX13_of.data.toList.drop 24 = dktX13_of_1 := dk_seg dksX13_of_0 24 rfl rfl
theorem dksX13_of_2 : cX13_of.data.toList.drop 46 = dktX13_of_2 := dk_seg dksX13_of_1 22 rfl rfl
theorem dX13_of_0 : decode cX13_of 0 = .ok (.aload_n 0, 1) := dk_42 (dk_at dksX13_of_0 0 rfl rfl)
theorem dX13_of_1 : decode cX13_of 1 = .ok (.iload_n 1, 1) := dk_27 (dk_at dksX13_of_0 1 rfl rfl)
theorem dX13_of_2 : decode cX13_of 2 = .ok (.invokevirtual 141, 3) := dk_182 0 141 (dk_at dksX13_of_0 2 rfl rfl)
theorem dX13_of_5 : decode cX13_of 5 = .ok (.ifCond .eq 13, 3) := dk_153 0 13 (dk_at dksX13_of_0 5 rfl rfl)
theorem dX13_of_8 : decode cX13_of 8 = .ok (.iload_n 2, 1) := dk_28 (dk_at dksX13_of_0 8 rfl rfl)
theorem dX13_of_9 : decode cX13_of 9 = .ok (.iconst 0, 1) := dk_3 (dk_at dksX13_of_0 9 rfl rfl)
theorem dX13_of_10 : decode cX13_of 10 = .ok (.bipush 6, 2) := dk_16 6 (dk_at dksX13_of_0 10 rfl rfl)
theorem dX13_of_12 : decode cX13_of 12 = .ok (.invokestatic 74, 3) := dk_184 0 74 (dk_at dksX13_of_0 12 rfl rfl)
theorem dX13_of_15 : decode cX13_of 15 = .ok (.ifCond .ne 10, 3) := dk_154 0 10 (dk_at dksX13_of_0 15 rfl rfl)
theorem dX13_of_18 : decode cX13_of 18 = .ok (.aload_n 0, 1) := dk_42 (dk_at dksX13_of_0 18 rfl rfl)
theorem dX13_of_19 : decode cX13_of 19 = .ok (.ldc 69, 2) := dk_18 69 (dk_at dksX13_of_0 19 rfl rfl)
theorem dX13_of_21 : decode cX13_of 21 = .ok (.invokevirtual 88, 3) := dk_182 0 88 (dk_at dksX13_of_0 21 rfl rfl)
theorem dX13_of_24 : decode cX13_of 24 = .ok (.ireturn, 1) := dk_172 (dk_at dksX13_of_1 0 rfl rfl)
theorem dX13_of_25 : decode cX13_of 25 = .ok (.iload_n 2, 1) := dk_28 (dk_at dksX13_of_1 1 rfl rfl)
theorem dX13_of_26 : decode cX13_of 26 = .ok (.iconst 5, 1) := dk_8 (dk_at dksX13_of_1 2 rfl rfl)
theorem dX13_of_27 : decode cX13_of 27 = .ok (.if_icmp .ge 12, 3) := dk_162 0 12 (dk_at dksX13_of_1 3 rfl rfl)
theorem dX13_of_30 : decode cX13_of 30 = .ok (.aload_n 0, 1) := dk_42 (dk_at dksX13_of_1 6 rfl rfl)
theorem dX13_of_31 : decode cX13_of 31 = .ok (.iload_n 1, 1) := dk_27 (dk_at dksX13_of_1 7 rfl rfl)
theorem dX13_of_32 : decode cX13_of 32 = .ok (.iload_n 2, 1) := dk_28 (dk_at dksX13_of_1 8 rfl rfl)
theorem dX13_of_33 : decode cX13_of 33 = .ok (.invokevirtual 101, 3) := dk_182 0 101 (dk_at dksX13_of_1 9 rfl rfl)
theorem dX13_of_36 : decode cX13_of 36 = .ok (.goto 27, 3) := dk_167 0 27 (dk_at dksX13_of_1 12 rfl rfl)
theorem dX13_of_39 : decode cX13_of 39 = .ok (.iload_n 2, 1) := dk_28 (dk_at dksX13_of_1 15 rfl rfl)
theorem dX13_of_40 : decode cX13_of 40 = .ok (.iconst 5, 1) := dk_8 (dk_at dksX13_of_1 16 rfl rfl)
theorem dX13_of_41 : decode cX13_of 41 = .ok (.if_icmp .ne 11, 3) := dk_160 0 11 (dk_at dksX13_of_1 17 rfl rfl)
theorem dX13_of_44 : decode cX13_of 44 = .ok (.aload_n 0, 1) := dk_42 (dk_at dksX13_of_1 20 rfl rfl)
theorem dX13_of_45 : decode cX13_of 45 = .ok (.iload_n 1, 1) := dk_27 (dk_at dksX13_of_1 21 rfl rfl)
theorem dX13_of_46 : decode cX13_of 46 = .ok (.invokevirtual 144, 3) := dk_182 0 144 (dk_at dksX13_of_2 0 rfl rfl)
theorem dX13_of_49 : decode cX13_of 49 = .ok (.goto 14, 3) := dk_167 0 14 (dk_at dksX13_of_2 3 rfl rfl)
theorem dX13_of_52 : decode cX13_of 52 = .ok (.aload_n 0, 1) := dk_42 (dk_at dksX13_of_2 6 rfl rfl)
theorem dX13_of_53 : decode cX13_of 53 = .ok (.iload_n 1, 1) := dk_27 (dk_at dksX13_of_2 7 rfl rfl)
theorem dX13_of_54 : decode cX13_of 54 = .ok (.aload_n 0, 1) := dk_42 (dk_at dksX13_of_2 8 rfl rfl)
theorem dX13_of_55 : decode cX13_of 55 = .ok (.iload_n 1, 1) := dk_27 (dk_at dksX13_of_2 9 rfl rfl)
theorem dX13_of_56 : decode cX13_of 56 = .ok (.iconst 1, 1) := dk_4 (dk_at dksX13_of_2 10 rfl rfl)
theorem dX13_of_57 : decode cX13_of 57 = .ok (.invokevirtual 101, 3) := dk_182 0 101 (dk_at dksX13_of_2 11 rfl rfl)
theorem dX13_of_60 : decode cX13_of 60 = .ok (.invokevirtual 135, 3) := dk_182 0 135 (dk_at dksX13_of_2 14 rfl rfl)
theorem dX13_of_63 : decode cX13_of 63 = .ok (.ireturn, 1) := dk_172 (dk_at dksX13_of_2 17 rfl rfl)
abbrev cX13_isBell : ByteArray := prog_16_method_18_code
def yX13_isBell : MethodName := ⟨RX13, "isBell", "(I)Z"⟩
def dkwX13_isBell_0 : List UInt8 := [27, 3, 42, 180, 0, 9, 5, 46, 4, 100, 184, 0, 74, 172]
abbrev dktX13_isBell_0 : List UInt8 := dkwX13_isBell_0 ++ []
theorem dksX13_isBell_0 : cX13_isBell.data.toList.drop 0 = dktX13_isBell_0 := by decide +kernel
theorem dX13_isBell_0 : decode cX13_isBell 0 = .ok (.iload_n 1, 1) := dk_27 (dk_at dksX13_isBell_0 0 rfl rfl)
theorem dX13_isBell_1 : decode cX13_isBell 1 = .ok (.iconst 0, 1) := dk_3 (dk_at dksX13_isBell_0 1 rfl rfl)
theorem dX13_isBell_2 : decode cX13_isBell 2 = .ok (.aload_n 0, 1) := dk_42 (dk_at dksX13_isBell_0 2 rfl rfl)
theorem dX13_isBell_3 : decode cX13_isBell 3 = .ok (.getfield 9, 3) := dk_180 0 9 (dk_at dksX13_isBell_0 3 rfl rfl)
theorem dX13_isBell_6 : decode cX13_isBell 6 = .ok (.iconst 2, 1) := dk_5 (dk_at dksX13_isBell_0 6 rfl rfl)
theorem dX13_isBell_7 : decode cX13_isBell 7 = .ok (.iaload, 1) := dk_46 (dk_at dksX13_isBell_0 7 rfl rfl)
theorem dX13_isBell_8 : decode cX13_isBell 8 = .ok (.iconst 1, 1) := dk_4 (dk_at dksX13_isBell_0 8 rfl rfl)
theorem dX13_isBell_9 : decode cX13_isBell 9 = .ok (.isub, 1) := dk_100 (dk_at dksX13_isBell_0 9 rfl rfl)
theorem dX13_isBell_10 : decode cX13_isBell 10 = .ok (.invokestatic 74, 3) := dk_184 0 74 (dk_at dksX13_isBell_0 10 rfl rfl)
theorem dX13_isBell_13 : decode cX13_isBell 13 = .ok (.ireturn, 1) := dk_172 (dk_at dksX13_isBell_0 13 rfl rfl)
abbrev cX13_bellIs : ByteArray := prog_16_method_21_code
def yX13_bellIs : MethodName := ⟨RX13, "bellIs", "(II)I"⟩
def dkwX13_bellIs_0 : List UInt8 := [42, 180, 0, 9, 27, 28, 184, 0, 98, 46, 172]
abbrev dktX13_bellIs_0 : List UInt8 := dkwX13_bellIs_0 ++ []
theorem dksX13_bellIs_0 : cX13_bellIs.data.toList.drop 0 = dktX13_bellIs_0 := by decide +kernel
theorem dX13_bellIs_0 : decode cX13_bellIs 0 = .ok (.aload_n 0, 1) := dk_42 (dk_at dksX13_bellIs_0 0 rfl rfl)
theorem dX13_bellIs_1 : decode cX13_bellIs 1 = .ok (.getfield 9, 3) := dk_180 0 9 (dk_at dksX13_bellIs_0 1 rfl rfl)
theorem dX13_bellIs_4 : decode cX13_bellIs 4 = .ok (.iload_n 1, 1) := dk_27 (dk_at dksX13_bellIs_0 4 rfl rfl)
theorem dX13_bellIs_5 : decode cX13_bellIs 5 = .ok (.iload_n 2, 1) := dk_28 (dk_at dksX13_bellIs_0 5 rfl rfl)
theorem dX13_bellIs_6 : decode cX13_bellIs 6 = .ok (.invokestatic 98, 3) := dk_184 0 98 (dk_at dksX13_bellIs_0 6 rfl rfl)
theorem dX13_bellIs_9 : decode cX13_bellIs 9 = .ok (.iaload, 1) := dk_46 (dk_at dksX13_bellIs_0 9 rfl rfl)
theorem dX13_bellIs_10 : decode cX13_bellIs 10 = .ok (.ireturn, 1) := dk_172 (dk_at dksX13_bellIs_0 10 rfl rfl)
abbrev cX13_nextOf : ByteArray := prog_16_method_29_code
def yX13_nextOf : MethodName := ⟨RX13, "nextOf", "(I)I"⟩
def dkwX13_nextOf_3 : List UInt8 := [184, 0, 132, 62, 132, 4, 1, 167, 255, 195, 28, 172]
abbrev dktX13_nextOf_3 : List UInt8 := dkwX13_nextOf_3 ++ []
def dkwX13_nextOf_2 : List UInt8 := [21, 5, 182, 0, 135, 54, 6, 21, 6, 29, 164, 0, 8, 21, 5, 167, 0, 4, 28, 61, 29, 21, 6]
abbrev dktX13_nextOf_2 : List UInt8 := dkwX13_nextOf_2 ++ dktX13_nextOf_3
def dkwX13_nextOf_1 : List UInt8 := [42, 27, 4, 182, 0, 101, 21, 4, 182, 0, 138, 54, 5, 21, 5, 156, 0, 7, 29, 167, 0, 10, 42, 27]
abbrev dktX13_nextOf_1 : List UInt8 := dkwX13_nextOf_1 ++ dktX13_nextOf_2
def dkwX13_nextOf_0 : List UInt8 := [42, 27, 4, 182, 0, 101, 61, 42, 27, 28, 182, 0, 135, 62, 3, 54, 4, 21, 4, 7, 162, 0, 61, 42]
abbrev dktX13_nextOf_0 : List UInt8 := dkwX13_nextOf_0 ++ dktX13_nextOf_1
theorem dksX13_nextOf_0 : cX13_nextOf.data.toList.drop 0 = dktX13_nextOf_0 := by decide +kernel
theorem dksX13_nextOf_1 : cX13_nextOf.data.toList.drop 24 = dktX13_nextOf_1 := dk_seg dksX13_nextOf_0 24 rfl rfl
theorem dksX13_nextOf_2 : cX13_nextOf.data.toList.drop 48 = dktX13_nextOf_2 := dk_seg dksX13_nextOf_1 24 rfl rfl
theorem dksX13_nextOf_3 : cX13_nextOf.data.toList.drop 71 = dktX13_nextOf_3 := dk_seg dksX13_nextOf_2 23 rfl rfl
theorem dX13_nextOf_0 : decode cX13_nextOf 0 = .ok (.aload_n 0, 1) := dk_42 (dk_at dksX13_nextOf_0 0 rfl rfl)
theorem dX13_nextOf_1 : decode cX13_nextOf 1 = .ok (.iload_n 1, 1) := dk_27 (dk_at dksX13_nextOf_0 1 rfl rfl)
theorem dX13_nextOf_2 : decode cX13_nextOf 2 = .ok (.iconst 1, 1) := dk_4 (dk_at dksX13_nextOf_0 2 rfl rfl)
theorem dX13_nextOf_3 : decode cX13_nextOf 3 = .ok (.invokevirtual 101, 3) := dk_182 0 101 (dk_at dksX13_nextOf_0 3 rfl rfl)
theorem dX13_nextOf_6 : decode cX13_nextOf 6 = .ok (.istore_n 2, 1) := dk_61 (dk_at dksX13_nextOf_0 6 rfl rfl)
theorem dX13_nextOf_7 : decode cX13_nextOf 7 = .ok (.aload_n 0, 1) := dk_42 (dk_at dksX13_nextOf_0 7 rfl rfl)
theorem dX13_nextOf_8 : decode cX13_nextOf 8 = .ok (.iload_n 1, 1) := dk_27 (dk_at dksX13_nextOf_0 8 rfl rfl)
theorem dX13_nextOf_9 : decode cX13_nextOf 9 = .ok (.iload_n 2, 1) := dk_28 (dk_at dksX13_nextOf_0 9 rfl rfl)
theorem dX13_nextOf_10 : decode cX13_nextOf 10 = .ok (.invokevirtual 135, 3) := dk_182 0 135 (dk_at dksX13_nextOf_0 10 rfl rfl)
theorem dX13_nextOf_13 : decode cX13_nextOf 13 = .ok (.istore_n 3, 1) := dk_62 (dk_at dksX13_nextOf_0 13 rfl rfl)
theorem dX13_nextOf_14 : decode cX13_nextOf 14 = .ok (.iconst 0, 1) := dk_3 (dk_at dksX13_nextOf_0 14 rfl rfl)
theorem dX13_nextOf_15 : decode cX13_nextOf 15 = .ok (.istore 4, 2) := dk_54 4 (dk_at dksX13_nextOf_0 15 rfl rfl)
theorem dX13_nextOf_17 : decode cX13_nextOf 17 = .ok (.iload 4, 2) := dk_21 4 (dk_at dksX13_nextOf_0 17 rfl rfl)
theorem dX13_nextOf_19 : decode cX13_nextOf 19 = .ok (.iconst 4, 1) := dk_7 (dk_at dksX13_nextOf_0 19 rfl rfl)
theorem dX13_nextOf_20 : decode cX13_nextOf 20 = .ok (.if_icmp .ge 61, 3) := dk_162 0 61 (dk_at dksX13_nextOf_0 20 rfl rfl)
theorem dX13_nextOf_23 : decode cX13_nextOf 23 = .ok (.aload_n 0, 1) := dk_42 (dk_at dksX13_nextOf_0 23 rfl rfl)
theorem dX13_nextOf_24 : decode cX13_nextOf 24 = .ok (.aload_n 0, 1) := dk_42 (dk_at dksX13_nextOf_1 0 rfl rfl)
theorem dX13_nextOf_25 : decode cX13_nextOf 25 = .ok (.iload_n 1, 1) := dk_27 (dk_at dksX13_nextOf_1 1 rfl rfl)
theorem dX13_nextOf_26 : decode cX13_nextOf 26 = .ok (.iconst 1, 1) := dk_4 (dk_at dksX13_nextOf_1 2 rfl rfl)
theorem dX13_nextOf_27 : decode cX13_nextOf 27 = .ok (.invokevirtual 101, 3) := dk_182 0 101 (dk_at dksX13_nextOf_1 3 rfl rfl)
theorem dX13_nextOf_30 : decode cX13_nextOf 30 = .ok (.iload 4, 2) := dk_21 4 (dk_at dksX13_nextOf_1 6 rfl rfl)
theorem dX13_nextOf_32 : decode cX13_nextOf 32 = .ok (.invokevirtual 138, 3) := dk_182 0 138 (dk_at dksX13_nextOf_1 8 rfl rfl)
theorem dX13_nextOf_35 : decode cX13_nextOf 35 = .ok (.istore 5, 2) := dk_54 5 (dk_at dksX13_nextOf_1 11 rfl rfl)
theorem dX13_nextOf_37 : decode cX13_nextOf 37 = .ok (.iload 5, 2) := dk_21 5 (dk_at dksX13_nextOf_1 13 rfl rfl)
theorem dX13_nextOf_39 : decode cX13_nextOf 39 = .ok (.ifCond .ge 7, 3) := dk_156 0 7 (dk_at dksX13_nextOf_1 15 rfl rfl)
theorem dX13_nextOf_42 : decode cX13_nextOf 42 = .ok (.iload_n 3, 1) := dk_29 (dk_at dksX13_nextOf_1 18 rfl rfl)
theorem dX13_nextOf_43 : decode cX13_nextOf 43 = .ok (.goto 10, 3) := dk_167 0 10 (dk_at dksX13_nextOf_1 19 rfl rfl)
theorem dX13_nextOf_46 : decode cX13_nextOf 46 = .ok (.aload_n 0, 1) := dk_42 (dk_at dksX13_nextOf_1 22 rfl rfl)
theorem dX13_nextOf_47 : decode cX13_nextOf 47 = .ok (.iload_n 1, 1) := dk_27 (dk_at dksX13_nextOf_1 23 rfl rfl)
theorem dX13_nextOf_48 : decode cX13_nextOf 48 = .ok (.iload 5, 2) := dk_21 5 (dk_at dksX13_nextOf_2 0 rfl rfl)
theorem dX13_nextOf_50 : decode cX13_nextOf 50 = .ok (.invokevirtual 135, 3) := dk_182 0 135 (dk_at dksX13_nextOf_2 2 rfl rfl)
theorem dX13_nextOf_53 : decode cX13_nextOf 53 = .ok (.istore 6, 2) := dk_54 6 (dk_at dksX13_nextOf_2 5 rfl rfl)
theorem dX13_nextOf_55 : decode cX13_nextOf 55 = .ok (.iload 6, 2) := dk_21 6 (dk_at dksX13_nextOf_2 7 rfl rfl)
theorem dX13_nextOf_57 : decode cX13_nextOf 57 = .ok (.iload_n 3, 1) := dk_29 (dk_at dksX13_nextOf_2 9 rfl rfl)
theorem dX13_nextOf_58 : decode cX13_nextOf 58 = .ok (.if_icmp .le 8, 3) := dk_164 0 8 (dk_at dksX13_nextOf_2 10 rfl rfl)
theorem dX13_nextOf_61 : decode cX13_nextOf 61 = .ok (.iload 5, 2) := dk_21 5 (dk_at dksX13_nextOf_2 13 rfl rfl)
theorem dX13_nextOf_63 : decode cX13_nextOf 63 = .ok (.goto 4, 3) := dk_167 0 4 (dk_at dksX13_nextOf_2 15 rfl rfl)
theorem dX13_nextOf_66 : decode cX13_nextOf 66 = .ok (.iload_n 2, 1) := dk_28 (dk_at dksX13_nextOf_2 18 rfl rfl)
theorem dX13_nextOf_67 : decode cX13_nextOf 67 = .ok (.istore_n 2, 1) := dk_61 (dk_at dksX13_nextOf_2 19 rfl rfl)
theorem dX13_nextOf_68 : decode cX13_nextOf 68 = .ok (.iload_n 3, 1) := dk_29 (dk_at dksX13_nextOf_2 20 rfl rfl)
theorem dX13_nextOf_69 : decode cX13_nextOf 69 = .ok (.iload 6, 2) := dk_21 6 (dk_at dksX13_nextOf_2 21 rfl rfl)
theorem dX13_nextOf_71 : decode cX13_nextOf 71 = .ok (.invokestatic 132, 3) := dk_184 0 132 (dk_at dksX13_nextOf_3 0 rfl rfl)
theorem dX13_nextOf_74 : decode cX13_nextOf 74 = .ok (.istore_n 3, 1) := dk_62 (dk_at dksX13_nextOf_3 3 rfl rfl)
theorem dX13_nextOf_75 : decode cX13_nextOf 75 = .ok (.iinc 4 1, 3) := dk_132 4 1 (dk_at dksX13_nextOf_3 4 rfl rfl)
theorem dX13_nextOf_78 : decode cX13_nextOf 78 = .ok (.goto (-61), 3) := dk_167 255 195 (dk_at dksX13_nextOf_3 7 rfl rfl)
theorem dX13_nextOf_81 : decode cX13_nextOf 81 = .ok (.iload_n 2, 1) := dk_28 (dk_at dksX13_nextOf_3 10 rfl rfl)
theorem dX13_nextOf_82 : decode cX13_nextOf 82 = .ok (.ireturn, 1) := dk_172 (dk_at dksX13_nextOf_3 11 rfl rfl)
abbrev cX13_worthOf : ByteArray := prog_16_method_28_code
def yX13_worthOf : MethodName := ⟨RX13, "worthOf", "(II)I"⟩
def dkwX13_worthOf_9 : List UInt8 := [167, 0, 18, 21, 6, 6, 160, 0, 8, 21, 8, 167, 0, 7, 5, 21, 8, 104, 172]
abbrev dktX13_worthOf_9 : List UInt8 := dkwX13_worthOf_9 ++ []
def dkwX13_worthOf_8 : List UInt8 := [54, 7, 21, 7, 16, 7, 96, 28, 16, 8, 108, 100, 54, 8, 21, 6, 5, 160, 0, 8, 21, 7]
abbrev dktX13_worthOf_8 : List UInt8 := dkwX13_worthOf_8 ++ dktX13_worthOf_9
def dkwX13_worthOf_7 : List UInt8 := [5, 21, 4, 104, 167, 0, 4, 3, 96, 172, 21, 5, 3, 42, 27, 28, 3, 182, 0, 128, 184, 0, 132, 96]
abbrev dktX13_worthOf_7 : List UInt8 := dkwX13_worthOf_7 ++ dktX13_worthOf_8
def dkwX13_worthOf_6 : List UInt8 := [156, 0, 7, 3, 167, 0, 12, 3, 16, 20, 21, 7, 100, 184, 0, 132, 96, 21, 6, 16, 6, 160, 0, 10]
abbrev dktX13_worthOf_6 : List UInt8 := dkwX13_worthOf_6 ++ dktX13_worthOf_7
def dkwX13_worthOf_5 : List UInt8 := [172, 21, 6, 4, 184, 0, 118, 153, 0, 50, 42, 27, 28, 4, 182, 0, 128, 54, 7, 21, 5, 21, 7]
abbrev dktX13_worthOf_5 : List UInt8 := dkwX13_worthOf_5 ++ dktX13_worthOf_6
def dkwX13_worthOf_4 : List UInt8 := [8, 160, 0, 24, 21, 6, 154, 0, 8, 21, 5, 167, 0, 13, 21, 5, 5, 28, 3, 184, 0, 122, 104, 100]
abbrev dktX13_worthOf_4 : List UInt8 := dkwX13_worthOf_4 ++ dktX13_worthOf_5
def dkwX13_worthOf_3 : List UInt8 := [104, 16, 9, 96, 21, 4, 100, 54, 5, 42, 27, 3, 182, 0, 101, 54, 6, 21, 6, 153, 0, 9, 21, 6]
abbrev dktX13_worthOf_3 : List UInt8 := dkwX13_worthOf_3 ++ dktX13_worthOf_4
def dkwX13_worthOf_2 : List UInt8 := [184, 0, 125, 62, 132, 4, 1, 167, 255, 211, 42, 180, 0, 9, 16, 82, 28, 96, 46, 54, 4, 16, 10, 29]
abbrev dktX13_worthOf_2 : List UInt8 := dkwX13_worthOf_2 ++ dktX13_worthOf_3
def dkwX13_worthOf_1 : List UInt8 := [96, 46, 156, 0, 7, 29, 167, 0, 21, 29, 28, 42, 180, 0, 9, 16, 14, 21, 4, 96, 46, 184, 0, 122]
abbrev dktX13_worthOf_1 : List UInt8 := dkwX13_worthOf_1 ++ dktX13_worthOf_2
def dkwX13_worthOf_0 : List UInt8 := [42, 180, 0, 9, 4, 46, 62, 3, 54, 4, 21, 4, 7, 162, 0, 45, 42, 180, 0, 9, 16, 14, 21, 4]
abbrev dktX13_worthOf_0 : List UInt8 := dkwX13_worthOf_0 ++ dktX13_worthOf_1
theorem dksX13_worthOf_0 : cX13_worthOf.data.toList.drop 0 = dktX13_worthOf_0 := by decide +kernel
theorem dksX13_worthOf_1 : cX13_worthOf.data.toList.drop 24 = dktX13_worthOf_1 := dk_seg dksX13_worthOf_0 24 rfl rfl
theorem dksX13_worthOf_2 : cX13_worthOf.data.toList.drop 48 = dktX13_worthOf_2 := dk_seg dksX13_worthOf_1 24 rfl rfl
theorem dksX13_worthOf_3 : cX13_worthOf.data.toList.drop 72 = dktX13_worthOf_3 := dk_seg dksX13_worthOf_2 24 rfl rfl
theorem dksX13_worthOf_4 : cX13_worthOf.data.toList.drop 96 = dktX13_worthOf_4 := dk_seg dksX13_worthOf_3 24 rfl rfl
theorem dksX13_worthOf_5 : cX13_worthOf.data.toList.drop 120 = dktX13_worthOf_5 := dk_seg dksX13_worthOf_4 24 rfl rfl
theorem dksX13_worthOf_6 : cX13_worthOf.data.toList.drop 143 = dktX13_worthOf_6 := dk_seg dksX13_worthOf_5 23 rfl rfl
theorem dksX13_worthOf_7 : cX13_worthOf.data.toList.drop 167 = dktX13_worthOf_7 := dk_seg dksX13_worthOf_6 24 rfl rfl
theorem dksX13_worthOf_8 : cX13_worthOf.data.toList.drop 191 = dktX13_worthOf_8 := dk_seg dksX13_worthOf_7 24 rfl rfl
theorem dksX13_worthOf_9 : cX13_worthOf.data.toList.drop 213 = dktX13_worthOf_9 := dk_seg dksX13_worthOf_8 22 rfl rfl
theorem dX13_worthOf_0 : decode cX13_worthOf 0 = .ok (.aload_n 0, 1) := dk_42 (dk_at dksX13_worthOf_0 0 rfl rfl)
theorem dX13_worthOf_1 : decode cX13_worthOf 1 = .ok (.getfield 9, 3) := dk_180 0 9 (dk_at dksX13_worthOf_0 1 rfl rfl)
theorem dX13_worthOf_4 : decode cX13_worthOf 4 = .ok (.iconst 1, 1) := dk_4 (dk_at dksX13_worthOf_0 4 rfl rfl)
theorem dX13_worthOf_5 : decode cX13_worthOf 5 = .ok (.iaload, 1) := dk_46 (dk_at dksX13_worthOf_0 5 rfl rfl)
theorem dX13_worthOf_6 : decode cX13_worthOf 6 = .ok (.istore_n 3, 1) := dk_62 (dk_at dksX13_worthOf_0 6 rfl rfl)
theorem dX13_worthOf_7 : decode cX13_worthOf 7 = .ok (.iconst 0, 1) := dk_3 (dk_at dksX13_worthOf_0 7 rfl rfl)
theorem dX13_worthOf_8 : decode cX13_worthOf 8 = .ok (.istore 4, 2) := dk_54 4 (dk_at dksX13_worthOf_0 8 rfl rfl)
theorem dX13_worthOf_10 : decode cX13_worthOf 10 = .ok (.iload 4, 2) := dk_21 4 (dk_at dksX13_worthOf_0 10 rfl rfl)
theorem dX13_worthOf_12 : decode cX13_worthOf 12 = .ok (.iconst 4, 1) := dk_7 (dk_at dksX13_worthOf_0 12 rfl rfl)
theorem dX13_worthOf_13 : decode cX13_worthOf 13 = .ok (.if_icmp .ge 45, 3) := dk_162 0 45 (dk_at dksX13_worthOf_0 13 rfl rfl)
theorem dX13_worthOf_16 : decode cX13_worthOf 16 = .ok (.aload_n 0, 1) := dk_42 (dk_at dksX13_worthOf_0 16 rfl rfl)
theorem dX13_worthOf_17 : decode cX13_worthOf 17 = .ok (.getfield 9, 3) := dk_180 0 9 (dk_at dksX13_worthOf_0 17 rfl rfl)
theorem dX13_worthOf_20 : decode cX13_worthOf 20 = .ok (.bipush 14, 2) := dk_16 14 (dk_at dksX13_worthOf_0 20 rfl rfl)
theorem dX13_worthOf_22 : decode cX13_worthOf 22 = .ok (.iload 4, 2) := dk_21 4 (dk_at dksX13_worthOf_0 22 rfl rfl)
theorem dX13_worthOf_24 : decode cX13_worthOf 24 = .ok (.iadd, 1) := dk_96 (dk_at dksX13_worthOf_1 0 rfl rfl)
theorem dX13_worthOf_25 : decode cX13_worthOf 25 = .ok (.iaload, 1) := dk_46 (dk_at dksX13_worthOf_1 1 rfl rfl)
theorem dX13_worthOf_26 : decode cX13_worthOf 26 = .ok (.ifCond .ge 7, 3) := dk_156 0 7 (dk_at dksX13_worthOf_1 2 rfl rfl)
theorem dX13_worthOf_29 : decode cX13_worthOf 29 = .ok (.iload_n 3, 1) := dk_29 (dk_at dksX13_worthOf_1 5 rfl rfl)
theorem dX13_worthOf_30 : decode cX13_worthOf 30 = .ok (.goto 21, 3) := dk_167 0 21 (dk_at dksX13_worthOf_1 6 rfl rfl)
theorem dX13_worthOf_33 : decode cX13_worthOf 33 = .ok (.iload_n 3, 1) := dk_29 (dk_at dksX13_worthOf_1 9 rfl rfl)
theorem dX13_worthOf_34 : decode cX13_worthOf 34 = .ok (.iload_n 2, 1) := dk_28 (dk_at dksX13_worthOf_1 10 rfl rfl)
theorem dX13_worthOf_35 : decode cX13_worthOf 35 = .ok (.aload_n 0, 1) := dk_42 (dk_at dksX13_worthOf_1 11 rfl rfl)
theorem dX13_worthOf_36 : decode cX13_worthOf 36 = .ok (.getfield 9, 3) := dk_180 0 9 (dk_at dksX13_worthOf_1 12 rfl rfl)
theorem dX13_worthOf_39 : decode cX13_worthOf 39 = .ok (.bipush 14, 2) := dk_16 14 (dk_at dksX13_worthOf_1 15 rfl rfl)
theorem dX13_worthOf_41 : decode cX13_worthOf 41 = .ok (.iload 4, 2) := dk_21 4 (dk_at dksX13_worthOf_1 17 rfl rfl)
theorem dX13_worthOf_43 : decode cX13_worthOf 43 = .ok (.iadd, 1) := dk_96 (dk_at dksX13_worthOf_1 19 rfl rfl)
theorem dX13_worthOf_44 : decode cX13_worthOf 44 = .ok (.iaload, 1) := dk_46 (dk_at dksX13_worthOf_1 20 rfl rfl)
theorem dX13_worthOf_45 : decode cX13_worthOf 45 = .ok (.invokestatic 122, 3) := dk_184 0 122 (dk_at dksX13_worthOf_1 21 rfl rfl)
theorem dX13_worthOf_48 : decode cX13_worthOf 48 = .ok (.invokestatic 125, 3) := dk_184 0 125 (dk_at dksX13_worthOf_2 0 rfl rfl)
theorem dX13_worthOf_51 : decode cX13_worthOf 51 = .ok (.istore_n 3, 1) := dk_62 (dk_at dksX13_worthOf_2 3 rfl rfl)
theorem dX13_worthOf_52 : decode cX13_worthOf 52 = .ok (.iinc 4 1, 3) := dk_132 4 1 (dk_at dksX13_worthOf_2 4 rfl rfl)
theorem dX13_worthOf_55 : decode cX13_worthOf 55 = .ok (.goto (-45), 3) := dk_167 255 211 (dk_at dksX13_worthOf_2 7 rfl rfl)
theorem dX13_worthOf_58 : decode cX13_worthOf 58 = .ok (.aload_n 0, 1) := dk_42 (dk_at dksX13_worthOf_2 10 rfl rfl)
theorem dX13_worthOf_59 : decode cX13_worthOf 59 = .ok (.getfield 9, 3) := dk_180 0 9 (dk_at dksX13_worthOf_2 11 rfl rfl)
theorem dX13_worthOf_62 : decode cX13_worthOf 62 = .ok (.bipush 82, 2) := dk_16 82 (dk_at dksX13_worthOf_2 14 rfl rfl)
theorem dX13_worthOf_64 : decode cX13_worthOf 64 = .ok (.iload_n 2, 1) := dk_28 (dk_at dksX13_worthOf_2 16 rfl rfl)
theorem dX13_worthOf_65 : decode cX13_worthOf 65 = .ok (.iadd, 1) := dk_96 (dk_at dksX13_worthOf_2 17 rfl rfl)
theorem dX13_worthOf_66 : decode cX13_worthOf 66 = .ok (.iaload, 1) := dk_46 (dk_at dksX13_worthOf_2 18 rfl rfl)
theorem dX13_worthOf_67 : decode cX13_worthOf 67 = .ok (.istore 4, 2) := dk_54 4 (dk_at dksX13_worthOf_2 19 rfl rfl)
theorem dX13_worthOf_69 : decode cX13_worthOf 69 = .ok (.bipush 10, 2) := dk_16 10 (dk_at dksX13_worthOf_2 21 rfl rfl)
theorem dX13_worthOf_71 : decode cX13_worthOf 71 = .ok (.iload_n 3, 1) := dk_29 (dk_at dksX13_worthOf_2 23 rfl rfl)
theorem dX13_worthOf_72 : decode cX13_worthOf 72 = .ok (.imul, 1) := dk_104 (dk_at dksX13_worthOf_3 0 rfl rfl)
theorem dX13_worthOf_73 : decode cX13_worthOf 73 = .ok (.bipush 9, 2) := dk_16 9 (dk_at dksX13_worthOf_3 1 rfl rfl)
theorem dX13_worthOf_75 : decode cX13_worthOf 75 = .ok (.iadd, 1) := dk_96 (dk_at dksX13_worthOf_3 3 rfl rfl)
theorem dX13_worthOf_76 : decode cX13_worthOf 76 = .ok (.iload 4, 2) := dk_21 4 (dk_at dksX13_worthOf_3 4 rfl rfl)
theorem dX13_worthOf_78 : decode cX13_worthOf 78 = .ok (.isub, 1) := dk_100 (dk_at dksX13_worthOf_3 6 rfl rfl)
theorem dX13_worthOf_79 : decode cX13_worthOf 79 = .ok (.istore 5, 2) := dk_54 5 (dk_at dksX13_worthOf_3 7 rfl rfl)
theorem dX13_worthOf_81 : decode cX13_worthOf 81 = .ok (.aload_n 0, 1) := dk_42 (dk_at dksX13_worthOf_3 9 rfl rfl)
theorem dX13_worthOf_82 : decode cX13_worthOf 82 = .ok (.iload_n 1, 1) := dk_27 (dk_at dksX13_worthOf_3 10 rfl rfl)
theorem dX13_worthOf_83 : decode cX13_worthOf 83 = .ok (.iconst 0, 1) := dk_3 (dk_at dksX13_worthOf_3 11 rfl rfl)
theorem dX13_worthOf_84 : decode cX13_worthOf 84 = .ok (.invokevirtual 101, 3) := dk_182 0 101 (dk_at dksX13_worthOf_3 12 rfl rfl)
theorem dX13_worthOf_87 : decode cX13_worthOf 87 = .ok (.istore 6, 2) := dk_54 6 (dk_at dksX13_worthOf_3 15 rfl rfl)
theorem dX13_worthOf_89 : decode cX13_worthOf 89 = .ok (.iload 6, 2) := dk_21 6 (dk_at dksX13_worthOf_3 17 rfl rfl)
theorem dX13_worthOf_91 : decode cX13_worthOf 91 = .ok (.ifCond .eq 9, 3) := dk_153 0 9 (dk_at dksX13_worthOf_3 19 rfl rfl)
theorem dX13_worthOf_94 : decode cX13_worthOf 94 = .ok (.iload 6, 2) := dk_21 6 (dk_at dksX13_worthOf_3 22 rfl rfl)
theorem dX13_worthOf_96 : decode cX13_worthOf 96 = .ok (.iconst 5, 1) := dk_8 (dk_at dksX13_worthOf_4 0 rfl rfl)
theorem dX13_worthOf_97 : decode cX13_worthOf 97 = .ok (.if_icmp .ne 24, 3) := dk_160 0 24 (dk_at dksX13_worthOf_4 1 rfl rfl)
theorem dX13_worthOf_100 : decode cX13_worthOf 100 = .ok (.iload 6, 2) := dk_21 6 (dk_at dksX13_worthOf_4 4 rfl rfl)
theorem dX13_worthOf_102 : decode cX13_worthOf 102 = .ok (.ifCond .ne 8, 3) := dk_154 0 8 (dk_at dksX13_worthOf_4 6 rfl rfl)
theorem dX13_worthOf_105 : decode cX13_worthOf 105 = .ok (.iload 5, 2) := dk_21 5 (dk_at dksX13_worthOf_4 9 rfl rfl)
theorem dX13_worthOf_107 : decode cX13_worthOf 107 = .ok (.goto 13, 3) := dk_167 0 13 (dk_at dksX13_worthOf_4 11 rfl rfl)
theorem dX13_worthOf_110 : decode cX13_worthOf 110 = .ok (.iload 5, 2) := dk_21 5 (dk_at dksX13_worthOf_4 14 rfl rfl)
theorem dX13_worthOf_112 : decode cX13_worthOf 112 = .ok (.iconst 2, 1) := dk_5 (dk_at dksX13_worthOf_4 16 rfl rfl)
theorem dX13_worthOf_113 : decode cX13_worthOf 113 = .ok (.iload_n 2, 1) := dk_28 (dk_at dksX13_worthOf_4 17 rfl rfl)
theorem dX13_worthOf_114 : decode cX13_worthOf 114 = .ok (.iconst 0, 1) := dk_3 (dk_at dksX13_worthOf_4 18 rfl rfl)
theorem dX13_worthOf_115 : decode cX13_worthOf 115 = .ok (.invokestatic 122, 3) := dk_184 0 122 (dk_at dksX13_worthOf_4 19 rfl rfl)
theorem dX13_worthOf_118 : decode cX13_worthOf 118 = .ok (.imul, 1) := dk_104 (dk_at dksX13_worthOf_4 22 rfl rfl)
theorem dX13_worthOf_119 : decode cX13_worthOf 119 = .ok (.isub, 1) := dk_100 (dk_at dksX13_worthOf_4 23 rfl rfl)
theorem dX13_worthOf_120 : decode cX13_worthOf 120 = .ok (.ireturn, 1) := dk_172 (dk_at dksX13_worthOf_5 0 rfl rfl)
theorem dX13_worthOf_121 : decode cX13_worthOf 121 = .ok (.iload 6, 2) := dk_21 6 (dk_at dksX13_worthOf_5 1 rfl rfl)
theorem dX13_worthOf_123 : decode cX13_worthOf 123 = .ok (.iconst 1, 1) := dk_4 (dk_at dksX13_worthOf_5 3 rfl rfl)
theorem dX13_worthOf_124 : decode cX13_worthOf 124 = .ok (.invokestatic 118, 3) := dk_184 0 118 (dk_at dksX13_worthOf_5 4 rfl rfl)
theorem dX13_worthOf_127 : decode cX13_worthOf 127 = .ok (.ifCond .eq 50, 3) := dk_153 0 50 (dk_at dksX13_worthOf_5 7 rfl rfl)
theorem dX13_worthOf_130 : decode cX13_worthOf 130 = .ok (.aload_n 0, 1) := dk_42 (dk_at dksX13_worthOf_5 10 rfl rfl)
theorem dX13_worthOf_131 : decode cX13_worthOf 131 = .ok (.iload_n 1, 1) := dk_27 (dk_at dksX13_worthOf_5 11 rfl rfl)
theorem dX13_worthOf_132 : decode cX13_worthOf 132 = .ok (.iload_n 2, 1) := dk_28 (dk_at dksX13_worthOf_5 12 rfl rfl)
theorem dX13_worthOf_133 : decode cX13_worthOf 133 = .ok (.iconst 1, 1) := dk_4 (dk_at dksX13_worthOf_5 13 rfl rfl)
theorem dX13_worthOf_134 : decode cX13_worthOf 134 = .ok (.invokevirtual 128, 3) := dk_182 0 128 (dk_at dksX13_worthOf_5 14 rfl rfl)
theorem dX13_worthOf_137 : decode cX13_worthOf 137 = .ok (.istore 7, 2) := dk_54 7 (dk_at dksX13_worthOf_5 17 rfl rfl)
theorem dX13_worthOf_139 : decode cX13_worthOf 139 = .ok (.iload 5, 2) := dk_21 5 (dk_at dksX13_worthOf_5 19 rfl rfl)
theorem dX13_worthOf_141 : decode cX13_worthOf 141 = .ok (.iload 7, 2) := dk_21 7 (dk_at dksX13_worthOf_5 21 rfl rfl)
theorem dX13_worthOf_143 : decode cX13_worthOf 143 = .ok (.ifCond .ge 7, 3) := dk_156 0 7 (dk_at dksX13_worthOf_6 0 rfl rfl)
theorem dX13_worthOf_146 : decode cX13_worthOf 146 = .ok (.iconst 0, 1) := dk_3 (dk_at dksX13_worthOf_6 3 rfl rfl)
theorem dX13_worthOf_147 : decode cX13_worthOf 147 = .ok (.goto 12, 3) := dk_167 0 12 (dk_at dksX13_worthOf_6 4 rfl rfl)
theorem dX13_worthOf_150 : decode cX13_worthOf 150 = .ok (.iconst 0, 1) := dk_3 (dk_at dksX13_worthOf_6 7 rfl rfl)
theorem dX13_worthOf_151 : decode cX13_worthOf 151 = .ok (.bipush 20, 2) := dk_16 20 (dk_at dksX13_worthOf_6 8 rfl rfl)
theorem dX13_worthOf_153 : decode cX13_worthOf 153 = .ok (.iload 7, 2) := dk_21 7 (dk_at dksX13_worthOf_6 10 rfl rfl)
theorem dX13_worthOf_155 : decode cX13_worthOf 155 = .ok (.isub, 1) := dk_100 (dk_at dksX13_worthOf_6 12 rfl rfl)
theorem dX13_worthOf_156 : decode cX13_worthOf 156 = .ok (.invokestatic 132, 3) := dk_184 0 132 (dk_at dksX13_worthOf_6 13 rfl rfl)
theorem dX13_worthOf_159 : decode cX13_worthOf 159 = .ok (.iadd, 1) := dk_96 (dk_at dksX13_worthOf_6 16 rfl rfl)
theorem dX13_worthOf_160 : decode cX13_worthOf 160 = .ok (.iload 6, 2) := dk_21 6 (dk_at dksX13_worthOf_6 17 rfl rfl)
theorem dX13_worthOf_162 : decode cX13_worthOf 162 = .ok (.bipush 6, 2) := dk_16 6 (dk_at dksX13_worthOf_6 19 rfl rfl)
theorem dX13_worthOf_164 : decode cX13_worthOf 164 = .ok (.if_icmp .ne 10, 3) := dk_160 0 10 (dk_at dksX13_worthOf_6 21 rfl rfl)
theorem dX13_worthOf_167 : decode cX13_worthOf 167 = .ok (.iconst 2, 1) := dk_5 (dk_at dksX13_worthOf_7 0 rfl rfl)
theorem dX13_worthOf_168 : decode cX13_worthOf 168 = .ok (.iload 4, 2) := dk_21 4 (dk_at dksX13_worthOf_7 1 rfl rfl)
theorem dX13_worthOf_170 : decode cX13_worthOf 170 = .ok (.imul, 1) := dk_104 (dk_at dksX13_worthOf_7 3 rfl rfl)
theorem dX13_worthOf_171 : decode cX13_worthOf 171 = .ok (.goto 4, 3) := dk_167 0 4 (dk_at dksX13_worthOf_7 4 rfl rfl)
theorem dX13_worthOf_174 : decode cX13_worthOf 174 = .ok (.iconst 0, 1) := dk_3 (dk_at dksX13_worthOf_7 7 rfl rfl)
theorem dX13_worthOf_175 : decode cX13_worthOf 175 = .ok (.iadd, 1) := dk_96 (dk_at dksX13_worthOf_7 8 rfl rfl)
theorem dX13_worthOf_176 : decode cX13_worthOf 176 = .ok (.ireturn, 1) := dk_172 (dk_at dksX13_worthOf_7 9 rfl rfl)
theorem dX13_worthOf_177 : decode cX13_worthOf 177 = .ok (.iload 5, 2) := dk_21 5 (dk_at dksX13_worthOf_7 10 rfl rfl)
theorem dX13_worthOf_179 : decode cX13_worthOf 179 = .ok (.iconst 0, 1) := dk_3 (dk_at dksX13_worthOf_7 12 rfl rfl)
theorem dX13_worthOf_180 : decode cX13_worthOf 180 = .ok (.aload_n 0, 1) := dk_42 (dk_at dksX13_worthOf_7 13 rfl rfl)
theorem dX13_worthOf_181 : decode cX13_worthOf 181 = .ok (.iload_n 1, 1) := dk_27 (dk_at dksX13_worthOf_7 14 rfl rfl)
theorem dX13_worthOf_182 : decode cX13_worthOf 182 = .ok (.iload_n 2, 1) := dk_28 (dk_at dksX13_worthOf_7 15 rfl rfl)
theorem dX13_worthOf_183 : decode cX13_worthOf 183 = .ok (.iconst 0, 1) := dk_3 (dk_at dksX13_worthOf_7 16 rfl rfl)
theorem dX13_worthOf_184 : decode cX13_worthOf 184 = .ok (.invokevirtual 128, 3) := dk_182 0 128 (dk_at dksX13_worthOf_7 17 rfl rfl)
theorem dX13_worthOf_187 : decode cX13_worthOf 187 = .ok (.invokestatic 132, 3) := dk_184 0 132 (dk_at dksX13_worthOf_7 20 rfl rfl)
theorem dX13_worthOf_190 : decode cX13_worthOf 190 = .ok (.iadd, 1) := dk_96 (dk_at dksX13_worthOf_7 23 rfl rfl)
theorem dX13_worthOf_191 : decode cX13_worthOf 191 = .ok (.istore 7, 2) := dk_54 7 (dk_at dksX13_worthOf_8 0 rfl rfl)
theorem dX13_worthOf_193 : decode cX13_worthOf 193 = .ok (.iload 7, 2) := dk_21 7 (dk_at dksX13_worthOf_8 2 rfl rfl)
theorem dX13_worthOf_195 : decode cX13_worthOf 195 = .ok (.bipush 7, 2) := dk_16 7 (dk_at dksX13_worthOf_8 4 rfl rfl)
theorem dX13_worthOf_197 : decode cX13_worthOf 197 = .ok (.iadd, 1) := dk_96 (dk_at dksX13_worthOf_8 6 rfl rfl)
theorem dX13_worthOf_198 : decode cX13_worthOf 198 = .ok (.iload_n 2, 1) := dk_28 (dk_at dksX13_worthOf_8 7 rfl rfl)
theorem dX13_worthOf_199 : decode cX13_worthOf 199 = .ok (.bipush 8, 2) := dk_16 8 (dk_at dksX13_worthOf_8 8 rfl rfl)
theorem dX13_worthOf_201 : decode cX13_worthOf 201 = .ok (.idiv, 1) := dk_108 (dk_at dksX13_worthOf_8 10 rfl rfl)
theorem dX13_worthOf_202 : decode cX13_worthOf 202 = .ok (.isub, 1) := dk_100 (dk_at dksX13_worthOf_8 11 rfl rfl)
theorem dX13_worthOf_203 : decode cX13_worthOf 203 = .ok (.istore 8, 2) := dk_54 8 (dk_at dksX13_worthOf_8 12 rfl rfl)
theorem dX13_worthOf_205 : decode cX13_worthOf 205 = .ok (.iload 6, 2) := dk_21 6 (dk_at dksX13_worthOf_8 14 rfl rfl)
theorem dX13_worthOf_207 : decode cX13_worthOf 207 = .ok (.iconst 2, 1) := dk_5 (dk_at dksX13_worthOf_8 16 rfl rfl)
theorem dX13_worthOf_208 : decode cX13_worthOf 208 = .ok (.if_icmp .ne 8, 3) := dk_160 0 8 (dk_at dksX13_worthOf_8 17 rfl rfl)
theorem dX13_worthOf_211 : decode cX13_worthOf 211 = .ok (.iload 7, 2) := dk_21 7 (dk_at dksX13_worthOf_8 20 rfl rfl)
theorem dX13_worthOf_213 : decode cX13_worthOf 213 = .ok (.goto 18, 3) := dk_167 0 18 (dk_at dksX13_worthOf_9 0 rfl rfl)
theorem dX13_worthOf_216 : decode cX13_worthOf 216 = .ok (.iload 6, 2) := dk_21 6 (dk_at dksX13_worthOf_9 3 rfl rfl)
theorem dX13_worthOf_218 : decode cX13_worthOf 218 = .ok (.iconst 3, 1) := dk_6 (dk_at dksX13_worthOf_9 5 rfl rfl)
theorem dX13_worthOf_219 : decode cX13_worthOf 219 = .ok (.if_icmp .ne 8, 3) := dk_160 0 8 (dk_at dksX13_worthOf_9 6 rfl rfl)
theorem dX13_worthOf_222 : decode cX13_worthOf 222 = .ok (.iload 8, 2) := dk_21 8 (dk_at dksX13_worthOf_9 9 rfl rfl)
theorem dX13_worthOf_224 : decode cX13_worthOf 224 = .ok (.goto 7, 3) := dk_167 0 7 (dk_at dksX13_worthOf_9 11 rfl rfl)
theorem dX13_worthOf_227 : decode cX13_worthOf 227 = .ok (.iconst 2, 1) := dk_5 (dk_at dksX13_worthOf_9 14 rfl rfl)
theorem dX13_worthOf_228 : decode cX13_worthOf 228 = .ok (.iload 8, 2) := dk_21 8 (dk_at dksX13_worthOf_9 15 rfl rfl)
theorem dX13_worthOf_230 : decode cX13_worthOf 230 = .ok (.imul, 1) := dk_104 (dk_at dksX13_worthOf_9 17 rfl rfl)
theorem dX13_worthOf_231 : decode cX13_worthOf 231 = .ok (.ireturn, 1) := dk_172 (dk_at dksX13_worthOf_9 18 rfl rfl)
abbrev cX13_apart : ByteArray := prog_16_method_10_code
def yX13_apart : MethodName := ⟨RX13, "apart", "(II)I"⟩
def dkwX13_apart_1 : List UInt8 := [96, 172]
abbrev dktX13_apart_1 : List UInt8 := dkwX13_apart_1 ++ []
def dkwX13_apart_0 : List UInt8 := [26, 16, 8, 108, 27, 16, 8, 108, 100, 184, 0, 78, 26, 16, 8, 112, 27, 16, 8, 112, 100, 184, 0, 78]
abbrev dktX13_apart_0 : List UInt8 := dkwX13_apart_0 ++ dktX13_apart_1
theorem dksX13_apart_0 : cX13_apart.data.toList.drop 0 = dktX13_apart_0 := by decide +kernel
theorem dksX13_apart_1 : cX13_apart.data.toList.drop 24 = dktX13_apart_1 := dk_seg dksX13_apart_0 24 rfl rfl
theorem dX13_apart_0 : decode cX13_apart 0 = .ok (.iload_n 0, 1) := dk_26 (dk_at dksX13_apart_0 0 rfl rfl)
theorem dX13_apart_1 : decode cX13_apart 1 = .ok (.bipush 8, 2) := dk_16 8 (dk_at dksX13_apart_0 1 rfl rfl)
theorem dX13_apart_3 : decode cX13_apart 3 = .ok (.idiv, 1) := dk_108 (dk_at dksX13_apart_0 3 rfl rfl)
theorem dX13_apart_4 : decode cX13_apart 4 = .ok (.iload_n 1, 1) := dk_27 (dk_at dksX13_apart_0 4 rfl rfl)
theorem dX13_apart_5 : decode cX13_apart 5 = .ok (.bipush 8, 2) := dk_16 8 (dk_at dksX13_apart_0 5 rfl rfl)
theorem dX13_apart_7 : decode cX13_apart 7 = .ok (.idiv, 1) := dk_108 (dk_at dksX13_apart_0 7 rfl rfl)
theorem dX13_apart_8 : decode cX13_apart 8 = .ok (.isub, 1) := dk_100 (dk_at dksX13_apart_0 8 rfl rfl)
theorem dX13_apart_9 : decode cX13_apart 9 = .ok (.invokestatic 78, 3) := dk_184 0 78 (dk_at dksX13_apart_0 9 rfl rfl)
theorem dX13_apart_12 : decode cX13_apart 12 = .ok (.iload_n 0, 1) := dk_26 (dk_at dksX13_apart_0 12 rfl rfl)
theorem dX13_apart_13 : decode cX13_apart 13 = .ok (.bipush 8, 2) := dk_16 8 (dk_at dksX13_apart_0 13 rfl rfl)
theorem dX13_apart_15 : decode cX13_apart 15 = .ok (.irem, 1) := dk_112 (dk_at dksX13_apart_0 15 rfl rfl)
theorem dX13_apart_16 : decode cX13_apart 16 = .ok (.iload_n 1, 1) := dk_27 (dk_at dksX13_apart_0 16 rfl rfl)
theorem dX13_apart_17 : decode cX13_apart 17 = .ok (.bipush 8, 2) := dk_16 8 (dk_at dksX13_apart_0 17 rfl rfl)
theorem dX13_apart_19 : decode cX13_apart 19 = .ok (.irem, 1) := dk_112 (dk_at dksX13_apart_0 19 rfl rfl)
theorem dX13_apart_20 : decode cX13_apart 20 = .ok (.isub, 1) := dk_100 (dk_at dksX13_apart_0 20 rfl rfl)
theorem dX13_apart_21 : decode cX13_apart 21 = .ok (.invokestatic 78, 3) := dk_184 0 78 (dk_at dksX13_apart_0 21 rfl rfl)
theorem dX13_apart_24 : decode cX13_apart 24 = .ok (.iadd, 1) := dk_96 (dk_at dksX13_apart_1 0 rfl rfl)
theorem dX13_apart_25 : decode cX13_apart 25 = .ok (.ireturn, 1) := dk_172 (dk_at dksX13_apart_1 1 rfl rfl)
abbrev cX13_isUnder : ByteArray := prog_16_method_26_code
def yX13_isUnder : MethodName := ⟨RX13, "isUnder", "(II)Z"⟩
def dkwX13_isUnder_1 : List UInt8 := [167, 0, 4, 3, 172]
abbrev dktX13_isUnder_1 : List UInt8 := dkwX13_isUnder_1 ++ []
def dkwX13_isUnder_0 : List UInt8 := [26, 61, 28, 155, 0, 16, 28, 27, 159, 0, 11, 28, 184, 0, 112, 61, 167, 255, 242, 28, 155, 0, 7, 4]
abbrev dktX13_isUnder_0 : List UInt8 := dkwX13_isUnder_0 ++ dktX13_isUnder_1
theorem dksX13_isUnder_0 : cX13_isUnder.data.toList.drop 0 = dktX13_isUnder_0 := by decide +kernel
theorem dksX13_isUnder_1 : cX13_isUnder.data.toList.drop 24 = dktX13_isUnder_1 := dk_seg dksX13_isUnder_0 24 rfl rfl
theorem dX13_isUnder_0 : decode cX13_isUnder 0 = .ok (.iload_n 0, 1) := dk_26 (dk_at dksX13_isUnder_0 0 rfl rfl)
theorem dX13_isUnder_1 : decode cX13_isUnder 1 = .ok (.istore_n 2, 1) := dk_61 (dk_at dksX13_isUnder_0 1 rfl rfl)
theorem dX13_isUnder_2 : decode cX13_isUnder 2 = .ok (.iload_n 2, 1) := dk_28 (dk_at dksX13_isUnder_0 2 rfl rfl)
theorem dX13_isUnder_3 : decode cX13_isUnder 3 = .ok (.ifCond .lt 16, 3) := dk_155 0 16 (dk_at dksX13_isUnder_0 3 rfl rfl)
theorem dX13_isUnder_6 : decode cX13_isUnder 6 = .ok (.iload_n 2, 1) := dk_28 (dk_at dksX13_isUnder_0 6 rfl rfl)
theorem dX13_isUnder_7 : decode cX13_isUnder 7 = .ok (.iload_n 1, 1) := dk_27 (dk_at dksX13_isUnder_0 7 rfl rfl)
theorem dX13_isUnder_8 : decode cX13_isUnder 8 = .ok (.if_icmp .eq 11, 3) := dk_159 0 11 (dk_at dksX13_isUnder_0 8 rfl rfl)
theorem dX13_isUnder_11 : decode cX13_isUnder 11 = .ok (.iload_n 2, 1) := dk_28 (dk_at dksX13_isUnder_0 11 rfl rfl)
theorem dX13_isUnder_12 : decode cX13_isUnder 12 = .ok (.invokestatic 112, 3) := dk_184 0 112 (dk_at dksX13_isUnder_0 12 rfl rfl)
theorem dX13_isUnder_15 : decode cX13_isUnder 15 = .ok (.istore_n 2, 1) := dk_61 (dk_at dksX13_isUnder_0 15 rfl rfl)
theorem dX13_isUnder_16 : decode cX13_isUnder 16 = .ok (.goto (-14), 3) := dk_167 255 242 (dk_at dksX13_isUnder_0 16 rfl rfl)
theorem dX13_isUnder_19 : decode cX13_isUnder 19 = .ok (.iload_n 2, 1) := dk_28 (dk_at dksX13_isUnder_0 19 rfl rfl)
theorem dX13_isUnder_20 : decode cX13_isUnder 20 = .ok (.ifCond .lt 7, 3) := dk_155 0 7 (dk_at dksX13_isUnder_0 20 rfl rfl)
theorem dX13_isUnder_23 : decode cX13_isUnder 23 = .ok (.iconst 1, 1) := dk_4 (dk_at dksX13_isUnder_0 23 rfl rfl)
theorem dX13_isUnder_24 : decode cX13_isUnder 24 = .ok (.goto 4, 3) := dk_167 0 4 (dk_at dksX13_isUnder_1 0 rfl rfl)
theorem dX13_isUnder_27 : decode cX13_isUnder 27 = .ok (.iconst 0, 1) := dk_3 (dk_at dksX13_isUnder_1 3 rfl rfl)
theorem dX13_isUnder_28 : decode cX13_isUnder 28 = .ok (.ireturn, 1) := dk_172 (dk_at dksX13_isUnder_1 4 rfl rfl)
abbrev cX13_above : ByteArray := prog_16_method_25_code
def yX13_above : MethodName := ⟨RX13, "above", "(I)I"⟩
def dkwX13_above_1 : List UInt8 := [167, 0, 14, 26, 16, 6, 160, 0, 7, 4, 167, 0, 4, 3, 172]
abbrev dktX13_above_1 : List UInt8 := dkwX13_above_1 ++ []
def dkwX13_above_0 : List UInt8 := [26, 154, 0, 7, 2, 167, 0, 32, 26, 6, 160, 0, 7, 5, 167, 0, 23, 26, 7, 160, 0, 7, 6]
abbrev dktX13_above_0 : List UInt8 := dkwX13_above_0 ++ dktX13_above_1
theorem dksX13_above_0 : cX13_above.data.toList.drop 0 = dktX13_above_0 := by decide +kernel
theorem dksX13_above_1 : cX13_above.data.toList.drop 23 = dktX13_above_1 := dk_seg dksX13_above_0 23 rfl rfl
theorem dX13_above_0 : decode cX13_above 0 = .ok (.iload_n 0, 1) := dk_26 (dk_at dksX13_above_0 0 rfl rfl)
theorem dX13_above_1 : decode cX13_above 1 = .ok (.ifCond .ne 7, 3) := dk_154 0 7 (dk_at dksX13_above_0 1 rfl rfl)
theorem dX13_above_4 : decode cX13_above 4 = .ok (.iconst (-1), 1) := dk_2 (dk_at dksX13_above_0 4 rfl rfl)
theorem dX13_above_5 : decode cX13_above 5 = .ok (.goto 32, 3) := dk_167 0 32 (dk_at dksX13_above_0 5 rfl rfl)
theorem dX13_above_8 : decode cX13_above 8 = .ok (.iload_n 0, 1) := dk_26 (dk_at dksX13_above_0 8 rfl rfl)
theorem dX13_above_9 : decode cX13_above 9 = .ok (.iconst 3, 1) := dk_6 (dk_at dksX13_above_0 9 rfl rfl)
theorem dX13_above_10 : decode cX13_above 10 = .ok (.if_icmp .ne 7, 3) := dk_160 0 7 (dk_at dksX13_above_0 10 rfl rfl)
theorem dX13_above_13 : decode cX13_above 13 = .ok (.iconst 2, 1) := dk_5 (dk_at dksX13_above_0 13 rfl rfl)
theorem dX13_above_14 : decode cX13_above 14 = .ok (.goto 23, 3) := dk_167 0 23 (dk_at dksX13_above_0 14 rfl rfl)
theorem dX13_above_17 : decode cX13_above 17 = .ok (.iload_n 0, 1) := dk_26 (dk_at dksX13_above_0 17 rfl rfl)
theorem dX13_above_18 : decode cX13_above 18 = .ok (.iconst 4, 1) := dk_7 (dk_at dksX13_above_0 18 rfl rfl)
theorem dX13_above_19 : decode cX13_above 19 = .ok (.if_icmp .ne 7, 3) := dk_160 0 7 (dk_at dksX13_above_0 19 rfl rfl)
theorem dX13_above_22 : decode cX13_above 22 = .ok (.iconst 3, 1) := dk_6 (dk_at dksX13_above_0 22 rfl rfl)
theorem dX13_above_23 : decode cX13_above 23 = .ok (.goto 14, 3) := dk_167 0 14 (dk_at dksX13_above_1 0 rfl rfl)
theorem dX13_above_26 : decode cX13_above 26 = .ok (.iload_n 0, 1) := dk_26 (dk_at dksX13_above_1 3 rfl rfl)
theorem dX13_above_27 : decode cX13_above 27 = .ok (.bipush 6, 2) := dk_16 6 (dk_at dksX13_above_1 4 rfl rfl)
theorem dX13_above_29 : decode cX13_above 29 = .ok (.if_icmp .ne 7, 3) := dk_160 0 7 (dk_at dksX13_above_1 6 rfl rfl)
theorem dX13_above_32 : decode cX13_above 32 = .ok (.iconst 1, 1) := dk_4 (dk_at dksX13_above_1 9 rfl rfl)
theorem dX13_above_33 : decode cX13_above 33 = .ok (.goto 4, 3) := dk_167 0 4 (dk_at dksX13_above_1 10 rfl rfl)
theorem dX13_above_36 : decode cX13_above 36 = .ok (.iconst 0, 1) := dk_3 (dk_at dksX13_above_1 13 rfl rfl)
theorem dX13_above_37 : decode cX13_above 37 = .ok (.ireturn, 1) := dk_172 (dk_at dksX13_above_1 14 rfl rfl)
abbrev cX13_nearestOther : ByteArray := prog_16_method_27_code
def yX13_nearestOther : MethodName := ⟨RX13, "nearestOther", "(III)I"⟩
def dkwX13_nearestOther_4 : List UInt8 := [167, 255, 167, 21, 4, 172]
abbrev dktX13_nearestOther_4 : List UInt8 := dkwX13_nearestOther_4 ++ []
def dkwX13_nearestOther_3 : List UInt8 := [21, 4, 155, 0, 10, 21, 7, 21, 4, 162, 0, 8, 21, 7, 167, 0, 5, 21, 4, 54, 4, 132, 5, 1]
abbrev dktX13_nearestOther_3 : List UInt8 := dkwX13_nearestOther_3 ++ dktX13_nearestOther_4
def dkwX13_nearestOther_2 : List UInt8 := [167, 0, 4, 3, 54, 6, 28, 42, 21, 5, 4, 182, 0, 101, 184, 0, 122, 54, 7, 21, 6, 153, 0, 20]
abbrev dktX13_nearestOther_2 : List UInt8 := dkwX13_nearestOther_2 ++ dktX13_nearestOther_3
def dkwX13_nearestOther_1 : List UInt8 := [21, 5, 182, 0, 115, 154, 0, 21, 42, 21, 5, 3, 182, 0, 101, 29, 184, 0, 118, 153, 0, 7, 4]
abbrev dktX13_nearestOther_1 : List UInt8 := dkwX13_nearestOther_1 ++ dktX13_nearestOther_2
def dkwX13_nearestOther_0 : List UInt8 := [2, 54, 4, 3, 54, 5, 21, 5, 42, 180, 0, 9, 5, 46, 162, 0, 84, 21, 5, 27, 159, 0, 30, 42]
abbrev dktX13_nearestOther_0 : List UInt8 := dkwX13_nearestOther_0 ++ dktX13_nearestOther_1
theorem dksX13_nearestOther_0 : cX13_nearestOther.data.toList.drop 0 = dktX13_nearestOther_0 := by decide +kernel
theorem dksX13_nearestOther_1 : cX13_nearestOther.data.toList.drop 24 = dktX13_nearestOther_1 := dk_seg dksX13_nearestOther_0 24 rfl rfl
theorem dksX13_nearestOther_2 : cX13_nearestOther.data.toList.drop 47 = dktX13_nearestOther_2 := dk_seg dksX13_nearestOther_1 23 rfl rfl
theorem dksX13_nearestOther_3 : cX13_nearestOther.data.toList.drop 71 = dktX13_nearestOther_3 := dk_seg dksX13_nearestOther_2 24 rfl rfl
theorem dksX13_nearestOther_4 : cX13_nearestOther.data.toList.drop 95 = dktX13_nearestOther_4 := dk_seg dksX13_nearestOther_3 24 rfl rfl
theorem dX13_nearestOther_0 : decode cX13_nearestOther 0 = .ok (.iconst (-1), 1) := dk_2 (dk_at dksX13_nearestOther_0 0 rfl rfl)
theorem dX13_nearestOther_1 : decode cX13_nearestOther 1 = .ok (.istore 4, 2) := dk_54 4 (dk_at dksX13_nearestOther_0 1 rfl rfl)
theorem dX13_nearestOther_3 : decode cX13_nearestOther 3 = .ok (.iconst 0, 1) := dk_3 (dk_at dksX13_nearestOther_0 3 rfl rfl)
theorem dX13_nearestOther_4 : decode cX13_nearestOther 4 = .ok (.istore 5, 2) := dk_54 5 (dk_at dksX13_nearestOther_0 4 rfl rfl)
theorem dX13_nearestOther_6 : decode cX13_nearestOther 6 = .ok (.iload 5, 2) := dk_21 5 (dk_at dksX13_nearestOther_0 6 rfl rfl)
theorem dX13_nearestOther_8 : decode cX13_nearestOther 8 = .ok (.aload_n 0, 1) := dk_42 (dk_at dksX13_nearestOther_0 8 rfl rfl)
theorem dX13_nearestOther_9 : decode cX13_nearestOther 9 = .ok (.getfield 9, 3) := dk_180 0 9 (dk_at dksX13_nearestOther_0 9 rfl rfl)
theorem dX13_nearestOther_12 : decode cX13_nearestOther 12 = .ok (.iconst 2, 1) := dk_5 (dk_at dksX13_nearestOther_0 12 rfl rfl)
theorem dX13_nearestOther_13 : decode cX13_nearestOther 13 = .ok (.iaload, 1) := dk_46 (dk_at dksX13_nearestOther_0 13 rfl rfl)
theorem dX13_nearestOther_14 : decode cX13_nearestOther 14 = .ok (.if_icmp .ge 84, 3) := dk_162 0 84 (dk_at dksX13_nearestOther_0 14 rfl rfl)
theorem dX13_nearestOther_17 : decode cX13_nearestOther 17 = .ok (.iload 5, 2) := dk_21 5 (dk_at dksX13_nearestOther_0 17 rfl rfl)
theorem dX13_nearestOther_19 : decode cX13_nearestOther 19 = .ok (.iload_n 1, 1) := dk_27 (dk_at dksX13_nearestOther_0 19 rfl rfl)
theorem dX13_nearestOther_20 : decode cX13_nearestOther 20 = .ok (.if_icmp .eq 30, 3) := dk_159 0 30 (dk_at dksX13_nearestOther_0 20 rfl rfl)
theorem dX13_nearestOther_23 : decode cX13_nearestOther 23 = .ok (.aload_n 0, 1) := dk_42 (dk_at dksX13_nearestOther_0 23 rfl rfl)
theorem dX13_nearestOther_24 : decode cX13_nearestOther 24 = .ok (.iload 5, 2) := dk_21 5 (dk_at dksX13_nearestOther_1 0 rfl rfl)
theorem dX13_nearestOther_26 : decode cX13_nearestOther 26 = .ok (.invokevirtual 115, 3) := dk_182 0 115 (dk_at dksX13_nearestOther_1 2 rfl rfl)
theorem dX13_nearestOther_29 : decode cX13_nearestOther 29 = .ok (.ifCond .ne 21, 3) := dk_154 0 21 (dk_at dksX13_nearestOther_1 5 rfl rfl)
theorem dX13_nearestOther_32 : decode cX13_nearestOther 32 = .ok (.aload_n 0, 1) := dk_42 (dk_at dksX13_nearestOther_1 8 rfl rfl)
theorem dX13_nearestOther_33 : decode cX13_nearestOther 33 = .ok (.iload 5, 2) := dk_21 5 (dk_at dksX13_nearestOther_1 9 rfl rfl)
theorem dX13_nearestOther_35 : decode cX13_nearestOther 35 = .ok (.iconst 0, 1) := dk_3 (dk_at dksX13_nearestOther_1 11 rfl rfl)
theorem dX13_nearestOther_36 : decode cX13_nearestOther 36 = .ok (.invokevirtual 101, 3) := dk_182 0 101 (dk_at dksX13_nearestOther_1 12 rfl rfl)
theorem dX13_nearestOther_39 : decode cX13_nearestOther 39 = .ok (.iload_n 3, 1) := dk_29 (dk_at dksX13_nearestOther_1 15 rfl rfl)
theorem dX13_nearestOther_40 : decode cX13_nearestOther 40 = .ok (.invokestatic 118, 3) := dk_184 0 118 (dk_at dksX13_nearestOther_1 16 rfl rfl)
theorem dX13_nearestOther_43 : decode cX13_nearestOther 43 = .ok (.ifCond .eq 7, 3) := dk_153 0 7 (dk_at dksX13_nearestOther_1 19 rfl rfl)
theorem dX13_nearestOther_46 : decode cX13_nearestOther 46 = .ok (.iconst 1, 1) := dk_4 (dk_at dksX13_nearestOther_1 22 rfl rfl)
theorem dX13_nearestOther_47 : decode cX13_nearestOther 47 = .ok (.goto 4, 3) := dk_167 0 4 (dk_at dksX13_nearestOther_2 0 rfl rfl)
theorem dX13_nearestOther_50 : decode cX13_nearestOther 50 = .ok (.iconst 0, 1) := dk_3 (dk_at dksX13_nearestOther_2 3 rfl rfl)
theorem dX13_nearestOther_51 : decode cX13_nearestOther 51 = .ok (.istore 6, 2) := dk_54 6 (dk_at dksX13_nearestOther_2 4 rfl rfl)
theorem dX13_nearestOther_53 : decode cX13_nearestOther 53 = .ok (.iload_n 2, 1) := dk_28 (dk_at dksX13_nearestOther_2 6 rfl rfl)
theorem dX13_nearestOther_54 : decode cX13_nearestOther 54 = .ok (.aload_n 0, 1) := dk_42 (dk_at dksX13_nearestOther_2 7 rfl rfl)
theorem dX13_nearestOther_55 : decode cX13_nearestOther 55 = .ok (.iload 5, 2) := dk_21 5 (dk_at dksX13_nearestOther_2 8 rfl rfl)
theorem dX13_nearestOther_57 : decode cX13_nearestOther 57 = .ok (.iconst 1, 1) := dk_4 (dk_at dksX13_nearestOther_2 10 rfl rfl)
theorem dX13_nearestOther_58 : decode cX13_nearestOther 58 = .ok (.invokevirtual 101, 3) := dk_182 0 101 (dk_at dksX13_nearestOther_2 11 rfl rfl)
theorem dX13_nearestOther_61 : decode cX13_nearestOther 61 = .ok (.invokestatic 122, 3) := dk_184 0 122 (dk_at dksX13_nearestOther_2 14 rfl rfl)
theorem dX13_nearestOther_64 : decode cX13_nearestOther 64 = .ok (.istore 7, 2) := dk_54 7 (dk_at dksX13_nearestOther_2 17 rfl rfl)
theorem dX13_nearestOther_66 : decode cX13_nearestOther 66 = .ok (.iload 6, 2) := dk_21 6 (dk_at dksX13_nearestOther_2 19 rfl rfl)
theorem dX13_nearestOther_68 : decode cX13_nearestOther 68 = .ok (.ifCond .eq 20, 3) := dk_153 0 20 (dk_at dksX13_nearestOther_2 21 rfl rfl)
theorem dX13_nearestOther_71 : decode cX13_nearestOther 71 = .ok (.iload 4, 2) := dk_21 4 (dk_at dksX13_nearestOther_3 0 rfl rfl)
theorem dX13_nearestOther_73 : decode cX13_nearestOther 73 = .ok (.ifCond .lt 10, 3) := dk_155 0 10 (dk_at dksX13_nearestOther_3 2 rfl rfl)
theorem dX13_nearestOther_76 : decode cX13_nearestOther 76 = .ok (.iload 7, 2) := dk_21 7 (dk_at dksX13_nearestOther_3 5 rfl rfl)
theorem dX13_nearestOther_78 : decode cX13_nearestOther 78 = .ok (.iload 4, 2) := dk_21 4 (dk_at dksX13_nearestOther_3 7 rfl rfl)
theorem dX13_nearestOther_80 : decode cX13_nearestOther 80 = .ok (.if_icmp .ge 8, 3) := dk_162 0 8 (dk_at dksX13_nearestOther_3 9 rfl rfl)
theorem dX13_nearestOther_83 : decode cX13_nearestOther 83 = .ok (.iload 7, 2) := dk_21 7 (dk_at dksX13_nearestOther_3 12 rfl rfl)
theorem dX13_nearestOther_85 : decode cX13_nearestOther 85 = .ok (.goto 5, 3) := dk_167 0 5 (dk_at dksX13_nearestOther_3 14 rfl rfl)
theorem dX13_nearestOther_88 : decode cX13_nearestOther 88 = .ok (.iload 4, 2) := dk_21 4 (dk_at dksX13_nearestOther_3 17 rfl rfl)
theorem dX13_nearestOther_90 : decode cX13_nearestOther 90 = .ok (.istore 4, 2) := dk_54 4 (dk_at dksX13_nearestOther_3 19 rfl rfl)
theorem dX13_nearestOther_92 : decode cX13_nearestOther 92 = .ok (.iinc 5 1, 3) := dk_132 5 1 (dk_at dksX13_nearestOther_3 21 rfl rfl)
theorem dX13_nearestOther_95 : decode cX13_nearestOther 95 = .ok (.goto (-89), 3) := dk_167 255 167 (dk_at dksX13_nearestOther_4 0 rfl rfl)
theorem dX13_nearestOther_98 : decode cX13_nearestOther 98 = .ok (.iload 4, 2) := dk_21 4 (dk_at dksX13_nearestOther_4 3 rfl rfl)
theorem dX13_nearestOther_100 : decode cX13_nearestOther 100 = .ok (.ireturn, 1) := dk_172 (dk_at dksX13_nearestOther_4 5 rfl rfl)
abbrev cX13_isCaught : ByteArray := prog_16_method_22_code
def yX13_isCaught : MethodName := ⟨RX13, "isCaught", "(I)Z"⟩
def dkwX13_isCaught_0 : List UInt8 := [42, 27, 7, 182, 0, 101, 4, 160, 0, 7, 4, 167, 0, 4, 3, 172]
abbrev dktX13_isCaught_0 : List UInt8 := dkwX13_isCaught_0 ++ []
theorem dksX13_isCaught_0 : cX13_isCaught.data.toList.drop 0 = dktX13_isCaught_0 := by decide +kernel
theorem dX13_isCaught_0 : decode cX13_isCaught 0 = .ok (.aload_n 0, 1) := dk_42 (dk_at dksX13_isCaught_0 0 rfl rfl)
theorem dX13_isCaught_1 : decode cX13_isCaught 1 = .ok (.iload_n 1, 1) := dk_27 (dk_at dksX13_isCaught_0 1 rfl rfl)
theorem dX13_isCaught_2 : decode cX13_isCaught 2 = .ok (.iconst 4, 1) := dk_7 (dk_at dksX13_isCaught_0 2 rfl rfl)
theorem dX13_isCaught_3 : decode cX13_isCaught 3 = .ok (.invokevirtual 101, 3) := dk_182 0 101 (dk_at dksX13_isCaught_0 3 rfl rfl)
theorem dX13_isCaught_6 : decode cX13_isCaught 6 = .ok (.iconst 1, 1) := dk_4 (dk_at dksX13_isCaught_0 6 rfl rfl)
theorem dX13_isCaught_7 : decode cX13_isCaught 7 = .ok (.if_icmp .ne 7, 3) := dk_160 0 7 (dk_at dksX13_isCaught_0 7 rfl rfl)
theorem dX13_isCaught_10 : decode cX13_isCaught 10 = .ok (.iconst 1, 1) := dk_4 (dk_at dksX13_isCaught_0 10 rfl rfl)
theorem dX13_isCaught_11 : decode cX13_isCaught 11 = .ok (.goto 4, 3) := dk_167 0 4 (dk_at dksX13_isCaught_0 11 rfl rfl)
theorem dX13_isCaught_14 : decode cX13_isCaught 14 = .ok (.iconst 0, 1) := dk_3 (dk_at dksX13_isCaught_0 14 rfl rfl)
theorem dX13_isCaught_15 : decode cX13_isCaught 15 = .ok (.ireturn, 1) := dk_172 (dk_at dksX13_isCaught_0 15 rfl rfl)
abbrev cX13_beside : ByteArray := prog_16_method_11_code
def yX13_beside : MethodName := ⟨RX13, "beside", "(II)I"⟩
def dkwX13_beside_2 : List UInt8 := [16, 8, 29, 104, 21, 4, 96, 167, 0, 4, 2, 172]
abbrev dktX13_beside_2 : List UInt8 := dkwX13_beside_2 ++ []
def dkwX13_beside_1 : List UInt8 := [54, 4, 29, 3, 16, 7, 184, 0, 74, 153, 0, 24, 21, 4, 3, 16, 7, 184, 0, 74, 153, 0, 13]
abbrev dktX13_beside_1 : List UInt8 := dkwX13_beside_1 ++ dktX13_beside_2
def dkwX13_beside_0 : List UInt8 := [27, 16, 8, 108, 42, 180, 0, 22, 28, 46, 96, 62, 27, 16, 8, 112, 42, 180, 0, 25, 28, 46, 96]
abbrev dktX13_beside_0 : List UInt8 := dkwX13_beside_0 ++ dktX13_beside_1
theorem dksX13_beside_0 : cX13_beside.data.toList.drop 0 = dktX13_beside_0 := by decide +kernel
theorem dksX13_beside_1 : cX13_beside.data.toList.drop 23 = dktX13_beside_1 := dk_seg dksX13_beside_0 23 rfl rfl
theorem dksX13_beside_2 : cX13_beside.data.toList.drop 46 = dktX13_beside_2 := dk_seg dksX13_beside_1 23 rfl rfl
theorem dX13_beside_0 : decode cX13_beside 0 = .ok (.iload_n 1, 1) := dk_27 (dk_at dksX13_beside_0 0 rfl rfl)
theorem dX13_beside_1 : decode cX13_beside 1 = .ok (.bipush 8, 2) := dk_16 8 (dk_at dksX13_beside_0 1 rfl rfl)
theorem dX13_beside_3 : decode cX13_beside 3 = .ok (.idiv, 1) := dk_108 (dk_at dksX13_beside_0 3 rfl rfl)
theorem dX13_beside_4 : decode cX13_beside 4 = .ok (.aload_n 0, 1) := dk_42 (dk_at dksX13_beside_0 4 rfl rfl)
theorem dX13_beside_5 : decode cX13_beside 5 = .ok (.getfield 22, 3) := dk_180 0 22 (dk_at dksX13_beside_0 5 rfl rfl)
theorem dX13_beside_8 : decode cX13_beside 8 = .ok (.iload_n 2, 1) := dk_28 (dk_at dksX13_beside_0 8 rfl rfl)
theorem dX13_beside_9 : decode cX13_beside 9 = .ok (.iaload, 1) := dk_46 (dk_at dksX13_beside_0 9 rfl rfl)
theorem dX13_beside_10 : decode cX13_beside 10 = .ok (.iadd, 1) := dk_96 (dk_at dksX13_beside_0 10 rfl rfl)
theorem dX13_beside_11 : decode cX13_beside 11 = .ok (.istore_n 3, 1) := dk_62 (dk_at dksX13_beside_0 11 rfl rfl)
theorem dX13_beside_12 : decode cX13_beside 12 = .ok (.iload_n 1, 1) := dk_27 (dk_at dksX13_beside_0 12 rfl rfl)
theorem dX13_beside_13 : decode cX13_beside 13 = .ok (.bipush 8, 2) := dk_16 8 (dk_at dksX13_beside_0 13 rfl rfl)
theorem dX13_beside_15 : decode cX13_beside 15 = .ok (.irem, 1) := dk_112 (dk_at dksX13_beside_0 15 rfl rfl)
theorem dX13_beside_16 : decode cX13_beside 16 = .ok (.aload_n 0, 1) := dk_42 (dk_at dksX13_beside_0 16 rfl rfl)
theorem dX13_beside_17 : decode cX13_beside 17 = .ok (.getfield 25, 3) := dk_180 0 25 (dk_at dksX13_beside_0 17 rfl rfl)
theorem dX13_beside_20 : decode cX13_beside 20 = .ok (.iload_n 2, 1) := dk_28 (dk_at dksX13_beside_0 20 rfl rfl)
theorem dX13_beside_21 : decode cX13_beside 21 = .ok (.iaload, 1) := dk_46 (dk_at dksX13_beside_0 21 rfl rfl)
theorem dX13_beside_22 : decode cX13_beside 22 = .ok (.iadd, 1) := dk_96 (dk_at dksX13_beside_0 22 rfl rfl)
theorem dX13_beside_23 : decode cX13_beside 23 = .ok (.istore 4, 2) := dk_54 4 (dk_at dksX13_beside_1 0 rfl rfl)
theorem dX13_beside_25 : decode cX13_beside 25 = .ok (.iload_n 3, 1) := dk_29 (dk_at dksX13_beside_1 2 rfl rfl)
theorem dX13_beside_26 : decode cX13_beside 26 = .ok (.iconst 0, 1) := dk_3 (dk_at dksX13_beside_1 3 rfl rfl)
theorem dX13_beside_27 : decode cX13_beside 27 = .ok (.bipush 7, 2) := dk_16 7 (dk_at dksX13_beside_1 4 rfl rfl)
theorem dX13_beside_29 : decode cX13_beside 29 = .ok (.invokestatic 74, 3) := dk_184 0 74 (dk_at dksX13_beside_1 6 rfl rfl)
theorem dX13_beside_32 : decode cX13_beside 32 = .ok (.ifCond .eq 24, 3) := dk_153 0 24 (dk_at dksX13_beside_1 9 rfl rfl)
theorem dX13_beside_35 : decode cX13_beside 35 = .ok (.iload 4, 2) := dk_21 4 (dk_at dksX13_beside_1 12 rfl rfl)
theorem dX13_beside_37 : decode cX13_beside 37 = .ok (.iconst 0, 1) := dk_3 (dk_at dksX13_beside_1 14 rfl rfl)
theorem dX13_beside_38 : decode cX13_beside 38 = .ok (.bipush 7, 2) := dk_16 7 (dk_at dksX13_beside_1 15 rfl rfl)
theorem dX13_beside_40 : decode cX13_beside 40 = .ok (.invokestatic 74, 3) := dk_184 0 74 (dk_at dksX13_beside_1 17 rfl rfl)
theorem dX13_beside_43 : decode cX13_beside 43 = .ok (.ifCond .eq 13, 3) := dk_153 0 13 (dk_at dksX13_beside_1 20 rfl rfl)
theorem dX13_beside_46 : decode cX13_beside 46 = .ok (.bipush 8, 2) := dk_16 8 (dk_at dksX13_beside_2 0 rfl rfl)
theorem dX13_beside_48 : decode cX13_beside 48 = .ok (.iload_n 3, 1) := dk_29 (dk_at dksX13_beside_2 2 rfl rfl)
theorem dX13_beside_49 : decode cX13_beside 49 = .ok (.imul, 1) := dk_104 (dk_at dksX13_beside_2 3 rfl rfl)
theorem dX13_beside_50 : decode cX13_beside 50 = .ok (.iload 4, 2) := dk_21 4 (dk_at dksX13_beside_2 4 rfl rfl)
theorem dX13_beside_52 : decode cX13_beside 52 = .ok (.iadd, 1) := dk_96 (dk_at dksX13_beside_2 6 rfl rfl)
theorem dX13_beside_53 : decode cX13_beside 53 = .ok (.goto 4, 3) := dk_167 0 4 (dk_at dksX13_beside_2 7 rfl rfl)
theorem dX13_beside_56 : decode cX13_beside 56 = .ok (.iconst (-1), 1) := dk_2 (dk_at dksX13_beside_2 10 rfl rfl)
theorem dX13_beside_57 : decode cX13_beside 57 = .ok (.ireturn, 1) := dk_172 (dk_at dksX13_beside_2 11 rfl rfl)
abbrev cX13_change : ByteArray := prog_16_method_32_code
def yX13_change : MethodName := ⟨RX13, "change", "(III)I"⟩
def dkwX13_change_1 : List UInt8 := [182, 0, 91, 167, 0, 9, 42, 18, 69, 182, 0, 88, 172]
abbrev dktX13_change_1 : List UInt8 := dkwX13_change_1 ++ []
def dkwX13_change_0 : List UInt8 := [42, 27, 182, 0, 141, 153, 0, 24, 28, 29, 184, 0, 147, 153, 0, 16, 42, 27, 28, 184, 0, 98, 29]
abbrev dktX13_change_0 : List UInt8 := dkwX13_change_0 ++ dktX13_change_1
theorem dksX13_change_0 : cX13_change.data.toList.drop 0 = dktX13_change_0 := by decide +kernel
theorem dksX13_change_1 : cX13_change.data.toList.drop 23 = dktX13_change_1 := dk_seg dksX13_change_0 23 rfl rfl
theorem dX13_change_0 : decode cX13_change 0 = .ok (.aload_n 0, 1) := dk_42 (dk_at dksX13_change_0 0 rfl rfl)
theorem dX13_change_1 : decode cX13_change 1 = .ok (.iload_n 1, 1) := dk_27 (dk_at dksX13_change_0 1 rfl rfl)
theorem dX13_change_2 : decode cX13_change 2 = .ok (.invokevirtual 141, 3) := dk_182 0 141 (dk_at dksX13_change_0 2 rfl rfl)
theorem dX13_change_5 : decode cX13_change 5 = .ok (.ifCond .eq 24, 3) := dk_153 0 24 (dk_at dksX13_change_0 5 rfl rfl)
theorem dX13_change_8 : decode cX13_change 8 = .ok (.iload_n 2, 1) := dk_28 (dk_at dksX13_change_0 8 rfl rfl)
theorem dX13_change_9 : decode cX13_change 9 = .ok (.iload_n 3, 1) := dk_29 (dk_at dksX13_change_0 9 rfl rfl)
theorem dX13_change_10 : decode cX13_change 10 = .ok (.invokestatic 147, 3) := dk_184 0 147 (dk_at dksX13_change_0 10 rfl rfl)
theorem dX13_change_13 : decode cX13_change 13 = .ok (.ifCond .eq 16, 3) := dk_153 0 16 (dk_at dksX13_change_0 13 rfl rfl)
theorem dX13_change_16 : decode cX13_change 16 = .ok (.aload_n 0, 1) := dk_42 (dk_at dksX13_change_0 16 rfl rfl)
theorem dX13_change_17 : decode cX13_change 17 = .ok (.iload_n 1, 1) := dk_27 (dk_at dksX13_change_0 17 rfl rfl)
theorem dX13_change_18 : decode cX13_change 18 = .ok (.iload_n 2, 1) := dk_28 (dk_at dksX13_change_0 18 rfl rfl)
theorem dX13_change_19 : decode cX13_change 19 = .ok (.invokestatic 98, 3) := dk_184 0 98 (dk_at dksX13_change_0 19 rfl rfl)
theorem dX13_change_22 : decode cX13_change 22 = .ok (.iload_n 3, 1) := dk_29 (dk_at dksX13_change_0 22 rfl rfl)
theorem dX13_change_23 : decode cX13_change 23 = .ok (.invokevirtual 91, 3) := dk_182 0 91 (dk_at dksX13_change_1 0 rfl rfl)
theorem dX13_change_26 : decode cX13_change 26 = .ok (.goto 9, 3) := dk_167 0 9 (dk_at dksX13_change_1 3 rfl rfl)
theorem dX13_change_29 : decode cX13_change 29 = .ok (.aload_n 0, 1) := dk_42 (dk_at dksX13_change_1 6 rfl rfl)
theorem dX13_change_30 : decode cX13_change 30 = .ok (.ldc 69, 2) := dk_18 69 (dk_at dksX13_change_1 7 rfl rfl)
theorem dX13_change_32 : decode cX13_change 32 = .ok (.invokevirtual 88, 3) := dk_182 0 88 (dk_at dksX13_change_1 9 rfl rfl)
theorem dX13_change_35 : decode cX13_change 35 = .ok (.ireturn, 1) := dk_172 (dk_at dksX13_change_1 12 rfl rfl)
abbrev cX13_mayBe : ByteArray := prog_16_method_31_code
def yX13_mayBe : MethodName := ⟨RX13, "mayBe", "(II)Z"⟩
def dkwX13_mayBe_3 : List UInt8 := [184, 0, 74, 172, 27, 3, 4, 184, 0, 74, 172, 3, 172]
abbrev dktX13_mayBe_3 : List UInt8 := dkwX13_mayBe_3 ++ []
def dkwX13_mayBe_2 : List UInt8 := [27, 184, 0, 104, 172, 27, 184, 0, 84, 172, 27, 3, 16, 11, 184, 0, 74, 172, 27, 4, 16, 99]
abbrev dktX13_mayBe_2 : List UInt8 := dkwX13_mayBe_2 ++ dktX13_mayBe_3
def dkwX13_mayBe_1 : List UInt8 := [170, 0, 0, 0, 0, 0, 68, 0, 0, 0, 0, 0, 0, 0, 4, 0, 0, 0, 35, 0, 0, 0, 40, 0, 0, 0, 45, 0, 0, 0, 53, 0, 0, 0, 61]
abbrev dktX13_mayBe_1 : List UInt8 := dkwX13_mayBe_1 ++ dktX13_mayBe_2
def dkwX13_mayBe_0 : List UInt8 := [26]
abbrev dktX13_mayBe_0 : List UInt8 := dkwX13_mayBe_0 ++ dktX13_mayBe_1
theorem dksX13_mayBe_0 : cX13_mayBe.data.toList.drop 0 = dktX13_mayBe_0 := by decide +kernel
theorem dksX13_mayBe_1 : cX13_mayBe.data.toList.drop 1 = dktX13_mayBe_1 := dk_seg dksX13_mayBe_0 1 rfl rfl
theorem dksX13_mayBe_2 : cX13_mayBe.data.toList.drop 36 = dktX13_mayBe_2 := dk_seg dksX13_mayBe_1 35 rfl rfl
theorem dksX13_mayBe_3 : cX13_mayBe.data.toList.drop 58 = dktX13_mayBe_3 := dk_seg dksX13_mayBe_2 22 rfl rfl
theorem dX13_mayBe_0 : decode cX13_mayBe 0 = .ok (.iload_n 0, 1) := dk_26 (dk_at dksX13_mayBe_0 0 rfl rfl)
theorem dX13_mayBe_1 : decode cX13_mayBe 1 = .ok (.tableswitch 68 0 4 #[35, 40, 45, 53, 61], 35) := by decide +kernel
theorem dX13_mayBe_36 : decode cX13_mayBe 36 = .ok (.iload_n 1, 1) := dk_27 (dk_at dksX13_mayBe_2 0 rfl rfl)
theorem dX13_mayBe_37 : decode cX13_mayBe 37 = .ok (.invokestatic 104, 3) := dk_184 0 104 (dk_at dksX13_mayBe_2 1 rfl rfl)
theorem dX13_mayBe_40 : decode cX13_mayBe 40 = .ok (.ireturn, 1) := dk_172 (dk_at dksX13_mayBe_2 4 rfl rfl)
theorem dX13_mayBe_41 : decode cX13_mayBe 41 = .ok (.iload_n 1, 1) := dk_27 (dk_at dksX13_mayBe_2 5 rfl rfl)
theorem dX13_mayBe_42 : decode cX13_mayBe 42 = .ok (.invokestatic 84, 3) := dk_184 0 84 (dk_at dksX13_mayBe_2 6 rfl rfl)
theorem dX13_mayBe_45 : decode cX13_mayBe 45 = .ok (.ireturn, 1) := dk_172 (dk_at dksX13_mayBe_2 9 rfl rfl)
theorem dX13_mayBe_46 : decode cX13_mayBe 46 = .ok (.iload_n 1, 1) := dk_27 (dk_at dksX13_mayBe_2 10 rfl rfl)
theorem dX13_mayBe_47 : decode cX13_mayBe 47 = .ok (.iconst 0, 1) := dk_3 (dk_at dksX13_mayBe_2 11 rfl rfl)
theorem dX13_mayBe_48 : decode cX13_mayBe 48 = .ok (.bipush 11, 2) := dk_16 11 (dk_at dksX13_mayBe_2 12 rfl rfl)
theorem dX13_mayBe_50 : decode cX13_mayBe 50 = .ok (.invokestatic 74, 3) := dk_184 0 74 (dk_at dksX13_mayBe_2 14 rfl rfl)
theorem dX13_mayBe_53 : decode cX13_mayBe 53 = .ok (.ireturn, 1) := dk_172 (dk_at dksX13_mayBe_2 17 rfl rfl)
theorem dX13_mayBe_54 : decode cX13_mayBe 54 = .ok (.iload_n 1, 1) := dk_27 (dk_at dksX13_mayBe_2 18 rfl rfl)
theorem dX13_mayBe_55 : decode cX13_mayBe 55 = .ok (.iconst 1, 1) := dk_4 (dk_at dksX13_mayBe_2 19 rfl rfl)
theorem dX13_mayBe_56 : decode cX13_mayBe 56 = .ok (.bipush 99, 2) := dk_16 99 (dk_at dksX13_mayBe_2 20 rfl rfl)
theorem dX13_mayBe_58 : decode cX13_mayBe 58 = .ok (.invokestatic 74, 3) := dk_184 0 74 (dk_at dksX13_mayBe_3 0 rfl rfl)
theorem dX13_mayBe_61 : decode cX13_mayBe 61 = .ok (.ireturn, 1) := dk_172 (dk_at dksX13_mayBe_3 3 rfl rfl)
theorem dX13_mayBe_62 : decode cX13_mayBe 62 = .ok (.iload_n 1, 1) := dk_27 (dk_at dksX13_mayBe_3 4 rfl rfl)
theorem dX13_mayBe_63 : decode cX13_mayBe 63 = .ok (.iconst 0, 1) := dk_3 (dk_at dksX13_mayBe_3 5 rfl rfl)
theorem dX13_mayBe_64 : decode cX13_mayBe 64 = .ok (.iconst 1, 1) := dk_4 (dk_at dksX13_mayBe_3 6 rfl rfl)
theorem dX13_mayBe_65 : decode cX13_mayBe 65 = .ok (.invokestatic 74, 3) := dk_184 0 74 (dk_at dksX13_mayBe_3 7 rfl rfl)
theorem dX13_mayBe_68 : decode cX13_mayBe 68 = .ok (.ireturn, 1) := dk_172 (dk_at dksX13_mayBe_3 10 rfl rfl)
theorem dX13_mayBe_69 : decode cX13_mayBe 69 = .ok (.iconst 0, 1) := dk_3 (dk_at dksX13_mayBe_3 11 rfl rfl)
theorem dX13_mayBe_70 : decode cX13_mayBe 70 = .ok (.ireturn, 1) := dk_172 (dk_at dksX13_mayBe_3 12 rfl rfl)
abbrev cX13_worth : ByteArray := prog_16_method_33_code
def yX13_worth : MethodName := ⟨RX13, "worth", "(II)I"⟩
def dkwX13_worth_1 : List UInt8 := [42, 18, 69, 182, 0, 88, 172]
abbrev dktX13_worth_1 : List UInt8 := dkwX13_worth_1 ++ []
def dkwX13_worth_0 : List UInt8 := [42, 27, 182, 0, 141, 153, 0, 19, 28, 184, 0, 84, 153, 0, 12, 42, 27, 28, 182, 0, 135, 167, 0, 9]
abbrev dktX13_worth_0 : List UInt8 := dkwX13_worth_0 ++ dktX13_worth_1
theorem dksX13_worth_0 : cX13_worth.data.toList.drop 0 = dktX13_worth_0 := by decide +kernel
theorem dksX13_worth_1 : cX13_worth.data.toList.drop 24 = dktX13_worth_1 := dk_seg dksX13_worth_0 24 rfl rfl
theorem dX13_worth_0 : decode cX13_worth 0 = .ok (.aload_n 0, 1) := dk_42 (dk_at dksX13_worth_0 0 rfl rfl)
theorem dX13_worth_1 : decode cX13_worth 1 = .ok (.iload_n 1, 1) := dk_27 (dk_at dksX13_worth_0 1 rfl rfl)
theorem dX13_worth_2 : decode cX13_worth 2 = .ok (.invokevirtual 141, 3) := dk_182 0 141 (dk_at dksX13_worth_0 2 rfl rfl)
theorem dX13_worth_5 : decode cX13_worth 5 = .ok (.ifCond .eq 19, 3) := dk_153 0 19 (dk_at dksX13_worth_0 5 rfl rfl)
theorem dX13_worth_8 : decode cX13_worth 8 = .ok (.iload_n 2, 1) := dk_28 (dk_at dksX13_worth_0 8 rfl rfl)
theorem dX13_worth_9 : decode cX13_worth 9 = .ok (.invokestatic 84, 3) := dk_184 0 84 (dk_at dksX13_worth_0 9 rfl rfl)
theorem dX13_worth_12 : decode cX13_worth 12 = .ok (.ifCond .eq 12, 3) := dk_153 0 12 (dk_at dksX13_worth_0 12 rfl rfl)
theorem dX13_worth_15 : decode cX13_worth 15 = .ok (.aload_n 0, 1) := dk_42 (dk_at dksX13_worth_0 15 rfl rfl)
theorem dX13_worth_16 : decode cX13_worth 16 = .ok (.iload_n 1, 1) := dk_27 (dk_at dksX13_worth_0 16 rfl rfl)
theorem dX13_worth_17 : decode cX13_worth 17 = .ok (.iload_n 2, 1) := dk_28 (dk_at dksX13_worth_0 17 rfl rfl)
theorem dX13_worth_18 : decode cX13_worth 18 = .ok (.invokevirtual 135, 3) := dk_182 0 135 (dk_at dksX13_worth_0 18 rfl rfl)
theorem dX13_worth_21 : decode cX13_worth 21 = .ok (.goto 9, 3) := dk_167 0 9 (dk_at dksX13_worth_0 21 rfl rfl)
theorem dX13_worth_24 : decode cX13_worth 24 = .ok (.aload_n 0, 1) := dk_42 (dk_at dksX13_worth_1 0 rfl rfl)
theorem dX13_worth_25 : decode cX13_worth 25 = .ok (.ldc 69, 2) := dk_18 69 (dk_at dksX13_worth_1 1 rfl rfl)
theorem dX13_worth_27 : decode cX13_worth 27 = .ok (.invokevirtual 88, 3) := dk_182 0 88 (dk_at dksX13_worth_1 3 rfl rfl)
theorem dX13_worth_30 : decode cX13_worth 30 = .ok (.ireturn, 1) := dk_172 (dk_at dksX13_worth_1 6 rfl rfl)
abbrev cX13_cell : ByteArray := prog_16_method_38_code
def yX13_cell : MethodName := ⟨RX13, "cell", "(II)I"⟩
def dkwX13_cell_3 : List UInt8 := [182, 0, 159, 172]
abbrev dktX13_cell_3 : List UInt8 := dkwX13_cell_3 ++ []
def dkwX13_cell_2 : List UInt8 := [16, 82, 27, 96, 46, 167, 0, 21, 28, 5, 160, 0, 11, 42, 27, 182, 0, 156, 167, 0, 8, 42, 27]
abbrev dktX13_cell_2 : List UInt8 := dkwX13_cell_2 ++ dktX13_cell_3
def dkwX13_cell_1 : List UInt8 := [154, 0, 15, 42, 180, 0, 9, 16, 18, 27, 96, 46, 167, 0, 38, 28, 4, 160, 0, 15, 42, 180, 0, 9]
abbrev dktX13_cell_1 : List UInt8 := dkwX13_cell_1 ++ dktX13_cell_2
def dkwX13_cell_0 : List UInt8 := [27, 184, 0, 84, 153, 0, 12, 28, 3, 6, 184, 0, 74, 154, 0, 10, 42, 18, 69, 182, 0, 88, 172, 28]
abbrev dktX13_cell_0 : List UInt8 := dkwX13_cell_0 ++ dktX13_cell_1
theorem dksX13_cell_0 : cX13_cell.data.toList.drop 0 = dktX13_cell_0 := by decide +kernel
theorem dksX13_cell_1 : cX13_cell.data.toList.drop 24 = dktX13_cell_1 := dk_seg dksX13_cell_0 24 rfl rfl
theorem dksX13_cell_2 : cX13_cell.data.toList.drop 48 = dktX13_cell_2 := dk_seg dksX13_cell_1 24 rfl rfl
theorem dksX13_cell_3 : cX13_cell.data.toList.drop 71 = dktX13_cell_3 := dk_seg dksX13_cell_2 23 rfl rfl
theorem dX13_cell_0 : decode cX13_cell 0 = .ok (.iload_n 1, 1) := dk_27 (dk_at dksX13_cell_0 0 rfl rfl)
theorem dX13_cell_1 : decode cX13_cell 1 = .ok (.invokestatic 84, 3) := dk_184 0 84 (dk_at dksX13_cell_0 1 rfl rfl)
theorem dX13_cell_4 : decode cX13_cell 4 = .ok (.ifCond .eq 12, 3) := dk_153 0 12 (dk_at dksX13_cell_0 4 rfl rfl)
theorem dX13_cell_7 : decode cX13_cell 7 = .ok (.iload_n 2, 1) := dk_28 (dk_at dksX13_cell_0 7 rfl rfl)
theorem dX13_cell_8 : decode cX13_cell 8 = .ok (.iconst 0, 1) := dk_3 (dk_at dksX13_cell_0 8 rfl rfl)
theorem dX13_cell_9 : decode cX13_cell 9 = .ok (.iconst 3, 1) := dk_6 (dk_at dksX13_cell_0 9 rfl rfl)
theorem dX13_cell_10 : decode cX13_cell 10 = .ok (.invokestatic 74, 3) := dk_184 0 74 (dk_at dksX13_cell_0 10 rfl rfl)
theorem dX13_cell_13 : decode cX13_cell 13 = .ok (.ifCond .ne 10, 3) := dk_154 0 10 (dk_at dksX13_cell_0 13 rfl rfl)
theorem dX13_cell_16 : decode cX13_cell 16 = .ok (.aload_n 0, 1) := dk_42 (dk_at dksX13_cell_0 16 rfl rfl)
theorem dX13_cell_17 : decode cX13_cell 17 = .ok (.ldc 69, 2) := dk_18 69 (dk_at dksX13_cell_0 17 rfl rfl)
theorem dX13_cell_19 : decode cX13_cell 19 = .ok (.invokevirtual 88, 3) := dk_182 0 88 (dk_at dksX13_cell_0 19 rfl rfl)
theorem dX13_cell_22 : decode cX13_cell 22 = .ok (.ireturn, 1) := dk_172 (dk_at dksX13_cell_0 22 rfl rfl)
theorem dX13_cell_23 : decode cX13_cell 23 = .ok (.iload_n 2, 1) := dk_28 (dk_at dksX13_cell_0 23 rfl rfl)
theorem dX13_cell_24 : decode cX13_cell 24 = .ok (.ifCond .ne 15, 3) := dk_154 0 15 (dk_at dksX13_cell_1 0 rfl rfl)
theorem dX13_cell_27 : decode cX13_cell 27 = .ok (.aload_n 0, 1) := dk_42 (dk_at dksX13_cell_1 3 rfl rfl)
theorem dX13_cell_28 : decode cX13_cell 28 = .ok (.getfield 9, 3) := dk_180 0 9 (dk_at dksX13_cell_1 4 rfl rfl)
theorem dX13_cell_31 : decode cX13_cell 31 = .ok (.bipush 18, 2) := dk_16 18 (dk_at dksX13_cell_1 7 rfl rfl)
theorem dX13_cell_33 : decode cX13_cell 33 = .ok (.iload_n 1, 1) := dk_27 (dk_at dksX13_cell_1 9 rfl rfl)
theorem dX13_cell_34 : decode cX13_cell 34 = .ok (.iadd, 1) := dk_96 (dk_at dksX13_cell_1 10 rfl rfl)
theorem dX13_cell_35 : decode cX13_cell 35 = .ok (.iaload, 1) := dk_46 (dk_at dksX13_cell_1 11 rfl rfl)
theorem dX13_cell_36 : decode cX13_cell 36 = .ok (.goto 38, 3) := dk_167 0 38 (dk_at dksX13_cell_1 12 rfl rfl)
theorem dX13_cell_39 : decode cX13_cell 39 = .ok (.iload_n 2, 1) := dk_28 (dk_at dksX13_cell_1 15 rfl rfl)
theorem dX13_cell_40 : decode cX13_cell 40 = .ok (.iconst 1, 1) := dk_4 (dk_at dksX13_cell_1 16 rfl rfl)
theorem dX13_cell_41 : decode cX13_cell 41 = .ok (.if_icmp .ne 15, 3) := dk_160 0 15 (dk_at dksX13_cell_1 17 rfl rfl)
theorem dX13_cell_44 : decode cX13_cell 44 = .ok (.aload_n 0, 1) := dk_42 (dk_at dksX13_cell_1 20 rfl rfl)
theorem dX13_cell_45 : decode cX13_cell 45 = .ok (.getfield 9, 3) := dk_180 0 9 (dk_at dksX13_cell_1 21 rfl rfl)
theorem dX13_cell_48 : decode cX13_cell 48 = .ok (.bipush 82, 2) := dk_16 82 (dk_at dksX13_cell_2 0 rfl rfl)
theorem dX13_cell_50 : decode cX13_cell 50 = .ok (.iload_n 1, 1) := dk_27 (dk_at dksX13_cell_2 2 rfl rfl)
theorem dX13_cell_51 : decode cX13_cell 51 = .ok (.iadd, 1) := dk_96 (dk_at dksX13_cell_2 3 rfl rfl)
theorem dX13_cell_52 : decode cX13_cell 52 = .ok (.iaload, 1) := dk_46 (dk_at dksX13_cell_2 4 rfl rfl)
theorem dX13_cell_53 : decode cX13_cell 53 = .ok (.goto 21, 3) := dk_167 0 21 (dk_at dksX13_cell_2 5 rfl rfl)
theorem dX13_cell_56 : decode cX13_cell 56 = .ok (.iload_n 2, 1) := dk_28 (dk_at dksX13_cell_2 8 rfl rfl)
theorem dX13_cell_57 : decode cX13_cell 57 = .ok (.iconst 2, 1) := dk_5 (dk_at dksX13_cell_2 9 rfl rfl)
theorem dX13_cell_58 : decode cX13_cell 58 = .ok (.if_icmp .ne 11, 3) := dk_160 0 11 (dk_at dksX13_cell_2 10 rfl rfl)
theorem dX13_cell_61 : decode cX13_cell 61 = .ok (.aload_n 0, 1) := dk_42 (dk_at dksX13_cell_2 13 rfl rfl)
theorem dX13_cell_62 : decode cX13_cell 62 = .ok (.iload_n 1, 1) := dk_27 (dk_at dksX13_cell_2 14 rfl rfl)
theorem dX13_cell_63 : decode cX13_cell 63 = .ok (.invokevirtual 156, 3) := dk_182 0 156 (dk_at dksX13_cell_2 15 rfl rfl)
theorem dX13_cell_66 : decode cX13_cell 66 = .ok (.goto 8, 3) := dk_167 0 8 (dk_at dksX13_cell_2 18 rfl rfl)
theorem dX13_cell_69 : decode cX13_cell 69 = .ok (.aload_n 0, 1) := dk_42 (dk_at dksX13_cell_2 21 rfl rfl)
theorem dX13_cell_70 : decode cX13_cell 70 = .ok (.iload_n 1, 1) := dk_27 (dk_at dksX13_cell_2 22 rfl rfl)
theorem dX13_cell_71 : decode cX13_cell 71 = .ok (.invokevirtual 159, 3) := dk_182 0 159 (dk_at dksX13_cell_3 0 rfl rfl)
theorem dX13_cell_74 : decode cX13_cell 74 = .ok (.ireturn, 1) := dk_172 (dk_at dksX13_cell_3 3 rfl rfl)
abbrev cX13_heardAt : ByteArray := prog_16_method_36_code
def yX13_heardAt : MethodName := ⟨RX13, "heardAt", "(I)I"⟩
def dkwX13_heardAt_1 : List UInt8 := [167, 0, 13, 28, 42, 29, 27, 182, 0, 153, 184, 0, 132, 61, 132, 3, 1, 167, 255, 220, 28, 172]
abbrev dktX13_heardAt_1 : List UInt8 := dkwX13_heardAt_1 ++ []
def dkwX13_heardAt_0 : List UInt8 := [3, 61, 3, 62, 29, 42, 180, 0, 9, 5, 46, 162, 0, 32, 42, 29, 182, 0, 115, 153, 0, 7, 28]
abbrev dktX13_heardAt_0 : List UInt8 := dkwX13_heardAt_0 ++ dktX13_heardAt_1
theorem dksX13_heardAt_0 : cX13_heardAt.data.toList.drop 0 = dktX13_heardAt_0 := by decide +kernel
theorem dksX13_heardAt_1 : cX13_heardAt.data.toList.drop 23 = dktX13_heardAt_1 := dk_seg dksX13_heardAt_0 23 rfl rfl
theorem dX13_heardAt_0 : decode cX13_heardAt 0 = .ok (.iconst 0, 1) := dk_3 (dk_at dksX13_heardAt_0 0 rfl rfl)
theorem dX13_heardAt_1 : decode cX13_heardAt 1 = .ok (.istore_n 2, 1) := dk_61 (dk_at dksX13_heardAt_0 1 rfl rfl)
theorem dX13_heardAt_2 : decode cX13_heardAt 2 = .ok (.iconst 0, 1) := dk_3 (dk_at dksX13_heardAt_0 2 rfl rfl)
theorem dX13_heardAt_3 : decode cX13_heardAt 3 = .ok (.istore_n 3, 1) := dk_62 (dk_at dksX13_heardAt_0 3 rfl rfl)
theorem dX13_heardAt_4 : decode cX13_heardAt 4 = .ok (.iload_n 3, 1) := dk_29 (dk_at dksX13_heardAt_0 4 rfl rfl)
theorem dX13_heardAt_5 : decode cX13_heardAt 5 = .ok (.aload_n 0, 1) := dk_42 (dk_at dksX13_heardAt_0 5 rfl rfl)
theorem dX13_heardAt_6 : decode cX13_heardAt 6 = .ok (.getfield 9, 3) := dk_180 0 9 (dk_at dksX13_heardAt_0 6 rfl rfl)
theorem dX13_heardAt_9 : decode cX13_heardAt 9 = .ok (.iconst 2, 1) := dk_5 (dk_at dksX13_heardAt_0 9 rfl rfl)
theorem dX13_heardAt_10 : decode cX13_heardAt 10 = .ok (.iaload, 1) := dk_46 (dk_at dksX13_heardAt_0 10 rfl rfl)
theorem dX13_heardAt_11 : decode cX13_heardAt 11 = .ok (.if_icmp .ge 32, 3) := dk_162 0 32 (dk_at dksX13_heardAt_0 11 rfl rfl)
theorem dX13_heardAt_14 : decode cX13_heardAt 14 = .ok (.aload_n 0, 1) := dk_42 (dk_at dksX13_heardAt_0 14 rfl rfl)
theorem dX13_heardAt_15 : decode cX13_heardAt 15 = .ok (.iload_n 3, 1) := dk_29 (dk_at dksX13_heardAt_0 15 rfl rfl)
theorem dX13_heardAt_16 : decode cX13_heardAt 16 = .ok (.invokevirtual 115, 3) := dk_182 0 115 (dk_at dksX13_heardAt_0 16 rfl rfl)
theorem dX13_heardAt_19 : decode cX13_heardAt 19 = .ok (.ifCond .eq 7, 3) := dk_153 0 7 (dk_at dksX13_heardAt_0 19 rfl rfl)
theorem dX13_heardAt_22 : decode cX13_heardAt 22 = .ok (.iload_n 2, 1) := dk_28 (dk_at dksX13_heardAt_0 22 rfl rfl)
theorem dX13_heardAt_23 : decode cX13_heardAt 23 = .ok (.goto 13, 3) := dk_167 0 13 (dk_at dksX13_heardAt_1 0 rfl rfl)
theorem dX13_heardAt_26 : decode cX13_heardAt 26 = .ok (.iload_n 2, 1) := dk_28 (dk_at dksX13_heardAt_1 3 rfl rfl)
theorem dX13_heardAt_27 : decode cX13_heardAt 27 = .ok (.aload_n 0, 1) := dk_42 (dk_at dksX13_heardAt_1 4 rfl rfl)
theorem dX13_heardAt_28 : decode cX13_heardAt 28 = .ok (.iload_n 3, 1) := dk_29 (dk_at dksX13_heardAt_1 5 rfl rfl)
theorem dX13_heardAt_29 : decode cX13_heardAt 29 = .ok (.iload_n 1, 1) := dk_27 (dk_at dksX13_heardAt_1 6 rfl rfl)
theorem dX13_heardAt_30 : decode cX13_heardAt 30 = .ok (.invokevirtual 153, 3) := dk_182 0 153 (dk_at dksX13_heardAt_1 7 rfl rfl)
theorem dX13_heardAt_33 : decode cX13_heardAt 33 = .ok (.invokestatic 132, 3) := dk_184 0 132 (dk_at dksX13_heardAt_1 10 rfl rfl)
theorem dX13_heardAt_36 : decode cX13_heardAt 36 = .ok (.istore_n 2, 1) := dk_61 (dk_at dksX13_heardAt_1 13 rfl rfl)
theorem dX13_heardAt_37 : decode cX13_heardAt 37 = .ok (.iinc 3 1, 3) := dk_132 3 1 (dk_at dksX13_heardAt_1 14 rfl rfl)
theorem dX13_heardAt_40 : decode cX13_heardAt 40 = .ok (.goto (-36), 3) := dk_167 255 220 (dk_at dksX13_heardAt_1 17 rfl rfl)
theorem dX13_heardAt_43 : decode cX13_heardAt 43 = .ok (.iload_n 2, 1) := dk_28 (dk_at dksX13_heardAt_1 20 rfl rfl)
theorem dX13_heardAt_44 : decode cX13_heardAt 44 = .ok (.ireturn, 1) := dk_172 (dk_at dksX13_heardAt_1 21 rfl rfl)
abbrev cX13_loudAt : ByteArray := prog_16_method_35_code
def yX13_loudAt : MethodName := ⟨RX13, "loudAt", "(II)I"⟩
def dkwX13_loudAt_0 : List UInt8 := [42, 42, 27, 6, 182, 0, 101, 42, 27, 4, 182, 0, 101, 28, 182, 0, 150, 172]
abbrev dktX13_loudAt_0 : List UInt8 := dkwX13_loudAt_0 ++ []
theorem dksX13_loudAt_0 : cX13_loudAt.data.toList.drop 0 = dktX13_loudAt_0 := by decide +kernel
theorem dX13_loudAt_0 : decode cX13_loudAt 0 = .ok (.aload_n 0, 1) := dk_42 (dk_at dksX13_loudAt_0 0 rfl rfl)
theorem dX13_loudAt_1 : decode cX13_loudAt 1 = .ok (.aload_n 0, 1) := dk_42 (dk_at dksX13_loudAt_0 1 rfl rfl)
theorem dX13_loudAt_2 : decode cX13_loudAt 2 = .ok (.iload_n 1, 1) := dk_27 (dk_at dksX13_loudAt_0 2 rfl rfl)
theorem dX13_loudAt_3 : decode cX13_loudAt 3 = .ok (.iconst 3, 1) := dk_6 (dk_at dksX13_loudAt_0 3 rfl rfl)
theorem dX13_loudAt_4 : decode cX13_loudAt 4 = .ok (.invokevirtual 101, 3) := dk_182 0 101 (dk_at dksX13_loudAt_0 4 rfl rfl)
theorem dX13_loudAt_7 : decode cX13_loudAt 7 = .ok (.aload_n 0, 1) := dk_42 (dk_at dksX13_loudAt_0 7 rfl rfl)
theorem dX13_loudAt_8 : decode cX13_loudAt 8 = .ok (.iload_n 1, 1) := dk_27 (dk_at dksX13_loudAt_0 8 rfl rfl)
theorem dX13_loudAt_9 : decode cX13_loudAt 9 = .ok (.iconst 1, 1) := dk_4 (dk_at dksX13_loudAt_0 9 rfl rfl)
theorem dX13_loudAt_10 : decode cX13_loudAt 10 = .ok (.invokevirtual 101, 3) := dk_182 0 101 (dk_at dksX13_loudAt_0 10 rfl rfl)
theorem dX13_loudAt_13 : decode cX13_loudAt 13 = .ok (.iload_n 2, 1) := dk_28 (dk_at dksX13_loudAt_0 13 rfl rfl)
theorem dX13_loudAt_14 : decode cX13_loudAt 14 = .ok (.invokevirtual 150, 3) := dk_182 0 150 (dk_at dksX13_loudAt_0 14 rfl rfl)
theorem dX13_loudAt_17 : decode cX13_loudAt 17 = .ok (.ireturn, 1) := dk_172 (dk_at dksX13_loudAt_0 17 rfl rfl)
abbrev cX13_loudOf : ByteArray := prog_16_method_34_code
def yX13_loudOf : MethodName := ⟨RX13, "loudOf", "(III)I"⟩
def dkwX13_loudOf_0 : List UInt8 := [3, 27, 6, 28, 29, 184, 0, 122, 104, 100, 184, 0, 132, 172]
abbrev dktX13_loudOf_0 : List UInt8 := dkwX13_loudOf_0 ++ []
theorem dksX13_loudOf_0 : cX13_loudOf.data.toList.drop 0 = dktX13_loudOf_0 := by decide +kernel
theorem dX13_loudOf_0 : decode cX13_loudOf 0 = .ok (.iconst 0, 1) := dk_3 (dk_at dksX13_loudOf_0 0 rfl rfl)
theorem dX13_loudOf_1 : decode cX13_loudOf 1 = .ok (.iload_n 1, 1) := dk_27 (dk_at dksX13_loudOf_0 1 rfl rfl)
theorem dX13_loudOf_2 : decode cX13_loudOf 2 = .ok (.iconst 3, 1) := dk_6 (dk_at dksX13_loudOf_0 2 rfl rfl)
theorem dX13_loudOf_3 : decode cX13_loudOf 3 = .ok (.iload_n 2, 1) := dk_28 (dk_at dksX13_loudOf_0 3 rfl rfl)
theorem dX13_loudOf_4 : decode cX13_loudOf 4 = .ok (.iload_n 3, 1) := dk_29 (dk_at dksX13_loudOf_0 4 rfl rfl)
theorem dX13_loudOf_5 : decode cX13_loudOf 5 = .ok (.invokestatic 122, 3) := dk_184 0 122 (dk_at dksX13_loudOf_0 5 rfl rfl)
theorem dX13_loudOf_8 : decode cX13_loudOf 8 = .ok (.imul, 1) := dk_104 (dk_at dksX13_loudOf_0 8 rfl rfl)
theorem dX13_loudOf_9 : decode cX13_loudOf 9 = .ok (.isub, 1) := dk_100 (dk_at dksX13_loudOf_0 9 rfl rfl)
theorem dX13_loudOf_10 : decode cX13_loudOf 10 = .ok (.invokestatic 132, 3) := dk_184 0 132 (dk_at dksX13_loudOf_0 10 rfl rfl)
theorem dX13_loudOf_13 : decode cX13_loudOf 13 = .ok (.ireturn, 1) := dk_172 (dk_at dksX13_loudOf_0 13 rfl rfl)
abbrev cX13_manyAt : ByteArray := prog_16_method_37_code
def yX13_manyAt : MethodName := ⟨RX13, "manyAt", "(I)I"⟩
def dkwX13_manyAt_1 : List UInt8 := [160, 0, 7, 4, 167, 0, 4, 3, 96, 61, 132, 3, 1, 167, 255, 225, 28, 172]
abbrev dktX13_manyAt_1 : List UInt8 := dkwX13_manyAt_1 ++ []
def dkwX13_manyAt_0 : List UInt8 := [3, 61, 3, 62, 29, 42, 180, 0, 9, 5, 46, 162, 0, 27, 28, 42, 29, 4, 182, 0, 101, 27]
abbrev dktX13_manyAt_0 : List UInt8 := dkwX13_manyAt_0 ++ dktX13_manyAt_1
theorem dksX13_manyAt_0 : cX13_manyAt.data.toList.drop 0 = dktX13_manyAt_0 := by decide +kernel
theorem dksX13_manyAt_1 : cX13_manyAt.data.toList.drop 22 = dktX13_manyAt_1 := dk_seg dksX13_manyAt_0 22 rfl rfl
theorem dX13_manyAt_0 : decode cX13_manyAt 0 = .ok (.iconst 0, 1) := dk_3 (dk_at dksX13_manyAt_0 0 rfl rfl)
theorem dX13_manyAt_1 : decode cX13_manyAt 1 = .ok (.istore_n 2, 1) := dk_61 (dk_at dksX13_manyAt_0 1 rfl rfl)
theorem dX13_manyAt_2 : decode cX13_manyAt 2 = .ok (.iconst 0, 1) := dk_3 (dk_at dksX13_manyAt_0 2 rfl rfl)
theorem dX13_manyAt_3 : decode cX13_manyAt 3 = .ok (.istore_n 3, 1) := dk_62 (dk_at dksX13_manyAt_0 3 rfl rfl)
theorem dX13_manyAt_4 : decode cX13_manyAt 4 = .ok (.iload_n 3, 1) := dk_29 (dk_at dksX13_manyAt_0 4 rfl rfl)
theorem dX13_manyAt_5 : decode cX13_manyAt 5 = .ok (.aload_n 0, 1) := dk_42 (dk_at dksX13_manyAt_0 5 rfl rfl)
theorem dX13_manyAt_6 : decode cX13_manyAt 6 = .ok (.getfield 9, 3) := dk_180 0 9 (dk_at dksX13_manyAt_0 6 rfl rfl)
theorem dX13_manyAt_9 : decode cX13_manyAt 9 = .ok (.iconst 2, 1) := dk_5 (dk_at dksX13_manyAt_0 9 rfl rfl)
theorem dX13_manyAt_10 : decode cX13_manyAt 10 = .ok (.iaload, 1) := dk_46 (dk_at dksX13_manyAt_0 10 rfl rfl)
theorem dX13_manyAt_11 : decode cX13_manyAt 11 = .ok (.if_icmp .ge 27, 3) := dk_162 0 27 (dk_at dksX13_manyAt_0 11 rfl rfl)
theorem dX13_manyAt_14 : decode cX13_manyAt 14 = .ok (.iload_n 2, 1) := dk_28 (dk_at dksX13_manyAt_0 14 rfl rfl)
theorem dX13_manyAt_15 : decode cX13_manyAt 15 = .ok (.aload_n 0, 1) := dk_42 (dk_at dksX13_manyAt_0 15 rfl rfl)
theorem dX13_manyAt_16 : decode cX13_manyAt 16 = .ok (.iload_n 3, 1) := dk_29 (dk_at dksX13_manyAt_0 16 rfl rfl)
theorem dX13_manyAt_17 : decode cX13_manyAt 17 = .ok (.iconst 1, 1) := dk_4 (dk_at dksX13_manyAt_0 17 rfl rfl)
theorem dX13_manyAt_18 : decode cX13_manyAt 18 = .ok (.invokevirtual 101, 3) := dk_182 0 101 (dk_at dksX13_manyAt_0 18 rfl rfl)
theorem dX13_manyAt_21 : decode cX13_manyAt 21 = .ok (.iload_n 1, 1) := dk_27 (dk_at dksX13_manyAt_0 21 rfl rfl)
theorem dX13_manyAt_22 : decode cX13_manyAt 22 = .ok (.if_icmp .ne 7, 3) := dk_160 0 7 (dk_at dksX13_manyAt_1 0 rfl rfl)
theorem dX13_manyAt_25 : decode cX13_manyAt 25 = .ok (.iconst 1, 1) := dk_4 (dk_at dksX13_manyAt_1 3 rfl rfl)
theorem dX13_manyAt_26 : decode cX13_manyAt 26 = .ok (.goto 4, 3) := dk_167 0 4 (dk_at dksX13_manyAt_1 4 rfl rfl)
theorem dX13_manyAt_29 : decode cX13_manyAt 29 = .ok (.iconst 0, 1) := dk_3 (dk_at dksX13_manyAt_1 7 rfl rfl)
theorem dX13_manyAt_30 : decode cX13_manyAt 30 = .ok (.iadd, 1) := dk_96 (dk_at dksX13_manyAt_1 8 rfl rfl)
theorem dX13_manyAt_31 : decode cX13_manyAt 31 = .ok (.istore_n 2, 1) := dk_61 (dk_at dksX13_manyAt_1 9 rfl rfl)
theorem dX13_manyAt_32 : decode cX13_manyAt 32 = .ok (.iinc 3 1, 3) := dk_132 3 1 (dk_at dksX13_manyAt_1 10 rfl rfl)
theorem dX13_manyAt_35 : decode cX13_manyAt 35 = .ok (.goto (-31), 3) := dk_167 255 225 (dk_at dksX13_manyAt_1 13 rfl rfl)
theorem dX13_manyAt_38 : decode cX13_manyAt 38 = .ok (.iload_n 2, 1) := dk_28 (dk_at dksX13_manyAt_1 16 rfl rfl)
theorem dX13_manyAt_39 : decode cX13_manyAt 39 = .ok (.ireturn, 1) := dk_172 (dk_at dksX13_manyAt_1 17 rfl rfl)
abbrev cX13_go : ByteArray := prog_16_method_42_code
def yX13_go : MethodName := ⟨RX13, "go", "(I)I"⟩
def dkwX13_go_2 : List UInt8 := [184, 0, 182, 172]
abbrev dktX13_go_2 : List UInt8 := dkwX13_go_2 ++ []
def dkwX13_go_1 : List UInt8 := [96, 18, 172, 164, 0, 10, 42, 18, 173, 182, 0, 88, 172, 42, 27, 182, 0, 174, 42, 182, 0, 178]
abbrev dktX13_go_1 : List UInt8 := dkwX13_go_1 ++ dktX13_go_2
def dkwX13_go_0 : List UInt8 := [27, 4, 16, 24, 184, 0, 74, 154, 0, 10, 42, 18, 69, 182, 0, 88, 172, 42, 180, 0, 9, 3, 46, 27]
abbrev dktX13_go_0 : List UInt8 := dkwX13_go_0 ++ dktX13_go_1
theorem dksX13_go_0 : cX13_go.data.toList.drop 0 = dktX13_go_0 := by decide +kernel
theorem dksX13_go_1 : cX13_go.data.toList.drop 24 = dktX13_go_1 := dk_seg dksX13_go_0 24 rfl rfl
theorem dksX13_go_2 : cX13_go.data.toList.drop 46 = dktX13_go_2 := dk_seg dksX13_go_1 22 rfl rfl
theorem dX13_go_0 : decode cX13_go 0 = .ok (.iload_n 1, 1) := dk_27 (dk_at dksX13_go_0 0 rfl rfl)
theorem dX13_go_1 : decode cX13_go 1 = .ok (.iconst 1, 1) := dk_4 (dk_at dksX13_go_0 1 rfl rfl)
theorem dX13_go_2 : decode cX13_go 2 = .ok (.bipush 24, 2) := dk_16 24 (dk_at dksX13_go_0 2 rfl rfl)
theorem dX13_go_4 : decode cX13_go 4 = .ok (.invokestatic 74, 3) := dk_184 0 74 (dk_at dksX13_go_0 4 rfl rfl)
theorem dX13_go_7 : decode cX13_go 7 = .ok (.ifCond .ne 10, 3) := dk_154 0 10 (dk_at dksX13_go_0 7 rfl rfl)
theorem dX13_go_10 : decode cX13_go 10 = .ok (.aload_n 0, 1) := dk_42 (dk_at dksX13_go_0 10 rfl rfl)
theorem dX13_go_11 : decode cX13_go 11 = .ok (.ldc 69, 2) := dk_18 69 (dk_at dksX13_go_0 11 rfl rfl)
theorem dX13_go_13 : decode cX13_go 13 = .ok (.invokevirtual 88, 3) := dk_182 0 88 (dk_at dksX13_go_0 13 rfl rfl)
theorem dX13_go_16 : decode cX13_go 16 = .ok (.ireturn, 1) := dk_172 (dk_at dksX13_go_0 16 rfl rfl)
theorem dX13_go_17 : decode cX13_go 17 = .ok (.aload_n 0, 1) := dk_42 (dk_at dksX13_go_0 17 rfl rfl)
theorem dX13_go_18 : decode cX13_go 18 = .ok (.getfield 9, 3) := dk_180 0 9 (dk_at dksX13_go_0 18 rfl rfl)
theorem dX13_go_21 : decode cX13_go 21 = .ok (.iconst 0, 1) := dk_3 (dk_at dksX13_go_0 21 rfl rfl)
theorem dX13_go_22 : decode cX13_go 22 = .ok (.iaload, 1) := dk_46 (dk_at dksX13_go_0 22 rfl rfl)
theorem dX13_go_23 : decode cX13_go 23 = .ok (.iload_n 1, 1) := dk_27 (dk_at dksX13_go_0 23 rfl rfl)
theorem dX13_go_24 : decode cX13_go 24 = .ok (.iadd, 1) := dk_96 (dk_at dksX13_go_1 0 rfl rfl)
theorem dX13_go_25 : decode cX13_go 25 = .ok (.ldc 172, 2) := dk_18 172 (dk_at dksX13_go_1 1 rfl rfl)
theorem dX13_go_27 : decode cX13_go 27 = .ok (.if_icmp .le 10, 3) := dk_164 0 10 (dk_at dksX13_go_1 3 rfl rfl)
theorem dX13_go_30 : decode cX13_go 30 = .ok (.aload_n 0, 1) := dk_42 (dk_at dksX13_go_1 6 rfl rfl)
theorem dX13_go_31 : decode cX13_go 31 = .ok (.ldc 173, 2) := dk_18 173 (dk_at dksX13_go_1 7 rfl rfl)
theorem dX13_go_33 : decode cX13_go 33 = .ok (.invokevirtual 88, 3) := dk_182 0 88 (dk_at dksX13_go_1 9 rfl rfl)
theorem dX13_go_36 : decode cX13_go 36 = .ok (.ireturn, 1) := dk_172 (dk_at dksX13_go_1 12 rfl rfl)
theorem dX13_go_37 : decode cX13_go 37 = .ok (.aload_n 0, 1) := dk_42 (dk_at dksX13_go_1 13 rfl rfl)
theorem dX13_go_38 : decode cX13_go 38 = .ok (.iload_n 1, 1) := dk_27 (dk_at dksX13_go_1 14 rfl rfl)
theorem dX13_go_39 : decode cX13_go 39 = .ok (.invokevirtual 174, 3) := dk_182 0 174 (dk_at dksX13_go_1 15 rfl rfl)
theorem dX13_go_42 : decode cX13_go 42 = .ok (.aload_n 0, 1) := dk_42 (dk_at dksX13_go_1 18 rfl rfl)
theorem dX13_go_43 : decode cX13_go 43 = .ok (.invokevirtual 178, 3) := dk_182 0 178 (dk_at dksX13_go_1 19 rfl rfl)
theorem dX13_go_46 : decode cX13_go 46 = .ok (.invokestatic 182, 3) := dk_184 0 182 (dk_at dksX13_go_2 0 rfl rfl)
theorem dX13_go_49 : decode cX13_go 49 = .ok (.ireturn, 1) := dk_172 (dk_at dksX13_go_2 3 rfl rfl)
abbrev cX13_hours : ByteArray := prog_16_method_41_code
def yX13_hours : MethodName := ⟨RX13, "hours", "(I)V"⟩
def dkwX13_hours_0 : List UInt8 := [3, 61, 28, 27, 162, 0, 13, 42, 182, 0, 169, 132, 2, 1, 167, 255, 244, 177]
abbrev dktX13_hours_0 : List UInt8 := dkwX13_hours_0 ++ []
theorem dksX13_hours_0 : cX13_hours.data.toList.drop 0 = dktX13_hours_0 := by decide +kernel
theorem dX13_hours_0 : decode cX13_hours 0 = .ok (.iconst 0, 1) := dk_3 (dk_at dksX13_hours_0 0 rfl rfl)
theorem dX13_hours_1 : decode cX13_hours 1 = .ok (.istore_n 2, 1) := dk_61 (dk_at dksX13_hours_0 1 rfl rfl)
theorem dX13_hours_2 : decode cX13_hours 2 = .ok (.iload_n 2, 1) := dk_28 (dk_at dksX13_hours_0 2 rfl rfl)
theorem dX13_hours_3 : decode cX13_hours 3 = .ok (.iload_n 1, 1) := dk_27 (dk_at dksX13_hours_0 3 rfl rfl)
theorem dX13_hours_4 : decode cX13_hours 4 = .ok (.if_icmp .ge 13, 3) := dk_162 0 13 (dk_at dksX13_hours_0 4 rfl rfl)
theorem dX13_hours_7 : decode cX13_hours 7 = .ok (.aload_n 0, 1) := dk_42 (dk_at dksX13_hours_0 7 rfl rfl)
theorem dX13_hours_8 : decode cX13_hours 8 = .ok (.invokevirtual 169, 3) := dk_182 0 169 (dk_at dksX13_hours_0 8 rfl rfl)
theorem dX13_hours_11 : decode cX13_hours 11 = .ok (.iinc 2 1, 3) := dk_132 2 1 (dk_at dksX13_hours_0 11 rfl rfl)
theorem dX13_hours_14 : decode cX13_hours 14 = .ok (.goto (-12), 3) := dk_167 255 244 (dk_at dksX13_hours_0 14 rfl rfl)
theorem dX13_hours_17 : decode cX13_hours 17 = .ok (.return_, 1) := dk_177 (dk_at dksX13_hours_0 17 rfl rfl)
abbrev cX13_hour : ByteArray := prog_16_method_40_code
def yX13_hour : MethodName := ⟨RX13, "hour", "()V"⟩
def dkwX13_hour_4 : List UInt8 := [167, 0, 4, 3, 79, 132, 1, 1, 167, 255, 161, 42, 180, 0, 9, 3, 92, 46, 4, 96, 79, 177]
abbrev dktX13_hour_4 : List UInt8 := dkwX13_hour_4 ++ []
def dkwX13_hour_3 : List UInt8 := [4, 184, 0, 98, 28, 79, 42, 180, 0, 9, 27, 7, 184, 0, 98, 42, 28, 182, 0, 166, 153, 0, 7, 4]
abbrev dktX13_hour_3 : List UInt8 := dkwX13_hour_3 ++ dktX13_hour_4
def dkwX13_hour_2 : List UInt8 := [160, 0, 11, 42, 28, 182, 0, 166, 153, 0, 7, 4, 167, 0, 4, 3, 181, 0, 162, 42, 180, 0, 9, 27]
abbrev dktX13_hour_2 : List UInt8 := dkwX13_hour_2 ++ dktX13_hour_3
def dkwX13_hour_1 : List UInt8 := [154, 0, 77, 42, 27, 182, 0, 144, 61, 42, 42, 180, 0, 162, 154, 0, 21, 28, 42, 27, 4, 182, 0, 101]
abbrev dktX13_hour_1 : List UInt8 := dkwX13_hour_1 ++ dktX13_hour_2
def dkwX13_hour_0 : List UInt8 := [42, 3, 181, 0, 162, 3, 60, 27, 42, 180, 0, 9, 5, 46, 162, 0, 91, 42, 27, 182, 0, 115]
abbrev dktX13_hour_0 : List UInt8 := dkwX13_hour_0 ++ dktX13_hour_1
theorem dksX13_hour_0 : cX13_hour.data.toList.drop 0 = dktX13_hour_0 := by decide +kernel
theorem dksX13_hour_1 : cX13_hour.data.toList.drop 22 = dktX13_hour_1 := dk_seg dksX13_hour_0 22 rfl rfl
theorem dksX13_hour_2 : cX13_hour.data.toList.drop 46 = dktX13_hour_2 := dk_seg dksX13_hour_1 24 rfl rfl
theorem dksX13_hour_3 : cX13_hour.data.toList.drop 70 = dktX13_hour_3 := dk_seg dksX13_hour_2 24 rfl rfl
theorem dksX13_hour_4 : cX13_hour.data.toList.drop 94 = dktX13_hour_4 := dk_seg dksX13_hour_3 24 rfl rfl
theorem dX13_hour_0 : decode cX13_hour 0 = .ok (.aload_n 0, 1) := dk_42 (dk_at dksX13_hour_0 0 rfl rfl)
theorem dX13_hour_1 : decode cX13_hour 1 = .ok (.iconst 0, 1) := dk_3 (dk_at dksX13_hour_0 1 rfl rfl)
theorem dX13_hour_2 : decode cX13_hour 2 = .ok (.putfield 162, 3) := dk_181 0 162 (dk_at dksX13_hour_0 2 rfl rfl)
theorem dX13_hour_5 : decode cX13_hour 5 = .ok (.iconst 0, 1) := dk_3 (dk_at dksX13_hour_0 5 rfl rfl)
theorem dX13_hour_6 : decode cX13_hour 6 = .ok (.istore_n 1, 1) := dk_60 (dk_at dksX13_hour_0 6 rfl rfl)
theorem dX13_hour_7 : decode cX13_hour 7 = .ok (.iload_n 1, 1) := dk_27 (dk_at dksX13_hour_0 7 rfl rfl)
theorem dX13_hour_8 : decode cX13_hour 8 = .ok (.aload_n 0, 1) := dk_42 (dk_at dksX13_hour_0 8 rfl rfl)
theorem dX13_hour_9 : decode cX13_hour 9 = .ok (.getfield 9, 3) := dk_180 0 9 (dk_at dksX13_hour_0 9 rfl rfl)
theorem dX13_hour_12 : decode cX13_hour 12 = .ok (.iconst 2, 1) := dk_5 (dk_at dksX13_hour_0 12 rfl rfl)
theorem dX13_hour_13 : decode cX13_hour 13 = .ok (.iaload, 1) := dk_46 (dk_at dksX13_hour_0 13 rfl rfl)
theorem dX13_hour_14 : decode cX13_hour 14 = .ok (.if_icmp .ge 91, 3) := dk_162 0 91 (dk_at dksX13_hour_0 14 rfl rfl)
theorem dX13_hour_17 : decode cX13_hour 17 = .ok (.aload_n 0, 1) := dk_42 (dk_at dksX13_hour_0 17 rfl rfl)
theorem dX13_hour_18 : decode cX13_hour 18 = .ok (.iload_n 1, 1) := dk_27 (dk_at dksX13_hour_0 18 rfl rfl)
theorem dX13_hour_19 : decode cX13_hour 19 = .ok (.invokevirtual 115, 3) := dk_182 0 115 (dk_at dksX13_hour_0 19 rfl rfl)
theorem dX13_hour_22 : decode cX13_hour 22 = .ok (.ifCond .ne 77, 3) := dk_154 0 77 (dk_at dksX13_hour_1 0 rfl rfl)
theorem dX13_hour_25 : decode cX13_hour 25 = .ok (.aload_n 0, 1) := dk_42 (dk_at dksX13_hour_1 3 rfl rfl)
theorem dX13_hour_26 : decode cX13_hour 26 = .ok (.iload_n 1, 1) := dk_27 (dk_at dksX13_hour_1 4 rfl rfl)
theorem dX13_hour_27 : decode cX13_hour 27 = .ok (.invokevirtual 144, 3) := dk_182 0 144 (dk_at dksX13_hour_1 5 rfl rfl)
theorem dX13_hour_30 : decode cX13_hour 30 = .ok (.istore_n 2, 1) := dk_61 (dk_at dksX13_hour_1 8 rfl rfl)
theorem dX13_hour_31 : decode cX13_hour 31 = .ok (.aload_n 0, 1) := dk_42 (dk_at dksX13_hour_1 9 rfl rfl)
theorem dX13_hour_32 : decode cX13_hour 32 = .ok (.aload_n 0, 1) := dk_42 (dk_at dksX13_hour_1 10 rfl rfl)
theorem dX13_hour_33 : decode cX13_hour 33 = .ok (.getfield 162, 3) := dk_180 0 162 (dk_at dksX13_hour_1 11 rfl rfl)
theorem dX13_hour_36 : decode cX13_hour 36 = .ok (.ifCond .ne 21, 3) := dk_154 0 21 (dk_at dksX13_hour_1 14 rfl rfl)
theorem dX13_hour_39 : decode cX13_hour 39 = .ok (.iload_n 2, 1) := dk_28 (dk_at dksX13_hour_1 17 rfl rfl)
theorem dX13_hour_40 : decode cX13_hour 40 = .ok (.aload_n 0, 1) := dk_42 (dk_at dksX13_hour_1 18 rfl rfl)
theorem dX13_hour_41 : decode cX13_hour 41 = .ok (.iload_n 1, 1) := dk_27 (dk_at dksX13_hour_1 19 rfl rfl)
theorem dX13_hour_42 : decode cX13_hour 42 = .ok (.iconst 1, 1) := dk_4 (dk_at dksX13_hour_1 20 rfl rfl)
theorem dX13_hour_43 : decode cX13_hour 43 = .ok (.invokevirtual 101, 3) := dk_182 0 101 (dk_at dksX13_hour_1 21 rfl rfl)
theorem dX13_hour_46 : decode cX13_hour 46 = .ok (.if_icmp .ne 11, 3) := dk_160 0 11 (dk_at dksX13_hour_2 0 rfl rfl)
theorem dX13_hour_49 : decode cX13_hour 49 = .ok (.aload_n 0, 1) := dk_42 (dk_at dksX13_hour_2 3 rfl rfl)
theorem dX13_hour_50 : decode cX13_hour 50 = .ok (.iload_n 2, 1) := dk_28 (dk_at dksX13_hour_2 4 rfl rfl)
theorem dX13_hour_51 : decode cX13_hour 51 = .ok (.invokevirtual 166, 3) := dk_182 0 166 (dk_at dksX13_hour_2 5 rfl rfl)
theorem dX13_hour_54 : decode cX13_hour 54 = .ok (.ifCond .eq 7, 3) := dk_153 0 7 (dk_at dksX13_hour_2 8 rfl rfl)
theorem dX13_hour_57 : decode cX13_hour 57 = .ok (.iconst 1, 1) := dk_4 (dk_at dksX13_hour_2 11 rfl rfl)
theorem dX13_hour_58 : decode cX13_hour 58 = .ok (.goto 4, 3) := dk_167 0 4 (dk_at dksX13_hour_2 12 rfl rfl)
theorem dX13_hour_61 : decode cX13_hour 61 = .ok (.iconst 0, 1) := dk_3 (dk_at dksX13_hour_2 15 rfl rfl)
theorem dX13_hour_62 : decode cX13_hour 62 = .ok (.putfield 162, 3) := dk_181 0 162 (dk_at dksX13_hour_2 16 rfl rfl)
theorem dX13_hour_65 : decode cX13_hour 65 = .ok (.aload_n 0, 1) := dk_42 (dk_at dksX13_hour_2 19 rfl rfl)
theorem dX13_hour_66 : decode cX13_hour 66 = .ok (.getfield 9, 3) := dk_180 0 9 (dk_at dksX13_hour_2 20 rfl rfl)
theorem dX13_hour_69 : decode cX13_hour 69 = .ok (.iload_n 1, 1) := dk_27 (dk_at dksX13_hour_2 23 rfl rfl)
theorem dX13_hour_70 : decode cX13_hour 70 = .ok (.iconst 1, 1) := dk_4 (dk_at dksX13_hour_3 0 rfl rfl)
theorem dX13_hour_71 : decode cX13_hour 71 = .ok (.invokestatic 98, 3) := dk_184 0 98 (dk_at dksX13_hour_3 1 rfl rfl)
theorem dX13_hour_74 : decode cX13_hour 74 = .ok (.iload_n 2, 1) := dk_28 (dk_at dksX13_hour_3 4 rfl rfl)
theorem dX13_hour_75 : decode cX13_hour 75 = .ok (.iastore, 1) := dk_79 (dk_at dksX13_hour_3 5 rfl rfl)
theorem dX13_hour_76 : decode cX13_hour 76 = .ok (.aload_n 0, 1) := dk_42 (dk_at dksX13_hour_3 6 rfl rfl)
theorem dX13_hour_77 : decode cX13_hour 77 = .ok (.getfield 9, 3) := dk_180 0 9 (dk_at dksX13_hour_3 7 rfl rfl)
theorem dX13_hour_80 : decode cX13_hour 80 = .ok (.iload_n 1, 1) := dk_27 (dk_at dksX13_hour_3 10 rfl rfl)
theorem dX13_hour_81 : decode cX13_hour 81 = .ok (.iconst 4, 1) := dk_7 (dk_at dksX13_hour_3 11 rfl rfl)
theorem dX13_hour_82 : decode cX13_hour 82 = .ok (.invokestatic 98, 3) := dk_184 0 98 (dk_at dksX13_hour_3 12 rfl rfl)
theorem dX13_hour_85 : decode cX13_hour 85 = .ok (.aload_n 0, 1) := dk_42 (dk_at dksX13_hour_3 15 rfl rfl)
theorem dX13_hour_86 : decode cX13_hour 86 = .ok (.iload_n 2, 1) := dk_28 (dk_at dksX13_hour_3 16 rfl rfl)
theorem dX13_hour_87 : decode cX13_hour 87 = .ok (.invokevirtual 166, 3) := dk_182 0 166 (dk_at dksX13_hour_3 17 rfl rfl)
theorem dX13_hour_90 : decode cX13_hour 90 = .ok (.ifCond .eq 7, 3) := dk_153 0 7 (dk_at dksX13_hour_3 20 rfl rfl)
theorem dX13_hour_93 : decode cX13_hour 93 = .ok (.iconst 1, 1) := dk_4 (dk_at dksX13_hour_3 23 rfl rfl)
theorem dX13_hour_94 : decode cX13_hour 94 = .ok (.goto 4, 3) := dk_167 0 4 (dk_at dksX13_hour_4 0 rfl rfl)
theorem dX13_hour_97 : decode cX13_hour 97 = .ok (.iconst 0, 1) := dk_3 (dk_at dksX13_hour_4 3 rfl rfl)
theorem dX13_hour_98 : decode cX13_hour 98 = .ok (.iastore, 1) := dk_79 (dk_at dksX13_hour_4 4 rfl rfl)
theorem dX13_hour_99 : decode cX13_hour 99 = .ok (.iinc 1 1, 3) := dk_132 1 1 (dk_at dksX13_hour_4 5 rfl rfl)
theorem dX13_hour_102 : decode cX13_hour 102 = .ok (.goto (-95), 3) := dk_167 255 161 (dk_at dksX13_hour_4 8 rfl rfl)
theorem dX13_hour_105 : decode cX13_hour 105 = .ok (.aload_n 0, 1) := dk_42 (dk_at dksX13_hour_4 11 rfl rfl)
theorem dX13_hour_106 : decode cX13_hour 106 = .ok (.getfield 9, 3) := dk_180 0 9 (dk_at dksX13_hour_4 12 rfl rfl)
theorem dX13_hour_109 : decode cX13_hour 109 = .ok (.iconst 0, 1) := dk_3 (dk_at dksX13_hour_4 15 rfl rfl)
theorem dX13_hour_110 : decode cX13_hour 110 = .ok (.dup2, 1) := dk_92 (dk_at dksX13_hour_4 16 rfl rfl)
theorem dX13_hour_111 : decode cX13_hour 111 = .ok (.iaload, 1) := dk_46 (dk_at dksX13_hour_4 17 rfl rfl)
theorem dX13_hour_112 : decode cX13_hour 112 = .ok (.iconst 1, 1) := dk_4 (dk_at dksX13_hour_4 18 rfl rfl)
theorem dX13_hour_113 : decode cX13_hour 113 = .ok (.iadd, 1) := dk_96 (dk_at dksX13_hour_4 19 rfl rfl)
theorem dX13_hour_114 : decode cX13_hour 114 = .ok (.iastore, 1) := dk_79 (dk_at dksX13_hour_4 20 rfl rfl)
theorem dX13_hour_115 : decode cX13_hour 115 = .ok (.return_, 1) := dk_177 (dk_at dksX13_hour_4 21 rfl rfl)
abbrev cX13_hasNet : ByteArray := prog_16_method_12_code
def yX13_hasNet : MethodName := ⟨RX13, "hasNet", "(I)Z"⟩
def dkwX13_hasNet_0 : List UInt8 := [42, 180, 0, 9, 16, 18, 27, 96, 46, 4, 160, 0, 7, 4, 167, 0, 4, 3, 172]
abbrev dktX13_hasNet_0 : List UInt8 := dkwX13_hasNet_0 ++ []
theorem dksX13_hasNet_0 : cX13_hasNet.data.toList.drop 0 = dktX13_hasNet_0 := by decide +kernel
theorem dX13_hasNet_0 : decode cX13_hasNet 0 = .ok (.aload_n 0, 1) := dk_42 (dk_at dksX13_hasNet_0 0 rfl rfl)
theorem dX13_hasNet_1 : decode cX13_hasNet 1 = .ok (.getfield 9, 3) := dk_180 0 9 (dk_at dksX13_hasNet_0 1 rfl rfl)
theorem dX13_hasNet_4 : decode cX13_hasNet 4 = .ok (.bipush 18, 2) := dk_16 18 (dk_at dksX13_hasNet_0 4 rfl rfl)
theorem dX13_hasNet_6 : decode cX13_hasNet 6 = .ok (.iload_n 1, 1) := dk_27 (dk_at dksX13_hasNet_0 6 rfl rfl)
theorem dX13_hasNet_7 : decode cX13_hasNet 7 = .ok (.iadd, 1) := dk_96 (dk_at dksX13_hasNet_0 7 rfl rfl)
theorem dX13_hasNet_8 : decode cX13_hasNet 8 = .ok (.iaload, 1) := dk_46 (dk_at dksX13_hasNet_0 8 rfl rfl)
theorem dX13_hasNet_9 : decode cX13_hasNet 9 = .ok (.iconst 1, 1) := dk_4 (dk_at dksX13_hasNet_0 9 rfl rfl)
theorem dX13_hasNet_10 : decode cX13_hasNet 10 = .ok (.if_icmp .ne 7, 3) := dk_160 0 7 (dk_at dksX13_hasNet_0 10 rfl rfl)
theorem dX13_hasNet_13 : decode cX13_hasNet 13 = .ok (.iconst 1, 1) := dk_4 (dk_at dksX13_hasNet_0 13 rfl rfl)
theorem dX13_hasNet_14 : decode cX13_hasNet 14 = .ok (.goto 4, 3) := dk_167 0 4 (dk_at dksX13_hasNet_0 14 rfl rfl)
theorem dX13_hasNet_17 : decode cX13_hasNet 17 = .ok (.iconst 0, 1) := dk_3 (dk_at dksX13_hasNet_0 17 rfl rfl)
theorem dX13_hasNet_18 : decode cX13_hasNet 18 = .ok (.ireturn, 1) := dk_172 (dk_at dksX13_hasNet_0 18 rfl rfl)
abbrev cX13_caughtNow : ByteArray := prog_16_method_39_code
def yX13_caughtNow : MethodName := ⟨RX13, "caughtNow", "()I"⟩
def dkwX13_caughtNow_1 : List UInt8 := [28, 120, 167, 0, 4, 3, 128, 60, 132, 2, 1, 167, 255, 225, 27, 172]
abbrev dktX13_caughtNow_1 : List UInt8 := dkwX13_caughtNow_1 ++ []
def dkwX13_caughtNow_0 : List UInt8 := [3, 60, 3, 61, 28, 42, 180, 0, 9, 5, 46, 162, 0, 27, 27, 42, 28, 182, 0, 115, 153, 0, 9, 4]
abbrev dktX13_caughtNow_0 : List UInt8 := dkwX13_caughtNow_0 ++ dktX13_caughtNow_1
theorem dksX13_caughtNow_0 : cX13_caughtNow.data.toList.drop 0 = dktX13_caughtNow_0 := by decide +kernel
theorem dksX13_caughtNow_1 : cX13_caughtNow.data.toList.drop 24 = dktX13_caughtNow_1 := dk_seg dksX13_caughtNow_0 24 rfl rfl
theorem dX13_caughtNow_0 : decode cX13_caughtNow 0 = .ok (.iconst 0, 1) := dk_3 (dk_at dksX13_caughtNow_0 0 rfl rfl)
theorem dX13_caughtNow_1 : decode cX13_caughtNow 1 = .ok (.istore_n 1, 1) := dk_60 (dk_at dksX13_caughtNow_0 1 rfl rfl)
theorem dX13_caughtNow_2 : decode cX13_caughtNow 2 = .ok (.iconst 0, 1) := dk_3 (dk_at dksX13_caughtNow_0 2 rfl rfl)
theorem dX13_caughtNow_3 : decode cX13_caughtNow 3 = .ok (.istore_n 2, 1) := dk_61 (dk_at dksX13_caughtNow_0 3 rfl rfl)
theorem dX13_caughtNow_4 : decode cX13_caughtNow 4 = .ok (.iload_n 2, 1) := dk_28 (dk_at dksX13_caughtNow_0 4 rfl rfl)
theorem dX13_caughtNow_5 : decode cX13_caughtNow 5 = .ok (.aload_n 0, 1) := dk_42 (dk_at dksX13_caughtNow_0 5 rfl rfl)
theorem dX13_caughtNow_6 : decode cX13_caughtNow 6 = .ok (.getfield 9, 3) := dk_180 0 9 (dk_at dksX13_caughtNow_0 6 rfl rfl)
theorem dX13_caughtNow_9 : decode cX13_caughtNow 9 = .ok (.iconst 2, 1) := dk_5 (dk_at dksX13_caughtNow_0 9 rfl rfl)
theorem dX13_caughtNow_10 : decode cX13_caughtNow 10 = .ok (.iaload, 1) := dk_46 (dk_at dksX13_caughtNow_0 10 rfl rfl)
theorem dX13_caughtNow_11 : decode cX13_caughtNow 11 = .ok (.if_icmp .ge 27, 3) := dk_162 0 27 (dk_at dksX13_caughtNow_0 11 rfl rfl)
theorem dX13_caughtNow_14 : decode cX13_caughtNow 14 = .ok (.iload_n 1, 1) := dk_27 (dk_at dksX13_caughtNow_0 14 rfl rfl)
theorem dX13_caughtNow_15 : decode cX13_caughtNow 15 = .ok (.aload_n 0, 1) := dk_42 (dk_at dksX13_caughtNow_0 15 rfl rfl)
theorem dX13_caughtNow_16 : decode cX13_caughtNow 16 = .ok (.iload_n 2, 1) := dk_28 (dk_at dksX13_caughtNow_0 16 rfl rfl)
theorem dX13_caughtNow_17 : decode cX13_caughtNow 17 = .ok (.invokevirtual 115, 3) := dk_182 0 115 (dk_at dksX13_caughtNow_0 17 rfl rfl)
theorem dX13_caughtNow_20 : decode cX13_caughtNow 20 = .ok (.ifCond .eq 9, 3) := dk_153 0 9 (dk_at dksX13_caughtNow_0 20 rfl rfl)
theorem dX13_caughtNow_23 : decode cX13_caughtNow 23 = .ok (.iconst 1, 1) := dk_4 (dk_at dksX13_caughtNow_0 23 rfl rfl)
theorem dX13_caughtNow_24 : decode cX13_caughtNow 24 = .ok (.iload_n 2, 1) := dk_28 (dk_at dksX13_caughtNow_1 0 rfl rfl)
theorem dX13_caughtNow_25 : decode cX13_caughtNow 25 = .ok (.ishl, 1) := dk_120 (dk_at dksX13_caughtNow_1 1 rfl rfl)
theorem dX13_caughtNow_26 : decode cX13_caughtNow 26 = .ok (.goto 4, 3) := dk_167 0 4 (dk_at dksX13_caughtNow_1 2 rfl rfl)
theorem dX13_caughtNow_29 : decode cX13_caughtNow 29 = .ok (.iconst 0, 1) := dk_3 (dk_at dksX13_caughtNow_1 5 rfl rfl)
theorem dX13_caughtNow_30 : decode cX13_caughtNow 30 = .ok (.ior, 1) := dk_128 (dk_at dksX13_caughtNow_1 6 rfl rfl)
theorem dX13_caughtNow_31 : decode cX13_caughtNow 31 = .ok (.istore_n 1, 1) := dk_60 (dk_at dksX13_caughtNow_1 7 rfl rfl)
theorem dX13_caughtNow_32 : decode cX13_caughtNow 32 = .ok (.iinc 2 1, 3) := dk_132 2 1 (dk_at dksX13_caughtNow_1 8 rfl rfl)
theorem dX13_caughtNow_35 : decode cX13_caughtNow 35 = .ok (.goto (-31), 3) := dk_167 255 225 (dk_at dksX13_caughtNow_1 11 rfl rfl)
theorem dX13_caughtNow_38 : decode cX13_caughtNow 38 = .ok (.iload_n 1, 1) := dk_27 (dk_at dksX13_caughtNow_1 14 rfl rfl)
theorem dX13_caughtNow_39 : decode cX13_caughtNow 39 = .ok (.ireturn, 1) := dk_172 (dk_at dksX13_caughtNow_1 15 rfl rfl)
abbrev cX13_bits : ByteArray := prog_16_method_8_code
def yX13_bits : MethodName := ⟨RX13, "bits", "(I)I"⟩
def dkwX13_bits_0 : List UInt8 := [3, 60, 26, 61, 28, 153, 0, 15, 132, 1, 1, 28, 28, 4, 100, 126, 61, 167, 255, 243, 27, 172]
abbrev dktX13_bits_0 : List UInt8 := dkwX13_bits_0 ++ []
theorem dksX13_bits_0 : cX13_bits.data.toList.drop 0 = dktX13_bits_0 := by decide +kernel
theorem dX13_bits_0 : decode cX13_bits 0 = .ok (.iconst 0, 1) := dk_3 (dk_at dksX13_bits_0 0 rfl rfl)
theorem dX13_bits_1 : decode cX13_bits 1 = .ok (.istore_n 1, 1) := dk_60 (dk_at dksX13_bits_0 1 rfl rfl)
theorem dX13_bits_2 : decode cX13_bits 2 = .ok (.iload_n 0, 1) := dk_26 (dk_at dksX13_bits_0 2 rfl rfl)
theorem dX13_bits_3 : decode cX13_bits 3 = .ok (.istore_n 2, 1) := dk_61 (dk_at dksX13_bits_0 3 rfl rfl)
theorem dX13_bits_4 : decode cX13_bits 4 = .ok (.iload_n 2, 1) := dk_28 (dk_at dksX13_bits_0 4 rfl rfl)
theorem dX13_bits_5 : decode cX13_bits 5 = .ok (.ifCond .eq 15, 3) := dk_153 0 15 (dk_at dksX13_bits_0 5 rfl rfl)
theorem dX13_bits_8 : decode cX13_bits 8 = .ok (.iinc 1 1, 3) := dk_132 1 1 (dk_at dksX13_bits_0 8 rfl rfl)
theorem dX13_bits_11 : decode cX13_bits 11 = .ok (.iload_n 2, 1) := dk_28 (dk_at dksX13_bits_0 11 rfl rfl)
theorem dX13_bits_12 : decode cX13_bits 12 = .ok (.iload_n 2, 1) := dk_28 (dk_at dksX13_bits_0 12 rfl rfl)
theorem dX13_bits_13 : decode cX13_bits 13 = .ok (.iconst 1, 1) := dk_4 (dk_at dksX13_bits_0 13 rfl rfl)
theorem dX13_bits_14 : decode cX13_bits 14 = .ok (.isub, 1) := dk_100 (dk_at dksX13_bits_0 14 rfl rfl)
theorem dX13_bits_15 : decode cX13_bits 15 = .ok (.iand, 1) := dk_126 (dk_at dksX13_bits_0 15 rfl rfl)
theorem dX13_bits_16 : decode cX13_bits 16 = .ok (.istore_n 2, 1) := dk_61 (dk_at dksX13_bits_0 16 rfl rfl)
theorem dX13_bits_17 : decode cX13_bits 17 = .ok (.goto (-13), 3) := dk_167 255 243 (dk_at dksX13_bits_0 17 rfl rfl)
theorem dX13_bits_20 : decode cX13_bits 20 = .ok (.iload_n 1, 1) := dk_27 (dk_at dksX13_bits_0 20 rfl rfl)
theorem dX13_bits_21 : decode cX13_bits 21 = .ok (.ireturn, 1) := dk_172 (dk_at dksX13_bits_0 21 rfl rfl)
abbrev cX13_now : ByteArray := prog_16_method_45_code
def yX13_now : MethodName := ⟨RX13, "now", "(I)I"⟩
def dkwX13_now_3 : List UInt8 := [42, 182, 0, 188, 172, 42, 18, 69, 182, 0, 88, 172]
abbrev dktX13_now_3 : List UInt8 := dkwX13_now_3 ++ []
def dkwX13_now_2 : List UInt8 := [42, 180, 0, 9, 3, 46, 172, 42, 182, 0, 178, 172, 42, 182, 0, 185, 172, 42, 180, 0, 9, 4, 46, 172]
abbrev dktX13_now_2 : List UInt8 := dkwX13_now_2 ++ dktX13_now_3
def dkwX13_now_1 : List UInt8 := [170, 0, 0, 0, 0, 0, 64, 0, 0, 0, 0, 0, 0, 0, 4, 0, 0, 0, 35, 0, 0, 0, 42, 0, 0, 0, 47, 0, 0, 0, 52, 0, 0, 0, 59]
abbrev dktX13_now_1 : List UInt8 := dkwX13_now_1 ++ dktX13_now_2
def dkwX13_now_0 : List UInt8 := [27]
abbrev dktX13_now_0 : List UInt8 := dkwX13_now_0 ++ dktX13_now_1
theorem dksX13_now_0 : cX13_now.data.toList.drop 0 = dktX13_now_0 := by decide +kernel
theorem dksX13_now_1 : cX13_now.data.toList.drop 1 = dktX13_now_1 := dk_seg dksX13_now_0 1 rfl rfl
theorem dksX13_now_2 : cX13_now.data.toList.drop 36 = dktX13_now_2 := dk_seg dksX13_now_1 35 rfl rfl
theorem dksX13_now_3 : cX13_now.data.toList.drop 60 = dktX13_now_3 := dk_seg dksX13_now_2 24 rfl rfl
theorem dX13_now_0 : decode cX13_now 0 = .ok (.iload_n 1, 1) := dk_27 (dk_at dksX13_now_0 0 rfl rfl)
theorem dX13_now_1 : decode cX13_now 1 = .ok (.tableswitch 64 0 4 #[35, 42, 47, 52, 59], 35) := by decide +kernel
theorem dX13_now_36 : decode cX13_now 36 = .ok (.aload_n 0, 1) := dk_42 (dk_at dksX13_now_2 0 rfl rfl)
theorem dX13_now_37 : decode cX13_now 37 = .ok (.getfield 9, 3) := dk_180 0 9 (dk_at dksX13_now_2 1 rfl rfl)
theorem dX13_now_40 : decode cX13_now 40 = .ok (.iconst 0, 1) := dk_3 (dk_at dksX13_now_2 4 rfl rfl)
theorem dX13_now_41 : decode cX13_now 41 = .ok (.iaload, 1) := dk_46 (dk_at dksX13_now_2 5 rfl rfl)
theorem dX13_now_42 : decode cX13_now 42 = .ok (.ireturn, 1) := dk_172 (dk_at dksX13_now_2 6 rfl rfl)
theorem dX13_now_43 : decode cX13_now 43 = .ok (.aload_n 0, 1) := dk_42 (dk_at dksX13_now_2 7 rfl rfl)
theorem dX13_now_44 : decode cX13_now 44 = .ok (.invokevirtual 178, 3) := dk_182 0 178 (dk_at dksX13_now_2 8 rfl rfl)
theorem dX13_now_47 : decode cX13_now 47 = .ok (.ireturn, 1) := dk_172 (dk_at dksX13_now_2 11 rfl rfl)
theorem dX13_now_48 : decode cX13_now 48 = .ok (.aload_n 0, 1) := dk_42 (dk_at dksX13_now_2 12 rfl rfl)
theorem dX13_now_49 : decode cX13_now 49 = .ok (.invokevirtual 185, 3) := dk_182 0 185 (dk_at dksX13_now_2 13 rfl rfl)
theorem dX13_now_52 : decode cX13_now 52 = .ok (.ireturn, 1) := dk_172 (dk_at dksX13_now_2 16 rfl rfl)
theorem dX13_now_53 : decode cX13_now 53 = .ok (.aload_n 0, 1) := dk_42 (dk_at dksX13_now_2 17 rfl rfl)
theorem dX13_now_54 : decode cX13_now 54 = .ok (.getfield 9, 3) := dk_180 0 9 (dk_at dksX13_now_2 18 rfl rfl)
theorem dX13_now_57 : decode cX13_now 57 = .ok (.iconst 1, 1) := dk_4 (dk_at dksX13_now_2 21 rfl rfl)
theorem dX13_now_58 : decode cX13_now 58 = .ok (.iaload, 1) := dk_46 (dk_at dksX13_now_2 22 rfl rfl)
theorem dX13_now_59 : decode cX13_now 59 = .ok (.ireturn, 1) := dk_172 (dk_at dksX13_now_2 23 rfl rfl)
theorem dX13_now_60 : decode cX13_now 60 = .ok (.aload_n 0, 1) := dk_42 (dk_at dksX13_now_3 0 rfl rfl)
theorem dX13_now_61 : decode cX13_now 61 = .ok (.invokevirtual 188, 3) := dk_182 0 188 (dk_at dksX13_now_3 1 rfl rfl)
theorem dX13_now_64 : decode cX13_now 64 = .ok (.ireturn, 1) := dk_172 (dk_at dksX13_now_3 4 rfl rfl)
theorem dX13_now_65 : decode cX13_now 65 = .ok (.aload_n 0, 1) := dk_42 (dk_at dksX13_now_3 5 rfl rfl)
theorem dX13_now_66 : decode cX13_now 66 = .ok (.ldc 69, 2) := dk_18 69 (dk_at dksX13_now_3 6 rfl rfl)
theorem dX13_now_68 : decode cX13_now 68 = .ok (.invokevirtual 88, 3) := dk_182 0 88 (dk_at dksX13_now_3 8 rfl rfl)
theorem dX13_now_71 : decode cX13_now 71 = .ok (.ireturn, 1) := dk_172 (dk_at dksX13_now_3 11 rfl rfl)
abbrev cX13_nets : ByteArray := prog_16_method_43_code
def yX13_nets : MethodName := ⟨RX13, "nets", "()I"⟩
def dkwX13_nets_1 : List UInt8 := [132, 2, 1, 167, 255, 235, 27, 172]
abbrev dktX13_nets_1 : List UInt8 := dkwX13_nets_1 ++ []
def dkwX13_nets_0 : List UInt8 := [3, 60, 3, 61, 28, 16, 64, 162, 0, 21, 27, 42, 180, 0, 9, 16, 18, 28, 96, 46, 96, 60]
abbrev dktX13_nets_0 : List UInt8 := dkwX13_nets_0 ++ dktX13_nets_1
theorem dksX13_nets_0 : cX13_nets.data.toList.drop 0 = dktX13_nets_0 := by decide +kernel
theorem dksX13_nets_1 : cX13_nets.data.toList.drop 22 = dktX13_nets_1 := dk_seg dksX13_nets_0 22 rfl rfl
theorem dX13_nets_0 : decode cX13_nets 0 = .ok (.iconst 0, 1) := dk_3 (dk_at dksX13_nets_0 0 rfl rfl)
theorem dX13_nets_1 : decode cX13_nets 1 = .ok (.istore_n 1, 1) := dk_60 (dk_at dksX13_nets_0 1 rfl rfl)
theorem dX13_nets_2 : decode cX13_nets 2 = .ok (.iconst 0, 1) := dk_3 (dk_at dksX13_nets_0 2 rfl rfl)
theorem dX13_nets_3 : decode cX13_nets 3 = .ok (.istore_n 2, 1) := dk_61 (dk_at dksX13_nets_0 3 rfl rfl)
theorem dX13_nets_4 : decode cX13_nets 4 = .ok (.iload_n 2, 1) := dk_28 (dk_at dksX13_nets_0 4 rfl rfl)
theorem dX13_nets_5 : decode cX13_nets 5 = .ok (.bipush 64, 2) := dk_16 64 (dk_at dksX13_nets_0 5 rfl rfl)
theorem dX13_nets_7 : decode cX13_nets 7 = .ok (.if_icmp .ge 21, 3) := dk_162 0 21 (dk_at dksX13_nets_0 7 rfl rfl)
theorem dX13_nets_10 : decode cX13_nets 10 = .ok (.iload_n 1, 1) := dk_27 (dk_at dksX13_nets_0 10 rfl rfl)
theorem dX13_nets_11 : decode cX13_nets 11 = .ok (.aload_n 0, 1) := dk_42 (dk_at dksX13_nets_0 11 rfl rfl)
theorem dX13_nets_12 : decode cX13_nets 12 = .ok (.getfield 9, 3) := dk_180 0 9 (dk_at dksX13_nets_0 12 rfl rfl)
theorem dX13_nets_15 : decode cX13_nets 15 = .ok (.bipush 18, 2) := dk_16 18 (dk_at dksX13_nets_0 15 rfl rfl)
theorem dX13_nets_17 : decode cX13_nets 17 = .ok (.iload_n 2, 1) := dk_28 (dk_at dksX13_nets_0 17 rfl rfl)
theorem dX13_nets_18 : decode cX13_nets 18 = .ok (.iadd, 1) := dk_96 (dk_at dksX13_nets_0 18 rfl rfl)
theorem dX13_nets_19 : decode cX13_nets 19 = .ok (.iaload, 1) := dk_46 (dk_at dksX13_nets_0 19 rfl rfl)
theorem dX13_nets_20 : decode cX13_nets 20 = .ok (.iadd, 1) := dk_96 (dk_at dksX13_nets_0 20 rfl rfl)
theorem dX13_nets_21 : decode cX13_nets 21 = .ok (.istore_n 1, 1) := dk_60 (dk_at dksX13_nets_0 21 rfl rfl)
theorem dX13_nets_22 : decode cX13_nets 22 = .ok (.iinc 2 1, 3) := dk_132 2 1 (dk_at dksX13_nets_1 0 rfl rfl)
theorem dX13_nets_25 : decode cX13_nets 25 = .ok (.goto (-21), 3) := dk_167 255 235 (dk_at dksX13_nets_1 3 rfl rfl)
theorem dX13_nets_28 : decode cX13_nets 28 = .ok (.iload_n 1, 1) := dk_27 (dk_at dksX13_nets_1 6 rfl rfl)
theorem dX13_nets_29 : decode cX13_nets 29 = .ok (.ireturn, 1) := dk_172 (dk_at dksX13_nets_1 7 rfl rfl)
abbrev cX13_caughtWeight : ByteArray := prog_16_method_44_code
def yX13_caughtWeight : MethodName := ⟨RX13, "caughtWeight", "()I"⟩
def dkwX13_caughtWeight_1 : List UInt8 := [28, 6, 182, 0, 101, 167, 0, 4, 3, 96, 60, 132, 2, 1, 167, 255, 222, 27, 172]
abbrev dktX13_caughtWeight_1 : List UInt8 := dkwX13_caughtWeight_1 ++ []
def dkwX13_caughtWeight_0 : List UInt8 := [3, 60, 3, 61, 28, 42, 180, 0, 9, 5, 46, 162, 0, 30, 27, 42, 28, 182, 0, 115, 153, 0, 12, 42]
abbrev dktX13_caughtWeight_0 : List UInt8 := dkwX13_caughtWeight_0 ++ dktX13_caughtWeight_1
theorem dksX13_caughtWeight_0 : cX13_caughtWeight.data.toList.drop 0 = dktX13_caughtWeight_0 := by decide +kernel
theorem dksX13_caughtWeight_1 : cX13_caughtWeight.data.toList.drop 24 = dktX13_caughtWeight_1 := dk_seg dksX13_caughtWeight_0 24 rfl rfl
theorem dX13_caughtWeight_0 : decode cX13_caughtWeight 0 = .ok (.iconst 0, 1) := dk_3 (dk_at dksX13_caughtWeight_0 0 rfl rfl)
theorem dX13_caughtWeight_1 : decode cX13_caughtWeight 1 = .ok (.istore_n 1, 1) := dk_60 (dk_at dksX13_caughtWeight_0 1 rfl rfl)
theorem dX13_caughtWeight_2 : decode cX13_caughtWeight 2 = .ok (.iconst 0, 1) := dk_3 (dk_at dksX13_caughtWeight_0 2 rfl rfl)
theorem dX13_caughtWeight_3 : decode cX13_caughtWeight 3 = .ok (.istore_n 2, 1) := dk_61 (dk_at dksX13_caughtWeight_0 3 rfl rfl)
theorem dX13_caughtWeight_4 : decode cX13_caughtWeight 4 = .ok (.iload_n 2, 1) := dk_28 (dk_at dksX13_caughtWeight_0 4 rfl rfl)
theorem dX13_caughtWeight_5 : decode cX13_caughtWeight 5 = .ok (.aload_n 0, 1) := dk_42 (dk_at dksX13_caughtWeight_0 5 rfl rfl)
theorem dX13_caughtWeight_6 : decode cX13_caughtWeight 6 = .ok (.getfield 9, 3) := dk_180 0 9 (dk_at dksX13_caughtWeight_0 6 rfl rfl)
theorem dX13_caughtWeight_9 : decode cX13_caughtWeight 9 = .ok (.iconst 2, 1) := dk_5 (dk_at dksX13_caughtWeight_0 9 rfl rfl)
theorem dX13_caughtWeight_10 : decode cX13_caughtWeight 10 = .ok (.iaload, 1) := dk_46 (dk_at dksX13_caughtWeight_0 10 rfl rfl)
theorem dX13_caughtWeight_11 : decode cX13_caughtWeight 11 = .ok (.if_icmp .ge 30, 3) := dk_162 0 30 (dk_at dksX13_caughtWeight_0 11 rfl rfl)
theorem dX13_caughtWeight_14 : decode cX13_caughtWeight 14 = .ok (.iload_n 1, 1) := dk_27 (dk_at dksX13_caughtWeight_0 14 rfl rfl)
theorem dX13_caughtWeight_15 : decode cX13_caughtWeight 15 = .ok (.aload_n 0, 1) := dk_42 (dk_at dksX13_caughtWeight_0 15 rfl rfl)
theorem dX13_caughtWeight_16 : decode cX13_caughtWeight 16 = .ok (.iload_n 2, 1) := dk_28 (dk_at dksX13_caughtWeight_0 16 rfl rfl)
theorem dX13_caughtWeight_17 : decode cX13_caughtWeight 17 = .ok (.invokevirtual 115, 3) := dk_182 0 115 (dk_at dksX13_caughtWeight_0 17 rfl rfl)
theorem dX13_caughtWeight_20 : decode cX13_caughtWeight 20 = .ok (.ifCond .eq 12, 3) := dk_153 0 12 (dk_at dksX13_caughtWeight_0 20 rfl rfl)
theorem dX13_caughtWeight_23 : decode cX13_caughtWeight 23 = .ok (.aload_n 0, 1) := dk_42 (dk_at dksX13_caughtWeight_0 23 rfl rfl)
theorem dX13_caughtWeight_24 : decode cX13_caughtWeight 24 = .ok (.iload_n 2, 1) := dk_28 (dk_at dksX13_caughtWeight_1 0 rfl rfl)
theorem dX13_caughtWeight_25 : decode cX13_caughtWeight 25 = .ok (.iconst 3, 1) := dk_6 (dk_at dksX13_caughtWeight_1 1 rfl rfl)
theorem dX13_caughtWeight_26 : decode cX13_caughtWeight 26 = .ok (.invokevirtual 101, 3) := dk_182 0 101 (dk_at dksX13_caughtWeight_1 2 rfl rfl)
theorem dX13_caughtWeight_29 : decode cX13_caughtWeight 29 = .ok (.goto 4, 3) := dk_167 0 4 (dk_at dksX13_caughtWeight_1 5 rfl rfl)
theorem dX13_caughtWeight_32 : decode cX13_caughtWeight 32 = .ok (.iconst 0, 1) := dk_3 (dk_at dksX13_caughtWeight_1 8 rfl rfl)
theorem dX13_caughtWeight_33 : decode cX13_caughtWeight 33 = .ok (.iadd, 1) := dk_96 (dk_at dksX13_caughtWeight_1 9 rfl rfl)
theorem dX13_caughtWeight_34 : decode cX13_caughtWeight 34 = .ok (.istore_n 1, 1) := dk_60 (dk_at dksX13_caughtWeight_1 10 rfl rfl)
theorem dX13_caughtWeight_35 : decode cX13_caughtWeight 35 = .ok (.iinc 2 1, 3) := dk_132 2 1 (dk_at dksX13_caughtWeight_1 11 rfl rfl)
theorem dX13_caughtWeight_38 : decode cX13_caughtWeight 38 = .ok (.goto (-34), 3) := dk_167 255 222 (dk_at dksX13_caughtWeight_1 14 rfl rfl)
theorem dX13_caughtWeight_41 : decode cX13_caughtWeight 41 = .ok (.iload_n 1, 1) := dk_27 (dk_at dksX13_caughtWeight_1 17 rfl rfl)
theorem dX13_caughtWeight_42 : decode cX13_caughtWeight 42 = .ok (.ireturn, 1) := dk_172 (dk_at dksX13_caughtWeight_1 18 rfl rfl)
abbrev cX13_loud : ByteArray := prog_16_method_46_code
def yX13_loud : MethodName := ⟨RX13, "loud", "(II)I"⟩
def dkwX13_loud_1 : List UInt8 := [42, 18, 69, 182, 0, 88, 172]
abbrev dktX13_loud_1 : List UInt8 := dkwX13_loud_1 ++ []
def dkwX13_loud_0 : List UInt8 := [42, 27, 182, 0, 141, 153, 0, 19, 28, 184, 0, 84, 153, 0, 12, 42, 27, 28, 182, 0, 153, 167, 0, 9]
abbrev dktX13_loud_0 : List UInt8 := dkwX13_loud_0 ++ dktX13_loud_1
theorem dksX13_loud_0 : cX13_loud.data.toList.drop 0 = dktX13_loud_0 := by decide +kernel
theorem dksX13_loud_1 : cX13_loud.data.toList.drop 24 = dktX13_loud_1 := dk_seg dksX13_loud_0 24 rfl rfl
theorem dX13_loud_0 : decode cX13_loud 0 = .ok (.aload_n 0, 1) := dk_42 (dk_at dksX13_loud_0 0 rfl rfl)
theorem dX13_loud_1 : decode cX13_loud 1 = .ok (.iload_n 1, 1) := dk_27 (dk_at dksX13_loud_0 1 rfl rfl)
theorem dX13_loud_2 : decode cX13_loud 2 = .ok (.invokevirtual 141, 3) := dk_182 0 141 (dk_at dksX13_loud_0 2 rfl rfl)
theorem dX13_loud_5 : decode cX13_loud 5 = .ok (.ifCond .eq 19, 3) := dk_153 0 19 (dk_at dksX13_loud_0 5 rfl rfl)
theorem dX13_loud_8 : decode cX13_loud 8 = .ok (.iload_n 2, 1) := dk_28 (dk_at dksX13_loud_0 8 rfl rfl)
theorem dX13_loud_9 : decode cX13_loud 9 = .ok (.invokestatic 84, 3) := dk_184 0 84 (dk_at dksX13_loud_0 9 rfl rfl)
theorem dX13_loud_12 : decode cX13_loud 12 = .ok (.ifCond .eq 12, 3) := dk_153 0 12 (dk_at dksX13_loud_0 12 rfl rfl)
theorem dX13_loud_15 : decode cX13_loud 15 = .ok (.aload_n 0, 1) := dk_42 (dk_at dksX13_loud_0 15 rfl rfl)
theorem dX13_loud_16 : decode cX13_loud 16 = .ok (.iload_n 1, 1) := dk_27 (dk_at dksX13_loud_0 16 rfl rfl)
theorem dX13_loud_17 : decode cX13_loud 17 = .ok (.iload_n 2, 1) := dk_28 (dk_at dksX13_loud_0 17 rfl rfl)
theorem dX13_loud_18 : decode cX13_loud 18 = .ok (.invokevirtual 153, 3) := dk_182 0 153 (dk_at dksX13_loud_0 18 rfl rfl)
theorem dX13_loud_21 : decode cX13_loud 21 = .ok (.goto 9, 3) := dk_167 0 9 (dk_at dksX13_loud_0 21 rfl rfl)
theorem dX13_loud_24 : decode cX13_loud 24 = .ok (.aload_n 0, 1) := dk_42 (dk_at dksX13_loud_1 0 rfl rfl)
theorem dX13_loud_25 : decode cX13_loud 25 = .ok (.ldc 69, 2) := dk_18 69 (dk_at dksX13_loud_1 1 rfl rfl)
theorem dX13_loud_27 : decode cX13_loud 27 = .ok (.invokevirtual 88, 3) := dk_182 0 88 (dk_at dksX13_loud_1 3 rfl rfl)
theorem dX13_loud_30 : decode cX13_loud 30 = .ok (.ireturn, 1) := dk_172 (dk_at dksX13_loud_1 6 rfl rfl)
abbrev cX13_ahead : ByteArray := prog_16_method_48_code
def yX13_ahead : MethodName := ⟨RX13, "ahead", "(II)I"⟩
def dkwX13_ahead_1 : List UInt8 := [182, 0, 194, 167, 0, 9, 42, 18, 69, 182, 0, 88, 172]
abbrev dktX13_ahead_1 : List UInt8 := dkwX13_ahead_1 ++ []
def dkwX13_ahead_0 : List UInt8 := [42, 27, 182, 0, 141, 153, 0, 23, 28, 3, 16, 60, 184, 0, 74, 153, 0, 13, 42, 27, 28, 4]
abbrev dktX13_ahead_0 : List UInt8 := dkwX13_ahead_0 ++ dktX13_ahead_1
theorem dksX13_ahead_0 : cX13_ahead.data.toList.drop 0 = dktX13_ahead_0 := by decide +kernel
theorem dksX13_ahead_1 : cX13_ahead.data.toList.drop 22 = dktX13_ahead_1 := dk_seg dksX13_ahead_0 22 rfl rfl
theorem dX13_ahead_0 : decode cX13_ahead 0 = .ok (.aload_n 0, 1) := dk_42 (dk_at dksX13_ahead_0 0 rfl rfl)
theorem dX13_ahead_1 : decode cX13_ahead 1 = .ok (.iload_n 1, 1) := dk_27 (dk_at dksX13_ahead_0 1 rfl rfl)
theorem dX13_ahead_2 : decode cX13_ahead 2 = .ok (.invokevirtual 141, 3) := dk_182 0 141 (dk_at dksX13_ahead_0 2 rfl rfl)
theorem dX13_ahead_5 : decode cX13_ahead 5 = .ok (.ifCond .eq 23, 3) := dk_153 0 23 (dk_at dksX13_ahead_0 5 rfl rfl)
theorem dX13_ahead_8 : decode cX13_ahead 8 = .ok (.iload_n 2, 1) := dk_28 (dk_at dksX13_ahead_0 8 rfl rfl)
theorem dX13_ahead_9 : decode cX13_ahead 9 = .ok (.iconst 0, 1) := dk_3 (dk_at dksX13_ahead_0 9 rfl rfl)
theorem dX13_ahead_10 : decode cX13_ahead 10 = .ok (.bipush 60, 2) := dk_16 60 (dk_at dksX13_ahead_0 10 rfl rfl)
theorem dX13_ahead_12 : decode cX13_ahead 12 = .ok (.invokestatic 74, 3) := dk_184 0 74 (dk_at dksX13_ahead_0 12 rfl rfl)
theorem dX13_ahead_15 : decode cX13_ahead 15 = .ok (.ifCond .eq 13, 3) := dk_153 0 13 (dk_at dksX13_ahead_0 15 rfl rfl)
theorem dX13_ahead_18 : decode cX13_ahead 18 = .ok (.aload_n 0, 1) := dk_42 (dk_at dksX13_ahead_0 18 rfl rfl)
theorem dX13_ahead_19 : decode cX13_ahead 19 = .ok (.iload_n 1, 1) := dk_27 (dk_at dksX13_ahead_0 19 rfl rfl)
theorem dX13_ahead_20 : decode cX13_ahead 20 = .ok (.iload_n 2, 1) := dk_28 (dk_at dksX13_ahead_0 20 rfl rfl)
theorem dX13_ahead_21 : decode cX13_ahead 21 = .ok (.iconst 1, 1) := dk_4 (dk_at dksX13_ahead_0 21 rfl rfl)
theorem dX13_ahead_22 : decode cX13_ahead 22 = .ok (.invokevirtual 194, 3) := dk_182 0 194 (dk_at dksX13_ahead_1 0 rfl rfl)
theorem dX13_ahead_25 : decode cX13_ahead 25 = .ok (.goto 9, 3) := dk_167 0 9 (dk_at dksX13_ahead_1 3 rfl rfl)
theorem dX13_ahead_28 : decode cX13_ahead 28 = .ok (.aload_n 0, 1) := dk_42 (dk_at dksX13_ahead_1 6 rfl rfl)
theorem dX13_ahead_29 : decode cX13_ahead 29 = .ok (.ldc 69, 2) := dk_18 69 (dk_at dksX13_ahead_1 7 rfl rfl)
theorem dX13_ahead_31 : decode cX13_ahead 31 = .ok (.invokevirtual 88, 3) := dk_182 0 88 (dk_at dksX13_ahead_1 9 rfl rfl)
theorem dX13_ahead_34 : decode cX13_ahead 34 = .ok (.ireturn, 1) := dk_172 (dk_at dksX13_ahead_1 12 rfl rfl)
abbrev cX13_fieldBehind : ByteArray := prog_16_method_47_code
def yX13_fieldBehind : MethodName := ⟨RX13, "fieldBehind", "(III)I"⟩
def dkwX13_fieldBehind_1 : List UInt8 := [182, 0, 191, 172]
abbrev dktX13_fieldBehind_1 : List UInt8 := dkwX13_fieldBehind_1 ++ []
def dkwX13_fieldBehind_0 : List UInt8 := [42, 180, 0, 9, 42, 180, 0, 16, 184, 0, 70, 42, 28, 182, 0, 174, 42, 42, 27, 29, 182, 0, 101]
abbrev dktX13_fieldBehind_0 : List UInt8 := dkwX13_fieldBehind_0 ++ dktX13_fieldBehind_1
theorem dksX13_fieldBehind_0 : cX13_fieldBehind.data.toList.drop 0 = dktX13_fieldBehind_0 := by decide +kernel
theorem dksX13_fieldBehind_1 : cX13_fieldBehind.data.toList.drop 23 = dktX13_fieldBehind_1 := dk_seg dksX13_fieldBehind_0 23 rfl rfl
theorem dX13_fieldBehind_0 : decode cX13_fieldBehind 0 = .ok (.aload_n 0, 1) := dk_42 (dk_at dksX13_fieldBehind_0 0 rfl rfl)
theorem dX13_fieldBehind_1 : decode cX13_fieldBehind 1 = .ok (.getfield 9, 3) := dk_180 0 9 (dk_at dksX13_fieldBehind_0 1 rfl rfl)
theorem dX13_fieldBehind_4 : decode cX13_fieldBehind 4 = .ok (.aload_n 0, 1) := dk_42 (dk_at dksX13_fieldBehind_0 4 rfl rfl)
theorem dX13_fieldBehind_5 : decode cX13_fieldBehind 5 = .ok (.getfield 16, 3) := dk_180 0 16 (dk_at dksX13_fieldBehind_0 5 rfl rfl)
theorem dX13_fieldBehind_8 : decode cX13_fieldBehind 8 = .ok (.invokestatic 70, 3) := dk_184 0 70 (dk_at dksX13_fieldBehind_0 8 rfl rfl)
theorem dX13_fieldBehind_11 : decode cX13_fieldBehind 11 = .ok (.aload_n 0, 1) := dk_42 (dk_at dksX13_fieldBehind_0 11 rfl rfl)
theorem dX13_fieldBehind_12 : decode cX13_fieldBehind 12 = .ok (.iload_n 2, 1) := dk_28 (dk_at dksX13_fieldBehind_0 12 rfl rfl)
theorem dX13_fieldBehind_13 : decode cX13_fieldBehind 13 = .ok (.invokevirtual 174, 3) := dk_182 0 174 (dk_at dksX13_fieldBehind_0 13 rfl rfl)
theorem dX13_fieldBehind_16 : decode cX13_fieldBehind 16 = .ok (.aload_n 0, 1) := dk_42 (dk_at dksX13_fieldBehind_0 16 rfl rfl)
theorem dX13_fieldBehind_17 : decode cX13_fieldBehind 17 = .ok (.aload_n 0, 1) := dk_42 (dk_at dksX13_fieldBehind_0 17 rfl rfl)
theorem dX13_fieldBehind_18 : decode cX13_fieldBehind 18 = .ok (.iload_n 1, 1) := dk_27 (dk_at dksX13_fieldBehind_0 18 rfl rfl)
theorem dX13_fieldBehind_19 : decode cX13_fieldBehind 19 = .ok (.iload_n 3, 1) := dk_29 (dk_at dksX13_fieldBehind_0 19 rfl rfl)
theorem dX13_fieldBehind_20 : decode cX13_fieldBehind 20 = .ok (.invokevirtual 101, 3) := dk_182 0 101 (dk_at dksX13_fieldBehind_0 20 rfl rfl)
theorem dX13_fieldBehind_23 : decode cX13_fieldBehind 23 = .ok (.invokevirtual 191, 3) := dk_182 0 191 (dk_at dksX13_fieldBehind_1 0 rfl rfl)
theorem dX13_fieldBehind_26 : decode cX13_fieldBehind 26 = .ok (.ireturn, 1) := dk_172 (dk_at dksX13_fieldBehind_1 3 rfl rfl)
abbrev cX13_copyRow : ByteArray := prog_16_method_5_code
def yX13_copyRow : MethodName := ⟨RX13, "copyRow", "([I[I)V"⟩
def dkwX13_copyRow_0 : List UInt8 := [3, 61, 28, 17, 0, 186, 162, 0, 15, 43, 28, 42, 28, 46, 79, 132, 2, 1, 167, 255, 240, 177]
abbrev dktX13_copyRow_0 : List UInt8 := dkwX13_copyRow_0 ++ []
theorem dksX13_copyRow_0 : cX13_copyRow.data.toList.drop 0 = dktX13_copyRow_0 := by decide +kernel
theorem dX13_copyRow_0 : decode cX13_copyRow 0 = .ok (.iconst 0, 1) := dk_3 (dk_at dksX13_copyRow_0 0 rfl rfl)
theorem dX13_copyRow_1 : decode cX13_copyRow 1 = .ok (.istore_n 2, 1) := dk_61 (dk_at dksX13_copyRow_0 1 rfl rfl)
theorem dX13_copyRow_2 : decode cX13_copyRow 2 = .ok (.iload_n 2, 1) := dk_28 (dk_at dksX13_copyRow_0 2 rfl rfl)
theorem dX13_copyRow_3 : decode cX13_copyRow 3 = .ok (.sipush 186, 3) := dk_17 0 186 (dk_at dksX13_copyRow_0 3 rfl rfl)
theorem dX13_copyRow_6 : decode cX13_copyRow 6 = .ok (.if_icmp .ge 15, 3) := dk_162 0 15 (dk_at dksX13_copyRow_0 6 rfl rfl)
theorem dX13_copyRow_9 : decode cX13_copyRow 9 = .ok (.aload_n 1, 1) := dk_43 (dk_at dksX13_copyRow_0 9 rfl rfl)
theorem dX13_copyRow_10 : decode cX13_copyRow 10 = .ok (.iload_n 2, 1) := dk_28 (dk_at dksX13_copyRow_0 10 rfl rfl)
theorem dX13_copyRow_11 : decode cX13_copyRow 11 = .ok (.aload_n 0, 1) := dk_42 (dk_at dksX13_copyRow_0 11 rfl rfl)
theorem dX13_copyRow_12 : decode cX13_copyRow 12 = .ok (.iload_n 2, 1) := dk_28 (dk_at dksX13_copyRow_0 12 rfl rfl)
theorem dX13_copyRow_13 : decode cX13_copyRow 13 = .ok (.iaload, 1) := dk_46 (dk_at dksX13_copyRow_0 13 rfl rfl)
theorem dX13_copyRow_14 : decode cX13_copyRow 14 = .ok (.iastore, 1) := dk_79 (dk_at dksX13_copyRow_0 14 rfl rfl)
theorem dX13_copyRow_15 : decode cX13_copyRow 15 = .ok (.iinc 2 1, 3) := dk_132 2 1 (dk_at dksX13_copyRow_0 15 rfl rfl)
theorem dX13_copyRow_18 : decode cX13_copyRow 18 = .ok (.goto (-16), 3) := dk_167 255 240 (dk_at dksX13_copyRow_0 18 rfl rfl)
theorem dX13_copyRow_21 : decode cX13_copyRow 21 = .ok (.return_, 1) := dk_177 (dk_at dksX13_copyRow_0 21 rfl rfl)
abbrev cX13_putBack : ByteArray := prog_16_method_6_code
def yX13_putBack : MethodName := ⟨RX13, "putBack", "(I)I"⟩
def dkwX13_putBack_0 : List UInt8 := [42, 180, 0, 16, 42, 180, 0, 9, 184, 0, 70, 27, 172]
abbrev dktX13_putBack_0 : List UInt8 := dkwX13_putBack_0 ++ []
theorem dksX13_putBack_0 : cX13_putBack.data.toList.drop 0 = dktX13_putBack_0 := by decide +kernel
theorem dX13_putBack_0 : decode cX13_putBack 0 = .ok (.aload_n 0, 1) := dk_42 (dk_at dksX13_putBack_0 0 rfl rfl)
theorem dX13_putBack_1 : decode cX13_putBack 1 = .ok (.getfield 16, 3) := dk_180 0 16 (dk_at dksX13_putBack_0 1 rfl rfl)
theorem dX13_putBack_4 : decode cX13_putBack 4 = .ok (.aload_n 0, 1) := dk_42 (dk_at dksX13_putBack_0 4 rfl rfl)
theorem dX13_putBack_5 : decode cX13_putBack 5 = .ok (.getfield 9, 3) := dk_180 0 9 (dk_at dksX13_putBack_0 5 rfl rfl)
theorem dX13_putBack_8 : decode cX13_putBack 8 = .ok (.invokestatic 70, 3) := dk_184 0 70 (dk_at dksX13_putBack_0 8 rfl rfl)
theorem dX13_putBack_11 : decode cX13_putBack 11 = .ok (.iload_n 1, 1) := dk_27 (dk_at dksX13_putBack_0 11 rfl rfl)
theorem dX13_putBack_12 : decode cX13_putBack 12 = .ok (.ireturn, 1) := dk_172 (dk_at dksX13_putBack_0 12 rfl rfl)
abbrev cX13_when : ByteArray := prog_16_method_51_code
def yX13_when : MethodName := ⟨RX13, "when", "(I)I"⟩
def dkwX13_when_1 : List UInt8 := [18, 69, 182, 0, 88, 172]
abbrev dktX13_when_1 : List UInt8 := dkwX13_when_1 ++ []
def dkwX13_when_0 : List UInt8 := [42, 27, 182, 0, 141, 153, 0, 17, 42, 42, 27, 16, 60, 182, 0, 199, 182, 0, 202, 167, 0, 9, 42]
abbrev dktX13_when_0 : List UInt8 := dkwX13_when_0 ++ dktX13_when_1
theorem dksX13_when_0 : cX13_when.data.toList.drop 0 = dktX13_when_0 := by decide +kernel
theorem dksX13_when_1 : cX13_when.data.toList.drop 23 = dktX13_when_1 := dk_seg dksX13_when_0 23 rfl rfl
theorem dX13_when_0 : decode cX13_when 0 = .ok (.aload_n 0, 1) := dk_42 (dk_at dksX13_when_0 0 rfl rfl)
theorem dX13_when_1 : decode cX13_when 1 = .ok (.iload_n 1, 1) := dk_27 (dk_at dksX13_when_0 1 rfl rfl)
theorem dX13_when_2 : decode cX13_when 2 = .ok (.invokevirtual 141, 3) := dk_182 0 141 (dk_at dksX13_when_0 2 rfl rfl)
theorem dX13_when_5 : decode cX13_when 5 = .ok (.ifCond .eq 17, 3) := dk_153 0 17 (dk_at dksX13_when_0 5 rfl rfl)
theorem dX13_when_8 : decode cX13_when 8 = .ok (.aload_n 0, 1) := dk_42 (dk_at dksX13_when_0 8 rfl rfl)
theorem dX13_when_9 : decode cX13_when 9 = .ok (.aload_n 0, 1) := dk_42 (dk_at dksX13_when_0 9 rfl rfl)
theorem dX13_when_10 : decode cX13_when 10 = .ok (.iload_n 1, 1) := dk_27 (dk_at dksX13_when_0 10 rfl rfl)
theorem dX13_when_11 : decode cX13_when 11 = .ok (.bipush 60, 2) := dk_16 60 (dk_at dksX13_when_0 11 rfl rfl)
theorem dX13_when_13 : decode cX13_when 13 = .ok (.invokevirtual 199, 3) := dk_182 0 199 (dk_at dksX13_when_0 13 rfl rfl)
theorem dX13_when_16 : decode cX13_when 16 = .ok (.invokevirtual 202, 3) := dk_182 0 202 (dk_at dksX13_when_0 16 rfl rfl)
theorem dX13_when_19 : decode cX13_when 19 = .ok (.goto 9, 3) := dk_167 0 9 (dk_at dksX13_when_0 19 rfl rfl)
theorem dX13_when_22 : decode cX13_when 22 = .ok (.aload_n 0, 1) := dk_42 (dk_at dksX13_when_0 22 rfl rfl)
theorem dX13_when_23 : decode cX13_when 23 = .ok (.ldc 69, 2) := dk_18 69 (dk_at dksX13_when_1 0 rfl rfl)
theorem dX13_when_25 : decode cX13_when 25 = .ok (.invokevirtual 88, 3) := dk_182 0 88 (dk_at dksX13_when_1 2 rfl rfl)
theorem dX13_when_28 : decode cX13_when 28 = .ok (.ireturn, 1) := dk_172 (dk_at dksX13_when_1 5 rfl rfl)
abbrev cX13_caughtIn : ByteArray := prog_16_method_49_code
def yX13_caughtIn : MethodName := ⟨RX13, "caughtIn", "(II)I"⟩
def dkwX13_caughtIn_2 : List UInt8 := [167, 0, 5, 18, 197, 182, 0, 191, 172]
abbrev dktX13_caughtIn_2 : List UInt8 := dkwX13_caughtIn_2 ++ []
def dkwX13_caughtIn_1 : List UInt8 := [154, 0, 13, 42, 182, 0, 169, 132, 3, 1, 167, 255, 236, 42, 42, 27, 182, 0, 115, 153, 0, 7, 29]
abbrev dktX13_caughtIn_1 : List UInt8 := dkwX13_caughtIn_1 ++ dktX13_caughtIn_2
def dkwX13_caughtIn_0 : List UInt8 := [42, 180, 0, 9, 42, 180, 0, 16, 184, 0, 70, 3, 62, 29, 28, 162, 0, 21, 42, 27, 182, 0, 115]
abbrev dktX13_caughtIn_0 : List UInt8 := dkwX13_caughtIn_0 ++ dktX13_caughtIn_1
theorem dksX13_caughtIn_0 : cX13_caughtIn.data.toList.drop 0 = dktX13_caughtIn_0 := by decide +kernel
theorem dksX13_caughtIn_1 : cX13_caughtIn.data.toList.drop 23 = dktX13_caughtIn_1 := dk_seg dksX13_caughtIn_0 23 rfl rfl
theorem dksX13_caughtIn_2 : cX13_caughtIn.data.toList.drop 46 = dktX13_caughtIn_2 := dk_seg dksX13_caughtIn_1 23 rfl rfl
theorem dX13_caughtIn_0 : decode cX13_caughtIn 0 = .ok (.aload_n 0, 1) := dk_42 (dk_at dksX13_caughtIn_0 0 rfl rfl)
theorem dX13_caughtIn_1 : decode cX13_caughtIn 1 = .ok (.getfield 9, 3) := dk_180 0 9 (dk_at dksX13_caughtIn_0 1 rfl rfl)
theorem dX13_caughtIn_4 : decode cX13_caughtIn 4 = .ok (.aload_n 0, 1) := dk_42 (dk_at dksX13_caughtIn_0 4 rfl rfl)
theorem dX13_caughtIn_5 : decode cX13_caughtIn 5 = .ok (.getfield 16, 3) := dk_180 0 16 (dk_at dksX13_caughtIn_0 5 rfl rfl)
theorem dX13_caughtIn_8 : decode cX13_caughtIn 8 = .ok (.invokestatic 70, 3) := dk_184 0 70 (dk_at dksX13_caughtIn_0 8 rfl rfl)
theorem dX13_caughtIn_11 : decode cX13_caughtIn 11 = .ok (.iconst 0, 1) := dk_3 (dk_at dksX13_caughtIn_0 11 rfl rfl)
theorem dX13_caughtIn_12 : decode cX13_caughtIn 12 = .ok (.istore_n 3, 1) := dk_62 (dk_at dksX13_caughtIn_0 12 rfl rfl)
theorem dX13_caughtIn_13 : decode cX13_caughtIn 13 = .ok (.iload_n 3, 1) := dk_29 (dk_at dksX13_caughtIn_0 13 rfl rfl)
theorem dX13_caughtIn_14 : decode cX13_caughtIn 14 = .ok (.iload_n 2, 1) := dk_28 (dk_at dksX13_caughtIn_0 14 rfl rfl)
theorem dX13_caughtIn_15 : decode cX13_caughtIn 15 = .ok (.if_icmp .ge 21, 3) := dk_162 0 21 (dk_at dksX13_caughtIn_0 15 rfl rfl)
theorem dX13_caughtIn_18 : decode cX13_caughtIn 18 = .ok (.aload_n 0, 1) := dk_42 (dk_at dksX13_caughtIn_0 18 rfl rfl)
theorem dX13_caughtIn_19 : decode cX13_caughtIn 19 = .ok (.iload_n 1, 1) := dk_27 (dk_at dksX13_caughtIn_0 19 rfl rfl)
theorem dX13_caughtIn_20 : decode cX13_caughtIn 20 = .ok (.invokevirtual 115, 3) := dk_182 0 115 (dk_at dksX13_caughtIn_0 20 rfl rfl)
theorem dX13_caughtIn_23 : decode cX13_caughtIn 23 = .ok (.ifCond .ne 13, 3) := dk_154 0 13 (dk_at dksX13_caughtIn_1 0 rfl rfl)
theorem dX13_caughtIn_26 : decode cX13_caughtIn 26 = .ok (.aload_n 0, 1) := dk_42 (dk_at dksX13_caughtIn_1 3 rfl rfl)
theorem dX13_caughtIn_27 : decode cX13_caughtIn 27 = .ok (.invokevirtual 169, 3) := dk_182 0 169 (dk_at dksX13_caughtIn_1 4 rfl rfl)
theorem dX13_caughtIn_30 : decode cX13_caughtIn 30 = .ok (.iinc 3 1, 3) := dk_132 3 1 (dk_at dksX13_caughtIn_1 7 rfl rfl)
theorem dX13_caughtIn_33 : decode cX13_caughtIn 33 = .ok (.goto (-20), 3) := dk_167 255 236 (dk_at dksX13_caughtIn_1 10 rfl rfl)
theorem dX13_caughtIn_36 : decode cX13_caughtIn 36 = .ok (.aload_n 0, 1) := dk_42 (dk_at dksX13_caughtIn_1 13 rfl rfl)
theorem dX13_caughtIn_37 : decode cX13_caughtIn 37 = .ok (.aload_n 0, 1) := dk_42 (dk_at dksX13_caughtIn_1 14 rfl rfl)
theorem dX13_caughtIn_38 : decode cX13_caughtIn 38 = .ok (.iload_n 1, 1) := dk_27 (dk_at dksX13_caughtIn_1 15 rfl rfl)
theorem dX13_caughtIn_39 : decode cX13_caughtIn 39 = .ok (.invokevirtual 115, 3) := dk_182 0 115 (dk_at dksX13_caughtIn_1 16 rfl rfl)
theorem dX13_caughtIn_42 : decode cX13_caughtIn 42 = .ok (.ifCond .eq 7, 3) := dk_153 0 7 (dk_at dksX13_caughtIn_1 19 rfl rfl)
theorem dX13_caughtIn_45 : decode cX13_caughtIn 45 = .ok (.iload_n 3, 1) := dk_29 (dk_at dksX13_caughtIn_1 22 rfl rfl)
theorem dX13_caughtIn_46 : decode cX13_caughtIn 46 = .ok (.goto 5, 3) := dk_167 0 5 (dk_at dksX13_caughtIn_2 0 rfl rfl)
theorem dX13_caughtIn_49 : decode cX13_caughtIn 49 = .ok (.ldc 197, 2) := dk_18 197 (dk_at dksX13_caughtIn_2 3 rfl rfl)
theorem dX13_caughtIn_51 : decode cX13_caughtIn 51 = .ok (.invokevirtual 191, 3) := dk_182 0 191 (dk_at dksX13_caughtIn_2 5 rfl rfl)
theorem dX13_caughtIn_54 : decode cX13_caughtIn 54 = .ok (.ireturn, 1) := dk_172 (dk_at dksX13_caughtIn_2 8 rfl rfl)
abbrev cX13_told : ByteArray := prog_16_method_50_code
def yX13_told : MethodName := ⟨RX13, "told", "(I)I"⟩
def dkwX13_told_0 : List UInt8 := [27, 18, 197, 160, 0, 12, 42, 18, 198, 182, 0, 88, 167, 0, 4, 27, 172]
abbrev dktX13_told_0 : List UInt8 := dkwX13_told_0 ++ []
theorem dksX13_told_0 : cX13_told.data.toList.drop 0 = dktX13_told_0 := by decide +kernel
theorem dX13_told_0 : decode cX13_told 0 = .ok (.iload_n 1, 1) := dk_27 (dk_at dksX13_told_0 0 rfl rfl)
theorem dX13_told_1 : decode cX13_told 1 = .ok (.ldc 197, 2) := dk_18 197 (dk_at dksX13_told_0 1 rfl rfl)
theorem dX13_told_3 : decode cX13_told 3 = .ok (.if_icmp .ne 12, 3) := dk_160 0 12 (dk_at dksX13_told_0 3 rfl rfl)
theorem dX13_told_6 : decode cX13_told 6 = .ok (.aload_n 0, 1) := dk_42 (dk_at dksX13_told_0 6 rfl rfl)
theorem dX13_told_7 : decode cX13_told 7 = .ok (.ldc 198, 2) := dk_18 198 (dk_at dksX13_told_0 7 rfl rfl)
theorem dX13_told_9 : decode cX13_told 9 = .ok (.invokevirtual 88, 3) := dk_182 0 88 (dk_at dksX13_told_0 9 rfl rfl)
theorem dX13_told_12 : decode cX13_told 12 = .ok (.goto 4, 3) := dk_167 0 4 (dk_at dksX13_told_0 12 rfl rfl)
theorem dX13_told_15 : decode cX13_told 15 = .ok (.iload_n 1, 1) := dk_27 (dk_at dksX13_told_0 15 rfl rfl)
theorem dX13_told_16 : decode cX13_told 16 = .ok (.ireturn, 1) := dk_172 (dk_at dksX13_told_0 16 rfl rfl)
abbrev cX13_still : ByteArray := prog_16_method_52_code
def yX13_still : MethodName := ⟨RX13, "still", "()I"⟩
def dkwX13_still_2 : List UInt8 := [153, 0, 8, 18, 197, 167, 0, 4, 27, 182, 0, 191, 182, 0, 202, 172]
abbrev dktX13_still_2 : List UInt8 := dkwX13_still_2 ++ []
def dkwX13_still_1 : List UInt8 := [180, 0, 162, 153, 0, 13, 42, 182, 0, 169, 132, 1, 1, 167, 255, 236, 42, 42, 42, 180, 0, 162]
abbrev dktX13_still_1 : List UInt8 := dkwX13_still_1 ++ dktX13_still_2
def dkwX13_still_0 : List UInt8 := [42, 180, 0, 9, 42, 180, 0, 16, 184, 0, 70, 3, 60, 42, 182, 0, 169, 27, 16, 60, 162, 0, 20, 42]
abbrev dktX13_still_0 : List UInt8 := dkwX13_still_0 ++ dktX13_still_1
theorem dksX13_still_0 : cX13_still.data.toList.drop 0 = dktX13_still_0 := by decide +kernel
theorem dksX13_still_1 : cX13_still.data.toList.drop 24 = dktX13_still_1 := dk_seg dksX13_still_0 24 rfl rfl
theorem dksX13_still_2 : cX13_still.data.toList.drop 46 = dktX13_still_2 := dk_seg dksX13_still_1 22 rfl rfl
theorem dX13_still_0 : decode cX13_still 0 = .ok (.aload_n 0, 1) := dk_42 (dk_at dksX13_still_0 0 rfl rfl)
theorem dX13_still_1 : decode cX13_still 1 = .ok (.getfield 9, 3) := dk_180 0 9 (dk_at dksX13_still_0 1 rfl rfl)
theorem dX13_still_4 : decode cX13_still 4 = .ok (.aload_n 0, 1) := dk_42 (dk_at dksX13_still_0 4 rfl rfl)
theorem dX13_still_5 : decode cX13_still 5 = .ok (.getfield 16, 3) := dk_180 0 16 (dk_at dksX13_still_0 5 rfl rfl)
theorem dX13_still_8 : decode cX13_still 8 = .ok (.invokestatic 70, 3) := dk_184 0 70 (dk_at dksX13_still_0 8 rfl rfl)
theorem dX13_still_11 : decode cX13_still 11 = .ok (.iconst 0, 1) := dk_3 (dk_at dksX13_still_0 11 rfl rfl)
theorem dX13_still_12 : decode cX13_still 12 = .ok (.istore_n 1, 1) := dk_60 (dk_at dksX13_still_0 12 rfl rfl)
theorem dX13_still_13 : decode cX13_still 13 = .ok (.aload_n 0, 1) := dk_42 (dk_at dksX13_still_0 13 rfl rfl)
theorem dX13_still_14 : decode cX13_still 14 = .ok (.invokevirtual 169, 3) := dk_182 0 169 (dk_at dksX13_still_0 14 rfl rfl)
theorem dX13_still_17 : decode cX13_still 17 = .ok (.iload_n 1, 1) := dk_27 (dk_at dksX13_still_0 17 rfl rfl)
theorem dX13_still_18 : decode cX13_still 18 = .ok (.bipush 60, 2) := dk_16 60 (dk_at dksX13_still_0 18 rfl rfl)
theorem dX13_still_20 : decode cX13_still 20 = .ok (.if_icmp .ge 20, 3) := dk_162 0 20 (dk_at dksX13_still_0 20 rfl rfl)
theorem dX13_still_23 : decode cX13_still 23 = .ok (.aload_n 0, 1) := dk_42 (dk_at dksX13_still_0 23 rfl rfl)
theorem dX13_still_24 : decode cX13_still 24 = .ok (.getfield 162, 3) := dk_180 0 162 (dk_at dksX13_still_1 0 rfl rfl)
theorem dX13_still_27 : decode cX13_still 27 = .ok (.ifCond .eq 13, 3) := dk_153 0 13 (dk_at dksX13_still_1 3 rfl rfl)
theorem dX13_still_30 : decode cX13_still 30 = .ok (.aload_n 0, 1) := dk_42 (dk_at dksX13_still_1 6 rfl rfl)
theorem dX13_still_31 : decode cX13_still 31 = .ok (.invokevirtual 169, 3) := dk_182 0 169 (dk_at dksX13_still_1 7 rfl rfl)
theorem dX13_still_34 : decode cX13_still 34 = .ok (.iinc 1 1, 3) := dk_132 1 1 (dk_at dksX13_still_1 10 rfl rfl)
theorem dX13_still_37 : decode cX13_still 37 = .ok (.goto (-20), 3) := dk_167 255 236 (dk_at dksX13_still_1 13 rfl rfl)
theorem dX13_still_40 : decode cX13_still 40 = .ok (.aload_n 0, 1) := dk_42 (dk_at dksX13_still_1 16 rfl rfl)
theorem dX13_still_41 : decode cX13_still 41 = .ok (.aload_n 0, 1) := dk_42 (dk_at dksX13_still_1 17 rfl rfl)
theorem dX13_still_42 : decode cX13_still 42 = .ok (.aload_n 0, 1) := dk_42 (dk_at dksX13_still_1 18 rfl rfl)
theorem dX13_still_43 : decode cX13_still 43 = .ok (.getfield 162, 3) := dk_180 0 162 (dk_at dksX13_still_1 19 rfl rfl)
theorem dX13_still_46 : decode cX13_still 46 = .ok (.ifCond .eq 8, 3) := dk_153 0 8 (dk_at dksX13_still_2 0 rfl rfl)
theorem dX13_still_49 : decode cX13_still 49 = .ok (.ldc 197, 2) := dk_18 197 (dk_at dksX13_still_2 3 rfl rfl)
theorem dX13_still_51 : decode cX13_still 51 = .ok (.goto 4, 3) := dk_167 0 4 (dk_at dksX13_still_2 5 rfl rfl)
theorem dX13_still_54 : decode cX13_still 54 = .ok (.iload_n 1, 1) := dk_27 (dk_at dksX13_still_2 8 rfl rfl)
theorem dX13_still_55 : decode cX13_still 55 = .ok (.invokevirtual 191, 3) := dk_182 0 191 (dk_at dksX13_still_2 9 rfl rfl)
theorem dX13_still_58 : decode cX13_still 58 = .ok (.invokevirtual 202, 3) := dk_182 0 202 (dk_at dksX13_still_2 12 rfl rfl)
theorem dX13_still_61 : decode cX13_still 61 = .ok (.ireturn, 1) := dk_172 (dk_at dksX13_still_2 15 rfl rfl)
abbrev cX13_caught : ByteArray := prog_16_method_54_code
def yX13_caught : MethodName := ⟨RX13, "caught", "(I)I"⟩
def dkwX13_caught_1 : List UInt8 := [172]
abbrev dktX13_caught_1 : List UInt8 := dkwX13_caught_1 ++ []
def dkwX13_caught_0 : List UInt8 := [27, 3, 16, 60, 184, 0, 74, 153, 0, 11, 42, 27, 182, 0, 205, 167, 0, 9, 42, 18, 69, 182, 0, 88]
abbrev dktX13_caught_0 : List UInt8 := dkwX13_caught_0 ++ dktX13_caught_1
theorem dksX13_caught_0 : cX13_caught.data.toList.drop 0 = dktX13_caught_0 := by decide +kernel
theorem dksX13_caught_1 : cX13_caught.data.toList.drop 24 = dktX13_caught_1 := dk_seg dksX13_caught_0 24 rfl rfl
theorem dX13_caught_0 : decode cX13_caught 0 = .ok (.iload_n 1, 1) := dk_27 (dk_at dksX13_caught_0 0 rfl rfl)
theorem dX13_caught_1 : decode cX13_caught 1 = .ok (.iconst 0, 1) := dk_3 (dk_at dksX13_caught_0 1 rfl rfl)
theorem dX13_caught_2 : decode cX13_caught 2 = .ok (.bipush 60, 2) := dk_16 60 (dk_at dksX13_caught_0 2 rfl rfl)
theorem dX13_caught_4 : decode cX13_caught 4 = .ok (.invokestatic 74, 3) := dk_184 0 74 (dk_at dksX13_caught_0 4 rfl rfl)
theorem dX13_caught_7 : decode cX13_caught 7 = .ok (.ifCond .eq 11, 3) := dk_153 0 11 (dk_at dksX13_caught_0 7 rfl rfl)
theorem dX13_caught_10 : decode cX13_caught 10 = .ok (.aload_n 0, 1) := dk_42 (dk_at dksX13_caught_0 10 rfl rfl)
theorem dX13_caught_11 : decode cX13_caught 11 = .ok (.iload_n 1, 1) := dk_27 (dk_at dksX13_caught_0 11 rfl rfl)
theorem dX13_caught_12 : decode cX13_caught 12 = .ok (.invokevirtual 205, 3) := dk_182 0 205 (dk_at dksX13_caught_0 12 rfl rfl)
theorem dX13_caught_15 : decode cX13_caught 15 = .ok (.goto 9, 3) := dk_167 0 9 (dk_at dksX13_caught_0 15 rfl rfl)
theorem dX13_caught_18 : decode cX13_caught 18 = .ok (.aload_n 0, 1) := dk_42 (dk_at dksX13_caught_0 18 rfl rfl)
theorem dX13_caught_19 : decode cX13_caught 19 = .ok (.ldc 69, 2) := dk_18 69 (dk_at dksX13_caught_0 19 rfl rfl)
theorem dX13_caught_21 : decode cX13_caught 21 = .ok (.invokevirtual 88, 3) := dk_182 0 88 (dk_at dksX13_caught_0 21 rfl rfl)
theorem dX13_caught_24 : decode cX13_caught 24 = .ok (.ireturn, 1) := dk_172 (dk_at dksX13_caught_1 0 rfl rfl)
abbrev cX13_setBehind : ByteArray := prog_16_method_53_code
def yX13_setBehind : MethodName := ⟨RX13, "setBehind", "(I)I"⟩
def dkwX13_setBehind_1 : List UInt8 := [172]
abbrev dktX13_setBehind_1 : List UInt8 := dkwX13_setBehind_1 ++ []
def dkwX13_setBehind_0 : List UInt8 := [42, 180, 0, 9, 42, 180, 0, 16, 184, 0, 70, 42, 27, 182, 0, 174, 42, 42, 182, 0, 178, 182, 0, 191]
abbrev dktX13_setBehind_0 : List UInt8 := dkwX13_setBehind_0 ++ dktX13_setBehind_1
theorem dksX13_setBehind_0 : cX13_setBehind.data.toList.drop 0 = dktX13_setBehind_0 := by decide +kernel
theorem dksX13_setBehind_1 : cX13_setBehind.data.toList.drop 24 = dktX13_setBehind_1 := dk_seg dksX13_setBehind_0 24 rfl rfl
theorem dX13_setBehind_0 : decode cX13_setBehind 0 = .ok (.aload_n 0, 1) := dk_42 (dk_at dksX13_setBehind_0 0 rfl rfl)
theorem dX13_setBehind_1 : decode cX13_setBehind 1 = .ok (.getfield 9, 3) := dk_180 0 9 (dk_at dksX13_setBehind_0 1 rfl rfl)
theorem dX13_setBehind_4 : decode cX13_setBehind 4 = .ok (.aload_n 0, 1) := dk_42 (dk_at dksX13_setBehind_0 4 rfl rfl)
theorem dX13_setBehind_5 : decode cX13_setBehind 5 = .ok (.getfield 16, 3) := dk_180 0 16 (dk_at dksX13_setBehind_0 5 rfl rfl)
theorem dX13_setBehind_8 : decode cX13_setBehind 8 = .ok (.invokestatic 70, 3) := dk_184 0 70 (dk_at dksX13_setBehind_0 8 rfl rfl)
theorem dX13_setBehind_11 : decode cX13_setBehind 11 = .ok (.aload_n 0, 1) := dk_42 (dk_at dksX13_setBehind_0 11 rfl rfl)
theorem dX13_setBehind_12 : decode cX13_setBehind 12 = .ok (.iload_n 1, 1) := dk_27 (dk_at dksX13_setBehind_0 12 rfl rfl)
theorem dX13_setBehind_13 : decode cX13_setBehind 13 = .ok (.invokevirtual 174, 3) := dk_182 0 174 (dk_at dksX13_setBehind_0 13 rfl rfl)
theorem dX13_setBehind_16 : decode cX13_setBehind 16 = .ok (.aload_n 0, 1) := dk_42 (dk_at dksX13_setBehind_0 16 rfl rfl)
theorem dX13_setBehind_17 : decode cX13_setBehind 17 = .ok (.aload_n 0, 1) := dk_42 (dk_at dksX13_setBehind_0 17 rfl rfl)
theorem dX13_setBehind_18 : decode cX13_setBehind 18 = .ok (.invokevirtual 178, 3) := dk_182 0 178 (dk_at dksX13_setBehind_0 18 rfl rfl)
theorem dX13_setBehind_21 : decode cX13_setBehind 21 = .ok (.invokevirtual 191, 3) := dk_182 0 191 (dk_at dksX13_setBehind_0 21 rfl rfl)
theorem dX13_setBehind_24 : decode cX13_setBehind 24 = .ok (.ireturn, 1) := dk_172 (dk_at dksX13_setBehind_1 0 rfl rfl)
abbrev cX13_netFor : ByteArray := prog_16_method_56_code
def yX13_netFor : MethodName := ⟨RX13, "netFor", "(I)I"⟩
def dkwX13_netFor_4 : List UInt8 := [167, 255, 186, 42, 28, 182, 0, 208, 172]
abbrev dktX13_netFor_4 : List UInt8 := dkwX13_netFor_4 ++ []
def dkwX13_netFor_3 : List UInt8 := [21, 5, 29, 162, 0, 8, 21, 4, 167, 0, 4, 28, 61, 29, 21, 5, 184, 0, 125, 62, 132, 4, 1]
abbrev dktX13_netFor_3 : List UInt8 := dkwX13_netFor_3 ++ dktX13_netFor_4
def dkwX13_netFor_2 : List UInt8 := [96, 4, 79, 42, 27, 16, 20, 182, 0, 199, 54, 5, 42, 180, 0, 9, 16, 18, 21, 4, 96, 3, 79]
abbrev dktX13_netFor_2 : List UInt8 := dkwX13_netFor_2 ++ dktX13_netFor_3
def dkwX13_netFor_1 : List UInt8 := [21, 4, 16, 64, 162, 0, 69, 42, 21, 4, 182, 0, 166, 154, 0, 54, 42, 180, 0, 9, 16, 18, 21, 4]
abbrev dktX13_netFor_1 : List UInt8 := dkwX13_netFor_1 ++ dktX13_netFor_2
def dkwX13_netFor_0 : List UInt8 := [42, 27, 182, 0, 141, 154, 0, 10, 42, 18, 69, 182, 0, 88, 172, 2, 61, 18, 197, 62, 3, 54, 4]
abbrev dktX13_netFor_0 : List UInt8 := dkwX13_netFor_0 ++ dktX13_netFor_1
theorem dksX13_netFor_0 : cX13_netFor.data.toList.drop 0 = dktX13_netFor_0 := by decide +kernel
theorem dksX13_netFor_1 : cX13_netFor.data.toList.drop 23 = dktX13_netFor_1 := dk_seg dksX13_netFor_0 23 rfl rfl
theorem dksX13_netFor_2 : cX13_netFor.data.toList.drop 47 = dktX13_netFor_2 := dk_seg dksX13_netFor_1 24 rfl rfl
theorem dksX13_netFor_3 : cX13_netFor.data.toList.drop 70 = dktX13_netFor_3 := dk_seg dksX13_netFor_2 23 rfl rfl
theorem dksX13_netFor_4 : cX13_netFor.data.toList.drop 93 = dktX13_netFor_4 := dk_seg dksX13_netFor_3 23 rfl rfl
theorem dX13_netFor_0 : decode cX13_netFor 0 = .ok (.aload_n 0, 1) := dk_42 (dk_at dksX13_netFor_0 0 rfl rfl)
theorem dX13_netFor_1 : decode cX13_netFor 1 = .ok (.iload_n 1, 1) := dk_27 (dk_at dksX13_netFor_0 1 rfl rfl)
theorem dX13_netFor_2 : decode cX13_netFor 2 = .ok (.invokevirtual 141, 3) := dk_182 0 141 (dk_at dksX13_netFor_0 2 rfl rfl)
theorem dX13_netFor_5 : decode cX13_netFor 5 = .ok (.ifCond .ne 10, 3) := dk_154 0 10 (dk_at dksX13_netFor_0 5 rfl rfl)
theorem dX13_netFor_8 : decode cX13_netFor 8 = .ok (.aload_n 0, 1) := dk_42 (dk_at dksX13_netFor_0 8 rfl rfl)
theorem dX13_netFor_9 : decode cX13_netFor 9 = .ok (.ldc 69, 2) := dk_18 69 (dk_at dksX13_netFor_0 9 rfl rfl)
theorem dX13_netFor_11 : decode cX13_netFor 11 = .ok (.invokevirtual 88, 3) := dk_182 0 88 (dk_at dksX13_netFor_0 11 rfl rfl)
theorem dX13_netFor_14 : decode cX13_netFor 14 = .ok (.ireturn, 1) := dk_172 (dk_at dksX13_netFor_0 14 rfl rfl)
theorem dX13_netFor_15 : decode cX13_netFor 15 = .ok (.iconst (-1), 1) := dk_2 (dk_at dksX13_netFor_0 15 rfl rfl)
theorem dX13_netFor_16 : decode cX13_netFor 16 = .ok (.istore_n 2, 1) := dk_61 (dk_at dksX13_netFor_0 16 rfl rfl)
theorem dX13_netFor_17 : decode cX13_netFor 17 = .ok (.ldc 197, 2) := dk_18 197 (dk_at dksX13_netFor_0 17 rfl rfl)
theorem dX13_netFor_19 : decode cX13_netFor 19 = .ok (.istore_n 3, 1) := dk_62 (dk_at dksX13_netFor_0 19 rfl rfl)
theorem dX13_netFor_20 : decode cX13_netFor 20 = .ok (.iconst 0, 1) := dk_3 (dk_at dksX13_netFor_0 20 rfl rfl)
theorem dX13_netFor_21 : decode cX13_netFor 21 = .ok (.istore 4, 2) := dk_54 4 (dk_at dksX13_netFor_0 21 rfl rfl)
theorem dX13_netFor_23 : decode cX13_netFor 23 = .ok (.iload 4, 2) := dk_21 4 (dk_at dksX13_netFor_1 0 rfl rfl)
theorem dX13_netFor_25 : decode cX13_netFor 25 = .ok (.bipush 64, 2) := dk_16 64 (dk_at dksX13_netFor_1 2 rfl rfl)
theorem dX13_netFor_27 : decode cX13_netFor 27 = .ok (.if_icmp .ge 69, 3) := dk_162 0 69 (dk_at dksX13_netFor_1 4 rfl rfl)
theorem dX13_netFor_30 : decode cX13_netFor 30 = .ok (.aload_n 0, 1) := dk_42 (dk_at dksX13_netFor_1 7 rfl rfl)
theorem dX13_netFor_31 : decode cX13_netFor 31 = .ok (.iload 4, 2) := dk_21 4 (dk_at dksX13_netFor_1 8 rfl rfl)
theorem dX13_netFor_33 : decode cX13_netFor 33 = .ok (.invokevirtual 166, 3) := dk_182 0 166 (dk_at dksX13_netFor_1 10 rfl rfl)
theorem dX13_netFor_36 : decode cX13_netFor 36 = .ok (.ifCond .ne 54, 3) := dk_154 0 54 (dk_at dksX13_netFor_1 13 rfl rfl)
theorem dX13_netFor_39 : decode cX13_netFor 39 = .ok (.aload_n 0, 1) := dk_42 (dk_at dksX13_netFor_1 16 rfl rfl)
theorem dX13_netFor_40 : decode cX13_netFor 40 = .ok (.getfield 9, 3) := dk_180 0 9 (dk_at dksX13_netFor_1 17 rfl rfl)
theorem dX13_netFor_43 : decode cX13_netFor 43 = .ok (.bipush 18, 2) := dk_16 18 (dk_at dksX13_netFor_1 20 rfl rfl)
theorem dX13_netFor_45 : decode cX13_netFor 45 = .ok (.iload 4, 2) := dk_21 4 (dk_at dksX13_netFor_1 22 rfl rfl)
theorem dX13_netFor_47 : decode cX13_netFor 47 = .ok (.iadd, 1) := dk_96 (dk_at dksX13_netFor_2 0 rfl rfl)
theorem dX13_netFor_48 : decode cX13_netFor 48 = .ok (.iconst 1, 1) := dk_4 (dk_at dksX13_netFor_2 1 rfl rfl)
theorem dX13_netFor_49 : decode cX13_netFor 49 = .ok (.iastore, 1) := dk_79 (dk_at dksX13_netFor_2 2 rfl rfl)
theorem dX13_netFor_50 : decode cX13_netFor 50 = .ok (.aload_n 0, 1) := dk_42 (dk_at dksX13_netFor_2 3 rfl rfl)
theorem dX13_netFor_51 : decode cX13_netFor 51 = .ok (.iload_n 1, 1) := dk_27 (dk_at dksX13_netFor_2 4 rfl rfl)
theorem dX13_netFor_52 : decode cX13_netFor 52 = .ok (.bipush 20, 2) := dk_16 20 (dk_at dksX13_netFor_2 5 rfl rfl)
theorem dX13_netFor_54 : decode cX13_netFor 54 = .ok (.invokevirtual 199, 3) := dk_182 0 199 (dk_at dksX13_netFor_2 7 rfl rfl)
theorem dX13_netFor_57 : decode cX13_netFor 57 = .ok (.istore 5, 2) := dk_54 5 (dk_at dksX13_netFor_2 10 rfl rfl)
theorem dX13_netFor_59 : decode cX13_netFor 59 = .ok (.aload_n 0, 1) := dk_42 (dk_at dksX13_netFor_2 12 rfl rfl)
theorem dX13_netFor_60 : decode cX13_netFor 60 = .ok (.getfield 9, 3) := dk_180 0 9 (dk_at dksX13_netFor_2 13 rfl rfl)
theorem dX13_netFor_63 : decode cX13_netFor 63 = .ok (.bipush 18, 2) := dk_16 18 (dk_at dksX13_netFor_2 16 rfl rfl)
theorem dX13_netFor_65 : decode cX13_netFor 65 = .ok (.iload 4, 2) := dk_21 4 (dk_at dksX13_netFor_2 18 rfl rfl)
theorem dX13_netFor_67 : decode cX13_netFor 67 = .ok (.iadd, 1) := dk_96 (dk_at dksX13_netFor_2 20 rfl rfl)
theorem dX13_netFor_68 : decode cX13_netFor 68 = .ok (.iconst 0, 1) := dk_3 (dk_at dksX13_netFor_2 21 rfl rfl)
theorem dX13_netFor_69 : decode cX13_netFor 69 = .ok (.iastore, 1) := dk_79 (dk_at dksX13_netFor_2 22 rfl rfl)
theorem dX13_netFor_70 : decode cX13_netFor 70 = .ok (.iload 5, 2) := dk_21 5 (dk_at dksX13_netFor_3 0 rfl rfl)
theorem dX13_netFor_72 : decode cX13_netFor 72 = .ok (.iload_n 3, 1) := dk_29 (dk_at dksX13_netFor_3 2 rfl rfl)
theorem dX13_netFor_73 : decode cX13_netFor 73 = .ok (.if_icmp .ge 8, 3) := dk_162 0 8 (dk_at dksX13_netFor_3 3 rfl rfl)
theorem dX13_netFor_76 : decode cX13_netFor 76 = .ok (.iload 4, 2) := dk_21 4 (dk_at dksX13_netFor_3 6 rfl rfl)
theorem dX13_netFor_78 : decode cX13_netFor 78 = .ok (.goto 4, 3) := dk_167 0 4 (dk_at dksX13_netFor_3 8 rfl rfl)
theorem dX13_netFor_81 : decode cX13_netFor 81 = .ok (.iload_n 2, 1) := dk_28 (dk_at dksX13_netFor_3 11 rfl rfl)
theorem dX13_netFor_82 : decode cX13_netFor 82 = .ok (.istore_n 2, 1) := dk_61 (dk_at dksX13_netFor_3 12 rfl rfl)
theorem dX13_netFor_83 : decode cX13_netFor 83 = .ok (.iload_n 3, 1) := dk_29 (dk_at dksX13_netFor_3 13 rfl rfl)
theorem dX13_netFor_84 : decode cX13_netFor 84 = .ok (.iload 5, 2) := dk_21 5 (dk_at dksX13_netFor_3 14 rfl rfl)
theorem dX13_netFor_86 : decode cX13_netFor 86 = .ok (.invokestatic 125, 3) := dk_184 0 125 (dk_at dksX13_netFor_3 16 rfl rfl)
theorem dX13_netFor_89 : decode cX13_netFor 89 = .ok (.istore_n 3, 1) := dk_62 (dk_at dksX13_netFor_3 19 rfl rfl)
theorem dX13_netFor_90 : decode cX13_netFor 90 = .ok (.iinc 4 1, 3) := dk_132 4 1 (dk_at dksX13_netFor_3 20 rfl rfl)
theorem dX13_netFor_93 : decode cX13_netFor 93 = .ok (.goto (-70), 3) := dk_167 255 186 (dk_at dksX13_netFor_4 0 rfl rfl)
theorem dX13_netFor_96 : decode cX13_netFor 96 = .ok (.aload_n 0, 1) := dk_42 (dk_at dksX13_netFor_4 3 rfl rfl)
theorem dX13_netFor_97 : decode cX13_netFor 97 = .ok (.iload_n 2, 1) := dk_28 (dk_at dksX13_netFor_4 4 rfl rfl)
theorem dX13_netFor_98 : decode cX13_netFor 98 = .ok (.invokevirtual 208, 3) := dk_182 0 208 (dk_at dksX13_netFor_4 5 rfl rfl)
theorem dX13_netFor_101 : decode cX13_netFor 101 = .ok (.ireturn, 1) := dk_172 (dk_at dksX13_netFor_4 8 rfl rfl)
abbrev cX13_orNone : ByteArray := prog_16_method_55_code
def yX13_orNone : MethodName := ⟨RX13, "orNone", "(I)I"⟩
def dkwX13_orNone_0 : List UInt8 := [27, 156, 0, 12, 42, 18, 198, 182, 0, 88, 167, 0, 4, 27, 172]
abbrev dktX13_orNone_0 : List UInt8 := dkwX13_orNone_0 ++ []
theorem dksX13_orNone_0 : cX13_orNone.data.toList.drop 0 = dktX13_orNone_0 := by decide +kernel
theorem dX13_orNone_0 : decode cX13_orNone 0 = .ok (.iload_n 1, 1) := dk_27 (dk_at dksX13_orNone_0 0 rfl rfl)
theorem dX13_orNone_1 : decode cX13_orNone 1 = .ok (.ifCond .ge 12, 3) := dk_156 0 12 (dk_at dksX13_orNone_0 1 rfl rfl)
theorem dX13_orNone_4 : decode cX13_orNone 4 = .ok (.aload_n 0, 1) := dk_42 (dk_at dksX13_orNone_0 4 rfl rfl)
theorem dX13_orNone_5 : decode cX13_orNone 5 = .ok (.ldc 198, 2) := dk_18 198 (dk_at dksX13_orNone_0 5 rfl rfl)
theorem dX13_orNone_7 : decode cX13_orNone 7 = .ok (.invokevirtual 88, 3) := dk_182 0 88 (dk_at dksX13_orNone_0 7 rfl rfl)
theorem dX13_orNone_10 : decode cX13_orNone 10 = .ok (.goto 4, 3) := dk_167 0 4 (dk_at dksX13_orNone_0 10 rfl rfl)
theorem dX13_orNone_13 : decode cX13_orNone 13 = .ok (.iload_n 1, 1) := dk_27 (dk_at dksX13_orNone_0 13 rfl rfl)
theorem dX13_orNone_14 : decode cX13_orNone 14 = .ok (.ireturn, 1) := dk_172 (dk_at dksX13_orNone_0 14 rfl rfl)
abbrev cX13_best : ByteArray := prog_16_method_57_code
def yX13_best : MethodName := ⟨RX13, "best", "(I)I"⟩
def dkwX13_best_4 : List UInt8 := [167, 255, 185, 42, 28, 182, 0, 208, 172]
abbrev dktX13_best_4 : List UInt8 := dkwX13_best_4 ++ []
def dkwX13_best_3 : List UInt8 := [21, 5, 29, 164, 0, 8, 21, 4, 167, 0, 4, 28, 61, 29, 21, 5, 184, 0, 132, 62, 132, 4, 1]
abbrev dktX13_best_3 : List UInt8 := dkwX13_best_3 ++ dktX13_best_4
def dkwX13_best_2 : List UInt8 := [96, 4, 79, 42, 27, 182, 0, 205, 184, 0, 182, 54, 5, 42, 180, 0, 9, 16, 18, 21, 4, 96, 3, 79]
abbrev dktX13_best_2 : List UInt8 := dkwX13_best_2 ++ dktX13_best_3
def dkwX13_best_1 : List UInt8 := [21, 4, 16, 64, 162, 0, 70, 42, 21, 4, 182, 0, 166, 154, 0, 55, 42, 180, 0, 9, 16, 18, 21, 4]
abbrev dktX13_best_1 : List UInt8 := dkwX13_best_1 ++ dktX13_best_2
def dkwX13_best_0 : List UInt8 := [27, 3, 16, 20, 184, 0, 74, 154, 0, 10, 42, 18, 69, 182, 0, 88, 172, 2, 61, 2, 62, 3, 54, 4]
abbrev dktX13_best_0 : List UInt8 := dkwX13_best_0 ++ dktX13_best_1
theorem dksX13_best_0 : cX13_best.data.toList.drop 0 = dktX13_best_0 := by decide +kernel
theorem dksX13_best_1 : cX13_best.data.toList.drop 24 = dktX13_best_1 := dk_seg dksX13_best_0 24 rfl rfl
theorem dksX13_best_2 : cX13_best.data.toList.drop 48 = dktX13_best_2 := dk_seg dksX13_best_1 24 rfl rfl
theorem dksX13_best_3 : cX13_best.data.toList.drop 72 = dktX13_best_3 := dk_seg dksX13_best_2 24 rfl rfl
theorem dksX13_best_4 : cX13_best.data.toList.drop 95 = dktX13_best_4 := dk_seg dksX13_best_3 23 rfl rfl
theorem dX13_best_0 : decode cX13_best 0 = .ok (.iload_n 1, 1) := dk_27 (dk_at dksX13_best_0 0 rfl rfl)
theorem dX13_best_1 : decode cX13_best 1 = .ok (.iconst 0, 1) := dk_3 (dk_at dksX13_best_0 1 rfl rfl)
theorem dX13_best_2 : decode cX13_best 2 = .ok (.bipush 20, 2) := dk_16 20 (dk_at dksX13_best_0 2 rfl rfl)
theorem dX13_best_4 : decode cX13_best 4 = .ok (.invokestatic 74, 3) := dk_184 0 74 (dk_at dksX13_best_0 4 rfl rfl)
theorem dX13_best_7 : decode cX13_best 7 = .ok (.ifCond .ne 10, 3) := dk_154 0 10 (dk_at dksX13_best_0 7 rfl rfl)
theorem dX13_best_10 : decode cX13_best 10 = .ok (.aload_n 0, 1) := dk_42 (dk_at dksX13_best_0 10 rfl rfl)
theorem dX13_best_11 : decode cX13_best 11 = .ok (.ldc 69, 2) := dk_18 69 (dk_at dksX13_best_0 11 rfl rfl)
theorem dX13_best_13 : decode cX13_best 13 = .ok (.invokevirtual 88, 3) := dk_182 0 88 (dk_at dksX13_best_0 13 rfl rfl)
theorem dX13_best_16 : decode cX13_best 16 = .ok (.ireturn, 1) := dk_172 (dk_at dksX13_best_0 16 rfl rfl)
theorem dX13_best_17 : decode cX13_best 17 = .ok (.iconst (-1), 1) := dk_2 (dk_at dksX13_best_0 17 rfl rfl)
theorem dX13_best_18 : decode cX13_best 18 = .ok (.istore_n 2, 1) := dk_61 (dk_at dksX13_best_0 18 rfl rfl)
theorem dX13_best_19 : decode cX13_best 19 = .ok (.iconst (-1), 1) := dk_2 (dk_at dksX13_best_0 19 rfl rfl)
theorem dX13_best_20 : decode cX13_best 20 = .ok (.istore_n 3, 1) := dk_62 (dk_at dksX13_best_0 20 rfl rfl)
theorem dX13_best_21 : decode cX13_best 21 = .ok (.iconst 0, 1) := dk_3 (dk_at dksX13_best_0 21 rfl rfl)
theorem dX13_best_22 : decode cX13_best 22 = .ok (.istore 4, 2) := dk_54 4 (dk_at dksX13_best_0 22 rfl rfl)
theorem dX13_best_24 : decode cX13_best 24 = .ok (.iload 4, 2) := dk_21 4 (dk_at dksX13_best_1 0 rfl rfl)
theorem dX13_best_26 : decode cX13_best 26 = .ok (.bipush 64, 2) := dk_16 64 (dk_at dksX13_best_1 2 rfl rfl)
theorem dX13_best_28 : decode cX13_best 28 = .ok (.if_icmp .ge 70, 3) := dk_162 0 70 (dk_at dksX13_best_1 4 rfl rfl)
theorem dX13_best_31 : decode cX13_best 31 = .ok (.aload_n 0, 1) := dk_42 (dk_at dksX13_best_1 7 rfl rfl)
theorem dX13_best_32 : decode cX13_best 32 = .ok (.iload 4, 2) := dk_21 4 (dk_at dksX13_best_1 8 rfl rfl)
theorem dX13_best_34 : decode cX13_best 34 = .ok (.invokevirtual 166, 3) := dk_182 0 166 (dk_at dksX13_best_1 10 rfl rfl)
theorem dX13_best_37 : decode cX13_best 37 = .ok (.ifCond .ne 55, 3) := dk_154 0 55 (dk_at dksX13_best_1 13 rfl rfl)
theorem dX13_best_40 : decode cX13_best 40 = .ok (.aload_n 0, 1) := dk_42 (dk_at dksX13_best_1 16 rfl rfl)
theorem dX13_best_41 : decode cX13_best 41 = .ok (.getfield 9, 3) := dk_180 0 9 (dk_at dksX13_best_1 17 rfl rfl)
theorem dX13_best_44 : decode cX13_best 44 = .ok (.bipush 18, 2) := dk_16 18 (dk_at dksX13_best_1 20 rfl rfl)
theorem dX13_best_46 : decode cX13_best 46 = .ok (.iload 4, 2) := dk_21 4 (dk_at dksX13_best_1 22 rfl rfl)
theorem dX13_best_48 : decode cX13_best 48 = .ok (.iadd, 1) := dk_96 (dk_at dksX13_best_2 0 rfl rfl)
theorem dX13_best_49 : decode cX13_best 49 = .ok (.iconst 1, 1) := dk_4 (dk_at dksX13_best_2 1 rfl rfl)
theorem dX13_best_50 : decode cX13_best 50 = .ok (.iastore, 1) := dk_79 (dk_at dksX13_best_2 2 rfl rfl)
theorem dX13_best_51 : decode cX13_best 51 = .ok (.aload_n 0, 1) := dk_42 (dk_at dksX13_best_2 3 rfl rfl)
theorem dX13_best_52 : decode cX13_best 52 = .ok (.iload_n 1, 1) := dk_27 (dk_at dksX13_best_2 4 rfl rfl)
theorem dX13_best_53 : decode cX13_best 53 = .ok (.invokevirtual 205, 3) := dk_182 0 205 (dk_at dksX13_best_2 5 rfl rfl)
theorem dX13_best_56 : decode cX13_best 56 = .ok (.invokestatic 182, 3) := dk_184 0 182 (dk_at dksX13_best_2 8 rfl rfl)
theorem dX13_best_59 : decode cX13_best 59 = .ok (.istore 5, 2) := dk_54 5 (dk_at dksX13_best_2 11 rfl rfl)
theorem dX13_best_61 : decode cX13_best 61 = .ok (.aload_n 0, 1) := dk_42 (dk_at dksX13_best_2 13 rfl rfl)
theorem dX13_best_62 : decode cX13_best 62 = .ok (.getfield 9, 3) := dk_180 0 9 (dk_at dksX13_best_2 14 rfl rfl)
theorem dX13_best_65 : decode cX13_best 65 = .ok (.bipush 18, 2) := dk_16 18 (dk_at dksX13_best_2 17 rfl rfl)
theorem dX13_best_67 : decode cX13_best 67 = .ok (.iload 4, 2) := dk_21 4 (dk_at dksX13_best_2 19 rfl rfl)
theorem dX13_best_69 : decode cX13_best 69 = .ok (.iadd, 1) := dk_96 (dk_at dksX13_best_2 21 rfl rfl)
theorem dX13_best_70 : decode cX13_best 70 = .ok (.iconst 0, 1) := dk_3 (dk_at dksX13_best_2 22 rfl rfl)
theorem dX13_best_71 : decode cX13_best 71 = .ok (.iastore, 1) := dk_79 (dk_at dksX13_best_2 23 rfl rfl)
theorem dX13_best_72 : decode cX13_best 72 = .ok (.iload 5, 2) := dk_21 5 (dk_at dksX13_best_3 0 rfl rfl)
theorem dX13_best_74 : decode cX13_best 74 = .ok (.iload_n 3, 1) := dk_29 (dk_at dksX13_best_3 2 rfl rfl)
theorem dX13_best_75 : decode cX13_best 75 = .ok (.if_icmp .le 8, 3) := dk_164 0 8 (dk_at dksX13_best_3 3 rfl rfl)
theorem dX13_best_78 : decode cX13_best 78 = .ok (.iload 4, 2) := dk_21 4 (dk_at dksX13_best_3 6 rfl rfl)
theorem dX13_best_80 : decode cX13_best 80 = .ok (.goto 4, 3) := dk_167 0 4 (dk_at dksX13_best_3 8 rfl rfl)
theorem dX13_best_83 : decode cX13_best 83 = .ok (.iload_n 2, 1) := dk_28 (dk_at dksX13_best_3 11 rfl rfl)
theorem dX13_best_84 : decode cX13_best 84 = .ok (.istore_n 2, 1) := dk_61 (dk_at dksX13_best_3 12 rfl rfl)
theorem dX13_best_85 : decode cX13_best 85 = .ok (.iload_n 3, 1) := dk_29 (dk_at dksX13_best_3 13 rfl rfl)
theorem dX13_best_86 : decode cX13_best 86 = .ok (.iload 5, 2) := dk_21 5 (dk_at dksX13_best_3 14 rfl rfl)
theorem dX13_best_88 : decode cX13_best 88 = .ok (.invokestatic 132, 3) := dk_184 0 132 (dk_at dksX13_best_3 16 rfl rfl)
theorem dX13_best_91 : decode cX13_best 91 = .ok (.istore_n 3, 1) := dk_62 (dk_at dksX13_best_3 19 rfl rfl)
theorem dX13_best_92 : decode cX13_best 92 = .ok (.iinc 4 1, 3) := dk_132 4 1 (dk_at dksX13_best_3 20 rfl rfl)
theorem dX13_best_95 : decode cX13_best 95 = .ok (.goto (-71), 3) := dk_167 255 185 (dk_at dksX13_best_4 0 rfl rfl)
theorem dX13_best_98 : decode cX13_best 98 = .ok (.aload_n 0, 1) := dk_42 (dk_at dksX13_best_4 3 rfl rfl)
theorem dX13_best_99 : decode cX13_best 99 = .ok (.iload_n 2, 1) := dk_28 (dk_at dksX13_best_4 4 rfl rfl)
theorem dX13_best_100 : decode cX13_best 100 = .ok (.invokevirtual 208, 3) := dk_182 0 208 (dk_at dksX13_best_4 5 rfl rfl)
theorem dX13_best_103 : decode cX13_best 103 = .ok (.ireturn, 1) := dk_172 (dk_at dksX13_best_4 8 rfl rfl)
abbrev cX13_drive : ByteArray := prog_16_method_58_code
def yX13_drive : MethodName := ⟨RX13, "drive", "(II)I"⟩
def dkwX13_drive_5 : List UInt8 := [172]
abbrev dktX13_drive_5 : List UInt8 := dkwX13_drive_5 ++ []
def dkwX13_drive_4 : List UInt8 := [54, 5, 132, 6, 1, 167, 255, 201, 42, 180, 0, 9, 16, 14, 27, 96, 29, 79, 42, 21, 4, 182, 0, 208]
abbrev dktX13_drive_4 : List UInt8 := dkwX13_drive_4 ++ dktX13_drive_5
def dkwX13_drive_3 : List UInt8 := [21, 7, 21, 5, 162, 0, 8, 21, 6, 167, 0, 5, 21, 4, 54, 4, 21, 5, 21, 7, 184, 0, 125]
abbrev dktX13_drive_3 : List UInt8 := dkwX13_drive_3 ++ dktX13_drive_4
def dkwX13_drive_2 : List UInt8 := [162, 0, 54, 42, 180, 0, 9, 16, 14, 27, 96, 21, 6, 79, 42, 28, 16, 20, 182, 0, 199, 54, 7]
abbrev dktX13_drive_2 : List UInt8 := dkwX13_drive_2 ++ dktX13_drive_3
def dkwX13_drive_1 : List UInt8 := [180, 0, 9, 16, 14, 27, 96, 46, 62, 2, 54, 4, 18, 197, 54, 5, 3, 54, 6, 21, 6, 16, 64]
abbrev dktX13_drive_1 : List UInt8 := dkwX13_drive_1 ++ dktX13_drive_2
def dkwX13_drive_0 : List UInt8 := [27, 184, 0, 95, 153, 0, 11, 42, 28, 182, 0, 141, 154, 0, 10, 42, 18, 69, 182, 0, 88, 172, 42]
abbrev dktX13_drive_0 : List UInt8 := dkwX13_drive_0 ++ dktX13_drive_1
theorem dksX13_drive_0 : cX13_drive.data.toList.drop 0 = dktX13_drive_0 := by decide +kernel
theorem dksX13_drive_1 : cX13_drive.data.toList.drop 23 = dktX13_drive_1 := dk_seg dksX13_drive_0 23 rfl rfl
theorem dksX13_drive_2 : cX13_drive.data.toList.drop 46 = dktX13_drive_2 := dk_seg dksX13_drive_1 23 rfl rfl
theorem dksX13_drive_3 : cX13_drive.data.toList.drop 69 = dktX13_drive_3 := dk_seg dksX13_drive_2 23 rfl rfl
theorem dksX13_drive_4 : cX13_drive.data.toList.drop 92 = dktX13_drive_4 := dk_seg dksX13_drive_3 23 rfl rfl
theorem dksX13_drive_5 : cX13_drive.data.toList.drop 116 = dktX13_drive_5 := dk_seg dksX13_drive_4 24 rfl rfl
theorem dX13_drive_0 : decode cX13_drive 0 = .ok (.iload_n 1, 1) := dk_27 (dk_at dksX13_drive_0 0 rfl rfl)
theorem dX13_drive_1 : decode cX13_drive 1 = .ok (.invokestatic 95, 3) := dk_184 0 95 (dk_at dksX13_drive_0 1 rfl rfl)
theorem dX13_drive_4 : decode cX13_drive 4 = .ok (.ifCond .eq 11, 3) := dk_153 0 11 (dk_at dksX13_drive_0 4 rfl rfl)
theorem dX13_drive_7 : decode cX13_drive 7 = .ok (.aload_n 0, 1) := dk_42 (dk_at dksX13_drive_0 7 rfl rfl)
theorem dX13_drive_8 : decode cX13_drive 8 = .ok (.iload_n 2, 1) := dk_28 (dk_at dksX13_drive_0 8 rfl rfl)
theorem dX13_drive_9 : decode cX13_drive 9 = .ok (.invokevirtual 141, 3) := dk_182 0 141 (dk_at dksX13_drive_0 9 rfl rfl)
theorem dX13_drive_12 : decode cX13_drive 12 = .ok (.ifCond .ne 10, 3) := dk_154 0 10 (dk_at dksX13_drive_0 12 rfl rfl)
theorem dX13_drive_15 : decode cX13_drive 15 = .ok (.aload_n 0, 1) := dk_42 (dk_at dksX13_drive_0 15 rfl rfl)
theorem dX13_drive_16 : decode cX13_drive 16 = .ok (.ldc 69, 2) := dk_18 69 (dk_at dksX13_drive_0 16 rfl rfl)
theorem dX13_drive_18 : decode cX13_drive 18 = .ok (.invokevirtual 88, 3) := dk_182 0 88 (dk_at dksX13_drive_0 18 rfl rfl)
theorem dX13_drive_21 : decode cX13_drive 21 = .ok (.ireturn, 1) := dk_172 (dk_at dksX13_drive_0 21 rfl rfl)
theorem dX13_drive_22 : decode cX13_drive 22 = .ok (.aload_n 0, 1) := dk_42 (dk_at dksX13_drive_0 22 rfl rfl)
theorem dX13_drive_23 : decode cX13_drive 23 = .ok (.getfield 9, 3) := dk_180 0 9 (dk_at dksX13_drive_1 0 rfl rfl)
theorem dX13_drive_26 : decode cX13_drive 26 = .ok (.bipush 14, 2) := dk_16 14 (dk_at dksX13_drive_1 3 rfl rfl)
theorem dX13_drive_28 : decode cX13_drive 28 = .ok (.iload_n 1, 1) := dk_27 (dk_at dksX13_drive_1 5 rfl rfl)
theorem dX13_drive_29 : decode cX13_drive 29 = .ok (.iadd, 1) := dk_96 (dk_at dksX13_drive_1 6 rfl rfl)
theorem dX13_drive_30 : decode cX13_drive 30 = .ok (.iaload, 1) := dk_46 (dk_at dksX13_drive_1 7 rfl rfl)
theorem dX13_drive_31 : decode cX13_drive 31 = .ok (.istore_n 3, 1) := dk_62 (dk_at dksX13_drive_1 8 rfl rfl)
theorem dX13_drive_32 : decode cX13_drive 32 = .ok (.iconst (-1), 1) := dk_2 (dk_at dksX13_drive_1 9 rfl rfl)
theorem dX13_drive_33 : decode cX13_drive 33 = .ok (.istore 4, 2) := dk_54 4 (dk_at dksX13_drive_1 10 rfl rfl)
theorem dX13_drive_35 : decode cX13_drive 35 = .ok (.ldc 197, 2) := dk_18 197 (dk_at dksX13_drive_1 12 rfl rfl)
theorem dX13_drive_37 : decode cX13_drive 37 = .ok (.istore 5, 2) := dk_54 5 (dk_at dksX13_drive_1 14 rfl rfl)
theorem dX13_drive_39 : decode cX13_drive 39 = .ok (.iconst 0, 1) := dk_3 (dk_at dksX13_drive_1 16 rfl rfl)
theorem dX13_drive_40 : decode cX13_drive 40 = .ok (.istore 6, 2) := dk_54 6 (dk_at dksX13_drive_1 17 rfl rfl)
theorem dX13_drive_42 : decode cX13_drive 42 = .ok (.iload 6, 2) := dk_21 6 (dk_at dksX13_drive_1 19 rfl rfl)
theorem dX13_drive_44 : decode cX13_drive 44 = .ok (.bipush 64, 2) := dk_16 64 (dk_at dksX13_drive_1 21 rfl rfl)
theorem dX13_drive_46 : decode cX13_drive 46 = .ok (.if_icmp .ge 54, 3) := dk_162 0 54 (dk_at dksX13_drive_2 0 rfl rfl)
theorem dX13_drive_49 : decode cX13_drive 49 = .ok (.aload_n 0, 1) := dk_42 (dk_at dksX13_drive_2 3 rfl rfl)
theorem dX13_drive_50 : decode cX13_drive 50 = .ok (.getfield 9, 3) := dk_180 0 9 (dk_at dksX13_drive_2 4 rfl rfl)
theorem dX13_drive_53 : decode cX13_drive 53 = .ok (.bipush 14, 2) := dk_16 14 (dk_at dksX13_drive_2 7 rfl rfl)
theorem dX13_drive_55 : decode cX13_drive 55 = .ok (.iload_n 1, 1) := dk_27 (dk_at dksX13_drive_2 9 rfl rfl)
theorem dX13_drive_56 : decode cX13_drive 56 = .ok (.iadd, 1) := dk_96 (dk_at dksX13_drive_2 10 rfl rfl)
theorem dX13_drive_57 : decode cX13_drive 57 = .ok (.iload 6, 2) := dk_21 6 (dk_at dksX13_drive_2 11 rfl rfl)
theorem dX13_drive_59 : decode cX13_drive 59 = .ok (.iastore, 1) := dk_79 (dk_at dksX13_drive_2 13 rfl rfl)
theorem dX13_drive_60 : decode cX13_drive 60 = .ok (.aload_n 0, 1) := dk_42 (dk_at dksX13_drive_2 14 rfl rfl)
theorem dX13_drive_61 : decode cX13_drive 61 = .ok (.iload_n 2, 1) := dk_28 (dk_at dksX13_drive_2 15 rfl rfl)
theorem dX13_drive_62 : decode cX13_drive 62 = .ok (.bipush 20, 2) := dk_16 20 (dk_at dksX13_drive_2 16 rfl rfl)
theorem dX13_drive_64 : decode cX13_drive 64 = .ok (.invokevirtual 199, 3) := dk_182 0 199 (dk_at dksX13_drive_2 18 rfl rfl)
theorem dX13_drive_67 : decode cX13_drive 67 = .ok (.istore 7, 2) := dk_54 7 (dk_at dksX13_drive_2 21 rfl rfl)
theorem dX13_drive_69 : decode cX13_drive 69 = .ok (.iload 7, 2) := dk_21 7 (dk_at dksX13_drive_3 0 rfl rfl)
theorem dX13_drive_71 : decode cX13_drive 71 = .ok (.iload 5, 2) := dk_21 5 (dk_at dksX13_drive_3 2 rfl rfl)
theorem dX13_drive_73 : decode cX13_drive 73 = .ok (.if_icmp .ge 8, 3) := dk_162 0 8 (dk_at dksX13_drive_3 4 rfl rfl)
theorem dX13_drive_76 : decode cX13_drive 76 = .ok (.iload 6, 2) := dk_21 6 (dk_at dksX13_drive_3 7 rfl rfl)
theorem dX13_drive_78 : decode cX13_drive 78 = .ok (.goto 5, 3) := dk_167 0 5 (dk_at dksX13_drive_3 9 rfl rfl)
theorem dX13_drive_81 : decode cX13_drive 81 = .ok (.iload 4, 2) := dk_21 4 (dk_at dksX13_drive_3 12 rfl rfl)
theorem dX13_drive_83 : decode cX13_drive 83 = .ok (.istore 4, 2) := dk_54 4 (dk_at dksX13_drive_3 14 rfl rfl)
theorem dX13_drive_85 : decode cX13_drive 85 = .ok (.iload 5, 2) := dk_21 5 (dk_at dksX13_drive_3 16 rfl rfl)
theorem dX13_drive_87 : decode cX13_drive 87 = .ok (.iload 7, 2) := dk_21 7 (dk_at dksX13_drive_3 18 rfl rfl)
theorem dX13_drive_89 : decode cX13_drive 89 = .ok (.invokestatic 125, 3) := dk_184 0 125 (dk_at dksX13_drive_3 20 rfl rfl)
theorem dX13_drive_92 : decode cX13_drive 92 = .ok (.istore 5, 2) := dk_54 5 (dk_at dksX13_drive_4 0 rfl rfl)
theorem dX13_drive_94 : decode cX13_drive 94 = .ok (.iinc 6 1, 3) := dk_132 6 1 (dk_at dksX13_drive_4 2 rfl rfl)
theorem dX13_drive_97 : decode cX13_drive 97 = .ok (.goto (-55), 3) := dk_167 255 201 (dk_at dksX13_drive_4 5 rfl rfl)
theorem dX13_drive_100 : decode cX13_drive 100 = .ok (.aload_n 0, 1) := dk_42 (dk_at dksX13_drive_4 8 rfl rfl)
theorem dX13_drive_101 : decode cX13_drive 101 = .ok (.getfield 9, 3) := dk_180 0 9 (dk_at dksX13_drive_4 9 rfl rfl)
theorem dX13_drive_104 : decode cX13_drive 104 = .ok (.bipush 14, 2) := dk_16 14 (dk_at dksX13_drive_4 12 rfl rfl)
theorem dX13_drive_106 : decode cX13_drive 106 = .ok (.iload_n 1, 1) := dk_27 (dk_at dksX13_drive_4 14 rfl rfl)
theorem dX13_drive_107 : decode cX13_drive 107 = .ok (.iadd, 1) := dk_96 (dk_at dksX13_drive_4 15 rfl rfl)
theorem dX13_drive_108 : decode cX13_drive 108 = .ok (.iload_n 3, 1) := dk_29 (dk_at dksX13_drive_4 16 rfl rfl)
theorem dX13_drive_109 : decode cX13_drive 109 = .ok (.iastore, 1) := dk_79 (dk_at dksX13_drive_4 17 rfl rfl)
theorem dX13_drive_110 : decode cX13_drive 110 = .ok (.aload_n 0, 1) := dk_42 (dk_at dksX13_drive_4 18 rfl rfl)
theorem dX13_drive_111 : decode cX13_drive 111 = .ok (.iload 4, 2) := dk_21 4 (dk_at dksX13_drive_4 19 rfl rfl)
theorem dX13_drive_113 : decode cX13_drive 113 = .ok (.invokevirtual 208, 3) := dk_182 0 208 (dk_at dksX13_drive_4 21 rfl rfl)
theorem dX13_drive_116 : decode cX13_drive 116 = .ok (.ireturn, 1) := dk_172 (dk_at dksX13_drive_5 0 rfl rfl)
abbrev cX13_kindFor : ByteArray := prog_16_method_59_code
def yX13_kindFor : MethodName := ⟨RX13, "kindFor", "(I)I"⟩
def dkwX13_kindFor_4 : List UInt8 := [27, 3, 184, 0, 98, 28, 79, 29, 172]
abbrev dktX13_kindFor_4 : List UInt8 := dkwX13_kindFor_4 ++ []
def dkwX13_kindFor_3 : List UInt8 := [167, 0, 4, 29, 62, 21, 4, 21, 6, 184, 0, 132, 54, 4, 132, 5, 1, 167, 255, 197, 42, 180, 0, 9]
abbrev dktX13_kindFor_3 : List UInt8 := dkwX13_kindFor_3 ++ dktX13_kindFor_4
def dkwX13_kindFor_2 : List UInt8 := [79, 16, 60, 42, 27, 16, 60, 182, 0, 199, 184, 0, 125, 54, 6, 21, 6, 21, 4, 164, 0, 8, 21, 5]
abbrev dktX13_kindFor_2 : List UInt8 := dkwX13_kindFor_2 ++ dktX13_kindFor_3
def dkwX13_kindFor_1 : List UInt8 := [2, 54, 4, 3, 54, 5, 21, 5, 16, 6, 163, 0, 58, 42, 180, 0, 9, 27, 3, 184, 0, 98, 21, 5]
abbrev dktX13_kindFor_1 : List UInt8 := dkwX13_kindFor_1 ++ dktX13_kindFor_2
def dkwX13_kindFor_0 : List UInt8 := [42, 27, 182, 0, 141, 154, 0, 10, 42, 18, 69, 182, 0, 88, 172, 42, 27, 3, 182, 0, 101, 61, 2, 62]
abbrev dktX13_kindFor_0 : List UInt8 := dkwX13_kindFor_0 ++ dktX13_kindFor_1
theorem dksX13_kindFor_0 : cX13_kindFor.data.toList.drop 0 = dktX13_kindFor_0 := by decide +kernel
theorem dksX13_kindFor_1 : cX13_kindFor.data.toList.drop 24 = dktX13_kindFor_1 := dk_seg dksX13_kindFor_0 24 rfl rfl
theorem dksX13_kindFor_2 : cX13_kindFor.data.toList.drop 48 = dktX13_kindFor_2 := dk_seg dksX13_kindFor_1 24 rfl rfl
theorem dksX13_kindFor_3 : cX13_kindFor.data.toList.drop 72 = dktX13_kindFor_3 := dk_seg dksX13_kindFor_2 24 rfl rfl
theorem dksX13_kindFor_4 : cX13_kindFor.data.toList.drop 96 = dktX13_kindFor_4 := dk_seg dksX13_kindFor_3 24 rfl rfl
theorem dX13_kindFor_0 : decode cX13_kindFor 0 = .ok (.aload_n 0, 1) := dk_42 (dk_at dksX13_kindFor_0 0 rfl rfl)
theorem dX13_kindFor_1 : decode cX13_kindFor 1 = .ok (.iload_n 1, 1) := dk_27 (dk_at dksX13_kindFor_0 1 rfl rfl)
theorem dX13_kindFor_2 : decode cX13_kindFor 2 = .ok (.invokevirtual 141, 3) := dk_182 0 141 (dk_at dksX13_kindFor_0 2 rfl rfl)
theorem dX13_kindFor_5 : decode cX13_kindFor 5 = .ok (.ifCond .ne 10, 3) := dk_154 0 10 (dk_at dksX13_kindFor_0 5 rfl rfl)
theorem dX13_kindFor_8 : decode cX13_kindFor 8 = .ok (.aload_n 0, 1) := dk_42 (dk_at dksX13_kindFor_0 8 rfl rfl)
theorem dX13_kindFor_9 : decode cX13_kindFor 9 = .ok (.ldc 69, 2) := dk_18 69 (dk_at dksX13_kindFor_0 9 rfl rfl)
theorem dX13_kindFor_11 : decode cX13_kindFor 11 = .ok (.invokevirtual 88, 3) := dk_182 0 88 (dk_at dksX13_kindFor_0 11 rfl rfl)
theorem dX13_kindFor_14 : decode cX13_kindFor 14 = .ok (.ireturn, 1) := dk_172 (dk_at dksX13_kindFor_0 14 rfl rfl)
theorem dX13_kindFor_15 : decode cX13_kindFor 15 = .ok (.aload_n 0, 1) := dk_42 (dk_at dksX13_kindFor_0 15 rfl rfl)
theorem dX13_kindFor_16 : decode cX13_kindFor 16 = .ok (.iload_n 1, 1) := dk_27 (dk_at dksX13_kindFor_0 16 rfl rfl)
theorem dX13_kindFor_17 : decode cX13_kindFor 17 = .ok (.iconst 0, 1) := dk_3 (dk_at dksX13_kindFor_0 17 rfl rfl)
theorem dX13_kindFor_18 : decode cX13_kindFor 18 = .ok (.invokevirtual 101, 3) := dk_182 0 101 (dk_at dksX13_kindFor_0 18 rfl rfl)
theorem dX13_kindFor_21 : decode cX13_kindFor 21 = .ok (.istore_n 2, 1) := dk_61 (dk_at dksX13_kindFor_0 21 rfl rfl)
theorem dX13_kindFor_22 : decode cX13_kindFor 22 = .ok (.iconst (-1), 1) := dk_2 (dk_at dksX13_kindFor_0 22 rfl rfl)
theorem dX13_kindFor_23 : decode cX13_kindFor 23 = .ok (.istore_n 3, 1) := dk_62 (dk_at dksX13_kindFor_0 23 rfl rfl)
theorem dX13_kindFor_24 : decode cX13_kindFor 24 = .ok (.iconst (-1), 1) := dk_2 (dk_at dksX13_kindFor_1 0 rfl rfl)
theorem dX13_kindFor_25 : decode cX13_kindFor 25 = .ok (.istore 4, 2) := dk_54 4 (dk_at dksX13_kindFor_1 1 rfl rfl)
theorem dX13_kindFor_27 : decode cX13_kindFor 27 = .ok (.iconst 0, 1) := dk_3 (dk_at dksX13_kindFor_1 3 rfl rfl)
theorem dX13_kindFor_28 : decode cX13_kindFor 28 = .ok (.istore 5, 2) := dk_54 5 (dk_at dksX13_kindFor_1 4 rfl rfl)
theorem dX13_kindFor_30 : decode cX13_kindFor 30 = .ok (.iload 5, 2) := dk_21 5 (dk_at dksX13_kindFor_1 6 rfl rfl)
theorem dX13_kindFor_32 : decode cX13_kindFor 32 = .ok (.bipush 6, 2) := dk_16 6 (dk_at dksX13_kindFor_1 8 rfl rfl)
theorem dX13_kindFor_34 : decode cX13_kindFor 34 = .ok (.if_icmp .gt 58, 3) := dk_163 0 58 (dk_at dksX13_kindFor_1 10 rfl rfl)
theorem dX13_kindFor_37 : decode cX13_kindFor 37 = .ok (.aload_n 0, 1) := dk_42 (dk_at dksX13_kindFor_1 13 rfl rfl)
theorem dX13_kindFor_38 : decode cX13_kindFor 38 = .ok (.getfield 9, 3) := dk_180 0 9 (dk_at dksX13_kindFor_1 14 rfl rfl)
theorem dX13_kindFor_41 : decode cX13_kindFor 41 = .ok (.iload_n 1, 1) := dk_27 (dk_at dksX13_kindFor_1 17 rfl rfl)
theorem dX13_kindFor_42 : decode cX13_kindFor 42 = .ok (.iconst 0, 1) := dk_3 (dk_at dksX13_kindFor_1 18 rfl rfl)
theorem dX13_kindFor_43 : decode cX13_kindFor 43 = .ok (.invokestatic 98, 3) := dk_184 0 98 (dk_at dksX13_kindFor_1 19 rfl rfl)
theorem dX13_kindFor_46 : decode cX13_kindFor 46 = .ok (.iload 5, 2) := dk_21 5 (dk_at dksX13_kindFor_1 22 rfl rfl)
theorem dX13_kindFor_48 : decode cX13_kindFor 48 = .ok (.iastore, 1) := dk_79 (dk_at dksX13_kindFor_2 0 rfl rfl)
theorem dX13_kindFor_49 : decode cX13_kindFor 49 = .ok (.bipush 60, 2) := dk_16 60 (dk_at dksX13_kindFor_2 1 rfl rfl)
theorem dX13_kindFor_51 : decode cX13_kindFor 51 = .ok (.aload_n 0, 1) := dk_42 (dk_at dksX13_kindFor_2 3 rfl rfl)
theorem dX13_kindFor_52 : decode cX13_kindFor 52 = .ok (.iload_n 1, 1) := dk_27 (dk_at dksX13_kindFor_2 4 rfl rfl)
theorem dX13_kindFor_53 : decode cX13_kindFor 53 = .ok (.bipush 60, 2) := dk_16 60 (dk_at dksX13_kindFor_2 5 rfl rfl)
theorem dX13_kindFor_55 : decode cX13_kindFor 55 = .ok (.invokevirtual 199, 3) := dk_182 0 199 (dk_at dksX13_kindFor_2 7 rfl rfl)
theorem dX13_kindFor_58 : decode cX13_kindFor 58 = .ok (.invokestatic 125, 3) := dk_184 0 125 (dk_at dksX13_kindFor_2 10 rfl rfl)
theorem dX13_kindFor_61 : decode cX13_kindFor 61 = .ok (.istore 6, 2) := dk_54 6 (dk_at dksX13_kindFor_2 13 rfl rfl)
theorem dX13_kindFor_63 : decode cX13_kindFor 63 = .ok (.iload 6, 2) := dk_21 6 (dk_at dksX13_kindFor_2 15 rfl rfl)
theorem dX13_kindFor_65 : decode cX13_kindFor 65 = .ok (.iload 4, 2) := dk_21 4 (dk_at dksX13_kindFor_2 17 rfl rfl)
theorem dX13_kindFor_67 : decode cX13_kindFor 67 = .ok (.if_icmp .le 8, 3) := dk_164 0 8 (dk_at dksX13_kindFor_2 19 rfl rfl)
theorem dX13_kindFor_70 : decode cX13_kindFor 70 = .ok (.iload 5, 2) := dk_21 5 (dk_at dksX13_kindFor_2 22 rfl rfl)
theorem dX13_kindFor_72 : decode cX13_kindFor 72 = .ok (.goto 4, 3) := dk_167 0 4 (dk_at dksX13_kindFor_3 0 rfl rfl)
theorem dX13_kindFor_75 : decode cX13_kindFor 75 = .ok (.iload_n 3, 1) := dk_29 (dk_at dksX13_kindFor_3 3 rfl rfl)
theorem dX13_kindFor_76 : decode cX13_kindFor 76 = .ok (.istore_n 3, 1) := dk_62 (dk_at dksX13_kindFor_3 4 rfl rfl)
theorem dX13_kindFor_77 : decode cX13_kindFor 77 = .ok (.iload 4, 2) := dk_21 4 (dk_at dksX13_kindFor_3 5 rfl rfl)
theorem dX13_kindFor_79 : decode cX13_kindFor 79 = .ok (.iload 6, 2) := dk_21 6 (dk_at dksX13_kindFor_3 7 rfl rfl)
theorem dX13_kindFor_81 : decode cX13_kindFor 81 = .ok (.invokestatic 132, 3) := dk_184 0 132 (dk_at dksX13_kindFor_3 9 rfl rfl)
theorem dX13_kindFor_84 : decode cX13_kindFor 84 = .ok (.istore 4, 2) := dk_54 4 (dk_at dksX13_kindFor_3 12 rfl rfl)
theorem dX13_kindFor_86 : decode cX13_kindFor 86 = .ok (.iinc 5 1, 3) := dk_132 5 1 (dk_at dksX13_kindFor_3 14 rfl rfl)
theorem dX13_kindFor_89 : decode cX13_kindFor 89 = .ok (.goto (-59), 3) := dk_167 255 197 (dk_at dksX13_kindFor_3 17 rfl rfl)
theorem dX13_kindFor_92 : decode cX13_kindFor 92 = .ok (.aload_n 0, 1) := dk_42 (dk_at dksX13_kindFor_3 20 rfl rfl)
theorem dX13_kindFor_93 : decode cX13_kindFor 93 = .ok (.getfield 9, 3) := dk_180 0 9 (dk_at dksX13_kindFor_3 21 rfl rfl)
theorem dX13_kindFor_96 : decode cX13_kindFor 96 = .ok (.iload_n 1, 1) := dk_27 (dk_at dksX13_kindFor_4 0 rfl rfl)
theorem dX13_kindFor_97 : decode cX13_kindFor 97 = .ok (.iconst 0, 1) := dk_3 (dk_at dksX13_kindFor_4 1 rfl rfl)
theorem dX13_kindFor_98 : decode cX13_kindFor 98 = .ok (.invokestatic 98, 3) := dk_184 0 98 (dk_at dksX13_kindFor_4 2 rfl rfl)
theorem dX13_kindFor_101 : decode cX13_kindFor 101 = .ok (.iload_n 2, 1) := dk_28 (dk_at dksX13_kindFor_4 5 rfl rfl)
theorem dX13_kindFor_102 : decode cX13_kindFor 102 = .ok (.iastore, 1) := dk_79 (dk_at dksX13_kindFor_4 6 rfl rfl)
theorem dX13_kindFor_103 : decode cX13_kindFor 103 = .ok (.iload_n 3, 1) := dk_29 (dk_at dksX13_kindFor_4 7 rfl rfl)
theorem dX13_kindFor_104 : decode cX13_kindFor 104 = .ok (.ireturn, 1) := dk_172 (dk_at dksX13_kindFor_4 8 rfl rfl)
abbrev cX13_stands : ByteArray := prog_16_method_66_code
def yX13_stands : MethodName := ⟨RX13, "stands", "(II)I"⟩
def dkwX13_stands_2 : List UInt8 := [167, 0, 4, 3, 96, 62, 132, 4, 1, 167, 255, 227, 29, 172]
abbrev dktX13_stands_2 : List UInt8 := dkwX13_stands_2 ++ []
def dkwX13_stands_1 : List UInt8 := [54, 4, 21, 4, 16, 64, 162, 0, 28, 29, 42, 27, 28, 21, 4, 182, 0, 230, 153, 0, 7, 4]
abbrev dktX13_stands_1 : List UInt8 := dkwX13_stands_1 ++ dktX13_stands_2
def dkwX13_stands_0 : List UInt8 := [42, 27, 28, 182, 0, 227, 153, 0, 14, 42, 42, 27, 28, 182, 0, 227, 182, 0, 88, 172, 3, 62, 3]
abbrev dktX13_stands_0 : List UInt8 := dkwX13_stands_0 ++ dktX13_stands_1
theorem dksX13_stands_0 : cX13_stands.data.toList.drop 0 = dktX13_stands_0 := by decide +kernel
theorem dksX13_stands_1 : cX13_stands.data.toList.drop 23 = dktX13_stands_1 := dk_seg dksX13_stands_0 23 rfl rfl
theorem dksX13_stands_2 : cX13_stands.data.toList.drop 45 = dktX13_stands_2 := dk_seg dksX13_stands_1 22 rfl rfl
theorem dX13_stands_0 : decode cX13_stands 0 = .ok (.aload_n 0, 1) := dk_42 (dk_at dksX13_stands_0 0 rfl rfl)
theorem dX13_stands_1 : decode cX13_stands 1 = .ok (.iload_n 1, 1) := dk_27 (dk_at dksX13_stands_0 1 rfl rfl)
theorem dX13_stands_2 : decode cX13_stands 2 = .ok (.iload_n 2, 1) := dk_28 (dk_at dksX13_stands_0 2 rfl rfl)
theorem dX13_stands_3 : decode cX13_stands 3 = .ok (.invokevirtual 227, 3) := dk_182 0 227 (dk_at dksX13_stands_0 3 rfl rfl)
theorem dX13_stands_6 : decode cX13_stands 6 = .ok (.ifCond .eq 14, 3) := dk_153 0 14 (dk_at dksX13_stands_0 6 rfl rfl)
theorem dX13_stands_9 : decode cX13_stands 9 = .ok (.aload_n 0, 1) := dk_42 (dk_at dksX13_stands_0 9 rfl rfl)
theorem dX13_stands_10 : decode cX13_stands 10 = .ok (.aload_n 0, 1) := dk_42 (dk_at dksX13_stands_0 10 rfl rfl)
theorem dX13_stands_11 : decode cX13_stands 11 = .ok (.iload_n 1, 1) := dk_27 (dk_at dksX13_stands_0 11 rfl rfl)
theorem dX13_stands_12 : decode cX13_stands 12 = .ok (.iload_n 2, 1) := dk_28 (dk_at dksX13_stands_0 12 rfl rfl)
theorem dX13_stands_13 : decode cX13_stands 13 = .ok (.invokevirtual 227, 3) := dk_182 0 227 (dk_at dksX13_stands_0 13 rfl rfl)
theorem dX13_stands_16 : decode cX13_stands 16 = .ok (.invokevirtual 88, 3) := dk_182 0 88 (dk_at dksX13_stands_0 16 rfl rfl)
theorem dX13_stands_19 : decode cX13_stands 19 = .ok (.ireturn, 1) := dk_172 (dk_at dksX13_stands_0 19 rfl rfl)
theorem dX13_stands_20 : decode cX13_stands 20 = .ok (.iconst 0, 1) := dk_3 (dk_at dksX13_stands_0 20 rfl rfl)
theorem dX13_stands_21 : decode cX13_stands 21 = .ok (.istore_n 3, 1) := dk_62 (dk_at dksX13_stands_0 21 rfl rfl)
theorem dX13_stands_22 : decode cX13_stands 22 = .ok (.iconst 0, 1) := dk_3 (dk_at dksX13_stands_0 22 rfl rfl)
theorem dX13_stands_23 : decode cX13_stands 23 = .ok (.istore 4, 2) := dk_54 4 (dk_at dksX13_stands_1 0 rfl rfl)
theorem dX13_stands_25 : decode cX13_stands 25 = .ok (.iload 4, 2) := dk_21 4 (dk_at dksX13_stands_1 2 rfl rfl)
theorem dX13_stands_27 : decode cX13_stands 27 = .ok (.bipush 64, 2) := dk_16 64 (dk_at dksX13_stands_1 4 rfl rfl)
theorem dX13_stands_29 : decode cX13_stands 29 = .ok (.if_icmp .ge 28, 3) := dk_162 0 28 (dk_at dksX13_stands_1 6 rfl rfl)
theorem dX13_stands_32 : decode cX13_stands 32 = .ok (.iload_n 3, 1) := dk_29 (dk_at dksX13_stands_1 9 rfl rfl)
theorem dX13_stands_33 : decode cX13_stands 33 = .ok (.aload_n 0, 1) := dk_42 (dk_at dksX13_stands_1 10 rfl rfl)
theorem dX13_stands_34 : decode cX13_stands 34 = .ok (.iload_n 1, 1) := dk_27 (dk_at dksX13_stands_1 11 rfl rfl)
theorem dX13_stands_35 : decode cX13_stands 35 = .ok (.iload_n 2, 1) := dk_28 (dk_at dksX13_stands_1 12 rfl rfl)
theorem dX13_stands_36 : decode cX13_stands 36 = .ok (.iload 4, 2) := dk_21 4 (dk_at dksX13_stands_1 13 rfl rfl)
theorem dX13_stands_38 : decode cX13_stands 38 = .ok (.invokevirtual 230, 3) := dk_182 0 230 (dk_at dksX13_stands_1 15 rfl rfl)
theorem dX13_stands_41 : decode cX13_stands 41 = .ok (.ifCond .eq 7, 3) := dk_153 0 7 (dk_at dksX13_stands_1 18 rfl rfl)
theorem dX13_stands_44 : decode cX13_stands 44 = .ok (.iconst 1, 1) := dk_4 (dk_at dksX13_stands_1 21 rfl rfl)
theorem dX13_stands_45 : decode cX13_stands 45 = .ok (.goto 4, 3) := dk_167 0 4 (dk_at dksX13_stands_2 0 rfl rfl)
theorem dX13_stands_48 : decode cX13_stands 48 = .ok (.iconst 0, 1) := dk_3 (dk_at dksX13_stands_2 3 rfl rfl)
theorem dX13_stands_49 : decode cX13_stands 49 = .ok (.iadd, 1) := dk_96 (dk_at dksX13_stands_2 4 rfl rfl)
theorem dX13_stands_50 : decode cX13_stands 50 = .ok (.istore_n 3, 1) := dk_62 (dk_at dksX13_stands_2 5 rfl rfl)
theorem dX13_stands_51 : decode cX13_stands 51 = .ok (.iinc 4 1, 3) := dk_132 4 1 (dk_at dksX13_stands_2 6 rfl rfl)
theorem dX13_stands_54 : decode cX13_stands 54 = .ok (.goto (-29), 3) := dk_167 255 227 (dk_at dksX13_stands_2 9 rfl rfl)
theorem dX13_stands_57 : decode cX13_stands 57 = .ok (.iload_n 3, 1) := dk_29 (dk_at dksX13_stands_2 12 rfl rfl)
theorem dX13_stands_58 : decode cX13_stands 58 = .ok (.ireturn, 1) := dk_172 (dk_at dksX13_stands_2 13 rfl rfl)
abbrev cX13_lacksOf : ByteArray := prog_16_method_65_code
def yX13_lacksOf : MethodName := ⟨RX13, "lacksOf", "(II)I"⟩
def dkwX13_lacksOf_1 : List UInt8 := [18, 69, 167, 0, 17, 42, 27, 182, 0, 224, 153, 0, 7, 3, 167, 0, 5, 18, 173, 172]
abbrev dktX13_lacksOf_1 : List UInt8 := dkwX13_lacksOf_1 ++ []
def dkwX13_lacksOf_0 : List UInt8 := [42, 27, 182, 0, 221, 62, 29, 153, 0, 7, 29, 167, 0, 32, 28, 4, 16, 99, 184, 0, 74, 154, 0, 8]
abbrev dktX13_lacksOf_0 : List UInt8 := dkwX13_lacksOf_0 ++ dktX13_lacksOf_1
theorem dksX13_lacksOf_0 : cX13_lacksOf.data.toList.drop 0 = dktX13_lacksOf_0 := by decide +kernel
theorem dksX13_lacksOf_1 : cX13_lacksOf.data.toList.drop 24 = dktX13_lacksOf_1 := dk_seg dksX13_lacksOf_0 24 rfl rfl
theorem dX13_lacksOf_0 : decode cX13_lacksOf 0 = .ok (.aload_n 0, 1) := dk_42 (dk_at dksX13_lacksOf_0 0 rfl rfl)
theorem dX13_lacksOf_1 : decode cX13_lacksOf 1 = .ok (.iload_n 1, 1) := dk_27 (dk_at dksX13_lacksOf_0 1 rfl rfl)
theorem dX13_lacksOf_2 : decode cX13_lacksOf 2 = .ok (.invokevirtual 221, 3) := dk_182 0 221 (dk_at dksX13_lacksOf_0 2 rfl rfl)
theorem dX13_lacksOf_5 : decode cX13_lacksOf 5 = .ok (.istore_n 3, 1) := dk_62 (dk_at dksX13_lacksOf_0 5 rfl rfl)
theorem dX13_lacksOf_6 : decode cX13_lacksOf 6 = .ok (.iload_n 3, 1) := dk_29 (dk_at dksX13_lacksOf_0 6 rfl rfl)
theorem dX13_lacksOf_7 : decode cX13_lacksOf 7 = .ok (.ifCond .eq 7, 3) := dk_153 0 7 (dk_at dksX13_lacksOf_0 7 rfl rfl)
theorem dX13_lacksOf_10 : decode cX13_lacksOf 10 = .ok (.iload_n 3, 1) := dk_29 (dk_at dksX13_lacksOf_0 10 rfl rfl)
theorem dX13_lacksOf_11 : decode cX13_lacksOf 11 = .ok (.goto 32, 3) := dk_167 0 32 (dk_at dksX13_lacksOf_0 11 rfl rfl)
theorem dX13_lacksOf_14 : decode cX13_lacksOf 14 = .ok (.iload_n 2, 1) := dk_28 (dk_at dksX13_lacksOf_0 14 rfl rfl)
theorem dX13_lacksOf_15 : decode cX13_lacksOf 15 = .ok (.iconst 1, 1) := dk_4 (dk_at dksX13_lacksOf_0 15 rfl rfl)
theorem dX13_lacksOf_16 : decode cX13_lacksOf 16 = .ok (.bipush 99, 2) := dk_16 99 (dk_at dksX13_lacksOf_0 16 rfl rfl)
theorem dX13_lacksOf_18 : decode cX13_lacksOf 18 = .ok (.invokestatic 74, 3) := dk_184 0 74 (dk_at dksX13_lacksOf_0 18 rfl rfl)
theorem dX13_lacksOf_21 : decode cX13_lacksOf 21 = .ok (.ifCond .ne 8, 3) := dk_154 0 8 (dk_at dksX13_lacksOf_0 21 rfl rfl)
theorem dX13_lacksOf_24 : decode cX13_lacksOf 24 = .ok (.ldc 69, 2) := dk_18 69 (dk_at dksX13_lacksOf_1 0 rfl rfl)
theorem dX13_lacksOf_26 : decode cX13_lacksOf 26 = .ok (.goto 17, 3) := dk_167 0 17 (dk_at dksX13_lacksOf_1 2 rfl rfl)
theorem dX13_lacksOf_29 : decode cX13_lacksOf 29 = .ok (.aload_n 0, 1) := dk_42 (dk_at dksX13_lacksOf_1 5 rfl rfl)
theorem dX13_lacksOf_30 : decode cX13_lacksOf 30 = .ok (.iload_n 1, 1) := dk_27 (dk_at dksX13_lacksOf_1 6 rfl rfl)
theorem dX13_lacksOf_31 : decode cX13_lacksOf 31 = .ok (.invokevirtual 224, 3) := dk_182 0 224 (dk_at dksX13_lacksOf_1 7 rfl rfl)
theorem dX13_lacksOf_34 : decode cX13_lacksOf 34 = .ok (.ifCond .eq 7, 3) := dk_153 0 7 (dk_at dksX13_lacksOf_1 10 rfl rfl)
theorem dX13_lacksOf_37 : decode cX13_lacksOf 37 = .ok (.iconst 0, 1) := dk_3 (dk_at dksX13_lacksOf_1 13 rfl rfl)
theorem dX13_lacksOf_38 : decode cX13_lacksOf 38 = .ok (.goto 5, 3) := dk_167 0 5 (dk_at dksX13_lacksOf_1 14 rfl rfl)
theorem dX13_lacksOf_41 : decode cX13_lacksOf 41 = .ok (.ldc 173, 2) := dk_18 173 (dk_at dksX13_lacksOf_1 17 rfl rfl)
theorem dX13_lacksOf_43 : decode cX13_lacksOf 43 = .ok (.ireturn, 1) := dk_172 (dk_at dksX13_lacksOf_1 19 rfl rfl)
abbrev cX13_lacks : ByteArray := prog_16_method_60_code
def yX13_lacks : MethodName := ⟨RX13, "lacks", "(I)I"⟩
def dkwX13_lacks_1 : List UInt8 := [167, 0, 4, 3, 172]
abbrev dktX13_lacks_1 : List UInt8 := dkwX13_lacks_1 ++ []
def dkwX13_lacks_0 : List UInt8 := [27, 184, 0, 211, 154, 0, 8, 18, 69, 167, 0, 18, 42, 180, 0, 57, 27, 46, 154, 0, 8, 18, 214]
abbrev dktX13_lacks_0 : List UInt8 := dkwX13_lacks_0 ++ dktX13_lacks_1
theorem dksX13_lacks_0 : cX13_lacks.data.toList.drop 0 = dktX13_lacks_0 := by decide +kernel
theorem dksX13_lacks_1 : cX13_lacks.data.toList.drop 23 = dktX13_lacks_1 := dk_seg dksX13_lacks_0 23 rfl rfl
theorem dX13_lacks_0 : decode cX13_lacks 0 = .ok (.iload_n 1, 1) := dk_27 (dk_at dksX13_lacks_0 0 rfl rfl)
theorem dX13_lacks_1 : decode cX13_lacks 1 = .ok (.invokestatic 211, 3) := dk_184 0 211 (dk_at dksX13_lacks_0 1 rfl rfl)
theorem dX13_lacks_4 : decode cX13_lacks 4 = .ok (.ifCond .ne 8, 3) := dk_154 0 8 (dk_at dksX13_lacks_0 4 rfl rfl)
theorem dX13_lacks_7 : decode cX13_lacks 7 = .ok (.ldc 69, 2) := dk_18 69 (dk_at dksX13_lacks_0 7 rfl rfl)
theorem dX13_lacks_9 : decode cX13_lacks 9 = .ok (.goto 18, 3) := dk_167 0 18 (dk_at dksX13_lacks_0 9 rfl rfl)
theorem dX13_lacks_12 : decode cX13_lacks 12 = .ok (.aload_n 0, 1) := dk_42 (dk_at dksX13_lacks_0 12 rfl rfl)
theorem dX13_lacks_13 : decode cX13_lacks 13 = .ok (.getfield 57, 3) := dk_180 0 57 (dk_at dksX13_lacks_0 13 rfl rfl)
theorem dX13_lacks_16 : decode cX13_lacks 16 = .ok (.iload_n 1, 1) := dk_27 (dk_at dksX13_lacks_0 16 rfl rfl)
theorem dX13_lacks_17 : decode cX13_lacks 17 = .ok (.iaload, 1) := dk_46 (dk_at dksX13_lacks_0 17 rfl rfl)
theorem dX13_lacks_18 : decode cX13_lacks 18 = .ok (.ifCond .ne 8, 3) := dk_154 0 8 (dk_at dksX13_lacks_0 18 rfl rfl)
theorem dX13_lacks_21 : decode cX13_lacks 21 = .ok (.ldc 214, 2) := dk_18 214 (dk_at dksX13_lacks_0 21 rfl rfl)
theorem dX13_lacks_23 : decode cX13_lacks 23 = .ok (.goto 4, 3) := dk_167 0 4 (dk_at dksX13_lacks_1 0 rfl rfl)
theorem dX13_lacks_26 : decode cX13_lacks 26 = .ok (.iconst 0, 1) := dk_3 (dk_at dksX13_lacks_1 3 rfl rfl)
theorem dX13_lacks_27 : decode cX13_lacks 27 = .ok (.ireturn, 1) := dk_172 (dk_at dksX13_lacks_1 4 rfl rfl)
abbrev cX13_isSheet : ByteArray := prog_16_method_102_code
def yX13_isSheet : MethodName := ⟨RX13, "isSheet", "(I)Z"⟩
def dkwX13_isSheet_0 : List UInt8 := [26, 3, 6, 184, 0, 74, 172]
abbrev dktX13_isSheet_0 : List UInt8 := dkwX13_isSheet_0 ++ []
theorem dksX13_isSheet_0 : cX13_isSheet.data.toList.drop 0 = dktX13_isSheet_0 := by decide +kernel
theorem dX13_isSheet_0 : decode cX13_isSheet 0 = .ok (.iload_n 0, 1) := dk_26 (dk_at dksX13_isSheet_0 0 rfl rfl)
theorem dX13_isSheet_1 : decode cX13_isSheet 1 = .ok (.iconst 0, 1) := dk_3 (dk_at dksX13_isSheet_0 1 rfl rfl)
theorem dX13_isSheet_2 : decode cX13_isSheet 2 = .ok (.iconst 3, 1) := dk_6 (dk_at dksX13_isSheet_0 2 rfl rfl)
theorem dX13_isSheet_3 : decode cX13_isSheet 3 = .ok (.invokestatic 74, 3) := dk_184 0 74 (dk_at dksX13_isSheet_0 3 rfl rfl)
theorem dX13_isSheet_6 : decode cX13_isSheet 6 = .ok (.ireturn, 1) := dk_172 (dk_at dksX13_isSheet_0 6 rfl rfl)
abbrev cX13_areEars : ByteArray := prog_16_method_63_code
def yX13_areEars : MethodName := ⟨RX13, "areEars", "(I)Z"⟩
def dkwX13_areEars_1 : List UInt8 := [184, 0, 84, 153, 0, 7, 4, 167, 0, 4, 3, 61, 132, 3, 1, 167, 255, 222, 28, 172]
abbrev dktX13_areEars_1 : List UInt8 := dkwX13_areEars_1 ++ []
def dkwX13_areEars_0 : List UInt8 := [4, 61, 3, 62, 29, 42, 27, 182, 0, 215, 162, 0, 31, 28, 153, 0, 19, 42, 27, 29, 182, 0, 218]
abbrev dktX13_areEars_0 : List UInt8 := dkwX13_areEars_0 ++ dktX13_areEars_1
theorem dksX13_areEars_0 : cX13_areEars.data.toList.drop 0 = dktX13_areEars_0 := by decide +kernel
theorem dksX13_areEars_1 : cX13_areEars.data.toList.drop 23 = dktX13_areEars_1 := dk_seg dksX13_areEars_0 23 rfl rfl
theorem dX13_areEars_0 : decode cX13_areEars 0 = .ok (.iconst 1, 1) := dk_4 (dk_at dksX13_areEars_0 0 rfl rfl)
theorem dX13_areEars_1 : decode cX13_areEars 1 = .ok (.istore_n 2, 1) := dk_61 (dk_at dksX13_areEars_0 1 rfl rfl)
theorem dX13_areEars_2 : decode cX13_areEars 2 = .ok (.iconst 0, 1) := dk_3 (dk_at dksX13_areEars_0 2 rfl rfl)
theorem dX13_areEars_3 : decode cX13_areEars 3 = .ok (.istore_n 3, 1) := dk_62 (dk_at dksX13_areEars_0 3 rfl rfl)
theorem dX13_areEars_4 : decode cX13_areEars 4 = .ok (.iload_n 3, 1) := dk_29 (dk_at dksX13_areEars_0 4 rfl rfl)
theorem dX13_areEars_5 : decode cX13_areEars 5 = .ok (.aload_n 0, 1) := dk_42 (dk_at dksX13_areEars_0 5 rfl rfl)
theorem dX13_areEars_6 : decode cX13_areEars 6 = .ok (.iload_n 1, 1) := dk_27 (dk_at dksX13_areEars_0 6 rfl rfl)
theorem dX13_areEars_7 : decode cX13_areEars 7 = .ok (.invokevirtual 215, 3) := dk_182 0 215 (dk_at dksX13_areEars_0 7 rfl rfl)
theorem dX13_areEars_10 : decode cX13_areEars 10 = .ok (.if_icmp .ge 31, 3) := dk_162 0 31 (dk_at dksX13_areEars_0 10 rfl rfl)
theorem dX13_areEars_13 : decode cX13_areEars 13 = .ok (.iload_n 2, 1) := dk_28 (dk_at dksX13_areEars_0 13 rfl rfl)
theorem dX13_areEars_14 : decode cX13_areEars 14 = .ok (.ifCond .eq 19, 3) := dk_153 0 19 (dk_at dksX13_areEars_0 14 rfl rfl)
theorem dX13_areEars_17 : decode cX13_areEars 17 = .ok (.aload_n 0, 1) := dk_42 (dk_at dksX13_areEars_0 17 rfl rfl)
theorem dX13_areEars_18 : decode cX13_areEars 18 = .ok (.iload_n 1, 1) := dk_27 (dk_at dksX13_areEars_0 18 rfl rfl)
theorem dX13_areEars_19 : decode cX13_areEars 19 = .ok (.iload_n 3, 1) := dk_29 (dk_at dksX13_areEars_0 19 rfl rfl)
theorem dX13_areEars_20 : decode cX13_areEars 20 = .ok (.invokevirtual 218, 3) := dk_182 0 218 (dk_at dksX13_areEars_0 20 rfl rfl)
theorem dX13_areEars_23 : decode cX13_areEars 23 = .ok (.invokestatic 84, 3) := dk_184 0 84 (dk_at dksX13_areEars_1 0 rfl rfl)
theorem dX13_areEars_26 : decode cX13_areEars 26 = .ok (.ifCond .eq 7, 3) := dk_153 0 7 (dk_at dksX13_areEars_1 3 rfl rfl)
theorem dX13_areEars_29 : decode cX13_areEars 29 = .ok (.iconst 1, 1) := dk_4 (dk_at dksX13_areEars_1 6 rfl rfl)
theorem dX13_areEars_30 : decode cX13_areEars 30 = .ok (.goto 4, 3) := dk_167 0 4 (dk_at dksX13_areEars_1 7 rfl rfl)
theorem dX13_areEars_33 : decode cX13_areEars 33 = .ok (.iconst 0, 1) := dk_3 (dk_at dksX13_areEars_1 10 rfl rfl)
theorem dX13_areEars_34 : decode cX13_areEars 34 = .ok (.istore_n 2, 1) := dk_61 (dk_at dksX13_areEars_1 11 rfl rfl)
theorem dX13_areEars_35 : decode cX13_areEars 35 = .ok (.iinc 3 1, 3) := dk_132 3 1 (dk_at dksX13_areEars_1 12 rfl rfl)
theorem dX13_areEars_38 : decode cX13_areEars 38 = .ok (.goto (-34), 3) := dk_167 255 222 (dk_at dksX13_areEars_1 15 rfl rfl)
theorem dX13_areEars_41 : decode cX13_areEars 41 = .ok (.iload_n 2, 1) := dk_28 (dk_at dksX13_areEars_1 18 rfl rfl)
theorem dX13_areEars_42 : decode cX13_areEars 42 = .ok (.ireturn, 1) := dk_172 (dk_at dksX13_areEars_1 19 rfl rfl)
abbrev cX13_ears : ByteArray := prog_16_method_62_code
def yX13_ears : MethodName := ⟨RX13, "ears", "(I)I"⟩
def dkwX13_ears_0 : List UInt8 := [42, 180, 0, 60, 27, 46, 5, 108, 172]
abbrev dktX13_ears_0 : List UInt8 := dkwX13_ears_0 ++ []
theorem dksX13_ears_0 : cX13_ears.data.toList.drop 0 = dktX13_ears_0 := by decide +kernel
theorem dX13_ears_0 : decode cX13_ears 0 = .ok (.aload_n 0, 1) := dk_42 (dk_at dksX13_ears_0 0 rfl rfl)
theorem dX13_ears_1 : decode cX13_ears 1 = .ok (.getfield 60, 3) := dk_180 0 60 (dk_at dksX13_ears_0 1 rfl rfl)
theorem dX13_ears_4 : decode cX13_ears 4 = .ok (.iload_n 1, 1) := dk_27 (dk_at dksX13_ears_0 4 rfl rfl)
theorem dX13_ears_5 : decode cX13_ears 5 = .ok (.iaload, 1) := dk_46 (dk_at dksX13_ears_0 5 rfl rfl)
theorem dX13_ears_6 : decode cX13_ears 6 = .ok (.iconst 2, 1) := dk_5 (dk_at dksX13_ears_0 6 rfl rfl)
theorem dX13_ears_7 : decode cX13_ears 7 = .ok (.idiv, 1) := dk_108 (dk_at dksX13_ears_0 7 rfl rfl)
theorem dX13_ears_8 : decode cX13_ears 8 = .ok (.ireturn, 1) := dk_172 (dk_at dksX13_ears_0 8 rfl rfl)
abbrev cX13_earOf : ByteArray := prog_16_method_61_code
def yX13_earOf : MethodName := ⟨RX13, "earOf", "(II)I"⟩
def dkwX13_earOf_0 : List UInt8 := [42, 180, 0, 63, 16, 40, 27, 104, 5, 28, 104, 96, 46, 172]
abbrev dktX13_earOf_0 : List UInt8 := dkwX13_earOf_0 ++ []
theorem dksX13_earOf_0 : cX13_earOf.data.toList.drop 0 = dktX13_earOf_0 := by decide +kernel
theorem dX13_earOf_0 : decode cX13_earOf 0 = .ok (.aload_n 0, 1) := dk_42 (dk_at dksX13_earOf_0 0 rfl rfl)
theorem dX13_earOf_1 : decode cX13_earOf 1 = .ok (.getfield 63, 3) := dk_180 0 63 (dk_at dksX13_earOf_0 1 rfl rfl)
theorem dX13_earOf_4 : decode cX13_earOf 4 = .ok (.bipush 40, 2) := dk_16 40 (dk_at dksX13_earOf_0 4 rfl rfl)
theorem dX13_earOf_6 : decode cX13_earOf 6 = .ok (.iload_n 1, 1) := dk_27 (dk_at dksX13_earOf_0 6 rfl rfl)
theorem dX13_earOf_7 : decode cX13_earOf 7 = .ok (.imul, 1) := dk_104 (dk_at dksX13_earOf_0 7 rfl rfl)
theorem dX13_earOf_8 : decode cX13_earOf 8 = .ok (.iconst 2, 1) := dk_5 (dk_at dksX13_earOf_0 8 rfl rfl)
theorem dX13_earOf_9 : decode cX13_earOf 9 = .ok (.iload_n 2, 1) := dk_28 (dk_at dksX13_earOf_0 9 rfl rfl)
theorem dX13_earOf_10 : decode cX13_earOf 10 = .ok (.imul, 1) := dk_104 (dk_at dksX13_earOf_0 10 rfl rfl)
theorem dX13_earOf_11 : decode cX13_earOf 11 = .ok (.iadd, 1) := dk_96 (dk_at dksX13_earOf_0 11 rfl rfl)
theorem dX13_earOf_12 : decode cX13_earOf 12 = .ok (.iaload, 1) := dk_46 (dk_at dksX13_earOf_0 12 rfl rfl)
theorem dX13_earOf_13 : decode cX13_earOf 13 = .ok (.ireturn, 1) := dk_172 (dk_at dksX13_earOf_0 13 rfl rfl)
abbrev cX13_isSo : ByteArray := prog_16_method_64_code
def yX13_isSo : MethodName := ⟨RX13, "isSo", "(III)Z"⟩
def dkwX13_isSo_2 : List UInt8 := [96, 46, 160, 0, 7, 4, 167, 0, 4, 3, 54, 4, 132, 5, 1, 167, 255, 199, 21, 4, 172]
abbrev dktX13_isSo_2 : List UInt8 := dkwX13_isSo_2 ++ []
def dkwX13_isSo_1 : List UInt8 := [42, 27, 21, 5, 182, 0, 218, 182, 0, 150, 42, 180, 0, 63, 16, 40, 27, 104, 5, 21, 5, 104, 96, 4]
abbrev dktX13_isSo_1 : List UInt8 := dkwX13_isSo_1 ++ dktX13_isSo_2
def dkwX13_isSo_0 : List UInt8 := [4, 54, 4, 3, 54, 5, 21, 5, 42, 27, 182, 0, 215, 162, 0, 53, 21, 4, 153, 0, 39, 42, 28, 29]
abbrev dktX13_isSo_0 : List UInt8 := dkwX13_isSo_0 ++ dktX13_isSo_1
theorem dksX13_isSo_0 : cX13_isSo.data.toList.drop 0 = dktX13_isSo_0 := by decide +kernel
theorem dksX13_isSo_1 : cX13_isSo.data.toList.drop 24 = dktX13_isSo_1 := dk_seg dksX13_isSo_0 24 rfl rfl
theorem dksX13_isSo_2 : cX13_isSo.data.toList.drop 48 = dktX13_isSo_2 := dk_seg dksX13_isSo_1 24 rfl rfl
theorem dX13_isSo_0 : decode cX13_isSo 0 = .ok (.iconst 1, 1) := dk_4 (dk_at dksX13_isSo_0 0 rfl rfl)
theorem dX13_isSo_1 : decode cX13_isSo 1 = .ok (.istore 4, 2) := dk_54 4 (dk_at dksX13_isSo_0 1 rfl rfl)
theorem dX13_isSo_3 : decode cX13_isSo 3 = .ok (.iconst 0, 1) := dk_3 (dk_at dksX13_isSo_0 3 rfl rfl)
theorem dX13_isSo_4 : decode cX13_isSo 4 = .ok (.istore 5, 2) := dk_54 5 (dk_at dksX13_isSo_0 4 rfl rfl)
theorem dX13_isSo_6 : decode cX13_isSo 6 = .ok (.iload 5, 2) := dk_21 5 (dk_at dksX13_isSo_0 6 rfl rfl)
theorem dX13_isSo_8 : decode cX13_isSo 8 = .ok (.aload_n 0, 1) := dk_42 (dk_at dksX13_isSo_0 8 rfl rfl)
theorem dX13_isSo_9 : decode cX13_isSo 9 = .ok (.iload_n 1, 1) := dk_27 (dk_at dksX13_isSo_0 9 rfl rfl)
theorem dX13_isSo_10 : decode cX13_isSo 10 = .ok (.invokevirtual 215, 3) := dk_182 0 215 (dk_at dksX13_isSo_0 10 rfl rfl)
theorem dX13_isSo_13 : decode cX13_isSo 13 = .ok (.if_icmp .ge 53, 3) := dk_162 0 53 (dk_at dksX13_isSo_0 13 rfl rfl)
theorem dX13_isSo_16 : decode cX13_isSo 16 = .ok (.iload 4, 2) := dk_21 4 (dk_at dksX13_isSo_0 16 rfl rfl)
theorem dX13_isSo_18 : decode cX13_isSo 18 = .ok (.ifCond .eq 39, 3) := dk_153 0 39 (dk_at dksX13_isSo_0 18 rfl rfl)
theorem dX13_isSo_21 : decode cX13_isSo 21 = .ok (.aload_n 0, 1) := dk_42 (dk_at dksX13_isSo_0 21 rfl rfl)
theorem dX13_isSo_22 : decode cX13_isSo 22 = .ok (.iload_n 2, 1) := dk_28 (dk_at dksX13_isSo_0 22 rfl rfl)
theorem dX13_isSo_23 : decode cX13_isSo 23 = .ok (.iload_n 3, 1) := dk_29 (dk_at dksX13_isSo_0 23 rfl rfl)
theorem dX13_isSo_24 : decode cX13_isSo 24 = .ok (.aload_n 0, 1) := dk_42 (dk_at dksX13_isSo_1 0 rfl rfl)
theorem dX13_isSo_25 : decode cX13_isSo 25 = .ok (.iload_n 1, 1) := dk_27 (dk_at dksX13_isSo_1 1 rfl rfl)
theorem dX13_isSo_26 : decode cX13_isSo 26 = .ok (.iload 5, 2) := dk_21 5 (dk_at dksX13_isSo_1 2 rfl rfl)
theorem dX13_isSo_28 : decode cX13_isSo 28 = .ok (.invokevirtual 218, 3) := dk_182 0 218 (dk_at dksX13_isSo_1 4 rfl rfl)
theorem dX13_isSo_31 : decode cX13_isSo 31 = .ok (.invokevirtual 150, 3) := dk_182 0 150 (dk_at dksX13_isSo_1 7 rfl rfl)
theorem dX13_isSo_34 : decode cX13_isSo 34 = .ok (.aload_n 0, 1) := dk_42 (dk_at dksX13_isSo_1 10 rfl rfl)
theorem dX13_isSo_35 : decode cX13_isSo 35 = .ok (.getfield 63, 3) := dk_180 0 63 (dk_at dksX13_isSo_1 11 rfl rfl)
theorem dX13_isSo_38 : decode cX13_isSo 38 = .ok (.bipush 40, 2) := dk_16 40 (dk_at dksX13_isSo_1 14 rfl rfl)
theorem dX13_isSo_40 : decode cX13_isSo 40 = .ok (.iload_n 1, 1) := dk_27 (dk_at dksX13_isSo_1 16 rfl rfl)
theorem dX13_isSo_41 : decode cX13_isSo 41 = .ok (.imul, 1) := dk_104 (dk_at dksX13_isSo_1 17 rfl rfl)
theorem dX13_isSo_42 : decode cX13_isSo 42 = .ok (.iconst 2, 1) := dk_5 (dk_at dksX13_isSo_1 18 rfl rfl)
theorem dX13_isSo_43 : decode cX13_isSo 43 = .ok (.iload 5, 2) := dk_21 5 (dk_at dksX13_isSo_1 19 rfl rfl)
theorem dX13_isSo_45 : decode cX13_isSo 45 = .ok (.imul, 1) := dk_104 (dk_at dksX13_isSo_1 21 rfl rfl)
theorem dX13_isSo_46 : decode cX13_isSo 46 = .ok (.iadd, 1) := dk_96 (dk_at dksX13_isSo_1 22 rfl rfl)
theorem dX13_isSo_47 : decode cX13_isSo 47 = .ok (.iconst 1, 1) := dk_4 (dk_at dksX13_isSo_1 23 rfl rfl)
theorem dX13_isSo_48 : decode cX13_isSo 48 = .ok (.iadd, 1) := dk_96 (dk_at dksX13_isSo_2 0 rfl rfl)
theorem dX13_isSo_49 : decode cX13_isSo 49 = .ok (.iaload, 1) := dk_46 (dk_at dksX13_isSo_2 1 rfl rfl)
theorem dX13_isSo_50 : decode cX13_isSo 50 = .ok (.if_icmp .ne 7, 3) := dk_160 0 7 (dk_at dksX13_isSo_2 2 rfl rfl)
theorem dX13_isSo_53 : decode cX13_isSo 53 = .ok (.iconst 1, 1) := dk_4 (dk_at dksX13_isSo_2 5 rfl rfl)
theorem dX13_isSo_54 : decode cX13_isSo 54 = .ok (.goto 4, 3) := dk_167 0 4 (dk_at dksX13_isSo_2 6 rfl rfl)
theorem dX13_isSo_57 : decode cX13_isSo 57 = .ok (.iconst 0, 1) := dk_3 (dk_at dksX13_isSo_2 9 rfl rfl)
theorem dX13_isSo_58 : decode cX13_isSo 58 = .ok (.istore 4, 2) := dk_54 4 (dk_at dksX13_isSo_2 10 rfl rfl)
theorem dX13_isSo_60 : decode cX13_isSo 60 = .ok (.iinc 5 1, 3) := dk_132 5 1 (dk_at dksX13_isSo_2 12 rfl rfl)
theorem dX13_isSo_63 : decode cX13_isSo 63 = .ok (.goto (-57), 3) := dk_167 255 199 (dk_at dksX13_isSo_2 15 rfl rfl)
theorem dX13_isSo_66 : decode cX13_isSo 66 = .ok (.iload 4, 2) := dk_21 4 (dk_at dksX13_isSo_2 18 rfl rfl)
theorem dX13_isSo_68 : decode cX13_isSo 68 = .ok (.ireturn, 1) := dk_172 (dk_at dksX13_isSo_2 20 rfl rfl)
abbrev cX13_where : ByteArray := prog_16_method_67_code
def yX13_where : MethodName := ⟨RX13, "where", "(II)I"⟩
def dkwX13_where_2 : List UInt8 := [160, 0, 12, 42, 18, 198, 182, 0, 88, 167, 0, 4, 29, 172]
abbrev dktX13_where_2 : List UInt8 := dkwX13_where_2 ++ []
def dkwX13_where_1 : List UInt8 := [16, 64, 162, 0, 19, 42, 27, 28, 29, 182, 0, 230, 154, 0, 9, 132, 3, 1, 167, 255, 237, 29, 16, 64]
abbrev dktX13_where_1 : List UInt8 := dkwX13_where_1 ++ dktX13_where_2
def dkwX13_where_0 : List UInt8 := [42, 27, 28, 182, 0, 227, 153, 0, 14, 42, 42, 27, 28, 182, 0, 227, 182, 0, 88, 172, 3, 62, 29]
abbrev dktX13_where_0 : List UInt8 := dkwX13_where_0 ++ dktX13_where_1
theorem dksX13_where_0 : cX13_where.data.toList.drop 0 = dktX13_where_0 := by decide +kernel
theorem dksX13_where_1 : cX13_where.data.toList.drop 23 = dktX13_where_1 := dk_seg dksX13_where_0 23 rfl rfl
theorem dksX13_where_2 : cX13_where.data.toList.drop 47 = dktX13_where_2 := dk_seg dksX13_where_1 24 rfl rfl
theorem dX13_where_0 : decode cX13_where 0 = .ok (.aload_n 0, 1) := dk_42 (dk_at dksX13_where_0 0 rfl rfl)
theorem dX13_where_1 : decode cX13_where 1 = .ok (.iload_n 1, 1) := dk_27 (dk_at dksX13_where_0 1 rfl rfl)
theorem dX13_where_2 : decode cX13_where 2 = .ok (.iload_n 2, 1) := dk_28 (dk_at dksX13_where_0 2 rfl rfl)
theorem dX13_where_3 : decode cX13_where 3 = .ok (.invokevirtual 227, 3) := dk_182 0 227 (dk_at dksX13_where_0 3 rfl rfl)
theorem dX13_where_6 : decode cX13_where 6 = .ok (.ifCond .eq 14, 3) := dk_153 0 14 (dk_at dksX13_where_0 6 rfl rfl)
theorem dX13_where_9 : decode cX13_where 9 = .ok (.aload_n 0, 1) := dk_42 (dk_at dksX13_where_0 9 rfl rfl)
theorem dX13_where_10 : decode cX13_where 10 = .ok (.aload_n 0, 1) := dk_42 (dk_at dksX13_where_0 10 rfl rfl)
theorem dX13_where_11 : decode cX13_where 11 = .ok (.iload_n 1, 1) := dk_27 (dk_at dksX13_where_0 11 rfl rfl)
theorem dX13_where_12 : decode cX13_where 12 = .ok (.iload_n 2, 1) := dk_28 (dk_at dksX13_where_0 12 rfl rfl)
theorem dX13_where_13 : decode cX13_where 13 = .ok (.invokevirtual 227, 3) := dk_182 0 227 (dk_at dksX13_where_0 13 rfl rfl)
theorem dX13_where_16 : decode cX13_where 16 = .ok (.invokevirtual 88, 3) := dk_182 0 88 (dk_at dksX13_where_0 16 rfl rfl)
theorem dX13_where_19 : decode cX13_where 19 = .ok (.ireturn, 1) := dk_172 (dk_at dksX13_where_0 19 rfl rfl)
theorem dX13_where_20 : decode cX13_where 20 = .ok (.iconst 0, 1) := dk_3 (dk_at dksX13_where_0 20 rfl rfl)
theorem dX13_where_21 : decode cX13_where 21 = .ok (.istore_n 3, 1) := dk_62 (dk_at dksX13_where_0 21 rfl rfl)
theorem dX13_where_22 : decode cX13_where 22 = .ok (.iload_n 3, 1) := dk_29 (dk_at dksX13_where_0 22 rfl rfl)
theorem dX13_where_23 : decode cX13_where 23 = .ok (.bipush 64, 2) := dk_16 64 (dk_at dksX13_where_1 0 rfl rfl)
theorem dX13_where_25 : decode cX13_where 25 = .ok (.if_icmp .ge 19, 3) := dk_162 0 19 (dk_at dksX13_where_1 2 rfl rfl)
theorem dX13_where_28 : decode cX13_where 28 = .ok (.aload_n 0, 1) := dk_42 (dk_at dksX13_where_1 5 rfl rfl)
theorem dX13_where_29 : decode cX13_where 29 = .ok (.iload_n 1, 1) := dk_27 (dk_at dksX13_where_1 6 rfl rfl)
theorem dX13_where_30 : decode cX13_where 30 = .ok (.iload_n 2, 1) := dk_28 (dk_at dksX13_where_1 7 rfl rfl)
theorem dX13_where_31 : decode cX13_where 31 = .ok (.iload_n 3, 1) := dk_29 (dk_at dksX13_where_1 8 rfl rfl)
theorem dX13_where_32 : decode cX13_where 32 = .ok (.invokevirtual 230, 3) := dk_182 0 230 (dk_at dksX13_where_1 9 rfl rfl)
theorem dX13_where_35 : decode cX13_where 35 = .ok (.ifCond .ne 9, 3) := dk_154 0 9 (dk_at dksX13_where_1 12 rfl rfl)
theorem dX13_where_38 : decode cX13_where 38 = .ok (.iinc 3 1, 3) := dk_132 3 1 (dk_at dksX13_where_1 15 rfl rfl)
theorem dX13_where_41 : decode cX13_where 41 = .ok (.goto (-19), 3) := dk_167 255 237 (dk_at dksX13_where_1 18 rfl rfl)
theorem dX13_where_44 : decode cX13_where 44 = .ok (.iload_n 3, 1) := dk_29 (dk_at dksX13_where_1 21 rfl rfl)
theorem dX13_where_45 : decode cX13_where 45 = .ok (.bipush 64, 2) := dk_16 64 (dk_at dksX13_where_1 22 rfl rfl)
theorem dX13_where_47 : decode cX13_where 47 = .ok (.if_icmp .ne 12, 3) := dk_160 0 12 (dk_at dksX13_where_2 0 rfl rfl)
theorem dX13_where_50 : decode cX13_where 50 = .ok (.aload_n 0, 1) := dk_42 (dk_at dksX13_where_2 3 rfl rfl)
theorem dX13_where_51 : decode cX13_where 51 = .ok (.ldc 198, 2) := dk_18 198 (dk_at dksX13_where_2 4 rfl rfl)
theorem dX13_where_53 : decode cX13_where 53 = .ok (.invokevirtual 88, 3) := dk_182 0 88 (dk_at dksX13_where_2 6 rfl rfl)
theorem dX13_where_56 : decode cX13_where 56 = .ok (.goto 4, 3) := dk_167 0 4 (dk_at dksX13_where_2 9 rfl rfl)
theorem dX13_where_59 : decode cX13_where 59 = .ok (.iload_n 3, 1) := dk_29 (dk_at dksX13_where_2 12 rfl rfl)
theorem dX13_where_60 : decode cX13_where 60 = .ok (.ireturn, 1) := dk_172 (dk_at dksX13_where_2 13 rfl rfl)
abbrev cX13_ear : ByteArray := prog_16_method_69_code
def yX13_ear : MethodName := ⟨RX13, "ear", "(II)I"⟩
def dkwX13_ear_3 : List UInt8 := [167, 255, 213, 21, 4, 154, 0, 12, 42, 18, 198, 182, 0, 88, 167, 0, 4, 29, 172]
abbrev dktX13_ear_3 : List UInt8 := dkwX13_ear_3 ++ []
def dkwX13_ear_2 : List UInt8 := [21, 4, 162, 0, 8, 21, 5, 167, 0, 4, 29, 62, 21, 4, 21, 6, 184, 0, 125, 54, 4, 132, 5, 1]
abbrev dktX13_ear_2 : List UInt8 := dkwX13_ear_2 ++ dktX13_ear_3
def dkwX13_ear_1 : List UInt8 := [54, 4, 3, 54, 5, 21, 5, 16, 64, 162, 0, 42, 42, 27, 28, 21, 5, 182, 0, 233, 54, 6, 21, 6]
abbrev dktX13_ear_1 : List UInt8 := dkwX13_ear_1 ++ dktX13_ear_2
def dkwX13_ear_0 : List UInt8 := [42, 27, 28, 182, 0, 227, 153, 0, 14, 42, 42, 27, 28, 182, 0, 227, 182, 0, 88, 172, 3, 62, 18, 197]
abbrev dktX13_ear_0 : List UInt8 := dkwX13_ear_0 ++ dktX13_ear_1
theorem dksX13_ear_0 : cX13_ear.data.toList.drop 0 = dktX13_ear_0 := by decide +kernel
theorem dksX13_ear_1 : cX13_ear.data.toList.drop 24 = dktX13_ear_1 := dk_seg dksX13_ear_0 24 rfl rfl
theorem dksX13_ear_2 : cX13_ear.data.toList.drop 48 = dktX13_ear_2 := dk_seg dksX13_ear_1 24 rfl rfl
theorem dksX13_ear_3 : cX13_ear.data.toList.drop 72 = dktX13_ear_3 := dk_seg dksX13_ear_2 24 rfl rfl
theorem dX13_ear_0 : decode cX13_ear 0 = .ok (.aload_n 0, 1) := dk_42 (dk_at dksX13_ear_0 0 rfl rfl)
theorem dX13_ear_1 : decode cX13_ear 1 = .ok (.iload_n 1, 1) := dk_27 (dk_at dksX13_ear_0 1 rfl rfl)
theorem dX13_ear_2 : decode cX13_ear 2 = .ok (.iload_n 2, 1) := dk_28 (dk_at dksX13_ear_0 2 rfl rfl)
theorem dX13_ear_3 : decode cX13_ear 3 = .ok (.invokevirtual 227, 3) := dk_182 0 227 (dk_at dksX13_ear_0 3 rfl rfl)
theorem dX13_ear_6 : decode cX13_ear 6 = .ok (.ifCond .eq 14, 3) := dk_153 0 14 (dk_at dksX13_ear_0 6 rfl rfl)
theorem dX13_ear_9 : decode cX13_ear 9 = .ok (.aload_n 0, 1) := dk_42 (dk_at dksX13_ear_0 9 rfl rfl)
theorem dX13_ear_10 : decode cX13_ear 10 = .ok (.aload_n 0, 1) := dk_42 (dk_at dksX13_ear_0 10 rfl rfl)
theorem dX13_ear_11 : decode cX13_ear 11 = .ok (.iload_n 1, 1) := dk_27 (dk_at dksX13_ear_0 11 rfl rfl)
theorem dX13_ear_12 : decode cX13_ear 12 = .ok (.iload_n 2, 1) := dk_28 (dk_at dksX13_ear_0 12 rfl rfl)
theorem dX13_ear_13 : decode cX13_ear 13 = .ok (.invokevirtual 227, 3) := dk_182 0 227 (dk_at dksX13_ear_0 13 rfl rfl)
theorem dX13_ear_16 : decode cX13_ear 16 = .ok (.invokevirtual 88, 3) := dk_182 0 88 (dk_at dksX13_ear_0 16 rfl rfl)
theorem dX13_ear_19 : decode cX13_ear 19 = .ok (.ireturn, 1) := dk_172 (dk_at dksX13_ear_0 19 rfl rfl)
theorem dX13_ear_20 : decode cX13_ear 20 = .ok (.iconst 0, 1) := dk_3 (dk_at dksX13_ear_0 20 rfl rfl)
theorem dX13_ear_21 : decode cX13_ear 21 = .ok (.istore_n 3, 1) := dk_62 (dk_at dksX13_ear_0 21 rfl rfl)
theorem dX13_ear_22 : decode cX13_ear 22 = .ok (.ldc 197, 2) := dk_18 197 (dk_at dksX13_ear_0 22 rfl rfl)
theorem dX13_ear_24 : decode cX13_ear 24 = .ok (.istore 4, 2) := dk_54 4 (dk_at dksX13_ear_1 0 rfl rfl)
theorem dX13_ear_26 : decode cX13_ear 26 = .ok (.iconst 0, 1) := dk_3 (dk_at dksX13_ear_1 2 rfl rfl)
theorem dX13_ear_27 : decode cX13_ear 27 = .ok (.istore 5, 2) := dk_54 5 (dk_at dksX13_ear_1 3 rfl rfl)
theorem dX13_ear_29 : decode cX13_ear 29 = .ok (.iload 5, 2) := dk_21 5 (dk_at dksX13_ear_1 5 rfl rfl)
theorem dX13_ear_31 : decode cX13_ear 31 = .ok (.bipush 64, 2) := dk_16 64 (dk_at dksX13_ear_1 7 rfl rfl)
theorem dX13_ear_33 : decode cX13_ear 33 = .ok (.if_icmp .ge 42, 3) := dk_162 0 42 (dk_at dksX13_ear_1 9 rfl rfl)
theorem dX13_ear_36 : decode cX13_ear 36 = .ok (.aload_n 0, 1) := dk_42 (dk_at dksX13_ear_1 12 rfl rfl)
theorem dX13_ear_37 : decode cX13_ear 37 = .ok (.iload_n 1, 1) := dk_27 (dk_at dksX13_ear_1 13 rfl rfl)
theorem dX13_ear_38 : decode cX13_ear 38 = .ok (.iload_n 2, 1) := dk_28 (dk_at dksX13_ear_1 14 rfl rfl)
theorem dX13_ear_39 : decode cX13_ear 39 = .ok (.iload 5, 2) := dk_21 5 (dk_at dksX13_ear_1 15 rfl rfl)
theorem dX13_ear_41 : decode cX13_ear 41 = .ok (.invokevirtual 233, 3) := dk_182 0 233 (dk_at dksX13_ear_1 17 rfl rfl)
theorem dX13_ear_44 : decode cX13_ear 44 = .ok (.istore 6, 2) := dk_54 6 (dk_at dksX13_ear_1 20 rfl rfl)
theorem dX13_ear_46 : decode cX13_ear 46 = .ok (.iload 6, 2) := dk_21 6 (dk_at dksX13_ear_1 22 rfl rfl)
theorem dX13_ear_48 : decode cX13_ear 48 = .ok (.iload 4, 2) := dk_21 4 (dk_at dksX13_ear_2 0 rfl rfl)
theorem dX13_ear_50 : decode cX13_ear 50 = .ok (.if_icmp .ge 8, 3) := dk_162 0 8 (dk_at dksX13_ear_2 2 rfl rfl)
theorem dX13_ear_53 : decode cX13_ear 53 = .ok (.iload 5, 2) := dk_21 5 (dk_at dksX13_ear_2 5 rfl rfl)
theorem dX13_ear_55 : decode cX13_ear 55 = .ok (.goto 4, 3) := dk_167 0 4 (dk_at dksX13_ear_2 7 rfl rfl)
theorem dX13_ear_58 : decode cX13_ear 58 = .ok (.iload_n 3, 1) := dk_29 (dk_at dksX13_ear_2 10 rfl rfl)
theorem dX13_ear_59 : decode cX13_ear 59 = .ok (.istore_n 3, 1) := dk_62 (dk_at dksX13_ear_2 11 rfl rfl)
theorem dX13_ear_60 : decode cX13_ear 60 = .ok (.iload 4, 2) := dk_21 4 (dk_at dksX13_ear_2 12 rfl rfl)
theorem dX13_ear_62 : decode cX13_ear 62 = .ok (.iload 6, 2) := dk_21 6 (dk_at dksX13_ear_2 14 rfl rfl)
theorem dX13_ear_64 : decode cX13_ear 64 = .ok (.invokestatic 125, 3) := dk_184 0 125 (dk_at dksX13_ear_2 16 rfl rfl)
theorem dX13_ear_67 : decode cX13_ear 67 = .ok (.istore 4, 2) := dk_54 4 (dk_at dksX13_ear_2 19 rfl rfl)
theorem dX13_ear_69 : decode cX13_ear 69 = .ok (.iinc 5 1, 3) := dk_132 5 1 (dk_at dksX13_ear_2 21 rfl rfl)
theorem dX13_ear_72 : decode cX13_ear 72 = .ok (.goto (-43), 3) := dk_167 255 213 (dk_at dksX13_ear_3 0 rfl rfl)
theorem dX13_ear_75 : decode cX13_ear 75 = .ok (.iload 4, 2) := dk_21 4 (dk_at dksX13_ear_3 3 rfl rfl)
theorem dX13_ear_77 : decode cX13_ear 77 = .ok (.ifCond .ne 12, 3) := dk_154 0 12 (dk_at dksX13_ear_3 5 rfl rfl)
theorem dX13_ear_80 : decode cX13_ear 80 = .ok (.aload_n 0, 1) := dk_42 (dk_at dksX13_ear_3 8 rfl rfl)
theorem dX13_ear_81 : decode cX13_ear 81 = .ok (.ldc 198, 2) := dk_18 198 (dk_at dksX13_ear_3 9 rfl rfl)
theorem dX13_ear_83 : decode cX13_ear 83 = .ok (.invokevirtual 88, 3) := dk_182 0 88 (dk_at dksX13_ear_3 11 rfl rfl)
theorem dX13_ear_86 : decode cX13_ear 86 = .ok (.goto 4, 3) := dk_167 0 4 (dk_at dksX13_ear_3 14 rfl rfl)
theorem dX13_ear_89 : decode cX13_ear 89 = .ok (.iload_n 3, 1) := dk_29 (dk_at dksX13_ear_3 17 rfl rfl)
theorem dX13_ear_90 : decode cX13_ear 90 = .ok (.ireturn, 1) := dk_172 (dk_at dksX13_ear_3 18 rfl rfl)
abbrev cX13_worst : ByteArray := prog_16_method_68_code
def yX13_worst : MethodName := ⟨RX13, "worst", "(III)I"⟩
def dkwX13_worst_3 : List UInt8 := [79, 21, 4, 42, 180, 0, 28, 21, 6, 46, 184, 0, 132, 54, 4, 132, 5, 1, 167, 255, 196, 21, 4, 172]
abbrev dktX13_worst_3 : List UInt8 := dkwX13_worst_3 ++ []
def dkwX13_worst_2 : List UInt8 := [180, 0, 28, 21, 6, 92, 46, 42, 27, 28, 21, 5, 182, 0, 230, 153, 0, 7, 4, 167, 0, 4, 3, 96]
abbrev dktX13_worst_2 : List UInt8 := dkwX13_worst_2 ++ dktX13_worst_3
def dkwX13_worst_1 : List UInt8 := [3, 54, 4, 3, 54, 5, 21, 5, 16, 64, 162, 0, 59, 42, 28, 21, 5, 29, 182, 0, 150, 54, 6, 42]
abbrev dktX13_worst_1 : List UInt8 := dkwX13_worst_1 ++ dktX13_worst_2
def dkwX13_worst_0 : List UInt8 := [3, 54, 4, 21, 4, 16, 99, 163, 0, 17, 42, 180, 0, 28, 21, 4, 3, 79, 132, 4, 1, 167, 255, 238]
abbrev dktX13_worst_0 : List UInt8 := dkwX13_worst_0 ++ dktX13_worst_1
theorem dksX13_worst_0 : cX13_worst.data.toList.drop 0 = dktX13_worst_0 := by decide +kernel
theorem dksX13_worst_1 : cX13_worst.data.toList.drop 24 = dktX13_worst_1 := dk_seg dksX13_worst_0 24 rfl rfl
theorem dksX13_worst_2 : cX13_worst.data.toList.drop 48 = dktX13_worst_2 := dk_seg dksX13_worst_1 24 rfl rfl
theorem dksX13_worst_3 : cX13_worst.data.toList.drop 72 = dktX13_worst_3 := dk_seg dksX13_worst_2 24 rfl rfl
theorem dX13_worst_0 : decode cX13_worst 0 = .ok (.iconst 0, 1) := dk_3 (dk_at dksX13_worst_0 0 rfl rfl)
theorem dX13_worst_1 : decode cX13_worst 1 = .ok (.istore 4, 2) := dk_54 4 (dk_at dksX13_worst_0 1 rfl rfl)
theorem dX13_worst_3 : decode cX13_worst 3 = .ok (.iload 4, 2) := dk_21 4 (dk_at dksX13_worst_0 3 rfl rfl)
theorem dX13_worst_5 : decode cX13_worst 5 = .ok (.bipush 99, 2) := dk_16 99 (dk_at dksX13_worst_0 5 rfl rfl)
theorem dX13_worst_7 : decode cX13_worst 7 = .ok (.if_icmp .gt 17, 3) := dk_163 0 17 (dk_at dksX13_worst_0 7 rfl rfl)
theorem dX13_worst_10 : decode cX13_worst 10 = .ok (.aload_n 0, 1) := dk_42 (dk_at dksX13_worst_0 10 rfl rfl)
theorem dX13_worst_11 : decode cX13_worst 11 = .ok (.getfield 28, 3) := dk_180 0 28 (dk_at dksX13_worst_0 11 rfl rfl)
theorem dX13_worst_14 : decode cX13_worst 14 = .ok (.iload 4, 2) := dk_21 4 (dk_at dksX13_worst_0 14 rfl rfl)
theorem dX13_worst_16 : decode cX13_worst 16 = .ok (.iconst 0, 1) := dk_3 (dk_at dksX13_worst_0 16 rfl rfl)
theorem dX13_worst_17 : decode cX13_worst 17 = .ok (.iastore, 1) := dk_79 (dk_at dksX13_worst_0 17 rfl rfl)
theorem dX13_worst_18 : decode cX13_worst 18 = .ok (.iinc 4 1, 3) := dk_132 4 1 (dk_at dksX13_worst_0 18 rfl rfl)
theorem dX13_worst_21 : decode cX13_worst 21 = .ok (.goto (-18), 3) := dk_167 255 238 (dk_at dksX13_worst_0 21 rfl rfl)
theorem dX13_worst_24 : decode cX13_worst 24 = .ok (.iconst 0, 1) := dk_3 (dk_at dksX13_worst_1 0 rfl rfl)
theorem dX13_worst_25 : decode cX13_worst 25 = .ok (.istore 4, 2) := dk_54 4 (dk_at dksX13_worst_1 1 rfl rfl)
theorem dX13_worst_27 : decode cX13_worst 27 = .ok (.iconst 0, 1) := dk_3 (dk_at dksX13_worst_1 3 rfl rfl)
theorem dX13_worst_28 : decode cX13_worst 28 = .ok (.istore 5, 2) := dk_54 5 (dk_at dksX13_worst_1 4 rfl rfl)
theorem dX13_worst_30 : decode cX13_worst 30 = .ok (.iload 5, 2) := dk_21 5 (dk_at dksX13_worst_1 6 rfl rfl)
theorem dX13_worst_32 : decode cX13_worst 32 = .ok (.bipush 64, 2) := dk_16 64 (dk_at dksX13_worst_1 8 rfl rfl)
theorem dX13_worst_34 : decode cX13_worst 34 = .ok (.if_icmp .ge 59, 3) := dk_162 0 59 (dk_at dksX13_worst_1 10 rfl rfl)
theorem dX13_worst_37 : decode cX13_worst 37 = .ok (.aload_n 0, 1) := dk_42 (dk_at dksX13_worst_1 13 rfl rfl)
theorem dX13_worst_38 : decode cX13_worst 38 = .ok (.iload_n 2, 1) := dk_28 (dk_at dksX13_worst_1 14 rfl rfl)
theorem dX13_worst_39 : decode cX13_worst 39 = .ok (.iload 5, 2) := dk_21 5 (dk_at dksX13_worst_1 15 rfl rfl)
theorem dX13_worst_41 : decode cX13_worst 41 = .ok (.iload_n 3, 1) := dk_29 (dk_at dksX13_worst_1 17 rfl rfl)
theorem dX13_worst_42 : decode cX13_worst 42 = .ok (.invokevirtual 150, 3) := dk_182 0 150 (dk_at dksX13_worst_1 18 rfl rfl)
theorem dX13_worst_45 : decode cX13_worst 45 = .ok (.istore 6, 2) := dk_54 6 (dk_at dksX13_worst_1 21 rfl rfl)
theorem dX13_worst_47 : decode cX13_worst 47 = .ok (.aload_n 0, 1) := dk_42 (dk_at dksX13_worst_1 23 rfl rfl)
theorem dX13_worst_48 : decode cX13_worst 48 = .ok (.getfield 28, 3) := dk_180 0 28 (dk_at dksX13_worst_2 0 rfl rfl)
theorem dX13_worst_51 : decode cX13_worst 51 = .ok (.iload 6, 2) := dk_21 6 (dk_at dksX13_worst_2 3 rfl rfl)
theorem dX13_worst_53 : decode cX13_worst 53 = .ok (.dup2, 1) := dk_92 (dk_at dksX13_worst_2 5 rfl rfl)
theorem dX13_worst_54 : decode cX13_worst 54 = .ok (.iaload, 1) := dk_46 (dk_at dksX13_worst_2 6 rfl rfl)
theorem dX13_worst_55 : decode cX13_worst 55 = .ok (.aload_n 0, 1) := dk_42 (dk_at dksX13_worst_2 7 rfl rfl)
theorem dX13_worst_56 : decode cX13_worst 56 = .ok (.iload_n 1, 1) := dk_27 (dk_at dksX13_worst_2 8 rfl rfl)
theorem dX13_worst_57 : decode cX13_worst 57 = .ok (.iload_n 2, 1) := dk_28 (dk_at dksX13_worst_2 9 rfl rfl)
theorem dX13_worst_58 : decode cX13_worst 58 = .ok (.iload 5, 2) := dk_21 5 (dk_at dksX13_worst_2 10 rfl rfl)
theorem dX13_worst_60 : decode cX13_worst 60 = .ok (.invokevirtual 230, 3) := dk_182 0 230 (dk_at dksX13_worst_2 12 rfl rfl)
theorem dX13_worst_63 : decode cX13_worst 63 = .ok (.ifCond .eq 7, 3) := dk_153 0 7 (dk_at dksX13_worst_2 15 rfl rfl)
theorem dX13_worst_66 : decode cX13_worst 66 = .ok (.iconst 1, 1) := dk_4 (dk_at dksX13_worst_2 18 rfl rfl)
theorem dX13_worst_67 : decode cX13_worst 67 = .ok (.goto 4, 3) := dk_167 0 4 (dk_at dksX13_worst_2 19 rfl rfl)
theorem dX13_worst_70 : decode cX13_worst 70 = .ok (.iconst 0, 1) := dk_3 (dk_at dksX13_worst_2 22 rfl rfl)
theorem dX13_worst_71 : decode cX13_worst 71 = .ok (.iadd, 1) := dk_96 (dk_at dksX13_worst_2 23 rfl rfl)
theorem dX13_worst_72 : decode cX13_worst 72 = .ok (.iastore, 1) := dk_79 (dk_at dksX13_worst_3 0 rfl rfl)
theorem dX13_worst_73 : decode cX13_worst 73 = .ok (.iload 4, 2) := dk_21 4 (dk_at dksX13_worst_3 1 rfl rfl)
theorem dX13_worst_75 : decode cX13_worst 75 = .ok (.aload_n 0, 1) := dk_42 (dk_at dksX13_worst_3 3 rfl rfl)
theorem dX13_worst_76 : decode cX13_worst 76 = .ok (.getfield 28, 3) := dk_180 0 28 (dk_at dksX13_worst_3 4 rfl rfl)
theorem dX13_worst_79 : decode cX13_worst 79 = .ok (.iload 6, 2) := dk_21 6 (dk_at dksX13_worst_3 7 rfl rfl)
theorem dX13_worst_81 : decode cX13_worst 81 = .ok (.iaload, 1) := dk_46 (dk_at dksX13_worst_3 9 rfl rfl)
theorem dX13_worst_82 : decode cX13_worst 82 = .ok (.invokestatic 132, 3) := dk_184 0 132 (dk_at dksX13_worst_3 10 rfl rfl)
theorem dX13_worst_85 : decode cX13_worst 85 = .ok (.istore 4, 2) := dk_54 4 (dk_at dksX13_worst_3 13 rfl rfl)
theorem dX13_worst_87 : decode cX13_worst 87 = .ok (.iinc 5 1, 3) := dk_132 5 1 (dk_at dksX13_worst_3 15 rfl rfl)
theorem dX13_worst_90 : decode cX13_worst 90 = .ok (.goto (-60), 3) := dk_167 255 196 (dk_at dksX13_worst_3 18 rfl rfl)
theorem dX13_worst_93 : decode cX13_worst 93 = .ok (.iload 4, 2) := dk_21 4 (dk_at dksX13_worst_3 21 rfl rfl)
theorem dX13_worst_95 : decode cX13_worst 95 = .ok (.ireturn, 1) := dk_172 (dk_at dksX13_worst_3 23 rfl rfl)
abbrev cX13_whose : ByteArray := prog_16_method_70_code
def yX13_whose : MethodName := ⟨RX13, "whose", "(I)I"⟩
def dkwX13_whose_3 : List UInt8 := [132, 3, 1, 167, 255, 205, 28, 172]
abbrev dktX13_whose_3 : List UInt8 := dkwX13_whose_3 ++ []
def dkwX13_whose_2 : List UInt8 := [182, 0, 101, 42, 29, 4, 182, 0, 101, 182, 0, 230, 153, 0, 9, 4, 29, 120, 167, 0, 4, 3, 128, 61]
abbrev dktX13_whose_2 : List UInt8 := dkwX13_whose_2 ++ dktX13_whose_3
def dkwX13_whose_1 : List UInt8 := [29, 42, 180, 0, 9, 5, 46, 162, 0, 47, 28, 42, 29, 182, 0, 115, 154, 0, 29, 42, 27, 42, 29, 6]
abbrev dktX13_whose_1 : List UInt8 := dkwX13_whose_1 ++ dktX13_whose_2
def dkwX13_whose_0 : List UInt8 := [42, 27, 4, 182, 0, 227, 153, 0, 14, 42, 42, 27, 4, 182, 0, 227, 182, 0, 88, 172, 3, 61, 3, 62]
abbrev dktX13_whose_0 : List UInt8 := dkwX13_whose_0 ++ dktX13_whose_1
theorem dksX13_whose_0 : cX13_whose.data.toList.drop 0 = dktX13_whose_0 := by decide +kernel
theorem dksX13_whose_1 : cX13_whose.data.toList.drop 24 = dktX13_whose_1 := dk_seg dksX13_whose_0 24 rfl rfl
theorem dksX13_whose_2 : cX13_whose.data.toList.drop 48 = dktX13_whose_2 := dk_seg dksX13_whose_1 24 rfl rfl
theorem dksX13_whose_3 : cX13_whose.data.toList.drop 72 = dktX13_whose_3 := dk_seg dksX13_whose_2 24 rfl rfl
theorem dX13_whose_0 : decode cX13_whose 0 = .ok (.aload_n 0, 1) := dk_42 (dk_at dksX13_whose_0 0 rfl rfl)
theorem dX13_whose_1 : decode cX13_whose 1 = .ok (.iload_n 1, 1) := dk_27 (dk_at dksX13_whose_0 1 rfl rfl)
theorem dX13_whose_2 : decode cX13_whose 2 = .ok (.iconst 1, 1) := dk_4 (dk_at dksX13_whose_0 2 rfl rfl)
theorem dX13_whose_3 : decode cX13_whose 3 = .ok (.invokevirtual 227, 3) := dk_182 0 227 (dk_at dksX13_whose_0 3 rfl rfl)
theorem dX13_whose_6 : decode cX13_whose 6 = .ok (.ifCond .eq 14, 3) := dk_153 0 14 (dk_at dksX13_whose_0 6 rfl rfl)
theorem dX13_whose_9 : decode cX13_whose 9 = .ok (.aload_n 0, 1) := dk_42 (dk_at dksX13_whose_0 9 rfl rfl)
theorem dX13_whose_10 : decode cX13_whose 10 = .ok (.aload_n 0, 1) := dk_42 (dk_at dksX13_whose_0 10 rfl rfl)
theorem dX13_whose_11 : decode cX13_whose 11 = .ok (.iload_n 1, 1) := dk_27 (dk_at dksX13_whose_0 11 rfl rfl)
theorem dX13_whose_12 : decode cX13_whose 12 = .ok (.iconst 1, 1) := dk_4 (dk_at dksX13_whose_0 12 rfl rfl)
theorem dX13_whose_13 : decode cX13_whose 13 = .ok (.invokevirtual 227, 3) := dk_182 0 227 (dk_at dksX13_whose_0 13 rfl rfl)
theorem dX13_whose_16 : decode cX13_whose 16 = .ok (.invokevirtual 88, 3) := dk_182 0 88 (dk_at dksX13_whose_0 16 rfl rfl)
theorem dX13_whose_19 : decode cX13_whose 19 = .ok (.ireturn, 1) := dk_172 (dk_at dksX13_whose_0 19 rfl rfl)
theorem dX13_whose_20 : decode cX13_whose 20 = .ok (.iconst 0, 1) := dk_3 (dk_at dksX13_whose_0 20 rfl rfl)
theorem dX13_whose_21 : decode cX13_whose 21 = .ok (.istore_n 2, 1) := dk_61 (dk_at dksX13_whose_0 21 rfl rfl)
theorem dX13_whose_22 : decode cX13_whose 22 = .ok (.iconst 0, 1) := dk_3 (dk_at dksX13_whose_0 22 rfl rfl)
theorem dX13_whose_23 : decode cX13_whose 23 = .ok (.istore_n 3, 1) := dk_62 (dk_at dksX13_whose_0 23 rfl rfl)
theorem dX13_whose_24 : decode cX13_whose 24 = .ok (.iload_n 3, 1) := dk_29 (dk_at dksX13_whose_1 0 rfl rfl)
theorem dX13_whose_25 : decode cX13_whose 25 = .ok (.aload_n 0, 1) := dk_42 (dk_at dksX13_whose_1 1 rfl rfl)
theorem dX13_whose_26 : decode cX13_whose 26 = .ok (.getfield 9, 3) := dk_180 0 9 (dk_at dksX13_whose_1 2 rfl rfl)
theorem dX13_whose_29 : decode cX13_whose 29 = .ok (.iconst 2, 1) := dk_5 (dk_at dksX13_whose_1 5 rfl rfl)
theorem dX13_whose_30 : decode cX13_whose 30 = .ok (.iaload, 1) := dk_46 (dk_at dksX13_whose_1 6 rfl rfl)
theorem dX13_whose_31 : decode cX13_whose 31 = .ok (.if_icmp .ge 47, 3) := dk_162 0 47 (dk_at dksX13_whose_1 7 rfl rfl)
theorem dX13_whose_34 : decode cX13_whose 34 = .ok (.iload_n 2, 1) := dk_28 (dk_at dksX13_whose_1 10 rfl rfl)
theorem dX13_whose_35 : decode cX13_whose 35 = .ok (.aload_n 0, 1) := dk_42 (dk_at dksX13_whose_1 11 rfl rfl)
theorem dX13_whose_36 : decode cX13_whose 36 = .ok (.iload_n 3, 1) := dk_29 (dk_at dksX13_whose_1 12 rfl rfl)
theorem dX13_whose_37 : decode cX13_whose 37 = .ok (.invokevirtual 115, 3) := dk_182 0 115 (dk_at dksX13_whose_1 13 rfl rfl)
theorem dX13_whose_40 : decode cX13_whose 40 = .ok (.ifCond .ne 29, 3) := dk_154 0 29 (dk_at dksX13_whose_1 16 rfl rfl)
theorem dX13_whose_43 : decode cX13_whose 43 = .ok (.aload_n 0, 1) := dk_42 (dk_at dksX13_whose_1 19 rfl rfl)
theorem dX13_whose_44 : decode cX13_whose 44 = .ok (.iload_n 1, 1) := dk_27 (dk_at dksX13_whose_1 20 rfl rfl)
theorem dX13_whose_45 : decode cX13_whose 45 = .ok (.aload_n 0, 1) := dk_42 (dk_at dksX13_whose_1 21 rfl rfl)
theorem dX13_whose_46 : decode cX13_whose 46 = .ok (.iload_n 3, 1) := dk_29 (dk_at dksX13_whose_1 22 rfl rfl)
theorem dX13_whose_47 : decode cX13_whose 47 = .ok (.iconst 3, 1) := dk_6 (dk_at dksX13_whose_1 23 rfl rfl)
theorem dX13_whose_48 : decode cX13_whose 48 = .ok (.invokevirtual 101, 3) := dk_182 0 101 (dk_at dksX13_whose_2 0 rfl rfl)
theorem dX13_whose_51 : decode cX13_whose 51 = .ok (.aload_n 0, 1) := dk_42 (dk_at dksX13_whose_2 3 rfl rfl)
theorem dX13_whose_52 : decode cX13_whose 52 = .ok (.iload_n 3, 1) := dk_29 (dk_at dksX13_whose_2 4 rfl rfl)
theorem dX13_whose_53 : decode cX13_whose 53 = .ok (.iconst 1, 1) := dk_4 (dk_at dksX13_whose_2 5 rfl rfl)
theorem dX13_whose_54 : decode cX13_whose 54 = .ok (.invokevirtual 101, 3) := dk_182 0 101 (dk_at dksX13_whose_2 6 rfl rfl)
theorem dX13_whose_57 : decode cX13_whose 57 = .ok (.invokevirtual 230, 3) := dk_182 0 230 (dk_at dksX13_whose_2 9 rfl rfl)
theorem dX13_whose_60 : decode cX13_whose 60 = .ok (.ifCond .eq 9, 3) := dk_153 0 9 (dk_at dksX13_whose_2 12 rfl rfl)
theorem dX13_whose_63 : decode cX13_whose 63 = .ok (.iconst 1, 1) := dk_4 (dk_at dksX13_whose_2 15 rfl rfl)
theorem dX13_whose_64 : decode cX13_whose 64 = .ok (.iload_n 3, 1) := dk_29 (dk_at dksX13_whose_2 16 rfl rfl)
theorem dX13_whose_65 : decode cX13_whose 65 = .ok (.ishl, 1) := dk_120 (dk_at dksX13_whose_2 17 rfl rfl)
theorem dX13_whose_66 : decode cX13_whose 66 = .ok (.goto 4, 3) := dk_167 0 4 (dk_at dksX13_whose_2 18 rfl rfl)
theorem dX13_whose_69 : decode cX13_whose 69 = .ok (.iconst 0, 1) := dk_3 (dk_at dksX13_whose_2 21 rfl rfl)
theorem dX13_whose_70 : decode cX13_whose 70 = .ok (.ior, 1) := dk_128 (dk_at dksX13_whose_2 22 rfl rfl)
theorem dX13_whose_71 : decode cX13_whose 71 = .ok (.istore_n 2, 1) := dk_61 (dk_at dksX13_whose_2 23 rfl rfl)
theorem dX13_whose_72 : decode cX13_whose 72 = .ok (.iinc 3 1, 3) := dk_132 3 1 (dk_at dksX13_whose_3 0 rfl rfl)
theorem dX13_whose_75 : decode cX13_whose 75 = .ok (.goto (-51), 3) := dk_167 255 205 (dk_at dksX13_whose_3 3 rfl rfl)
theorem dX13_whose_78 : decode cX13_whose 78 = .ok (.iload_n 2, 1) := dk_28 (dk_at dksX13_whose_3 6 rfl rfl)
theorem dX13_whose_79 : decode cX13_whose 79 = .ok (.ireturn, 1) := dk_172 (dk_at dksX13_whose_3 7 rfl rfl)
abbrev cX13_stock : ByteArray := prog_16_method_72_code
def yX13_stock : MethodName := ⟨RX13, "stock", "(III)I"⟩
def dkwX13_stock_1 : List UInt8 := [16, 99, 184, 0, 74, 153, 0, 12, 27, 28, 29, 184, 0, 236, 167, 0, 9, 42, 18, 69, 182, 0, 88, 172]
abbrev dktX13_stock_1 : List UInt8 := dkwX13_stock_1 ++ []
def dkwX13_stock_0 : List UInt8 := [27, 3, 17, 39, 15, 184, 0, 74, 153, 0, 33, 28, 3, 17, 3, 231, 184, 0, 74, 153, 0, 22, 29, 3]
abbrev dktX13_stock_0 : List UInt8 := dkwX13_stock_0 ++ dktX13_stock_1
theorem dksX13_stock_0 : cX13_stock.data.toList.drop 0 = dktX13_stock_0 := by decide +kernel
theorem dksX13_stock_1 : cX13_stock.data.toList.drop 24 = dktX13_stock_1 := dk_seg dksX13_stock_0 24 rfl rfl
theorem dX13_stock_0 : decode cX13_stock 0 = .ok (.iload_n 1, 1) := dk_27 (dk_at dksX13_stock_0 0 rfl rfl)
theorem dX13_stock_1 : decode cX13_stock 1 = .ok (.iconst 0, 1) := dk_3 (dk_at dksX13_stock_0 1 rfl rfl)
theorem dX13_stock_2 : decode cX13_stock 2 = .ok (.sipush 9999, 3) := dk_17 39 15 (dk_at dksX13_stock_0 2 rfl rfl)
theorem dX13_stock_5 : decode cX13_stock 5 = .ok (.invokestatic 74, 3) := dk_184 0 74 (dk_at dksX13_stock_0 5 rfl rfl)
theorem dX13_stock_8 : decode cX13_stock 8 = .ok (.ifCond .eq 33, 3) := dk_153 0 33 (dk_at dksX13_stock_0 8 rfl rfl)
theorem dX13_stock_11 : decode cX13_stock 11 = .ok (.iload_n 2, 1) := dk_28 (dk_at dksX13_stock_0 11 rfl rfl)
theorem dX13_stock_12 : decode cX13_stock 12 = .ok (.iconst 0, 1) := dk_3 (dk_at dksX13_stock_0 12 rfl rfl)
theorem dX13_stock_13 : decode cX13_stock 13 = .ok (.sipush 999, 3) := dk_17 3 231 (dk_at dksX13_stock_0 13 rfl rfl)
theorem dX13_stock_16 : decode cX13_stock 16 = .ok (.invokestatic 74, 3) := dk_184 0 74 (dk_at dksX13_stock_0 16 rfl rfl)
theorem dX13_stock_19 : decode cX13_stock 19 = .ok (.ifCond .eq 22, 3) := dk_153 0 22 (dk_at dksX13_stock_0 19 rfl rfl)
theorem dX13_stock_22 : decode cX13_stock 22 = .ok (.iload_n 3, 1) := dk_29 (dk_at dksX13_stock_0 22 rfl rfl)
theorem dX13_stock_23 : decode cX13_stock 23 = .ok (.iconst 0, 1) := dk_3 (dk_at dksX13_stock_0 23 rfl rfl)
theorem dX13_stock_24 : decode cX13_stock 24 = .ok (.bipush 99, 2) := dk_16 99 (dk_at dksX13_stock_1 0 rfl rfl)
theorem dX13_stock_26 : decode cX13_stock 26 = .ok (.invokestatic 74, 3) := dk_184 0 74 (dk_at dksX13_stock_1 2 rfl rfl)
theorem dX13_stock_29 : decode cX13_stock 29 = .ok (.ifCond .eq 12, 3) := dk_153 0 12 (dk_at dksX13_stock_1 5 rfl rfl)
theorem dX13_stock_32 : decode cX13_stock 32 = .ok (.iload_n 1, 1) := dk_27 (dk_at dksX13_stock_1 8 rfl rfl)
theorem dX13_stock_33 : decode cX13_stock 33 = .ok (.iload_n 2, 1) := dk_28 (dk_at dksX13_stock_1 9 rfl rfl)
theorem dX13_stock_34 : decode cX13_stock 34 = .ok (.iload_n 3, 1) := dk_29 (dk_at dksX13_stock_1 10 rfl rfl)
theorem dX13_stock_35 : decode cX13_stock 35 = .ok (.invokestatic 236, 3) := dk_184 0 236 (dk_at dksX13_stock_1 11 rfl rfl)
theorem dX13_stock_38 : decode cX13_stock 38 = .ok (.goto 9, 3) := dk_167 0 9 (dk_at dksX13_stock_1 14 rfl rfl)
theorem dX13_stock_41 : decode cX13_stock 41 = .ok (.aload_n 0, 1) := dk_42 (dk_at dksX13_stock_1 17 rfl rfl)
theorem dX13_stock_42 : decode cX13_stock 42 = .ok (.ldc 69, 2) := dk_18 69 (dk_at dksX13_stock_1 18 rfl rfl)
theorem dX13_stock_44 : decode cX13_stock 44 = .ok (.invokevirtual 88, 3) := dk_182 0 88 (dk_at dksX13_stock_1 20 rfl rfl)
theorem dX13_stock_47 : decode cX13_stock 47 = .ok (.ireturn, 1) := dk_172 (dk_at dksX13_stock_1 23 rfl rfl)
abbrev cX13_stockBehind : ByteArray := prog_16_method_71_code
def yX13_stockBehind : MethodName := ⟨RX13, "stockBehind", "(III)I"⟩
def dkwX13_stockBehind_1 : List UInt8 := [16, 10, 108, 96, 184, 0, 125, 62, 132, 4, 1, 167, 255, 226, 29, 172]
abbrev dktX13_stockBehind_1 : List UInt8 := dkwX13_stockBehind_1 ++ []
def dkwX13_stockBehind_0 : List UInt8 := [26, 62, 3, 54, 4, 21, 4, 28, 162, 0, 30, 29, 27, 29, 184, 0, 125, 100, 62, 17, 39, 15, 29, 29]
abbrev dktX13_stockBehind_0 : List UInt8 := dkwX13_stockBehind_0 ++ dktX13_stockBehind_1
theorem dksX13_stockBehind_0 : cX13_stockBehind.data.toList.drop 0 = dktX13_stockBehind_0 := by decide +kernel
theorem dksX13_stockBehind_1 : cX13_stockBehind.data.toList.drop 24 = dktX13_stockBehind_1 := dk_seg dksX13_stockBehind_0 24 rfl rfl
theorem dX13_stockBehind_0 : decode cX13_stockBehind 0 = .ok (.iload_n 0, 1) := dk_26 (dk_at dksX13_stockBehind_0 0 rfl rfl)
theorem dX13_stockBehind_1 : decode cX13_stockBehind 1 = .ok (.istore_n 3, 1) := dk_62 (dk_at dksX13_stockBehind_0 1 rfl rfl)
theorem dX13_stockBehind_2 : decode cX13_stockBehind 2 = .ok (.iconst 0, 1) := dk_3 (dk_at dksX13_stockBehind_0 2 rfl rfl)
theorem dX13_stockBehind_3 : decode cX13_stockBehind 3 = .ok (.istore 4, 2) := dk_54 4 (dk_at dksX13_stockBehind_0 3 rfl rfl)
theorem dX13_stockBehind_5 : decode cX13_stockBehind 5 = .ok (.iload 4, 2) := dk_21 4 (dk_at dksX13_stockBehind_0 5 rfl rfl)
theorem dX13_stockBehind_7 : decode cX13_stockBehind 7 = .ok (.iload_n 2, 1) := dk_28 (dk_at dksX13_stockBehind_0 7 rfl rfl)
theorem dX13_stockBehind_8 : decode cX13_stockBehind 8 = .ok (.if_icmp .ge 30, 3) := dk_162 0 30 (dk_at dksX13_stockBehind_0 8 rfl rfl)
theorem dX13_stockBehind_11 : decode cX13_stockBehind 11 = .ok (.iload_n 3, 1) := dk_29 (dk_at dksX13_stockBehind_0 11 rfl rfl)
theorem dX13_stockBehind_12 : decode cX13_stockBehind 12 = .ok (.iload_n 1, 1) := dk_27 (dk_at dksX13_stockBehind_0 12 rfl rfl)
theorem dX13_stockBehind_13 : decode cX13_stockBehind 13 = .ok (.iload_n 3, 1) := dk_29 (dk_at dksX13_stockBehind_0 13 rfl rfl)
theorem dX13_stockBehind_14 : decode cX13_stockBehind 14 = .ok (.invokestatic 125, 3) := dk_184 0 125 (dk_at dksX13_stockBehind_0 14 rfl rfl)
theorem dX13_stockBehind_17 : decode cX13_stockBehind 17 = .ok (.isub, 1) := dk_100 (dk_at dksX13_stockBehind_0 17 rfl rfl)
theorem dX13_stockBehind_18 : decode cX13_stockBehind 18 = .ok (.istore_n 3, 1) := dk_62 (dk_at dksX13_stockBehind_0 18 rfl rfl)
theorem dX13_stockBehind_19 : decode cX13_stockBehind 19 = .ok (.sipush 9999, 3) := dk_17 39 15 (dk_at dksX13_stockBehind_0 19 rfl rfl)
theorem dX13_stockBehind_22 : decode cX13_stockBehind 22 = .ok (.iload_n 3, 1) := dk_29 (dk_at dksX13_stockBehind_0 22 rfl rfl)
theorem dX13_stockBehind_23 : decode cX13_stockBehind 23 = .ok (.iload_n 3, 1) := dk_29 (dk_at dksX13_stockBehind_0 23 rfl rfl)
theorem dX13_stockBehind_24 : decode cX13_stockBehind 24 = .ok (.bipush 10, 2) := dk_16 10 (dk_at dksX13_stockBehind_1 0 rfl rfl)
theorem dX13_stockBehind_26 : decode cX13_stockBehind 26 = .ok (.idiv, 1) := dk_108 (dk_at dksX13_stockBehind_1 2 rfl rfl)
theorem dX13_stockBehind_27 : decode cX13_stockBehind 27 = .ok (.iadd, 1) := dk_96 (dk_at dksX13_stockBehind_1 3 rfl rfl)
theorem dX13_stockBehind_28 : decode cX13_stockBehind 28 = .ok (.invokestatic 125, 3) := dk_184 0 125 (dk_at dksX13_stockBehind_1 4 rfl rfl)
theorem dX13_stockBehind_31 : decode cX13_stockBehind 31 = .ok (.istore_n 3, 1) := dk_62 (dk_at dksX13_stockBehind_1 7 rfl rfl)
theorem dX13_stockBehind_32 : decode cX13_stockBehind 32 = .ok (.iinc 4 1, 3) := dk_132 4 1 (dk_at dksX13_stockBehind_1 8 rfl rfl)
theorem dX13_stockBehind_35 : decode cX13_stockBehind 35 = .ok (.goto (-30), 3) := dk_167 255 226 (dk_at dksX13_stockBehind_1 11 rfl rfl)
theorem dX13_stockBehind_38 : decode cX13_stockBehind 38 = .ok (.iload_n 3, 1) := dk_29 (dk_at dksX13_stockBehind_1 14 rfl rfl)
theorem dX13_stockBehind_39 : decode cX13_stockBehind 39 = .ok (.ireturn, 1) := dk_172 (dk_at dksX13_stockBehind_1 15 rfl rfl)
abbrev cX13_lasts : ByteArray := prog_16_method_73_code
def yX13_lasts : MethodName := ⟨RX13, "lasts", "(II)I"⟩
def dkwX13_lasts_2 : List UInt8 := [132, 3, 255, 167, 255, 239, 29, 172]
abbrev dktX13_lasts_2 : List UInt8 := dkwX13_lasts_2 ++ []
def dkwX13_lasts_1 : List UInt8 := [182, 0, 88, 172, 17, 3, 231, 62, 29, 158, 0, 19, 27, 29, 28, 184, 0, 236, 27, 162, 0, 9]
abbrev dktX13_lasts_1 : List UInt8 := dkwX13_lasts_1 ++ dktX13_lasts_2
def dkwX13_lasts_0 : List UInt8 := [27, 3, 17, 39, 15, 184, 0, 74, 153, 0, 13, 28, 4, 16, 99, 184, 0, 74, 154, 0, 10, 42, 18, 69]
abbrev dktX13_lasts_0 : List UInt8 := dkwX13_lasts_0 ++ dktX13_lasts_1
theorem dksX13_lasts_0 : cX13_lasts.data.toList.drop 0 = dktX13_lasts_0 := by decide +kernel
theorem dksX13_lasts_1 : cX13_lasts.data.toList.drop 24 = dktX13_lasts_1 := dk_seg dksX13_lasts_0 24 rfl rfl
theorem dksX13_lasts_2 : cX13_lasts.data.toList.drop 46 = dktX13_lasts_2 := dk_seg dksX13_lasts_1 22 rfl rfl
theorem dX13_lasts_0 : decode cX13_lasts 0 = .ok (.iload_n 1, 1) := dk_27 (dk_at dksX13_lasts_0 0 rfl rfl)
theorem dX13_lasts_1 : decode cX13_lasts 1 = .ok (.iconst 0, 1) := dk_3 (dk_at dksX13_lasts_0 1 rfl rfl)
theorem dX13_lasts_2 : decode cX13_lasts 2 = .ok (.sipush 9999, 3) := dk_17 39 15 (dk_at dksX13_lasts_0 2 rfl rfl)
theorem dX13_lasts_5 : decode cX13_lasts 5 = .ok (.invokestatic 74, 3) := dk_184 0 74 (dk_at dksX13_lasts_0 5 rfl rfl)
theorem dX13_lasts_8 : decode cX13_lasts 8 = .ok (.ifCond .eq 13, 3) := dk_153 0 13 (dk_at dksX13_lasts_0 8 rfl rfl)
theorem dX13_lasts_11 : decode cX13_lasts 11 = .ok (.iload_n 2, 1) := dk_28 (dk_at dksX13_lasts_0 11 rfl rfl)
theorem dX13_lasts_12 : decode cX13_lasts 12 = .ok (.iconst 1, 1) := dk_4 (dk_at dksX13_lasts_0 12 rfl rfl)
theorem dX13_lasts_13 : decode cX13_lasts 13 = .ok (.bipush 99, 2) := dk_16 99 (dk_at dksX13_lasts_0 13 rfl rfl)
theorem dX13_lasts_15 : decode cX13_lasts 15 = .ok (.invokestatic 74, 3) := dk_184 0 74 (dk_at dksX13_lasts_0 15 rfl rfl)
theorem dX13_lasts_18 : decode cX13_lasts 18 = .ok (.ifCond .ne 10, 3) := dk_154 0 10 (dk_at dksX13_lasts_0 18 rfl rfl)
theorem dX13_lasts_21 : decode cX13_lasts 21 = .ok (.aload_n 0, 1) := dk_42 (dk_at dksX13_lasts_0 21 rfl rfl)
theorem dX13_lasts_22 : decode cX13_lasts 22 = .ok (.ldc 69, 2) := dk_18 69 (dk_at dksX13_lasts_0 22 rfl rfl)
theorem dX13_lasts_24 : decode cX13_lasts 24 = .ok (.invokevirtual 88, 3) := dk_182 0 88 (dk_at dksX13_lasts_1 0 rfl rfl)
theorem dX13_lasts_27 : decode cX13_lasts 27 = .ok (.ireturn, 1) := dk_172 (dk_at dksX13_lasts_1 3 rfl rfl)
theorem dX13_lasts_28 : decode cX13_lasts 28 = .ok (.sipush 999, 3) := dk_17 3 231 (dk_at dksX13_lasts_1 4 rfl rfl)
theorem dX13_lasts_31 : decode cX13_lasts 31 = .ok (.istore_n 3, 1) := dk_62 (dk_at dksX13_lasts_1 7 rfl rfl)
theorem dX13_lasts_32 : decode cX13_lasts 32 = .ok (.iload_n 3, 1) := dk_29 (dk_at dksX13_lasts_1 8 rfl rfl)
theorem dX13_lasts_33 : decode cX13_lasts 33 = .ok (.ifCond .le 19, 3) := dk_158 0 19 (dk_at dksX13_lasts_1 9 rfl rfl)
theorem dX13_lasts_36 : decode cX13_lasts 36 = .ok (.iload_n 1, 1) := dk_27 (dk_at dksX13_lasts_1 12 rfl rfl)
theorem dX13_lasts_37 : decode cX13_lasts 37 = .ok (.iload_n 3, 1) := dk_29 (dk_at dksX13_lasts_1 13 rfl rfl)
theorem dX13_lasts_38 : decode cX13_lasts 38 = .ok (.iload_n 2, 1) := dk_28 (dk_at dksX13_lasts_1 14 rfl rfl)
theorem dX13_lasts_39 : decode cX13_lasts 39 = .ok (.invokestatic 236, 3) := dk_184 0 236 (dk_at dksX13_lasts_1 15 rfl rfl)
theorem dX13_lasts_42 : decode cX13_lasts 42 = .ok (.iload_n 1, 1) := dk_27 (dk_at dksX13_lasts_1 18 rfl rfl)
theorem dX13_lasts_43 : decode cX13_lasts 43 = .ok (.if_icmp .ge 9, 3) := dk_162 0 9 (dk_at dksX13_lasts_1 19 rfl rfl)
theorem dX13_lasts_46 : decode cX13_lasts 46 = .ok (.iinc 3 (-1), 3) := dk_132 3 255 (dk_at dksX13_lasts_2 0 rfl rfl)
theorem dX13_lasts_49 : decode cX13_lasts 49 = .ok (.goto (-17), 3) := dk_167 255 239 (dk_at dksX13_lasts_2 3 rfl rfl)
theorem dX13_lasts_52 : decode cX13_lasts 52 = .ok (.iload_n 3, 1) := dk_29 (dk_at dksX13_lasts_2 6 rfl rfl)
theorem dX13_lasts_53 : decode cX13_lasts 53 = .ok (.ireturn, 1) := dk_172 (dk_at dksX13_lasts_2 7 rfl rfl)
abbrev cX13_ring : ByteArray := prog_16_method_77_code
def yX13_ring : MethodName := ⟨RX13, "ring", "()I"⟩
def dkwX13_ring_0 : List UInt8 := [42, 182, 0, 248, 184, 0, 182, 172]
abbrev dktX13_ring_0 : List UInt8 := dkwX13_ring_0 ++ []
theorem dksX13_ring_0 : cX13_ring.data.toList.drop 0 = dktX13_ring_0 := by decide +kernel
theorem dX13_ring_0 : decode cX13_ring 0 = .ok (.aload_n 0, 1) := dk_42 (dk_at dksX13_ring_0 0 rfl rfl)
theorem dX13_ring_1 : decode cX13_ring 1 = .ok (.invokevirtual 248, 3) := dk_182 0 248 (dk_at dksX13_ring_0 1 rfl rfl)
theorem dX13_ring_4 : decode cX13_ring 4 = .ok (.invokestatic 182, 3) := dk_184 0 182 (dk_at dksX13_ring_0 4 rfl rfl)
theorem dX13_ring_7 : decode cX13_ring 7 = .ok (.ireturn, 1) := dk_172 (dk_at dksX13_ring_0 7 rfl rfl)
abbrev cX13_greatest : ByteArray := prog_16_method_76_code
def yX13_greatest : MethodName := ⟨RX13, "greatest", "()I"⟩
def dkwX13_greatest_2 : List UInt8 := [172]
abbrev dktX13_greatest_2 : List UInt8 := dkwX13_greatest_2 ++ []
def dkwX13_greatest_1 : List UInt8 := [164, 0, 15, 42, 28, 182, 0, 245, 153, 0, 7, 28, 167, 0, 4, 27, 60, 132, 2, 1, 167, 255, 216, 27]
abbrev dktX13_greatest_1 : List UInt8 := dkwX13_greatest_1 ++ dktX13_greatest_2
def dkwX13_greatest_0 : List UInt8 := [3, 60, 4, 61, 28, 4, 42, 180, 0, 9, 5, 46, 120, 162, 0, 34, 28, 184, 0, 182, 27, 184, 0, 182]
abbrev dktX13_greatest_0 : List UInt8 := dkwX13_greatest_0 ++ dktX13_greatest_1
theorem dksX13_greatest_0 : cX13_greatest.data.toList.drop 0 = dktX13_greatest_0 := by decide +kernel
theorem dksX13_greatest_1 : cX13_greatest.data.toList.drop 24 = dktX13_greatest_1 := dk_seg dksX13_greatest_0 24 rfl rfl
theorem dksX13_greatest_2 : cX13_greatest.data.toList.drop 48 = dktX13_greatest_2 := dk_seg dksX13_greatest_1 24 rfl rfl
theorem dX13_greatest_0 : decode cX13_greatest 0 = .ok (.iconst 0, 1) := dk_3 (dk_at dksX13_greatest_0 0 rfl rfl)
theorem dX13_greatest_1 : decode cX13_greatest 1 = .ok (.istore_n 1, 1) := dk_60 (dk_at dksX13_greatest_0 1 rfl rfl)
theorem dX13_greatest_2 : decode cX13_greatest 2 = .ok (.iconst 1, 1) := dk_4 (dk_at dksX13_greatest_0 2 rfl rfl)
theorem dX13_greatest_3 : decode cX13_greatest 3 = .ok (.istore_n 2, 1) := dk_61 (dk_at dksX13_greatest_0 3 rfl rfl)
theorem dX13_greatest_4 : decode cX13_greatest 4 = .ok (.iload_n 2, 1) := dk_28 (dk_at dksX13_greatest_0 4 rfl rfl)
theorem dX13_greatest_5 : decode cX13_greatest 5 = .ok (.iconst 1, 1) := dk_4 (dk_at dksX13_greatest_0 5 rfl rfl)
theorem dX13_greatest_6 : decode cX13_greatest 6 = .ok (.aload_n 0, 1) := dk_42 (dk_at dksX13_greatest_0 6 rfl rfl)
theorem dX13_greatest_7 : decode cX13_greatest 7 = .ok (.getfield 9, 3) := dk_180 0 9 (dk_at dksX13_greatest_0 7 rfl rfl)
theorem dX13_greatest_10 : decode cX13_greatest 10 = .ok (.iconst 2, 1) := dk_5 (dk_at dksX13_greatest_0 10 rfl rfl)
theorem dX13_greatest_11 : decode cX13_greatest 11 = .ok (.iaload, 1) := dk_46 (dk_at dksX13_greatest_0 11 rfl rfl)
theorem dX13_greatest_12 : decode cX13_greatest 12 = .ok (.ishl, 1) := dk_120 (dk_at dksX13_greatest_0 12 rfl rfl)
theorem dX13_greatest_13 : decode cX13_greatest 13 = .ok (.if_icmp .ge 34, 3) := dk_162 0 34 (dk_at dksX13_greatest_0 13 rfl rfl)
theorem dX13_greatest_16 : decode cX13_greatest 16 = .ok (.iload_n 2, 1) := dk_28 (dk_at dksX13_greatest_0 16 rfl rfl)
theorem dX13_greatest_17 : decode cX13_greatest 17 = .ok (.invokestatic 182, 3) := dk_184 0 182 (dk_at dksX13_greatest_0 17 rfl rfl)
theorem dX13_greatest_20 : decode cX13_greatest 20 = .ok (.iload_n 1, 1) := dk_27 (dk_at dksX13_greatest_0 20 rfl rfl)
theorem dX13_greatest_21 : decode cX13_greatest 21 = .ok (.invokestatic 182, 3) := dk_184 0 182 (dk_at dksX13_greatest_0 21 rfl rfl)
theorem dX13_greatest_24 : decode cX13_greatest 24 = .ok (.if_icmp .le 15, 3) := dk_164 0 15 (dk_at dksX13_greatest_1 0 rfl rfl)
theorem dX13_greatest_27 : decode cX13_greatest 27 = .ok (.aload_n 0, 1) := dk_42 (dk_at dksX13_greatest_1 3 rfl rfl)
theorem dX13_greatest_28 : decode cX13_greatest 28 = .ok (.iload_n 2, 1) := dk_28 (dk_at dksX13_greatest_1 4 rfl rfl)
theorem dX13_greatest_29 : decode cX13_greatest 29 = .ok (.invokevirtual 245, 3) := dk_182 0 245 (dk_at dksX13_greatest_1 5 rfl rfl)
theorem dX13_greatest_32 : decode cX13_greatest 32 = .ok (.ifCond .eq 7, 3) := dk_153 0 7 (dk_at dksX13_greatest_1 8 rfl rfl)
theorem dX13_greatest_35 : decode cX13_greatest 35 = .ok (.iload_n 2, 1) := dk_28 (dk_at dksX13_greatest_1 11 rfl rfl)
theorem dX13_greatest_36 : decode cX13_greatest 36 = .ok (.goto 4, 3) := dk_167 0 4 (dk_at dksX13_greatest_1 12 rfl rfl)
theorem dX13_greatest_39 : decode cX13_greatest 39 = .ok (.iload_n 1, 1) := dk_27 (dk_at dksX13_greatest_1 15 rfl rfl)
theorem dX13_greatest_40 : decode cX13_greatest 40 = .ok (.istore_n 1, 1) := dk_60 (dk_at dksX13_greatest_1 16 rfl rfl)
theorem dX13_greatest_41 : decode cX13_greatest 41 = .ok (.iinc 2 1, 3) := dk_132 2 1 (dk_at dksX13_greatest_1 17 rfl rfl)
theorem dX13_greatest_44 : decode cX13_greatest 44 = .ok (.goto (-40), 3) := dk_167 255 216 (dk_at dksX13_greatest_1 20 rfl rfl)
theorem dX13_greatest_47 : decode cX13_greatest 47 = .ok (.iload_n 1, 1) := dk_27 (dk_at dksX13_greatest_1 23 rfl rfl)
theorem dX13_greatest_48 : decode cX13_greatest 48 = .ok (.ireturn, 1) := dk_172 (dk_at dksX13_greatest_2 0 rfl rfl)
abbrev cX13_areRing : ByteArray := prog_16_method_74_code
def yX13_areRing : MethodName := ⟨RX13, "areRing", "(I)Z"⟩
def dkwX13_areRing_3 : List UInt8 := [153, 0, 14, 28, 184, 0, 242, 153, 0, 7, 4, 167, 0, 4, 3, 172]
abbrev dktX13_areRing_3 : List UInt8 := dkwX13_areRing_3 ++ []
def dkwX13_areRing_2 : List UInt8 := [21, 5, 126, 154, 0, 7, 4, 167, 0, 4, 3, 62, 28, 21, 5, 128, 61, 132, 4, 1, 167, 255, 196, 29]
abbrev dktX13_areRing_2 : List UInt8 := dkwX13_areRing_2 ++ dktX13_areRing_3
def dkwX13_areRing_1 : List UInt8 := [153, 0, 15, 4, 42, 21, 4, 5, 182, 0, 101, 120, 167, 0, 4, 3, 54, 5, 29, 153, 0, 14, 28]
abbrev dktX13_areRing_1 : List UInt8 := dkwX13_areRing_1 ++ dktX13_areRing_2
def dkwX13_areRing_0 : List UInt8 := [3, 61, 4, 62, 3, 54, 4, 21, 4, 42, 180, 0, 9, 5, 46, 162, 0, 55, 27, 21, 4, 184, 0, 239]
abbrev dktX13_areRing_0 : List UInt8 := dkwX13_areRing_0 ++ dktX13_areRing_1
theorem dksX13_areRing_0 : cX13_areRing.data.toList.drop 0 = dktX13_areRing_0 := by decide +kernel
theorem dksX13_areRing_1 : cX13_areRing.data.toList.drop 24 = dktX13_areRing_1 := dk_seg dksX13_areRing_0 24 rfl rfl
theorem dksX13_areRing_2 : cX13_areRing.data.toList.drop 47 = dktX13_areRing_2 := dk_seg dksX13_areRing_1 23 rfl rfl
theorem dksX13_areRing_3 : cX13_areRing.data.toList.drop 71 = dktX13_areRing_3 := dk_seg dksX13_areRing_2 24 rfl rfl
theorem dX13_areRing_0 : decode cX13_areRing 0 = .ok (.iconst 0, 1) := dk_3 (dk_at dksX13_areRing_0 0 rfl rfl)
theorem dX13_areRing_1 : decode cX13_areRing 1 = .ok (.istore_n 2, 1) := dk_61 (dk_at dksX13_areRing_0 1 rfl rfl)
theorem dX13_areRing_2 : decode cX13_areRing 2 = .ok (.iconst 1, 1) := dk_4 (dk_at dksX13_areRing_0 2 rfl rfl)
theorem dX13_areRing_3 : decode cX13_areRing 3 = .ok (.istore_n 3, 1) := dk_62 (dk_at dksX13_areRing_0 3 rfl rfl)
theorem dX13_areRing_4 : decode cX13_areRing 4 = .ok (.iconst 0, 1) := dk_3 (dk_at dksX13_areRing_0 4 rfl rfl)
theorem dX13_areRing_5 : decode cX13_areRing 5 = .ok (.istore 4, 2) := dk_54 4 (dk_at dksX13_areRing_0 5 rfl rfl)
theorem dX13_areRing_7 : decode cX13_areRing 7 = .ok (.iload 4, 2) := dk_21 4 (dk_at dksX13_areRing_0 7 rfl rfl)
theorem dX13_areRing_9 : decode cX13_areRing 9 = .ok (.aload_n 0, 1) := dk_42 (dk_at dksX13_areRing_0 9 rfl rfl)
theorem dX13_areRing_10 : decode cX13_areRing 10 = .ok (.getfield 9, 3) := dk_180 0 9 (dk_at dksX13_areRing_0 10 rfl rfl)
theorem dX13_areRing_13 : decode cX13_areRing 13 = .ok (.iconst 2, 1) := dk_5 (dk_at dksX13_areRing_0 13 rfl rfl)
theorem dX13_areRing_14 : decode cX13_areRing 14 = .ok (.iaload, 1) := dk_46 (dk_at dksX13_areRing_0 14 rfl rfl)
theorem dX13_areRing_15 : decode cX13_areRing 15 = .ok (.if_icmp .ge 55, 3) := dk_162 0 55 (dk_at dksX13_areRing_0 15 rfl rfl)
theorem dX13_areRing_18 : decode cX13_areRing 18 = .ok (.iload_n 1, 1) := dk_27 (dk_at dksX13_areRing_0 18 rfl rfl)
theorem dX13_areRing_19 : decode cX13_areRing 19 = .ok (.iload 4, 2) := dk_21 4 (dk_at dksX13_areRing_0 19 rfl rfl)
theorem dX13_areRing_21 : decode cX13_areRing 21 = .ok (.invokestatic 239, 3) := dk_184 0 239 (dk_at dksX13_areRing_0 21 rfl rfl)
theorem dX13_areRing_24 : decode cX13_areRing 24 = .ok (.ifCond .eq 15, 3) := dk_153 0 15 (dk_at dksX13_areRing_1 0 rfl rfl)
theorem dX13_areRing_27 : decode cX13_areRing 27 = .ok (.iconst 1, 1) := dk_4 (dk_at dksX13_areRing_1 3 rfl rfl)
theorem dX13_areRing_28 : decode cX13_areRing 28 = .ok (.aload_n 0, 1) := dk_42 (dk_at dksX13_areRing_1 4 rfl rfl)
theorem dX13_areRing_29 : decode cX13_areRing 29 = .ok (.iload 4, 2) := dk_21 4 (dk_at dksX13_areRing_1 5 rfl rfl)
theorem dX13_areRing_31 : decode cX13_areRing 31 = .ok (.iconst 2, 1) := dk_5 (dk_at dksX13_areRing_1 7 rfl rfl)
theorem dX13_areRing_32 : decode cX13_areRing 32 = .ok (.invokevirtual 101, 3) := dk_182 0 101 (dk_at dksX13_areRing_1 8 rfl rfl)
theorem dX13_areRing_35 : decode cX13_areRing 35 = .ok (.ishl, 1) := dk_120 (dk_at dksX13_areRing_1 11 rfl rfl)
theorem dX13_areRing_36 : decode cX13_areRing 36 = .ok (.goto 4, 3) := dk_167 0 4 (dk_at dksX13_areRing_1 12 rfl rfl)
theorem dX13_areRing_39 : decode cX13_areRing 39 = .ok (.iconst 0, 1) := dk_3 (dk_at dksX13_areRing_1 15 rfl rfl)
theorem dX13_areRing_40 : decode cX13_areRing 40 = .ok (.istore 5, 2) := dk_54 5 (dk_at dksX13_areRing_1 16 rfl rfl)
theorem dX13_areRing_42 : decode cX13_areRing 42 = .ok (.iload_n 3, 1) := dk_29 (dk_at dksX13_areRing_1 18 rfl rfl)
theorem dX13_areRing_43 : decode cX13_areRing 43 = .ok (.ifCond .eq 14, 3) := dk_153 0 14 (dk_at dksX13_areRing_1 19 rfl rfl)
theorem dX13_areRing_46 : decode cX13_areRing 46 = .ok (.iload_n 2, 1) := dk_28 (dk_at dksX13_areRing_1 22 rfl rfl)
theorem dX13_areRing_47 : decode cX13_areRing 47 = .ok (.iload 5, 2) := dk_21 5 (dk_at dksX13_areRing_2 0 rfl rfl)
theorem dX13_areRing_49 : decode cX13_areRing 49 = .ok (.iand, 1) := dk_126 (dk_at dksX13_areRing_2 2 rfl rfl)
theorem dX13_areRing_50 : decode cX13_areRing 50 = .ok (.ifCond .ne 7, 3) := dk_154 0 7 (dk_at dksX13_areRing_2 3 rfl rfl)
theorem dX13_areRing_53 : decode cX13_areRing 53 = .ok (.iconst 1, 1) := dk_4 (dk_at dksX13_areRing_2 6 rfl rfl)
theorem dX13_areRing_54 : decode cX13_areRing 54 = .ok (.goto 4, 3) := dk_167 0 4 (dk_at dksX13_areRing_2 7 rfl rfl)
theorem dX13_areRing_57 : decode cX13_areRing 57 = .ok (.iconst 0, 1) := dk_3 (dk_at dksX13_areRing_2 10 rfl rfl)
theorem dX13_areRing_58 : decode cX13_areRing 58 = .ok (.istore_n 3, 1) := dk_62 (dk_at dksX13_areRing_2 11 rfl rfl)
theorem dX13_areRing_59 : decode cX13_areRing 59 = .ok (.iload_n 2, 1) := dk_28 (dk_at dksX13_areRing_2 12 rfl rfl)
theorem dX13_areRing_60 : decode cX13_areRing 60 = .ok (.iload 5, 2) := dk_21 5 (dk_at dksX13_areRing_2 13 rfl rfl)
theorem dX13_areRing_62 : decode cX13_areRing 62 = .ok (.ior, 1) := dk_128 (dk_at dksX13_areRing_2 15 rfl rfl)
theorem dX13_areRing_63 : decode cX13_areRing 63 = .ok (.istore_n 2, 1) := dk_61 (dk_at dksX13_areRing_2 16 rfl rfl)
theorem dX13_areRing_64 : decode cX13_areRing 64 = .ok (.iinc 4 1, 3) := dk_132 4 1 (dk_at dksX13_areRing_2 17 rfl rfl)
theorem dX13_areRing_67 : decode cX13_areRing 67 = .ok (.goto (-60), 3) := dk_167 255 196 (dk_at dksX13_areRing_2 20 rfl rfl)
theorem dX13_areRing_70 : decode cX13_areRing 70 = .ok (.iload_n 3, 1) := dk_29 (dk_at dksX13_areRing_2 23 rfl rfl)
theorem dX13_areRing_71 : decode cX13_areRing 71 = .ok (.ifCond .eq 14, 3) := dk_153 0 14 (dk_at dksX13_areRing_3 0 rfl rfl)
theorem dX13_areRing_74 : decode cX13_areRing 74 = .ok (.iload_n 2, 1) := dk_28 (dk_at dksX13_areRing_3 3 rfl rfl)
theorem dX13_areRing_75 : decode cX13_areRing 75 = .ok (.invokestatic 242, 3) := dk_184 0 242 (dk_at dksX13_areRing_3 4 rfl rfl)
theorem dX13_areRing_78 : decode cX13_areRing 78 = .ok (.ifCond .eq 7, 3) := dk_153 0 7 (dk_at dksX13_areRing_3 7 rfl rfl)
theorem dX13_areRing_81 : decode cX13_areRing 81 = .ok (.iconst 1, 1) := dk_4 (dk_at dksX13_areRing_3 10 rfl rfl)
theorem dX13_areRing_82 : decode cX13_areRing 82 = .ok (.goto 4, 3) := dk_167 0 4 (dk_at dksX13_areRing_3 11 rfl rfl)
theorem dX13_areRing_85 : decode cX13_areRing 85 = .ok (.iconst 0, 1) := dk_3 (dk_at dksX13_areRing_3 14 rfl rfl)
theorem dX13_areRing_86 : decode cX13_areRing 86 = .ok (.ireturn, 1) := dk_172 (dk_at dksX13_areRing_3 15 rfl rfl)
abbrev cX13_has : ByteArray := prog_16_method_7_code
def yX13_has : MethodName := ⟨RX13, "has", "(II)Z"⟩
def dkwX13_has_0 : List UInt8 := [26, 27, 122, 4, 126, 4, 160, 0, 7, 4, 167, 0, 4, 3, 172]
abbrev dktX13_has_0 : List UInt8 := dkwX13_has_0 ++ []
theorem dksX13_has_0 : cX13_has.data.toList.drop 0 = dktX13_has_0 := by decide +kernel
theorem dX13_has_0 : decode cX13_has 0 = .ok (.iload_n 0, 1) := dk_26 (dk_at dksX13_has_0 0 rfl rfl)
theorem dX13_has_1 : decode cX13_has 1 = .ok (.iload_n 1, 1) := dk_27 (dk_at dksX13_has_0 1 rfl rfl)
theorem dX13_has_2 : decode cX13_has 2 = .ok (.ishr, 1) := dk_122 (dk_at dksX13_has_0 2 rfl rfl)
theorem dX13_has_3 : decode cX13_has 3 = .ok (.iconst 1, 1) := dk_4 (dk_at dksX13_has_0 3 rfl rfl)
theorem dX13_has_4 : decode cX13_has 4 = .ok (.iand, 1) := dk_126 (dk_at dksX13_has_0 4 rfl rfl)
theorem dX13_has_5 : decode cX13_has 5 = .ok (.iconst 1, 1) := dk_4 (dk_at dksX13_has_0 5 rfl rfl)
theorem dX13_has_6 : decode cX13_has 6 = .ok (.if_icmp .ne 7, 3) := dk_160 0 7 (dk_at dksX13_has_0 6 rfl rfl)
theorem dX13_has_9 : decode cX13_has 9 = .ok (.iconst 1, 1) := dk_4 (dk_at dksX13_has_0 9 rfl rfl)
theorem dX13_has_10 : decode cX13_has 10 = .ok (.goto 4, 3) := dk_167 0 4 (dk_at dksX13_has_0 10 rfl rfl)
theorem dX13_has_13 : decode cX13_has 13 = .ok (.iconst 0, 1) := dk_3 (dk_at dksX13_has_0 13 rfl rfl)
theorem dX13_has_14 : decode cX13_has 14 = .ok (.ireturn, 1) := dk_172 (dk_at dksX13_has_0 14 rfl rfl)
abbrev cX13_stepBySteps : ByteArray := prog_16_method_75_code
def yX13_stepBySteps : MethodName := ⟨RX13, "stepBySteps", "(I)Z"⟩
def dkwX13_stepBySteps_2 : List UInt8 := [167, 255, 216, 28, 172]
abbrev dktX13_stepBySteps_2 : List UInt8 := dkwX13_stepBySteps_2 ++ []
def dkwX13_stepBySteps_1 : List UInt8 := [27, 155, 0, 10, 29, 27, 100, 6, 162, 0, 7, 4, 167, 0, 4, 3, 61, 29, 60, 132, 3, 1]
abbrev dktX13_stepBySteps_1 : List UInt8 := dkwX13_stepBySteps_1 ++ dktX13_stepBySteps_2
def dkwX13_stepBySteps_0 : List UInt8 := [2, 60, 4, 61, 3, 62, 29, 16, 12, 162, 0, 40, 26, 29, 184, 0, 239, 153, 0, 26, 28, 153, 0, 18]
abbrev dktX13_stepBySteps_0 : List UInt8 := dkwX13_stepBySteps_0 ++ dktX13_stepBySteps_1
theorem dksX13_stepBySteps_0 : cX13_stepBySteps.data.toList.drop 0 = dktX13_stepBySteps_0 := by decide +kernel
theorem dksX13_stepBySteps_1 : cX13_stepBySteps.data.toList.drop 24 = dktX13_stepBySteps_1 := dk_seg dksX13_stepBySteps_0 24 rfl rfl
theorem dksX13_stepBySteps_2 : cX13_stepBySteps.data.toList.drop 46 = dktX13_stepBySteps_2 := dk_seg dksX13_stepBySteps_1 22 rfl rfl
theorem dX13_stepBySteps_0 : decode cX13_stepBySteps 0 = .ok (.iconst (-1), 1) := dk_2 (dk_at dksX13_stepBySteps_0 0 rfl rfl)
theorem dX13_stepBySteps_1 : decode cX13_stepBySteps 1 = .ok (.istore_n 1, 1) := dk_60 (dk_at dksX13_stepBySteps_0 1 rfl rfl)
theorem dX13_stepBySteps_2 : decode cX13_stepBySteps 2 = .ok (.iconst 1, 1) := dk_4 (dk_at dksX13_stepBySteps_0 2 rfl rfl)
theorem dX13_stepBySteps_3 : decode cX13_stepBySteps 3 = .ok (.istore_n 2, 1) := dk_61 (dk_at dksX13_stepBySteps_0 3 rfl rfl)
theorem dX13_stepBySteps_4 : decode cX13_stepBySteps 4 = .ok (.iconst 0, 1) := dk_3 (dk_at dksX13_stepBySteps_0 4 rfl rfl)
theorem dX13_stepBySteps_5 : decode cX13_stepBySteps 5 = .ok (.istore_n 3, 1) := dk_62 (dk_at dksX13_stepBySteps_0 5 rfl rfl)
theorem dX13_stepBySteps_6 : decode cX13_stepBySteps 6 = .ok (.iload_n 3, 1) := dk_29 (dk_at dksX13_stepBySteps_0 6 rfl rfl)
theorem dX13_stepBySteps_7 : decode cX13_stepBySteps 7 = .ok (.bipush 12, 2) := dk_16 12 (dk_at dksX13_stepBySteps_0 7 rfl rfl)
theorem dX13_stepBySteps_9 : decode cX13_stepBySteps 9 = .ok (.if_icmp .ge 40, 3) := dk_162 0 40 (dk_at dksX13_stepBySteps_0 9 rfl rfl)
theorem dX13_stepBySteps_12 : decode cX13_stepBySteps 12 = .ok (.iload_n 0, 1) := dk_26 (dk_at dksX13_stepBySteps_0 12 rfl rfl)
theorem dX13_stepBySteps_13 : decode cX13_stepBySteps 13 = .ok (.iload_n 3, 1) := dk_29 (dk_at dksX13_stepBySteps_0 13 rfl rfl)
theorem dX13_stepBySteps_14 : decode cX13_stepBySteps 14 = .ok (.invokestatic 239, 3) := dk_184 0 239 (dk_at dksX13_stepBySteps_0 14 rfl rfl)
theorem dX13_stepBySteps_17 : decode cX13_stepBySteps 17 = .ok (.ifCond .eq 26, 3) := dk_153 0 26 (dk_at dksX13_stepBySteps_0 17 rfl rfl)
theorem dX13_stepBySteps_20 : decode cX13_stepBySteps 20 = .ok (.iload_n 2, 1) := dk_28 (dk_at dksX13_stepBySteps_0 20 rfl rfl)
theorem dX13_stepBySteps_21 : decode cX13_stepBySteps 21 = .ok (.ifCond .eq 18, 3) := dk_153 0 18 (dk_at dksX13_stepBySteps_0 21 rfl rfl)
theorem dX13_stepBySteps_24 : decode cX13_stepBySteps 24 = .ok (.iload_n 1, 1) := dk_27 (dk_at dksX13_stepBySteps_1 0 rfl rfl)
theorem dX13_stepBySteps_25 : decode cX13_stepBySteps 25 = .ok (.ifCond .lt 10, 3) := dk_155 0 10 (dk_at dksX13_stepBySteps_1 1 rfl rfl)
theorem dX13_stepBySteps_28 : decode cX13_stepBySteps 28 = .ok (.iload_n 3, 1) := dk_29 (dk_at dksX13_stepBySteps_1 4 rfl rfl)
theorem dX13_stepBySteps_29 : decode cX13_stepBySteps 29 = .ok (.iload_n 1, 1) := dk_27 (dk_at dksX13_stepBySteps_1 5 rfl rfl)
theorem dX13_stepBySteps_30 : decode cX13_stepBySteps 30 = .ok (.isub, 1) := dk_100 (dk_at dksX13_stepBySteps_1 6 rfl rfl)
theorem dX13_stepBySteps_31 : decode cX13_stepBySteps 31 = .ok (.iconst 3, 1) := dk_6 (dk_at dksX13_stepBySteps_1 7 rfl rfl)
theorem dX13_stepBySteps_32 : decode cX13_stepBySteps 32 = .ok (.if_icmp .ge 7, 3) := dk_162 0 7 (dk_at dksX13_stepBySteps_1 8 rfl rfl)
theorem dX13_stepBySteps_35 : decode cX13_stepBySteps 35 = .ok (.iconst 1, 1) := dk_4 (dk_at dksX13_stepBySteps_1 11 rfl rfl)
theorem dX13_stepBySteps_36 : decode cX13_stepBySteps 36 = .ok (.goto 4, 3) := dk_167 0 4 (dk_at dksX13_stepBySteps_1 12 rfl rfl)
theorem dX13_stepBySteps_39 : decode cX13_stepBySteps 39 = .ok (.iconst 0, 1) := dk_3 (dk_at dksX13_stepBySteps_1 15 rfl rfl)
theorem dX13_stepBySteps_40 : decode cX13_stepBySteps 40 = .ok (.istore_n 2, 1) := dk_61 (dk_at dksX13_stepBySteps_1 16 rfl rfl)
theorem dX13_stepBySteps_41 : decode cX13_stepBySteps 41 = .ok (.iload_n 3, 1) := dk_29 (dk_at dksX13_stepBySteps_1 17 rfl rfl)
theorem dX13_stepBySteps_42 : decode cX13_stepBySteps 42 = .ok (.istore_n 1, 1) := dk_60 (dk_at dksX13_stepBySteps_1 18 rfl rfl)
theorem dX13_stepBySteps_43 : decode cX13_stepBySteps 43 = .ok (.iinc 3 1, 3) := dk_132 3 1 (dk_at dksX13_stepBySteps_1 19 rfl rfl)
theorem dX13_stepBySteps_46 : decode cX13_stepBySteps 46 = .ok (.goto (-40), 3) := dk_167 255 216 (dk_at dksX13_stepBySteps_2 0 rfl rfl)
theorem dX13_stepBySteps_49 : decode cX13_stepBySteps 49 = .ok (.iload_n 2, 1) := dk_28 (dk_at dksX13_stepBySteps_2 3 rfl rfl)
theorem dX13_stepBySteps_50 : decode cX13_stepBySteps 50 = .ok (.ireturn, 1) := dk_172 (dk_at dksX13_stepBySteps_2 4 rfl rfl)
abbrev cX13_rings : ByteArray := prog_16_method_78_code
def yX13_rings : MethodName := ⟨RX13, "rings", "()I"⟩
theorem dX13_rings_0 : decode cX13_rings 0 = .ok (.aload_n 0, 1) := by decide +kernel
theorem dX13_rings_1 : decode cX13_rings 1 = .ok (.invokevirtual 248, 3) := by decide +kernel
theorem dX13_rings_4 : decode cX13_rings 4 = .ok (.ireturn, 1) := by decide +kernel
abbrev cX13_peals : ByteArray := prog_16_method_79_code
def yX13_peals : MethodName := ⟨RX13, "peals", "()I"⟩
def dkwX13_peals_1 : List UInt8 := [153, 0, 7, 4, 167, 0, 4, 3, 96, 60, 132, 2, 1, 167, 255, 225, 27, 172]
abbrev dktX13_peals_1 : List UInt8 := dkwX13_peals_1 ++ []
def dkwX13_peals_0 : List UInt8 := [3, 60, 4, 61, 28, 4, 42, 180, 0, 9, 5, 46, 120, 162, 0, 25, 27, 42, 28, 182, 0, 245]
abbrev dktX13_peals_0 : List UInt8 := dkwX13_peals_0 ++ dktX13_peals_1
theorem dksX13_peals_0 : cX13_peals.data.toList.drop 0 = dktX13_peals_0 := by decide +kernel
theorem dksX13_peals_1 : cX13_peals.data.toList.drop 22 = dktX13_peals_1 := dk_seg dksX13_peals_0 22 rfl rfl
theorem dX13_peals_0 : decode cX13_peals 0 = .ok (.iconst 0, 1) := dk_3 (dk_at dksX13_peals_0 0 rfl rfl)
theorem dX13_peals_1 : decode cX13_peals 1 = .ok (.istore_n 1, 1) := dk_60 (dk_at dksX13_peals_0 1 rfl rfl)
theorem dX13_peals_2 : decode cX13_peals 2 = .ok (.iconst 1, 1) := dk_4 (dk_at dksX13_peals_0 2 rfl rfl)
theorem dX13_peals_3 : decode cX13_peals 3 = .ok (.istore_n 2, 1) := dk_61 (dk_at dksX13_peals_0 3 rfl rfl)
theorem dX13_peals_4 : decode cX13_peals 4 = .ok (.iload_n 2, 1) := dk_28 (dk_at dksX13_peals_0 4 rfl rfl)
theorem dX13_peals_5 : decode cX13_peals 5 = .ok (.iconst 1, 1) := dk_4 (dk_at dksX13_peals_0 5 rfl rfl)
theorem dX13_peals_6 : decode cX13_peals 6 = .ok (.aload_n 0, 1) := dk_42 (dk_at dksX13_peals_0 6 rfl rfl)
theorem dX13_peals_7 : decode cX13_peals 7 = .ok (.getfield 9, 3) := dk_180 0 9 (dk_at dksX13_peals_0 7 rfl rfl)
theorem dX13_peals_10 : decode cX13_peals 10 = .ok (.iconst 2, 1) := dk_5 (dk_at dksX13_peals_0 10 rfl rfl)
theorem dX13_peals_11 : decode cX13_peals 11 = .ok (.iaload, 1) := dk_46 (dk_at dksX13_peals_0 11 rfl rfl)
theorem dX13_peals_12 : decode cX13_peals 12 = .ok (.ishl, 1) := dk_120 (dk_at dksX13_peals_0 12 rfl rfl)
theorem dX13_peals_13 : decode cX13_peals 13 = .ok (.if_icmp .ge 25, 3) := dk_162 0 25 (dk_at dksX13_peals_0 13 rfl rfl)
theorem dX13_peals_16 : decode cX13_peals 16 = .ok (.iload_n 1, 1) := dk_27 (dk_at dksX13_peals_0 16 rfl rfl)
theorem dX13_peals_17 : decode cX13_peals 17 = .ok (.aload_n 0, 1) := dk_42 (dk_at dksX13_peals_0 17 rfl rfl)
theorem dX13_peals_18 : decode cX13_peals 18 = .ok (.iload_n 2, 1) := dk_28 (dk_at dksX13_peals_0 18 rfl rfl)
theorem dX13_peals_19 : decode cX13_peals 19 = .ok (.invokevirtual 245, 3) := dk_182 0 245 (dk_at dksX13_peals_0 19 rfl rfl)
theorem dX13_peals_22 : decode cX13_peals 22 = .ok (.ifCond .eq 7, 3) := dk_153 0 7 (dk_at dksX13_peals_1 0 rfl rfl)
theorem dX13_peals_25 : decode cX13_peals 25 = .ok (.iconst 1, 1) := dk_4 (dk_at dksX13_peals_1 3 rfl rfl)
theorem dX13_peals_26 : decode cX13_peals 26 = .ok (.goto 4, 3) := dk_167 0 4 (dk_at dksX13_peals_1 4 rfl rfl)
theorem dX13_peals_29 : decode cX13_peals 29 = .ok (.iconst 0, 1) := dk_3 (dk_at dksX13_peals_1 7 rfl rfl)
theorem dX13_peals_30 : decode cX13_peals 30 = .ok (.iadd, 1) := dk_96 (dk_at dksX13_peals_1 8 rfl rfl)
theorem dX13_peals_31 : decode cX13_peals 31 = .ok (.istore_n 1, 1) := dk_60 (dk_at dksX13_peals_1 9 rfl rfl)
theorem dX13_peals_32 : decode cX13_peals 32 = .ok (.iinc 2 1, 3) := dk_132 2 1 (dk_at dksX13_peals_1 10 rfl rfl)
theorem dX13_peals_35 : decode cX13_peals 35 = .ok (.goto (-31), 3) := dk_167 255 225 (dk_at dksX13_peals_1 13 rfl rfl)
theorem dX13_peals_38 : decode cX13_peals 38 = .ok (.iload_n 1, 1) := dk_27 (dk_at dksX13_peals_1 16 rfl rfl)
theorem dX13_peals_39 : decode cX13_peals 39 = .ok (.ireturn, 1) := dk_172 (dk_at dksX13_peals_1 17 rfl rfl)
abbrev cX13_wanted : ByteArray := prog_16_method_81_code
def yX13_wanted : MethodName := ⟨RX13, "wanted", "()I"⟩
def dkwX13_wanted_3 : List UInt8 := [167, 255, 222, 28, 172]
abbrev dktX13_wanted_3 : List UInt8 := dkwX13_wanted_3 ++ []
def dkwX13_wanted_2 : List UInt8 := [184, 0, 251, 27, 4, 28, 120, 128, 184, 0, 251, 164, 0, 7, 29, 167, 0, 4, 28, 61, 132, 3, 1]
abbrev dktX13_wanted_2 : List UInt8 := dkwX13_wanted_2 ++ dktX13_wanted_3
def dkwX13_wanted_1 : List UInt8 := [60, 132, 2, 1, 167, 255, 232, 3, 61, 4, 62, 29, 16, 12, 162, 0, 34, 27, 4, 29, 120, 128]
abbrev dktX13_wanted_1 : List UInt8 := dkwX13_wanted_1 ++ dktX13_wanted_2
def dkwX13_wanted_0 : List UInt8 := [3, 60, 3, 61, 28, 42, 180, 0, 9, 5, 46, 162, 0, 20, 27, 4, 42, 28, 5, 182, 0, 101, 120, 128]
abbrev dktX13_wanted_0 : List UInt8 := dkwX13_wanted_0 ++ dktX13_wanted_1
theorem dksX13_wanted_0 : cX13_wanted.data.toList.drop 0 = dktX13_wanted_0 := by decide +kernel
theorem dksX13_wanted_1 : cX13_wanted.data.toList.drop 24 = dktX13_wanted_1 := dk_seg dksX13_wanted_0 24 rfl rfl
theorem dksX13_wanted_2 : cX13_wanted.data.toList.drop 46 = dktX13_wanted_2 := dk_seg dksX13_wanted_1 22 rfl rfl
theorem dksX13_wanted_3 : cX13_wanted.data.toList.drop 69 = dktX13_wanted_3 := dk_seg dksX13_wanted_2 23 rfl rfl
theorem dX13_wanted_0 : decode cX13_wanted 0 = .ok (.iconst 0, 1) := dk_3 (dk_at dksX13_wanted_0 0 rfl rfl)
theorem dX13_wanted_1 : decode cX13_wanted 1 = .ok (.istore_n 1, 1) := dk_60 (dk_at dksX13_wanted_0 1 rfl rfl)
theorem dX13_wanted_2 : decode cX13_wanted 2 = .ok (.iconst 0, 1) := dk_3 (dk_at dksX13_wanted_0 2 rfl rfl)
theorem dX13_wanted_3 : decode cX13_wanted 3 = .ok (.istore_n 2, 1) := dk_61 (dk_at dksX13_wanted_0 3 rfl rfl)
theorem dX13_wanted_4 : decode cX13_wanted 4 = .ok (.iload_n 2, 1) := dk_28 (dk_at dksX13_wanted_0 4 rfl rfl)
theorem dX13_wanted_5 : decode cX13_wanted 5 = .ok (.aload_n 0, 1) := dk_42 (dk_at dksX13_wanted_0 5 rfl rfl)
theorem dX13_wanted_6 : decode cX13_wanted 6 = .ok (.getfield 9, 3) := dk_180 0 9 (dk_at dksX13_wanted_0 6 rfl rfl)
theorem dX13_wanted_9 : decode cX13_wanted 9 = .ok (.iconst 2, 1) := dk_5 (dk_at dksX13_wanted_0 9 rfl rfl)
theorem dX13_wanted_10 : decode cX13_wanted 10 = .ok (.iaload, 1) := dk_46 (dk_at dksX13_wanted_0 10 rfl rfl)
theorem dX13_wanted_11 : decode cX13_wanted 11 = .ok (.if_icmp .ge 20, 3) := dk_162 0 20 (dk_at dksX13_wanted_0 11 rfl rfl)
theorem dX13_wanted_14 : decode cX13_wanted 14 = .ok (.iload_n 1, 1) := dk_27 (dk_at dksX13_wanted_0 14 rfl rfl)
theorem dX13_wanted_15 : decode cX13_wanted 15 = .ok (.iconst 1, 1) := dk_4 (dk_at dksX13_wanted_0 15 rfl rfl)
theorem dX13_wanted_16 : decode cX13_wanted 16 = .ok (.aload_n 0, 1) := dk_42 (dk_at dksX13_wanted_0 16 rfl rfl)
theorem dX13_wanted_17 : decode cX13_wanted 17 = .ok (.iload_n 2, 1) := dk_28 (dk_at dksX13_wanted_0 17 rfl rfl)
theorem dX13_wanted_18 : decode cX13_wanted 18 = .ok (.iconst 2, 1) := dk_5 (dk_at dksX13_wanted_0 18 rfl rfl)
theorem dX13_wanted_19 : decode cX13_wanted 19 = .ok (.invokevirtual 101, 3) := dk_182 0 101 (dk_at dksX13_wanted_0 19 rfl rfl)
theorem dX13_wanted_22 : decode cX13_wanted 22 = .ok (.ishl, 1) := dk_120 (dk_at dksX13_wanted_0 22 rfl rfl)
theorem dX13_wanted_23 : decode cX13_wanted 23 = .ok (.ior, 1) := dk_128 (dk_at dksX13_wanted_0 23 rfl rfl)
theorem dX13_wanted_24 : decode cX13_wanted 24 = .ok (.istore_n 1, 1) := dk_60 (dk_at dksX13_wanted_1 0 rfl rfl)
theorem dX13_wanted_25 : decode cX13_wanted 25 = .ok (.iinc 2 1, 3) := dk_132 2 1 (dk_at dksX13_wanted_1 1 rfl rfl)
theorem dX13_wanted_28 : decode cX13_wanted 28 = .ok (.goto (-24), 3) := dk_167 255 232 (dk_at dksX13_wanted_1 4 rfl rfl)
theorem dX13_wanted_31 : decode cX13_wanted 31 = .ok (.iconst 0, 1) := dk_3 (dk_at dksX13_wanted_1 7 rfl rfl)
theorem dX13_wanted_32 : decode cX13_wanted 32 = .ok (.istore_n 2, 1) := dk_61 (dk_at dksX13_wanted_1 8 rfl rfl)
theorem dX13_wanted_33 : decode cX13_wanted 33 = .ok (.iconst 1, 1) := dk_4 (dk_at dksX13_wanted_1 9 rfl rfl)
theorem dX13_wanted_34 : decode cX13_wanted 34 = .ok (.istore_n 3, 1) := dk_62 (dk_at dksX13_wanted_1 10 rfl rfl)
theorem dX13_wanted_35 : decode cX13_wanted 35 = .ok (.iload_n 3, 1) := dk_29 (dk_at dksX13_wanted_1 11 rfl rfl)
theorem dX13_wanted_36 : decode cX13_wanted 36 = .ok (.bipush 12, 2) := dk_16 12 (dk_at dksX13_wanted_1 12 rfl rfl)
theorem dX13_wanted_38 : decode cX13_wanted 38 = .ok (.if_icmp .ge 34, 3) := dk_162 0 34 (dk_at dksX13_wanted_1 14 rfl rfl)
theorem dX13_wanted_41 : decode cX13_wanted 41 = .ok (.iload_n 1, 1) := dk_27 (dk_at dksX13_wanted_1 17 rfl rfl)
theorem dX13_wanted_42 : decode cX13_wanted 42 = .ok (.iconst 1, 1) := dk_4 (dk_at dksX13_wanted_1 18 rfl rfl)
theorem dX13_wanted_43 : decode cX13_wanted 43 = .ok (.iload_n 3, 1) := dk_29 (dk_at dksX13_wanted_1 19 rfl rfl)
theorem dX13_wanted_44 : decode cX13_wanted 44 = .ok (.ishl, 1) := dk_120 (dk_at dksX13_wanted_1 20 rfl rfl)
theorem dX13_wanted_45 : decode cX13_wanted 45 = .ok (.ior, 1) := dk_128 (dk_at dksX13_wanted_1 21 rfl rfl)
theorem dX13_wanted_46 : decode cX13_wanted 46 = .ok (.invokestatic 251, 3) := dk_184 0 251 (dk_at dksX13_wanted_2 0 rfl rfl)
theorem dX13_wanted_49 : decode cX13_wanted 49 = .ok (.iload_n 1, 1) := dk_27 (dk_at dksX13_wanted_2 3 rfl rfl)
theorem dX13_wanted_50 : decode cX13_wanted 50 = .ok (.iconst 1, 1) := dk_4 (dk_at dksX13_wanted_2 4 rfl rfl)
theorem dX13_wanted_51 : decode cX13_wanted 51 = .ok (.iload_n 2, 1) := dk_28 (dk_at dksX13_wanted_2 5 rfl rfl)
theorem dX13_wanted_52 : decode cX13_wanted 52 = .ok (.ishl, 1) := dk_120 (dk_at dksX13_wanted_2 6 rfl rfl)
theorem dX13_wanted_53 : decode cX13_wanted 53 = .ok (.ior, 1) := dk_128 (dk_at dksX13_wanted_2 7 rfl rfl)
theorem dX13_wanted_54 : decode cX13_wanted 54 = .ok (.invokestatic 251, 3) := dk_184 0 251 (dk_at dksX13_wanted_2 8 rfl rfl)
theorem dX13_wanted_57 : decode cX13_wanted 57 = .ok (.if_icmp .le 7, 3) := dk_164 0 7 (dk_at dksX13_wanted_2 11 rfl rfl)
theorem dX13_wanted_60 : decode cX13_wanted 60 = .ok (.iload_n 3, 1) := dk_29 (dk_at dksX13_wanted_2 14 rfl rfl)
theorem dX13_wanted_61 : decode cX13_wanted 61 = .ok (.goto 4, 3) := dk_167 0 4 (dk_at dksX13_wanted_2 15 rfl rfl)
theorem dX13_wanted_64 : decode cX13_wanted 64 = .ok (.iload_n 2, 1) := dk_28 (dk_at dksX13_wanted_2 18 rfl rfl)
theorem dX13_wanted_65 : decode cX13_wanted 65 = .ok (.istore_n 2, 1) := dk_61 (dk_at dksX13_wanted_2 19 rfl rfl)
theorem dX13_wanted_66 : decode cX13_wanted 66 = .ok (.iinc 3 1, 3) := dk_132 3 1 (dk_at dksX13_wanted_2 20 rfl rfl)
theorem dX13_wanted_69 : decode cX13_wanted 69 = .ok (.goto (-34), 3) := dk_167 255 222 (dk_at dksX13_wanted_3 0 rfl rfl)
theorem dX13_wanted_72 : decode cX13_wanted 72 = .ok (.iload_n 2, 1) := dk_28 (dk_at dksX13_wanted_3 3 rfl rfl)
theorem dX13_wanted_73 : decode cX13_wanted 73 = .ok (.ireturn, 1) := dk_172 (dk_at dksX13_wanted_3 4 rfl rfl)
abbrev cX13_longest : ByteArray := prog_16_method_80_code
def yX13_longest : MethodName := ⟨RX13, "longest", "(I)I"⟩
def dkwX13_longest_2 : List UInt8 := [184, 0, 132, 60, 132, 4, 1, 167, 255, 212, 27, 172]
abbrev dktX13_longest_2 : List UInt8 := dkwX13_longest_2 ++ []
def dkwX13_longest_1 : List UInt8 := [153, 0, 28, 21, 4, 29, 100, 6, 162, 0, 9, 28, 4, 96, 167, 0, 4, 4, 61, 21, 4, 62, 27, 28]
abbrev dktX13_longest_1 : List UInt8 := dkwX13_longest_1 ++ dktX13_longest_2
def dkwX13_longest_0 : List UInt8 := [3, 60, 3, 61, 16, 253, 62, 3, 54, 4, 21, 4, 16, 12, 162, 0, 43, 26, 21, 4, 184, 0, 239]
abbrev dktX13_longest_0 : List UInt8 := dkwX13_longest_0 ++ dktX13_longest_1
theorem dksX13_longest_0 : cX13_longest.data.toList.drop 0 = dktX13_longest_0 := by decide +kernel
theorem dksX13_longest_1 : cX13_longest.data.toList.drop 23 = dktX13_longest_1 := dk_seg dksX13_longest_0 23 rfl rfl
theorem dksX13_longest_2 : cX13_longest.data.toList.drop 47 = dktX13_longest_2 := dk_seg dksX13_longest_1 24 rfl rfl
theorem dX13_longest_0 : decode cX13_longest 0 = .ok (.iconst 0, 1) := dk_3 (dk_at dksX13_longest_0 0 rfl rfl)
theorem dX13_longest_1 : decode cX13_longest 1 = .ok (.istore_n 1, 1) := dk_60 (dk_at dksX13_longest_0 1 rfl rfl)
theorem dX13_longest_2 : decode cX13_longest 2 = .ok (.iconst 0, 1) := dk_3 (dk_at dksX13_longest_0 2 rfl rfl)
theorem dX13_longest_3 : decode cX13_longest 3 = .ok (.istore_n 2, 1) := dk_61 (dk_at dksX13_longest_0 3 rfl rfl)
theorem dX13_longest_4 : decode cX13_longest 4 = .ok (.bipush (-3), 2) := dk_16 253 (dk_at dksX13_longest_0 4 rfl rfl)
theorem dX13_longest_6 : decode cX13_longest 6 = .ok (.istore_n 3, 1) := dk_62 (dk_at dksX13_longest_0 6 rfl rfl)
theorem dX13_longest_7 : decode cX13_longest 7 = .ok (.iconst 0, 1) := dk_3 (dk_at dksX13_longest_0 7 rfl rfl)
theorem dX13_longest_8 : decode cX13_longest 8 = .ok (.istore 4, 2) := dk_54 4 (dk_at dksX13_longest_0 8 rfl rfl)
theorem dX13_longest_10 : decode cX13_longest 10 = .ok (.iload 4, 2) := dk_21 4 (dk_at dksX13_longest_0 10 rfl rfl)
theorem dX13_longest_12 : decode cX13_longest 12 = .ok (.bipush 12, 2) := dk_16 12 (dk_at dksX13_longest_0 12 rfl rfl)
theorem dX13_longest_14 : decode cX13_longest 14 = .ok (.if_icmp .ge 43, 3) := dk_162 0 43 (dk_at dksX13_longest_0 14 rfl rfl)
theorem dX13_longest_17 : decode cX13_longest 17 = .ok (.iload_n 0, 1) := dk_26 (dk_at dksX13_longest_0 17 rfl rfl)
theorem dX13_longest_18 : decode cX13_longest 18 = .ok (.iload 4, 2) := dk_21 4 (dk_at dksX13_longest_0 18 rfl rfl)
theorem dX13_longest_20 : decode cX13_longest 20 = .ok (.invokestatic 239, 3) := dk_184 0 239 (dk_at dksX13_longest_0 20 rfl rfl)
theorem dX13_longest_23 : decode cX13_longest 23 = .ok (.ifCond .eq 28, 3) := dk_153 0 28 (dk_at dksX13_longest_1 0 rfl rfl)
theorem dX13_longest_26 : decode cX13_longest 26 = .ok (.iload 4, 2) := dk_21 4 (dk_at dksX13_longest_1 3 rfl rfl)
theorem dX13_longest_28 : decode cX13_longest 28 = .ok (.iload_n 3, 1) := dk_29 (dk_at dksX13_longest_1 5 rfl rfl)
theorem dX13_longest_29 : decode cX13_longest 29 = .ok (.isub, 1) := dk_100 (dk_at dksX13_longest_1 6 rfl rfl)
theorem dX13_longest_30 : decode cX13_longest 30 = .ok (.iconst 3, 1) := dk_6 (dk_at dksX13_longest_1 7 rfl rfl)
theorem dX13_longest_31 : decode cX13_longest 31 = .ok (.if_icmp .ge 9, 3) := dk_162 0 9 (dk_at dksX13_longest_1 8 rfl rfl)
theorem dX13_longest_34 : decode cX13_longest 34 = .ok (.iload_n 2, 1) := dk_28 (dk_at dksX13_longest_1 11 rfl rfl)
theorem dX13_longest_35 : decode cX13_longest 35 = .ok (.iconst 1, 1) := dk_4 (dk_at dksX13_longest_1 12 rfl rfl)
theorem dX13_longest_36 : decode cX13_longest 36 = .ok (.iadd, 1) := dk_96 (dk_at dksX13_longest_1 13 rfl rfl)
theorem dX13_longest_37 : decode cX13_longest 37 = .ok (.goto 4, 3) := dk_167 0 4 (dk_at dksX13_longest_1 14 rfl rfl)
theorem dX13_longest_40 : decode cX13_longest 40 = .ok (.iconst 1, 1) := dk_4 (dk_at dksX13_longest_1 17 rfl rfl)
theorem dX13_longest_41 : decode cX13_longest 41 = .ok (.istore_n 2, 1) := dk_61 (dk_at dksX13_longest_1 18 rfl rfl)
theorem dX13_longest_42 : decode cX13_longest 42 = .ok (.iload 4, 2) := dk_21 4 (dk_at dksX13_longest_1 19 rfl rfl)
theorem dX13_longest_44 : decode cX13_longest 44 = .ok (.istore_n 3, 1) := dk_62 (dk_at dksX13_longest_1 21 rfl rfl)
theorem dX13_longest_45 : decode cX13_longest 45 = .ok (.iload_n 1, 1) := dk_27 (dk_at dksX13_longest_1 22 rfl rfl)
theorem dX13_longest_46 : decode cX13_longest 46 = .ok (.iload_n 2, 1) := dk_28 (dk_at dksX13_longest_1 23 rfl rfl)
theorem dX13_longest_47 : decode cX13_longest 47 = .ok (.invokestatic 132, 3) := dk_184 0 132 (dk_at dksX13_longest_2 0 rfl rfl)
theorem dX13_longest_50 : decode cX13_longest 50 = .ok (.istore_n 1, 1) := dk_60 (dk_at dksX13_longest_2 3 rfl rfl)
theorem dX13_longest_51 : decode cX13_longest 51 = .ok (.iinc 4 1, 3) := dk_132 4 1 (dk_at dksX13_longest_2 4 rfl rfl)
theorem dX13_longest_54 : decode cX13_longest 54 = .ok (.goto (-44), 3) := dk_167 255 212 (dk_at dksX13_longest_2 7 rfl rfl)
theorem dX13_longest_57 : decode cX13_longest 57 = .ok (.iload_n 1, 1) := dk_27 (dk_at dksX13_longest_2 10 rfl rfl)
theorem dX13_longest_58 : decode cX13_longest 58 = .ok (.ireturn, 1) := dk_172 (dk_at dksX13_longest_2 11 rfl rfl)
abbrev cX13_changes : ByteArray := prog_16_method_82_code
def yX13_changes : MethodName := ⟨RX13, "changes", "(I)J"⟩
def dkwX13_changes_1 : List UInt8 := [21, 4, 27, 163, 0, 15, 32, 21, 4, 133, 105, 65, 132, 4, 1, 167, 255, 241, 32, 173]
abbrev dktX13_changes_1 : List UInt8 := dkwX13_changes_1 ++ []
def dkwX13_changes_0 : List UInt8 := [27, 3, 16, 20, 184, 0, 74, 154, 0, 11, 42, 18, 69, 182, 0, 88, 133, 173, 10, 65, 5, 54, 4]
abbrev dktX13_changes_0 : List UInt8 := dkwX13_changes_0 ++ dktX13_changes_1
theorem dksX13_changes_0 : cX13_changes.data.toList.drop 0 = dktX13_changes_0 := by decide +kernel
theorem dksX13_changes_1 : cX13_changes.data.toList.drop 23 = dktX13_changes_1 := dk_seg dksX13_changes_0 23 rfl rfl
theorem dX13_changes_0 : decode cX13_changes 0 = .ok (.iload_n 1, 1) := dk_27 (dk_at dksX13_changes_0 0 rfl rfl)
theorem dX13_changes_1 : decode cX13_changes 1 = .ok (.iconst 0, 1) := dk_3 (dk_at dksX13_changes_0 1 rfl rfl)
theorem dX13_changes_2 : decode cX13_changes 2 = .ok (.bipush 20, 2) := dk_16 20 (dk_at dksX13_changes_0 2 rfl rfl)
theorem dX13_changes_4 : decode cX13_changes 4 = .ok (.invokestatic 74, 3) := dk_184 0 74 (dk_at dksX13_changes_0 4 rfl rfl)
theorem dX13_changes_7 : decode cX13_changes 7 = .ok (.ifCond .ne 11, 3) := dk_154 0 11 (dk_at dksX13_changes_0 7 rfl rfl)
theorem dX13_changes_10 : decode cX13_changes 10 = .ok (.aload_n 0, 1) := dk_42 (dk_at dksX13_changes_0 10 rfl rfl)
theorem dX13_changes_11 : decode cX13_changes 11 = .ok (.ldc 69, 2) := dk_18 69 (dk_at dksX13_changes_0 11 rfl rfl)
theorem dX13_changes_13 : decode cX13_changes 13 = .ok (.invokevirtual 88, 3) := dk_182 0 88 (dk_at dksX13_changes_0 13 rfl rfl)
theorem dX13_changes_16 : decode cX13_changes 16 = .ok (.i2l, 1) := dk_133 (dk_at dksX13_changes_0 16 rfl rfl)
theorem dX13_changes_17 : decode cX13_changes 17 = .ok (.lreturn, 1) := dk_173 (dk_at dksX13_changes_0 17 rfl rfl)
theorem dX13_changes_18 : decode cX13_changes 18 = .ok (.lconst 1, 1) := dk_10 (dk_at dksX13_changes_0 18 rfl rfl)
theorem dX13_changes_19 : decode cX13_changes 19 = .ok (.lstore_n 2, 1) := dk_65 (dk_at dksX13_changes_0 19 rfl rfl)
theorem dX13_changes_20 : decode cX13_changes 20 = .ok (.iconst 2, 1) := dk_5 (dk_at dksX13_changes_0 20 rfl rfl)
theorem dX13_changes_21 : decode cX13_changes 21 = .ok (.istore 4, 2) := dk_54 4 (dk_at dksX13_changes_0 21 rfl rfl)
theorem dX13_changes_23 : decode cX13_changes 23 = .ok (.iload 4, 2) := dk_21 4 (dk_at dksX13_changes_1 0 rfl rfl)
theorem dX13_changes_25 : decode cX13_changes 25 = .ok (.iload_n 1, 1) := dk_27 (dk_at dksX13_changes_1 2 rfl rfl)
theorem dX13_changes_26 : decode cX13_changes 26 = .ok (.if_icmp .gt 15, 3) := dk_163 0 15 (dk_at dksX13_changes_1 3 rfl rfl)
theorem dX13_changes_29 : decode cX13_changes 29 = .ok (.lload_n 2, 1) := dk_32 (dk_at dksX13_changes_1 6 rfl rfl)
theorem dX13_changes_30 : decode cX13_changes 30 = .ok (.iload 4, 2) := dk_21 4 (dk_at dksX13_changes_1 7 rfl rfl)
theorem dX13_changes_32 : decode cX13_changes 32 = .ok (.i2l, 1) := dk_133 (dk_at dksX13_changes_1 9 rfl rfl)
theorem dX13_changes_33 : decode cX13_changes 33 = .ok (.lmul, 1) := dk_105 (dk_at dksX13_changes_1 10 rfl rfl)
theorem dX13_changes_34 : decode cX13_changes 34 = .ok (.lstore_n 2, 1) := dk_65 (dk_at dksX13_changes_1 11 rfl rfl)
theorem dX13_changes_35 : decode cX13_changes 35 = .ok (.iinc 4 1, 3) := dk_132 4 1 (dk_at dksX13_changes_1 12 rfl rfl)
theorem dX13_changes_38 : decode cX13_changes 38 = .ok (.goto (-15), 3) := dk_167 255 241 (dk_at dksX13_changes_1 15 rfl rfl)
theorem dX13_changes_41 : decode cX13_changes 41 = .ok (.lload_n 2, 1) := dk_32 (dk_at dksX13_changes_1 18 rfl rfl)
theorem dX13_changes_42 : decode cX13_changes 42 = .ok (.lreturn, 1) := dk_173 (dk_at dksX13_changes_1 19 rfl rfl)
abbrev cX13_thunder : ByteArray := prog_16_method_84_code
def yX13_thunder : MethodName := ⟨RX13, "thunder", "(I)I"⟩
def dkwX13_thunder_5 : List UInt8 := [184, 0, 182, 172]
abbrev dktX13_thunder_5 : List UInt8 := dkwX13_thunder_5 ++ []
def dkwX13_thunder_4 : List UInt8 := [182, 0, 101, 167, 0, 5, 21, 4, 79, 42, 182, 0, 169, 132, 2, 1, 167, 255, 196, 42, 182, 0, 178]
abbrev dktX13_thunder_4 : List UInt8 := dkwX13_thunder_4 ++ dktX13_thunder_5
def dkwX13_thunder_3 : List UInt8 := [54, 4, 42, 180, 0, 9, 29, 4, 184, 0, 98, 42, 29, 182, 0, 115, 153, 0, 12, 42, 29, 4]
abbrev dktX13_thunder_3 : List UInt8 := dkwX13_thunder_3 ++ dktX13_thunder_4
def dkwX13_thunder_2 : List UInt8 := [61, 28, 27, 162, 0, 61, 42, 42, 180, 0, 9, 5, 46, 182, 0, 255, 62, 42, 16, 64, 182, 0, 255]
abbrev dktX13_thunder_2 : List UInt8 := dkwX13_thunder_2 ++ dktX13_thunder_3
def dkwX13_thunder_1 : List UInt8 := [153, 0, 16, 42, 180, 0, 9, 3, 46, 27, 96, 18, 172, 164, 0, 10, 42, 18, 173, 182, 0, 88, 172, 3]
abbrev dktX13_thunder_1 : List UInt8 := dkwX13_thunder_1 ++ dktX13_thunder_2
def dkwX13_thunder_0 : List UInt8 := [27, 4, 16, 20, 184, 0, 74, 154, 0, 10, 42, 18, 69, 182, 0, 88, 172, 42, 180, 0, 9, 5, 46]
abbrev dktX13_thunder_0 : List UInt8 := dkwX13_thunder_0 ++ dktX13_thunder_1
theorem dksX13_thunder_0 : cX13_thunder.data.toList.drop 0 = dktX13_thunder_0 := by decide +kernel
theorem dksX13_thunder_1 : cX13_thunder.data.toList.drop 23 = dktX13_thunder_1 := dk_seg dksX13_thunder_0 23 rfl rfl
theorem dksX13_thunder_2 : cX13_thunder.data.toList.drop 47 = dktX13_thunder_2 := dk_seg dksX13_thunder_1 24 rfl rfl
theorem dksX13_thunder_3 : cX13_thunder.data.toList.drop 70 = dktX13_thunder_3 := dk_seg dksX13_thunder_2 23 rfl rfl
theorem dksX13_thunder_4 : cX13_thunder.data.toList.drop 92 = dktX13_thunder_4 := dk_seg dksX13_thunder_3 22 rfl rfl
theorem dksX13_thunder_5 : cX13_thunder.data.toList.drop 115 = dktX13_thunder_5 := dk_seg dksX13_thunder_4 23 rfl rfl
theorem dX13_thunder_0 : decode cX13_thunder 0 = .ok (.iload_n 1, 1) := dk_27 (dk_at dksX13_thunder_0 0 rfl rfl)
theorem dX13_thunder_1 : decode cX13_thunder 1 = .ok (.iconst 1, 1) := dk_4 (dk_at dksX13_thunder_0 1 rfl rfl)
theorem dX13_thunder_2 : decode cX13_thunder 2 = .ok (.bipush 20, 2) := dk_16 20 (dk_at dksX13_thunder_0 2 rfl rfl)
theorem dX13_thunder_4 : decode cX13_thunder 4 = .ok (.invokestatic 74, 3) := dk_184 0 74 (dk_at dksX13_thunder_0 4 rfl rfl)
theorem dX13_thunder_7 : decode cX13_thunder 7 = .ok (.ifCond .ne 10, 3) := dk_154 0 10 (dk_at dksX13_thunder_0 7 rfl rfl)
theorem dX13_thunder_10 : decode cX13_thunder 10 = .ok (.aload_n 0, 1) := dk_42 (dk_at dksX13_thunder_0 10 rfl rfl)
theorem dX13_thunder_11 : decode cX13_thunder 11 = .ok (.ldc 69, 2) := dk_18 69 (dk_at dksX13_thunder_0 11 rfl rfl)
theorem dX13_thunder_13 : decode cX13_thunder 13 = .ok (.invokevirtual 88, 3) := dk_182 0 88 (dk_at dksX13_thunder_0 13 rfl rfl)
theorem dX13_thunder_16 : decode cX13_thunder 16 = .ok (.ireturn, 1) := dk_172 (dk_at dksX13_thunder_0 16 rfl rfl)
theorem dX13_thunder_17 : decode cX13_thunder 17 = .ok (.aload_n 0, 1) := dk_42 (dk_at dksX13_thunder_0 17 rfl rfl)
theorem dX13_thunder_18 : decode cX13_thunder 18 = .ok (.getfield 9, 3) := dk_180 0 9 (dk_at dksX13_thunder_0 18 rfl rfl)
theorem dX13_thunder_21 : decode cX13_thunder 21 = .ok (.iconst 2, 1) := dk_5 (dk_at dksX13_thunder_0 21 rfl rfl)
theorem dX13_thunder_22 : decode cX13_thunder 22 = .ok (.iaload, 1) := dk_46 (dk_at dksX13_thunder_0 22 rfl rfl)
theorem dX13_thunder_23 : decode cX13_thunder 23 = .ok (.ifCond .eq 16, 3) := dk_153 0 16 (dk_at dksX13_thunder_1 0 rfl rfl)
theorem dX13_thunder_26 : decode cX13_thunder 26 = .ok (.aload_n 0, 1) := dk_42 (dk_at dksX13_thunder_1 3 rfl rfl)
theorem dX13_thunder_27 : decode cX13_thunder 27 = .ok (.getfield 9, 3) := dk_180 0 9 (dk_at dksX13_thunder_1 4 rfl rfl)
theorem dX13_thunder_30 : decode cX13_thunder 30 = .ok (.iconst 0, 1) := dk_3 (dk_at dksX13_thunder_1 7 rfl rfl)
theorem dX13_thunder_31 : decode cX13_thunder 31 = .ok (.iaload, 1) := dk_46 (dk_at dksX13_thunder_1 8 rfl rfl)
theorem dX13_thunder_32 : decode cX13_thunder 32 = .ok (.iload_n 1, 1) := dk_27 (dk_at dksX13_thunder_1 9 rfl rfl)
theorem dX13_thunder_33 : decode cX13_thunder 33 = .ok (.iadd, 1) := dk_96 (dk_at dksX13_thunder_1 10 rfl rfl)
theorem dX13_thunder_34 : decode cX13_thunder 34 = .ok (.ldc 172, 2) := dk_18 172 (dk_at dksX13_thunder_1 11 rfl rfl)
theorem dX13_thunder_36 : decode cX13_thunder 36 = .ok (.if_icmp .le 10, 3) := dk_164 0 10 (dk_at dksX13_thunder_1 13 rfl rfl)
theorem dX13_thunder_39 : decode cX13_thunder 39 = .ok (.aload_n 0, 1) := dk_42 (dk_at dksX13_thunder_1 16 rfl rfl)
theorem dX13_thunder_40 : decode cX13_thunder 40 = .ok (.ldc 173, 2) := dk_18 173 (dk_at dksX13_thunder_1 17 rfl rfl)
theorem dX13_thunder_42 : decode cX13_thunder 42 = .ok (.invokevirtual 88, 3) := dk_182 0 88 (dk_at dksX13_thunder_1 19 rfl rfl)
theorem dX13_thunder_45 : decode cX13_thunder 45 = .ok (.ireturn, 1) := dk_172 (dk_at dksX13_thunder_1 22 rfl rfl)
theorem dX13_thunder_46 : decode cX13_thunder 46 = .ok (.iconst 0, 1) := dk_3 (dk_at dksX13_thunder_1 23 rfl rfl)
theorem dX13_thunder_47 : decode cX13_thunder 47 = .ok (.istore_n 2, 1) := dk_61 (dk_at dksX13_thunder_2 0 rfl rfl)
theorem dX13_thunder_48 : decode cX13_thunder 48 = .ok (.iload_n 2, 1) := dk_28 (dk_at dksX13_thunder_2 1 rfl rfl)
theorem dX13_thunder_49 : decode cX13_thunder 49 = .ok (.iload_n 1, 1) := dk_27 (dk_at dksX13_thunder_2 2 rfl rfl)
theorem dX13_thunder_50 : decode cX13_thunder 50 = .ok (.if_icmp .ge 61, 3) := dk_162 0 61 (dk_at dksX13_thunder_2 3 rfl rfl)
theorem dX13_thunder_53 : decode cX13_thunder 53 = .ok (.aload_n 0, 1) := dk_42 (dk_at dksX13_thunder_2 6 rfl rfl)
theorem dX13_thunder_54 : decode cX13_thunder 54 = .ok (.aload_n 0, 1) := dk_42 (dk_at dksX13_thunder_2 7 rfl rfl)
theorem dX13_thunder_55 : decode cX13_thunder 55 = .ok (.getfield 9, 3) := dk_180 0 9 (dk_at dksX13_thunder_2 8 rfl rfl)
theorem dX13_thunder_58 : decode cX13_thunder 58 = .ok (.iconst 2, 1) := dk_5 (dk_at dksX13_thunder_2 11 rfl rfl)
theorem dX13_thunder_59 : decode cX13_thunder 59 = .ok (.iaload, 1) := dk_46 (dk_at dksX13_thunder_2 12 rfl rfl)
theorem dX13_thunder_60 : decode cX13_thunder 60 = .ok (.invokevirtual 255, 3) := dk_182 0 255 (dk_at dksX13_thunder_2 13 rfl rfl)
theorem dX13_thunder_63 : decode cX13_thunder 63 = .ok (.istore_n 3, 1) := dk_62 (dk_at dksX13_thunder_2 16 rfl rfl)
theorem dX13_thunder_64 : decode cX13_thunder 64 = .ok (.aload_n 0, 1) := dk_42 (dk_at dksX13_thunder_2 17 rfl rfl)
theorem dX13_thunder_65 : decode cX13_thunder 65 = .ok (.bipush 64, 2) := dk_16 64 (dk_at dksX13_thunder_2 18 rfl rfl)
theorem dX13_thunder_67 : decode cX13_thunder 67 = .ok (.invokevirtual 255, 3) := dk_182 0 255 (dk_at dksX13_thunder_2 20 rfl rfl)
theorem dX13_thunder_70 : decode cX13_thunder 70 = .ok (.istore 4, 2) := dk_54 4 (dk_at dksX13_thunder_3 0 rfl rfl)
theorem dX13_thunder_72 : decode cX13_thunder 72 = .ok (.aload_n 0, 1) := dk_42 (dk_at dksX13_thunder_3 2 rfl rfl)
theorem dX13_thunder_73 : decode cX13_thunder 73 = .ok (.getfield 9, 3) := dk_180 0 9 (dk_at dksX13_thunder_3 3 rfl rfl)
theorem dX13_thunder_76 : decode cX13_thunder 76 = .ok (.iload_n 3, 1) := dk_29 (dk_at dksX13_thunder_3 6 rfl rfl)
theorem dX13_thunder_77 : decode cX13_thunder 77 = .ok (.iconst 1, 1) := dk_4 (dk_at dksX13_thunder_3 7 rfl rfl)
theorem dX13_thunder_78 : decode cX13_thunder 78 = .ok (.invokestatic 98, 3) := dk_184 0 98 (dk_at dksX13_thunder_3 8 rfl rfl)
theorem dX13_thunder_81 : decode cX13_thunder 81 = .ok (.aload_n 0, 1) := dk_42 (dk_at dksX13_thunder_3 11 rfl rfl)
theorem dX13_thunder_82 : decode cX13_thunder 82 = .ok (.iload_n 3, 1) := dk_29 (dk_at dksX13_thunder_3 12 rfl rfl)
theorem dX13_thunder_83 : decode cX13_thunder 83 = .ok (.invokevirtual 115, 3) := dk_182 0 115 (dk_at dksX13_thunder_3 13 rfl rfl)
theorem dX13_thunder_86 : decode cX13_thunder 86 = .ok (.ifCond .eq 12, 3) := dk_153 0 12 (dk_at dksX13_thunder_3 16 rfl rfl)
theorem dX13_thunder_89 : decode cX13_thunder 89 = .ok (.aload_n 0, 1) := dk_42 (dk_at dksX13_thunder_3 19 rfl rfl)
theorem dX13_thunder_90 : decode cX13_thunder 90 = .ok (.iload_n 3, 1) := dk_29 (dk_at dksX13_thunder_3 20 rfl rfl)
theorem dX13_thunder_91 : decode cX13_thunder 91 = .ok (.iconst 1, 1) := dk_4 (dk_at dksX13_thunder_3 21 rfl rfl)
theorem dX13_thunder_92 : decode cX13_thunder 92 = .ok (.invokevirtual 101, 3) := dk_182 0 101 (dk_at dksX13_thunder_4 0 rfl rfl)
theorem dX13_thunder_95 : decode cX13_thunder 95 = .ok (.goto 5, 3) := dk_167 0 5 (dk_at dksX13_thunder_4 3 rfl rfl)
theorem dX13_thunder_98 : decode cX13_thunder 98 = .ok (.iload 4, 2) := dk_21 4 (dk_at dksX13_thunder_4 6 rfl rfl)
theorem dX13_thunder_100 : decode cX13_thunder 100 = .ok (.iastore, 1) := dk_79 (dk_at dksX13_thunder_4 8 rfl rfl)
theorem dX13_thunder_101 : decode cX13_thunder 101 = .ok (.aload_n 0, 1) := dk_42 (dk_at dksX13_thunder_4 9 rfl rfl)
theorem dX13_thunder_102 : decode cX13_thunder 102 = .ok (.invokevirtual 169, 3) := dk_182 0 169 (dk_at dksX13_thunder_4 10 rfl rfl)
theorem dX13_thunder_105 : decode cX13_thunder 105 = .ok (.iinc 2 1, 3) := dk_132 2 1 (dk_at dksX13_thunder_4 13 rfl rfl)
theorem dX13_thunder_108 : decode cX13_thunder 108 = .ok (.goto (-60), 3) := dk_167 255 196 (dk_at dksX13_thunder_4 16 rfl rfl)
theorem dX13_thunder_111 : decode cX13_thunder 111 = .ok (.aload_n 0, 1) := dk_42 (dk_at dksX13_thunder_4 19 rfl rfl)
theorem dX13_thunder_112 : decode cX13_thunder 112 = .ok (.invokevirtual 178, 3) := dk_182 0 178 (dk_at dksX13_thunder_4 20 rfl rfl)
theorem dX13_thunder_115 : decode cX13_thunder 115 = .ok (.invokestatic 182, 3) := dk_184 0 182 (dk_at dksX13_thunder_5 0 rfl rfl)
theorem dX13_thunder_118 : decode cX13_thunder 118 = .ok (.ireturn, 1) := dk_172 (dk_at dksX13_thunder_5 3 rfl rfl)
abbrev cX13_drawn : ByteArray := prog_16_method_83_code
def yX13_drawn : MethodName := ⟨RX13, "drawn", "(I)I"⟩
def dkwX13_drawn_1 : List UInt8 := [46, 16, 8, 124, 27, 112, 172]
abbrev dktX13_drawn_1 : List UInt8 := dkwX13_drawn_1 ++ []
def dkwX13_drawn_0 : List UInt8 := [42, 180, 0, 9, 6, 42, 180, 0, 9, 6, 46, 18, 254, 104, 17, 48, 57, 96, 79, 42, 180, 0, 9, 6]
abbrev dktX13_drawn_0 : List UInt8 := dkwX13_drawn_0 ++ dktX13_drawn_1
theorem dksX13_drawn_0 : cX13_drawn.data.toList.drop 0 = dktX13_drawn_0 := by decide +kernel
theorem dksX13_drawn_1 : cX13_drawn.data.toList.drop 24 = dktX13_drawn_1 := dk_seg dksX13_drawn_0 24 rfl rfl
theorem dX13_drawn_0 : decode cX13_drawn 0 = .ok (.aload_n 0, 1) := dk_42 (dk_at dksX13_drawn_0 0 rfl rfl)
theorem dX13_drawn_1 : decode cX13_drawn 1 = .ok (.getfield 9, 3) := dk_180 0 9 (dk_at dksX13_drawn_0 1 rfl rfl)
theorem dX13_drawn_4 : decode cX13_drawn 4 = .ok (.iconst 3, 1) := dk_6 (dk_at dksX13_drawn_0 4 rfl rfl)
theorem dX13_drawn_5 : decode cX13_drawn 5 = .ok (.aload_n 0, 1) := dk_42 (dk_at dksX13_drawn_0 5 rfl rfl)
theorem dX13_drawn_6 : decode cX13_drawn 6 = .ok (.getfield 9, 3) := dk_180 0 9 (dk_at dksX13_drawn_0 6 rfl rfl)
theorem dX13_drawn_9 : decode cX13_drawn 9 = .ok (.iconst 3, 1) := dk_6 (dk_at dksX13_drawn_0 9 rfl rfl)
theorem dX13_drawn_10 : decode cX13_drawn 10 = .ok (.iaload, 1) := dk_46 (dk_at dksX13_drawn_0 10 rfl rfl)
theorem dX13_drawn_11 : decode cX13_drawn 11 = .ok (.ldc 254, 2) := dk_18 254 (dk_at dksX13_drawn_0 11 rfl rfl)
theorem dX13_drawn_13 : decode cX13_drawn 13 = .ok (.imul, 1) := dk_104 (dk_at dksX13_drawn_0 13 rfl rfl)
theorem dX13_drawn_14 : decode cX13_drawn 14 = .ok (.sipush 12345, 3) := dk_17 48 57 (dk_at dksX13_drawn_0 14 rfl rfl)
theorem dX13_drawn_17 : decode cX13_drawn 17 = .ok (.iadd, 1) := dk_96 (dk_at dksX13_drawn_0 17 rfl rfl)
theorem dX13_drawn_18 : decode cX13_drawn 18 = .ok (.iastore, 1) := dk_79 (dk_at dksX13_drawn_0 18 rfl rfl)
theorem dX13_drawn_19 : decode cX13_drawn 19 = .ok (.aload_n 0, 1) := dk_42 (dk_at dksX13_drawn_0 19 rfl rfl)
theorem dX13_drawn_20 : decode cX13_drawn 20 = .ok (.getfield 9, 3) := dk_180 0 9 (dk_at dksX13_drawn_0 20 rfl rfl)
theorem dX13_drawn_23 : decode cX13_drawn 23 = .ok (.iconst 3, 1) := dk_6 (dk_at dksX13_drawn_0 23 rfl rfl)
theorem dX13_drawn_24 : decode cX13_drawn 24 = .ok (.iaload, 1) := dk_46 (dk_at dksX13_drawn_1 0 rfl rfl)
theorem dX13_drawn_25 : decode cX13_drawn 25 = .ok (.bipush 8, 2) := dk_16 8 (dk_at dksX13_drawn_1 1 rfl rfl)
theorem dX13_drawn_27 : decode cX13_drawn 27 = .ok (.iushr, 1) := dk_124 (dk_at dksX13_drawn_1 3 rfl rfl)
theorem dX13_drawn_28 : decode cX13_drawn 28 = .ok (.iload_n 1, 1) := dk_27 (dk_at dksX13_drawn_1 4 rfl rfl)
theorem dX13_drawn_29 : decode cX13_drawn 29 = .ok (.irem, 1) := dk_112 (dk_at dksX13_drawn_1 5 rfl rfl)
theorem dX13_drawn_30 : decode cX13_drawn 30 = .ok (.ireturn, 1) := dk_172 (dk_at dksX13_drawn_1 6 rfl rfl)
abbrev cX13_seed : ByteArray := prog_16_method_85_code
def yX13_seed : MethodName := ⟨RX13, "seed", "(I)I"⟩
def dkwX13_seed_0 : List UInt8 := [42, 6, 27, 182, 0, 91, 172]
abbrev dktX13_seed_0 : List UInt8 := dkwX13_seed_0 ++ []
theorem dksX13_seed_0 : cX13_seed.data.toList.drop 0 = dktX13_seed_0 := by decide +kernel
theorem dX13_seed_0 : decode cX13_seed 0 = .ok (.aload_n 0, 1) := dk_42 (dk_at dksX13_seed_0 0 rfl rfl)
theorem dX13_seed_1 : decode cX13_seed 1 = .ok (.iconst 3, 1) := dk_6 (dk_at dksX13_seed_0 1 rfl rfl)
theorem dX13_seed_2 : decode cX13_seed 2 = .ok (.iload_n 1, 1) := dk_27 (dk_at dksX13_seed_0 2 rfl rfl)
theorem dX13_seed_3 : decode cX13_seed 3 = .ok (.invokevirtual 91, 3) := dk_182 0 91 (dk_at dksX13_seed_0 3 rfl rfl)
theorem dX13_seed_6 : decode cX13_seed 6 = .ok (.ireturn, 1) := dk_172 (dk_at dksX13_seed_0 6 rfl rfl)
abbrev cX13_feed : ByteArray := prog_16_method_86_code
def yX13_feed : MethodName := ⟨RX13, "feed", "(II)I"⟩
def dkwX13_feed_3 : List UInt8 := [132, 3, 255, 167, 255, 220, 42, 180, 1, 2, 172]
abbrev dktX13_feed_3 : List UInt8 := dkwX13_feed_3 ++ []
def dkwX13_feed_2 : List UInt8 := [180, 1, 2, 27, 16, 8, 29, 104, 122, 17, 0, 255, 126, 79, 42, 89, 180, 1, 2, 4, 96, 181, 1, 2]
abbrev dktX13_feed_2 : List UInt8 := dkwX13_feed_2 ++ dktX13_feed_3
def dkwX13_feed_1 : List UInt8 := [164, 0, 10, 42, 18, 107, 182, 0, 88, 172, 28, 4, 100, 62, 29, 155, 0, 38, 42, 180, 0, 31, 42]
abbrev dktX13_feed_1 : List UInt8 := dkwX13_feed_1 ++ dktX13_feed_2
def dkwX13_feed_0 : List UInt8 := [28, 4, 7, 184, 0, 74, 154, 0, 10, 42, 18, 69, 182, 0, 88, 172, 42, 180, 1, 2, 28, 96, 16, 120]
abbrev dktX13_feed_0 : List UInt8 := dkwX13_feed_0 ++ dktX13_feed_1
theorem dksX13_feed_0 : cX13_feed.data.toList.drop 0 = dktX13_feed_0 := by decide +kernel
theorem dksX13_feed_1 : cX13_feed.data.toList.drop 24 = dktX13_feed_1 := dk_seg dksX13_feed_0 24 rfl rfl
theorem dksX13_feed_2 : cX13_feed.data.toList.drop 47 = dktX13_feed_2 := dk_seg dksX13_feed_1 23 rfl rfl
theorem dksX13_feed_3 : cX13_feed.data.toList.drop 71 = dktX13_feed_3 := dk_seg dksX13_feed_2 24 rfl rfl
theorem dX13_feed_0 : decode cX13_feed 0 = .ok (.iload_n 2, 1) := dk_28 (dk_at dksX13_feed_0 0 rfl rfl)
theorem dX13_feed_1 : decode cX13_feed 1 = .ok (.iconst 1, 1) := dk_4 (dk_at dksX13_feed_0 1 rfl rfl)
theorem dX13_feed_2 : decode cX13_feed 2 = .ok (.iconst 4, 1) := dk_7 (dk_at dksX13_feed_0 2 rfl rfl)
theorem dX13_feed_3 : decode cX13_feed 3 = .ok (.invokestatic 74, 3) := dk_184 0 74 (dk_at dksX13_feed_0 3 rfl rfl)
theorem dX13_feed_6 : decode cX13_feed 6 = .ok (.ifCond .ne 10, 3) := dk_154 0 10 (dk_at dksX13_feed_0 6 rfl rfl)
theorem dX13_feed_9 : decode cX13_feed 9 = .ok (.aload_n 0, 1) := dk_42 (dk_at dksX13_feed_0 9 rfl rfl)
theorem dX13_feed_10 : decode cX13_feed 10 = .ok (.ldc 69, 2) := dk_18 69 (dk_at dksX13_feed_0 10 rfl rfl)
theorem dX13_feed_12 : decode cX13_feed 12 = .ok (.invokevirtual 88, 3) := dk_182 0 88 (dk_at dksX13_feed_0 12 rfl rfl)
theorem dX13_feed_15 : decode cX13_feed 15 = .ok (.ireturn, 1) := dk_172 (dk_at dksX13_feed_0 15 rfl rfl)
theorem dX13_feed_16 : decode cX13_feed 16 = .ok (.aload_n 0, 1) := dk_42 (dk_at dksX13_feed_0 16 rfl rfl)
theorem dX13_feed_17 : decode cX13_feed 17 = .ok (.getfield 258, 3) := dk_180 1 2 (dk_at dksX13_feed_0 17 rfl rfl)
theorem dX13_feed_20 : decode cX13_feed 20 = .ok (.iload_n 2, 1) := dk_28 (dk_at dksX13_feed_0 20 rfl rfl)
theorem dX13_feed_21 : decode cX13_feed 21 = .ok (.iadd, 1) := dk_96 (dk_at dksX13_feed_0 21 rfl rfl)
theorem dX13_feed_22 : decode cX13_feed 22 = .ok (.bipush 120, 2) := dk_16 120 (dk_at dksX13_feed_0 22 rfl rfl)
theorem dX13_feed_24 : decode cX13_feed 24 = .ok (.if_icmp .le 10, 3) := dk_164 0 10 (dk_at dksX13_feed_1 0 rfl rfl)
theorem dX13_feed_27 : decode cX13_feed 27 = .ok (.aload_n 0, 1) := dk_42 (dk_at dksX13_feed_1 3 rfl rfl)
theorem dX13_feed_28 : decode cX13_feed 28 = .ok (.ldc 107, 2) := dk_18 107 (dk_at dksX13_feed_1 4 rfl rfl)
theorem dX13_feed_30 : decode cX13_feed 30 = .ok (.invokevirtual 88, 3) := dk_182 0 88 (dk_at dksX13_feed_1 6 rfl rfl)
theorem dX13_feed_33 : decode cX13_feed 33 = .ok (.ireturn, 1) := dk_172 (dk_at dksX13_feed_1 9 rfl rfl)
theorem dX13_feed_34 : decode cX13_feed 34 = .ok (.iload_n 2, 1) := dk_28 (dk_at dksX13_feed_1 10 rfl rfl)
theorem dX13_feed_35 : decode cX13_feed 35 = .ok (.iconst 1, 1) := dk_4 (dk_at dksX13_feed_1 11 rfl rfl)
theorem dX13_feed_36 : decode cX13_feed 36 = .ok (.isub, 1) := dk_100 (dk_at dksX13_feed_1 12 rfl rfl)
theorem dX13_feed_37 : decode cX13_feed 37 = .ok (.istore_n 3, 1) := dk_62 (dk_at dksX13_feed_1 13 rfl rfl)
theorem dX13_feed_38 : decode cX13_feed 38 = .ok (.iload_n 3, 1) := dk_29 (dk_at dksX13_feed_1 14 rfl rfl)
theorem dX13_feed_39 : decode cX13_feed 39 = .ok (.ifCond .lt 38, 3) := dk_155 0 38 (dk_at dksX13_feed_1 15 rfl rfl)
theorem dX13_feed_42 : decode cX13_feed 42 = .ok (.aload_n 0, 1) := dk_42 (dk_at dksX13_feed_1 18 rfl rfl)
theorem dX13_feed_43 : decode cX13_feed 43 = .ok (.getfield 31, 3) := dk_180 0 31 (dk_at dksX13_feed_1 19 rfl rfl)
theorem dX13_feed_46 : decode cX13_feed 46 = .ok (.aload_n 0, 1) := dk_42 (dk_at dksX13_feed_1 22 rfl rfl)
theorem dX13_feed_47 : decode cX13_feed 47 = .ok (.getfield 258, 3) := dk_180 1 2 (dk_at dksX13_feed_2 0 rfl rfl)
theorem dX13_feed_50 : decode cX13_feed 50 = .ok (.iload_n 1, 1) := dk_27 (dk_at dksX13_feed_2 3 rfl rfl)
theorem dX13_feed_51 : decode cX13_feed 51 = .ok (.bipush 8, 2) := dk_16 8 (dk_at dksX13_feed_2 4 rfl rfl)
theorem dX13_feed_53 : decode cX13_feed 53 = .ok (.iload_n 3, 1) := dk_29 (dk_at dksX13_feed_2 6 rfl rfl)
theorem dX13_feed_54 : decode cX13_feed 54 = .ok (.imul, 1) := dk_104 (dk_at dksX13_feed_2 7 rfl rfl)
theorem dX13_feed_55 : decode cX13_feed 55 = .ok (.ishr, 1) := dk_122 (dk_at dksX13_feed_2 8 rfl rfl)
theorem dX13_feed_56 : decode cX13_feed 56 = .ok (.sipush 255, 3) := dk_17 0 255 (dk_at dksX13_feed_2 9 rfl rfl)
theorem dX13_feed_59 : decode cX13_feed 59 = .ok (.iand, 1) := dk_126 (dk_at dksX13_feed_2 12 rfl rfl)
theorem dX13_feed_60 : decode cX13_feed 60 = .ok (.iastore, 1) := dk_79 (dk_at dksX13_feed_2 13 rfl rfl)
theorem dX13_feed_61 : decode cX13_feed 61 = .ok (.aload_n 0, 1) := dk_42 (dk_at dksX13_feed_2 14 rfl rfl)
theorem dX13_feed_62 : decode cX13_feed 62 = .ok (.dup, 1) := dk_89 (dk_at dksX13_feed_2 15 rfl rfl)
theorem dX13_feed_63 : decode cX13_feed 63 = .ok (.getfield 258, 3) := dk_180 1 2 (dk_at dksX13_feed_2 16 rfl rfl)
theorem dX13_feed_66 : decode cX13_feed 66 = .ok (.iconst 1, 1) := dk_4 (dk_at dksX13_feed_2 19 rfl rfl)
theorem dX13_feed_67 : decode cX13_feed 67 = .ok (.iadd, 1) := dk_96 (dk_at dksX13_feed_2 20 rfl rfl)
theorem dX13_feed_68 : decode cX13_feed 68 = .ok (.putfield 258, 3) := dk_181 1 2 (dk_at dksX13_feed_2 21 rfl rfl)
theorem dX13_feed_71 : decode cX13_feed 71 = .ok (.iinc 3 (-1), 3) := dk_132 3 255 (dk_at dksX13_feed_3 0 rfl rfl)
theorem dX13_feed_74 : decode cX13_feed 74 = .ok (.goto (-36), 3) := dk_167 255 220 (dk_at dksX13_feed_3 3 rfl rfl)
theorem dX13_feed_77 : decode cX13_feed 77 = .ok (.aload_n 0, 1) := dk_42 (dk_at dksX13_feed_3 6 rfl rfl)
theorem dX13_feed_78 : decode cX13_feed 78 = .ok (.getfield 258, 3) := dk_180 1 2 (dk_at dksX13_feed_3 7 rfl rfl)
theorem dX13_feed_81 : decode cX13_feed 81 = .ok (.ireturn, 1) := dk_172 (dk_at dksX13_feed_3 10 rfl rfl)
abbrev cX13_wipe : ByteArray := prog_16_method_87_code
def yX13_wipe : MethodName := ⟨RX13, "wipe", "()I"⟩
def dkwX13_wipe_0 : List UInt8 := [42, 180, 1, 2, 60, 42, 3, 181, 1, 2, 27, 172]
abbrev dktX13_wipe_0 : List UInt8 := dkwX13_wipe_0 ++ []
theorem dksX13_wipe_0 : cX13_wipe.data.toList.drop 0 = dktX13_wipe_0 := by decide +kernel
theorem dX13_wipe_0 : decode cX13_wipe 0 = .ok (.aload_n 0, 1) := dk_42 (dk_at dksX13_wipe_0 0 rfl rfl)
theorem dX13_wipe_1 : decode cX13_wipe 1 = .ok (.getfield 258, 3) := dk_180 1 2 (dk_at dksX13_wipe_0 1 rfl rfl)
theorem dX13_wipe_4 : decode cX13_wipe 4 = .ok (.istore_n 1, 1) := dk_60 (dk_at dksX13_wipe_0 4 rfl rfl)
theorem dX13_wipe_5 : decode cX13_wipe 5 = .ok (.aload_n 0, 1) := dk_42 (dk_at dksX13_wipe_0 5 rfl rfl)
theorem dX13_wipe_6 : decode cX13_wipe 6 = .ok (.iconst 0, 1) := dk_3 (dk_at dksX13_wipe_0 6 rfl rfl)
theorem dX13_wipe_7 : decode cX13_wipe 7 = .ok (.putfield 258, 3) := dk_181 1 2 (dk_at dksX13_wipe_0 7 rfl rfl)
theorem dX13_wipe_10 : decode cX13_wipe 10 = .ok (.iload_n 1, 1) := dk_27 (dk_at dksX13_wipe_0 10 rfl rfl)
theorem dX13_wipe_11 : decode cX13_wipe 11 = .ok (.ireturn, 1) := dk_172 (dk_at dksX13_wipe_0 11 rfl rfl)
abbrev cX13_text : ByteArray := prog_16_method_98_code
def yX13_text : MethodName := ⟨RX13, "text", "()I"⟩
def dkwX13_text_6 : List UInt8 := [60, 132, 2, 1, 167, 255, 226, 27, 172]
abbrev dktX13_text_6 : List UInt8 := dkwX13_text_6 ++ []
def dkwX13_text_5 : List UInt8 := [180, 1, 38, 162, 0, 28, 27, 42, 7, 28, 104, 182, 1, 77, 2, 162, 0, 7, 3, 167, 0, 4, 4, 96]
abbrev dktX13_text_5 : List UInt8 := dkwX13_text_5 ++ dktX13_text_6
def dkwX13_text_4 : List UInt8 := [181, 1, 2, 42, 180, 1, 28, 153, 0, 10, 2, 42, 180, 1, 9, 100, 172, 3, 60, 3, 61, 28, 42]
abbrev dktX13_text_4 : List UInt8 := dkwX13_text_4 ++ dktX13_text_5
def dkwX13_text_3 : List UInt8 := [182, 1, 74, 167, 255, 218, 42, 42, 180, 1, 18, 154, 0, 7, 4, 167, 0, 4, 3, 182, 1, 34, 42, 3]
abbrev dktX13_text_3 : List UInt8 := dkwX13_text_3 ++ dktX13_text_4
def dkwX13_text_2 : List UInt8 := [160, 0, 29, 42, 180, 0, 31, 42, 180, 1, 9, 46, 16, 59, 160, 0, 15, 42, 4, 182, 1, 34, 42]
abbrev dktX13_text_2 : List UInt8 := dkwX13_text_2 ++ dktX13_text_3
def dkwX13_text_1 : List UInt8 := [181, 1, 48, 42, 182, 1, 31, 42, 182, 1, 74, 42, 180, 1, 28, 154, 0, 37, 42, 180, 1, 18, 6]
abbrev dktX13_text_1 : List UInt8 := dkwX13_text_1 ++ dktX13_text_2
def dkwX13_text_0 : List UInt8 := [42, 3, 181, 1, 6, 42, 3, 181, 1, 28, 42, 3, 181, 1, 38, 42, 42, 180, 0, 9, 5, 46]
abbrev dktX13_text_0 : List UInt8 := dkwX13_text_0 ++ dktX13_text_1
theorem dksX13_text_0 : cX13_text.data.toList.drop 0 = dktX13_text_0 := by decide +kernel
theorem dksX13_text_1 : cX13_text.data.toList.drop 22 = dktX13_text_1 := dk_seg dksX13_text_0 22 rfl rfl
theorem dksX13_text_2 : cX13_text.data.toList.drop 45 = dktX13_text_2 := dk_seg dksX13_text_1 23 rfl rfl
theorem dksX13_text_3 : cX13_text.data.toList.drop 68 = dktX13_text_3 := dk_seg dksX13_text_2 23 rfl rfl
theorem dksX13_text_4 : cX13_text.data.toList.drop 92 = dktX13_text_4 := dk_seg dksX13_text_3 24 rfl rfl
theorem dksX13_text_5 : cX13_text.data.toList.drop 115 = dktX13_text_5 := dk_seg dksX13_text_4 23 rfl rfl
theorem dksX13_text_6 : cX13_text.data.toList.drop 139 = dktX13_text_6 := dk_seg dksX13_text_5 24 rfl rfl
theorem dX13_text_0 : decode cX13_text 0 = .ok (.aload_n 0, 1) := dk_42 (dk_at dksX13_text_0 0 rfl rfl)
theorem dX13_text_1 : decode cX13_text 1 = .ok (.iconst 0, 1) := dk_3 (dk_at dksX13_text_0 1 rfl rfl)
theorem dX13_text_2 : decode cX13_text 2 = .ok (.putfield 262, 3) := dk_181 1 6 (dk_at dksX13_text_0 2 rfl rfl)
theorem dX13_text_5 : decode cX13_text 5 = .ok (.aload_n 0, 1) := dk_42 (dk_at dksX13_text_0 5 rfl rfl)
theorem dX13_text_6 : decode cX13_text 6 = .ok (.iconst 0, 1) := dk_3 (dk_at dksX13_text_0 6 rfl rfl)
theorem dX13_text_7 : decode cX13_text 7 = .ok (.putfield 284, 3) := dk_181 1 28 (dk_at dksX13_text_0 7 rfl rfl)
theorem dX13_text_10 : decode cX13_text 10 = .ok (.aload_n 0, 1) := dk_42 (dk_at dksX13_text_0 10 rfl rfl)
theorem dX13_text_11 : decode cX13_text 11 = .ok (.iconst 0, 1) := dk_3 (dk_at dksX13_text_0 11 rfl rfl)
theorem dX13_text_12 : decode cX13_text 12 = .ok (.putfield 294, 3) := dk_181 1 38 (dk_at dksX13_text_0 12 rfl rfl)
theorem dX13_text_15 : decode cX13_text 15 = .ok (.aload_n 0, 1) := dk_42 (dk_at dksX13_text_0 15 rfl rfl)
theorem dX13_text_16 : decode cX13_text 16 = .ok (.aload_n 0, 1) := dk_42 (dk_at dksX13_text_0 16 rfl rfl)
theorem dX13_text_17 : decode cX13_text 17 = .ok (.getfield 9, 3) := dk_180 0 9 (dk_at dksX13_text_0 17 rfl rfl)
theorem dX13_text_20 : decode cX13_text 20 = .ok (.iconst 2, 1) := dk_5 (dk_at dksX13_text_0 20 rfl rfl)
theorem dX13_text_21 : decode cX13_text 21 = .ok (.iaload, 1) := dk_46 (dk_at dksX13_text_0 21 rfl rfl)
theorem dX13_text_22 : decode cX13_text 22 = .ok (.putfield 304, 3) := dk_181 1 48 (dk_at dksX13_text_1 0 rfl rfl)
theorem dX13_text_25 : decode cX13_text 25 = .ok (.aload_n 0, 1) := dk_42 (dk_at dksX13_text_1 3 rfl rfl)
theorem dX13_text_26 : decode cX13_text 26 = .ok (.invokevirtual 287, 3) := dk_182 1 31 (dk_at dksX13_text_1 4 rfl rfl)
theorem dX13_text_29 : decode cX13_text 29 = .ok (.aload_n 0, 1) := dk_42 (dk_at dksX13_text_1 7 rfl rfl)
theorem dX13_text_30 : decode cX13_text 30 = .ok (.invokevirtual 330, 3) := dk_182 1 74 (dk_at dksX13_text_1 8 rfl rfl)
theorem dX13_text_33 : decode cX13_text 33 = .ok (.aload_n 0, 1) := dk_42 (dk_at dksX13_text_1 11 rfl rfl)
theorem dX13_text_34 : decode cX13_text 34 = .ok (.getfield 284, 3) := dk_180 1 28 (dk_at dksX13_text_1 12 rfl rfl)
theorem dX13_text_37 : decode cX13_text 37 = .ok (.ifCond .ne 37, 3) := dk_154 0 37 (dk_at dksX13_text_1 15 rfl rfl)
theorem dX13_text_40 : decode cX13_text 40 = .ok (.aload_n 0, 1) := dk_42 (dk_at dksX13_text_1 18 rfl rfl)
theorem dX13_text_41 : decode cX13_text 41 = .ok (.getfield 274, 3) := dk_180 1 18 (dk_at dksX13_text_1 19 rfl rfl)
theorem dX13_text_44 : decode cX13_text 44 = .ok (.iconst 3, 1) := dk_6 (dk_at dksX13_text_1 22 rfl rfl)
theorem dX13_text_45 : decode cX13_text 45 = .ok (.if_icmp .ne 29, 3) := dk_160 0 29 (dk_at dksX13_text_2 0 rfl rfl)
theorem dX13_text_48 : decode cX13_text 48 = .ok (.aload_n 0, 1) := dk_42 (dk_at dksX13_text_2 3 rfl rfl)
theorem dX13_text_49 : decode cX13_text 49 = .ok (.getfield 31, 3) := dk_180 0 31 (dk_at dksX13_text_2 4 rfl rfl)
theorem dX13_text_52 : decode cX13_text 52 = .ok (.aload_n 0, 1) := dk_42 (dk_at dksX13_text_2 7 rfl rfl)
theorem dX13_text_53 : decode cX13_text 53 = .ok (.getfield 265, 3) := dk_180 1 9 (dk_at dksX13_text_2 8 rfl rfl)
theorem dX13_text_56 : decode cX13_text 56 = .ok (.iaload, 1) := dk_46 (dk_at dksX13_text_2 11 rfl rfl)
theorem dX13_text_57 : decode cX13_text 57 = .ok (.bipush 59, 2) := dk_16 59 (dk_at dksX13_text_2 12 rfl rfl)
theorem dX13_text_59 : decode cX13_text 59 = .ok (.if_icmp .ne 15, 3) := dk_160 0 15 (dk_at dksX13_text_2 14 rfl rfl)
theorem dX13_text_62 : decode cX13_text 62 = .ok (.aload_n 0, 1) := dk_42 (dk_at dksX13_text_2 17 rfl rfl)
theorem dX13_text_63 : decode cX13_text 63 = .ok (.iconst 1, 1) := dk_4 (dk_at dksX13_text_2 18 rfl rfl)
theorem dX13_text_64 : decode cX13_text 64 = .ok (.invokevirtual 290, 3) := dk_182 1 34 (dk_at dksX13_text_2 19 rfl rfl)
theorem dX13_text_67 : decode cX13_text 67 = .ok (.aload_n 0, 1) := dk_42 (dk_at dksX13_text_2 22 rfl rfl)
theorem dX13_text_68 : decode cX13_text 68 = .ok (.invokevirtual 330, 3) := dk_182 1 74 (dk_at dksX13_text_3 0 rfl rfl)
theorem dX13_text_71 : decode cX13_text 71 = .ok (.goto (-38), 3) := dk_167 255 218 (dk_at dksX13_text_3 3 rfl rfl)
theorem dX13_text_74 : decode cX13_text 74 = .ok (.aload_n 0, 1) := dk_42 (dk_at dksX13_text_3 6 rfl rfl)
theorem dX13_text_75 : decode cX13_text 75 = .ok (.aload_n 0, 1) := dk_42 (dk_at dksX13_text_3 7 rfl rfl)
theorem dX13_text_76 : decode cX13_text 76 = .ok (.getfield 274, 3) := dk_180 1 18 (dk_at dksX13_text_3 8 rfl rfl)
theorem dX13_text_79 : decode cX13_text 79 = .ok (.ifCond .ne 7, 3) := dk_154 0 7 (dk_at dksX13_text_3 11 rfl rfl)
theorem dX13_text_82 : decode cX13_text 82 = .ok (.iconst 1, 1) := dk_4 (dk_at dksX13_text_3 14 rfl rfl)
theorem dX13_text_83 : decode cX13_text 83 = .ok (.goto 4, 3) := dk_167 0 4 (dk_at dksX13_text_3 15 rfl rfl)
theorem dX13_text_86 : decode cX13_text 86 = .ok (.iconst 0, 1) := dk_3 (dk_at dksX13_text_3 18 rfl rfl)
theorem dX13_text_87 : decode cX13_text 87 = .ok (.invokevirtual 290, 3) := dk_182 1 34 (dk_at dksX13_text_3 19 rfl rfl)
theorem dX13_text_90 : decode cX13_text 90 = .ok (.aload_n 0, 1) := dk_42 (dk_at dksX13_text_3 22 rfl rfl)
theorem dX13_text_91 : decode cX13_text 91 = .ok (.iconst 0, 1) := dk_3 (dk_at dksX13_text_3 23 rfl rfl)
theorem dX13_text_92 : decode cX13_text 92 = .ok (.putfield 258, 3) := dk_181 1 2 (dk_at dksX13_text_4 0 rfl rfl)
theorem dX13_text_95 : decode cX13_text 95 = .ok (.aload_n 0, 1) := dk_42 (dk_at dksX13_text_4 3 rfl rfl)
theorem dX13_text_96 : decode cX13_text 96 = .ok (.getfield 284, 3) := dk_180 1 28 (dk_at dksX13_text_4 4 rfl rfl)
theorem dX13_text_99 : decode cX13_text 99 = .ok (.ifCond .eq 10, 3) := dk_153 0 10 (dk_at dksX13_text_4 7 rfl rfl)
theorem dX13_text_102 : decode cX13_text 102 = .ok (.iconst (-1), 1) := dk_2 (dk_at dksX13_text_4 10 rfl rfl)
theorem dX13_text_103 : decode cX13_text 103 = .ok (.aload_n 0, 1) := dk_42 (dk_at dksX13_text_4 11 rfl rfl)
theorem dX13_text_104 : decode cX13_text 104 = .ok (.getfield 265, 3) := dk_180 1 9 (dk_at dksX13_text_4 12 rfl rfl)
theorem dX13_text_107 : decode cX13_text 107 = .ok (.isub, 1) := dk_100 (dk_at dksX13_text_4 15 rfl rfl)
theorem dX13_text_108 : decode cX13_text 108 = .ok (.ireturn, 1) := dk_172 (dk_at dksX13_text_4 16 rfl rfl)
theorem dX13_text_109 : decode cX13_text 109 = .ok (.iconst 0, 1) := dk_3 (dk_at dksX13_text_4 17 rfl rfl)
theorem dX13_text_110 : decode cX13_text 110 = .ok (.istore_n 1, 1) := dk_60 (dk_at dksX13_text_4 18 rfl rfl)
theorem dX13_text_111 : decode cX13_text 111 = .ok (.iconst 0, 1) := dk_3 (dk_at dksX13_text_4 19 rfl rfl)
theorem dX13_text_112 : decode cX13_text 112 = .ok (.istore_n 2, 1) := dk_61 (dk_at dksX13_text_4 20 rfl rfl)
theorem dX13_text_113 : decode cX13_text 113 = .ok (.iload_n 2, 1) := dk_28 (dk_at dksX13_text_4 21 rfl rfl)
theorem dX13_text_114 : decode cX13_text 114 = .ok (.aload_n 0, 1) := dk_42 (dk_at dksX13_text_4 22 rfl rfl)
theorem dX13_text_115 : decode cX13_text 115 = .ok (.getfield 294, 3) := dk_180 1 38 (dk_at dksX13_text_5 0 rfl rfl)
theorem dX13_text_118 : decode cX13_text 118 = .ok (.if_icmp .ge 28, 3) := dk_162 0 28 (dk_at dksX13_text_5 3 rfl rfl)
theorem dX13_text_121 : decode cX13_text 121 = .ok (.iload_n 1, 1) := dk_27 (dk_at dksX13_text_5 6 rfl rfl)
theorem dX13_text_122 : decode cX13_text 122 = .ok (.aload_n 0, 1) := dk_42 (dk_at dksX13_text_5 7 rfl rfl)
theorem dX13_text_123 : decode cX13_text 123 = .ok (.iconst 4, 1) := dk_7 (dk_at dksX13_text_5 8 rfl rfl)
theorem dX13_text_124 : decode cX13_text 124 = .ok (.iload_n 2, 1) := dk_28 (dk_at dksX13_text_5 9 rfl rfl)
theorem dX13_text_125 : decode cX13_text 125 = .ok (.imul, 1) := dk_104 (dk_at dksX13_text_5 10 rfl rfl)
theorem dX13_text_126 : decode cX13_text 126 = .ok (.invokevirtual 333, 3) := dk_182 1 77 (dk_at dksX13_text_5 11 rfl rfl)
theorem dX13_text_129 : decode cX13_text 129 = .ok (.iconst (-1), 1) := dk_2 (dk_at dksX13_text_5 14 rfl rfl)
theorem dX13_text_130 : decode cX13_text 130 = .ok (.if_icmp .ge 7, 3) := dk_162 0 7 (dk_at dksX13_text_5 15 rfl rfl)
theorem dX13_text_133 : decode cX13_text 133 = .ok (.iconst 0, 1) := dk_3 (dk_at dksX13_text_5 18 rfl rfl)
theorem dX13_text_134 : decode cX13_text 134 = .ok (.goto 4, 3) := dk_167 0 4 (dk_at dksX13_text_5 19 rfl rfl)
theorem dX13_text_137 : decode cX13_text 137 = .ok (.iconst 1, 1) := dk_4 (dk_at dksX13_text_5 22 rfl rfl)
theorem dX13_text_138 : decode cX13_text 138 = .ok (.iadd, 1) := dk_96 (dk_at dksX13_text_5 23 rfl rfl)
theorem dX13_text_139 : decode cX13_text 139 = .ok (.istore_n 1, 1) := dk_60 (dk_at dksX13_text_6 0 rfl rfl)
theorem dX13_text_140 : decode cX13_text 140 = .ok (.iinc 2 1, 3) := dk_132 2 1 (dk_at dksX13_text_6 1 rfl rfl)
theorem dX13_text_143 : decode cX13_text 143 = .ok (.goto (-30), 3) := dk_167 255 226 (dk_at dksX13_text_6 4 rfl rfl)
theorem dX13_text_146 : decode cX13_text 146 = .ok (.iload_n 1, 1) := dk_27 (dk_at dksX13_text_6 7 rfl rfl)
theorem dX13_text_147 : decode cX13_text 147 = .ok (.ireturn, 1) := dk_172 (dk_at dksX13_text_6 8 rfl rfl)
abbrev cX13_next : ByteArray := prog_16_method_89_code
def yX13_next : MethodName := ⟨RX13, "next", "()V"⟩
def dkwX13_next_8 : List UInt8 := [181, 1, 6, 167, 255, 199, 42, 6, 181, 1, 18, 42, 89, 180, 1, 6, 4, 96, 181, 1, 6, 177]
abbrev dktX13_next_8 : List UInt8 := dkwX13_next_8 ++ []
def dkwX13_next_7 : List UInt8 := [180, 1, 6, 182, 1, 12, 96, 16, 48, 100, 184, 0, 125, 181, 1, 15, 42, 89, 180, 1, 6, 4, 96]
abbrev dktX13_next_7 : List UInt8 := dkwX13_next_7 ++ dktX13_next_8
def dkwX13_next_6 : List UInt8 := [16, 48, 16, 57, 184, 0, 74, 153, 0, 60, 42, 17, 3, 232, 16, 10, 42, 180, 1, 15, 104, 42, 42]
abbrev dktX13_next_6 : List UInt8 := dkwX13_next_6 ++ dktX13_next_7
def dkwX13_next_5 : List UInt8 := [16, 48, 16, 57, 184, 0, 74, 153, 0, 68, 42, 5, 181, 1, 18, 42, 42, 180, 1, 6, 182, 1, 12]
abbrev dktX13_next_5 : List UInt8 := dkwX13_next_5 ++ dktX13_next_6
def dkwX13_next_4 : List UInt8 := [16, 97, 16, 122, 184, 0, 74, 153, 0, 107, 42, 89, 180, 1, 6, 4, 96, 181, 1, 6, 167, 255, 228, 27]
abbrev dktX13_next_4 : List UInt8 := dkwX13_next_4 ++ dktX13_next_5
def dkwX13_next_3 : List UInt8 := [16, 97, 16, 122, 184, 0, 74, 153, 0, 39, 42, 4, 181, 1, 18, 42, 42, 180, 1, 6, 182, 1, 12]
abbrev dktX13_next_3 : List UInt8 := dkwX13_next_3 ++ dktX13_next_4
def dkwX13_next_2 : List UInt8 := [180, 1, 9, 181, 1, 6, 42, 3, 181, 1, 15, 27, 156, 0, 11, 42, 3, 181, 1, 18, 167, 0, 141, 27]
abbrev dktX13_next_2 : List UInt8 := dkwX13_next_2 ++ dktX13_next_3
def dkwX13_next_1 : List UInt8 := [180, 1, 9, 4, 96, 181, 1, 9, 167, 255, 233, 42, 42, 180, 1, 9, 182, 1, 12, 60, 42, 42]
abbrev dktX13_next_1 : List UInt8 := dkwX13_next_1 ++ dktX13_next_2
def dkwX13_next_0 : List UInt8 := [42, 42, 180, 1, 6, 181, 1, 9, 42, 42, 180, 1, 9, 182, 1, 12, 16, 32, 160, 0, 16, 42, 89]
abbrev dktX13_next_0 : List UInt8 := dkwX13_next_0 ++ dktX13_next_1
theorem dksX13_next_0 : cX13_next.data.toList.drop 0 = dktX13_next_0 := by decide +kernel
theorem dksX13_next_1 : cX13_next.data.toList.drop 23 = dktX13_next_1 := dk_seg dksX13_next_0 23 rfl rfl
theorem dksX13_next_2 : cX13_next.data.toList.drop 45 = dktX13_next_2 := dk_seg dksX13_next_1 22 rfl rfl
theorem dksX13_next_3 : cX13_next.data.toList.drop 69 = dktX13_next_3 := dk_seg dksX13_next_2 24 rfl rfl
theorem dksX13_next_4 : cX13_next.data.toList.drop 92 = dktX13_next_4 := dk_seg dksX13_next_3 23 rfl rfl
theorem dksX13_next_5 : cX13_next.data.toList.drop 116 = dktX13_next_5 := dk_seg dksX13_next_4 24 rfl rfl
theorem dksX13_next_6 : cX13_next.data.toList.drop 139 = dktX13_next_6 := dk_seg dksX13_next_5 23 rfl rfl
theorem dksX13_next_7 : cX13_next.data.toList.drop 162 = dktX13_next_7 := dk_seg dksX13_next_6 23 rfl rfl
theorem dksX13_next_8 : cX13_next.data.toList.drop 185 = dktX13_next_8 := dk_seg dksX13_next_7 23 rfl rfl
theorem dX13_next_0 : decode cX13_next 0 = .ok (.aload_n 0, 1) := dk_42 (dk_at dksX13_next_0 0 rfl rfl)
theorem dX13_next_1 : decode cX13_next 1 = .ok (.aload_n 0, 1) := dk_42 (dk_at dksX13_next_0 1 rfl rfl)
theorem dX13_next_2 : decode cX13_next 2 = .ok (.getfield 262, 3) := dk_180 1 6 (dk_at dksX13_next_0 2 rfl rfl)
theorem dX13_next_5 : decode cX13_next 5 = .ok (.putfield 265, 3) := dk_181 1 9 (dk_at dksX13_next_0 5 rfl rfl)
theorem dX13_next_8 : decode cX13_next 8 = .ok (.aload_n 0, 1) := dk_42 (dk_at dksX13_next_0 8 rfl rfl)
theorem dX13_next_9 : decode cX13_next 9 = .ok (.aload_n 0, 1) := dk_42 (dk_at dksX13_next_0 9 rfl rfl)
theorem dX13_next_10 : decode cX13_next 10 = .ok (.getfield 265, 3) := dk_180 1 9 (dk_at dksX13_next_0 10 rfl rfl)
theorem dX13_next_13 : decode cX13_next 13 = .ok (.invokevirtual 268, 3) := dk_182 1 12 (dk_at dksX13_next_0 13 rfl rfl)
theorem dX13_next_16 : decode cX13_next 16 = .ok (.bipush 32, 2) := dk_16 32 (dk_at dksX13_next_0 16 rfl rfl)
theorem dX13_next_18 : decode cX13_next 18 = .ok (.if_icmp .ne 16, 3) := dk_160 0 16 (dk_at dksX13_next_0 18 rfl rfl)
theorem dX13_next_21 : decode cX13_next 21 = .ok (.aload_n 0, 1) := dk_42 (dk_at dksX13_next_0 21 rfl rfl)
theorem dX13_next_22 : decode cX13_next 22 = .ok (.dup, 1) := dk_89 (dk_at dksX13_next_0 22 rfl rfl)
theorem dX13_next_23 : decode cX13_next 23 = .ok (.getfield 265, 3) := dk_180 1 9 (dk_at dksX13_next_1 0 rfl rfl)
theorem dX13_next_26 : decode cX13_next 26 = .ok (.iconst 1, 1) := dk_4 (dk_at dksX13_next_1 3 rfl rfl)
theorem dX13_next_27 : decode cX13_next 27 = .ok (.iadd, 1) := dk_96 (dk_at dksX13_next_1 4 rfl rfl)
theorem dX13_next_28 : decode cX13_next 28 = .ok (.putfield 265, 3) := dk_181 1 9 (dk_at dksX13_next_1 5 rfl rfl)
theorem dX13_next_31 : decode cX13_next 31 = .ok (.goto (-23), 3) := dk_167 255 233 (dk_at dksX13_next_1 8 rfl rfl)
theorem dX13_next_34 : decode cX13_next 34 = .ok (.aload_n 0, 1) := dk_42 (dk_at dksX13_next_1 11 rfl rfl)
theorem dX13_next_35 : decode cX13_next 35 = .ok (.aload_n 0, 1) := dk_42 (dk_at dksX13_next_1 12 rfl rfl)
theorem dX13_next_36 : decode cX13_next 36 = .ok (.getfield 265, 3) := dk_180 1 9 (dk_at dksX13_next_1 13 rfl rfl)
theorem dX13_next_39 : decode cX13_next 39 = .ok (.invokevirtual 268, 3) := dk_182 1 12 (dk_at dksX13_next_1 16 rfl rfl)
theorem dX13_next_42 : decode cX13_next 42 = .ok (.istore_n 1, 1) := dk_60 (dk_at dksX13_next_1 19 rfl rfl)
theorem dX13_next_43 : decode cX13_next 43 = .ok (.aload_n 0, 1) := dk_42 (dk_at dksX13_next_1 20 rfl rfl)
theorem dX13_next_44 : decode cX13_next 44 = .ok (.aload_n 0, 1) := dk_42 (dk_at dksX13_next_1 21 rfl rfl)
theorem dX13_next_45 : decode cX13_next 45 = .ok (.getfield 265, 3) := dk_180 1 9 (dk_at dksX13_next_2 0 rfl rfl)
theorem dX13_next_48 : decode cX13_next 48 = .ok (.putfield 262, 3) := dk_181 1 6 (dk_at dksX13_next_2 3 rfl rfl)
theorem dX13_next_51 : decode cX13_next 51 = .ok (.aload_n 0, 1) := dk_42 (dk_at dksX13_next_2 6 rfl rfl)
theorem dX13_next_52 : decode cX13_next 52 = .ok (.iconst 0, 1) := dk_3 (dk_at dksX13_next_2 7 rfl rfl)
theorem dX13_next_53 : decode cX13_next 53 = .ok (.putfield 271, 3) := dk_181 1 15 (dk_at dksX13_next_2 8 rfl rfl)
theorem dX13_next_56 : decode cX13_next 56 = .ok (.iload_n 1, 1) := dk_27 (dk_at dksX13_next_2 11 rfl rfl)
theorem dX13_next_57 : decode cX13_next 57 = .ok (.ifCond .ge 11, 3) := dk_156 0 11 (dk_at dksX13_next_2 12 rfl rfl)
theorem dX13_next_60 : decode cX13_next 60 = .ok (.aload_n 0, 1) := dk_42 (dk_at dksX13_next_2 15 rfl rfl)
theorem dX13_next_61 : decode cX13_next 61 = .ok (.iconst 0, 1) := dk_3 (dk_at dksX13_next_2 16 rfl rfl)
theorem dX13_next_62 : decode cX13_next 62 = .ok (.putfield 274, 3) := dk_181 1 18 (dk_at dksX13_next_2 17 rfl rfl)
theorem dX13_next_65 : decode cX13_next 65 = .ok (.goto 141, 3) := dk_167 0 141 (dk_at dksX13_next_2 20 rfl rfl)
theorem dX13_next_68 : decode cX13_next 68 = .ok (.iload_n 1, 1) := dk_27 (dk_at dksX13_next_2 23 rfl rfl)
theorem dX13_next_69 : decode cX13_next 69 = .ok (.bipush 97, 2) := dk_16 97 (dk_at dksX13_next_3 0 rfl rfl)
theorem dX13_next_71 : decode cX13_next 71 = .ok (.bipush 122, 2) := dk_16 122 (dk_at dksX13_next_3 2 rfl rfl)
theorem dX13_next_73 : decode cX13_next 73 = .ok (.invokestatic 74, 3) := dk_184 0 74 (dk_at dksX13_next_3 4 rfl rfl)
theorem dX13_next_76 : decode cX13_next 76 = .ok (.ifCond .eq 39, 3) := dk_153 0 39 (dk_at dksX13_next_3 7 rfl rfl)
theorem dX13_next_79 : decode cX13_next 79 = .ok (.aload_n 0, 1) := dk_42 (dk_at dksX13_next_3 10 rfl rfl)
theorem dX13_next_80 : decode cX13_next 80 = .ok (.iconst 1, 1) := dk_4 (dk_at dksX13_next_3 11 rfl rfl)
theorem dX13_next_81 : decode cX13_next 81 = .ok (.putfield 274, 3) := dk_181 1 18 (dk_at dksX13_next_3 12 rfl rfl)
theorem dX13_next_84 : decode cX13_next 84 = .ok (.aload_n 0, 1) := dk_42 (dk_at dksX13_next_3 15 rfl rfl)
theorem dX13_next_85 : decode cX13_next 85 = .ok (.aload_n 0, 1) := dk_42 (dk_at dksX13_next_3 16 rfl rfl)
theorem dX13_next_86 : decode cX13_next 86 = .ok (.getfield 262, 3) := dk_180 1 6 (dk_at dksX13_next_3 17 rfl rfl)
theorem dX13_next_89 : decode cX13_next 89 = .ok (.invokevirtual 268, 3) := dk_182 1 12 (dk_at dksX13_next_3 20 rfl rfl)
theorem dX13_next_92 : decode cX13_next 92 = .ok (.bipush 97, 2) := dk_16 97 (dk_at dksX13_next_4 0 rfl rfl)
theorem dX13_next_94 : decode cX13_next 94 = .ok (.bipush 122, 2) := dk_16 122 (dk_at dksX13_next_4 2 rfl rfl)
theorem dX13_next_96 : decode cX13_next 96 = .ok (.invokestatic 74, 3) := dk_184 0 74 (dk_at dksX13_next_4 4 rfl rfl)
theorem dX13_next_99 : decode cX13_next 99 = .ok (.ifCond .eq 107, 3) := dk_153 0 107 (dk_at dksX13_next_4 7 rfl rfl)
theorem dX13_next_102 : decode cX13_next 102 = .ok (.aload_n 0, 1) := dk_42 (dk_at dksX13_next_4 10 rfl rfl)
theorem dX13_next_103 : decode cX13_next 103 = .ok (.dup, 1) := dk_89 (dk_at dksX13_next_4 11 rfl rfl)
theorem dX13_next_104 : decode cX13_next 104 = .ok (.getfield 262, 3) := dk_180 1 6 (dk_at dksX13_next_4 12 rfl rfl)
theorem dX13_next_107 : decode cX13_next 107 = .ok (.iconst 1, 1) := dk_4 (dk_at dksX13_next_4 15 rfl rfl)
theorem dX13_next_108 : decode cX13_next 108 = .ok (.iadd, 1) := dk_96 (dk_at dksX13_next_4 16 rfl rfl)
theorem dX13_next_109 : decode cX13_next 109 = .ok (.putfield 262, 3) := dk_181 1 6 (dk_at dksX13_next_4 17 rfl rfl)
theorem dX13_next_112 : decode cX13_next 112 = .ok (.goto (-28), 3) := dk_167 255 228 (dk_at dksX13_next_4 20 rfl rfl)
theorem dX13_next_115 : decode cX13_next 115 = .ok (.iload_n 1, 1) := dk_27 (dk_at dksX13_next_4 23 rfl rfl)
theorem dX13_next_116 : decode cX13_next 116 = .ok (.bipush 48, 2) := dk_16 48 (dk_at dksX13_next_5 0 rfl rfl)
theorem dX13_next_118 : decode cX13_next 118 = .ok (.bipush 57, 2) := dk_16 57 (dk_at dksX13_next_5 2 rfl rfl)
theorem dX13_next_120 : decode cX13_next 120 = .ok (.invokestatic 74, 3) := dk_184 0 74 (dk_at dksX13_next_5 4 rfl rfl)
theorem dX13_next_123 : decode cX13_next 123 = .ok (.ifCond .eq 68, 3) := dk_153 0 68 (dk_at dksX13_next_5 7 rfl rfl)
theorem dX13_next_126 : decode cX13_next 126 = .ok (.aload_n 0, 1) := dk_42 (dk_at dksX13_next_5 10 rfl rfl)
theorem dX13_next_127 : decode cX13_next 127 = .ok (.iconst 2, 1) := dk_5 (dk_at dksX13_next_5 11 rfl rfl)
theorem dX13_next_128 : decode cX13_next 128 = .ok (.putfield 274, 3) := dk_181 1 18 (dk_at dksX13_next_5 12 rfl rfl)
theorem dX13_next_131 : decode cX13_next 131 = .ok (.aload_n 0, 1) := dk_42 (dk_at dksX13_next_5 15 rfl rfl)
theorem dX13_next_132 : decode cX13_next 132 = .ok (.aload_n 0, 1) := dk_42 (dk_at dksX13_next_5 16 rfl rfl)
theorem dX13_next_133 : decode cX13_next 133 = .ok (.getfield 262, 3) := dk_180 1 6 (dk_at dksX13_next_5 17 rfl rfl)
theorem dX13_next_136 : decode cX13_next 136 = .ok (.invokevirtual 268, 3) := dk_182 1 12 (dk_at dksX13_next_5 20 rfl rfl)
theorem dX13_next_139 : decode cX13_next 139 = .ok (.bipush 48, 2) := dk_16 48 (dk_at dksX13_next_6 0 rfl rfl)
theorem dX13_next_141 : decode cX13_next 141 = .ok (.bipush 57, 2) := dk_16 57 (dk_at dksX13_next_6 2 rfl rfl)
theorem dX13_next_143 : decode cX13_next 143 = .ok (.invokestatic 74, 3) := dk_184 0 74 (dk_at dksX13_next_6 4 rfl rfl)
theorem dX13_next_146 : decode cX13_next 146 = .ok (.ifCond .eq 60, 3) := dk_153 0 60 (dk_at dksX13_next_6 7 rfl rfl)
theorem dX13_next_149 : decode cX13_next 149 = .ok (.aload_n 0, 1) := dk_42 (dk_at dksX13_next_6 10 rfl rfl)
theorem dX13_next_150 : decode cX13_next 150 = .ok (.sipush 1000, 3) := dk_17 3 232 (dk_at dksX13_next_6 11 rfl rfl)
theorem dX13_next_153 : decode cX13_next 153 = .ok (.bipush 10, 2) := dk_16 10 (dk_at dksX13_next_6 14 rfl rfl)
theorem dX13_next_155 : decode cX13_next 155 = .ok (.aload_n 0, 1) := dk_42 (dk_at dksX13_next_6 16 rfl rfl)
theorem dX13_next_156 : decode cX13_next 156 = .ok (.getfield 271, 3) := dk_180 1 15 (dk_at dksX13_next_6 17 rfl rfl)
theorem dX13_next_159 : decode cX13_next 159 = .ok (.imul, 1) := dk_104 (dk_at dksX13_next_6 20 rfl rfl)
theorem dX13_next_160 : decode cX13_next 160 = .ok (.aload_n 0, 1) := dk_42 (dk_at dksX13_next_6 21 rfl rfl)
theorem dX13_next_161 : decode cX13_next 161 = .ok (.aload_n 0, 1) := dk_42 (dk_at dksX13_next_6 22 rfl rfl)
theorem dX13_next_162 : decode cX13_next 162 = .ok (.getfield 262, 3) := dk_180 1 6 (dk_at dksX13_next_7 0 rfl rfl)
theorem dX13_next_165 : decode cX13_next 165 = .ok (.invokevirtual 268, 3) := dk_182 1 12 (dk_at dksX13_next_7 3 rfl rfl)
theorem dX13_next_168 : decode cX13_next 168 = .ok (.iadd, 1) := dk_96 (dk_at dksX13_next_7 6 rfl rfl)
theorem dX13_next_169 : decode cX13_next 169 = .ok (.bipush 48, 2) := dk_16 48 (dk_at dksX13_next_7 7 rfl rfl)
theorem dX13_next_171 : decode cX13_next 171 = .ok (.isub, 1) := dk_100 (dk_at dksX13_next_7 9 rfl rfl)
theorem dX13_next_172 : decode cX13_next 172 = .ok (.invokestatic 125, 3) := dk_184 0 125 (dk_at dksX13_next_7 10 rfl rfl)
theorem dX13_next_175 : decode cX13_next 175 = .ok (.putfield 271, 3) := dk_181 1 15 (dk_at dksX13_next_7 13 rfl rfl)
theorem dX13_next_178 : decode cX13_next 178 = .ok (.aload_n 0, 1) := dk_42 (dk_at dksX13_next_7 16 rfl rfl)
theorem dX13_next_179 : decode cX13_next 179 = .ok (.dup, 1) := dk_89 (dk_at dksX13_next_7 17 rfl rfl)
theorem dX13_next_180 : decode cX13_next 180 = .ok (.getfield 262, 3) := dk_180 1 6 (dk_at dksX13_next_7 18 rfl rfl)
theorem dX13_next_183 : decode cX13_next 183 = .ok (.iconst 1, 1) := dk_4 (dk_at dksX13_next_7 21 rfl rfl)
theorem dX13_next_184 : decode cX13_next 184 = .ok (.iadd, 1) := dk_96 (dk_at dksX13_next_7 22 rfl rfl)
theorem dX13_next_185 : decode cX13_next 185 = .ok (.putfield 262, 3) := dk_181 1 6 (dk_at dksX13_next_8 0 rfl rfl)
theorem dX13_next_188 : decode cX13_next 188 = .ok (.goto (-57), 3) := dk_167 255 199 (dk_at dksX13_next_8 3 rfl rfl)
theorem dX13_next_191 : decode cX13_next 191 = .ok (.aload_n 0, 1) := dk_42 (dk_at dksX13_next_8 6 rfl rfl)
theorem dX13_next_192 : decode cX13_next 192 = .ok (.iconst 3, 1) := dk_6 (dk_at dksX13_next_8 7 rfl rfl)
theorem dX13_next_193 : decode cX13_next 193 = .ok (.putfield 274, 3) := dk_181 1 18 (dk_at dksX13_next_8 8 rfl rfl)
theorem dX13_next_196 : decode cX13_next 196 = .ok (.aload_n 0, 1) := dk_42 (dk_at dksX13_next_8 11 rfl rfl)
theorem dX13_next_197 : decode cX13_next 197 = .ok (.dup, 1) := dk_89 (dk_at dksX13_next_8 12 rfl rfl)
theorem dX13_next_198 : decode cX13_next 198 = .ok (.getfield 262, 3) := dk_180 1 6 (dk_at dksX13_next_8 13 rfl rfl)
theorem dX13_next_201 : decode cX13_next 201 = .ok (.iconst 1, 1) := dk_4 (dk_at dksX13_next_8 16 rfl rfl)
theorem dX13_next_202 : decode cX13_next 202 = .ok (.iadd, 1) := dk_96 (dk_at dksX13_next_8 17 rfl rfl)
theorem dX13_next_203 : decode cX13_next 203 = .ok (.putfield 262, 3) := dk_181 1 6 (dk_at dksX13_next_8 18 rfl rfl)
theorem dX13_next_206 : decode cX13_next 206 = .ok (.return_, 1) := dk_177 (dk_at dksX13_next_8 21 rfl rfl)
abbrev cX13_byteAt : ByteArray := prog_16_method_88_code
def yX13_byteAt : MethodName := ⟨RX13, "byteAt", "(I)I"⟩
def dkwX13_byteAt_0 : List UInt8 := [27, 42, 180, 1, 2, 162, 0, 12, 42, 180, 0, 31, 27, 46, 167, 0, 4, 2, 172]
abbrev dktX13_byteAt_0 : List UInt8 := dkwX13_byteAt_0 ++ []
theorem dksX13_byteAt_0 : cX13_byteAt.data.toList.drop 0 = dktX13_byteAt_0 := by decide +kernel
theorem dX13_byteAt_0 : decode cX13_byteAt 0 = .ok (.iload_n 1, 1) := dk_27 (dk_at dksX13_byteAt_0 0 rfl rfl)
theorem dX13_byteAt_1 : decode cX13_byteAt 1 = .ok (.aload_n 0, 1) := dk_42 (dk_at dksX13_byteAt_0 1 rfl rfl)
theorem dX13_byteAt_2 : decode cX13_byteAt 2 = .ok (.getfield 258, 3) := dk_180 1 2 (dk_at dksX13_byteAt_0 2 rfl rfl)
theorem dX13_byteAt_5 : decode cX13_byteAt 5 = .ok (.if_icmp .ge 12, 3) := dk_162 0 12 (dk_at dksX13_byteAt_0 5 rfl rfl)
theorem dX13_byteAt_8 : decode cX13_byteAt 8 = .ok (.aload_n 0, 1) := dk_42 (dk_at dksX13_byteAt_0 8 rfl rfl)
theorem dX13_byteAt_9 : decode cX13_byteAt 9 = .ok (.getfield 31, 3) := dk_180 0 31 (dk_at dksX13_byteAt_0 9 rfl rfl)
theorem dX13_byteAt_12 : decode cX13_byteAt 12 = .ok (.iload_n 1, 1) := dk_27 (dk_at dksX13_byteAt_0 12 rfl rfl)
theorem dX13_byteAt_13 : decode cX13_byteAt 13 = .ok (.iaload, 1) := dk_46 (dk_at dksX13_byteAt_0 13 rfl rfl)
theorem dX13_byteAt_14 : decode cX13_byteAt 14 = .ok (.goto 4, 3) := dk_167 0 4 (dk_at dksX13_byteAt_0 14 rfl rfl)
theorem dX13_byteAt_17 : decode cX13_byteAt 17 = .ok (.iconst (-1), 1) := dk_2 (dk_at dksX13_byteAt_0 17 rfl rfl)
theorem dX13_byteAt_18 : decode cX13_byteAt 18 = .ok (.ireturn, 1) := dk_172 (dk_at dksX13_byteAt_0 18 rfl rfl)
abbrev cX13_readItem : ByteArray := prog_16_method_96_code
def yX13_readItem : MethodName := ⟨RX13, "readItem", "()V"⟩
def dkwX13_readItem_11 : List UInt8 := [177]
abbrev dktX13_readItem_11 : List UInt8 := dkwX13_readItem_11 ++ []
def dkwX13_readItem_10 : List UInt8 := [19, 1, 72, 182, 1, 41, 182, 1, 34, 42, 16, 21, 42, 3, 16, 9, 182, 1, 55, 3, 3, 182, 1, 62]
abbrev dktX13_readItem_10 : List UInt8 := dkwX13_readItem_10 ++ dktX13_readItem_11
def dkwX13_readItem_9 : List UInt8 := [153, 0, 13, 42, 3, 16, 63, 182, 1, 55, 167, 0, 4, 2, 3, 3, 182, 1, 62, 167, 0, 29, 42, 42]
abbrev dktX13_readItem_9 : List UInt8 := dkwX13_readItem_9 ++ dktX13_readItem_10
def dkwX13_readItem_8 : List UInt8 := [153, 0, 44, 42, 3, 6, 182, 1, 55, 61, 42, 16, 34, 28, 96, 42, 19, 1, 51, 182, 1, 52]
abbrev dktX13_readItem_8 : List UInt8 := dkwX13_readItem_8 ++ dktX13_readItem_9
def dkwX13_readItem_7 : List UInt8 := [28, 96, 42, 3, 16, 9, 182, 1, 55, 3, 3, 182, 1, 62, 167, 0, 80, 42, 19, 1, 70, 182, 1, 52]
abbrev dktX13_readItem_7 : List UInt8 := dkwX13_readItem_7 ++ dktX13_readItem_8
def dkwX13_readItem_6 : List UInt8 := [167, 0, 118, 42, 19, 1, 68, 182, 1, 52, 153, 0, 31, 42, 3, 16, 63, 182, 1, 55, 61, 42, 16, 102]
abbrev dktX13_readItem_6 : List UInt8 := dkwX13_readItem_6 ++ dktX13_readItem_7
def dkwX13_readItem_5 : List UInt8 := [182, 1, 52, 153, 0, 23, 42, 16, 38, 42, 3, 16, 63, 182, 1, 55, 96, 4, 3, 3, 182, 1, 62]
abbrev dktX13_readItem_5 : List UInt8 := dkwX13_readItem_5 ++ dktX13_readItem_6
def dkwX13_readItem_4 : List UInt8 := [42, 4, 16, 99, 182, 1, 55, 167, 0, 5, 16, 10, 182, 1, 62, 167, 0, 148, 42, 19, 1, 66]
abbrev dktX13_readItem_4 : List UInt8 := dkwX13_readItem_4 ++ dktX13_readItem_5
def dkwX13_readItem_3 : List UInt8 := [16, 11, 182, 1, 55, 167, 0, 4, 3, 62, 42, 27, 28, 29, 42, 19, 1, 60, 182, 1, 52, 153, 0, 13]
abbrev dktX13_readItem_3 : List UInt8 := dkwX13_readItem_3 ++ dktX13_readItem_4
def dkwX13_readItem_2 : List UInt8 := [3, 16, 63, 182, 1, 55, 167, 0, 4, 3, 61, 42, 19, 1, 58, 182, 1, 52, 153, 0, 13, 42, 3]
abbrev dktX13_readItem_2 : List UInt8 := dkwX13_readItem_2 ++ dktX13_readItem_3
def dkwX13_readItem_1 : List UInt8 := [182, 1, 34, 42, 89, 180, 1, 48, 4, 96, 181, 1, 48, 42, 19, 1, 51, 182, 1, 52, 153, 0, 13, 42]
abbrev dktX13_readItem_1 : List UInt8 := dkwX13_readItem_1 ++ dktX13_readItem_2
def dkwX13_readItem_0 : List UInt8 := [42, 182, 1, 45, 60, 27, 155, 0, 107, 42, 42, 180, 1, 48, 16, 8, 162, 0, 7, 4, 167, 0, 4, 3]
abbrev dktX13_readItem_0 : List UInt8 := dkwX13_readItem_0 ++ dktX13_readItem_1
theorem dksX13_readItem_0 : cX13_readItem.data.toList.drop 0 = dktX13_readItem_0 := by decide +kernel
theorem dksX13_readItem_1 : cX13_readItem.data.toList.drop 24 = dktX13_readItem_1 := dk_seg dksX13_readItem_0 24 rfl rfl
theorem dksX13_readItem_2 : cX13_readItem.data.toList.drop 48 = dktX13_readItem_2 := dk_seg dksX13_readItem_1 24 rfl rfl
theorem dksX13_readItem_3 : cX13_readItem.data.toList.drop 71 = dktX13_readItem_3 := dk_seg dksX13_readItem_2 23 rfl rfl
theorem dksX13_readItem_4 : cX13_readItem.data.toList.drop 95 = dktX13_readItem_4 := dk_seg dksX13_readItem_3 24 rfl rfl
theorem dksX13_readItem_5 : cX13_readItem.data.toList.drop 117 = dktX13_readItem_5 := dk_seg dksX13_readItem_4 22 rfl rfl
theorem dksX13_readItem_6 : cX13_readItem.data.toList.drop 140 = dktX13_readItem_6 := dk_seg dksX13_readItem_5 23 rfl rfl
theorem dksX13_readItem_7 : cX13_readItem.data.toList.drop 164 = dktX13_readItem_7 := dk_seg dksX13_readItem_6 24 rfl rfl
theorem dksX13_readItem_8 : cX13_readItem.data.toList.drop 188 = dktX13_readItem_8 := dk_seg dksX13_readItem_7 24 rfl rfl
theorem dksX13_readItem_9 : cX13_readItem.data.toList.drop 210 = dktX13_readItem_9 := dk_seg dksX13_readItem_8 22 rfl rfl
theorem dksX13_readItem_10 : cX13_readItem.data.toList.drop 234 = dktX13_readItem_10 := dk_seg dksX13_readItem_9 24 rfl rfl
theorem dksX13_readItem_11 : cX13_readItem.data.toList.drop 258 = dktX13_readItem_11 := dk_seg dksX13_readItem_10 24 rfl rfl
theorem dX13_readItem_0 : decode cX13_readItem 0 = .ok (.aload_n 0, 1) := dk_42 (dk_at dksX13_readItem_0 0 rfl rfl)
theorem dX13_readItem_1 : decode cX13_readItem 1 = .ok (.invokevirtual 301, 3) := dk_182 1 45 (dk_at dksX13_readItem_0 1 rfl rfl)
theorem dX13_readItem_4 : decode cX13_readItem 4 = .ok (.istore_n 1, 1) := dk_60 (dk_at dksX13_readItem_0 4 rfl rfl)
theorem dX13_readItem_5 : decode cX13_readItem 5 = .ok (.iload_n 1, 1) := dk_27 (dk_at dksX13_readItem_0 5 rfl rfl)
theorem dX13_readItem_6 : decode cX13_readItem 6 = .ok (.ifCond .lt 107, 3) := dk_155 0 107 (dk_at dksX13_readItem_0 6 rfl rfl)
theorem dX13_readItem_9 : decode cX13_readItem 9 = .ok (.aload_n 0, 1) := dk_42 (dk_at dksX13_readItem_0 9 rfl rfl)
theorem dX13_readItem_10 : decode cX13_readItem 10 = .ok (.aload_n 0, 1) := dk_42 (dk_at dksX13_readItem_0 10 rfl rfl)
theorem dX13_readItem_11 : decode cX13_readItem 11 = .ok (.getfield 304, 3) := dk_180 1 48 (dk_at dksX13_readItem_0 11 rfl rfl)
theorem dX13_readItem_14 : decode cX13_readItem 14 = .ok (.bipush 8, 2) := dk_16 8 (dk_at dksX13_readItem_0 14 rfl rfl)
theorem dX13_readItem_16 : decode cX13_readItem 16 = .ok (.if_icmp .ge 7, 3) := dk_162 0 7 (dk_at dksX13_readItem_0 16 rfl rfl)
theorem dX13_readItem_19 : decode cX13_readItem 19 = .ok (.iconst 1, 1) := dk_4 (dk_at dksX13_readItem_0 19 rfl rfl)
theorem dX13_readItem_20 : decode cX13_readItem 20 = .ok (.goto 4, 3) := dk_167 0 4 (dk_at dksX13_readItem_0 20 rfl rfl)
theorem dX13_readItem_23 : decode cX13_readItem 23 = .ok (.iconst 0, 1) := dk_3 (dk_at dksX13_readItem_0 23 rfl rfl)
theorem dX13_readItem_24 : decode cX13_readItem 24 = .ok (.invokevirtual 290, 3) := dk_182 1 34 (dk_at dksX13_readItem_1 0 rfl rfl)
theorem dX13_readItem_27 : decode cX13_readItem 27 = .ok (.aload_n 0, 1) := dk_42 (dk_at dksX13_readItem_1 3 rfl rfl)
theorem dX13_readItem_28 : decode cX13_readItem 28 = .ok (.dup, 1) := dk_89 (dk_at dksX13_readItem_1 4 rfl rfl)
theorem dX13_readItem_29 : decode cX13_readItem 29 = .ok (.getfield 304, 3) := dk_180 1 48 (dk_at dksX13_readItem_1 5 rfl rfl)
theorem dX13_readItem_32 : decode cX13_readItem 32 = .ok (.iconst 1, 1) := dk_4 (dk_at dksX13_readItem_1 8 rfl rfl)
theorem dX13_readItem_33 : decode cX13_readItem 33 = .ok (.iadd, 1) := dk_96 (dk_at dksX13_readItem_1 9 rfl rfl)
theorem dX13_readItem_34 : decode cX13_readItem 34 = .ok (.putfield 304, 3) := dk_181 1 48 (dk_at dksX13_readItem_1 10 rfl rfl)
theorem dX13_readItem_37 : decode cX13_readItem 37 = .ok (.aload_n 0, 1) := dk_42 (dk_at dksX13_readItem_1 13 rfl rfl)
theorem dX13_readItem_38 : decode cX13_readItem 38 = .ok (.ldc_w 307, 3) := dk_19 1 51 (dk_at dksX13_readItem_1 14 rfl rfl)
theorem dX13_readItem_41 : decode cX13_readItem 41 = .ok (.invokevirtual 308, 3) := dk_182 1 52 (dk_at dksX13_readItem_1 17 rfl rfl)
theorem dX13_readItem_44 : decode cX13_readItem 44 = .ok (.ifCond .eq 13, 3) := dk_153 0 13 (dk_at dksX13_readItem_1 20 rfl rfl)
theorem dX13_readItem_47 : decode cX13_readItem 47 = .ok (.aload_n 0, 1) := dk_42 (dk_at dksX13_readItem_1 23 rfl rfl)
theorem dX13_readItem_48 : decode cX13_readItem 48 = .ok (.iconst 0, 1) := dk_3 (dk_at dksX13_readItem_2 0 rfl rfl)
theorem dX13_readItem_49 : decode cX13_readItem 49 = .ok (.bipush 63, 2) := dk_16 63 (dk_at dksX13_readItem_2 1 rfl rfl)
theorem dX13_readItem_51 : decode cX13_readItem 51 = .ok (.invokevirtual 311, 3) := dk_182 1 55 (dk_at dksX13_readItem_2 3 rfl rfl)
theorem dX13_readItem_54 : decode cX13_readItem 54 = .ok (.goto 4, 3) := dk_167 0 4 (dk_at dksX13_readItem_2 6 rfl rfl)
theorem dX13_readItem_57 : decode cX13_readItem 57 = .ok (.iconst 0, 1) := dk_3 (dk_at dksX13_readItem_2 9 rfl rfl)
theorem dX13_readItem_58 : decode cX13_readItem 58 = .ok (.istore_n 2, 1) := dk_61 (dk_at dksX13_readItem_2 10 rfl rfl)
theorem dX13_readItem_59 : decode cX13_readItem 59 = .ok (.aload_n 0, 1) := dk_42 (dk_at dksX13_readItem_2 11 rfl rfl)
theorem dX13_readItem_60 : decode cX13_readItem 60 = .ok (.ldc_w 314, 3) := dk_19 1 58 (dk_at dksX13_readItem_2 12 rfl rfl)
theorem dX13_readItem_63 : decode cX13_readItem 63 = .ok (.invokevirtual 308, 3) := dk_182 1 52 (dk_at dksX13_readItem_2 15 rfl rfl)
theorem dX13_readItem_66 : decode cX13_readItem 66 = .ok (.ifCond .eq 13, 3) := dk_153 0 13 (dk_at dksX13_readItem_2 18 rfl rfl)
theorem dX13_readItem_69 : decode cX13_readItem 69 = .ok (.aload_n 0, 1) := dk_42 (dk_at dksX13_readItem_2 21 rfl rfl)
theorem dX13_readItem_70 : decode cX13_readItem 70 = .ok (.iconst 0, 1) := dk_3 (dk_at dksX13_readItem_2 22 rfl rfl)
theorem dX13_readItem_71 : decode cX13_readItem 71 = .ok (.bipush 11, 2) := dk_16 11 (dk_at dksX13_readItem_3 0 rfl rfl)
theorem dX13_readItem_73 : decode cX13_readItem 73 = .ok (.invokevirtual 311, 3) := dk_182 1 55 (dk_at dksX13_readItem_3 2 rfl rfl)
theorem dX13_readItem_76 : decode cX13_readItem 76 = .ok (.goto 4, 3) := dk_167 0 4 (dk_at dksX13_readItem_3 5 rfl rfl)
theorem dX13_readItem_79 : decode cX13_readItem 79 = .ok (.iconst 0, 1) := dk_3 (dk_at dksX13_readItem_3 8 rfl rfl)
theorem dX13_readItem_80 : decode cX13_readItem 80 = .ok (.istore_n 3, 1) := dk_62 (dk_at dksX13_readItem_3 9 rfl rfl)
theorem dX13_readItem_81 : decode cX13_readItem 81 = .ok (.aload_n 0, 1) := dk_42 (dk_at dksX13_readItem_3 10 rfl rfl)
theorem dX13_readItem_82 : decode cX13_readItem 82 = .ok (.iload_n 1, 1) := dk_27 (dk_at dksX13_readItem_3 11 rfl rfl)
theorem dX13_readItem_83 : decode cX13_readItem 83 = .ok (.iload_n 2, 1) := dk_28 (dk_at dksX13_readItem_3 12 rfl rfl)
theorem dX13_readItem_84 : decode cX13_readItem 84 = .ok (.iload_n 3, 1) := dk_29 (dk_at dksX13_readItem_3 13 rfl rfl)
theorem dX13_readItem_85 : decode cX13_readItem 85 = .ok (.aload_n 0, 1) := dk_42 (dk_at dksX13_readItem_3 14 rfl rfl)
theorem dX13_readItem_86 : decode cX13_readItem 86 = .ok (.ldc_w 316, 3) := dk_19 1 60 (dk_at dksX13_readItem_3 15 rfl rfl)
theorem dX13_readItem_89 : decode cX13_readItem 89 = .ok (.invokevirtual 308, 3) := dk_182 1 52 (dk_at dksX13_readItem_3 18 rfl rfl)
theorem dX13_readItem_92 : decode cX13_readItem 92 = .ok (.ifCond .eq 13, 3) := dk_153 0 13 (dk_at dksX13_readItem_3 21 rfl rfl)
theorem dX13_readItem_95 : decode cX13_readItem 95 = .ok (.aload_n 0, 1) := dk_42 (dk_at dksX13_readItem_4 0 rfl rfl)
theorem dX13_readItem_96 : decode cX13_readItem 96 = .ok (.iconst 1, 1) := dk_4 (dk_at dksX13_readItem_4 1 rfl rfl)
theorem dX13_readItem_97 : decode cX13_readItem 97 = .ok (.bipush 99, 2) := dk_16 99 (dk_at dksX13_readItem_4 2 rfl rfl)
theorem dX13_readItem_99 : decode cX13_readItem 99 = .ok (.invokevirtual 311, 3) := dk_182 1 55 (dk_at dksX13_readItem_4 4 rfl rfl)
theorem dX13_readItem_102 : decode cX13_readItem 102 = .ok (.goto 5, 3) := dk_167 0 5 (dk_at dksX13_readItem_4 7 rfl rfl)
theorem dX13_readItem_105 : decode cX13_readItem 105 = .ok (.bipush 10, 2) := dk_16 10 (dk_at dksX13_readItem_4 10 rfl rfl)
theorem dX13_readItem_107 : decode cX13_readItem 107 = .ok (.invokevirtual 318, 3) := dk_182 1 62 (dk_at dksX13_readItem_4 12 rfl rfl)
theorem dX13_readItem_110 : decode cX13_readItem 110 = .ok (.goto 148, 3) := dk_167 0 148 (dk_at dksX13_readItem_4 15 rfl rfl)
theorem dX13_readItem_113 : decode cX13_readItem 113 = .ok (.aload_n 0, 1) := dk_42 (dk_at dksX13_readItem_4 18 rfl rfl)
theorem dX13_readItem_114 : decode cX13_readItem 114 = .ok (.ldc_w 322, 3) := dk_19 1 66 (dk_at dksX13_readItem_4 19 rfl rfl)
theorem dX13_readItem_117 : decode cX13_readItem 117 = .ok (.invokevirtual 308, 3) := dk_182 1 52 (dk_at dksX13_readItem_5 0 rfl rfl)
theorem dX13_readItem_120 : decode cX13_readItem 120 = .ok (.ifCond .eq 23, 3) := dk_153 0 23 (dk_at dksX13_readItem_5 3 rfl rfl)
theorem dX13_readItem_123 : decode cX13_readItem 123 = .ok (.aload_n 0, 1) := dk_42 (dk_at dksX13_readItem_5 6 rfl rfl)
theorem dX13_readItem_124 : decode cX13_readItem 124 = .ok (.bipush 38, 2) := dk_16 38 (dk_at dksX13_readItem_5 7 rfl rfl)
theorem dX13_readItem_126 : decode cX13_readItem 126 = .ok (.aload_n 0, 1) := dk_42 (dk_at dksX13_readItem_5 9 rfl rfl)
theorem dX13_readItem_127 : decode cX13_readItem 127 = .ok (.iconst 0, 1) := dk_3 (dk_at dksX13_readItem_5 10 rfl rfl)
theorem dX13_readItem_128 : decode cX13_readItem 128 = .ok (.bipush 63, 2) := dk_16 63 (dk_at dksX13_readItem_5 11 rfl rfl)
theorem dX13_readItem_130 : decode cX13_readItem 130 = .ok (.invokevirtual 311, 3) := dk_182 1 55 (dk_at dksX13_readItem_5 13 rfl rfl)
theorem dX13_readItem_133 : decode cX13_readItem 133 = .ok (.iadd, 1) := dk_96 (dk_at dksX13_readItem_5 16 rfl rfl)
theorem dX13_readItem_134 : decode cX13_readItem 134 = .ok (.iconst 1, 1) := dk_4 (dk_at dksX13_readItem_5 17 rfl rfl)
theorem dX13_readItem_135 : decode cX13_readItem 135 = .ok (.iconst 0, 1) := dk_3 (dk_at dksX13_readItem_5 18 rfl rfl)
theorem dX13_readItem_136 : decode cX13_readItem 136 = .ok (.iconst 0, 1) := dk_3 (dk_at dksX13_readItem_5 19 rfl rfl)
theorem dX13_readItem_137 : decode cX13_readItem 137 = .ok (.invokevirtual 318, 3) := dk_182 1 62 (dk_at dksX13_readItem_5 20 rfl rfl)
theorem dX13_readItem_140 : decode cX13_readItem 140 = .ok (.goto 118, 3) := dk_167 0 118 (dk_at dksX13_readItem_6 0 rfl rfl)
theorem dX13_readItem_143 : decode cX13_readItem 143 = .ok (.aload_n 0, 1) := dk_42 (dk_at dksX13_readItem_6 3 rfl rfl)
theorem dX13_readItem_144 : decode cX13_readItem 144 = .ok (.ldc_w 324, 3) := dk_19 1 68 (dk_at dksX13_readItem_6 4 rfl rfl)
theorem dX13_readItem_147 : decode cX13_readItem 147 = .ok (.invokevirtual 308, 3) := dk_182 1 52 (dk_at dksX13_readItem_6 7 rfl rfl)
theorem dX13_readItem_150 : decode cX13_readItem 150 = .ok (.ifCond .eq 31, 3) := dk_153 0 31 (dk_at dksX13_readItem_6 10 rfl rfl)
theorem dX13_readItem_153 : decode cX13_readItem 153 = .ok (.aload_n 0, 1) := dk_42 (dk_at dksX13_readItem_6 13 rfl rfl)
theorem dX13_readItem_154 : decode cX13_readItem 154 = .ok (.iconst 0, 1) := dk_3 (dk_at dksX13_readItem_6 14 rfl rfl)
theorem dX13_readItem_155 : decode cX13_readItem 155 = .ok (.bipush 63, 2) := dk_16 63 (dk_at dksX13_readItem_6 15 rfl rfl)
theorem dX13_readItem_157 : decode cX13_readItem 157 = .ok (.invokevirtual 311, 3) := dk_182 1 55 (dk_at dksX13_readItem_6 17 rfl rfl)
theorem dX13_readItem_160 : decode cX13_readItem 160 = .ok (.istore_n 2, 1) := dk_61 (dk_at dksX13_readItem_6 20 rfl rfl)
theorem dX13_readItem_161 : decode cX13_readItem 161 = .ok (.aload_n 0, 1) := dk_42 (dk_at dksX13_readItem_6 21 rfl rfl)
theorem dX13_readItem_162 : decode cX13_readItem 162 = .ok (.bipush 102, 2) := dk_16 102 (dk_at dksX13_readItem_6 22 rfl rfl)
theorem dX13_readItem_164 : decode cX13_readItem 164 = .ok (.iload_n 2, 1) := dk_28 (dk_at dksX13_readItem_7 0 rfl rfl)
theorem dX13_readItem_165 : decode cX13_readItem 165 = .ok (.iadd, 1) := dk_96 (dk_at dksX13_readItem_7 1 rfl rfl)
theorem dX13_readItem_166 : decode cX13_readItem 166 = .ok (.aload_n 0, 1) := dk_42 (dk_at dksX13_readItem_7 2 rfl rfl)
theorem dX13_readItem_167 : decode cX13_readItem 167 = .ok (.iconst 0, 1) := dk_3 (dk_at dksX13_readItem_7 3 rfl rfl)
theorem dX13_readItem_168 : decode cX13_readItem 168 = .ok (.bipush 9, 2) := dk_16 9 (dk_at dksX13_readItem_7 4 rfl rfl)
theorem dX13_readItem_170 : decode cX13_readItem 170 = .ok (.invokevirtual 311, 3) := dk_182 1 55 (dk_at dksX13_readItem_7 6 rfl rfl)
theorem dX13_readItem_173 : decode cX13_readItem 173 = .ok (.iconst 0, 1) := dk_3 (dk_at dksX13_readItem_7 9 rfl rfl)
theorem dX13_readItem_174 : decode cX13_readItem 174 = .ok (.iconst 0, 1) := dk_3 (dk_at dksX13_readItem_7 10 rfl rfl)
theorem dX13_readItem_175 : decode cX13_readItem 175 = .ok (.invokevirtual 318, 3) := dk_182 1 62 (dk_at dksX13_readItem_7 11 rfl rfl)
theorem dX13_readItem_178 : decode cX13_readItem 178 = .ok (.goto 80, 3) := dk_167 0 80 (dk_at dksX13_readItem_7 14 rfl rfl)
theorem dX13_readItem_181 : decode cX13_readItem 181 = .ok (.aload_n 0, 1) := dk_42 (dk_at dksX13_readItem_7 17 rfl rfl)
theorem dX13_readItem_182 : decode cX13_readItem 182 = .ok (.ldc_w 326, 3) := dk_19 1 70 (dk_at dksX13_readItem_7 18 rfl rfl)
theorem dX13_readItem_185 : decode cX13_readItem 185 = .ok (.invokevirtual 308, 3) := dk_182 1 52 (dk_at dksX13_readItem_7 21 rfl rfl)
theorem dX13_readItem_188 : decode cX13_readItem 188 = .ok (.ifCond .eq 44, 3) := dk_153 0 44 (dk_at dksX13_readItem_8 0 rfl rfl)
theorem dX13_readItem_191 : decode cX13_readItem 191 = .ok (.aload_n 0, 1) := dk_42 (dk_at dksX13_readItem_8 3 rfl rfl)
theorem dX13_readItem_192 : decode cX13_readItem 192 = .ok (.iconst 0, 1) := dk_3 (dk_at dksX13_readItem_8 4 rfl rfl)
theorem dX13_readItem_193 : decode cX13_readItem 193 = .ok (.iconst 3, 1) := dk_6 (dk_at dksX13_readItem_8 5 rfl rfl)
theorem dX13_readItem_194 : decode cX13_readItem 194 = .ok (.invokevirtual 311, 3) := dk_182 1 55 (dk_at dksX13_readItem_8 6 rfl rfl)
theorem dX13_readItem_197 : decode cX13_readItem 197 = .ok (.istore_n 2, 1) := dk_61 (dk_at dksX13_readItem_8 9 rfl rfl)
theorem dX13_readItem_198 : decode cX13_readItem 198 = .ok (.aload_n 0, 1) := dk_42 (dk_at dksX13_readItem_8 10 rfl rfl)
theorem dX13_readItem_199 : decode cX13_readItem 199 = .ok (.bipush 34, 2) := dk_16 34 (dk_at dksX13_readItem_8 11 rfl rfl)
theorem dX13_readItem_201 : decode cX13_readItem 201 = .ok (.iload_n 2, 1) := dk_28 (dk_at dksX13_readItem_8 13 rfl rfl)
theorem dX13_readItem_202 : decode cX13_readItem 202 = .ok (.iadd, 1) := dk_96 (dk_at dksX13_readItem_8 14 rfl rfl)
theorem dX13_readItem_203 : decode cX13_readItem 203 = .ok (.aload_n 0, 1) := dk_42 (dk_at dksX13_readItem_8 15 rfl rfl)
theorem dX13_readItem_204 : decode cX13_readItem 204 = .ok (.ldc_w 307, 3) := dk_19 1 51 (dk_at dksX13_readItem_8 16 rfl rfl)
theorem dX13_readItem_207 : decode cX13_readItem 207 = .ok (.invokevirtual 308, 3) := dk_182 1 52 (dk_at dksX13_readItem_8 19 rfl rfl)
theorem dX13_readItem_210 : decode cX13_readItem 210 = .ok (.ifCond .eq 13, 3) := dk_153 0 13 (dk_at dksX13_readItem_9 0 rfl rfl)
theorem dX13_readItem_213 : decode cX13_readItem 213 = .ok (.aload_n 0, 1) := dk_42 (dk_at dksX13_readItem_9 3 rfl rfl)
theorem dX13_readItem_214 : decode cX13_readItem 214 = .ok (.iconst 0, 1) := dk_3 (dk_at dksX13_readItem_9 4 rfl rfl)
theorem dX13_readItem_215 : decode cX13_readItem 215 = .ok (.bipush 63, 2) := dk_16 63 (dk_at dksX13_readItem_9 5 rfl rfl)
theorem dX13_readItem_217 : decode cX13_readItem 217 = .ok (.invokevirtual 311, 3) := dk_182 1 55 (dk_at dksX13_readItem_9 7 rfl rfl)
theorem dX13_readItem_220 : decode cX13_readItem 220 = .ok (.goto 4, 3) := dk_167 0 4 (dk_at dksX13_readItem_9 10 rfl rfl)
theorem dX13_readItem_223 : decode cX13_readItem 223 = .ok (.iconst (-1), 1) := dk_2 (dk_at dksX13_readItem_9 13 rfl rfl)
theorem dX13_readItem_224 : decode cX13_readItem 224 = .ok (.iconst 0, 1) := dk_3 (dk_at dksX13_readItem_9 14 rfl rfl)
theorem dX13_readItem_225 : decode cX13_readItem 225 = .ok (.iconst 0, 1) := dk_3 (dk_at dksX13_readItem_9 15 rfl rfl)
theorem dX13_readItem_226 : decode cX13_readItem 226 = .ok (.invokevirtual 318, 3) := dk_182 1 62 (dk_at dksX13_readItem_9 16 rfl rfl)
theorem dX13_readItem_229 : decode cX13_readItem 229 = .ok (.goto 29, 3) := dk_167 0 29 (dk_at dksX13_readItem_9 19 rfl rfl)
theorem dX13_readItem_232 : decode cX13_readItem 232 = .ok (.aload_n 0, 1) := dk_42 (dk_at dksX13_readItem_9 22 rfl rfl)
theorem dX13_readItem_233 : decode cX13_readItem 233 = .ok (.aload_n 0, 1) := dk_42 (dk_at dksX13_readItem_9 23 rfl rfl)
theorem dX13_readItem_234 : decode cX13_readItem 234 = .ok (.ldc_w 328, 3) := dk_19 1 72 (dk_at dksX13_readItem_10 0 rfl rfl)
theorem dX13_readItem_237 : decode cX13_readItem 237 = .ok (.invokevirtual 297, 3) := dk_182 1 41 (dk_at dksX13_readItem_10 3 rfl rfl)
theorem dX13_readItem_240 : decode cX13_readItem 240 = .ok (.invokevirtual 290, 3) := dk_182 1 34 (dk_at dksX13_readItem_10 6 rfl rfl)
theorem dX13_readItem_243 : decode cX13_readItem 243 = .ok (.aload_n 0, 1) := dk_42 (dk_at dksX13_readItem_10 9 rfl rfl)
theorem dX13_readItem_244 : decode cX13_readItem 244 = .ok (.bipush 21, 2) := dk_16 21 (dk_at dksX13_readItem_10 10 rfl rfl)
theorem dX13_readItem_246 : decode cX13_readItem 246 = .ok (.aload_n 0, 1) := dk_42 (dk_at dksX13_readItem_10 12 rfl rfl)
theorem dX13_readItem_247 : decode cX13_readItem 247 = .ok (.iconst 0, 1) := dk_3 (dk_at dksX13_readItem_10 13 rfl rfl)
theorem dX13_readItem_248 : decode cX13_readItem 248 = .ok (.bipush 9, 2) := dk_16 9 (dk_at dksX13_readItem_10 14 rfl rfl)
theorem dX13_readItem_250 : decode cX13_readItem 250 = .ok (.invokevirtual 311, 3) := dk_182 1 55 (dk_at dksX13_readItem_10 16 rfl rfl)
theorem dX13_readItem_253 : decode cX13_readItem 253 = .ok (.iconst 0, 1) := dk_3 (dk_at dksX13_readItem_10 19 rfl rfl)
theorem dX13_readItem_254 : decode cX13_readItem 254 = .ok (.iconst 0, 1) := dk_3 (dk_at dksX13_readItem_10 20 rfl rfl)
theorem dX13_readItem_255 : decode cX13_readItem 255 = .ok (.invokevirtual 318, 3) := dk_182 1 62 (dk_at dksX13_readItem_10 21 rfl rfl)
theorem dX13_readItem_258 : decode cX13_readItem 258 = .ok (.return_, 1) := dk_177 (dk_at dksX13_readItem_11 0 rfl rfl)
abbrev cX13_kindTold : ByteArray := prog_16_method_94_code
def yX13_kindTold : MethodName := ⟨RX13, "kindTold", "()I"⟩
def dkwX13_kindTold_1 : List UInt8 := [153, 0, 7, 28, 167, 0, 4, 27, 60, 132, 2, 1, 167, 255, 225, 27, 172]
abbrev dktX13_kindTold_1 : List UInt8 := dkwX13_kindTold_1 ++ []
def dkwX13_kindTold_0 : List UInt8 := [2, 60, 3, 61, 28, 42, 180, 0, 50, 190, 162, 0, 28, 42, 42, 180, 0, 50, 28, 50, 182, 1, 41]
abbrev dktX13_kindTold_0 : List UInt8 := dkwX13_kindTold_0 ++ dktX13_kindTold_1
theorem dksX13_kindTold_0 : cX13_kindTold.data.toList.drop 0 = dktX13_kindTold_0 := by decide +kernel
theorem dksX13_kindTold_1 : cX13_kindTold.data.toList.drop 23 = dktX13_kindTold_1 := dk_seg dksX13_kindTold_0 23 rfl rfl
theorem dX13_kindTold_0 : decode cX13_kindTold 0 = .ok (.iconst (-1), 1) := dk_2 (dk_at dksX13_kindTold_0 0 rfl rfl)
theorem dX13_kindTold_1 : decode cX13_kindTold 1 = .ok (.istore_n 1, 1) := dk_60 (dk_at dksX13_kindTold_0 1 rfl rfl)
theorem dX13_kindTold_2 : decode cX13_kindTold 2 = .ok (.iconst 0, 1) := dk_3 (dk_at dksX13_kindTold_0 2 rfl rfl)
theorem dX13_kindTold_3 : decode cX13_kindTold 3 = .ok (.istore_n 2, 1) := dk_61 (dk_at dksX13_kindTold_0 3 rfl rfl)
theorem dX13_kindTold_4 : decode cX13_kindTold 4 = .ok (.iload_n 2, 1) := dk_28 (dk_at dksX13_kindTold_0 4 rfl rfl)
theorem dX13_kindTold_5 : decode cX13_kindTold 5 = .ok (.aload_n 0, 1) := dk_42 (dk_at dksX13_kindTold_0 5 rfl rfl)
theorem dX13_kindTold_6 : decode cX13_kindTold 6 = .ok (.getfield 50, 3) := dk_180 0 50 (dk_at dksX13_kindTold_0 6 rfl rfl)
theorem dX13_kindTold_9 : decode cX13_kindTold 9 = .ok (.arraylength, 1) := dk_190 (dk_at dksX13_kindTold_0 9 rfl rfl)
theorem dX13_kindTold_10 : decode cX13_kindTold 10 = .ok (.if_icmp .ge 28, 3) := dk_162 0 28 (dk_at dksX13_kindTold_0 10 rfl rfl)
theorem dX13_kindTold_13 : decode cX13_kindTold 13 = .ok (.aload_n 0, 1) := dk_42 (dk_at dksX13_kindTold_0 13 rfl rfl)
theorem dX13_kindTold_14 : decode cX13_kindTold 14 = .ok (.aload_n 0, 1) := dk_42 (dk_at dksX13_kindTold_0 14 rfl rfl)
theorem dX13_kindTold_15 : decode cX13_kindTold 15 = .ok (.getfield 50, 3) := dk_180 0 50 (dk_at dksX13_kindTold_0 15 rfl rfl)
theorem dX13_kindTold_18 : decode cX13_kindTold 18 = .ok (.iload_n 2, 1) := dk_28 (dk_at dksX13_kindTold_0 18 rfl rfl)
theorem dX13_kindTold_19 : decode cX13_kindTold 19 = .ok (.aaload, 1) := dk_50 (dk_at dksX13_kindTold_0 19 rfl rfl)
theorem dX13_kindTold_20 : decode cX13_kindTold 20 = .ok (.invokevirtual 297, 3) := dk_182 1 41 (dk_at dksX13_kindTold_0 20 rfl rfl)
theorem dX13_kindTold_23 : decode cX13_kindTold 23 = .ok (.ifCond .eq 7, 3) := dk_153 0 7 (dk_at dksX13_kindTold_1 0 rfl rfl)
theorem dX13_kindTold_26 : decode cX13_kindTold 26 = .ok (.iload_n 2, 1) := dk_28 (dk_at dksX13_kindTold_1 3 rfl rfl)
theorem dX13_kindTold_27 : decode cX13_kindTold 27 = .ok (.goto 4, 3) := dk_167 0 4 (dk_at dksX13_kindTold_1 4 rfl rfl)
theorem dX13_kindTold_30 : decode cX13_kindTold 30 = .ok (.iload_n 1, 1) := dk_27 (dk_at dksX13_kindTold_1 7 rfl rfl)
theorem dX13_kindTold_31 : decode cX13_kindTold 31 = .ok (.istore_n 1, 1) := dk_60 (dk_at dksX13_kindTold_1 8 rfl rfl)
theorem dX13_kindTold_32 : decode cX13_kindTold 32 = .ok (.iinc 2 1, 3) := dk_132 2 1 (dk_at dksX13_kindTold_1 9 rfl rfl)
theorem dX13_kindTold_35 : decode cX13_kindTold 35 = .ok (.goto (-31), 3) := dk_167 255 225 (dk_at dksX13_kindTold_1 12 rfl rfl)
theorem dX13_kindTold_38 : decode cX13_kindTold 38 = .ok (.iload_n 1, 1) := dk_27 (dk_at dksX13_kindTold_1 15 rfl rfl)
theorem dX13_kindTold_39 : decode cX13_kindTold 39 = .ok (.ireturn, 1) := dk_172 (dk_at dksX13_kindTold_1 16 rfl rfl)
abbrev cX13_isWord : ByteArray := prog_16_method_90_code
def yX13_isWord : MethodName := ⟨RX13, "isWord", "(Ljava/lang/String;)Z"⟩
def dkwX13_isWord_3 : List UInt8 := [167, 255, 216, 28, 172]
abbrev dktX13_isWord_3 : List UInt8 := dkwX13_isWord_3 ++ []
def dkwX13_isWord_2 : List UInt8 := [42, 180, 1, 9, 29, 96, 46, 43, 29, 182, 1, 24, 160, 0, 7, 4, 167, 0, 4, 3, 61, 132, 3, 1]
abbrev dktX13_isWord_2 : List UInt8 := dkwX13_isWord_2 ++ dktX13_isWord_3
def dkwX13_isWord_1 : List UInt8 := [4, 167, 0, 4, 3, 61, 3, 62, 29, 43, 182, 1, 21, 162, 0, 38, 28, 153, 0, 34, 42, 180, 0, 31]
abbrev dktX13_isWord_1 : List UInt8 := dkwX13_isWord_1 ++ dktX13_isWord_2
def dkwX13_isWord_0 : List UInt8 := [42, 180, 1, 18, 4, 160, 0, 23, 42, 180, 1, 6, 42, 180, 1, 9, 100, 43, 182, 1, 21, 160, 0, 7]
abbrev dktX13_isWord_0 : List UInt8 := dkwX13_isWord_0 ++ dktX13_isWord_1
theorem dksX13_isWord_0 : cX13_isWord.data.toList.drop 0 = dktX13_isWord_0 := by decide +kernel
theorem dksX13_isWord_1 : cX13_isWord.data.toList.drop 24 = dktX13_isWord_1 := dk_seg dksX13_isWord_0 24 rfl rfl
theorem dksX13_isWord_2 : cX13_isWord.data.toList.drop 48 = dktX13_isWord_2 := dk_seg dksX13_isWord_1 24 rfl rfl
theorem dksX13_isWord_3 : cX13_isWord.data.toList.drop 72 = dktX13_isWord_3 := dk_seg dksX13_isWord_2 24 rfl rfl
theorem dX13_isWord_0 : decode cX13_isWord 0 = .ok (.aload_n 0, 1) := dk_42 (dk_at dksX13_isWord_0 0 rfl rfl)
theorem dX13_isWord_1 : decode cX13_isWord 1 = .ok (.getfield 274, 3) := dk_180 1 18 (dk_at dksX13_isWord_0 1 rfl rfl)
theorem dX13_isWord_4 : decode cX13_isWord 4 = .ok (.iconst 1, 1) := dk_4 (dk_at dksX13_isWord_0 4 rfl rfl)
theorem dX13_isWord_5 : decode cX13_isWord 5 = .ok (.if_icmp .ne 23, 3) := dk_160 0 23 (dk_at dksX13_isWord_0 5 rfl rfl)
theorem dX13_isWord_8 : decode cX13_isWord 8 = .ok (.aload_n 0, 1) := dk_42 (dk_at dksX13_isWord_0 8 rfl rfl)
theorem dX13_isWord_9 : decode cX13_isWord 9 = .ok (.getfield 262, 3) := dk_180 1 6 (dk_at dksX13_isWord_0 9 rfl rfl)
theorem dX13_isWord_12 : decode cX13_isWord 12 = .ok (.aload_n 0, 1) := dk_42 (dk_at dksX13_isWord_0 12 rfl rfl)
theorem dX13_isWord_13 : decode cX13_isWord 13 = .ok (.getfield 265, 3) := dk_180 1 9 (dk_at dksX13_isWord_0 13 rfl rfl)
theorem dX13_isWord_16 : decode cX13_isWord 16 = .ok (.isub, 1) := dk_100 (dk_at dksX13_isWord_0 16 rfl rfl)
theorem dX13_isWord_17 : decode cX13_isWord 17 = .ok (.aload_n 1, 1) := dk_43 (dk_at dksX13_isWord_0 17 rfl rfl)
theorem dX13_isWord_18 : decode cX13_isWord 18 = .ok (.invokevirtual 277, 3) := dk_182 1 21 (dk_at dksX13_isWord_0 18 rfl rfl)
theorem dX13_isWord_21 : decode cX13_isWord 21 = .ok (.if_icmp .ne 7, 3) := dk_160 0 7 (dk_at dksX13_isWord_0 21 rfl rfl)
theorem dX13_isWord_24 : decode cX13_isWord 24 = .ok (.iconst 1, 1) := dk_4 (dk_at dksX13_isWord_1 0 rfl rfl)
theorem dX13_isWord_25 : decode cX13_isWord 25 = .ok (.goto 4, 3) := dk_167 0 4 (dk_at dksX13_isWord_1 1 rfl rfl)
theorem dX13_isWord_28 : decode cX13_isWord 28 = .ok (.iconst 0, 1) := dk_3 (dk_at dksX13_isWord_1 4 rfl rfl)
theorem dX13_isWord_29 : decode cX13_isWord 29 = .ok (.istore_n 2, 1) := dk_61 (dk_at dksX13_isWord_1 5 rfl rfl)
theorem dX13_isWord_30 : decode cX13_isWord 30 = .ok (.iconst 0, 1) := dk_3 (dk_at dksX13_isWord_1 6 rfl rfl)
theorem dX13_isWord_31 : decode cX13_isWord 31 = .ok (.istore_n 3, 1) := dk_62 (dk_at dksX13_isWord_1 7 rfl rfl)
theorem dX13_isWord_32 : decode cX13_isWord 32 = .ok (.iload_n 3, 1) := dk_29 (dk_at dksX13_isWord_1 8 rfl rfl)
theorem dX13_isWord_33 : decode cX13_isWord 33 = .ok (.aload_n 1, 1) := dk_43 (dk_at dksX13_isWord_1 9 rfl rfl)
theorem dX13_isWord_34 : decode cX13_isWord 34 = .ok (.invokevirtual 277, 3) := dk_182 1 21 (dk_at dksX13_isWord_1 10 rfl rfl)
theorem dX13_isWord_37 : decode cX13_isWord 37 = .ok (.if_icmp .ge 38, 3) := dk_162 0 38 (dk_at dksX13_isWord_1 13 rfl rfl)
theorem dX13_isWord_40 : decode cX13_isWord 40 = .ok (.iload_n 2, 1) := dk_28 (dk_at dksX13_isWord_1 16 rfl rfl)
theorem dX13_isWord_41 : decode cX13_isWord 41 = .ok (.ifCond .eq 34, 3) := dk_153 0 34 (dk_at dksX13_isWord_1 17 rfl rfl)
theorem dX13_isWord_44 : decode cX13_isWord 44 = .ok (.aload_n 0, 1) := dk_42 (dk_at dksX13_isWord_1 20 rfl rfl)
theorem dX13_isWord_45 : decode cX13_isWord 45 = .ok (.getfield 31, 3) := dk_180 0 31 (dk_at dksX13_isWord_1 21 rfl rfl)
theorem dX13_isWord_48 : decode cX13_isWord 48 = .ok (.aload_n 0, 1) := dk_42 (dk_at dksX13_isWord_2 0 rfl rfl)
theorem dX13_isWord_49 : decode cX13_isWord 49 = .ok (.getfield 265, 3) := dk_180 1 9 (dk_at dksX13_isWord_2 1 rfl rfl)
theorem dX13_isWord_52 : decode cX13_isWord 52 = .ok (.iload_n 3, 1) := dk_29 (dk_at dksX13_isWord_2 4 rfl rfl)
theorem dX13_isWord_53 : decode cX13_isWord 53 = .ok (.iadd, 1) := dk_96 (dk_at dksX13_isWord_2 5 rfl rfl)
theorem dX13_isWord_54 : decode cX13_isWord 54 = .ok (.iaload, 1) := dk_46 (dk_at dksX13_isWord_2 6 rfl rfl)
theorem dX13_isWord_55 : decode cX13_isWord 55 = .ok (.aload_n 1, 1) := dk_43 (dk_at dksX13_isWord_2 7 rfl rfl)
theorem dX13_isWord_56 : decode cX13_isWord 56 = .ok (.iload_n 3, 1) := dk_29 (dk_at dksX13_isWord_2 8 rfl rfl)
theorem dX13_isWord_57 : decode cX13_isWord 57 = .ok (.invokevirtual 280, 3) := dk_182 1 24 (dk_at dksX13_isWord_2 9 rfl rfl)
theorem dX13_isWord_60 : decode cX13_isWord 60 = .ok (.if_icmp .ne 7, 3) := dk_160 0 7 (dk_at dksX13_isWord_2 12 rfl rfl)
theorem dX13_isWord_63 : decode cX13_isWord 63 = .ok (.iconst 1, 1) := dk_4 (dk_at dksX13_isWord_2 15 rfl rfl)
theorem dX13_isWord_64 : decode cX13_isWord 64 = .ok (.goto 4, 3) := dk_167 0 4 (dk_at dksX13_isWord_2 16 rfl rfl)
theorem dX13_isWord_67 : decode cX13_isWord 67 = .ok (.iconst 0, 1) := dk_3 (dk_at dksX13_isWord_2 19 rfl rfl)
theorem dX13_isWord_68 : decode cX13_isWord 68 = .ok (.istore_n 2, 1) := dk_61 (dk_at dksX13_isWord_2 20 rfl rfl)
theorem dX13_isWord_69 : decode cX13_isWord 69 = .ok (.iinc 3 1, 3) := dk_132 3 1 (dk_at dksX13_isWord_2 21 rfl rfl)
theorem dX13_isWord_72 : decode cX13_isWord 72 = .ok (.goto (-40), 3) := dk_167 255 216 (dk_at dksX13_isWord_3 0 rfl rfl)
theorem dX13_isWord_75 : decode cX13_isWord 75 = .ok (.iload_n 2, 1) := dk_28 (dk_at dksX13_isWord_3 3 rfl rfl)
theorem dX13_isWord_76 : decode cX13_isWord 76 = .ok (.ireturn, 1) := dk_172 (dk_at dksX13_isWord_3 4 rfl rfl)
abbrev cX13_must : ByteArray := prog_16_method_91_code
def yX13_must : MethodName := ⟨RX13, "must", "(Z)V"⟩
def dkwX13_must_1 : List UInt8 := [154, 0, 7, 42, 182, 1, 31, 177]
abbrev dktX13_must_1 : List UInt8 := dkwX13_must_1 ++ []
def dkwX13_must_0 : List UInt8 := [42, 42, 180, 1, 28, 154, 0, 7, 27, 154, 0, 7, 4, 167, 0, 4, 3, 181, 1, 28, 42, 180, 1, 28]
abbrev dktX13_must_0 : List UInt8 := dkwX13_must_0 ++ dktX13_must_1
theorem dksX13_must_0 : cX13_must.data.toList.drop 0 = dktX13_must_0 := by decide +kernel
theorem dksX13_must_1 : cX13_must.data.toList.drop 24 = dktX13_must_1 := dk_seg dksX13_must_0 24 rfl rfl
theorem dX13_must_0 : decode cX13_must 0 = .ok (.aload_n 0, 1) := dk_42 (dk_at dksX13_must_0 0 rfl rfl)
theorem dX13_must_1 : decode cX13_must 1 = .ok (.aload_n 0, 1) := dk_42 (dk_at dksX13_must_0 1 rfl rfl)
theorem dX13_must_2 : decode cX13_must 2 = .ok (.getfield 284, 3) := dk_180 1 28 (dk_at dksX13_must_0 2 rfl rfl)
theorem dX13_must_5 : decode cX13_must 5 = .ok (.ifCond .ne 7, 3) := dk_154 0 7 (dk_at dksX13_must_0 5 rfl rfl)
theorem dX13_must_8 : decode cX13_must 8 = .ok (.iload_n 1, 1) := dk_27 (dk_at dksX13_must_0 8 rfl rfl)
theorem dX13_must_9 : decode cX13_must 9 = .ok (.ifCond .ne 7, 3) := dk_154 0 7 (dk_at dksX13_must_0 9 rfl rfl)
theorem dX13_must_12 : decode cX13_must 12 = .ok (.iconst 1, 1) := dk_4 (dk_at dksX13_must_0 12 rfl rfl)
theorem dX13_must_13 : decode cX13_must 13 = .ok (.goto 4, 3) := dk_167 0 4 (dk_at dksX13_must_0 13 rfl rfl)
theorem dX13_must_16 : decode cX13_must 16 = .ok (.iconst 0, 1) := dk_3 (dk_at dksX13_must_0 16 rfl rfl)
theorem dX13_must_17 : decode cX13_must 17 = .ok (.putfield 284, 3) := dk_181 1 28 (dk_at dksX13_must_0 17 rfl rfl)
theorem dX13_must_20 : decode cX13_must 20 = .ok (.aload_n 0, 1) := dk_42 (dk_at dksX13_must_0 20 rfl rfl)
theorem dX13_must_21 : decode cX13_must 21 = .ok (.getfield 284, 3) := dk_180 1 28 (dk_at dksX13_must_0 21 rfl rfl)
theorem dX13_must_24 : decode cX13_must 24 = .ok (.ifCond .ne 7, 3) := dk_154 0 7 (dk_at dksX13_must_1 0 rfl rfl)
theorem dX13_must_27 : decode cX13_must 27 = .ok (.aload_n 0, 1) := dk_42 (dk_at dksX13_must_1 3 rfl rfl)
theorem dX13_must_28 : decode cX13_must 28 = .ok (.invokevirtual 287, 3) := dk_182 1 31 (dk_at dksX13_must_1 4 rfl rfl)
theorem dX13_must_31 : decode cX13_must 31 = .ok (.return_, 1) := dk_177 (dk_at dksX13_must_1 7 rfl rfl)
abbrev cX13_isNext : ByteArray := prog_16_method_95_code
def yX13_isNext : MethodName := ⟨RX13, "isNext", "(Ljava/lang/String;)Z"⟩
def dkwX13_isNext_1 : List UInt8 := [153, 0, 8, 42, 4, 182, 1, 34, 28, 172]
abbrev dktX13_isNext_1 : List UInt8 := dkwX13_isNext_1 ++ []
def dkwX13_isNext_0 : List UInt8 := [42, 180, 1, 28, 154, 0, 15, 42, 43, 182, 1, 41, 153, 0, 7, 4, 167, 0, 4, 3, 61, 28]
abbrev dktX13_isNext_0 : List UInt8 := dkwX13_isNext_0 ++ dktX13_isNext_1
theorem dksX13_isNext_0 : cX13_isNext.data.toList.drop 0 = dktX13_isNext_0 := by decide +kernel
theorem dksX13_isNext_1 : cX13_isNext.data.toList.drop 22 = dktX13_isNext_1 := dk_seg dksX13_isNext_0 22 rfl rfl
theorem dX13_isNext_0 : decode cX13_isNext 0 = .ok (.aload_n 0, 1) := dk_42 (dk_at dksX13_isNext_0 0 rfl rfl)
theorem dX13_isNext_1 : decode cX13_isNext 1 = .ok (.getfield 284, 3) := dk_180 1 28 (dk_at dksX13_isNext_0 1 rfl rfl)
theorem dX13_isNext_4 : decode cX13_isNext 4 = .ok (.ifCond .ne 15, 3) := dk_154 0 15 (dk_at dksX13_isNext_0 4 rfl rfl)
theorem dX13_isNext_7 : decode cX13_isNext 7 = .ok (.aload_n 0, 1) := dk_42 (dk_at dksX13_isNext_0 7 rfl rfl)
theorem dX13_isNext_8 : decode cX13_isNext 8 = .ok (.aload_n 1, 1) := dk_43 (dk_at dksX13_isNext_0 8 rfl rfl)
theorem dX13_isNext_9 : decode cX13_isNext 9 = .ok (.invokevirtual 297, 3) := dk_182 1 41 (dk_at dksX13_isNext_0 9 rfl rfl)
theorem dX13_isNext_12 : decode cX13_isNext 12 = .ok (.ifCond .eq 7, 3) := dk_153 0 7 (dk_at dksX13_isNext_0 12 rfl rfl)
theorem dX13_isNext_15 : decode cX13_isNext 15 = .ok (.iconst 1, 1) := dk_4 (dk_at dksX13_isNext_0 15 rfl rfl)
theorem dX13_isNext_16 : decode cX13_isNext 16 = .ok (.goto 4, 3) := dk_167 0 4 (dk_at dksX13_isNext_0 16 rfl rfl)
theorem dX13_isNext_19 : decode cX13_isNext 19 = .ok (.iconst 0, 1) := dk_3 (dk_at dksX13_isNext_0 19 rfl rfl)
theorem dX13_isNext_20 : decode cX13_isNext 20 = .ok (.istore_n 2, 1) := dk_61 (dk_at dksX13_isNext_0 20 rfl rfl)
theorem dX13_isNext_21 : decode cX13_isNext 21 = .ok (.iload_n 2, 1) := dk_28 (dk_at dksX13_isNext_0 21 rfl rfl)
theorem dX13_isNext_22 : decode cX13_isNext 22 = .ok (.ifCond .eq 8, 3) := dk_153 0 8 (dk_at dksX13_isNext_1 0 rfl rfl)
theorem dX13_isNext_25 : decode cX13_isNext 25 = .ok (.aload_n 0, 1) := dk_42 (dk_at dksX13_isNext_1 3 rfl rfl)
theorem dX13_isNext_26 : decode cX13_isNext 26 = .ok (.iconst 1, 1) := dk_4 (dk_at dksX13_isNext_1 4 rfl rfl)
theorem dX13_isNext_27 : decode cX13_isNext 27 = .ok (.invokevirtual 290, 3) := dk_182 1 34 (dk_at dksX13_isNext_1 5 rfl rfl)
theorem dX13_isNext_30 : decode cX13_isNext 30 = .ok (.iload_n 2, 1) := dk_28 (dk_at dksX13_isNext_1 8 rfl rfl)
theorem dX13_isNext_31 : decode cX13_isNext 31 = .ok (.ireturn, 1) := dk_172 (dk_at dksX13_isNext_1 9 rfl rfl)
abbrev cX13_number : ByteArray := prog_16_method_92_code
def yX13_number : MethodName := ⟨RX13, "number", "(II)I"⟩
def dkwX13_number_1 : List UInt8 := [167, 0, 4, 3, 182, 1, 34, 29, 172]
abbrev dktX13_number_1 : List UInt8 := dkwX13_number_1 ++ []
def dkwX13_number_0 : List UInt8 := [42, 180, 1, 15, 62, 42, 42, 180, 1, 18, 5, 160, 0, 16, 29, 27, 28, 184, 0, 74, 153, 0, 7, 4]
abbrev dktX13_number_0 : List UInt8 := dkwX13_number_0 ++ dktX13_number_1
theorem dksX13_number_0 : cX13_number.data.toList.drop 0 = dktX13_number_0 := by decide +kernel
theorem dksX13_number_1 : cX13_number.data.toList.drop 24 = dktX13_number_1 := dk_seg dksX13_number_0 24 rfl rfl
theorem dX13_number_0 : decode cX13_number 0 = .ok (.aload_n 0, 1) := dk_42 (dk_at dksX13_number_0 0 rfl rfl)
theorem dX13_number_1 : decode cX13_number 1 = .ok (.getfield 271, 3) := dk_180 1 15 (dk_at dksX13_number_0 1 rfl rfl)
theorem dX13_number_4 : decode cX13_number 4 = .ok (.istore_n 3, 1) := dk_62 (dk_at dksX13_number_0 4 rfl rfl)
theorem dX13_number_5 : decode cX13_number 5 = .ok (.aload_n 0, 1) := dk_42 (dk_at dksX13_number_0 5 rfl rfl)
theorem dX13_number_6 : decode cX13_number 6 = .ok (.aload_n 0, 1) := dk_42 (dk_at dksX13_number_0 6 rfl rfl)
theorem dX13_number_7 : decode cX13_number 7 = .ok (.getfield 274, 3) := dk_180 1 18 (dk_at dksX13_number_0 7 rfl rfl)
theorem dX13_number_10 : decode cX13_number 10 = .ok (.iconst 2, 1) := dk_5 (dk_at dksX13_number_0 10 rfl rfl)
theorem dX13_number_11 : decode cX13_number 11 = .ok (.if_icmp .ne 16, 3) := dk_160 0 16 (dk_at dksX13_number_0 11 rfl rfl)
theorem dX13_number_14 : decode cX13_number 14 = .ok (.iload_n 3, 1) := dk_29 (dk_at dksX13_number_0 14 rfl rfl)
theorem dX13_number_15 : decode cX13_number 15 = .ok (.iload_n 1, 1) := dk_27 (dk_at dksX13_number_0 15 rfl rfl)
theorem dX13_number_16 : decode cX13_number 16 = .ok (.iload_n 2, 1) := dk_28 (dk_at dksX13_number_0 16 rfl rfl)
theorem dX13_number_17 : decode cX13_number 17 = .ok (.invokestatic 74, 3) := dk_184 0 74 (dk_at dksX13_number_0 17 rfl rfl)
theorem dX13_number_20 : decode cX13_number 20 = .ok (.ifCond .eq 7, 3) := dk_153 0 7 (dk_at dksX13_number_0 20 rfl rfl)
theorem dX13_number_23 : decode cX13_number 23 = .ok (.iconst 1, 1) := dk_4 (dk_at dksX13_number_0 23 rfl rfl)
theorem dX13_number_24 : decode cX13_number 24 = .ok (.goto 4, 3) := dk_167 0 4 (dk_at dksX13_number_1 0 rfl rfl)
theorem dX13_number_27 : decode cX13_number 27 = .ok (.iconst 0, 1) := dk_3 (dk_at dksX13_number_1 3 rfl rfl)
theorem dX13_number_28 : decode cX13_number 28 = .ok (.invokevirtual 290, 3) := dk_182 1 34 (dk_at dksX13_number_1 4 rfl rfl)
theorem dX13_number_31 : decode cX13_number 31 = .ok (.iload_n 3, 1) := dk_29 (dk_at dksX13_number_1 7 rfl rfl)
theorem dX13_number_32 : decode cX13_number 32 = .ok (.ireturn, 1) := dk_172 (dk_at dksX13_number_1 8 rfl rfl)
abbrev cX13_item : ByteArray := prog_16_method_93_code
def yX13_item : MethodName := ⟨RX13, "item", "(IIII)V"⟩
def dkwX13_item_2 : List UInt8 := [89, 180, 1, 38, 4, 96, 181, 1, 38, 177]
abbrev dktX13_item_2 : List UInt8 := dkwX13_item_2 ++ []
def dkwX13_item_1 : List UInt8 := [28, 79, 42, 180, 0, 54, 21, 5, 5, 96, 29, 79, 42, 180, 0, 54, 21, 5, 6, 96, 21, 4, 79, 42]
abbrev dktX13_item_1 : List UInt8 := dkwX13_item_1 ++ dktX13_item_2
def dkwX13_item_0 : List UInt8 := [7, 42, 180, 1, 38, 104, 54, 5, 42, 180, 0, 54, 21, 5, 27, 79, 42, 180, 0, 54, 21, 5, 4, 96]
abbrev dktX13_item_0 : List UInt8 := dkwX13_item_0 ++ dktX13_item_1
theorem dksX13_item_0 : cX13_item.data.toList.drop 0 = dktX13_item_0 := by decide +kernel
theorem dksX13_item_1 : cX13_item.data.toList.drop 24 = dktX13_item_1 := dk_seg dksX13_item_0 24 rfl rfl
theorem dksX13_item_2 : cX13_item.data.toList.drop 48 = dktX13_item_2 := dk_seg dksX13_item_1 24 rfl rfl
theorem dX13_item_0 : decode cX13_item 0 = .ok (.iconst 4, 1) := dk_7 (dk_at dksX13_item_0 0 rfl rfl)
theorem dX13_item_1 : decode cX13_item 1 = .ok (.aload_n 0, 1) := dk_42 (dk_at dksX13_item_0 1 rfl rfl)
theorem dX13_item_2 : decode cX13_item 2 = .ok (.getfield 294, 3) := dk_180 1 38 (dk_at dksX13_item_0 2 rfl rfl)
theorem dX13_item_5 : decode cX13_item 5 = .ok (.imul, 1) := dk_104 (dk_at dksX13_item_0 5 rfl rfl)
theorem dX13_item_6 : decode cX13_item 6 = .ok (.istore 5, 2) := dk_54 5 (dk_at dksX13_item_0 6 rfl rfl)
theorem dX13_item_8 : decode cX13_item 8 = .ok (.aload_n 0, 1) := dk_42 (dk_at dksX13_item_0 8 rfl rfl)
theorem dX13_item_9 : decode cX13_item 9 = .ok (.getfield 54, 3) := dk_180 0 54 (dk_at dksX13_item_0 9 rfl rfl)
theorem dX13_item_12 : decode cX13_item 12 = .ok (.iload 5, 2) := dk_21 5 (dk_at dksX13_item_0 12 rfl rfl)
theorem dX13_item_14 : decode cX13_item 14 = .ok (.iload_n 1, 1) := dk_27 (dk_at dksX13_item_0 14 rfl rfl)
theorem dX13_item_15 : decode cX13_item 15 = .ok (.iastore, 1) := dk_79 (dk_at dksX13_item_0 15 rfl rfl)
theorem dX13_item_16 : decode cX13_item 16 = .ok (.aload_n 0, 1) := dk_42 (dk_at dksX13_item_0 16 rfl rfl)
theorem dX13_item_17 : decode cX13_item 17 = .ok (.getfield 54, 3) := dk_180 0 54 (dk_at dksX13_item_0 17 rfl rfl)
theorem dX13_item_20 : decode cX13_item 20 = .ok (.iload 5, 2) := dk_21 5 (dk_at dksX13_item_0 20 rfl rfl)
theorem dX13_item_22 : decode cX13_item 22 = .ok (.iconst 1, 1) := dk_4 (dk_at dksX13_item_0 22 rfl rfl)
theorem dX13_item_23 : decode cX13_item 23 = .ok (.iadd, 1) := dk_96 (dk_at dksX13_item_0 23 rfl rfl)
theorem dX13_item_24 : decode cX13_item 24 = .ok (.iload_n 2, 1) := dk_28 (dk_at dksX13_item_1 0 rfl rfl)
theorem dX13_item_25 : decode cX13_item 25 = .ok (.iastore, 1) := dk_79 (dk_at dksX13_item_1 1 rfl rfl)
theorem dX13_item_26 : decode cX13_item 26 = .ok (.aload_n 0, 1) := dk_42 (dk_at dksX13_item_1 2 rfl rfl)
theorem dX13_item_27 : decode cX13_item 27 = .ok (.getfield 54, 3) := dk_180 0 54 (dk_at dksX13_item_1 3 rfl rfl)
theorem dX13_item_30 : decode cX13_item 30 = .ok (.iload 5, 2) := dk_21 5 (dk_at dksX13_item_1 6 rfl rfl)
theorem dX13_item_32 : decode cX13_item 32 = .ok (.iconst 2, 1) := dk_5 (dk_at dksX13_item_1 8 rfl rfl)
theorem dX13_item_33 : decode cX13_item 33 = .ok (.iadd, 1) := dk_96 (dk_at dksX13_item_1 9 rfl rfl)
theorem dX13_item_34 : decode cX13_item 34 = .ok (.iload_n 3, 1) := dk_29 (dk_at dksX13_item_1 10 rfl rfl)
theorem dX13_item_35 : decode cX13_item 35 = .ok (.iastore, 1) := dk_79 (dk_at dksX13_item_1 11 rfl rfl)
theorem dX13_item_36 : decode cX13_item 36 = .ok (.aload_n 0, 1) := dk_42 (dk_at dksX13_item_1 12 rfl rfl)
theorem dX13_item_37 : decode cX13_item 37 = .ok (.getfield 54, 3) := dk_180 0 54 (dk_at dksX13_item_1 13 rfl rfl)
theorem dX13_item_40 : decode cX13_item 40 = .ok (.iload 5, 2) := dk_21 5 (dk_at dksX13_item_1 16 rfl rfl)
theorem dX13_item_42 : decode cX13_item 42 = .ok (.iconst 3, 1) := dk_6 (dk_at dksX13_item_1 18 rfl rfl)
theorem dX13_item_43 : decode cX13_item 43 = .ok (.iadd, 1) := dk_96 (dk_at dksX13_item_1 19 rfl rfl)
theorem dX13_item_44 : decode cX13_item 44 = .ok (.iload 4, 2) := dk_21 4 (dk_at dksX13_item_1 20 rfl rfl)
theorem dX13_item_46 : decode cX13_item 46 = .ok (.iastore, 1) := dk_79 (dk_at dksX13_item_1 22 rfl rfl)
theorem dX13_item_47 : decode cX13_item 47 = .ok (.aload_n 0, 1) := dk_42 (dk_at dksX13_item_1 23 rfl rfl)
theorem dX13_item_48 : decode cX13_item 48 = .ok (.dup, 1) := dk_89 (dk_at dksX13_item_2 0 rfl rfl)
theorem dX13_item_49 : decode cX13_item 49 = .ok (.getfield 294, 3) := dk_180 1 38 (dk_at dksX13_item_2 1 rfl rfl)
theorem dX13_item_52 : decode cX13_item 52 = .ok (.iconst 1, 1) := dk_4 (dk_at dksX13_item_2 4 rfl rfl)
theorem dX13_item_53 : decode cX13_item 53 = .ok (.iadd, 1) := dk_96 (dk_at dksX13_item_2 5 rfl rfl)
theorem dX13_item_54 : decode cX13_item 54 = .ok (.putfield 294, 3) := dk_181 1 38 (dk_at dksX13_item_2 6 rfl rfl)
theorem dX13_item_57 : decode cX13_item 57 = .ok (.return_, 1) := dk_177 (dk_at dksX13_item_2 9 rfl rfl)
abbrev cX13_isToldSo : ByteArray := prog_16_method_97_code
def yX13_isToldSo : MethodName := ⟨RX13, "isToldSo", "(I)I"⟩
def dkwX13_isToldSo_2 : List UInt8 := [180, 0, 54, 27, 6, 96, 46, 182, 0, 108, 172]
abbrev dktX13_isToldSo_2 : List UInt8 := dkwX13_isToldSo_2 ++ []
def dkwX13_isToldSo_1 : List UInt8 := [16, 20, 100, 29, 182, 0, 91, 167, 0, 25, 42, 28, 29, 42, 180, 0, 54, 27, 5, 96, 46, 42]
abbrev dktX13_isToldSo_1 : List UInt8 := dkwX13_isToldSo_1 ++ dktX13_isToldSo_2
def dkwX13_isToldSo_0 : List UInt8 := [42, 180, 0, 54, 27, 46, 61, 42, 180, 0, 54, 27, 4, 96, 46, 62, 28, 16, 20, 161, 0, 15, 42, 28]
abbrev dktX13_isToldSo_0 : List UInt8 := dkwX13_isToldSo_0 ++ dktX13_isToldSo_1
theorem dksX13_isToldSo_0 : cX13_isToldSo.data.toList.drop 0 = dktX13_isToldSo_0 := by decide +kernel
theorem dksX13_isToldSo_1 : cX13_isToldSo.data.toList.drop 24 = dktX13_isToldSo_1 := dk_seg dksX13_isToldSo_0 24 rfl rfl
theorem dksX13_isToldSo_2 : cX13_isToldSo.data.toList.drop 46 = dktX13_isToldSo_2 := dk_seg dksX13_isToldSo_1 22 rfl rfl
theorem dX13_isToldSo_0 : decode cX13_isToldSo 0 = .ok (.aload_n 0, 1) := dk_42 (dk_at dksX13_isToldSo_0 0 rfl rfl)
theorem dX13_isToldSo_1 : decode cX13_isToldSo 1 = .ok (.getfield 54, 3) := dk_180 0 54 (dk_at dksX13_isToldSo_0 1 rfl rfl)
theorem dX13_isToldSo_4 : decode cX13_isToldSo 4 = .ok (.iload_n 1, 1) := dk_27 (dk_at dksX13_isToldSo_0 4 rfl rfl)
theorem dX13_isToldSo_5 : decode cX13_isToldSo 5 = .ok (.iaload, 1) := dk_46 (dk_at dksX13_isToldSo_0 5 rfl rfl)
theorem dX13_isToldSo_6 : decode cX13_isToldSo 6 = .ok (.istore_n 2, 1) := dk_61 (dk_at dksX13_isToldSo_0 6 rfl rfl)
theorem dX13_isToldSo_7 : decode cX13_isToldSo 7 = .ok (.aload_n 0, 1) := dk_42 (dk_at dksX13_isToldSo_0 7 rfl rfl)
theorem dX13_isToldSo_8 : decode cX13_isToldSo 8 = .ok (.getfield 54, 3) := dk_180 0 54 (dk_at dksX13_isToldSo_0 8 rfl rfl)
theorem dX13_isToldSo_11 : decode cX13_isToldSo 11 = .ok (.iload_n 1, 1) := dk_27 (dk_at dksX13_isToldSo_0 11 rfl rfl)
theorem dX13_isToldSo_12 : decode cX13_isToldSo 12 = .ok (.iconst 1, 1) := dk_4 (dk_at dksX13_isToldSo_0 12 rfl rfl)
theorem dX13_isToldSo_13 : decode cX13_isToldSo 13 = .ok (.iadd, 1) := dk_96 (dk_at dksX13_isToldSo_0 13 rfl rfl)
theorem dX13_isToldSo_14 : decode cX13_isToldSo 14 = .ok (.iaload, 1) := dk_46 (dk_at dksX13_isToldSo_0 14 rfl rfl)
theorem dX13_isToldSo_15 : decode cX13_isToldSo 15 = .ok (.istore_n 3, 1) := dk_62 (dk_at dksX13_isToldSo_0 15 rfl rfl)
theorem dX13_isToldSo_16 : decode cX13_isToldSo 16 = .ok (.iload_n 2, 1) := dk_28 (dk_at dksX13_isToldSo_0 16 rfl rfl)
theorem dX13_isToldSo_17 : decode cX13_isToldSo 17 = .ok (.bipush 20, 2) := dk_16 20 (dk_at dksX13_isToldSo_0 17 rfl rfl)
theorem dX13_isToldSo_19 : decode cX13_isToldSo 19 = .ok (.if_icmp .lt 15, 3) := dk_161 0 15 (dk_at dksX13_isToldSo_0 19 rfl rfl)
theorem dX13_isToldSo_22 : decode cX13_isToldSo 22 = .ok (.aload_n 0, 1) := dk_42 (dk_at dksX13_isToldSo_0 22 rfl rfl)
theorem dX13_isToldSo_23 : decode cX13_isToldSo 23 = .ok (.iload_n 2, 1) := dk_28 (dk_at dksX13_isToldSo_0 23 rfl rfl)
theorem dX13_isToldSo_24 : decode cX13_isToldSo 24 = .ok (.bipush 20, 2) := dk_16 20 (dk_at dksX13_isToldSo_1 0 rfl rfl)
theorem dX13_isToldSo_26 : decode cX13_isToldSo 26 = .ok (.isub, 1) := dk_100 (dk_at dksX13_isToldSo_1 2 rfl rfl)
theorem dX13_isToldSo_27 : decode cX13_isToldSo 27 = .ok (.iload_n 3, 1) := dk_29 (dk_at dksX13_isToldSo_1 3 rfl rfl)
theorem dX13_isToldSo_28 : decode cX13_isToldSo 28 = .ok (.invokevirtual 91, 3) := dk_182 0 91 (dk_at dksX13_isToldSo_1 4 rfl rfl)
theorem dX13_isToldSo_31 : decode cX13_isToldSo 31 = .ok (.goto 25, 3) := dk_167 0 25 (dk_at dksX13_isToldSo_1 7 rfl rfl)
theorem dX13_isToldSo_34 : decode cX13_isToldSo 34 = .ok (.aload_n 0, 1) := dk_42 (dk_at dksX13_isToldSo_1 10 rfl rfl)
theorem dX13_isToldSo_35 : decode cX13_isToldSo 35 = .ok (.iload_n 2, 1) := dk_28 (dk_at dksX13_isToldSo_1 11 rfl rfl)
theorem dX13_isToldSo_36 : decode cX13_isToldSo 36 = .ok (.iload_n 3, 1) := dk_29 (dk_at dksX13_isToldSo_1 12 rfl rfl)
theorem dX13_isToldSo_37 : decode cX13_isToldSo 37 = .ok (.aload_n 0, 1) := dk_42 (dk_at dksX13_isToldSo_1 13 rfl rfl)
theorem dX13_isToldSo_38 : decode cX13_isToldSo 38 = .ok (.getfield 54, 3) := dk_180 0 54 (dk_at dksX13_isToldSo_1 14 rfl rfl)
theorem dX13_isToldSo_41 : decode cX13_isToldSo 41 = .ok (.iload_n 1, 1) := dk_27 (dk_at dksX13_isToldSo_1 17 rfl rfl)
theorem dX13_isToldSo_42 : decode cX13_isToldSo 42 = .ok (.iconst 2, 1) := dk_5 (dk_at dksX13_isToldSo_1 18 rfl rfl)
theorem dX13_isToldSo_43 : decode cX13_isToldSo 43 = .ok (.iadd, 1) := dk_96 (dk_at dksX13_isToldSo_1 19 rfl rfl)
theorem dX13_isToldSo_44 : decode cX13_isToldSo 44 = .ok (.iaload, 1) := dk_46 (dk_at dksX13_isToldSo_1 20 rfl rfl)
theorem dX13_isToldSo_45 : decode cX13_isToldSo 45 = .ok (.aload_n 0, 1) := dk_42 (dk_at dksX13_isToldSo_1 21 rfl rfl)
theorem dX13_isToldSo_46 : decode cX13_isToldSo 46 = .ok (.getfield 54, 3) := dk_180 0 54 (dk_at dksX13_isToldSo_2 0 rfl rfl)
theorem dX13_isToldSo_49 : decode cX13_isToldSo 49 = .ok (.iload_n 1, 1) := dk_27 (dk_at dksX13_isToldSo_2 3 rfl rfl)
theorem dX13_isToldSo_50 : decode cX13_isToldSo 50 = .ok (.iconst 3, 1) := dk_6 (dk_at dksX13_isToldSo_2 4 rfl rfl)
theorem dX13_isToldSo_51 : decode cX13_isToldSo 51 = .ok (.iadd, 1) := dk_96 (dk_at dksX13_isToldSo_2 5 rfl rfl)
theorem dX13_isToldSo_52 : decode cX13_isToldSo 52 = .ok (.iaload, 1) := dk_46 (dk_at dksX13_isToldSo_2 6 rfl rfl)
theorem dX13_isToldSo_53 : decode cX13_isToldSo 53 = .ok (.invokevirtual 108, 3) := dk_182 0 108 (dk_at dksX13_isToldSo_2 7 rfl rfl)
theorem dX13_isToldSo_56 : decode cX13_isToldSo 56 = .ok (.ireturn, 1) := dk_172 (dk_at dksX13_isToldSo_2 10 rfl rfl)
abbrev cX13_hold : ByteArray := prog_16_method_100_code
def yX13_hold : MethodName := ⟨RX13, "hold", "(II)I"⟩
def dkwX13_hold_1 : List UInt8 := [182, 0, 88, 172, 42, 180, 0, 9, 7, 27, 96, 28, 79, 4, 172]
abbrev dktX13_hold_1 : List UInt8 := dkwX13_hold_1 ++ []
def dkwX13_hold_0 : List UInt8 := [27, 184, 1, 80, 153, 0, 16, 28, 2, 159, 0, 18, 42, 28, 182, 0, 141, 154, 0, 10, 42, 18, 69]
abbrev dktX13_hold_0 : List UInt8 := dkwX13_hold_0 ++ dktX13_hold_1
theorem dksX13_hold_0 : cX13_hold.data.toList.drop 0 = dktX13_hold_0 := by decide +kernel
theorem dksX13_hold_1 : cX13_hold.data.toList.drop 23 = dktX13_hold_1 := dk_seg dksX13_hold_0 23 rfl rfl
theorem dX13_hold_0 : decode cX13_hold 0 = .ok (.iload_n 1, 1) := dk_27 (dk_at dksX13_hold_0 0 rfl rfl)
theorem dX13_hold_1 : decode cX13_hold 1 = .ok (.invokestatic 336, 3) := dk_184 1 80 (dk_at dksX13_hold_0 1 rfl rfl)
theorem dX13_hold_4 : decode cX13_hold 4 = .ok (.ifCond .eq 16, 3) := dk_153 0 16 (dk_at dksX13_hold_0 4 rfl rfl)
theorem dX13_hold_7 : decode cX13_hold 7 = .ok (.iload_n 2, 1) := dk_28 (dk_at dksX13_hold_0 7 rfl rfl)
theorem dX13_hold_8 : decode cX13_hold 8 = .ok (.iconst (-1), 1) := dk_2 (dk_at dksX13_hold_0 8 rfl rfl)
theorem dX13_hold_9 : decode cX13_hold 9 = .ok (.if_icmp .eq 18, 3) := dk_159 0 18 (dk_at dksX13_hold_0 9 rfl rfl)
theorem dX13_hold_12 : decode cX13_hold 12 = .ok (.aload_n 0, 1) := dk_42 (dk_at dksX13_hold_0 12 rfl rfl)
theorem dX13_hold_13 : decode cX13_hold 13 = .ok (.iload_n 2, 1) := dk_28 (dk_at dksX13_hold_0 13 rfl rfl)
theorem dX13_hold_14 : decode cX13_hold 14 = .ok (.invokevirtual 141, 3) := dk_182 0 141 (dk_at dksX13_hold_0 14 rfl rfl)
theorem dX13_hold_17 : decode cX13_hold 17 = .ok (.ifCond .ne 10, 3) := dk_154 0 10 (dk_at dksX13_hold_0 17 rfl rfl)
theorem dX13_hold_20 : decode cX13_hold 20 = .ok (.aload_n 0, 1) := dk_42 (dk_at dksX13_hold_0 20 rfl rfl)
theorem dX13_hold_21 : decode cX13_hold 21 = .ok (.ldc 69, 2) := dk_18 69 (dk_at dksX13_hold_0 21 rfl rfl)
theorem dX13_hold_23 : decode cX13_hold 23 = .ok (.invokevirtual 88, 3) := dk_182 0 88 (dk_at dksX13_hold_1 0 rfl rfl)
theorem dX13_hold_26 : decode cX13_hold 26 = .ok (.ireturn, 1) := dk_172 (dk_at dksX13_hold_1 3 rfl rfl)
theorem dX13_hold_27 : decode cX13_hold 27 = .ok (.aload_n 0, 1) := dk_42 (dk_at dksX13_hold_1 4 rfl rfl)
theorem dX13_hold_28 : decode cX13_hold 28 = .ok (.getfield 9, 3) := dk_180 0 9 (dk_at dksX13_hold_1 5 rfl rfl)
theorem dX13_hold_31 : decode cX13_hold 31 = .ok (.iconst 4, 1) := dk_7 (dk_at dksX13_hold_1 8 rfl rfl)
theorem dX13_hold_32 : decode cX13_hold 32 = .ok (.iload_n 1, 1) := dk_27 (dk_at dksX13_hold_1 9 rfl rfl)
theorem dX13_hold_33 : decode cX13_hold 33 = .ok (.iadd, 1) := dk_96 (dk_at dksX13_hold_1 10 rfl rfl)
theorem dX13_hold_34 : decode cX13_hold 34 = .ok (.iload_n 2, 1) := dk_28 (dk_at dksX13_hold_1 11 rfl rfl)
theorem dX13_hold_35 : decode cX13_hold 35 = .ok (.iastore, 1) := dk_79 (dk_at dksX13_hold_1 12 rfl rfl)
theorem dX13_hold_36 : decode cX13_hold 36 = .ok (.iconst 1, 1) := dk_4 (dk_at dksX13_hold_1 13 rfl rfl)
theorem dX13_hold_37 : decode cX13_hold 37 = .ok (.ireturn, 1) := dk_172 (dk_at dksX13_hold_1 14 rfl rfl)
abbrev cX13_isSpot : ByteArray := prog_16_method_99_code
def yX13_isSpot : MethodName := ⟨RX13, "isSpot", "(I)Z"⟩
def dkwX13_isSpot_0 : List UInt8 := [26, 3, 16, 9, 184, 0, 74, 172]
abbrev dktX13_isSpot_0 : List UInt8 := dkwX13_isSpot_0 ++ []
theorem dksX13_isSpot_0 : cX13_isSpot.data.toList.drop 0 = dktX13_isSpot_0 := by decide +kernel
theorem dX13_isSpot_0 : decode cX13_isSpot 0 = .ok (.iload_n 0, 1) := dk_26 (dk_at dksX13_isSpot_0 0 rfl rfl)
theorem dX13_isSpot_1 : decode cX13_isSpot 1 = .ok (.iconst 0, 1) := dk_3 (dk_at dksX13_isSpot_0 1 rfl rfl)
theorem dX13_isSpot_2 : decode cX13_isSpot 2 = .ok (.bipush 9, 2) := dk_16 9 (dk_at dksX13_isSpot_0 2 rfl rfl)
theorem dX13_isSpot_4 : decode cX13_isSpot 4 = .ok (.invokestatic 74, 3) := dk_184 0 74 (dk_at dksX13_isSpot_0 4 rfl rfl)
theorem dX13_isSpot_7 : decode cX13_isSpot 7 = .ok (.ireturn, 1) := dk_172 (dk_at dksX13_isSpot_0 7 rfl rfl)
abbrev cX13_as : ByteArray := prog_16_method_101_code
def yX13_as : MethodName := ⟨RX13, "as", "(II)I"⟩
def dkwX13_as_2 : List UInt8 := [182, 0, 101, 28, 184, 0, 118, 153, 0, 7, 29, 167, 0, 10, 42, 19, 1, 83, 182, 0, 88, 172]
abbrev dktX13_as_2 : List UInt8 := dkwX13_as_2 ++ []
def dkwX13_as_1 : List UInt8 := [180, 0, 9, 7, 27, 96, 46, 62, 29, 156, 0, 10, 42, 18, 214, 182, 0, 88, 172, 42, 29, 3]
abbrev dktX13_as_1 : List UInt8 := dkwX13_as_1 ++ dktX13_as_2
def dkwX13_as_0 : List UInt8 := [27, 184, 1, 80, 153, 0, 10, 28, 184, 0, 104, 154, 0, 10, 42, 18, 69, 182, 0, 88, 172, 42]
abbrev dktX13_as_0 : List UInt8 := dkwX13_as_0 ++ dktX13_as_1
theorem dksX13_as_0 : cX13_as.data.toList.drop 0 = dktX13_as_0 := by decide +kernel
theorem dksX13_as_1 : cX13_as.data.toList.drop 22 = dktX13_as_1 := dk_seg dksX13_as_0 22 rfl rfl
theorem dksX13_as_2 : cX13_as.data.toList.drop 44 = dktX13_as_2 := dk_seg dksX13_as_1 22 rfl rfl
theorem dX13_as_0 : decode cX13_as 0 = .ok (.iload_n 1, 1) := dk_27 (dk_at dksX13_as_0 0 rfl rfl)
theorem dX13_as_1 : decode cX13_as 1 = .ok (.invokestatic 336, 3) := dk_184 1 80 (dk_at dksX13_as_0 1 rfl rfl)
theorem dX13_as_4 : decode cX13_as 4 = .ok (.ifCond .eq 10, 3) := dk_153 0 10 (dk_at dksX13_as_0 4 rfl rfl)
theorem dX13_as_7 : decode cX13_as 7 = .ok (.iload_n 2, 1) := dk_28 (dk_at dksX13_as_0 7 rfl rfl)
theorem dX13_as_8 : decode cX13_as 8 = .ok (.invokestatic 104, 3) := dk_184 0 104 (dk_at dksX13_as_0 8 rfl rfl)
theorem dX13_as_11 : decode cX13_as 11 = .ok (.ifCond .ne 10, 3) := dk_154 0 10 (dk_at dksX13_as_0 11 rfl rfl)
theorem dX13_as_14 : decode cX13_as 14 = .ok (.aload_n 0, 1) := dk_42 (dk_at dksX13_as_0 14 rfl rfl)
theorem dX13_as_15 : decode cX13_as 15 = .ok (.ldc 69, 2) := dk_18 69 (dk_at dksX13_as_0 15 rfl rfl)
theorem dX13_as_17 : decode cX13_as 17 = .ok (.invokevirtual 88, 3) := dk_182 0 88 (dk_at dksX13_as_0 17 rfl rfl)
theorem dX13_as_20 : decode cX13_as 20 = .ok (.ireturn, 1) := dk_172 (dk_at dksX13_as_0 20 rfl rfl)
theorem dX13_as_21 : decode cX13_as 21 = .ok (.aload_n 0, 1) := dk_42 (dk_at dksX13_as_0 21 rfl rfl)
theorem dX13_as_22 : decode cX13_as 22 = .ok (.getfield 9, 3) := dk_180 0 9 (dk_at dksX13_as_1 0 rfl rfl)
theorem dX13_as_25 : decode cX13_as 25 = .ok (.iconst 4, 1) := dk_7 (dk_at dksX13_as_1 3 rfl rfl)
theorem dX13_as_26 : decode cX13_as 26 = .ok (.iload_n 1, 1) := dk_27 (dk_at dksX13_as_1 4 rfl rfl)
theorem dX13_as_27 : decode cX13_as 27 = .ok (.iadd, 1) := dk_96 (dk_at dksX13_as_1 5 rfl rfl)
theorem dX13_as_28 : decode cX13_as 28 = .ok (.iaload, 1) := dk_46 (dk_at dksX13_as_1 6 rfl rfl)
theorem dX13_as_29 : decode cX13_as 29 = .ok (.istore_n 3, 1) := dk_62 (dk_at dksX13_as_1 7 rfl rfl)
theorem dX13_as_30 : decode cX13_as 30 = .ok (.iload_n 3, 1) := dk_29 (dk_at dksX13_as_1 8 rfl rfl)
theorem dX13_as_31 : decode cX13_as 31 = .ok (.ifCond .ge 10, 3) := dk_156 0 10 (dk_at dksX13_as_1 9 rfl rfl)
theorem dX13_as_34 : decode cX13_as 34 = .ok (.aload_n 0, 1) := dk_42 (dk_at dksX13_as_1 12 rfl rfl)
theorem dX13_as_35 : decode cX13_as 35 = .ok (.ldc 214, 2) := dk_18 214 (dk_at dksX13_as_1 13 rfl rfl)
theorem dX13_as_37 : decode cX13_as 37 = .ok (.invokevirtual 88, 3) := dk_182 0 88 (dk_at dksX13_as_1 15 rfl rfl)
theorem dX13_as_40 : decode cX13_as 40 = .ok (.ireturn, 1) := dk_172 (dk_at dksX13_as_1 18 rfl rfl)
theorem dX13_as_41 : decode cX13_as 41 = .ok (.aload_n 0, 1) := dk_42 (dk_at dksX13_as_1 19 rfl rfl)
theorem dX13_as_42 : decode cX13_as 42 = .ok (.iload_n 3, 1) := dk_29 (dk_at dksX13_as_1 20 rfl rfl)
theorem dX13_as_43 : decode cX13_as 43 = .ok (.iconst 0, 1) := dk_3 (dk_at dksX13_as_1 21 rfl rfl)
theorem dX13_as_44 : decode cX13_as 44 = .ok (.invokevirtual 101, 3) := dk_182 0 101 (dk_at dksX13_as_2 0 rfl rfl)
theorem dX13_as_47 : decode cX13_as 47 = .ok (.iload_n 2, 1) := dk_28 (dk_at dksX13_as_2 3 rfl rfl)
theorem dX13_as_48 : decode cX13_as 48 = .ok (.invokestatic 118, 3) := dk_184 0 118 (dk_at dksX13_as_2 4 rfl rfl)
theorem dX13_as_51 : decode cX13_as 51 = .ok (.ifCond .eq 7, 3) := dk_153 0 7 (dk_at dksX13_as_2 7 rfl rfl)
theorem dX13_as_54 : decode cX13_as 54 = .ok (.iload_n 3, 1) := dk_29 (dk_at dksX13_as_2 10 rfl rfl)
theorem dX13_as_55 : decode cX13_as 55 = .ok (.goto 10, 3) := dk_167 0 10 (dk_at dksX13_as_2 11 rfl rfl)
theorem dX13_as_58 : decode cX13_as 58 = .ok (.aload_n 0, 1) := dk_42 (dk_at dksX13_as_2 14 rfl rfl)
theorem dX13_as_59 : decode cX13_as 59 = .ok (.ldc_w 339, 3) := dk_19 1 83 (dk_at dksX13_as_2 15 rfl rfl)
theorem dX13_as_62 : decode cX13_as 62 = .ok (.invokevirtual 88, 3) := dk_182 0 88 (dk_at dksX13_as_2 18 rfl rfl)
theorem dX13_as_65 : decode cX13_as 65 = .ok (.ireturn, 1) := dk_172 (dk_at dksX13_as_2 21 rfl rfl)
abbrev cX13_sheet : ByteArray := prog_16_method_104_code
def yX13_sheet : MethodName := ⟨RX13, "sheet", "(III)I"⟩
def dkwX13_sheet_5 : List UInt8 := [172]
abbrev dktX13_sheet_5 : List UInt8 := dkwX13_sheet_5 ++ []
def dkwX13_sheet_4 : List UInt8 := [180, 0, 63, 16, 40, 27, 104, 21, 4, 96, 3, 79, 132, 4, 1, 167, 255, 233, 42, 180, 0, 60, 27, 46]
abbrev dktX13_sheet_4 : List UInt8 := dkwX13_sheet_4 ++ dktX13_sheet_5
def dkwX13_sheet_3 : List UInt8 := [27, 28, 154, 0, 7, 3, 167, 0, 4, 29, 79, 3, 54, 4, 21, 4, 16, 40, 162, 0, 22, 42]
abbrev dktX13_sheet_3 : List UInt8 := dkwX13_sheet_3 ++ dktX13_sheet_4
def dkwX13_sheet_2 : List UInt8 := [29, 16, 40, 164, 0, 10, 42, 18, 69, 182, 0, 88, 172, 42, 180, 0, 57, 27, 28, 79, 42, 180, 0, 60]
abbrev dktX13_sheet_2 : List UInt8 := dkwX13_sheet_2 ++ dktX13_sheet_3
def dkwX13_sheet_1 : List UInt8 := [16, 32, 159, 0, 10, 42, 18, 69, 182, 0, 88, 172, 29, 156, 0, 11, 42, 19, 1, 84, 182, 0, 88, 172]
abbrev dktX13_sheet_1 : List UInt8 := dkwX13_sheet_1 ++ dktX13_sheet_2
def dkwX13_sheet_0 : List UInt8 := [27, 184, 0, 211, 153, 0, 25, 28, 153, 0, 28, 28, 16, 8, 159, 0, 22, 28, 16, 16, 159, 0, 16, 28]
abbrev dktX13_sheet_0 : List UInt8 := dkwX13_sheet_0 ++ dktX13_sheet_1
theorem dksX13_sheet_0 : cX13_sheet.data.toList.drop 0 = dktX13_sheet_0 := by decide +kernel
theorem dksX13_sheet_1 : cX13_sheet.data.toList.drop 24 = dktX13_sheet_1 := dk_seg dksX13_sheet_0 24 rfl rfl
theorem dksX13_sheet_2 : cX13_sheet.data.toList.drop 48 = dktX13_sheet_2 := dk_seg dksX13_sheet_1 24 rfl rfl
theorem dksX13_sheet_3 : cX13_sheet.data.toList.drop 72 = dktX13_sheet_3 := dk_seg dksX13_sheet_2 24 rfl rfl
theorem dksX13_sheet_4 : cX13_sheet.data.toList.drop 94 = dktX13_sheet_4 := dk_seg dksX13_sheet_3 22 rfl rfl
theorem dksX13_sheet_5 : cX13_sheet.data.toList.drop 118 = dktX13_sheet_5 := dk_seg dksX13_sheet_4 24 rfl rfl
theorem dX13_sheet_0 : decode cX13_sheet 0 = .ok (.iload_n 1, 1) := dk_27 (dk_at dksX13_sheet_0 0 rfl rfl)
theorem dX13_sheet_1 : decode cX13_sheet 1 = .ok (.invokestatic 211, 3) := dk_184 0 211 (dk_at dksX13_sheet_0 1 rfl rfl)
theorem dX13_sheet_4 : decode cX13_sheet 4 = .ok (.ifCond .eq 25, 3) := dk_153 0 25 (dk_at dksX13_sheet_0 4 rfl rfl)
theorem dX13_sheet_7 : decode cX13_sheet 7 = .ok (.iload_n 2, 1) := dk_28 (dk_at dksX13_sheet_0 7 rfl rfl)
theorem dX13_sheet_8 : decode cX13_sheet 8 = .ok (.ifCond .eq 28, 3) := dk_153 0 28 (dk_at dksX13_sheet_0 8 rfl rfl)
theorem dX13_sheet_11 : decode cX13_sheet 11 = .ok (.iload_n 2, 1) := dk_28 (dk_at dksX13_sheet_0 11 rfl rfl)
theorem dX13_sheet_12 : decode cX13_sheet 12 = .ok (.bipush 8, 2) := dk_16 8 (dk_at dksX13_sheet_0 12 rfl rfl)
theorem dX13_sheet_14 : decode cX13_sheet 14 = .ok (.if_icmp .eq 22, 3) := dk_159 0 22 (dk_at dksX13_sheet_0 14 rfl rfl)
theorem dX13_sheet_17 : decode cX13_sheet 17 = .ok (.iload_n 2, 1) := dk_28 (dk_at dksX13_sheet_0 17 rfl rfl)
theorem dX13_sheet_18 : decode cX13_sheet 18 = .ok (.bipush 16, 2) := dk_16 16 (dk_at dksX13_sheet_0 18 rfl rfl)
theorem dX13_sheet_20 : decode cX13_sheet 20 = .ok (.if_icmp .eq 16, 3) := dk_159 0 16 (dk_at dksX13_sheet_0 20 rfl rfl)
theorem dX13_sheet_23 : decode cX13_sheet 23 = .ok (.iload_n 2, 1) := dk_28 (dk_at dksX13_sheet_0 23 rfl rfl)
theorem dX13_sheet_24 : decode cX13_sheet 24 = .ok (.bipush 32, 2) := dk_16 32 (dk_at dksX13_sheet_1 0 rfl rfl)
theorem dX13_sheet_26 : decode cX13_sheet 26 = .ok (.if_icmp .eq 10, 3) := dk_159 0 10 (dk_at dksX13_sheet_1 2 rfl rfl)
theorem dX13_sheet_29 : decode cX13_sheet 29 = .ok (.aload_n 0, 1) := dk_42 (dk_at dksX13_sheet_1 5 rfl rfl)
theorem dX13_sheet_30 : decode cX13_sheet 30 = .ok (.ldc 69, 2) := dk_18 69 (dk_at dksX13_sheet_1 6 rfl rfl)
theorem dX13_sheet_32 : decode cX13_sheet 32 = .ok (.invokevirtual 88, 3) := dk_182 0 88 (dk_at dksX13_sheet_1 8 rfl rfl)
theorem dX13_sheet_35 : decode cX13_sheet 35 = .ok (.ireturn, 1) := dk_172 (dk_at dksX13_sheet_1 11 rfl rfl)
theorem dX13_sheet_36 : decode cX13_sheet 36 = .ok (.iload_n 3, 1) := dk_29 (dk_at dksX13_sheet_1 12 rfl rfl)
theorem dX13_sheet_37 : decode cX13_sheet 37 = .ok (.ifCond .ge 11, 3) := dk_156 0 11 (dk_at dksX13_sheet_1 13 rfl rfl)
theorem dX13_sheet_40 : decode cX13_sheet 40 = .ok (.aload_n 0, 1) := dk_42 (dk_at dksX13_sheet_1 16 rfl rfl)
theorem dX13_sheet_41 : decode cX13_sheet 41 = .ok (.ldc_w 340, 3) := dk_19 1 84 (dk_at dksX13_sheet_1 17 rfl rfl)
theorem dX13_sheet_44 : decode cX13_sheet 44 = .ok (.invokevirtual 88, 3) := dk_182 0 88 (dk_at dksX13_sheet_1 20 rfl rfl)
theorem dX13_sheet_47 : decode cX13_sheet 47 = .ok (.ireturn, 1) := dk_172 (dk_at dksX13_sheet_1 23 rfl rfl)
theorem dX13_sheet_48 : decode cX13_sheet 48 = .ok (.iload_n 3, 1) := dk_29 (dk_at dksX13_sheet_2 0 rfl rfl)
theorem dX13_sheet_49 : decode cX13_sheet 49 = .ok (.bipush 40, 2) := dk_16 40 (dk_at dksX13_sheet_2 1 rfl rfl)
theorem dX13_sheet_51 : decode cX13_sheet 51 = .ok (.if_icmp .le 10, 3) := dk_164 0 10 (dk_at dksX13_sheet_2 3 rfl rfl)
theorem dX13_sheet_54 : decode cX13_sheet 54 = .ok (.aload_n 0, 1) := dk_42 (dk_at dksX13_sheet_2 6 rfl rfl)
theorem dX13_sheet_55 : decode cX13_sheet 55 = .ok (.ldc 69, 2) := dk_18 69 (dk_at dksX13_sheet_2 7 rfl rfl)
theorem dX13_sheet_57 : decode cX13_sheet 57 = .ok (.invokevirtual 88, 3) := dk_182 0 88 (dk_at dksX13_sheet_2 9 rfl rfl)
theorem dX13_sheet_60 : decode cX13_sheet 60 = .ok (.ireturn, 1) := dk_172 (dk_at dksX13_sheet_2 12 rfl rfl)
theorem dX13_sheet_61 : decode cX13_sheet 61 = .ok (.aload_n 0, 1) := dk_42 (dk_at dksX13_sheet_2 13 rfl rfl)
theorem dX13_sheet_62 : decode cX13_sheet 62 = .ok (.getfield 57, 3) := dk_180 0 57 (dk_at dksX13_sheet_2 14 rfl rfl)
theorem dX13_sheet_65 : decode cX13_sheet 65 = .ok (.iload_n 1, 1) := dk_27 (dk_at dksX13_sheet_2 17 rfl rfl)
theorem dX13_sheet_66 : decode cX13_sheet 66 = .ok (.iload_n 2, 1) := dk_28 (dk_at dksX13_sheet_2 18 rfl rfl)
theorem dX13_sheet_67 : decode cX13_sheet 67 = .ok (.iastore, 1) := dk_79 (dk_at dksX13_sheet_2 19 rfl rfl)
theorem dX13_sheet_68 : decode cX13_sheet 68 = .ok (.aload_n 0, 1) := dk_42 (dk_at dksX13_sheet_2 20 rfl rfl)
theorem dX13_sheet_69 : decode cX13_sheet 69 = .ok (.getfield 60, 3) := dk_180 0 60 (dk_at dksX13_sheet_2 21 rfl rfl)
theorem dX13_sheet_72 : decode cX13_sheet 72 = .ok (.iload_n 1, 1) := dk_27 (dk_at dksX13_sheet_3 0 rfl rfl)
theorem dX13_sheet_73 : decode cX13_sheet 73 = .ok (.iload_n 2, 1) := dk_28 (dk_at dksX13_sheet_3 1 rfl rfl)
theorem dX13_sheet_74 : decode cX13_sheet 74 = .ok (.ifCond .ne 7, 3) := dk_154 0 7 (dk_at dksX13_sheet_3 2 rfl rfl)
theorem dX13_sheet_77 : decode cX13_sheet 77 = .ok (.iconst 0, 1) := dk_3 (dk_at dksX13_sheet_3 5 rfl rfl)
theorem dX13_sheet_78 : decode cX13_sheet 78 = .ok (.goto 4, 3) := dk_167 0 4 (dk_at dksX13_sheet_3 6 rfl rfl)
theorem dX13_sheet_81 : decode cX13_sheet 81 = .ok (.iload_n 3, 1) := dk_29 (dk_at dksX13_sheet_3 9 rfl rfl)
theorem dX13_sheet_82 : decode cX13_sheet 82 = .ok (.iastore, 1) := dk_79 (dk_at dksX13_sheet_3 10 rfl rfl)
theorem dX13_sheet_83 : decode cX13_sheet 83 = .ok (.iconst 0, 1) := dk_3 (dk_at dksX13_sheet_3 11 rfl rfl)
theorem dX13_sheet_84 : decode cX13_sheet 84 = .ok (.istore 4, 2) := dk_54 4 (dk_at dksX13_sheet_3 12 rfl rfl)
theorem dX13_sheet_86 : decode cX13_sheet 86 = .ok (.iload 4, 2) := dk_21 4 (dk_at dksX13_sheet_3 14 rfl rfl)
theorem dX13_sheet_88 : decode cX13_sheet 88 = .ok (.bipush 40, 2) := dk_16 40 (dk_at dksX13_sheet_3 16 rfl rfl)
theorem dX13_sheet_90 : decode cX13_sheet 90 = .ok (.if_icmp .ge 22, 3) := dk_162 0 22 (dk_at dksX13_sheet_3 18 rfl rfl)
theorem dX13_sheet_93 : decode cX13_sheet 93 = .ok (.aload_n 0, 1) := dk_42 (dk_at dksX13_sheet_3 21 rfl rfl)
theorem dX13_sheet_94 : decode cX13_sheet 94 = .ok (.getfield 63, 3) := dk_180 0 63 (dk_at dksX13_sheet_4 0 rfl rfl)
theorem dX13_sheet_97 : decode cX13_sheet 97 = .ok (.bipush 40, 2) := dk_16 40 (dk_at dksX13_sheet_4 3 rfl rfl)
theorem dX13_sheet_99 : decode cX13_sheet 99 = .ok (.iload_n 1, 1) := dk_27 (dk_at dksX13_sheet_4 5 rfl rfl)
theorem dX13_sheet_100 : decode cX13_sheet 100 = .ok (.imul, 1) := dk_104 (dk_at dksX13_sheet_4 6 rfl rfl)
theorem dX13_sheet_101 : decode cX13_sheet 101 = .ok (.iload 4, 2) := dk_21 4 (dk_at dksX13_sheet_4 7 rfl rfl)
theorem dX13_sheet_103 : decode cX13_sheet 103 = .ok (.iadd, 1) := dk_96 (dk_at dksX13_sheet_4 9 rfl rfl)
theorem dX13_sheet_104 : decode cX13_sheet 104 = .ok (.iconst 0, 1) := dk_3 (dk_at dksX13_sheet_4 10 rfl rfl)
theorem dX13_sheet_105 : decode cX13_sheet 105 = .ok (.iastore, 1) := dk_79 (dk_at dksX13_sheet_4 11 rfl rfl)
theorem dX13_sheet_106 : decode cX13_sheet 106 = .ok (.iinc 4 1, 3) := dk_132 4 1 (dk_at dksX13_sheet_4 12 rfl rfl)
theorem dX13_sheet_109 : decode cX13_sheet 109 = .ok (.goto (-23), 3) := dk_167 255 233 (dk_at dksX13_sheet_4 15 rfl rfl)
theorem dX13_sheet_112 : decode cX13_sheet 112 = .ok (.aload_n 0, 1) := dk_42 (dk_at dksX13_sheet_4 18 rfl rfl)
theorem dX13_sheet_113 : decode cX13_sheet 113 = .ok (.getfield 60, 3) := dk_180 0 60 (dk_at dksX13_sheet_4 19 rfl rfl)
theorem dX13_sheet_116 : decode cX13_sheet 116 = .ok (.iload_n 1, 1) := dk_27 (dk_at dksX13_sheet_4 22 rfl rfl)
theorem dX13_sheet_117 : decode cX13_sheet 117 = .ok (.iaload, 1) := dk_46 (dk_at dksX13_sheet_4 23 rfl rfl)
theorem dX13_sheet_118 : decode cX13_sheet 118 = .ok (.ireturn, 1) := dk_172 (dk_at dksX13_sheet_5 0 rfl rfl)
abbrev cX13_write : ByteArray := prog_16_method_105_code
def yX13_write : MethodName := ⟨RX13, "write", "(III)I"⟩
def dkwX13_write_3 : List UInt8 := [184, 1, 85, 79, 4, 172]
abbrev dktX13_write_3 : List UInt8 := dkwX13_write_3 ++ []
def dkwX13_write_2 : List UInt8 := [18, 69, 182, 0, 88, 172, 42, 180, 0, 63, 16, 40, 27, 104, 28, 96, 29, 42, 180, 0, 57, 27, 46]
abbrev dktX13_write_2 : List UInt8 := dkwX13_write_2 ++ dktX13_write_3
def dkwX13_write_1 : List UInt8 := [18, 214, 182, 0, 88, 172, 28, 3, 42, 180, 0, 60, 27, 46, 4, 100, 184, 0, 74, 154, 0, 10, 42]
abbrev dktX13_write_1 : List UInt8 := dkwX13_write_1 ++ dktX13_write_2
def dkwX13_write_0 : List UInt8 := [27, 184, 0, 211, 154, 0, 10, 42, 18, 69, 182, 0, 88, 172, 42, 180, 0, 57, 27, 46, 154, 0, 10, 42]
abbrev dktX13_write_0 : List UInt8 := dkwX13_write_0 ++ dktX13_write_1
theorem dksX13_write_0 : cX13_write.data.toList.drop 0 = dktX13_write_0 := by decide +kernel
theorem dksX13_write_1 : cX13_write.data.toList.drop 24 = dktX13_write_1 := dk_seg dksX13_write_0 24 rfl rfl
theorem dksX13_write_2 : cX13_write.data.toList.drop 47 = dktX13_write_2 := dk_seg dksX13_write_1 23 rfl rfl
theorem dksX13_write_3 : cX13_write.data.toList.drop 70 = dktX13_write_3 := dk_seg dksX13_write_2 23 rfl rfl
theorem dX13_write_0 : decode cX13_write 0 = .ok (.iload_n 1, 1) := dk_27 (dk_at dksX13_write_0 0 rfl rfl)
theorem dX13_write_1 : decode cX13_write 1 = .ok (.invokestatic 211, 3) := dk_184 0 211 (dk_at dksX13_write_0 1 rfl rfl)
theorem dX13_write_4 : decode cX13_write 4 = .ok (.ifCond .ne 10, 3) := dk_154 0 10 (dk_at dksX13_write_0 4 rfl rfl)
theorem dX13_write_7 : decode cX13_write 7 = .ok (.aload_n 0, 1) := dk_42 (dk_at dksX13_write_0 7 rfl rfl)
theorem dX13_write_8 : decode cX13_write 8 = .ok (.ldc 69, 2) := dk_18 69 (dk_at dksX13_write_0 8 rfl rfl)
theorem dX13_write_10 : decode cX13_write 10 = .ok (.invokevirtual 88, 3) := dk_182 0 88 (dk_at dksX13_write_0 10 rfl rfl)
theorem dX13_write_13 : decode cX13_write 13 = .ok (.ireturn, 1) := dk_172 (dk_at dksX13_write_0 13 rfl rfl)
theorem dX13_write_14 : decode cX13_write 14 = .ok (.aload_n 0, 1) := dk_42 (dk_at dksX13_write_0 14 rfl rfl)
theorem dX13_write_15 : decode cX13_write 15 = .ok (.getfield 57, 3) := dk_180 0 57 (dk_at dksX13_write_0 15 rfl rfl)
theorem dX13_write_18 : decode cX13_write 18 = .ok (.iload_n 1, 1) := dk_27 (dk_at dksX13_write_0 18 rfl rfl)
theorem dX13_write_19 : decode cX13_write 19 = .ok (.iaload, 1) := dk_46 (dk_at dksX13_write_0 19 rfl rfl)
theorem dX13_write_20 : decode cX13_write 20 = .ok (.ifCond .ne 10, 3) := dk_154 0 10 (dk_at dksX13_write_0 20 rfl rfl)
theorem dX13_write_23 : decode cX13_write 23 = .ok (.aload_n 0, 1) := dk_42 (dk_at dksX13_write_0 23 rfl rfl)
theorem dX13_write_24 : decode cX13_write 24 = .ok (.ldc 214, 2) := dk_18 214 (dk_at dksX13_write_1 0 rfl rfl)
theorem dX13_write_26 : decode cX13_write 26 = .ok (.invokevirtual 88, 3) := dk_182 0 88 (dk_at dksX13_write_1 2 rfl rfl)
theorem dX13_write_29 : decode cX13_write 29 = .ok (.ireturn, 1) := dk_172 (dk_at dksX13_write_1 5 rfl rfl)
theorem dX13_write_30 : decode cX13_write 30 = .ok (.iload_n 2, 1) := dk_28 (dk_at dksX13_write_1 6 rfl rfl)
theorem dX13_write_31 : decode cX13_write 31 = .ok (.iconst 0, 1) := dk_3 (dk_at dksX13_write_1 7 rfl rfl)
theorem dX13_write_32 : decode cX13_write 32 = .ok (.aload_n 0, 1) := dk_42 (dk_at dksX13_write_1 8 rfl rfl)
theorem dX13_write_33 : decode cX13_write 33 = .ok (.getfield 60, 3) := dk_180 0 60 (dk_at dksX13_write_1 9 rfl rfl)
theorem dX13_write_36 : decode cX13_write 36 = .ok (.iload_n 1, 1) := dk_27 (dk_at dksX13_write_1 12 rfl rfl)
theorem dX13_write_37 : decode cX13_write 37 = .ok (.iaload, 1) := dk_46 (dk_at dksX13_write_1 13 rfl rfl)
theorem dX13_write_38 : decode cX13_write 38 = .ok (.iconst 1, 1) := dk_4 (dk_at dksX13_write_1 14 rfl rfl)
theorem dX13_write_39 : decode cX13_write 39 = .ok (.isub, 1) := dk_100 (dk_at dksX13_write_1 15 rfl rfl)
theorem dX13_write_40 : decode cX13_write 40 = .ok (.invokestatic 74, 3) := dk_184 0 74 (dk_at dksX13_write_1 16 rfl rfl)
theorem dX13_write_43 : decode cX13_write 43 = .ok (.ifCond .ne 10, 3) := dk_154 0 10 (dk_at dksX13_write_1 19 rfl rfl)
theorem dX13_write_46 : decode cX13_write 46 = .ok (.aload_n 0, 1) := dk_42 (dk_at dksX13_write_1 22 rfl rfl)
theorem dX13_write_47 : decode cX13_write 47 = .ok (.ldc 69, 2) := dk_18 69 (dk_at dksX13_write_2 0 rfl rfl)
theorem dX13_write_49 : decode cX13_write 49 = .ok (.invokevirtual 88, 3) := dk_182 0 88 (dk_at dksX13_write_2 2 rfl rfl)
theorem dX13_write_52 : decode cX13_write 52 = .ok (.ireturn, 1) := dk_172 (dk_at dksX13_write_2 5 rfl rfl)
theorem dX13_write_53 : decode cX13_write 53 = .ok (.aload_n 0, 1) := dk_42 (dk_at dksX13_write_2 6 rfl rfl)
theorem dX13_write_54 : decode cX13_write 54 = .ok (.getfield 63, 3) := dk_180 0 63 (dk_at dksX13_write_2 7 rfl rfl)
theorem dX13_write_57 : decode cX13_write 57 = .ok (.bipush 40, 2) := dk_16 40 (dk_at dksX13_write_2 10 rfl rfl)
theorem dX13_write_59 : decode cX13_write 59 = .ok (.iload_n 1, 1) := dk_27 (dk_at dksX13_write_2 12 rfl rfl)
theorem dX13_write_60 : decode cX13_write 60 = .ok (.imul, 1) := dk_104 (dk_at dksX13_write_2 13 rfl rfl)
theorem dX13_write_61 : decode cX13_write 61 = .ok (.iload_n 2, 1) := dk_28 (dk_at dksX13_write_2 14 rfl rfl)
theorem dX13_write_62 : decode cX13_write 62 = .ok (.iadd, 1) := dk_96 (dk_at dksX13_write_2 15 rfl rfl)
theorem dX13_write_63 : decode cX13_write 63 = .ok (.iload_n 3, 1) := dk_29 (dk_at dksX13_write_2 16 rfl rfl)
theorem dX13_write_64 : decode cX13_write 64 = .ok (.aload_n 0, 1) := dk_42 (dk_at dksX13_write_2 17 rfl rfl)
theorem dX13_write_65 : decode cX13_write 65 = .ok (.getfield 57, 3) := dk_180 0 57 (dk_at dksX13_write_2 18 rfl rfl)
theorem dX13_write_68 : decode cX13_write 68 = .ok (.iload_n 1, 1) := dk_27 (dk_at dksX13_write_2 21 rfl rfl)
theorem dX13_write_69 : decode cX13_write 69 = .ok (.iaload, 1) := dk_46 (dk_at dksX13_write_2 22 rfl rfl)
theorem dX13_write_70 : decode cX13_write 70 = .ok (.invokestatic 341, 3) := dk_184 1 85 (dk_at dksX13_write_3 0 rfl rfl)
theorem dX13_write_73 : decode cX13_write 73 = .ok (.iastore, 1) := dk_79 (dk_at dksX13_write_3 3 rfl rfl)
theorem dX13_write_74 : decode cX13_write 74 = .ok (.iconst 1, 1) := dk_4 (dk_at dksX13_write_3 4 rfl rfl)
theorem dX13_write_75 : decode cX13_write 75 = .ok (.ireturn, 1) := dk_172 (dk_at dksX13_write_3 5 rfl rfl)
abbrev cX13_cutTo : ByteArray := prog_16_method_103_code
def yX13_cutTo : MethodName := ⟨RX13, "cutTo", "(II)I"⟩
def dkwX13_cutTo_0 : List UInt8 := [27, 16, 8, 160, 0, 8, 26, 145, 167, 0, 15, 27, 16, 16, 160, 0, 8, 26, 147, 167, 0, 4, 26, 172]
abbrev dktX13_cutTo_0 : List UInt8 := dkwX13_cutTo_0 ++ []
theorem dksX13_cutTo_0 : cX13_cutTo.data.toList.drop 0 = dktX13_cutTo_0 := by decide +kernel
theorem dX13_cutTo_0 : decode cX13_cutTo 0 = .ok (.iload_n 1, 1) := dk_27 (dk_at dksX13_cutTo_0 0 rfl rfl)
theorem dX13_cutTo_1 : decode cX13_cutTo 1 = .ok (.bipush 8, 2) := dk_16 8 (dk_at dksX13_cutTo_0 1 rfl rfl)
theorem dX13_cutTo_3 : decode cX13_cutTo 3 = .ok (.if_icmp .ne 8, 3) := dk_160 0 8 (dk_at dksX13_cutTo_0 3 rfl rfl)
theorem dX13_cutTo_6 : decode cX13_cutTo 6 = .ok (.iload_n 0, 1) := dk_26 (dk_at dksX13_cutTo_0 6 rfl rfl)
theorem dX13_cutTo_7 : decode cX13_cutTo 7 = .ok (.i2b, 1) := dk_145 (dk_at dksX13_cutTo_0 7 rfl rfl)
theorem dX13_cutTo_8 : decode cX13_cutTo 8 = .ok (.goto 15, 3) := dk_167 0 15 (dk_at dksX13_cutTo_0 8 rfl rfl)
theorem dX13_cutTo_11 : decode cX13_cutTo 11 = .ok (.iload_n 1, 1) := dk_27 (dk_at dksX13_cutTo_0 11 rfl rfl)
theorem dX13_cutTo_12 : decode cX13_cutTo 12 = .ok (.bipush 16, 2) := dk_16 16 (dk_at dksX13_cutTo_0 12 rfl rfl)
theorem dX13_cutTo_14 : decode cX13_cutTo 14 = .ok (.if_icmp .ne 8, 3) := dk_160 0 8 (dk_at dksX13_cutTo_0 14 rfl rfl)
theorem dX13_cutTo_17 : decode cX13_cutTo 17 = .ok (.iload_n 0, 1) := dk_26 (dk_at dksX13_cutTo_0 17 rfl rfl)
theorem dX13_cutTo_18 : decode cX13_cutTo 18 = .ok (.i2s, 1) := dk_147 (dk_at dksX13_cutTo_0 18 rfl rfl)
theorem dX13_cutTo_19 : decode cX13_cutTo 19 = .ok (.goto 4, 3) := dk_167 0 4 (dk_at dksX13_cutTo_0 19 rfl rfl)
theorem dX13_cutTo_22 : decode cX13_cutTo 22 = .ok (.iload_n 0, 1) := dk_26 (dk_at dksX13_cutTo_0 22 rfl rfl)
theorem dX13_cutTo_23 : decode cX13_cutTo 23 = .ok (.ireturn, 1) := dk_172 (dk_at dksX13_cutTo_0 23 rfl rfl)
abbrev cX13_copy : ByteArray := prog_16_method_106_code
def yX13_copy : MethodName := ⟨RX13, "copy", "(IIIII)I"⟩
def dkwX13_copy_8 : List UInt8 := [180, 0, 66, 21, 6, 46, 79, 132, 6, 1, 167, 255, 224, 21, 5, 172]
abbrev dktX13_copy_8 : List UInt8 := dkwX13_copy_8 ++ []
def dkwX13_copy_7 : List UInt8 := [21, 6, 21, 5, 162, 0, 31, 42, 180, 0, 63, 16, 40, 29, 104, 21, 4, 96, 21, 6, 96, 42]
abbrev dktX13_copy_7 : List UInt8 := dkwX13_copy_7 ++ dktX13_copy_8
def dkwX13_copy_6 : List UInt8 := [180, 0, 63, 16, 40, 27, 104, 28, 96, 21, 6, 96, 46, 79, 132, 6, 1, 167, 255, 225, 3, 54, 6]
abbrev dktX13_copy_6 : List UInt8 := dkwX13_copy_6 ++ dktX13_copy_7
def dkwX13_copy_5 : List UInt8 := [42, 18, 69, 182, 0, 88, 172, 3, 54, 6, 21, 6, 21, 5, 162, 0, 30, 42, 180, 0, 66, 21, 6, 42]
abbrev dktX13_copy_5 : List UInt8 := dkwX13_copy_5 ++ dktX13_copy_6
def dkwX13_copy_4 : List UInt8 := [46, 133, 148, 157, 0, 21, 21, 4, 133, 21, 5, 133, 97, 42, 180, 0, 60, 29, 46, 133, 148, 158, 0, 10]
abbrev dktX13_copy_4 : List UInt8 := dkwX13_copy_4 ++ dktX13_copy_5
def dkwX13_copy_3 : List UInt8 := [155, 0, 48, 21, 4, 155, 0, 43, 21, 5, 155, 0, 38, 28, 133, 21, 5, 133, 97, 42, 180, 0, 60, 27]
abbrev dktX13_copy_3 : List UInt8 := dkwX13_copy_3 ++ dktX13_copy_4
def dkwX13_copy_2 : List UInt8 := [42, 180, 0, 57, 27, 46, 42, 180, 0, 57, 29, 46, 159, 0, 11, 42, 19, 1, 83, 182, 0, 88, 172, 28]
abbrev dktX13_copy_2 : List UInt8 := dkwX13_copy_2 ++ dktX13_copy_3
def dkwX13_copy_1 : List UInt8 := [180, 0, 57, 27, 46, 153, 0, 12, 42, 180, 0, 57, 29, 46, 154, 0, 10, 42, 18, 214, 182, 0, 88, 172]
abbrev dktX13_copy_1 : List UInt8 := dkwX13_copy_1 ++ dktX13_copy_2
def dkwX13_copy_0 : List UInt8 := [27, 184, 0, 211, 153, 0, 10, 29, 184, 0, 211, 154, 0, 10, 42, 18, 69, 182, 0, 88, 172, 42]
abbrev dktX13_copy_0 : List UInt8 := dkwX13_copy_0 ++ dktX13_copy_1
theorem dksX13_copy_0 : cX13_copy.data.toList.drop 0 = dktX13_copy_0 := by decide +kernel
theorem dksX13_copy_1 : cX13_copy.data.toList.drop 22 = dktX13_copy_1 := dk_seg dksX13_copy_0 22 rfl rfl
theorem dksX13_copy_2 : cX13_copy.data.toList.drop 46 = dktX13_copy_2 := dk_seg dksX13_copy_1 24 rfl rfl
theorem dksX13_copy_3 : cX13_copy.data.toList.drop 70 = dktX13_copy_3 := dk_seg dksX13_copy_2 24 rfl rfl
theorem dksX13_copy_4 : cX13_copy.data.toList.drop 94 = dktX13_copy_4 := dk_seg dksX13_copy_3 24 rfl rfl
theorem dksX13_copy_5 : cX13_copy.data.toList.drop 118 = dktX13_copy_5 := dk_seg dksX13_copy_4 24 rfl rfl
theorem dksX13_copy_6 : cX13_copy.data.toList.drop 142 = dktX13_copy_6 := dk_seg dksX13_copy_5 24 rfl rfl
theorem dksX13_copy_7 : cX13_copy.data.toList.drop 165 = dktX13_copy_7 := dk_seg dksX13_copy_6 23 rfl rfl
theorem dksX13_copy_8 : cX13_copy.data.toList.drop 187 = dktX13_copy_8 := dk_seg dksX13_copy_7 22 rfl rfl
theorem dX13_copy_0 : decode cX13_copy 0 = .ok (.iload_n 1, 1) := dk_27 (dk_at dksX13_copy_0 0 rfl rfl)
theorem dX13_copy_1 : decode cX13_copy 1 = .ok (.invokestatic 211, 3) := dk_184 0 211 (dk_at dksX13_copy_0 1 rfl rfl)
theorem dX13_copy_4 : decode cX13_copy 4 = .ok (.ifCond .eq 10, 3) := dk_153 0 10 (dk_at dksX13_copy_0 4 rfl rfl)
theorem dX13_copy_7 : decode cX13_copy 7 = .ok (.iload_n 3, 1) := dk_29 (dk_at dksX13_copy_0 7 rfl rfl)
theorem dX13_copy_8 : decode cX13_copy 8 = .ok (.invokestatic 211, 3) := dk_184 0 211 (dk_at dksX13_copy_0 8 rfl rfl)
theorem dX13_copy_11 : decode cX13_copy 11 = .ok (.ifCond .ne 10, 3) := dk_154 0 10 (dk_at dksX13_copy_0 11 rfl rfl)
theorem dX13_copy_14 : decode cX13_copy 14 = .ok (.aload_n 0, 1) := dk_42 (dk_at dksX13_copy_0 14 rfl rfl)
theorem dX13_copy_15 : decode cX13_copy 15 = .ok (.ldc 69, 2) := dk_18 69 (dk_at dksX13_copy_0 15 rfl rfl)
theorem dX13_copy_17 : decode cX13_copy 17 = .ok (.invokevirtual 88, 3) := dk_182 0 88 (dk_at dksX13_copy_0 17 rfl rfl)
theorem dX13_copy_20 : decode cX13_copy 20 = .ok (.ireturn, 1) := dk_172 (dk_at dksX13_copy_0 20 rfl rfl)
theorem dX13_copy_21 : decode cX13_copy 21 = .ok (.aload_n 0, 1) := dk_42 (dk_at dksX13_copy_0 21 rfl rfl)
theorem dX13_copy_22 : decode cX13_copy 22 = .ok (.getfield 57, 3) := dk_180 0 57 (dk_at dksX13_copy_1 0 rfl rfl)
theorem dX13_copy_25 : decode cX13_copy 25 = .ok (.iload_n 1, 1) := dk_27 (dk_at dksX13_copy_1 3 rfl rfl)
theorem dX13_copy_26 : decode cX13_copy 26 = .ok (.iaload, 1) := dk_46 (dk_at dksX13_copy_1 4 rfl rfl)
theorem dX13_copy_27 : decode cX13_copy 27 = .ok (.ifCond .eq 12, 3) := dk_153 0 12 (dk_at dksX13_copy_1 5 rfl rfl)
theorem dX13_copy_30 : decode cX13_copy 30 = .ok (.aload_n 0, 1) := dk_42 (dk_at dksX13_copy_1 8 rfl rfl)
theorem dX13_copy_31 : decode cX13_copy 31 = .ok (.getfield 57, 3) := dk_180 0 57 (dk_at dksX13_copy_1 9 rfl rfl)
theorem dX13_copy_34 : decode cX13_copy 34 = .ok (.iload_n 3, 1) := dk_29 (dk_at dksX13_copy_1 12 rfl rfl)
theorem dX13_copy_35 : decode cX13_copy 35 = .ok (.iaload, 1) := dk_46 (dk_at dksX13_copy_1 13 rfl rfl)
theorem dX13_copy_36 : decode cX13_copy 36 = .ok (.ifCond .ne 10, 3) := dk_154 0 10 (dk_at dksX13_copy_1 14 rfl rfl)
theorem dX13_copy_39 : decode cX13_copy 39 = .ok (.aload_n 0, 1) := dk_42 (dk_at dksX13_copy_1 17 rfl rfl)
theorem dX13_copy_40 : decode cX13_copy 40 = .ok (.ldc 214, 2) := dk_18 214 (dk_at dksX13_copy_1 18 rfl rfl)
theorem dX13_copy_42 : decode cX13_copy 42 = .ok (.invokevirtual 88, 3) := dk_182 0 88 (dk_at dksX13_copy_1 20 rfl rfl)
theorem dX13_copy_45 : decode cX13_copy 45 = .ok (.ireturn, 1) := dk_172 (dk_at dksX13_copy_1 23 rfl rfl)
theorem dX13_copy_46 : decode cX13_copy 46 = .ok (.aload_n 0, 1) := dk_42 (dk_at dksX13_copy_2 0 rfl rfl)
theorem dX13_copy_47 : decode cX13_copy 47 = .ok (.getfield 57, 3) := dk_180 0 57 (dk_at dksX13_copy_2 1 rfl rfl)
theorem dX13_copy_50 : decode cX13_copy 50 = .ok (.iload_n 1, 1) := dk_27 (dk_at dksX13_copy_2 4 rfl rfl)
theorem dX13_copy_51 : decode cX13_copy 51 = .ok (.iaload, 1) := dk_46 (dk_at dksX13_copy_2 5 rfl rfl)
theorem dX13_copy_52 : decode cX13_copy 52 = .ok (.aload_n 0, 1) := dk_42 (dk_at dksX13_copy_2 6 rfl rfl)
theorem dX13_copy_53 : decode cX13_copy 53 = .ok (.getfield 57, 3) := dk_180 0 57 (dk_at dksX13_copy_2 7 rfl rfl)
theorem dX13_copy_56 : decode cX13_copy 56 = .ok (.iload_n 3, 1) := dk_29 (dk_at dksX13_copy_2 10 rfl rfl)
theorem dX13_copy_57 : decode cX13_copy 57 = .ok (.iaload, 1) := dk_46 (dk_at dksX13_copy_2 11 rfl rfl)
theorem dX13_copy_58 : decode cX13_copy 58 = .ok (.if_icmp .eq 11, 3) := dk_159 0 11 (dk_at dksX13_copy_2 12 rfl rfl)
theorem dX13_copy_61 : decode cX13_copy 61 = .ok (.aload_n 0, 1) := dk_42 (dk_at dksX13_copy_2 15 rfl rfl)
theorem dX13_copy_62 : decode cX13_copy 62 = .ok (.ldc_w 339, 3) := dk_19 1 83 (dk_at dksX13_copy_2 16 rfl rfl)
theorem dX13_copy_65 : decode cX13_copy 65 = .ok (.invokevirtual 88, 3) := dk_182 0 88 (dk_at dksX13_copy_2 19 rfl rfl)
theorem dX13_copy_68 : decode cX13_copy 68 = .ok (.ireturn, 1) := dk_172 (dk_at dksX13_copy_2 22 rfl rfl)
theorem dX13_copy_69 : decode cX13_copy 69 = .ok (.iload_n 2, 1) := dk_28 (dk_at dksX13_copy_2 23 rfl rfl)
theorem dX13_copy_70 : decode cX13_copy 70 = .ok (.ifCond .lt 48, 3) := dk_155 0 48 (dk_at dksX13_copy_3 0 rfl rfl)
theorem dX13_copy_73 : decode cX13_copy 73 = .ok (.iload 4, 2) := dk_21 4 (dk_at dksX13_copy_3 3 rfl rfl)
theorem dX13_copy_75 : decode cX13_copy 75 = .ok (.ifCond .lt 43, 3) := dk_155 0 43 (dk_at dksX13_copy_3 5 rfl rfl)
theorem dX13_copy_78 : decode cX13_copy 78 = .ok (.iload 5, 2) := dk_21 5 (dk_at dksX13_copy_3 8 rfl rfl)
theorem dX13_copy_80 : decode cX13_copy 80 = .ok (.ifCond .lt 38, 3) := dk_155 0 38 (dk_at dksX13_copy_3 10 rfl rfl)
theorem dX13_copy_83 : decode cX13_copy 83 = .ok (.iload_n 2, 1) := dk_28 (dk_at dksX13_copy_3 13 rfl rfl)
theorem dX13_copy_84 : decode cX13_copy 84 = .ok (.i2l, 1) := dk_133 (dk_at dksX13_copy_3 14 rfl rfl)
theorem dX13_copy_85 : decode cX13_copy 85 = .ok (.iload 5, 2) := dk_21 5 (dk_at dksX13_copy_3 15 rfl rfl)
theorem dX13_copy_87 : decode cX13_copy 87 = .ok (.i2l, 1) := dk_133 (dk_at dksX13_copy_3 17 rfl rfl)
theorem dX13_copy_88 : decode cX13_copy 88 = .ok (.ladd, 1) := dk_97 (dk_at dksX13_copy_3 18 rfl rfl)
theorem dX13_copy_89 : decode cX13_copy 89 = .ok (.aload_n 0, 1) := dk_42 (dk_at dksX13_copy_3 19 rfl rfl)
theorem dX13_copy_90 : decode cX13_copy 90 = .ok (.getfield 60, 3) := dk_180 0 60 (dk_at dksX13_copy_3 20 rfl rfl)
theorem dX13_copy_93 : decode cX13_copy 93 = .ok (.iload_n 1, 1) := dk_27 (dk_at dksX13_copy_3 23 rfl rfl)
theorem dX13_copy_94 : decode cX13_copy 94 = .ok (.iaload, 1) := dk_46 (dk_at dksX13_copy_4 0 rfl rfl)
theorem dX13_copy_95 : decode cX13_copy 95 = .ok (.i2l, 1) := dk_133 (dk_at dksX13_copy_4 1 rfl rfl)
theorem dX13_copy_96 : decode cX13_copy 96 = .ok (.lcmp, 1) := dk_148 (dk_at dksX13_copy_4 2 rfl rfl)
theorem dX13_copy_97 : decode cX13_copy 97 = .ok (.ifCond .gt 21, 3) := dk_157 0 21 (dk_at dksX13_copy_4 3 rfl rfl)
theorem dX13_copy_100 : decode cX13_copy 100 = .ok (.iload 4, 2) := dk_21 4 (dk_at dksX13_copy_4 6 rfl rfl)
theorem dX13_copy_102 : decode cX13_copy 102 = .ok (.i2l, 1) := dk_133 (dk_at dksX13_copy_4 8 rfl rfl)
theorem dX13_copy_103 : decode cX13_copy 103 = .ok (.iload 5, 2) := dk_21 5 (dk_at dksX13_copy_4 9 rfl rfl)
theorem dX13_copy_105 : decode cX13_copy 105 = .ok (.i2l, 1) := dk_133 (dk_at dksX13_copy_4 11 rfl rfl)
theorem dX13_copy_106 : decode cX13_copy 106 = .ok (.ladd, 1) := dk_97 (dk_at dksX13_copy_4 12 rfl rfl)
theorem dX13_copy_107 : decode cX13_copy 107 = .ok (.aload_n 0, 1) := dk_42 (dk_at dksX13_copy_4 13 rfl rfl)
theorem dX13_copy_108 : decode cX13_copy 108 = .ok (.getfield 60, 3) := dk_180 0 60 (dk_at dksX13_copy_4 14 rfl rfl)
theorem dX13_copy_111 : decode cX13_copy 111 = .ok (.iload_n 3, 1) := dk_29 (dk_at dksX13_copy_4 17 rfl rfl)
theorem dX13_copy_112 : decode cX13_copy 112 = .ok (.iaload, 1) := dk_46 (dk_at dksX13_copy_4 18 rfl rfl)
theorem dX13_copy_113 : decode cX13_copy 113 = .ok (.i2l, 1) := dk_133 (dk_at dksX13_copy_4 19 rfl rfl)
theorem dX13_copy_114 : decode cX13_copy 114 = .ok (.lcmp, 1) := dk_148 (dk_at dksX13_copy_4 20 rfl rfl)
theorem dX13_copy_115 : decode cX13_copy 115 = .ok (.ifCond .le 10, 3) := dk_158 0 10 (dk_at dksX13_copy_4 21 rfl rfl)
theorem dX13_copy_118 : decode cX13_copy 118 = .ok (.aload_n 0, 1) := dk_42 (dk_at dksX13_copy_5 0 rfl rfl)
theorem dX13_copy_119 : decode cX13_copy 119 = .ok (.ldc 69, 2) := dk_18 69 (dk_at dksX13_copy_5 1 rfl rfl)
theorem dX13_copy_121 : decode cX13_copy 121 = .ok (.invokevirtual 88, 3) := dk_182 0 88 (dk_at dksX13_copy_5 3 rfl rfl)
theorem dX13_copy_124 : decode cX13_copy 124 = .ok (.ireturn, 1) := dk_172 (dk_at dksX13_copy_5 6 rfl rfl)
theorem dX13_copy_125 : decode cX13_copy 125 = .ok (.iconst 0, 1) := dk_3 (dk_at dksX13_copy_5 7 rfl rfl)
theorem dX13_copy_126 : decode cX13_copy 126 = .ok (.istore 6, 2) := dk_54 6 (dk_at dksX13_copy_5 8 rfl rfl)
theorem dX13_copy_128 : decode cX13_copy 128 = .ok (.iload 6, 2) := dk_21 6 (dk_at dksX13_copy_5 10 rfl rfl)
theorem dX13_copy_130 : decode cX13_copy 130 = .ok (.iload 5, 2) := dk_21 5 (dk_at dksX13_copy_5 12 rfl rfl)
theorem dX13_copy_132 : decode cX13_copy 132 = .ok (.if_icmp .ge 30, 3) := dk_162 0 30 (dk_at dksX13_copy_5 14 rfl rfl)
theorem dX13_copy_135 : decode cX13_copy 135 = .ok (.aload_n 0, 1) := dk_42 (dk_at dksX13_copy_5 17 rfl rfl)
theorem dX13_copy_136 : decode cX13_copy 136 = .ok (.getfield 66, 3) := dk_180 0 66 (dk_at dksX13_copy_5 18 rfl rfl)
theorem dX13_copy_139 : decode cX13_copy 139 = .ok (.iload 6, 2) := dk_21 6 (dk_at dksX13_copy_5 21 rfl rfl)
theorem dX13_copy_141 : decode cX13_copy 141 = .ok (.aload_n 0, 1) := dk_42 (dk_at dksX13_copy_5 23 rfl rfl)
theorem dX13_copy_142 : decode cX13_copy 142 = .ok (.getfield 63, 3) := dk_180 0 63 (dk_at dksX13_copy_6 0 rfl rfl)
theorem dX13_copy_145 : decode cX13_copy 145 = .ok (.bipush 40, 2) := dk_16 40 (dk_at dksX13_copy_6 3 rfl rfl)
theorem dX13_copy_147 : decode cX13_copy 147 = .ok (.iload_n 1, 1) := dk_27 (dk_at dksX13_copy_6 5 rfl rfl)
theorem dX13_copy_148 : decode cX13_copy 148 = .ok (.imul, 1) := dk_104 (dk_at dksX13_copy_6 6 rfl rfl)
theorem dX13_copy_149 : decode cX13_copy 149 = .ok (.iload_n 2, 1) := dk_28 (dk_at dksX13_copy_6 7 rfl rfl)
theorem dX13_copy_150 : decode cX13_copy 150 = .ok (.iadd, 1) := dk_96 (dk_at dksX13_copy_6 8 rfl rfl)
theorem dX13_copy_151 : decode cX13_copy 151 = .ok (.iload 6, 2) := dk_21 6 (dk_at dksX13_copy_6 9 rfl rfl)
theorem dX13_copy_153 : decode cX13_copy 153 = .ok (.iadd, 1) := dk_96 (dk_at dksX13_copy_6 11 rfl rfl)
theorem dX13_copy_154 : decode cX13_copy 154 = .ok (.iaload, 1) := dk_46 (dk_at dksX13_copy_6 12 rfl rfl)
theorem dX13_copy_155 : decode cX13_copy 155 = .ok (.iastore, 1) := dk_79 (dk_at dksX13_copy_6 13 rfl rfl)
theorem dX13_copy_156 : decode cX13_copy 156 = .ok (.iinc 6 1, 3) := dk_132 6 1 (dk_at dksX13_copy_6 14 rfl rfl)
theorem dX13_copy_159 : decode cX13_copy 159 = .ok (.goto (-31), 3) := dk_167 255 225 (dk_at dksX13_copy_6 17 rfl rfl)
theorem dX13_copy_162 : decode cX13_copy 162 = .ok (.iconst 0, 1) := dk_3 (dk_at dksX13_copy_6 20 rfl rfl)
theorem dX13_copy_163 : decode cX13_copy 163 = .ok (.istore 6, 2) := dk_54 6 (dk_at dksX13_copy_6 21 rfl rfl)
theorem dX13_copy_165 : decode cX13_copy 165 = .ok (.iload 6, 2) := dk_21 6 (dk_at dksX13_copy_7 0 rfl rfl)
theorem dX13_copy_167 : decode cX13_copy 167 = .ok (.iload 5, 2) := dk_21 5 (dk_at dksX13_copy_7 2 rfl rfl)
theorem dX13_copy_169 : decode cX13_copy 169 = .ok (.if_icmp .ge 31, 3) := dk_162 0 31 (dk_at dksX13_copy_7 4 rfl rfl)
theorem dX13_copy_172 : decode cX13_copy 172 = .ok (.aload_n 0, 1) := dk_42 (dk_at dksX13_copy_7 7 rfl rfl)
theorem dX13_copy_173 : decode cX13_copy 173 = .ok (.getfield 63, 3) := dk_180 0 63 (dk_at dksX13_copy_7 8 rfl rfl)
theorem dX13_copy_176 : decode cX13_copy 176 = .ok (.bipush 40, 2) := dk_16 40 (dk_at dksX13_copy_7 11 rfl rfl)
theorem dX13_copy_178 : decode cX13_copy 178 = .ok (.iload_n 3, 1) := dk_29 (dk_at dksX13_copy_7 13 rfl rfl)
theorem dX13_copy_179 : decode cX13_copy 179 = .ok (.imul, 1) := dk_104 (dk_at dksX13_copy_7 14 rfl rfl)
theorem dX13_copy_180 : decode cX13_copy 180 = .ok (.iload 4, 2) := dk_21 4 (dk_at dksX13_copy_7 15 rfl rfl)
theorem dX13_copy_182 : decode cX13_copy 182 = .ok (.iadd, 1) := dk_96 (dk_at dksX13_copy_7 17 rfl rfl)
theorem dX13_copy_183 : decode cX13_copy 183 = .ok (.iload 6, 2) := dk_21 6 (dk_at dksX13_copy_7 18 rfl rfl)
theorem dX13_copy_185 : decode cX13_copy 185 = .ok (.iadd, 1) := dk_96 (dk_at dksX13_copy_7 20 rfl rfl)
theorem dX13_copy_186 : decode cX13_copy 186 = .ok (.aload_n 0, 1) := dk_42 (dk_at dksX13_copy_7 21 rfl rfl)
theorem dX13_copy_187 : decode cX13_copy 187 = .ok (.getfield 66, 3) := dk_180 0 66 (dk_at dksX13_copy_8 0 rfl rfl)
theorem dX13_copy_190 : decode cX13_copy 190 = .ok (.iload 6, 2) := dk_21 6 (dk_at dksX13_copy_8 3 rfl rfl)
theorem dX13_copy_192 : decode cX13_copy 192 = .ok (.iaload, 1) := dk_46 (dk_at dksX13_copy_8 5 rfl rfl)
theorem dX13_copy_193 : decode cX13_copy 193 = .ok (.iastore, 1) := dk_79 (dk_at dksX13_copy_8 6 rfl rfl)
theorem dX13_copy_194 : decode cX13_copy 194 = .ok (.iinc 6 1, 3) := dk_132 6 1 (dk_at dksX13_copy_8 7 rfl rfl)
theorem dX13_copy_197 : decode cX13_copy 197 = .ok (.goto (-32), 3) := dk_167 255 224 (dk_at dksX13_copy_8 10 rfl rfl)
theorem dX13_copy_200 : decode cX13_copy 200 = .ok (.iload 5, 2) := dk_21 5 (dk_at dksX13_copy_8 13 rfl rfl)
theorem dX13_copy_202 : decode cX13_copy 202 = .ok (.ireturn, 1) := dk_172 (dk_at dksX13_copy_8 15 rfl rfl)
abbrev cX13_load : ByteArray := prog_16_method_107_code
def yX13_load : MethodName := ⟨RX13, "load", "(I)I"⟩
def dkwX13_load_3 : List UInt8 := [180, 0, 63, 16, 40, 27, 104, 28, 96, 46, 79, 132, 2, 1, 167, 255, 194, 28, 172]
abbrev dktX13_load_3 : List UInt8 := dkwX13_load_3 ++ []
def dkwX13_load_2 : List UInt8 := [28, 96, 46, 3, 16, 11, 184, 0, 74, 153, 0, 30, 42, 180, 0, 9, 28, 5, 184, 0, 98, 42]
abbrev dktX13_load_2 : List UInt8 := dkwX13_load_2 ++ dktX13_load_3
def dkwX13_load_1 : List UInt8 := [180, 0, 60, 27, 46, 162, 0, 58, 42, 28, 182, 0, 141, 153, 0, 50, 42, 180, 0, 63, 16, 40, 27, 104]
abbrev dktX13_load_1 : List UInt8 := dkwX13_load_1 ++ dktX13_load_2
def dkwX13_load_0 : List UInt8 := [42, 27, 182, 0, 221, 153, 0, 13, 42, 42, 27, 182, 0, 221, 182, 0, 88, 172, 3, 61, 28, 42]
abbrev dktX13_load_0 : List UInt8 := dkwX13_load_0 ++ dktX13_load_1
theorem dksX13_load_0 : cX13_load.data.toList.drop 0 = dktX13_load_0 := by decide +kernel
theorem dksX13_load_1 : cX13_load.data.toList.drop 22 = dktX13_load_1 := dk_seg dksX13_load_0 22 rfl rfl
theorem dksX13_load_2 : cX13_load.data.toList.drop 46 = dktX13_load_2 := dk_seg dksX13_load_1 24 rfl rfl
theorem dksX13_load_3 : cX13_load.data.toList.drop 68 = dktX13_load_3 := dk_seg dksX13_load_2 22 rfl rfl
theorem dX13_load_0 : decode cX13_load 0 = .ok (.aload_n 0, 1) := dk_42 (dk_at dksX13_load_0 0 rfl rfl)
theorem dX13_load_1 : decode cX13_load 1 = .ok (.iload_n 1, 1) := dk_27 (dk_at dksX13_load_0 1 rfl rfl)
theorem dX13_load_2 : decode cX13_load 2 = .ok (.invokevirtual 221, 3) := dk_182 0 221 (dk_at dksX13_load_0 2 rfl rfl)
theorem dX13_load_5 : decode cX13_load 5 = .ok (.ifCond .eq 13, 3) := dk_153 0 13 (dk_at dksX13_load_0 5 rfl rfl)
theorem dX13_load_8 : decode cX13_load 8 = .ok (.aload_n 0, 1) := dk_42 (dk_at dksX13_load_0 8 rfl rfl)
theorem dX13_load_9 : decode cX13_load 9 = .ok (.aload_n 0, 1) := dk_42 (dk_at dksX13_load_0 9 rfl rfl)
theorem dX13_load_10 : decode cX13_load 10 = .ok (.iload_n 1, 1) := dk_27 (dk_at dksX13_load_0 10 rfl rfl)
theorem dX13_load_11 : decode cX13_load 11 = .ok (.invokevirtual 221, 3) := dk_182 0 221 (dk_at dksX13_load_0 11 rfl rfl)
theorem dX13_load_14 : decode cX13_load 14 = .ok (.invokevirtual 88, 3) := dk_182 0 88 (dk_at dksX13_load_0 14 rfl rfl)
theorem dX13_load_17 : decode cX13_load 17 = .ok (.ireturn, 1) := dk_172 (dk_at dksX13_load_0 17 rfl rfl)
theorem dX13_load_18 : decode cX13_load 18 = .ok (.iconst 0, 1) := dk_3 (dk_at dksX13_load_0 18 rfl rfl)
theorem dX13_load_19 : decode cX13_load 19 = .ok (.istore_n 2, 1) := dk_61 (dk_at dksX13_load_0 19 rfl rfl)
theorem dX13_load_20 : decode cX13_load 20 = .ok (.iload_n 2, 1) := dk_28 (dk_at dksX13_load_0 20 rfl rfl)
theorem dX13_load_21 : decode cX13_load 21 = .ok (.aload_n 0, 1) := dk_42 (dk_at dksX13_load_0 21 rfl rfl)
theorem dX13_load_22 : decode cX13_load 22 = .ok (.getfield 60, 3) := dk_180 0 60 (dk_at dksX13_load_1 0 rfl rfl)
theorem dX13_load_25 : decode cX13_load 25 = .ok (.iload_n 1, 1) := dk_27 (dk_at dksX13_load_1 3 rfl rfl)
theorem dX13_load_26 : decode cX13_load 26 = .ok (.iaload, 1) := dk_46 (dk_at dksX13_load_1 4 rfl rfl)
theorem dX13_load_27 : decode cX13_load 27 = .ok (.if_icmp .ge 58, 3) := dk_162 0 58 (dk_at dksX13_load_1 5 rfl rfl)
theorem dX13_load_30 : decode cX13_load 30 = .ok (.aload_n 0, 1) := dk_42 (dk_at dksX13_load_1 8 rfl rfl)
theorem dX13_load_31 : decode cX13_load 31 = .ok (.iload_n 2, 1) := dk_28 (dk_at dksX13_load_1 9 rfl rfl)
theorem dX13_load_32 : decode cX13_load 32 = .ok (.invokevirtual 141, 3) := dk_182 0 141 (dk_at dksX13_load_1 10 rfl rfl)
theorem dX13_load_35 : decode cX13_load 35 = .ok (.ifCond .eq 50, 3) := dk_153 0 50 (dk_at dksX13_load_1 13 rfl rfl)
theorem dX13_load_38 : decode cX13_load 38 = .ok (.aload_n 0, 1) := dk_42 (dk_at dksX13_load_1 16 rfl rfl)
theorem dX13_load_39 : decode cX13_load 39 = .ok (.getfield 63, 3) := dk_180 0 63 (dk_at dksX13_load_1 17 rfl rfl)
theorem dX13_load_42 : decode cX13_load 42 = .ok (.bipush 40, 2) := dk_16 40 (dk_at dksX13_load_1 20 rfl rfl)
theorem dX13_load_44 : decode cX13_load 44 = .ok (.iload_n 1, 1) := dk_27 (dk_at dksX13_load_1 22 rfl rfl)
theorem dX13_load_45 : decode cX13_load 45 = .ok (.imul, 1) := dk_104 (dk_at dksX13_load_1 23 rfl rfl)
theorem dX13_load_46 : decode cX13_load 46 = .ok (.iload_n 2, 1) := dk_28 (dk_at dksX13_load_2 0 rfl rfl)
theorem dX13_load_47 : decode cX13_load 47 = .ok (.iadd, 1) := dk_96 (dk_at dksX13_load_2 1 rfl rfl)
theorem dX13_load_48 : decode cX13_load 48 = .ok (.iaload, 1) := dk_46 (dk_at dksX13_load_2 2 rfl rfl)
theorem dX13_load_49 : decode cX13_load 49 = .ok (.iconst 0, 1) := dk_3 (dk_at dksX13_load_2 3 rfl rfl)
theorem dX13_load_50 : decode cX13_load 50 = .ok (.bipush 11, 2) := dk_16 11 (dk_at dksX13_load_2 4 rfl rfl)
theorem dX13_load_52 : decode cX13_load 52 = .ok (.invokestatic 74, 3) := dk_184 0 74 (dk_at dksX13_load_2 6 rfl rfl)
theorem dX13_load_55 : decode cX13_load 55 = .ok (.ifCond .eq 30, 3) := dk_153 0 30 (dk_at dksX13_load_2 9 rfl rfl)
theorem dX13_load_58 : decode cX13_load 58 = .ok (.aload_n 0, 1) := dk_42 (dk_at dksX13_load_2 12 rfl rfl)
theorem dX13_load_59 : decode cX13_load 59 = .ok (.getfield 9, 3) := dk_180 0 9 (dk_at dksX13_load_2 13 rfl rfl)
theorem dX13_load_62 : decode cX13_load 62 = .ok (.iload_n 2, 1) := dk_28 (dk_at dksX13_load_2 16 rfl rfl)
theorem dX13_load_63 : decode cX13_load 63 = .ok (.iconst 2, 1) := dk_5 (dk_at dksX13_load_2 17 rfl rfl)
theorem dX13_load_64 : decode cX13_load 64 = .ok (.invokestatic 98, 3) := dk_184 0 98 (dk_at dksX13_load_2 18 rfl rfl)
theorem dX13_load_67 : decode cX13_load 67 = .ok (.aload_n 0, 1) := dk_42 (dk_at dksX13_load_2 21 rfl rfl)
theorem dX13_load_68 : decode cX13_load 68 = .ok (.getfield 63, 3) := dk_180 0 63 (dk_at dksX13_load_3 0 rfl rfl)
theorem dX13_load_71 : decode cX13_load 71 = .ok (.bipush 40, 2) := dk_16 40 (dk_at dksX13_load_3 3 rfl rfl)
theorem dX13_load_73 : decode cX13_load 73 = .ok (.iload_n 1, 1) := dk_27 (dk_at dksX13_load_3 5 rfl rfl)
theorem dX13_load_74 : decode cX13_load 74 = .ok (.imul, 1) := dk_104 (dk_at dksX13_load_3 6 rfl rfl)
theorem dX13_load_75 : decode cX13_load 75 = .ok (.iload_n 2, 1) := dk_28 (dk_at dksX13_load_3 7 rfl rfl)
theorem dX13_load_76 : decode cX13_load 76 = .ok (.iadd, 1) := dk_96 (dk_at dksX13_load_3 8 rfl rfl)
theorem dX13_load_77 : decode cX13_load 77 = .ok (.iaload, 1) := dk_46 (dk_at dksX13_load_3 9 rfl rfl)
theorem dX13_load_78 : decode cX13_load 78 = .ok (.iastore, 1) := dk_79 (dk_at dksX13_load_3 10 rfl rfl)
theorem dX13_load_79 : decode cX13_load 79 = .ok (.iinc 2 1, 3) := dk_132 2 1 (dk_at dksX13_load_3 11 rfl rfl)
theorem dX13_load_82 : decode cX13_load 82 = .ok (.goto (-62), 3) := dk_167 255 194 (dk_at dksX13_load_3 14 rfl rfl)
theorem dX13_load_85 : decode cX13_load 85 = .ok (.iload_n 2, 1) := dk_28 (dk_at dksX13_load_3 17 rfl rfl)
theorem dX13_load_86 : decode cX13_load 86 = .ok (.ireturn, 1) := dk_172 (dk_at dksX13_load_3 18 rfl rfl)
abbrev cX13_judge : ByteArray := prog_16_method_108_code
def yX13_judge : MethodName := ⟨RX13, "judge", "(I)I"⟩
def dkwX13_judge_5 : List UInt8 := [167, 0, 4, 3, 96, 61, 167, 255, 161, 21, 4, 153, 0, 7, 3, 167, 0, 6, 4, 28, 96, 172]
abbrev dktX13_judge_5 : List UInt8 := dkwX13_judge_5 ++ []
def dkwX13_judge_4 : List UInt8 := [153, 0, 13, 42, 21, 5, 5, 182, 0, 101, 167, 0, 4, 29, 62, 28, 21, 4, 153, 0, 7, 4]
abbrev dktX13_judge_4 : List UInt8 := dkwX13_judge_4 ++ dktX13_judge_5
def dkwX13_judge_3 : List UInt8 := [182, 0, 101, 29, 100, 4, 5, 184, 0, 74, 153, 0, 7, 4, 167, 0, 4, 3, 54, 4, 21, 4]
abbrev dktX13_judge_3 : List UInt8 := dkwX13_judge_3 ++ dktX13_judge_4
def dkwX13_judge_2 : List UInt8 := [104, 28, 96, 46, 54, 5, 42, 21, 5, 182, 0, 141, 153, 0, 28, 28, 153, 0, 20, 42, 21, 5, 5]
abbrev dktX13_judge_2 : List UInt8 := dkwX13_judge_2 ++ dktX13_judge_3
def dkwX13_judge_1 : List UInt8 := [54, 4, 28, 42, 180, 0, 60, 27, 46, 162, 0, 91, 21, 4, 153, 0, 86, 42, 180, 0, 63, 16, 40, 27]
abbrev dktX13_judge_1 : List UInt8 := dkwX13_judge_1 ++ dktX13_judge_2
def dkwX13_judge_0 : List UInt8 := [42, 27, 182, 0, 221, 153, 0, 13, 42, 42, 27, 182, 0, 221, 182, 0, 88, 172, 3, 61, 2, 62, 4]
abbrev dktX13_judge_0 : List UInt8 := dkwX13_judge_0 ++ dktX13_judge_1
theorem dksX13_judge_0 : cX13_judge.data.toList.drop 0 = dktX13_judge_0 := by decide +kernel
theorem dksX13_judge_1 : cX13_judge.data.toList.drop 23 = dktX13_judge_1 := dk_seg dksX13_judge_0 23 rfl rfl
theorem dksX13_judge_2 : cX13_judge.data.toList.drop 47 = dktX13_judge_2 := dk_seg dksX13_judge_1 24 rfl rfl
theorem dksX13_judge_3 : cX13_judge.data.toList.drop 70 = dktX13_judge_3 := dk_seg dksX13_judge_2 23 rfl rfl
theorem dksX13_judge_4 : cX13_judge.data.toList.drop 92 = dktX13_judge_4 := dk_seg dksX13_judge_3 22 rfl rfl
theorem dksX13_judge_5 : cX13_judge.data.toList.drop 114 = dktX13_judge_5 := dk_seg dksX13_judge_4 22 rfl rfl
theorem dX13_judge_0 : decode cX13_judge 0 = .ok (.aload_n 0, 1) := dk_42 (dk_at dksX13_judge_0 0 rfl rfl)
theorem dX13_judge_1 : decode cX13_judge 1 = .ok (.iload_n 1, 1) := dk_27 (dk_at dksX13_judge_0 1 rfl rfl)
theorem dX13_judge_2 : decode cX13_judge 2 = .ok (.invokevirtual 221, 3) := dk_182 0 221 (dk_at dksX13_judge_0 2 rfl rfl)
theorem dX13_judge_5 : decode cX13_judge 5 = .ok (.ifCond .eq 13, 3) := dk_153 0 13 (dk_at dksX13_judge_0 5 rfl rfl)
theorem dX13_judge_8 : decode cX13_judge 8 = .ok (.aload_n 0, 1) := dk_42 (dk_at dksX13_judge_0 8 rfl rfl)
theorem dX13_judge_9 : decode cX13_judge 9 = .ok (.aload_n 0, 1) := dk_42 (dk_at dksX13_judge_0 9 rfl rfl)
theorem dX13_judge_10 : decode cX13_judge 10 = .ok (.iload_n 1, 1) := dk_27 (dk_at dksX13_judge_0 10 rfl rfl)
theorem dX13_judge_11 : decode cX13_judge 11 = .ok (.invokevirtual 221, 3) := dk_182 0 221 (dk_at dksX13_judge_0 11 rfl rfl)
theorem dX13_judge_14 : decode cX13_judge 14 = .ok (.invokevirtual 88, 3) := dk_182 0 88 (dk_at dksX13_judge_0 14 rfl rfl)
theorem dX13_judge_17 : decode cX13_judge 17 = .ok (.ireturn, 1) := dk_172 (dk_at dksX13_judge_0 17 rfl rfl)
theorem dX13_judge_18 : decode cX13_judge 18 = .ok (.iconst 0, 1) := dk_3 (dk_at dksX13_judge_0 18 rfl rfl)
theorem dX13_judge_19 : decode cX13_judge 19 = .ok (.istore_n 2, 1) := dk_61 (dk_at dksX13_judge_0 19 rfl rfl)
theorem dX13_judge_20 : decode cX13_judge 20 = .ok (.iconst (-1), 1) := dk_2 (dk_at dksX13_judge_0 20 rfl rfl)
theorem dX13_judge_21 : decode cX13_judge 21 = .ok (.istore_n 3, 1) := dk_62 (dk_at dksX13_judge_0 21 rfl rfl)
theorem dX13_judge_22 : decode cX13_judge 22 = .ok (.iconst 1, 1) := dk_4 (dk_at dksX13_judge_0 22 rfl rfl)
theorem dX13_judge_23 : decode cX13_judge 23 = .ok (.istore 4, 2) := dk_54 4 (dk_at dksX13_judge_1 0 rfl rfl)
theorem dX13_judge_25 : decode cX13_judge 25 = .ok (.iload_n 2, 1) := dk_28 (dk_at dksX13_judge_1 2 rfl rfl)
theorem dX13_judge_26 : decode cX13_judge 26 = .ok (.aload_n 0, 1) := dk_42 (dk_at dksX13_judge_1 3 rfl rfl)
theorem dX13_judge_27 : decode cX13_judge 27 = .ok (.getfield 60, 3) := dk_180 0 60 (dk_at dksX13_judge_1 4 rfl rfl)
theorem dX13_judge_30 : decode cX13_judge 30 = .ok (.iload_n 1, 1) := dk_27 (dk_at dksX13_judge_1 7 rfl rfl)
theorem dX13_judge_31 : decode cX13_judge 31 = .ok (.iaload, 1) := dk_46 (dk_at dksX13_judge_1 8 rfl rfl)
theorem dX13_judge_32 : decode cX13_judge 32 = .ok (.if_icmp .ge 91, 3) := dk_162 0 91 (dk_at dksX13_judge_1 9 rfl rfl)
theorem dX13_judge_35 : decode cX13_judge 35 = .ok (.iload 4, 2) := dk_21 4 (dk_at dksX13_judge_1 12 rfl rfl)
theorem dX13_judge_37 : decode cX13_judge 37 = .ok (.ifCond .eq 86, 3) := dk_153 0 86 (dk_at dksX13_judge_1 14 rfl rfl)
theorem dX13_judge_40 : decode cX13_judge 40 = .ok (.aload_n 0, 1) := dk_42 (dk_at dksX13_judge_1 17 rfl rfl)
theorem dX13_judge_41 : decode cX13_judge 41 = .ok (.getfield 63, 3) := dk_180 0 63 (dk_at dksX13_judge_1 18 rfl rfl)
theorem dX13_judge_44 : decode cX13_judge 44 = .ok (.bipush 40, 2) := dk_16 40 (dk_at dksX13_judge_1 21 rfl rfl)
theorem dX13_judge_46 : decode cX13_judge 46 = .ok (.iload_n 1, 1) := dk_27 (dk_at dksX13_judge_1 23 rfl rfl)
theorem dX13_judge_47 : decode cX13_judge 47 = .ok (.imul, 1) := dk_104 (dk_at dksX13_judge_2 0 rfl rfl)
theorem dX13_judge_48 : decode cX13_judge 48 = .ok (.iload_n 2, 1) := dk_28 (dk_at dksX13_judge_2 1 rfl rfl)
theorem dX13_judge_49 : decode cX13_judge 49 = .ok (.iadd, 1) := dk_96 (dk_at dksX13_judge_2 2 rfl rfl)
theorem dX13_judge_50 : decode cX13_judge 50 = .ok (.iaload, 1) := dk_46 (dk_at dksX13_judge_2 3 rfl rfl)
theorem dX13_judge_51 : decode cX13_judge 51 = .ok (.istore 5, 2) := dk_54 5 (dk_at dksX13_judge_2 4 rfl rfl)
theorem dX13_judge_53 : decode cX13_judge 53 = .ok (.aload_n 0, 1) := dk_42 (dk_at dksX13_judge_2 6 rfl rfl)
theorem dX13_judge_54 : decode cX13_judge 54 = .ok (.iload 5, 2) := dk_21 5 (dk_at dksX13_judge_2 7 rfl rfl)
theorem dX13_judge_56 : decode cX13_judge 56 = .ok (.invokevirtual 141, 3) := dk_182 0 141 (dk_at dksX13_judge_2 9 rfl rfl)
theorem dX13_judge_59 : decode cX13_judge 59 = .ok (.ifCond .eq 28, 3) := dk_153 0 28 (dk_at dksX13_judge_2 12 rfl rfl)
theorem dX13_judge_62 : decode cX13_judge 62 = .ok (.iload_n 2, 1) := dk_28 (dk_at dksX13_judge_2 15 rfl rfl)
theorem dX13_judge_63 : decode cX13_judge 63 = .ok (.ifCond .eq 20, 3) := dk_153 0 20 (dk_at dksX13_judge_2 16 rfl rfl)
theorem dX13_judge_66 : decode cX13_judge 66 = .ok (.aload_n 0, 1) := dk_42 (dk_at dksX13_judge_2 19 rfl rfl)
theorem dX13_judge_67 : decode cX13_judge 67 = .ok (.iload 5, 2) := dk_21 5 (dk_at dksX13_judge_2 20 rfl rfl)
theorem dX13_judge_69 : decode cX13_judge 69 = .ok (.iconst 2, 1) := dk_5 (dk_at dksX13_judge_2 22 rfl rfl)
theorem dX13_judge_70 : decode cX13_judge 70 = .ok (.invokevirtual 101, 3) := dk_182 0 101 (dk_at dksX13_judge_3 0 rfl rfl)
theorem dX13_judge_73 : decode cX13_judge 73 = .ok (.iload_n 3, 1) := dk_29 (dk_at dksX13_judge_3 3 rfl rfl)
theorem dX13_judge_74 : decode cX13_judge 74 = .ok (.isub, 1) := dk_100 (dk_at dksX13_judge_3 4 rfl rfl)
theorem dX13_judge_75 : decode cX13_judge 75 = .ok (.iconst 1, 1) := dk_4 (dk_at dksX13_judge_3 5 rfl rfl)
theorem dX13_judge_76 : decode cX13_judge 76 = .ok (.iconst 2, 1) := dk_5 (dk_at dksX13_judge_3 6 rfl rfl)
theorem dX13_judge_77 : decode cX13_judge 77 = .ok (.invokestatic 74, 3) := dk_184 0 74 (dk_at dksX13_judge_3 7 rfl rfl)
theorem dX13_judge_80 : decode cX13_judge 80 = .ok (.ifCond .eq 7, 3) := dk_153 0 7 (dk_at dksX13_judge_3 10 rfl rfl)
theorem dX13_judge_83 : decode cX13_judge 83 = .ok (.iconst 1, 1) := dk_4 (dk_at dksX13_judge_3 13 rfl rfl)
theorem dX13_judge_84 : decode cX13_judge 84 = .ok (.goto 4, 3) := dk_167 0 4 (dk_at dksX13_judge_3 14 rfl rfl)
theorem dX13_judge_87 : decode cX13_judge 87 = .ok (.iconst 0, 1) := dk_3 (dk_at dksX13_judge_3 17 rfl rfl)
theorem dX13_judge_88 : decode cX13_judge 88 = .ok (.istore 4, 2) := dk_54 4 (dk_at dksX13_judge_3 18 rfl rfl)
theorem dX13_judge_90 : decode cX13_judge 90 = .ok (.iload 4, 2) := dk_21 4 (dk_at dksX13_judge_3 20 rfl rfl)
theorem dX13_judge_92 : decode cX13_judge 92 = .ok (.ifCond .eq 13, 3) := dk_153 0 13 (dk_at dksX13_judge_4 0 rfl rfl)
theorem dX13_judge_95 : decode cX13_judge 95 = .ok (.aload_n 0, 1) := dk_42 (dk_at dksX13_judge_4 3 rfl rfl)
theorem dX13_judge_96 : decode cX13_judge 96 = .ok (.iload 5, 2) := dk_21 5 (dk_at dksX13_judge_4 4 rfl rfl)
theorem dX13_judge_98 : decode cX13_judge 98 = .ok (.iconst 2, 1) := dk_5 (dk_at dksX13_judge_4 6 rfl rfl)
theorem dX13_judge_99 : decode cX13_judge 99 = .ok (.invokevirtual 101, 3) := dk_182 0 101 (dk_at dksX13_judge_4 7 rfl rfl)
theorem dX13_judge_102 : decode cX13_judge 102 = .ok (.goto 4, 3) := dk_167 0 4 (dk_at dksX13_judge_4 10 rfl rfl)
theorem dX13_judge_105 : decode cX13_judge 105 = .ok (.iload_n 3, 1) := dk_29 (dk_at dksX13_judge_4 13 rfl rfl)
theorem dX13_judge_106 : decode cX13_judge 106 = .ok (.istore_n 3, 1) := dk_62 (dk_at dksX13_judge_4 14 rfl rfl)
theorem dX13_judge_107 : decode cX13_judge 107 = .ok (.iload_n 2, 1) := dk_28 (dk_at dksX13_judge_4 15 rfl rfl)
theorem dX13_judge_108 : decode cX13_judge 108 = .ok (.iload 4, 2) := dk_21 4 (dk_at dksX13_judge_4 16 rfl rfl)
theorem dX13_judge_110 : decode cX13_judge 110 = .ok (.ifCond .eq 7, 3) := dk_153 0 7 (dk_at dksX13_judge_4 18 rfl rfl)
theorem dX13_judge_113 : decode cX13_judge 113 = .ok (.iconst 1, 1) := dk_4 (dk_at dksX13_judge_4 21 rfl rfl)
theorem dX13_judge_114 : decode cX13_judge 114 = .ok (.goto 4, 3) := dk_167 0 4 (dk_at dksX13_judge_5 0 rfl rfl)
theorem dX13_judge_117 : decode cX13_judge 117 = .ok (.iconst 0, 1) := dk_3 (dk_at dksX13_judge_5 3 rfl rfl)
theorem dX13_judge_118 : decode cX13_judge 118 = .ok (.iadd, 1) := dk_96 (dk_at dksX13_judge_5 4 rfl rfl)
theorem dX13_judge_119 : decode cX13_judge 119 = .ok (.istore_n 2, 1) := dk_61 (dk_at dksX13_judge_5 5 rfl rfl)
theorem dX13_judge_120 : decode cX13_judge 120 = .ok (.goto (-95), 3) := dk_167 255 161 (dk_at dksX13_judge_5 6 rfl rfl)
theorem dX13_judge_123 : decode cX13_judge 123 = .ok (.iload 4, 2) := dk_21 4 (dk_at dksX13_judge_5 9 rfl rfl)
theorem dX13_judge_125 : decode cX13_judge 125 = .ok (.ifCond .eq 7, 3) := dk_153 0 7 (dk_at dksX13_judge_5 11 rfl rfl)
theorem dX13_judge_128 : decode cX13_judge 128 = .ok (.iconst 0, 1) := dk_3 (dk_at dksX13_judge_5 14 rfl rfl)
theorem dX13_judge_129 : decode cX13_judge 129 = .ok (.goto 6, 3) := dk_167 0 6 (dk_at dksX13_judge_5 15 rfl rfl)
theorem dX13_judge_132 : decode cX13_judge 132 = .ok (.iconst 1, 1) := dk_4 (dk_at dksX13_judge_5 18 rfl rfl)
theorem dX13_judge_133 : decode cX13_judge 133 = .ok (.iload_n 2, 1) := dk_28 (dk_at dksX13_judge_5 19 rfl rfl)
theorem dX13_judge_134 : decode cX13_judge 134 = .ok (.iadd, 1) := dk_96 (dk_at dksX13_judge_5 20 rfl rfl)
theorem dX13_judge_135 : decode cX13_judge 135 = .ok (.ireturn, 1) := dk_172 (dk_at dksX13_judge_5 21 rfl rfl)
abbrev cX13_image : ByteArray := prog_16_method_109_code
def yX13_image : MethodName := ⟨RX13, "image", "()I"⟩
def dkwX13_image_0 : List UInt8 := [42, 180, 0, 9, 42, 180, 0, 13, 184, 0, 70, 42, 4, 181, 1, 88, 4, 172]
abbrev dktX13_image_0 : List UInt8 := dkwX13_image_0 ++ []
theorem dksX13_image_0 : cX13_image.data.toList.drop 0 = dktX13_image_0 := by decide +kernel
theorem dX13_image_0 : decode cX13_image 0 = .ok (.aload_n 0, 1) := dk_42 (dk_at dksX13_image_0 0 rfl rfl)
theorem dX13_image_1 : decode cX13_image 1 = .ok (.getfield 9, 3) := dk_180 0 9 (dk_at dksX13_image_0 1 rfl rfl)
theorem dX13_image_4 : decode cX13_image 4 = .ok (.aload_n 0, 1) := dk_42 (dk_at dksX13_image_0 4 rfl rfl)
theorem dX13_image_5 : decode cX13_image 5 = .ok (.getfield 13, 3) := dk_180 0 13 (dk_at dksX13_image_0 5 rfl rfl)
theorem dX13_image_8 : decode cX13_image 8 = .ok (.invokestatic 70, 3) := dk_184 0 70 (dk_at dksX13_image_0 8 rfl rfl)
theorem dX13_image_11 : decode cX13_image 11 = .ok (.aload_n 0, 1) := dk_42 (dk_at dksX13_image_0 11 rfl rfl)
theorem dX13_image_12 : decode cX13_image 12 = .ok (.iconst 1, 1) := dk_4 (dk_at dksX13_image_0 12 rfl rfl)
theorem dX13_image_13 : decode cX13_image 13 = .ok (.putfield 344, 3) := dk_181 1 88 (dk_at dksX13_image_0 13 rfl rfl)
theorem dX13_image_16 : decode cX13_image 16 = .ok (.iconst 1, 1) := dk_4 (dk_at dksX13_image_0 16 rfl rfl)
theorem dX13_image_17 : decode cX13_image 17 = .ok (.ireturn, 1) := dk_172 (dk_at dksX13_image_0 17 rfl rfl)
abbrev cX13_undo : ByteArray := prog_16_method_110_code
def yX13_undo : MethodName := ⟨RX13, "undo", "()I"⟩
def dkwX13_undo_1 : List UInt8 := [184, 0, 70, 42, 180, 0, 9, 3, 46, 172]
abbrev dktX13_undo_1 : List UInt8 := dkwX13_undo_1 ++ []
def dkwX13_undo_0 : List UInt8 := [42, 180, 1, 88, 154, 0, 10, 42, 18, 198, 182, 0, 88, 172, 42, 180, 0, 13, 42, 180, 0, 9]
abbrev dktX13_undo_0 : List UInt8 := dkwX13_undo_0 ++ dktX13_undo_1
theorem dksX13_undo_0 : cX13_undo.data.toList.drop 0 = dktX13_undo_0 := by decide +kernel
theorem dksX13_undo_1 : cX13_undo.data.toList.drop 22 = dktX13_undo_1 := dk_seg dksX13_undo_0 22 rfl rfl
theorem dX13_undo_0 : decode cX13_undo 0 = .ok (.aload_n 0, 1) := dk_42 (dk_at dksX13_undo_0 0 rfl rfl)
theorem dX13_undo_1 : decode cX13_undo 1 = .ok (.getfield 344, 3) := dk_180 1 88 (dk_at dksX13_undo_0 1 rfl rfl)
theorem dX13_undo_4 : decode cX13_undo 4 = .ok (.ifCond .ne 10, 3) := dk_154 0 10 (dk_at dksX13_undo_0 4 rfl rfl)
theorem dX13_undo_7 : decode cX13_undo 7 = .ok (.aload_n 0, 1) := dk_42 (dk_at dksX13_undo_0 7 rfl rfl)
theorem dX13_undo_8 : decode cX13_undo 8 = .ok (.ldc 198, 2) := dk_18 198 (dk_at dksX13_undo_0 8 rfl rfl)
theorem dX13_undo_10 : decode cX13_undo 10 = .ok (.invokevirtual 88, 3) := dk_182 0 88 (dk_at dksX13_undo_0 10 rfl rfl)
theorem dX13_undo_13 : decode cX13_undo 13 = .ok (.ireturn, 1) := dk_172 (dk_at dksX13_undo_0 13 rfl rfl)
theorem dX13_undo_14 : decode cX13_undo 14 = .ok (.aload_n 0, 1) := dk_42 (dk_at dksX13_undo_0 14 rfl rfl)
theorem dX13_undo_15 : decode cX13_undo 15 = .ok (.getfield 13, 3) := dk_180 0 13 (dk_at dksX13_undo_0 15 rfl rfl)
theorem dX13_undo_18 : decode cX13_undo 18 = .ok (.aload_n 0, 1) := dk_42 (dk_at dksX13_undo_0 18 rfl rfl)
theorem dX13_undo_19 : decode cX13_undo 19 = .ok (.getfield 9, 3) := dk_180 0 9 (dk_at dksX13_undo_0 19 rfl rfl)
theorem dX13_undo_22 : decode cX13_undo 22 = .ok (.invokestatic 70, 3) := dk_184 0 70 (dk_at dksX13_undo_1 0 rfl rfl)
theorem dX13_undo_25 : decode cX13_undo 25 = .ok (.aload_n 0, 1) := dk_42 (dk_at dksX13_undo_1 3 rfl rfl)
theorem dX13_undo_26 : decode cX13_undo 26 = .ok (.getfield 9, 3) := dk_180 0 9 (dk_at dksX13_undo_1 4 rfl rfl)
theorem dX13_undo_29 : decode cX13_undo 29 = .ok (.iconst 0, 1) := dk_3 (dk_at dksX13_undo_1 7 rfl rfl)
theorem dX13_undo_30 : decode cX13_undo 30 = .ok (.iaload, 1) := dk_46 (dk_at dksX13_undo_1 8 rfl rfl)
theorem dX13_undo_31 : decode cX13_undo 31 = .ok (.ireturn, 1) := dk_172 (dk_at dksX13_undo_1 9 rfl rfl)
abbrev cX13_tear : ByteArray := prog_16_method_111_code
def yX13_tear : MethodName := ⟨RX13, "tear", "()I"⟩
def dkwX13_tear_0 : List UInt8 := [42, 180, 1, 88, 153, 0, 7, 4, 167, 0, 4, 3, 60, 42, 3, 181, 1, 88, 27, 172]
abbrev dktX13_tear_0 : List UInt8 := dkwX13_tear_0 ++ []
theorem dksX13_tear_0 : cX13_tear.data.toList.drop 0 = dktX13_tear_0 := by decide +kernel
theorem dX13_tear_0 : decode cX13_tear 0 = .ok (.aload_n 0, 1) := dk_42 (dk_at dksX13_tear_0 0 rfl rfl)
theorem dX13_tear_1 : decode cX13_tear 1 = .ok (.getfield 344, 3) := dk_180 1 88 (dk_at dksX13_tear_0 1 rfl rfl)
theorem dX13_tear_4 : decode cX13_tear 4 = .ok (.ifCond .eq 7, 3) := dk_153 0 7 (dk_at dksX13_tear_0 4 rfl rfl)
theorem dX13_tear_7 : decode cX13_tear 7 = .ok (.iconst 1, 1) := dk_4 (dk_at dksX13_tear_0 7 rfl rfl)
theorem dX13_tear_8 : decode cX13_tear 8 = .ok (.goto 4, 3) := dk_167 0 4 (dk_at dksX13_tear_0 8 rfl rfl)
theorem dX13_tear_11 : decode cX13_tear 11 = .ok (.iconst 0, 1) := dk_3 (dk_at dksX13_tear_0 11 rfl rfl)
theorem dX13_tear_12 : decode cX13_tear 12 = .ok (.istore_n 1, 1) := dk_60 (dk_at dksX13_tear_0 12 rfl rfl)
theorem dX13_tear_13 : decode cX13_tear 13 = .ok (.aload_n 0, 1) := dk_42 (dk_at dksX13_tear_0 13 rfl rfl)
theorem dX13_tear_14 : decode cX13_tear 14 = .ok (.iconst 0, 1) := dk_3 (dk_at dksX13_tear_0 14 rfl rfl)
theorem dX13_tear_15 : decode cX13_tear 15 = .ok (.putfield 344, 3) := dk_181 1 88 (dk_at dksX13_tear_0 15 rfl rfl)
theorem dX13_tear_18 : decode cX13_tear 18 = .ok (.iload_n 1, 1) := dk_27 (dk_at dksX13_tear_0 18 rfl rfl)
theorem dX13_tear_19 : decode cX13_tear 19 = .ok (.ireturn, 1) := dk_172 (dk_at dksX13_tear_0 19 rfl rfl)
abbrev cX13_count : ByteArray := prog_16_method_112_code
def yX13_count : MethodName := ⟨RX13, "count", "(I)I"⟩
def dkwX13_count_6 : List UInt8 := [132, 3, 1, 167, 255, 228, 28, 172, 42, 18, 69, 182, 0, 88, 172]
abbrev dktX13_count_6 : List UInt8 := dkwX13_count_6 ++ []
def dkwX13_count_5 : List UInt8 := [16, 10, 162, 0, 28, 28, 42, 180, 0, 9, 7, 29, 96, 46, 156, 0, 7, 3, 167, 0, 4, 4, 96, 61]
abbrev dktX13_count_5 : List UInt8 := dkwX13_count_5 ++ dktX13_count_6
def dkwX13_count_4 : List UInt8 := [61, 132, 3, 1, 167, 255, 234, 28, 172, 42, 180, 1, 2, 172, 42, 180, 0, 9, 6, 46, 172, 3, 62, 29]
abbrev dktX13_count_4 : List UInt8 := dkwX13_count_4 ++ dktX13_count_5
def dkwX13_count_3 : List UInt8 := [182, 0, 185, 172, 3, 62, 29, 42, 180, 0, 9, 5, 46, 162, 0, 18, 28, 42, 29, 6, 182, 0, 101, 96]
abbrev dktX13_count_3 : List UInt8 := dkwX13_count_3 ++ dktX13_count_4
def dkwX13_count_2 : List UInt8 := [42, 180, 0, 9, 3, 46, 172, 42, 180, 0, 9, 5, 46, 172, 42, 182, 0, 178, 184, 0, 182, 172, 42]
abbrev dktX13_count_2 : List UInt8 := dkwX13_count_2 ++ dktX13_count_3
def dkwX13_count_1 : List UInt8 := [170, 0, 0, 0, 148, 0, 0, 0, 0, 0, 0, 0, 7, 0, 0, 0, 45, 0, 0, 0, 52, 0, 0, 0, 59, 0, 0, 0, 67, 0, 0, 0, 72, 0, 0, 0, 101, 0, 0, 0, 106, 0, 0, 0, 113]
abbrev dktX13_count_1 : List UInt8 := dkwX13_count_1 ++ dktX13_count_2
def dkwX13_count_0 : List UInt8 := [3, 61, 27]
abbrev dktX13_count_0 : List UInt8 := dkwX13_count_0 ++ dktX13_count_1
theorem dksX13_count_0 : cX13_count.data.toList.drop 0 = dktX13_count_0 := by decide +kernel
theorem dksX13_count_1 : cX13_count.data.toList.drop 3 = dktX13_count_1 := dk_seg dksX13_count_0 3 rfl rfl
theorem dksX13_count_2 : cX13_count.data.toList.drop 48 = dktX13_count_2 := dk_seg dksX13_count_1 45 rfl rfl
theorem dksX13_count_3 : cX13_count.data.toList.drop 71 = dktX13_count_3 := dk_seg dksX13_count_2 23 rfl rfl
theorem dksX13_count_4 : cX13_count.data.toList.drop 95 = dktX13_count_4 := dk_seg dksX13_count_3 24 rfl rfl
theorem dksX13_count_5 : cX13_count.data.toList.drop 119 = dktX13_count_5 := dk_seg dksX13_count_4 24 rfl rfl
theorem dksX13_count_6 : cX13_count.data.toList.drop 143 = dktX13_count_6 := dk_seg dksX13_count_5 24 rfl rfl
theorem dX13_count_0 : decode cX13_count 0 = .ok (.iconst 0, 1) := dk_3 (dk_at dksX13_count_0 0 rfl rfl)
theorem dX13_count_1 : decode cX13_count 1 = .ok (.istore_n 2, 1) := dk_61 (dk_at dksX13_count_0 1 rfl rfl)
theorem dX13_count_2 : decode cX13_count 2 = .ok (.iload_n 1, 1) := dk_27 (dk_at dksX13_count_0 2 rfl rfl)
theorem dX13_count_3 : decode cX13_count 3 = .ok (.tableswitch 148 0 7 #[45, 52, 59, 67, 72, 101, 106, 113], 45) := by decide +kernel
theorem dX13_count_48 : decode cX13_count 48 = .ok (.aload_n 0, 1) := dk_42 (dk_at dksX13_count_2 0 rfl rfl)
theorem dX13_count_49 : decode cX13_count 49 = .ok (.getfield 9, 3) := dk_180 0 9 (dk_at dksX13_count_2 1 rfl rfl)
theorem dX13_count_52 : decode cX13_count 52 = .ok (.iconst 0, 1) := dk_3 (dk_at dksX13_count_2 4 rfl rfl)
theorem dX13_count_53 : decode cX13_count 53 = .ok (.iaload, 1) := dk_46 (dk_at dksX13_count_2 5 rfl rfl)
theorem dX13_count_54 : decode cX13_count 54 = .ok (.ireturn, 1) := dk_172 (dk_at dksX13_count_2 6 rfl rfl)
theorem dX13_count_55 : decode cX13_count 55 = .ok (.aload_n 0, 1) := dk_42 (dk_at dksX13_count_2 7 rfl rfl)
theorem dX13_count_56 : decode cX13_count 56 = .ok (.getfield 9, 3) := dk_180 0 9 (dk_at dksX13_count_2 8 rfl rfl)
theorem dX13_count_59 : decode cX13_count 59 = .ok (.iconst 2, 1) := dk_5 (dk_at dksX13_count_2 11 rfl rfl)
theorem dX13_count_60 : decode cX13_count 60 = .ok (.iaload, 1) := dk_46 (dk_at dksX13_count_2 12 rfl rfl)
theorem dX13_count_61 : decode cX13_count 61 = .ok (.ireturn, 1) := dk_172 (dk_at dksX13_count_2 13 rfl rfl)
theorem dX13_count_62 : decode cX13_count 62 = .ok (.aload_n 0, 1) := dk_42 (dk_at dksX13_count_2 14 rfl rfl)
theorem dX13_count_63 : decode cX13_count 63 = .ok (.invokevirtual 178, 3) := dk_182 0 178 (dk_at dksX13_count_2 15 rfl rfl)
theorem dX13_count_66 : decode cX13_count 66 = .ok (.invokestatic 182, 3) := dk_184 0 182 (dk_at dksX13_count_2 18 rfl rfl)
theorem dX13_count_69 : decode cX13_count 69 = .ok (.ireturn, 1) := dk_172 (dk_at dksX13_count_2 21 rfl rfl)
theorem dX13_count_70 : decode cX13_count 70 = .ok (.aload_n 0, 1) := dk_42 (dk_at dksX13_count_2 22 rfl rfl)
theorem dX13_count_71 : decode cX13_count 71 = .ok (.invokevirtual 185, 3) := dk_182 0 185 (dk_at dksX13_count_3 0 rfl rfl)
theorem dX13_count_74 : decode cX13_count 74 = .ok (.ireturn, 1) := dk_172 (dk_at dksX13_count_3 3 rfl rfl)
theorem dX13_count_75 : decode cX13_count 75 = .ok (.iconst 0, 1) := dk_3 (dk_at dksX13_count_3 4 rfl rfl)
theorem dX13_count_76 : decode cX13_count 76 = .ok (.istore_n 3, 1) := dk_62 (dk_at dksX13_count_3 5 rfl rfl)
theorem dX13_count_77 : decode cX13_count 77 = .ok (.iload_n 3, 1) := dk_29 (dk_at dksX13_count_3 6 rfl rfl)
theorem dX13_count_78 : decode cX13_count 78 = .ok (.aload_n 0, 1) := dk_42 (dk_at dksX13_count_3 7 rfl rfl)
theorem dX13_count_79 : decode cX13_count 79 = .ok (.getfield 9, 3) := dk_180 0 9 (dk_at dksX13_count_3 8 rfl rfl)
theorem dX13_count_82 : decode cX13_count 82 = .ok (.iconst 2, 1) := dk_5 (dk_at dksX13_count_3 11 rfl rfl)
theorem dX13_count_83 : decode cX13_count 83 = .ok (.iaload, 1) := dk_46 (dk_at dksX13_count_3 12 rfl rfl)
theorem dX13_count_84 : decode cX13_count 84 = .ok (.if_icmp .ge 18, 3) := dk_162 0 18 (dk_at dksX13_count_3 13 rfl rfl)
theorem dX13_count_87 : decode cX13_count 87 = .ok (.iload_n 2, 1) := dk_28 (dk_at dksX13_count_3 16 rfl rfl)
theorem dX13_count_88 : decode cX13_count 88 = .ok (.aload_n 0, 1) := dk_42 (dk_at dksX13_count_3 17 rfl rfl)
theorem dX13_count_89 : decode cX13_count 89 = .ok (.iload_n 3, 1) := dk_29 (dk_at dksX13_count_3 18 rfl rfl)
theorem dX13_count_90 : decode cX13_count 90 = .ok (.iconst 3, 1) := dk_6 (dk_at dksX13_count_3 19 rfl rfl)
theorem dX13_count_91 : decode cX13_count 91 = .ok (.invokevirtual 101, 3) := dk_182 0 101 (dk_at dksX13_count_3 20 rfl rfl)
theorem dX13_count_94 : decode cX13_count 94 = .ok (.iadd, 1) := dk_96 (dk_at dksX13_count_3 23 rfl rfl)
theorem dX13_count_95 : decode cX13_count 95 = .ok (.istore_n 2, 1) := dk_61 (dk_at dksX13_count_4 0 rfl rfl)
theorem dX13_count_96 : decode cX13_count 96 = .ok (.iinc 3 1, 3) := dk_132 3 1 (dk_at dksX13_count_4 1 rfl rfl)
theorem dX13_count_99 : decode cX13_count 99 = .ok (.goto (-22), 3) := dk_167 255 234 (dk_at dksX13_count_4 4 rfl rfl)
theorem dX13_count_102 : decode cX13_count 102 = .ok (.iload_n 2, 1) := dk_28 (dk_at dksX13_count_4 7 rfl rfl)
theorem dX13_count_103 : decode cX13_count 103 = .ok (.ireturn, 1) := dk_172 (dk_at dksX13_count_4 8 rfl rfl)
theorem dX13_count_104 : decode cX13_count 104 = .ok (.aload_n 0, 1) := dk_42 (dk_at dksX13_count_4 9 rfl rfl)
theorem dX13_count_105 : decode cX13_count 105 = .ok (.getfield 258, 3) := dk_180 1 2 (dk_at dksX13_count_4 10 rfl rfl)
theorem dX13_count_108 : decode cX13_count 108 = .ok (.ireturn, 1) := dk_172 (dk_at dksX13_count_4 13 rfl rfl)
theorem dX13_count_109 : decode cX13_count 109 = .ok (.aload_n 0, 1) := dk_42 (dk_at dksX13_count_4 14 rfl rfl)
theorem dX13_count_110 : decode cX13_count 110 = .ok (.getfield 9, 3) := dk_180 0 9 (dk_at dksX13_count_4 15 rfl rfl)
theorem dX13_count_113 : decode cX13_count 113 = .ok (.iconst 3, 1) := dk_6 (dk_at dksX13_count_4 18 rfl rfl)
theorem dX13_count_114 : decode cX13_count 114 = .ok (.iaload, 1) := dk_46 (dk_at dksX13_count_4 19 rfl rfl)
theorem dX13_count_115 : decode cX13_count 115 = .ok (.ireturn, 1) := dk_172 (dk_at dksX13_count_4 20 rfl rfl)
theorem dX13_count_116 : decode cX13_count 116 = .ok (.iconst 0, 1) := dk_3 (dk_at dksX13_count_4 21 rfl rfl)
theorem dX13_count_117 : decode cX13_count 117 = .ok (.istore_n 3, 1) := dk_62 (dk_at dksX13_count_4 22 rfl rfl)
theorem dX13_count_118 : decode cX13_count 118 = .ok (.iload_n 3, 1) := dk_29 (dk_at dksX13_count_4 23 rfl rfl)
theorem dX13_count_119 : decode cX13_count 119 = .ok (.bipush 10, 2) := dk_16 10 (dk_at dksX13_count_5 0 rfl rfl)
theorem dX13_count_121 : decode cX13_count 121 = .ok (.if_icmp .ge 28, 3) := dk_162 0 28 (dk_at dksX13_count_5 2 rfl rfl)
theorem dX13_count_124 : decode cX13_count 124 = .ok (.iload_n 2, 1) := dk_28 (dk_at dksX13_count_5 5 rfl rfl)
theorem dX13_count_125 : decode cX13_count 125 = .ok (.aload_n 0, 1) := dk_42 (dk_at dksX13_count_5 6 rfl rfl)
theorem dX13_count_126 : decode cX13_count 126 = .ok (.getfield 9, 3) := dk_180 0 9 (dk_at dksX13_count_5 7 rfl rfl)
theorem dX13_count_129 : decode cX13_count 129 = .ok (.iconst 4, 1) := dk_7 (dk_at dksX13_count_5 10 rfl rfl)
theorem dX13_count_130 : decode cX13_count 130 = .ok (.iload_n 3, 1) := dk_29 (dk_at dksX13_count_5 11 rfl rfl)
theorem dX13_count_131 : decode cX13_count 131 = .ok (.iadd, 1) := dk_96 (dk_at dksX13_count_5 12 rfl rfl)
theorem dX13_count_132 : decode cX13_count 132 = .ok (.iaload, 1) := dk_46 (dk_at dksX13_count_5 13 rfl rfl)
theorem dX13_count_133 : decode cX13_count 133 = .ok (.ifCond .ge 7, 3) := dk_156 0 7 (dk_at dksX13_count_5 14 rfl rfl)
theorem dX13_count_136 : decode cX13_count 136 = .ok (.iconst 0, 1) := dk_3 (dk_at dksX13_count_5 17 rfl rfl)
theorem dX13_count_137 : decode cX13_count 137 = .ok (.goto 4, 3) := dk_167 0 4 (dk_at dksX13_count_5 18 rfl rfl)
theorem dX13_count_140 : decode cX13_count 140 = .ok (.iconst 1, 1) := dk_4 (dk_at dksX13_count_5 21 rfl rfl)
theorem dX13_count_141 : decode cX13_count 141 = .ok (.iadd, 1) := dk_96 (dk_at dksX13_count_5 22 rfl rfl)
theorem dX13_count_142 : decode cX13_count 142 = .ok (.istore_n 2, 1) := dk_61 (dk_at dksX13_count_5 23 rfl rfl)
theorem dX13_count_143 : decode cX13_count 143 = .ok (.iinc 3 1, 3) := dk_132 3 1 (dk_at dksX13_count_6 0 rfl rfl)
theorem dX13_count_146 : decode cX13_count 146 = .ok (.goto (-28), 3) := dk_167 255 228 (dk_at dksX13_count_6 3 rfl rfl)
theorem dX13_count_149 : decode cX13_count 149 = .ok (.iload_n 2, 1) := dk_28 (dk_at dksX13_count_6 6 rfl rfl)
theorem dX13_count_150 : decode cX13_count 150 = .ok (.ireturn, 1) := dk_172 (dk_at dksX13_count_6 7 rfl rfl)
theorem dX13_count_151 : decode cX13_count 151 = .ok (.aload_n 0, 1) := dk_42 (dk_at dksX13_count_6 8 rfl rfl)
theorem dX13_count_152 : decode cX13_count 152 = .ok (.ldc 69, 2) := dk_18 69 (dk_at dksX13_count_6 9 rfl rfl)
theorem dX13_count_154 : decode cX13_count 154 = .ok (.invokevirtual 88, 3) := dk_182 0 88 (dk_at dksX13_count_6 11 rfl rfl)
theorem dX13_count_157 : decode cX13_count 157 = .ok (.ireturn, 1) := dk_172 (dk_at dksX13_count_6 14 rfl rfl)
abbrev cX13_status : ByteArray := prog_16_method_113_code
def yX13_status : MethodName := ⟨RX13, "status", "(I)I"⟩
def dkwX13_status_1 : List UInt8 := [182, 0, 88, 172]
abbrev dktX13_status_1 : List UInt8 := dkwX13_status_1 ++ []
def dkwX13_status_0 : List UInt8 := [27, 2, 16, 6, 184, 0, 74, 153, 0, 14, 42, 180, 0, 19, 27, 4, 96, 46, 167, 0, 9, 42, 18, 69]
abbrev dktX13_status_0 : List UInt8 := dkwX13_status_0 ++ dktX13_status_1
theorem dksX13_status_0 : cX13_status.data.toList.drop 0 = dktX13_status_0 := by decide +kernel
theorem dksX13_status_1 : cX13_status.data.toList.drop 24 = dktX13_status_1 := dk_seg dksX13_status_0 24 rfl rfl
theorem dX13_status_0 : decode cX13_status 0 = .ok (.iload_n 1, 1) := dk_27 (dk_at dksX13_status_0 0 rfl rfl)
theorem dX13_status_1 : decode cX13_status 1 = .ok (.iconst (-1), 1) := dk_2 (dk_at dksX13_status_0 1 rfl rfl)
theorem dX13_status_2 : decode cX13_status 2 = .ok (.bipush 6, 2) := dk_16 6 (dk_at dksX13_status_0 2 rfl rfl)
theorem dX13_status_4 : decode cX13_status 4 = .ok (.invokestatic 74, 3) := dk_184 0 74 (dk_at dksX13_status_0 4 rfl rfl)
theorem dX13_status_7 : decode cX13_status 7 = .ok (.ifCond .eq 14, 3) := dk_153 0 14 (dk_at dksX13_status_0 7 rfl rfl)
theorem dX13_status_10 : decode cX13_status 10 = .ok (.aload_n 0, 1) := dk_42 (dk_at dksX13_status_0 10 rfl rfl)
theorem dX13_status_11 : decode cX13_status 11 = .ok (.getfield 19, 3) := dk_180 0 19 (dk_at dksX13_status_0 11 rfl rfl)
theorem dX13_status_14 : decode cX13_status 14 = .ok (.iload_n 1, 1) := dk_27 (dk_at dksX13_status_0 14 rfl rfl)
theorem dX13_status_15 : decode cX13_status 15 = .ok (.iconst 1, 1) := dk_4 (dk_at dksX13_status_0 15 rfl rfl)
theorem dX13_status_16 : decode cX13_status 16 = .ok (.iadd, 1) := dk_96 (dk_at dksX13_status_0 16 rfl rfl)
theorem dX13_status_17 : decode cX13_status 17 = .ok (.iaload, 1) := dk_46 (dk_at dksX13_status_0 17 rfl rfl)
theorem dX13_status_18 : decode cX13_status 18 = .ok (.goto 9, 3) := dk_167 0 9 (dk_at dksX13_status_0 18 rfl rfl)
theorem dX13_status_21 : decode cX13_status 21 = .ok (.aload_n 0, 1) := dk_42 (dk_at dksX13_status_0 21 rfl rfl)
theorem dX13_status_22 : decode cX13_status 22 = .ok (.ldc 69, 2) := dk_18 69 (dk_at dksX13_status_0 22 rfl rfl)
theorem dX13_status_24 : decode cX13_status 24 = .ok (.invokevirtual 88, 3) := dk_182 0 88 (dk_at dksX13_status_1 0 rfl rfl)
theorem dX13_status_27 : decode cX13_status 27 = .ok (.ireturn, 1) := dk_172 (dk_at dksX13_status_1 3 rfl rfl)
theorem q115 : (Jvm.Cond.initialized "WildBellsModel") ∈ lw_all := lw_g (lw_at lw_m1 17 rfl) rfl
theorem q1182 : (Jvm.Cond.instantiable "WildBellsModel" (24 : Nat)) ∈ lw_all := lw_g (lw_at lw_m5 124 rfl) rfl
theorem q1184 : (Jvm.Cond.instanceMethod ({ cls := "WildBellsModel", name := "<init>", desc := "()V" } : Jvm.MethodName)) ∈ lw_all := lw_g (lw_at lw_m5 126 rfl) rfl
theorem q1185 : (Jvm.Cond.code ({ cls := "WildBellsModel", name := "<init>", desc := "()V" } : Jvm.MethodName) prog_16_method_1_code (2 : Nat) (Option.none : Option Jvm.ClassFile.FieldType)) ∈ lw_all := lw_g (lw_at lw_m5 127 rfl) rfl
theorem q1186 : (Jvm.Cond.methodLink "WildBellsModel" (1 : Nat) ({ cls := "java/lang/Object", name := "<init>", desc := "()V" } : Jvm.MethodName)) ∈ lw_all := lw_g (lw_at lw_m5 128 rfl) rfl
theorem q1187 : (Jvm.Cond.classLink "WildBellsModel" (34 : Nat) "java/lang/String") ∈ lw_all := lw_g (lw_at lw_m5 129 rfl) rfl
theorem q1189 : (Jvm.Cond.stringRef "WildBellsModel" (36 : Nat) "bell") ∈ lw_tbl := lw_at lw_m5 131 rfl
theorem q1190 : (Jvm.Cond.stringRef "WildBellsModel" (38 : Nat) "herd") ∈ lw_tbl := lw_at lw_m5 132 rfl
theorem q1191 : (Jvm.Cond.stringRef "WildBellsModel" (40 : Nat) "lone") ∈ lw_tbl := lw_at lw_m5 133 rfl
theorem q1192 : (Jvm.Cond.stringRef "WildBellsModel" (42 : Nat) "tenor") ∈ lw_tbl := lw_at lw_m5 134 rfl
theorem q1193 : (Jvm.Cond.stringRef "WildBellsModel" (44 : Nat) "eldest") ∈ lw_tbl := lw_at lw_m5 135 rfl
theorem q1194 : (Jvm.Cond.stringRef "WildBellsModel" (46 : Nat) "tame") ∈ lw_tbl := lw_at lw_m5 136 rfl
theorem q1195 : (Jvm.Cond.stringRef "WildBellsModel" (48 : Nat) "young") ∈ lw_tbl := lw_at lw_m5 137 rfl
theorem q1196 : (Jvm.Cond.fieldLink "WildBellsModel" (9 : Nat) "WildBellsModel" "now" "[I") ∈ lw_all := lw_g (lw_at lw_m5 138 rfl) rfl
theorem q1197 : (Jvm.Cond.fieldLink "WildBellsModel" (13 : Nat) "WildBellsModel" "kept" "[I") ∈ lw_all := lw_g (lw_at lw_m5 139 rfl) rfl
theorem q1198 : (Jvm.Cond.fieldLink "WildBellsModel" (16 : Nat) "WildBellsModel" "aside" "[I") ∈ lw_all := lw_g (lw_at lw_m5 140 rfl) rfl
theorem q1199 : (Jvm.Cond.fieldLink "WildBellsModel" (344 : Nat) "WildBellsModel" "isKept" "Z") ∈ lw_all := lw_g (lw_at lw_m5 141 rfl) rfl
theorem q1200 : (Jvm.Cond.fieldLink "WildBellsModel" (19 : Nat) "WildBellsModel" "found" "[I") ∈ lw_all := lw_g (lw_at lw_m5 142 rfl) rfl
theorem q1201 : (Jvm.Cond.fieldLink "WildBellsModel" (22 : Nat) "WildBellsModel" "down" "[I") ∈ lw_all := lw_g (lw_at lw_m5 143 rfl) rfl
theorem q1202 : (Jvm.Cond.fieldLink "WildBellsModel" (25 : Nat) "WildBellsModel" "right" "[I") ∈ lw_all := lw_g (lw_at lw_m5 144 rfl) rfl
theorem q1203 : (Jvm.Cond.fieldLink "WildBellsModel" (162 : Nat) "WildBellsModel" "isMoved" "Z") ∈ lw_all := lw_g (lw_at lw_m5 145 rfl) rfl
theorem q1204 : (Jvm.Cond.fieldLink "WildBellsModel" (28 : Nat) "WildBellsModel" "parts" "[I") ∈ lw_all := lw_g (lw_at lw_m5 146 rfl) rfl
theorem q1205 : (Jvm.Cond.fieldLink "WildBellsModel" (31 : Nat) "WildBellsModel" "tape" "[I") ∈ lw_all := lw_g (lw_at lw_m5 147 rfl) rfl
theorem q1206 : (Jvm.Cond.fieldLink "WildBellsModel" (258 : Nat) "WildBellsModel" "taped" "I") ∈ lw_all := lw_g (lw_at lw_m5 148 rfl) rfl
theorem q1207 : (Jvm.Cond.fieldLink "WildBellsModel" (265 : Nat) "WildBellsModel" "begins" "I") ∈ lw_all := lw_g (lw_at lw_m5 149 rfl) rfl
theorem q1208 : (Jvm.Cond.fieldLink "WildBellsModel" (262 : Nat) "WildBellsModel" "ends" "I") ∈ lw_all := lw_g (lw_at lw_m5 150 rfl) rfl
theorem q1209 : (Jvm.Cond.fieldLink "WildBellsModel" (274 : Nat) "WildBellsModel" "sort" "I") ∈ lw_all := lw_g (lw_at lw_m5 151 rfl) rfl
theorem q1210 : (Jvm.Cond.fieldLink "WildBellsModel" (271 : Nat) "WildBellsModel" "value" "I") ∈ lw_all := lw_g (lw_at lw_m5 152 rfl) rfl
theorem q1211 : (Jvm.Cond.fieldLink "WildBellsModel" (284 : Nat) "WildBellsModel" "isWrong" "Z") ∈ lw_all := lw_g (lw_at lw_m5 153 rfl) rfl
theorem q1212 : (Jvm.Cond.fieldLink "WildBellsModel" (50 : Nat) "WildBellsModel" "kindNames" "[Ljava/lang/String;") ∈ lw_all := lw_g (lw_at lw_m5 154 rfl) rfl
theorem q1213 : (Jvm.Cond.fieldLink "WildBellsModel" (54 : Nat) "WildBellsModel" "items" "[I") ∈ lw_all := lw_g (lw_at lw_m5 155 rfl) rfl
theorem q1214 : (Jvm.Cond.fieldLink "WildBellsModel" (294 : Nat) "WildBellsModel" "itemMany" "I") ∈ lw_all := lw_g (lw_at lw_m5 156 rfl) rfl
theorem q1215 : (Jvm.Cond.fieldLink "WildBellsModel" (304 : Nat) "WildBellsModel" "bellThen" "I") ∈ lw_all := lw_g (lw_at lw_m5 157 rfl) rfl
theorem q1216 : (Jvm.Cond.fieldLink "WildBellsModel" (57 : Nat) "WildBellsModel" "widths" "[I") ∈ lw_all := lw_g (lw_at lw_m5 158 rfl) rfl
theorem q1217 : (Jvm.Cond.fieldLink "WildBellsModel" (60 : Nat) "WildBellsModel" "sizes" "[I") ∈ lw_all := lw_g (lw_at lw_m5 159 rfl) rfl
theorem q1218 : (Jvm.Cond.fieldLink "WildBellsModel" (63 : Nat) "WildBellsModel" "numbers" "[I") ∈ lw_all := lw_g (lw_at lw_m5 160 rfl) rfl
theorem q1219 : (Jvm.Cond.fieldLink "WildBellsModel" (66 : Nat) "WildBellsModel" "moved" "[I") ∈ lw_all := lw_g (lw_at lw_m5 161 rfl) rfl
theorem q1220 : (Jvm.Cond.laysFinal "WildBellsModel" "WildBellsModel" "now" "[I") ∈ lw_all := lw_g (lw_at lw_m5 162 rfl) rfl
theorem q1221 : (Jvm.Cond.soleField "WildBellsModel" "now") ∈ lw_all := lw_g (lw_at lw_m5 163 rfl) rfl
theorem q1222 : (Jvm.Cond.laysFinal "WildBellsModel" "WildBellsModel" "kept" "[I") ∈ lw_all := lw_g (lw_at lw_m5 164 rfl) rfl
theorem q1223 : (Jvm.Cond.soleField "WildBellsModel" "kept") ∈ lw_all := lw_g (lw_at lw_m5 165 rfl) rfl
theorem q1224 : (Jvm.Cond.laysFinal "WildBellsModel" "WildBellsModel" "aside" "[I") ∈ lw_all := lw_g (lw_at lw_m5 166 rfl) rfl
theorem q1225 : (Jvm.Cond.soleField "WildBellsModel" "aside") ∈ lw_all := lw_g (lw_at lw_m5 167 rfl) rfl
theorem q1226 : (Jvm.Cond.lays "WildBellsModel" "WildBellsModel" "isKept" "Z") ∈ lw_all := lw_g (lw_at lw_m5 168 rfl) rfl
theorem q1227 : (Jvm.Cond.soleField "WildBellsModel" "isKept") ∈ lw_all := lw_g (lw_at lw_m5 169 rfl) rfl
theorem q1228 : (Jvm.Cond.laysFinal "WildBellsModel" "WildBellsModel" "found" "[I") ∈ lw_all := lw_g (lw_at lw_m5 170 rfl) rfl
theorem q1229 : (Jvm.Cond.soleField "WildBellsModel" "found") ∈ lw_all := lw_g (lw_at lw_m5 171 rfl) rfl
theorem q1230 : (Jvm.Cond.laysFinal "WildBellsModel" "WildBellsModel" "down" "[I") ∈ lw_all := lw_g (lw_at lw_m5 172 rfl) rfl
theorem q1231 : (Jvm.Cond.soleField "WildBellsModel" "down") ∈ lw_all := lw_g (lw_at lw_m5 173 rfl) rfl
theorem q1232 : (Jvm.Cond.laysFinal "WildBellsModel" "WildBellsModel" "right" "[I") ∈ lw_all := lw_g (lw_at lw_m5 174 rfl) rfl
theorem q1233 : (Jvm.Cond.soleField "WildBellsModel" "right") ∈ lw_all := lw_g (lw_at lw_m5 175 rfl) rfl
theorem q1234 : (Jvm.Cond.lays "WildBellsModel" "WildBellsModel" "isMoved" "Z") ∈ lw_all := lw_g (lw_at lw_m5 176 rfl) rfl
theorem q1235 : (Jvm.Cond.soleField "WildBellsModel" "isMoved") ∈ lw_all := lw_g (lw_at lw_m5 177 rfl) rfl
theorem q1236 : (Jvm.Cond.laysFinal "WildBellsModel" "WildBellsModel" "parts" "[I") ∈ lw_all := lw_g (lw_at lw_m5 178 rfl) rfl
theorem q1237 : (Jvm.Cond.soleField "WildBellsModel" "parts") ∈ lw_all := lw_g (lw_at lw_m5 179 rfl) rfl
theorem q1238 : (Jvm.Cond.laysFinal "WildBellsModel" "WildBellsModel" "tape" "[I") ∈ lw_all := lw_g (lw_at lw_m5 180 rfl) rfl
theorem q1239 : (Jvm.Cond.soleField "WildBellsModel" "tape") ∈ lw_all := lw_g (lw_at lw_m5 181 rfl) rfl
theorem q1240 : (Jvm.Cond.lays "WildBellsModel" "WildBellsModel" "taped" "I") ∈ lw_all := lw_g (lw_at lw_m5 182 rfl) rfl
theorem q1241 : (Jvm.Cond.soleField "WildBellsModel" "taped") ∈ lw_all := lw_g (lw_at lw_m5 183 rfl) rfl
theorem q1242 : (Jvm.Cond.lays "WildBellsModel" "WildBellsModel" "begins" "I") ∈ lw_all := lw_g (lw_at lw_m5 184 rfl) rfl
theorem q1243 : (Jvm.Cond.soleField "WildBellsModel" "begins") ∈ lw_all := lw_g (lw_at lw_m5 185 rfl) rfl
theorem q1244 : (Jvm.Cond.lays "WildBellsModel" "WildBellsModel" "ends" "I") ∈ lw_all := lw_g (lw_at lw_m5 186 rfl) rfl
theorem q1245 : (Jvm.Cond.soleField "WildBellsModel" "ends") ∈ lw_all := lw_g (lw_at lw_m5 187 rfl) rfl
theorem q1246 : (Jvm.Cond.lays "WildBellsModel" "WildBellsModel" "sort" "I") ∈ lw_all := lw_g (lw_at lw_m5 188 rfl) rfl
theorem q1247 : (Jvm.Cond.soleField "WildBellsModel" "sort") ∈ lw_all := lw_g (lw_at lw_m5 189 rfl) rfl
theorem q1248 : (Jvm.Cond.lays "WildBellsModel" "WildBellsModel" "value" "I") ∈ lw_all := lw_g (lw_at lw_m5 190 rfl) rfl
theorem q1249 : (Jvm.Cond.soleField "WildBellsModel" "value") ∈ lw_all := lw_g (lw_at lw_m5 191 rfl) rfl
theorem q1250 : (Jvm.Cond.lays "WildBellsModel" "WildBellsModel" "isWrong" "Z") ∈ lw_all := lw_g (lw_at lw_m5 192 rfl) rfl
theorem q1251 : (Jvm.Cond.soleField "WildBellsModel" "isWrong") ∈ lw_all := lw_g (lw_at lw_m5 193 rfl) rfl
theorem q1252 : (Jvm.Cond.laysFinal "WildBellsModel" "WildBellsModel" "kindNames" "[Ljava/lang/String;") ∈ lw_all := lw_g (lw_at lw_m5 194 rfl) rfl
theorem q1253 : (Jvm.Cond.soleField "WildBellsModel" "kindNames") ∈ lw_all := lw_g (lw_at lw_m5 195 rfl) rfl
theorem q1254 : (Jvm.Cond.laysFinal "WildBellsModel" "WildBellsModel" "items" "[I") ∈ lw_all := lw_g (lw_at lw_m5 196 rfl) rfl
theorem q1255 : (Jvm.Cond.soleField "WildBellsModel" "items") ∈ lw_all := lw_g (lw_at lw_m5 197 rfl) rfl
theorem q1256 : (Jvm.Cond.lays "WildBellsModel" "WildBellsModel" "itemMany" "I") ∈ lw_all := lw_g (lw_at lw_m5 198 rfl) rfl
theorem q1257 : (Jvm.Cond.soleField "WildBellsModel" "itemMany") ∈ lw_all := lw_g (lw_at lw_m5 199 rfl) rfl
theorem q1258 : (Jvm.Cond.lays "WildBellsModel" "WildBellsModel" "bellThen" "I") ∈ lw_all := lw_g (lw_at lw_m5 200 rfl) rfl
theorem q1259 : (Jvm.Cond.soleField "WildBellsModel" "bellThen") ∈ lw_all := lw_g (lw_at lw_m5 201 rfl) rfl
theorem q1260 : (Jvm.Cond.laysFinal "WildBellsModel" "WildBellsModel" "widths" "[I") ∈ lw_all := lw_g (lw_at lw_m5 202 rfl) rfl
theorem q1261 : (Jvm.Cond.soleField "WildBellsModel" "widths") ∈ lw_all := lw_g (lw_at lw_m5 203 rfl) rfl
theorem q1262 : (Jvm.Cond.laysFinal "WildBellsModel" "WildBellsModel" "sizes" "[I") ∈ lw_all := lw_g (lw_at lw_m5 204 rfl) rfl
theorem q1263 : (Jvm.Cond.soleField "WildBellsModel" "sizes") ∈ lw_all := lw_g (lw_at lw_m5 205 rfl) rfl
theorem q1264 : (Jvm.Cond.laysFinal "WildBellsModel" "WildBellsModel" "numbers" "[I") ∈ lw_all := lw_g (lw_at lw_m5 206 rfl) rfl
theorem q1265 : (Jvm.Cond.soleField "WildBellsModel" "numbers") ∈ lw_all := lw_g (lw_at lw_m5 207 rfl) rfl
theorem q1266 : (Jvm.Cond.laysFinal "WildBellsModel" "WildBellsModel" "moved" "[I") ∈ lw_all := lw_g (lw_at lw_m5 208 rfl) rfl
theorem q1267 : (Jvm.Cond.soleField "WildBellsModel" "moved") ∈ lw_all := lw_g (lw_at lw_m5 209 rfl) rfl
theorem q1268 : (Jvm.Cond.superclass "WildBellsModel" "java/lang/Object") ∈ lw_all := lw_g (lw_at lw_m5 210 rfl) rfl
theorem q1270 : (Jvm.Cond.instanceMethod ({ cls := "WildBellsModel", name := "net", desc := "(II)I" } : Jvm.MethodName)) ∈ lw_all := lw_g (lw_at lw_m5 212 rfl) rfl
theorem q1271 : (Jvm.Cond.selects "WildBellsModel" ({ cls := "WildBellsModel", name := "net", desc := "(II)I" } : Jvm.MethodName) ({ cls := "WildBellsModel", name := "net", desc := "(II)I" } : Jvm.MethodName)) ∈ lw_all := lw_g (lw_at lw_m5 213 rfl) rfl
theorem q1272 : (Jvm.Cond.code ({ cls := "WildBellsModel", name := "net", desc := "(II)I" } : Jvm.MethodName) prog_16_method_13_code (3 : Nat) (Option.some Jvm.ClassFile.FieldType.int)) ∈ lw_all := lw_g (lw_at lw_m5 214 rfl) rfl
theorem q1273 : (Jvm.Cond.methodLink "WildBellsModel" (84 : Nat) ({ cls := "WildBellsModel", name := "isCell", desc := "(I)Z" } : Jvm.MethodName)) ∈ lw_all := lw_g (lw_at lw_m5 215 rfl) rfl
theorem q1274 : (Jvm.Cond.static ({ cls := "WildBellsModel", name := "isCell", desc := "(I)Z" } : Jvm.MethodName)) ∈ lw_all := lw_g (lw_at lw_m5 216 rfl) rfl
theorem q1275 : (Jvm.Cond.code ({ cls := "WildBellsModel", name := "isCell", desc := "(I)Z" } : Jvm.MethodName) prog_16_method_9_code (1 : Nat) (Option.some Jvm.ClassFile.FieldType.boolean)) ∈ lw_all := lw_g (lw_at lw_m5 217 rfl) rfl
theorem q1276 : (Jvm.Cond.methodLink "WildBellsModel" (74 : Nat) ({ cls := "WildBellsModel", name := "within", desc := "(III)Z" } : Jvm.MethodName)) ∈ lw_all := lw_g (lw_at lw_m5 218 rfl) rfl
theorem q1277 : (Jvm.Cond.static ({ cls := "WildBellsModel", name := "within", desc := "(III)Z" } : Jvm.MethodName)) ∈ lw_all := lw_g (lw_at lw_m5 219 rfl) rfl
theorem q1278 : (Jvm.Cond.code ({ cls := "WildBellsModel", name := "within", desc := "(III)Z" } : Jvm.MethodName) prog_16_method_3_code (3 : Nat) (Option.some Jvm.ClassFile.FieldType.boolean)) ∈ lw_all := lw_g (lw_at lw_m5 220 rfl) rfl
theorem q1279 : (Jvm.Cond.constant "WildBellsModel" (69 : Nat) (-1000001 : Int32)) ∈ lw_all := lw_g (lw_at lw_m5 221 rfl) rfl
theorem q1280 : (Jvm.Cond.methodLink "WildBellsModel" (88 : Nat) ({ cls := "WildBellsModel", name := "finding", desc := "(I)I" } : Jvm.MethodName)) ∈ lw_all := lw_g (lw_at lw_m5 222 rfl) rfl
theorem q1281 : (Jvm.Cond.privateMethod ({ cls := "WildBellsModel", name := "finding", desc := "(I)I" } : Jvm.MethodName)) ∈ lw_tbl := lw_at lw_m5 223 rfl
theorem q1282 : (Jvm.Cond.instanceMethod ({ cls := "WildBellsModel", name := "finding", desc := "(I)I" } : Jvm.MethodName)) ∈ lw_all := lw_g (lw_at lw_m5 224 rfl) rfl
theorem q1283 : (Jvm.Cond.code ({ cls := "WildBellsModel", name := "finding", desc := "(I)I" } : Jvm.MethodName) prog_16_method_2_code (2 : Nat) (Option.some Jvm.ClassFile.FieldType.int)) ∈ lw_all := lw_g (lw_at lw_m5 225 rfl) rfl
theorem q1284 : (Jvm.Cond.methodLink "WildBellsModel" (91 : Nat) ({ cls := "WildBellsModel", name := "become", desc := "(II)I" } : Jvm.MethodName)) ∈ lw_all := lw_g (lw_at lw_m5 226 rfl) rfl
theorem q1285 : (Jvm.Cond.privateMethod ({ cls := "WildBellsModel", name := "become", desc := "(II)I" } : Jvm.MethodName)) ∈ lw_tbl := lw_at lw_m5 227 rfl
theorem q1286 : (Jvm.Cond.instanceMethod ({ cls := "WildBellsModel", name := "become", desc := "(II)I" } : Jvm.MethodName)) ∈ lw_all := lw_g (lw_at lw_m5 228 rfl) rfl
theorem q1287 : (Jvm.Cond.code ({ cls := "WildBellsModel", name := "become", desc := "(II)I" } : Jvm.MethodName) prog_16_method_4_code (4 : Nat) (Option.some Jvm.ClassFile.FieldType.int)) ∈ lw_all := lw_g (lw_at lw_m5 229 rfl) rfl
theorem q1289 : (Jvm.Cond.instanceMethod ({ cls := "WildBellsModel", name := "thick", desc := "(II)I" } : Jvm.MethodName)) ∈ lw_all := lw_g (lw_at lw_m5 231 rfl) rfl
theorem q1290 : (Jvm.Cond.selects "WildBellsModel" ({ cls := "WildBellsModel", name := "thick", desc := "(II)I" } : Jvm.MethodName) ({ cls := "WildBellsModel", name := "thick", desc := "(II)I" } : Jvm.MethodName)) ∈ lw_all := lw_g (lw_at lw_m5 232 rfl) rfl
theorem q1291 : (Jvm.Cond.code ({ cls := "WildBellsModel", name := "thick", desc := "(II)I" } : Jvm.MethodName) prog_16_method_14_code (3 : Nat) (Option.some Jvm.ClassFile.FieldType.int)) ∈ lw_all := lw_g (lw_at lw_m5 233 rfl) rfl
theorem q1293 : (Jvm.Cond.instanceMethod ({ cls := "WildBellsModel", name := "hunter", desc := "(II)I" } : Jvm.MethodName)) ∈ lw_all := lw_g (lw_at lw_m5 235 rfl) rfl
theorem q1294 : (Jvm.Cond.selects "WildBellsModel" ({ cls := "WildBellsModel", name := "hunter", desc := "(II)I" } : Jvm.MethodName) ({ cls := "WildBellsModel", name := "hunter", desc := "(II)I" } : Jvm.MethodName)) ∈ lw_all := lw_g (lw_at lw_m5 236 rfl) rfl
theorem q1295 : (Jvm.Cond.code ({ cls := "WildBellsModel", name := "hunter", desc := "(II)I" } : Jvm.MethodName) prog_16_method_16_code (3 : Nat) (Option.some Jvm.ClassFile.FieldType.int)) ∈ lw_all := lw_g (lw_at lw_m5 237 rfl) rfl
theorem q1296 : (Jvm.Cond.methodLink "WildBellsModel" (95 : Nat) ({ cls := "WildBellsModel", name := "isHunter", desc := "(I)Z" } : Jvm.MethodName)) ∈ lw_all := lw_g (lw_at lw_m5 238 rfl) rfl
theorem q1297 : (Jvm.Cond.static ({ cls := "WildBellsModel", name := "isHunter", desc := "(I)Z" } : Jvm.MethodName)) ∈ lw_all := lw_g (lw_at lw_m5 239 rfl) rfl
theorem q1298 : (Jvm.Cond.code ({ cls := "WildBellsModel", name := "isHunter", desc := "(I)Z" } : Jvm.MethodName) prog_16_method_15_code (1 : Nat) (Option.some Jvm.ClassFile.FieldType.boolean)) ∈ lw_all := lw_g (lw_at lw_m6 0 rfl) rfl
theorem q1300 : (Jvm.Cond.instanceMethod ({ cls := "WildBellsModel", name := "fear", desc := "(I)I" } : Jvm.MethodName)) ∈ lw_all := lw_g (lw_at lw_m6 2 rfl) rfl
theorem q1301 : (Jvm.Cond.selects "WildBellsModel" ({ cls := "WildBellsModel", name := "fear", desc := "(I)I" } : Jvm.MethodName) ({ cls := "WildBellsModel", name := "fear", desc := "(I)I" } : Jvm.MethodName)) ∈ lw_all := lw_g (lw_at lw_m6 3 rfl) rfl
theorem q1302 : (Jvm.Cond.code ({ cls := "WildBellsModel", name := "fear", desc := "(I)I" } : Jvm.MethodName) prog_16_method_17_code (2 : Nat) (Option.some Jvm.ClassFile.FieldType.int)) ∈ lw_all := lw_g (lw_at lw_m6 4 rfl) rfl
theorem q1304 : (Jvm.Cond.instanceMethod ({ cls := "WildBellsModel", name := "bell", desc := "(II)I" } : Jvm.MethodName)) ∈ lw_all := lw_g (lw_at lw_m6 6 rfl) rfl
theorem q1305 : (Jvm.Cond.selects "WildBellsModel" ({ cls := "WildBellsModel", name := "bell", desc := "(II)I" } : Jvm.MethodName) ({ cls := "WildBellsModel", name := "bell", desc := "(II)I" } : Jvm.MethodName)) ∈ lw_all := lw_g (lw_at lw_m6 7 rfl) rfl
theorem q1306 : (Jvm.Cond.code ({ cls := "WildBellsModel", name := "bell", desc := "(II)I" } : Jvm.MethodName) prog_16_method_24_code (3 : Nat) (Option.some Jvm.ClassFile.FieldType.int)) ∈ lw_all := lw_g (lw_at lw_m6 8 rfl) rfl
theorem q1307 : (Jvm.Cond.methodLink "WildBellsModel" (104 : Nat) ({ cls := "WildBellsModel", name := "isKind", desc := "(I)Z" } : Jvm.MethodName)) ∈ lw_all := lw_g (lw_at lw_m6 9 rfl) rfl
theorem q1308 : (Jvm.Cond.static ({ cls := "WildBellsModel", name := "isKind", desc := "(I)Z" } : Jvm.MethodName)) ∈ lw_all := lw_g (lw_at lw_m6 10 rfl) rfl
theorem q1309 : (Jvm.Cond.code ({ cls := "WildBellsModel", name := "isKind", desc := "(I)Z" } : Jvm.MethodName) prog_16_method_19_code (1 : Nat) (Option.some Jvm.ClassFile.FieldType.boolean)) ∈ lw_all := lw_g (lw_at lw_m6 11 rfl) rfl
theorem q1310 : (Jvm.Cond.constant "WildBellsModel" (107 : Nat) (-1000002 : Int32)) ∈ lw_all := lw_g (lw_at lw_m6 12 rfl) rfl
theorem q1311 : (Jvm.Cond.methodLink "WildBellsModel" (108 : Nat) ({ cls := "WildBellsModel", name := "comes", desc := "(IIII)I" } : Jvm.MethodName)) ∈ lw_all := lw_g (lw_at lw_m6 13 rfl) rfl
theorem q1312 : (Jvm.Cond.privateMethod ({ cls := "WildBellsModel", name := "comes", desc := "(IIII)I" } : Jvm.MethodName)) ∈ lw_tbl := lw_at lw_m6 14 rfl
theorem q1313 : (Jvm.Cond.instanceMethod ({ cls := "WildBellsModel", name := "comes", desc := "(IIII)I" } : Jvm.MethodName)) ∈ lw_all := lw_g (lw_at lw_m6 15 rfl) rfl
theorem q1314 : (Jvm.Cond.code ({ cls := "WildBellsModel", name := "comes", desc := "(IIII)I" } : Jvm.MethodName) prog_16_method_23_code (6 : Nat) (Option.some Jvm.ClassFile.FieldType.int)) ∈ lw_all := lw_g (lw_at lw_m6 16 rfl) rfl
theorem q1315 : (Jvm.Cond.methodLink "WildBellsModel" (98 : Nat) ({ cls := "WildBellsModel", name := "at", desc := "(II)I" } : Jvm.MethodName)) ∈ lw_all := lw_g (lw_at lw_m6 17 rfl) rfl
theorem q1316 : (Jvm.Cond.static ({ cls := "WildBellsModel", name := "at", desc := "(II)I" } : Jvm.MethodName)) ∈ lw_all := lw_g (lw_at lw_m6 18 rfl) rfl
theorem q1317 : (Jvm.Cond.code ({ cls := "WildBellsModel", name := "at", desc := "(II)I" } : Jvm.MethodName) prog_16_method_20_code (2 : Nat) (Option.some Jvm.ClassFile.FieldType.int)) ∈ lw_all := lw_g (lw_at lw_m6 19 rfl) rfl
theorem q1319 : (Jvm.Cond.instanceMethod ({ cls := "WildBellsModel", name := "of", desc := "(II)I" } : Jvm.MethodName)) ∈ lw_all := lw_g (lw_at lw_m6 21 rfl) rfl
theorem q1320 : (Jvm.Cond.selects "WildBellsModel" ({ cls := "WildBellsModel", name := "of", desc := "(II)I" } : Jvm.MethodName) ({ cls := "WildBellsModel", name := "of", desc := "(II)I" } : Jvm.MethodName)) ∈ lw_all := lw_g (lw_at lw_m6 22 rfl) rfl
theorem q1321 : (Jvm.Cond.code ({ cls := "WildBellsModel", name := "of", desc := "(II)I" } : Jvm.MethodName) prog_16_method_30_code (3 : Nat) (Option.some Jvm.ClassFile.FieldType.int)) ∈ lw_all := lw_g (lw_at lw_m6 23 rfl) rfl
theorem q1322 : (Jvm.Cond.methodLink "WildBellsModel" (141 : Nat) ({ cls := "WildBellsModel", name := "isBell", desc := "(I)Z" } : Jvm.MethodName)) ∈ lw_all := lw_g (lw_at lw_m6 24 rfl) rfl
theorem q1323 : (Jvm.Cond.privateMethod ({ cls := "WildBellsModel", name := "isBell", desc := "(I)Z" } : Jvm.MethodName)) ∈ lw_tbl := lw_at lw_m6 25 rfl
theorem q1324 : (Jvm.Cond.instanceMethod ({ cls := "WildBellsModel", name := "isBell", desc := "(I)Z" } : Jvm.MethodName)) ∈ lw_all := lw_g (lw_at lw_m6 26 rfl) rfl
theorem q1325 : (Jvm.Cond.code ({ cls := "WildBellsModel", name := "isBell", desc := "(I)Z" } : Jvm.MethodName) prog_16_method_18_code (2 : Nat) (Option.some Jvm.ClassFile.FieldType.boolean)) ∈ lw_all := lw_g (lw_at lw_m6 27 rfl) rfl
theorem q1326 : (Jvm.Cond.methodLink "WildBellsModel" (101 : Nat) ({ cls := "WildBellsModel", name := "bellIs", desc := "(II)I" } : Jvm.MethodName)) ∈ lw_all := lw_g (lw_at lw_m6 28 rfl) rfl
theorem q1327 : (Jvm.Cond.privateMethod ({ cls := "WildBellsModel", name := "bellIs", desc := "(II)I" } : Jvm.MethodName)) ∈ lw_tbl := lw_at lw_m6 29 rfl
theorem q1328 : (Jvm.Cond.instanceMethod ({ cls := "WildBellsModel", name := "bellIs", desc := "(II)I" } : Jvm.MethodName)) ∈ lw_all := lw_g (lw_at lw_m6 30 rfl) rfl
theorem q1329 : (Jvm.Cond.code ({ cls := "WildBellsModel", name := "bellIs", desc := "(II)I" } : Jvm.MethodName) prog_16_method_21_code (3 : Nat) (Option.some Jvm.ClassFile.FieldType.int)) ∈ lw_all := lw_g (lw_at lw_m6 31 rfl) rfl
theorem q1330 : (Jvm.Cond.methodLink "WildBellsModel" (144 : Nat) ({ cls := "WildBellsModel", name := "nextOf", desc := "(I)I" } : Jvm.MethodName)) ∈ lw_all := lw_g (lw_at lw_m6 32 rfl) rfl
theorem q1331 : (Jvm.Cond.privateMethod ({ cls := "WildBellsModel", name := "nextOf", desc := "(I)I" } : Jvm.MethodName)) ∈ lw_tbl := lw_at lw_m6 33 rfl
theorem q1332 : (Jvm.Cond.instanceMethod ({ cls := "WildBellsModel", name := "nextOf", desc := "(I)I" } : Jvm.MethodName)) ∈ lw_all := lw_g (lw_at lw_m6 34 rfl) rfl
theorem q1333 : (Jvm.Cond.code ({ cls := "WildBellsModel", name := "nextOf", desc := "(I)I" } : Jvm.MethodName) prog_16_method_29_code (7 : Nat) (Option.some Jvm.ClassFile.FieldType.int)) ∈ lw_all := lw_g (lw_at lw_m6 35 rfl) rfl
theorem q1334 : (Jvm.Cond.methodLink "WildBellsModel" (135 : Nat) ({ cls := "WildBellsModel", name := "worthOf", desc := "(II)I" } : Jvm.MethodName)) ∈ lw_all := lw_g (lw_at lw_m6 36 rfl) rfl
theorem q1335 : (Jvm.Cond.privateMethod ({ cls := "WildBellsModel", name := "worthOf", desc := "(II)I" } : Jvm.MethodName)) ∈ lw_tbl := lw_at lw_m6 37 rfl
theorem q1336 : (Jvm.Cond.instanceMethod ({ cls := "WildBellsModel", name := "worthOf", desc := "(II)I" } : Jvm.MethodName)) ∈ lw_all := lw_g (lw_at lw_m6 38 rfl) rfl
theorem q1337 : (Jvm.Cond.code ({ cls := "WildBellsModel", name := "worthOf", desc := "(II)I" } : Jvm.MethodName) prog_16_method_28_code (9 : Nat) (Option.some Jvm.ClassFile.FieldType.int)) ∈ lw_all := lw_g (lw_at lw_m6 39 rfl) rfl
theorem q1338 : (Jvm.Cond.methodLink "WildBellsModel" (122 : Nat) ({ cls := "WildBellsModel", name := "apart", desc := "(II)I" } : Jvm.MethodName)) ∈ lw_all := lw_g (lw_at lw_m6 40 rfl) rfl
theorem q1339 : (Jvm.Cond.static ({ cls := "WildBellsModel", name := "apart", desc := "(II)I" } : Jvm.MethodName)) ∈ lw_all := lw_g (lw_at lw_m6 41 rfl) rfl
theorem q1340 : (Jvm.Cond.code ({ cls := "WildBellsModel", name := "apart", desc := "(II)I" } : Jvm.MethodName) prog_16_method_10_code (2 : Nat) (Option.some Jvm.ClassFile.FieldType.int)) ∈ lw_all := lw_g (lw_at lw_m6 42 rfl) rfl
theorem q1341 : (Jvm.Cond.methodLink "WildBellsModel" (78 : Nat) ({ cls := "java/lang/Math", name := "abs", desc := "(I)I" } : Jvm.MethodName)) ∈ lw_all := lw_g (lw_at lw_m6 43 rfl) rfl
theorem q1342 : (Jvm.Cond.methodLink "WildBellsModel" (125 : Nat) ({ cls := "java/lang/Math", name := "min", desc := "(II)I" } : Jvm.MethodName)) ∈ lw_all := lw_g (lw_at lw_m6 44 rfl) rfl
theorem q1343 : (Jvm.Cond.methodLink "WildBellsModel" (118 : Nat) ({ cls := "WildBellsModel", name := "isUnder", desc := "(II)Z" } : Jvm.MethodName)) ∈ lw_all := lw_g (lw_at lw_m6 45 rfl) rfl
theorem q1344 : (Jvm.Cond.static ({ cls := "WildBellsModel", name := "isUnder", desc := "(II)Z" } : Jvm.MethodName)) ∈ lw_all := lw_g (lw_at lw_m6 46 rfl) rfl
theorem q1345 : (Jvm.Cond.code ({ cls := "WildBellsModel", name := "isUnder", desc := "(II)Z" } : Jvm.MethodName) prog_16_method_26_code (3 : Nat) (Option.some Jvm.ClassFile.FieldType.boolean)) ∈ lw_all := lw_g (lw_at lw_m6 47 rfl) rfl
theorem q1346 : (Jvm.Cond.methodLink "WildBellsModel" (112 : Nat) ({ cls := "WildBellsModel", name := "above", desc := "(I)I" } : Jvm.MethodName)) ∈ lw_all := lw_g (lw_at lw_m6 48 rfl) rfl
theorem q1347 : (Jvm.Cond.static ({ cls := "WildBellsModel", name := "above", desc := "(I)I" } : Jvm.MethodName)) ∈ lw_all := lw_g (lw_at lw_m6 49 rfl) rfl
theorem q1348 : (Jvm.Cond.code ({ cls := "WildBellsModel", name := "above", desc := "(I)I" } : Jvm.MethodName) prog_16_method_25_code (1 : Nat) (Option.some Jvm.ClassFile.FieldType.int)) ∈ lw_all := lw_g (lw_at lw_m6 50 rfl) rfl
theorem q1349 : (Jvm.Cond.methodLink "WildBellsModel" (128 : Nat) ({ cls := "WildBellsModel", name := "nearestOther", desc := "(III)I" } : Jvm.MethodName)) ∈ lw_all := lw_g (lw_at lw_m6 51 rfl) rfl
theorem q1350 : (Jvm.Cond.privateMethod ({ cls := "WildBellsModel", name := "nearestOther", desc := "(III)I" } : Jvm.MethodName)) ∈ lw_tbl := lw_at lw_m6 52 rfl
theorem q1351 : (Jvm.Cond.instanceMethod ({ cls := "WildBellsModel", name := "nearestOther", desc := "(III)I" } : Jvm.MethodName)) ∈ lw_all := lw_g (lw_at lw_m6 53 rfl) rfl
theorem q1352 : (Jvm.Cond.code ({ cls := "WildBellsModel", name := "nearestOther", desc := "(III)I" } : Jvm.MethodName) prog_16_method_27_code (8 : Nat) (Option.some Jvm.ClassFile.FieldType.int)) ∈ lw_all := lw_g (lw_at lw_m6 54 rfl) rfl
theorem q1353 : (Jvm.Cond.methodLink "WildBellsModel" (115 : Nat) ({ cls := "WildBellsModel", name := "isCaught", desc := "(I)Z" } : Jvm.MethodName)) ∈ lw_all := lw_g (lw_at lw_m6 55 rfl) rfl
theorem q1354 : (Jvm.Cond.privateMethod ({ cls := "WildBellsModel", name := "isCaught", desc := "(I)Z" } : Jvm.MethodName)) ∈ lw_tbl := lw_at lw_m6 56 rfl
theorem q1355 : (Jvm.Cond.instanceMethod ({ cls := "WildBellsModel", name := "isCaught", desc := "(I)Z" } : Jvm.MethodName)) ∈ lw_all := lw_g (lw_at lw_m6 57 rfl) rfl
theorem q1356 : (Jvm.Cond.code ({ cls := "WildBellsModel", name := "isCaught", desc := "(I)Z" } : Jvm.MethodName) prog_16_method_22_code (2 : Nat) (Option.some Jvm.ClassFile.FieldType.boolean)) ∈ lw_all := lw_g (lw_at lw_m6 58 rfl) rfl
theorem q1357 : (Jvm.Cond.methodLink "WildBellsModel" (132 : Nat) ({ cls := "java/lang/Math", name := "max", desc := "(II)I" } : Jvm.MethodName)) ∈ lw_all := lw_g (lw_at lw_m6 59 rfl) rfl
theorem q1358 : (Jvm.Cond.methodLink "WildBellsModel" (138 : Nat) ({ cls := "WildBellsModel", name := "beside", desc := "(II)I" } : Jvm.MethodName)) ∈ lw_all := lw_g (lw_at lw_m6 60 rfl) rfl
theorem q1359 : (Jvm.Cond.privateMethod ({ cls := "WildBellsModel", name := "beside", desc := "(II)I" } : Jvm.MethodName)) ∈ lw_tbl := lw_at lw_m6 61 rfl
theorem q1360 : (Jvm.Cond.instanceMethod ({ cls := "WildBellsModel", name := "beside", desc := "(II)I" } : Jvm.MethodName)) ∈ lw_all := lw_g (lw_at lw_m6 62 rfl) rfl
theorem q1361 : (Jvm.Cond.code ({ cls := "WildBellsModel", name := "beside", desc := "(II)I" } : Jvm.MethodName) prog_16_method_11_code (5 : Nat) (Option.some Jvm.ClassFile.FieldType.int)) ∈ lw_all := lw_g (lw_at lw_m6 63 rfl) rfl
theorem q1363 : (Jvm.Cond.instanceMethod ({ cls := "WildBellsModel", name := "change", desc := "(III)I" } : Jvm.MethodName)) ∈ lw_all := lw_g (lw_at lw_m6 65 rfl) rfl
theorem q1364 : (Jvm.Cond.selects "WildBellsModel" ({ cls := "WildBellsModel", name := "change", desc := "(III)I" } : Jvm.MethodName) ({ cls := "WildBellsModel", name := "change", desc := "(III)I" } : Jvm.MethodName)) ∈ lw_all := lw_g (lw_at lw_m6 66 rfl) rfl
theorem q1365 : (Jvm.Cond.code ({ cls := "WildBellsModel", name := "change", desc := "(III)I" } : Jvm.MethodName) prog_16_method_32_code (4 : Nat) (Option.some Jvm.ClassFile.FieldType.int)) ∈ lw_all := lw_g (lw_at lw_m6 67 rfl) rfl
theorem q1366 : (Jvm.Cond.methodLink "WildBellsModel" (147 : Nat) ({ cls := "WildBellsModel", name := "mayBe", desc := "(II)Z" } : Jvm.MethodName)) ∈ lw_all := lw_g (lw_at lw_m6 68 rfl) rfl
theorem q1367 : (Jvm.Cond.static ({ cls := "WildBellsModel", name := "mayBe", desc := "(II)Z" } : Jvm.MethodName)) ∈ lw_all := lw_g (lw_at lw_m6 69 rfl) rfl
theorem q1368 : (Jvm.Cond.code ({ cls := "WildBellsModel", name := "mayBe", desc := "(II)Z" } : Jvm.MethodName) prog_16_method_31_code (2 : Nat) (Option.some Jvm.ClassFile.FieldType.boolean)) ∈ lw_all := lw_g (lw_at lw_m6 70 rfl) rfl
theorem q1370 : (Jvm.Cond.instanceMethod ({ cls := "WildBellsModel", name := "worth", desc := "(II)I" } : Jvm.MethodName)) ∈ lw_all := lw_g (lw_at lw_m6 72 rfl) rfl
theorem q1371 : (Jvm.Cond.selects "WildBellsModel" ({ cls := "WildBellsModel", name := "worth", desc := "(II)I" } : Jvm.MethodName) ({ cls := "WildBellsModel", name := "worth", desc := "(II)I" } : Jvm.MethodName)) ∈ lw_all := lw_g (lw_at lw_m6 73 rfl) rfl
theorem q1372 : (Jvm.Cond.code ({ cls := "WildBellsModel", name := "worth", desc := "(II)I" } : Jvm.MethodName) prog_16_method_33_code (3 : Nat) (Option.some Jvm.ClassFile.FieldType.int)) ∈ lw_all := lw_g (lw_at lw_m6 74 rfl) rfl
theorem q1374 : (Jvm.Cond.instanceMethod ({ cls := "WildBellsModel", name := "cell", desc := "(II)I" } : Jvm.MethodName)) ∈ lw_all := lw_g (lw_at lw_m6 76 rfl) rfl
theorem q1375 : (Jvm.Cond.selects "WildBellsModel" ({ cls := "WildBellsModel", name := "cell", desc := "(II)I" } : Jvm.MethodName) ({ cls := "WildBellsModel", name := "cell", desc := "(II)I" } : Jvm.MethodName)) ∈ lw_all := lw_g (lw_at lw_m6 77 rfl) rfl
theorem q1376 : (Jvm.Cond.code ({ cls := "WildBellsModel", name := "cell", desc := "(II)I" } : Jvm.MethodName) prog_16_method_38_code (3 : Nat) (Option.some Jvm.ClassFile.FieldType.int)) ∈ lw_all := lw_g (lw_at lw_m6 78 rfl) rfl
theorem q1377 : (Jvm.Cond.methodLink "WildBellsModel" (156 : Nat) ({ cls := "WildBellsModel", name := "heardAt", desc := "(I)I" } : Jvm.MethodName)) ∈ lw_all := lw_g (lw_at lw_m6 79 rfl) rfl
theorem q1378 : (Jvm.Cond.privateMethod ({ cls := "WildBellsModel", name := "heardAt", desc := "(I)I" } : Jvm.MethodName)) ∈ lw_tbl := lw_at lw_m6 80 rfl
theorem q1379 : (Jvm.Cond.instanceMethod ({ cls := "WildBellsModel", name := "heardAt", desc := "(I)I" } : Jvm.MethodName)) ∈ lw_all := lw_g (lw_at lw_m6 81 rfl) rfl
theorem q1380 : (Jvm.Cond.code ({ cls := "WildBellsModel", name := "heardAt", desc := "(I)I" } : Jvm.MethodName) prog_16_method_36_code (4 : Nat) (Option.some Jvm.ClassFile.FieldType.int)) ∈ lw_all := lw_g (lw_at lw_m6 82 rfl) rfl
theorem q1381 : (Jvm.Cond.methodLink "WildBellsModel" (153 : Nat) ({ cls := "WildBellsModel", name := "loudAt", desc := "(II)I" } : Jvm.MethodName)) ∈ lw_all := lw_g (lw_at lw_m6 83 rfl) rfl
theorem q1382 : (Jvm.Cond.privateMethod ({ cls := "WildBellsModel", name := "loudAt", desc := "(II)I" } : Jvm.MethodName)) ∈ lw_tbl := lw_at lw_m6 84 rfl
theorem q1383 : (Jvm.Cond.instanceMethod ({ cls := "WildBellsModel", name := "loudAt", desc := "(II)I" } : Jvm.MethodName)) ∈ lw_all := lw_g (lw_at lw_m6 85 rfl) rfl
theorem q1384 : (Jvm.Cond.code ({ cls := "WildBellsModel", name := "loudAt", desc := "(II)I" } : Jvm.MethodName) prog_16_method_35_code (3 : Nat) (Option.some Jvm.ClassFile.FieldType.int)) ∈ lw_all := lw_g (lw_at lw_m6 86 rfl) rfl
theorem q1385 : (Jvm.Cond.methodLink "WildBellsModel" (150 : Nat) ({ cls := "WildBellsModel", name := "loudOf", desc := "(III)I" } : Jvm.MethodName)) ∈ lw_all := lw_g (lw_at lw_m6 87 rfl) rfl
theorem q1386 : (Jvm.Cond.privateMethod ({ cls := "WildBellsModel", name := "loudOf", desc := "(III)I" } : Jvm.MethodName)) ∈ lw_tbl := lw_at lw_m6 88 rfl
theorem q1387 : (Jvm.Cond.instanceMethod ({ cls := "WildBellsModel", name := "loudOf", desc := "(III)I" } : Jvm.MethodName)) ∈ lw_all := lw_g (lw_at lw_m6 89 rfl) rfl
theorem q1388 : (Jvm.Cond.code ({ cls := "WildBellsModel", name := "loudOf", desc := "(III)I" } : Jvm.MethodName) prog_16_method_34_code (4 : Nat) (Option.some Jvm.ClassFile.FieldType.int)) ∈ lw_all := lw_g (lw_at lw_m6 90 rfl) rfl
theorem q1389 : (Jvm.Cond.methodLink "WildBellsModel" (159 : Nat) ({ cls := "WildBellsModel", name := "manyAt", desc := "(I)I" } : Jvm.MethodName)) ∈ lw_all := lw_g (lw_at lw_m6 91 rfl) rfl
theorem q1390 : (Jvm.Cond.privateMethod ({ cls := "WildBellsModel", name := "manyAt", desc := "(I)I" } : Jvm.MethodName)) ∈ lw_tbl := lw_at lw_m6 92 rfl
theorem q1391 : (Jvm.Cond.instanceMethod ({ cls := "WildBellsModel", name := "manyAt", desc := "(I)I" } : Jvm.MethodName)) ∈ lw_all := lw_g (lw_at lw_m6 93 rfl) rfl
theorem q1392 : (Jvm.Cond.code ({ cls := "WildBellsModel", name := "manyAt", desc := "(I)I" } : Jvm.MethodName) prog_16_method_37_code (4 : Nat) (Option.some Jvm.ClassFile.FieldType.int)) ∈ lw_all := lw_g (lw_at lw_m6 94 rfl) rfl
theorem q1394 : (Jvm.Cond.instanceMethod ({ cls := "WildBellsModel", name := "go", desc := "(I)I" } : Jvm.MethodName)) ∈ lw_all := lw_g (lw_at lw_m6 96 rfl) rfl
theorem q1395 : (Jvm.Cond.selects "WildBellsModel" ({ cls := "WildBellsModel", name := "go", desc := "(I)I" } : Jvm.MethodName) ({ cls := "WildBellsModel", name := "go", desc := "(I)I" } : Jvm.MethodName)) ∈ lw_all := lw_g (lw_at lw_m6 97 rfl) rfl
theorem q1396 : (Jvm.Cond.code ({ cls := "WildBellsModel", name := "go", desc := "(I)I" } : Jvm.MethodName) prog_16_method_42_code (2 : Nat) (Option.some Jvm.ClassFile.FieldType.int)) ∈ lw_all := lw_g (lw_at lw_m6 98 rfl) rfl
theorem q1397 : (Jvm.Cond.constant "WildBellsModel" (172 : Nat) (99999 : Int32)) ∈ lw_all := lw_g (lw_at lw_m6 99 rfl) rfl
theorem q1398 : (Jvm.Cond.constant "WildBellsModel" (173 : Nat) (-1000005 : Int32)) ∈ lw_all := lw_g (lw_at lw_m6 100 rfl) rfl
theorem q1399 : (Jvm.Cond.methodLink "WildBellsModel" (174 : Nat) ({ cls := "WildBellsModel", name := "hours", desc := "(I)V" } : Jvm.MethodName)) ∈ lw_all := lw_g (lw_at lw_m6 101 rfl) rfl
theorem q1400 : (Jvm.Cond.privateMethod ({ cls := "WildBellsModel", name := "hours", desc := "(I)V" } : Jvm.MethodName)) ∈ lw_tbl := lw_at lw_m6 102 rfl
theorem q1401 : (Jvm.Cond.instanceMethod ({ cls := "WildBellsModel", name := "hours", desc := "(I)V" } : Jvm.MethodName)) ∈ lw_all := lw_g (lw_at lw_m6 103 rfl) rfl
theorem q1402 : (Jvm.Cond.code ({ cls := "WildBellsModel", name := "hours", desc := "(I)V" } : Jvm.MethodName) prog_16_method_41_code (3 : Nat) (Option.none : Option Jvm.ClassFile.FieldType)) ∈ lw_all := lw_g (lw_at lw_m6 104 rfl) rfl
theorem q1403 : (Jvm.Cond.methodLink "WildBellsModel" (169 : Nat) ({ cls := "WildBellsModel", name := "hour", desc := "()V" } : Jvm.MethodName)) ∈ lw_all := lw_g (lw_at lw_m6 105 rfl) rfl
theorem q1404 : (Jvm.Cond.privateMethod ({ cls := "WildBellsModel", name := "hour", desc := "()V" } : Jvm.MethodName)) ∈ lw_tbl := lw_at lw_m6 106 rfl
theorem q1405 : (Jvm.Cond.instanceMethod ({ cls := "WildBellsModel", name := "hour", desc := "()V" } : Jvm.MethodName)) ∈ lw_all := lw_g (lw_at lw_m6 107 rfl) rfl
theorem q1406 : (Jvm.Cond.code ({ cls := "WildBellsModel", name := "hour", desc := "()V" } : Jvm.MethodName) prog_16_method_40_code (3 : Nat) (Option.none : Option Jvm.ClassFile.FieldType)) ∈ lw_all := lw_g (lw_at lw_m6 108 rfl) rfl
theorem q1407 : (Jvm.Cond.methodLink "WildBellsModel" (166 : Nat) ({ cls := "WildBellsModel", name := "hasNet", desc := "(I)Z" } : Jvm.MethodName)) ∈ lw_all := lw_g (lw_at lw_m6 109 rfl) rfl
theorem q1408 : (Jvm.Cond.privateMethod ({ cls := "WildBellsModel", name := "hasNet", desc := "(I)Z" } : Jvm.MethodName)) ∈ lw_tbl := lw_at lw_m6 110 rfl
theorem q1409 : (Jvm.Cond.instanceMethod ({ cls := "WildBellsModel", name := "hasNet", desc := "(I)Z" } : Jvm.MethodName)) ∈ lw_all := lw_g (lw_at lw_m6 111 rfl) rfl
theorem q1410 : (Jvm.Cond.code ({ cls := "WildBellsModel", name := "hasNet", desc := "(I)Z" } : Jvm.MethodName) prog_16_method_12_code (2 : Nat) (Option.some Jvm.ClassFile.FieldType.boolean)) ∈ lw_all := lw_g (lw_at lw_m6 112 rfl) rfl
theorem q1411 : (Jvm.Cond.methodLink "WildBellsModel" (178 : Nat) ({ cls := "WildBellsModel", name := "caughtNow", desc := "()I" } : Jvm.MethodName)) ∈ lw_all := lw_g (lw_at lw_m6 113 rfl) rfl
theorem q1412 : (Jvm.Cond.privateMethod ({ cls := "WildBellsModel", name := "caughtNow", desc := "()I" } : Jvm.MethodName)) ∈ lw_tbl := lw_at lw_m6 114 rfl
theorem q1413 : (Jvm.Cond.instanceMethod ({ cls := "WildBellsModel", name := "caughtNow", desc := "()I" } : Jvm.MethodName)) ∈ lw_all := lw_g (lw_at lw_m6 115 rfl) rfl
theorem q1414 : (Jvm.Cond.code ({ cls := "WildBellsModel", name := "caughtNow", desc := "()I" } : Jvm.MethodName) prog_16_method_39_code (3 : Nat) (Option.some Jvm.ClassFile.FieldType.int)) ∈ lw_all := lw_g (lw_at lw_m6 116 rfl) rfl
theorem q1415 : (Jvm.Cond.methodLink "WildBellsModel" (182 : Nat) ({ cls := "WildBellsModel", name := "bits", desc := "(I)I" } : Jvm.MethodName)) ∈ lw_all := lw_g (lw_at lw_m6 117 rfl) rfl
theorem q1416 : (Jvm.Cond.static ({ cls := "WildBellsModel", name := "bits", desc := "(I)I" } : Jvm.MethodName)) ∈ lw_all := lw_g (lw_at lw_m6 118 rfl) rfl
theorem q1417 : (Jvm.Cond.code ({ cls := "WildBellsModel", name := "bits", desc := "(I)I" } : Jvm.MethodName) prog_16_method_8_code (3 : Nat) (Option.some Jvm.ClassFile.FieldType.int)) ∈ lw_all := lw_g (lw_at lw_m6 119 rfl) rfl
theorem q1419 : (Jvm.Cond.instanceMethod ({ cls := "WildBellsModel", name := "now", desc := "(I)I" } : Jvm.MethodName)) ∈ lw_all := lw_g (lw_at lw_m6 121 rfl) rfl
theorem q1420 : (Jvm.Cond.selects "WildBellsModel" ({ cls := "WildBellsModel", name := "now", desc := "(I)I" } : Jvm.MethodName) ({ cls := "WildBellsModel", name := "now", desc := "(I)I" } : Jvm.MethodName)) ∈ lw_all := lw_g (lw_at lw_m6 122 rfl) rfl
theorem q1421 : (Jvm.Cond.code ({ cls := "WildBellsModel", name := "now", desc := "(I)I" } : Jvm.MethodName) prog_16_method_45_code (2 : Nat) (Option.some Jvm.ClassFile.FieldType.int)) ∈ lw_all := lw_g (lw_at lw_m6 123 rfl) rfl
theorem q1422 : (Jvm.Cond.methodLink "WildBellsModel" (185 : Nat) ({ cls := "WildBellsModel", name := "nets", desc := "()I" } : Jvm.MethodName)) ∈ lw_all := lw_g (lw_at lw_m6 124 rfl) rfl
theorem q1423 : (Jvm.Cond.privateMethod ({ cls := "WildBellsModel", name := "nets", desc := "()I" } : Jvm.MethodName)) ∈ lw_tbl := lw_at lw_m6 125 rfl
theorem q1424 : (Jvm.Cond.instanceMethod ({ cls := "WildBellsModel", name := "nets", desc := "()I" } : Jvm.MethodName)) ∈ lw_all := lw_g (lw_at lw_m6 126 rfl) rfl
theorem q1425 : (Jvm.Cond.code ({ cls := "WildBellsModel", name := "nets", desc := "()I" } : Jvm.MethodName) prog_16_method_43_code (3 : Nat) (Option.some Jvm.ClassFile.FieldType.int)) ∈ lw_all := lw_g (lw_at lw_m6 127 rfl) rfl
theorem q1426 : (Jvm.Cond.methodLink "WildBellsModel" (188 : Nat) ({ cls := "WildBellsModel", name := "caughtWeight", desc := "()I" } : Jvm.MethodName)) ∈ lw_all := lw_g (lw_at lw_m6 128 rfl) rfl
theorem q1427 : (Jvm.Cond.privateMethod ({ cls := "WildBellsModel", name := "caughtWeight", desc := "()I" } : Jvm.MethodName)) ∈ lw_tbl := lw_at lw_m6 129 rfl
theorem q1428 : (Jvm.Cond.instanceMethod ({ cls := "WildBellsModel", name := "caughtWeight", desc := "()I" } : Jvm.MethodName)) ∈ lw_all := lw_g (lw_at lw_m6 130 rfl) rfl
theorem q1429 : (Jvm.Cond.code ({ cls := "WildBellsModel", name := "caughtWeight", desc := "()I" } : Jvm.MethodName) prog_16_method_44_code (3 : Nat) (Option.some Jvm.ClassFile.FieldType.int)) ∈ lw_all := lw_g (lw_at lw_m6 131 rfl) rfl
theorem q1431 : (Jvm.Cond.instanceMethod ({ cls := "WildBellsModel", name := "loud", desc := "(II)I" } : Jvm.MethodName)) ∈ lw_all := lw_g (lw_at lw_m6 133 rfl) rfl
theorem q1432 : (Jvm.Cond.selects "WildBellsModel" ({ cls := "WildBellsModel", name := "loud", desc := "(II)I" } : Jvm.MethodName) ({ cls := "WildBellsModel", name := "loud", desc := "(II)I" } : Jvm.MethodName)) ∈ lw_all := lw_g (lw_at lw_m6 134 rfl) rfl
theorem q1433 : (Jvm.Cond.code ({ cls := "WildBellsModel", name := "loud", desc := "(II)I" } : Jvm.MethodName) prog_16_method_46_code (3 : Nat) (Option.some Jvm.ClassFile.FieldType.int)) ∈ lw_all := lw_g (lw_at lw_m6 135 rfl) rfl
theorem q1435 : (Jvm.Cond.instanceMethod ({ cls := "WildBellsModel", name := "ahead", desc := "(II)I" } : Jvm.MethodName)) ∈ lw_all := lw_g (lw_at lw_m6 137 rfl) rfl
theorem q1436 : (Jvm.Cond.selects "WildBellsModel" ({ cls := "WildBellsModel", name := "ahead", desc := "(II)I" } : Jvm.MethodName) ({ cls := "WildBellsModel", name := "ahead", desc := "(II)I" } : Jvm.MethodName)) ∈ lw_all := lw_g (lw_at lw_m6 138 rfl) rfl
theorem q1437 : (Jvm.Cond.code ({ cls := "WildBellsModel", name := "ahead", desc := "(II)I" } : Jvm.MethodName) prog_16_method_48_code (3 : Nat) (Option.some Jvm.ClassFile.FieldType.int)) ∈ lw_all := lw_g (lw_at lw_m6 139 rfl) rfl
theorem q1438 : (Jvm.Cond.methodLink "WildBellsModel" (194 : Nat) ({ cls := "WildBellsModel", name := "fieldBehind", desc := "(III)I" } : Jvm.MethodName)) ∈ lw_all := lw_g (lw_at lw_m6 140 rfl) rfl
theorem q1439 : (Jvm.Cond.privateMethod ({ cls := "WildBellsModel", name := "fieldBehind", desc := "(III)I" } : Jvm.MethodName)) ∈ lw_tbl := lw_at lw_m6 141 rfl
theorem q1440 : (Jvm.Cond.instanceMethod ({ cls := "WildBellsModel", name := "fieldBehind", desc := "(III)I" } : Jvm.MethodName)) ∈ lw_all := lw_g (lw_at lw_m6 142 rfl) rfl
theorem q1441 : (Jvm.Cond.code ({ cls := "WildBellsModel", name := "fieldBehind", desc := "(III)I" } : Jvm.MethodName) prog_16_method_47_code (4 : Nat) (Option.some Jvm.ClassFile.FieldType.int)) ∈ lw_all := lw_g (lw_at lw_m6 143 rfl) rfl
theorem q1442 : (Jvm.Cond.methodLink "WildBellsModel" (70 : Nat) ({ cls := "WildBellsModel", name := "copyRow", desc := "([I[I)V" } : Jvm.MethodName)) ∈ lw_all := lw_g (lw_at lw_m6 144 rfl) rfl
theorem q1443 : (Jvm.Cond.static ({ cls := "WildBellsModel", name := "copyRow", desc := "([I[I)V" } : Jvm.MethodName)) ∈ lw_all := lw_g (lw_at lw_m6 145 rfl) rfl
theorem q1444 : (Jvm.Cond.code ({ cls := "WildBellsModel", name := "copyRow", desc := "([I[I)V" } : Jvm.MethodName) prog_16_method_5_code (3 : Nat) (Option.none : Option Jvm.ClassFile.FieldType)) ∈ lw_all := lw_g (lw_at lw_m6 146 rfl) rfl
theorem q1445 : (Jvm.Cond.methodLink "WildBellsModel" (191 : Nat) ({ cls := "WildBellsModel", name := "putBack", desc := "(I)I" } : Jvm.MethodName)) ∈ lw_all := lw_g (lw_at lw_m6 147 rfl) rfl
theorem q1446 : (Jvm.Cond.privateMethod ({ cls := "WildBellsModel", name := "putBack", desc := "(I)I" } : Jvm.MethodName)) ∈ lw_tbl := lw_at lw_m6 148 rfl
theorem q1447 : (Jvm.Cond.instanceMethod ({ cls := "WildBellsModel", name := "putBack", desc := "(I)I" } : Jvm.MethodName)) ∈ lw_all := lw_g (lw_at lw_m6 149 rfl) rfl
theorem q1448 : (Jvm.Cond.code ({ cls := "WildBellsModel", name := "putBack", desc := "(I)I" } : Jvm.MethodName) prog_16_method_6_code (2 : Nat) (Option.some Jvm.ClassFile.FieldType.int)) ∈ lw_all := lw_g (lw_at lw_m6 150 rfl) rfl
theorem q1450 : (Jvm.Cond.instanceMethod ({ cls := "WildBellsModel", name := "when", desc := "(I)I" } : Jvm.MethodName)) ∈ lw_all := lw_g (lw_at lw_m6 152 rfl) rfl
theorem q1451 : (Jvm.Cond.selects "WildBellsModel" ({ cls := "WildBellsModel", name := "when", desc := "(I)I" } : Jvm.MethodName) ({ cls := "WildBellsModel", name := "when", desc := "(I)I" } : Jvm.MethodName)) ∈ lw_all := lw_g (lw_at lw_m6 153 rfl) rfl
theorem q1452 : (Jvm.Cond.code ({ cls := "WildBellsModel", name := "when", desc := "(I)I" } : Jvm.MethodName) prog_16_method_51_code (2 : Nat) (Option.some Jvm.ClassFile.FieldType.int)) ∈ lw_all := lw_g (lw_at lw_m6 154 rfl) rfl
theorem q1453 : (Jvm.Cond.methodLink "WildBellsModel" (199 : Nat) ({ cls := "WildBellsModel", name := "caughtIn", desc := "(II)I" } : Jvm.MethodName)) ∈ lw_all := lw_g (lw_at lw_m6 155 rfl) rfl
theorem q1454 : (Jvm.Cond.privateMethod ({ cls := "WildBellsModel", name := "caughtIn", desc := "(II)I" } : Jvm.MethodName)) ∈ lw_tbl := lw_at lw_m6 156 rfl
theorem q1455 : (Jvm.Cond.instanceMethod ({ cls := "WildBellsModel", name := "caughtIn", desc := "(II)I" } : Jvm.MethodName)) ∈ lw_all := lw_g (lw_at lw_m6 157 rfl) rfl
theorem q1456 : (Jvm.Cond.code ({ cls := "WildBellsModel", name := "caughtIn", desc := "(II)I" } : Jvm.MethodName) prog_16_method_49_code (4 : Nat) (Option.some Jvm.ClassFile.FieldType.int)) ∈ lw_all := lw_g (lw_at lw_m6 158 rfl) rfl
theorem q1457 : (Jvm.Cond.constant "WildBellsModel" (197 : Nat) (1000000 : Int32)) ∈ lw_all := lw_g (lw_at lw_m6 159 rfl) rfl
theorem q1458 : (Jvm.Cond.methodLink "WildBellsModel" (202 : Nat) ({ cls := "WildBellsModel", name := "told", desc := "(I)I" } : Jvm.MethodName)) ∈ lw_all := lw_g (lw_at lw_m6 160 rfl) rfl
theorem q1459 : (Jvm.Cond.privateMethod ({ cls := "WildBellsModel", name := "told", desc := "(I)I" } : Jvm.MethodName)) ∈ lw_tbl := lw_at lw_m6 161 rfl
theorem q1460 : (Jvm.Cond.instanceMethod ({ cls := "WildBellsModel", name := "told", desc := "(I)I" } : Jvm.MethodName)) ∈ lw_all := lw_g (lw_at lw_m6 162 rfl) rfl
theorem q1461 : (Jvm.Cond.code ({ cls := "WildBellsModel", name := "told", desc := "(I)I" } : Jvm.MethodName) prog_16_method_50_code (2 : Nat) (Option.some Jvm.ClassFile.FieldType.int)) ∈ lw_all := lw_g (lw_at lw_m6 163 rfl) rfl
theorem q1462 : (Jvm.Cond.constant "WildBellsModel" (198 : Nat) (-1000004 : Int32)) ∈ lw_all := lw_g (lw_at lw_m6 164 rfl) rfl
theorem q1464 : (Jvm.Cond.instanceMethod ({ cls := "WildBellsModel", name := "still", desc := "()I" } : Jvm.MethodName)) ∈ lw_all := lw_g (lw_at lw_m6 166 rfl) rfl
theorem q1465 : (Jvm.Cond.selects "WildBellsModel" ({ cls := "WildBellsModel", name := "still", desc := "()I" } : Jvm.MethodName) ({ cls := "WildBellsModel", name := "still", desc := "()I" } : Jvm.MethodName)) ∈ lw_all := lw_g (lw_at lw_m6 167 rfl) rfl
theorem q1466 : (Jvm.Cond.code ({ cls := "WildBellsModel", name := "still", desc := "()I" } : Jvm.MethodName) prog_16_method_52_code (2 : Nat) (Option.some Jvm.ClassFile.FieldType.int)) ∈ lw_all := lw_g (lw_at lw_m6 168 rfl) rfl
theorem q1468 : (Jvm.Cond.instanceMethod ({ cls := "WildBellsModel", name := "caught", desc := "(I)I" } : Jvm.MethodName)) ∈ lw_all := lw_g (lw_at lw_m6 170 rfl) rfl
theorem q1469 : (Jvm.Cond.selects "WildBellsModel" ({ cls := "WildBellsModel", name := "caught", desc := "(I)I" } : Jvm.MethodName) ({ cls := "WildBellsModel", name := "caught", desc := "(I)I" } : Jvm.MethodName)) ∈ lw_all := lw_g (lw_at lw_m6 171 rfl) rfl
theorem q1470 : (Jvm.Cond.code ({ cls := "WildBellsModel", name := "caught", desc := "(I)I" } : Jvm.MethodName) prog_16_method_54_code (2 : Nat) (Option.some Jvm.ClassFile.FieldType.int)) ∈ lw_all := lw_g (lw_at lw_m6 172 rfl) rfl
theorem q1471 : (Jvm.Cond.methodLink "WildBellsModel" (205 : Nat) ({ cls := "WildBellsModel", name := "setBehind", desc := "(I)I" } : Jvm.MethodName)) ∈ lw_all := lw_g (lw_at lw_m6 173 rfl) rfl
theorem q1472 : (Jvm.Cond.privateMethod ({ cls := "WildBellsModel", name := "setBehind", desc := "(I)I" } : Jvm.MethodName)) ∈ lw_tbl := lw_at lw_m6 174 rfl
theorem q1473 : (Jvm.Cond.instanceMethod ({ cls := "WildBellsModel", name := "setBehind", desc := "(I)I" } : Jvm.MethodName)) ∈ lw_all := lw_g (lw_at lw_m6 175 rfl) rfl
theorem q1474 : (Jvm.Cond.code ({ cls := "WildBellsModel", name := "setBehind", desc := "(I)I" } : Jvm.MethodName) prog_16_method_53_code (2 : Nat) (Option.some Jvm.ClassFile.FieldType.int)) ∈ lw_all := lw_g (lw_at lw_m6 176 rfl) rfl
theorem q1476 : (Jvm.Cond.instanceMethod ({ cls := "WildBellsModel", name := "netFor", desc := "(I)I" } : Jvm.MethodName)) ∈ lw_all := lw_g (lw_at lw_m6 178 rfl) rfl
theorem q1477 : (Jvm.Cond.selects "WildBellsModel" ({ cls := "WildBellsModel", name := "netFor", desc := "(I)I" } : Jvm.MethodName) ({ cls := "WildBellsModel", name := "netFor", desc := "(I)I" } : Jvm.MethodName)) ∈ lw_all := lw_g (lw_at lw_m6 179 rfl) rfl
theorem q1478 : (Jvm.Cond.code ({ cls := "WildBellsModel", name := "netFor", desc := "(I)I" } : Jvm.MethodName) prog_16_method_56_code (6 : Nat) (Option.some Jvm.ClassFile.FieldType.int)) ∈ lw_all := lw_g (lw_at lw_m6 180 rfl) rfl
theorem q1479 : (Jvm.Cond.methodLink "WildBellsModel" (208 : Nat) ({ cls := "WildBellsModel", name := "orNone", desc := "(I)I" } : Jvm.MethodName)) ∈ lw_all := lw_g (lw_at lw_m6 181 rfl) rfl
theorem q1480 : (Jvm.Cond.privateMethod ({ cls := "WildBellsModel", name := "orNone", desc := "(I)I" } : Jvm.MethodName)) ∈ lw_tbl := lw_at lw_m6 182 rfl
theorem q1481 : (Jvm.Cond.instanceMethod ({ cls := "WildBellsModel", name := "orNone", desc := "(I)I" } : Jvm.MethodName)) ∈ lw_all := lw_g (lw_at lw_m6 183 rfl) rfl
theorem q1482 : (Jvm.Cond.code ({ cls := "WildBellsModel", name := "orNone", desc := "(I)I" } : Jvm.MethodName) prog_16_method_55_code (2 : Nat) (Option.some Jvm.ClassFile.FieldType.int)) ∈ lw_all := lw_g (lw_at lw_m6 184 rfl) rfl
theorem q1484 : (Jvm.Cond.instanceMethod ({ cls := "WildBellsModel", name := "best", desc := "(I)I" } : Jvm.MethodName)) ∈ lw_all := lw_g (lw_at lw_m6 186 rfl) rfl
theorem q1485 : (Jvm.Cond.selects "WildBellsModel" ({ cls := "WildBellsModel", name := "best", desc := "(I)I" } : Jvm.MethodName) ({ cls := "WildBellsModel", name := "best", desc := "(I)I" } : Jvm.MethodName)) ∈ lw_all := lw_g (lw_at lw_m6 187 rfl) rfl
theorem q1486 : (Jvm.Cond.code ({ cls := "WildBellsModel", name := "best", desc := "(I)I" } : Jvm.MethodName) prog_16_method_57_code (6 : Nat) (Option.some Jvm.ClassFile.FieldType.int)) ∈ lw_all := lw_g (lw_at lw_m6 188 rfl) rfl
theorem q1488 : (Jvm.Cond.instanceMethod ({ cls := "WildBellsModel", name := "drive", desc := "(II)I" } : Jvm.MethodName)) ∈ lw_all := lw_g (lw_at lw_m6 190 rfl) rfl
theorem q1489 : (Jvm.Cond.selects "WildBellsModel" ({ cls := "WildBellsModel", name := "drive", desc := "(II)I" } : Jvm.MethodName) ({ cls := "WildBellsModel", name := "drive", desc := "(II)I" } : Jvm.MethodName)) ∈ lw_all := lw_g (lw_at lw_m6 191 rfl) rfl
theorem q1490 : (Jvm.Cond.code ({ cls := "WildBellsModel", name := "drive", desc := "(II)I" } : Jvm.MethodName) prog_16_method_58_code (8 : Nat) (Option.some Jvm.ClassFile.FieldType.int)) ∈ lw_all := lw_g (lw_at lw_m6 192 rfl) rfl
theorem q1492 : (Jvm.Cond.instanceMethod ({ cls := "WildBellsModel", name := "kindFor", desc := "(I)I" } : Jvm.MethodName)) ∈ lw_all := lw_g (lw_at lw_m6 194 rfl) rfl
theorem q1493 : (Jvm.Cond.selects "WildBellsModel" ({ cls := "WildBellsModel", name := "kindFor", desc := "(I)I" } : Jvm.MethodName) ({ cls := "WildBellsModel", name := "kindFor", desc := "(I)I" } : Jvm.MethodName)) ∈ lw_all := lw_g (lw_at lw_m6 195 rfl) rfl
theorem q1494 : (Jvm.Cond.code ({ cls := "WildBellsModel", name := "kindFor", desc := "(I)I" } : Jvm.MethodName) prog_16_method_59_code (7 : Nat) (Option.some Jvm.ClassFile.FieldType.int)) ∈ lw_all := lw_g (lw_at lw_m6 196 rfl) rfl
theorem q1496 : (Jvm.Cond.instanceMethod ({ cls := "WildBellsModel", name := "stands", desc := "(II)I" } : Jvm.MethodName)) ∈ lw_all := lw_g (lw_at lw_m6 198 rfl) rfl
theorem q1497 : (Jvm.Cond.selects "WildBellsModel" ({ cls := "WildBellsModel", name := "stands", desc := "(II)I" } : Jvm.MethodName) ({ cls := "WildBellsModel", name := "stands", desc := "(II)I" } : Jvm.MethodName)) ∈ lw_all := lw_g (lw_at lw_m6 199 rfl) rfl
theorem q1498 : (Jvm.Cond.code ({ cls := "WildBellsModel", name := "stands", desc := "(II)I" } : Jvm.MethodName) prog_16_method_66_code (5 : Nat) (Option.some Jvm.ClassFile.FieldType.int)) ∈ lw_all := lw_g (lw_at lw_m6 200 rfl) rfl
theorem q1499 : (Jvm.Cond.methodLink "WildBellsModel" (227 : Nat) ({ cls := "WildBellsModel", name := "lacksOf", desc := "(II)I" } : Jvm.MethodName)) ∈ lw_all := lw_g (lw_at lw_m6 201 rfl) rfl
theorem q1500 : (Jvm.Cond.privateMethod ({ cls := "WildBellsModel", name := "lacksOf", desc := "(II)I" } : Jvm.MethodName)) ∈ lw_tbl := lw_at lw_m6 202 rfl
theorem q1501 : (Jvm.Cond.instanceMethod ({ cls := "WildBellsModel", name := "lacksOf", desc := "(II)I" } : Jvm.MethodName)) ∈ lw_all := lw_g (lw_at lw_m6 203 rfl) rfl
theorem q1502 : (Jvm.Cond.code ({ cls := "WildBellsModel", name := "lacksOf", desc := "(II)I" } : Jvm.MethodName) prog_16_method_65_code (4 : Nat) (Option.some Jvm.ClassFile.FieldType.int)) ∈ lw_all := lw_g (lw_at lw_m6 204 rfl) rfl
theorem q1503 : (Jvm.Cond.methodLink "WildBellsModel" (221 : Nat) ({ cls := "WildBellsModel", name := "lacks", desc := "(I)I" } : Jvm.MethodName)) ∈ lw_all := lw_g (lw_at lw_m6 205 rfl) rfl
theorem q1504 : (Jvm.Cond.privateMethod ({ cls := "WildBellsModel", name := "lacks", desc := "(I)I" } : Jvm.MethodName)) ∈ lw_tbl := lw_at lw_m6 206 rfl
theorem q1505 : (Jvm.Cond.instanceMethod ({ cls := "WildBellsModel", name := "lacks", desc := "(I)I" } : Jvm.MethodName)) ∈ lw_all := lw_g (lw_at lw_m6 207 rfl) rfl
theorem q1506 : (Jvm.Cond.code ({ cls := "WildBellsModel", name := "lacks", desc := "(I)I" } : Jvm.MethodName) prog_16_method_60_code (2 : Nat) (Option.some Jvm.ClassFile.FieldType.int)) ∈ lw_all := lw_g (lw_at lw_m6 208 rfl) rfl
theorem q1507 : (Jvm.Cond.methodLink "WildBellsModel" (211 : Nat) ({ cls := "WildBellsModel", name := "isSheet", desc := "(I)Z" } : Jvm.MethodName)) ∈ lw_all := lw_g (lw_at lw_m6 209 rfl) rfl
theorem q1508 : (Jvm.Cond.static ({ cls := "WildBellsModel", name := "isSheet", desc := "(I)Z" } : Jvm.MethodName)) ∈ lw_all := lw_g (lw_at lw_m6 210 rfl) rfl
theorem q1509 : (Jvm.Cond.code ({ cls := "WildBellsModel", name := "isSheet", desc := "(I)Z" } : Jvm.MethodName) prog_16_method_102_code (1 : Nat) (Option.some Jvm.ClassFile.FieldType.boolean)) ∈ lw_all := lw_g (lw_at lw_m6 211 rfl) rfl
theorem q1510 : (Jvm.Cond.constant "WildBellsModel" (214 : Nat) (-1000006 : Int32)) ∈ lw_all := lw_g (lw_at lw_m6 212 rfl) rfl
theorem q1511 : (Jvm.Cond.methodLink "WildBellsModel" (224 : Nat) ({ cls := "WildBellsModel", name := "areEars", desc := "(I)Z" } : Jvm.MethodName)) ∈ lw_all := lw_g (lw_at lw_m6 213 rfl) rfl
theorem q1512 : (Jvm.Cond.privateMethod ({ cls := "WildBellsModel", name := "areEars", desc := "(I)Z" } : Jvm.MethodName)) ∈ lw_tbl := lw_at lw_m6 214 rfl
theorem q1513 : (Jvm.Cond.instanceMethod ({ cls := "WildBellsModel", name := "areEars", desc := "(I)Z" } : Jvm.MethodName)) ∈ lw_all := lw_g (lw_at lw_m6 215 rfl) rfl
theorem q1514 : (Jvm.Cond.code ({ cls := "WildBellsModel", name := "areEars", desc := "(I)Z" } : Jvm.MethodName) prog_16_method_63_code (4 : Nat) (Option.some Jvm.ClassFile.FieldType.boolean)) ∈ lw_all := lw_g (lw_at lw_m6 216 rfl) rfl
theorem q1515 : (Jvm.Cond.methodLink "WildBellsModel" (215 : Nat) ({ cls := "WildBellsModel", name := "ears", desc := "(I)I" } : Jvm.MethodName)) ∈ lw_all := lw_g (lw_at lw_m6 217 rfl) rfl
theorem q1516 : (Jvm.Cond.privateMethod ({ cls := "WildBellsModel", name := "ears", desc := "(I)I" } : Jvm.MethodName)) ∈ lw_tbl := lw_at lw_m6 218 rfl
theorem q1517 : (Jvm.Cond.instanceMethod ({ cls := "WildBellsModel", name := "ears", desc := "(I)I" } : Jvm.MethodName)) ∈ lw_all := lw_g (lw_at lw_m6 219 rfl) rfl
theorem q1518 : (Jvm.Cond.code ({ cls := "WildBellsModel", name := "ears", desc := "(I)I" } : Jvm.MethodName) prog_16_method_62_code (2 : Nat) (Option.some Jvm.ClassFile.FieldType.int)) ∈ lw_all := lw_g (lw_at lw_m6 220 rfl) rfl
theorem q1519 : (Jvm.Cond.methodLink "WildBellsModel" (218 : Nat) ({ cls := "WildBellsModel", name := "earOf", desc := "(II)I" } : Jvm.MethodName)) ∈ lw_all := lw_g (lw_at lw_m6 221 rfl) rfl
theorem q1520 : (Jvm.Cond.privateMethod ({ cls := "WildBellsModel", name := "earOf", desc := "(II)I" } : Jvm.MethodName)) ∈ lw_tbl := lw_at lw_m6 222 rfl
theorem q1521 : (Jvm.Cond.instanceMethod ({ cls := "WildBellsModel", name := "earOf", desc := "(II)I" } : Jvm.MethodName)) ∈ lw_all := lw_g (lw_at lw_m6 223 rfl) rfl
theorem q1522 : (Jvm.Cond.code ({ cls := "WildBellsModel", name := "earOf", desc := "(II)I" } : Jvm.MethodName) prog_16_method_61_code (3 : Nat) (Option.some Jvm.ClassFile.FieldType.int)) ∈ lw_all := lw_g (lw_at lw_m6 224 rfl) rfl
theorem q1523 : (Jvm.Cond.methodLink "WildBellsModel" (230 : Nat) ({ cls := "WildBellsModel", name := "isSo", desc := "(III)Z" } : Jvm.MethodName)) ∈ lw_all := lw_g (lw_at lw_m6 225 rfl) rfl
theorem q1524 : (Jvm.Cond.privateMethod ({ cls := "WildBellsModel", name := "isSo", desc := "(III)Z" } : Jvm.MethodName)) ∈ lw_tbl := lw_at lw_m6 226 rfl
theorem q1525 : (Jvm.Cond.instanceMethod ({ cls := "WildBellsModel", name := "isSo", desc := "(III)Z" } : Jvm.MethodName)) ∈ lw_all := lw_g (lw_at lw_m6 227 rfl) rfl
theorem q1526 : (Jvm.Cond.code ({ cls := "WildBellsModel", name := "isSo", desc := "(III)Z" } : Jvm.MethodName) prog_16_method_64_code (6 : Nat) (Option.some Jvm.ClassFile.FieldType.boolean)) ∈ lw_all := lw_g (lw_at lw_m6 228 rfl) rfl
theorem q1528 : (Jvm.Cond.instanceMethod ({ cls := "WildBellsModel", name := "where", desc := "(II)I" } : Jvm.MethodName)) ∈ lw_all := lw_g (lw_at lw_m6 230 rfl) rfl
theorem q1529 : (Jvm.Cond.selects "WildBellsModel" ({ cls := "WildBellsModel", name := "where", desc := "(II)I" } : Jvm.MethodName) ({ cls := "WildBellsModel", name := "where", desc := "(II)I" } : Jvm.MethodName)) ∈ lw_all := lw_g (lw_at lw_m6 231 rfl) rfl
theorem q1530 : (Jvm.Cond.code ({ cls := "WildBellsModel", name := "where", desc := "(II)I" } : Jvm.MethodName) prog_16_method_67_code (4 : Nat) (Option.some Jvm.ClassFile.FieldType.int)) ∈ lw_all := lw_g (lw_at lw_m6 232 rfl) rfl
theorem q1532 : (Jvm.Cond.instanceMethod ({ cls := "WildBellsModel", name := "ear", desc := "(II)I" } : Jvm.MethodName)) ∈ lw_all := lw_g (lw_at lw_m6 234 rfl) rfl
theorem q1533 : (Jvm.Cond.selects "WildBellsModel" ({ cls := "WildBellsModel", name := "ear", desc := "(II)I" } : Jvm.MethodName) ({ cls := "WildBellsModel", name := "ear", desc := "(II)I" } : Jvm.MethodName)) ∈ lw_all := lw_g (lw_at lw_m6 235 rfl) rfl
theorem q1534 : (Jvm.Cond.code ({ cls := "WildBellsModel", name := "ear", desc := "(II)I" } : Jvm.MethodName) prog_16_method_69_code (7 : Nat) (Option.some Jvm.ClassFile.FieldType.int)) ∈ lw_all := lw_g (lw_at lw_m6 236 rfl) rfl
theorem q1535 : (Jvm.Cond.methodLink "WildBellsModel" (233 : Nat) ({ cls := "WildBellsModel", name := "worst", desc := "(III)I" } : Jvm.MethodName)) ∈ lw_all := lw_g (lw_at lw_m6 237 rfl) rfl
theorem q1536 : (Jvm.Cond.privateMethod ({ cls := "WildBellsModel", name := "worst", desc := "(III)I" } : Jvm.MethodName)) ∈ lw_tbl := lw_at lw_m6 238 rfl
theorem q1537 : (Jvm.Cond.instanceMethod ({ cls := "WildBellsModel", name := "worst", desc := "(III)I" } : Jvm.MethodName)) ∈ lw_all := lw_g (lw_at lw_m6 239 rfl) rfl
theorem q1538 : (Jvm.Cond.code ({ cls := "WildBellsModel", name := "worst", desc := "(III)I" } : Jvm.MethodName) prog_16_method_68_code (7 : Nat) (Option.some Jvm.ClassFile.FieldType.int)) ∈ lw_all := lw_g (lw_at lw_m7 0 rfl) rfl
theorem q1540 : (Jvm.Cond.instanceMethod ({ cls := "WildBellsModel", name := "whose", desc := "(I)I" } : Jvm.MethodName)) ∈ lw_all := lw_g (lw_at lw_m7 2 rfl) rfl
theorem q1541 : (Jvm.Cond.selects "WildBellsModel" ({ cls := "WildBellsModel", name := "whose", desc := "(I)I" } : Jvm.MethodName) ({ cls := "WildBellsModel", name := "whose", desc := "(I)I" } : Jvm.MethodName)) ∈ lw_all := lw_g (lw_at lw_m7 3 rfl) rfl
theorem q1542 : (Jvm.Cond.code ({ cls := "WildBellsModel", name := "whose", desc := "(I)I" } : Jvm.MethodName) prog_16_method_70_code (4 : Nat) (Option.some Jvm.ClassFile.FieldType.int)) ∈ lw_all := lw_g (lw_at lw_m7 4 rfl) rfl
theorem q1544 : (Jvm.Cond.instanceMethod ({ cls := "WildBellsModel", name := "stock", desc := "(III)I" } : Jvm.MethodName)) ∈ lw_all := lw_g (lw_at lw_m7 6 rfl) rfl
theorem q1545 : (Jvm.Cond.selects "WildBellsModel" ({ cls := "WildBellsModel", name := "stock", desc := "(III)I" } : Jvm.MethodName) ({ cls := "WildBellsModel", name := "stock", desc := "(III)I" } : Jvm.MethodName)) ∈ lw_all := lw_g (lw_at lw_m7 7 rfl) rfl
theorem q1546 : (Jvm.Cond.code ({ cls := "WildBellsModel", name := "stock", desc := "(III)I" } : Jvm.MethodName) prog_16_method_72_code (4 : Nat) (Option.some Jvm.ClassFile.FieldType.int)) ∈ lw_all := lw_g (lw_at lw_m7 8 rfl) rfl
theorem q1547 : (Jvm.Cond.methodLink "WildBellsModel" (236 : Nat) ({ cls := "WildBellsModel", name := "stockBehind", desc := "(III)I" } : Jvm.MethodName)) ∈ lw_all := lw_g (lw_at lw_m7 9 rfl) rfl
theorem q1548 : (Jvm.Cond.static ({ cls := "WildBellsModel", name := "stockBehind", desc := "(III)I" } : Jvm.MethodName)) ∈ lw_all := lw_g (lw_at lw_m7 10 rfl) rfl
theorem q1549 : (Jvm.Cond.code ({ cls := "WildBellsModel", name := "stockBehind", desc := "(III)I" } : Jvm.MethodName) prog_16_method_71_code (5 : Nat) (Option.some Jvm.ClassFile.FieldType.int)) ∈ lw_all := lw_g (lw_at lw_m7 11 rfl) rfl
theorem q1551 : (Jvm.Cond.instanceMethod ({ cls := "WildBellsModel", name := "lasts", desc := "(II)I" } : Jvm.MethodName)) ∈ lw_all := lw_g (lw_at lw_m7 13 rfl) rfl
theorem q1552 : (Jvm.Cond.selects "WildBellsModel" ({ cls := "WildBellsModel", name := "lasts", desc := "(II)I" } : Jvm.MethodName) ({ cls := "WildBellsModel", name := "lasts", desc := "(II)I" } : Jvm.MethodName)) ∈ lw_all := lw_g (lw_at lw_m7 14 rfl) rfl
theorem q1553 : (Jvm.Cond.code ({ cls := "WildBellsModel", name := "lasts", desc := "(II)I" } : Jvm.MethodName) prog_16_method_73_code (4 : Nat) (Option.some Jvm.ClassFile.FieldType.int)) ∈ lw_all := lw_g (lw_at lw_m7 15 rfl) rfl
theorem q1555 : (Jvm.Cond.instanceMethod ({ cls := "WildBellsModel", name := "ring", desc := "()I" } : Jvm.MethodName)) ∈ lw_all := lw_g (lw_at lw_m7 17 rfl) rfl
theorem q1556 : (Jvm.Cond.selects "WildBellsModel" ({ cls := "WildBellsModel", name := "ring", desc := "()I" } : Jvm.MethodName) ({ cls := "WildBellsModel", name := "ring", desc := "()I" } : Jvm.MethodName)) ∈ lw_all := lw_g (lw_at lw_m7 18 rfl) rfl
theorem q1557 : (Jvm.Cond.code ({ cls := "WildBellsModel", name := "ring", desc := "()I" } : Jvm.MethodName) prog_16_method_77_code (1 : Nat) (Option.some Jvm.ClassFile.FieldType.int)) ∈ lw_all := lw_g (lw_at lw_m7 19 rfl) rfl
theorem q1558 : (Jvm.Cond.methodLink "WildBellsModel" (248 : Nat) ({ cls := "WildBellsModel", name := "greatest", desc := "()I" } : Jvm.MethodName)) ∈ lw_all := lw_g (lw_at lw_m7 20 rfl) rfl
theorem q1559 : (Jvm.Cond.privateMethod ({ cls := "WildBellsModel", name := "greatest", desc := "()I" } : Jvm.MethodName)) ∈ lw_tbl := lw_at lw_m7 21 rfl
theorem q1560 : (Jvm.Cond.instanceMethod ({ cls := "WildBellsModel", name := "greatest", desc := "()I" } : Jvm.MethodName)) ∈ lw_all := lw_g (lw_at lw_m7 22 rfl) rfl
theorem q1561 : (Jvm.Cond.code ({ cls := "WildBellsModel", name := "greatest", desc := "()I" } : Jvm.MethodName) prog_16_method_76_code (3 : Nat) (Option.some Jvm.ClassFile.FieldType.int)) ∈ lw_all := lw_g (lw_at lw_m7 23 rfl) rfl
theorem q1562 : (Jvm.Cond.methodLink "WildBellsModel" (245 : Nat) ({ cls := "WildBellsModel", name := "areRing", desc := "(I)Z" } : Jvm.MethodName)) ∈ lw_all := lw_g (lw_at lw_m7 24 rfl) rfl
theorem q1563 : (Jvm.Cond.privateMethod ({ cls := "WildBellsModel", name := "areRing", desc := "(I)Z" } : Jvm.MethodName)) ∈ lw_tbl := lw_at lw_m7 25 rfl
theorem q1564 : (Jvm.Cond.instanceMethod ({ cls := "WildBellsModel", name := "areRing", desc := "(I)Z" } : Jvm.MethodName)) ∈ lw_all := lw_g (lw_at lw_m7 26 rfl) rfl
theorem q1565 : (Jvm.Cond.code ({ cls := "WildBellsModel", name := "areRing", desc := "(I)Z" } : Jvm.MethodName) prog_16_method_74_code (6 : Nat) (Option.some Jvm.ClassFile.FieldType.boolean)) ∈ lw_all := lw_g (lw_at lw_m7 27 rfl) rfl
theorem q1566 : (Jvm.Cond.methodLink "WildBellsModel" (239 : Nat) ({ cls := "WildBellsModel", name := "has", desc := "(II)Z" } : Jvm.MethodName)) ∈ lw_all := lw_g (lw_at lw_m7 28 rfl) rfl
theorem q1567 : (Jvm.Cond.static ({ cls := "WildBellsModel", name := "has", desc := "(II)Z" } : Jvm.MethodName)) ∈ lw_all := lw_g (lw_at lw_m7 29 rfl) rfl
theorem q1568 : (Jvm.Cond.code ({ cls := "WildBellsModel", name := "has", desc := "(II)Z" } : Jvm.MethodName) prog_16_method_7_code (2 : Nat) (Option.some Jvm.ClassFile.FieldType.boolean)) ∈ lw_all := lw_g (lw_at lw_m7 30 rfl) rfl
theorem q1569 : (Jvm.Cond.methodLink "WildBellsModel" (242 : Nat) ({ cls := "WildBellsModel", name := "stepBySteps", desc := "(I)Z" } : Jvm.MethodName)) ∈ lw_all := lw_g (lw_at lw_m7 31 rfl) rfl
theorem q1570 : (Jvm.Cond.static ({ cls := "WildBellsModel", name := "stepBySteps", desc := "(I)Z" } : Jvm.MethodName)) ∈ lw_all := lw_g (lw_at lw_m7 32 rfl) rfl
theorem q1571 : (Jvm.Cond.code ({ cls := "WildBellsModel", name := "stepBySteps", desc := "(I)Z" } : Jvm.MethodName) prog_16_method_75_code (4 : Nat) (Option.some Jvm.ClassFile.FieldType.boolean)) ∈ lw_all := lw_g (lw_at lw_m7 33 rfl) rfl
theorem q1573 : (Jvm.Cond.instanceMethod ({ cls := "WildBellsModel", name := "rings", desc := "()I" } : Jvm.MethodName)) ∈ lw_all := lw_g (lw_at lw_m7 35 rfl) rfl
theorem q1574 : (Jvm.Cond.selects "WildBellsModel" ({ cls := "WildBellsModel", name := "rings", desc := "()I" } : Jvm.MethodName) ({ cls := "WildBellsModel", name := "rings", desc := "()I" } : Jvm.MethodName)) ∈ lw_all := lw_g (lw_at lw_m7 36 rfl) rfl
theorem q1575 : (Jvm.Cond.code ({ cls := "WildBellsModel", name := "rings", desc := "()I" } : Jvm.MethodName) prog_16_method_78_code (1 : Nat) (Option.some Jvm.ClassFile.FieldType.int)) ∈ lw_all := lw_g (lw_at lw_m7 37 rfl) rfl
theorem q1577 : (Jvm.Cond.instanceMethod ({ cls := "WildBellsModel", name := "peals", desc := "()I" } : Jvm.MethodName)) ∈ lw_all := lw_g (lw_at lw_m7 39 rfl) rfl
theorem q1578 : (Jvm.Cond.selects "WildBellsModel" ({ cls := "WildBellsModel", name := "peals", desc := "()I" } : Jvm.MethodName) ({ cls := "WildBellsModel", name := "peals", desc := "()I" } : Jvm.MethodName)) ∈ lw_all := lw_g (lw_at lw_m7 40 rfl) rfl
theorem q1579 : (Jvm.Cond.code ({ cls := "WildBellsModel", name := "peals", desc := "()I" } : Jvm.MethodName) prog_16_method_79_code (3 : Nat) (Option.some Jvm.ClassFile.FieldType.int)) ∈ lw_all := lw_g (lw_at lw_m7 41 rfl) rfl
theorem q1581 : (Jvm.Cond.instanceMethod ({ cls := "WildBellsModel", name := "wanted", desc := "()I" } : Jvm.MethodName)) ∈ lw_all := lw_g (lw_at lw_m7 43 rfl) rfl
theorem q1582 : (Jvm.Cond.selects "WildBellsModel" ({ cls := "WildBellsModel", name := "wanted", desc := "()I" } : Jvm.MethodName) ({ cls := "WildBellsModel", name := "wanted", desc := "()I" } : Jvm.MethodName)) ∈ lw_all := lw_g (lw_at lw_m7 44 rfl) rfl
theorem q1583 : (Jvm.Cond.code ({ cls := "WildBellsModel", name := "wanted", desc := "()I" } : Jvm.MethodName) prog_16_method_81_code (4 : Nat) (Option.some Jvm.ClassFile.FieldType.int)) ∈ lw_all := lw_g (lw_at lw_m7 45 rfl) rfl
theorem q1584 : (Jvm.Cond.methodLink "WildBellsModel" (251 : Nat) ({ cls := "WildBellsModel", name := "longest", desc := "(I)I" } : Jvm.MethodName)) ∈ lw_all := lw_g (lw_at lw_m7 46 rfl) rfl
theorem q1585 : (Jvm.Cond.static ({ cls := "WildBellsModel", name := "longest", desc := "(I)I" } : Jvm.MethodName)) ∈ lw_all := lw_g (lw_at lw_m7 47 rfl) rfl
theorem q1586 : (Jvm.Cond.code ({ cls := "WildBellsModel", name := "longest", desc := "(I)I" } : Jvm.MethodName) prog_16_method_80_code (5 : Nat) (Option.some Jvm.ClassFile.FieldType.int)) ∈ lw_all := lw_g (lw_at lw_m7 48 rfl) rfl
theorem q1588 : (Jvm.Cond.instanceMethod ({ cls := "WildBellsModel", name := "changes", desc := "(I)J" } : Jvm.MethodName)) ∈ lw_all := lw_g (lw_at lw_m7 50 rfl) rfl
theorem q1589 : (Jvm.Cond.selects "WildBellsModel" ({ cls := "WildBellsModel", name := "changes", desc := "(I)J" } : Jvm.MethodName) ({ cls := "WildBellsModel", name := "changes", desc := "(I)J" } : Jvm.MethodName)) ∈ lw_all := lw_g (lw_at lw_m7 51 rfl) rfl
theorem q1590 : (Jvm.Cond.code ({ cls := "WildBellsModel", name := "changes", desc := "(I)J" } : Jvm.MethodName) prog_16_method_82_code (5 : Nat) (Option.some Jvm.ClassFile.FieldType.long)) ∈ lw_all := lw_g (lw_at lw_m7 52 rfl) rfl
theorem q1592 : (Jvm.Cond.instanceMethod ({ cls := "WildBellsModel", name := "thunder", desc := "(I)I" } : Jvm.MethodName)) ∈ lw_all := lw_g (lw_at lw_m7 54 rfl) rfl
theorem q1593 : (Jvm.Cond.selects "WildBellsModel" ({ cls := "WildBellsModel", name := "thunder", desc := "(I)I" } : Jvm.MethodName) ({ cls := "WildBellsModel", name := "thunder", desc := "(I)I" } : Jvm.MethodName)) ∈ lw_all := lw_g (lw_at lw_m7 55 rfl) rfl
theorem q1594 : (Jvm.Cond.code ({ cls := "WildBellsModel", name := "thunder", desc := "(I)I" } : Jvm.MethodName) prog_16_method_84_code (5 : Nat) (Option.some Jvm.ClassFile.FieldType.int)) ∈ lw_all := lw_g (lw_at lw_m7 56 rfl) rfl
theorem q1595 : (Jvm.Cond.methodLink "WildBellsModel" (255 : Nat) ({ cls := "WildBellsModel", name := "drawn", desc := "(I)I" } : Jvm.MethodName)) ∈ lw_all := lw_g (lw_at lw_m7 57 rfl) rfl
theorem q1596 : (Jvm.Cond.privateMethod ({ cls := "WildBellsModel", name := "drawn", desc := "(I)I" } : Jvm.MethodName)) ∈ lw_tbl := lw_at lw_m7 58 rfl
theorem q1597 : (Jvm.Cond.instanceMethod ({ cls := "WildBellsModel", name := "drawn", desc := "(I)I" } : Jvm.MethodName)) ∈ lw_all := lw_g (lw_at lw_m7 59 rfl) rfl
theorem q1598 : (Jvm.Cond.code ({ cls := "WildBellsModel", name := "drawn", desc := "(I)I" } : Jvm.MethodName) prog_16_method_83_code (2 : Nat) (Option.some Jvm.ClassFile.FieldType.int)) ∈ lw_all := lw_g (lw_at lw_m7 60 rfl) rfl
theorem q1599 : (Jvm.Cond.constant "WildBellsModel" (254 : Nat) (1103515245 : Int32)) ∈ lw_all := lw_g (lw_at lw_m7 61 rfl) rfl
theorem q1601 : (Jvm.Cond.instanceMethod ({ cls := "WildBellsModel", name := "seed", desc := "(I)I" } : Jvm.MethodName)) ∈ lw_all := lw_g (lw_at lw_m7 63 rfl) rfl
theorem q1602 : (Jvm.Cond.selects "WildBellsModel" ({ cls := "WildBellsModel", name := "seed", desc := "(I)I" } : Jvm.MethodName) ({ cls := "WildBellsModel", name := "seed", desc := "(I)I" } : Jvm.MethodName)) ∈ lw_all := lw_g (lw_at lw_m7 64 rfl) rfl
theorem q1603 : (Jvm.Cond.code ({ cls := "WildBellsModel", name := "seed", desc := "(I)I" } : Jvm.MethodName) prog_16_method_85_code (2 : Nat) (Option.some Jvm.ClassFile.FieldType.int)) ∈ lw_all := lw_g (lw_at lw_m7 65 rfl) rfl
theorem q1605 : (Jvm.Cond.instanceMethod ({ cls := "WildBellsModel", name := "feed", desc := "(II)I" } : Jvm.MethodName)) ∈ lw_all := lw_g (lw_at lw_m7 67 rfl) rfl
theorem q1606 : (Jvm.Cond.selects "WildBellsModel" ({ cls := "WildBellsModel", name := "feed", desc := "(II)I" } : Jvm.MethodName) ({ cls := "WildBellsModel", name := "feed", desc := "(II)I" } : Jvm.MethodName)) ∈ lw_all := lw_g (lw_at lw_m7 68 rfl) rfl
theorem q1607 : (Jvm.Cond.code ({ cls := "WildBellsModel", name := "feed", desc := "(II)I" } : Jvm.MethodName) prog_16_method_86_code (4 : Nat) (Option.some Jvm.ClassFile.FieldType.int)) ∈ lw_all := lw_g (lw_at lw_m7 69 rfl) rfl
theorem q1609 : (Jvm.Cond.instanceMethod ({ cls := "WildBellsModel", name := "wipe", desc := "()I" } : Jvm.MethodName)) ∈ lw_all := lw_g (lw_at lw_m7 71 rfl) rfl
theorem q1610 : (Jvm.Cond.selects "WildBellsModel" ({ cls := "WildBellsModel", name := "wipe", desc := "()I" } : Jvm.MethodName) ({ cls := "WildBellsModel", name := "wipe", desc := "()I" } : Jvm.MethodName)) ∈ lw_all := lw_g (lw_at lw_m7 72 rfl) rfl
theorem q1611 : (Jvm.Cond.code ({ cls := "WildBellsModel", name := "wipe", desc := "()I" } : Jvm.MethodName) prog_16_method_87_code (2 : Nat) (Option.some Jvm.ClassFile.FieldType.int)) ∈ lw_all := lw_g (lw_at lw_m7 73 rfl) rfl
theorem q1613 : (Jvm.Cond.instanceMethod ({ cls := "WildBellsModel", name := "text", desc := "()I" } : Jvm.MethodName)) ∈ lw_all := lw_g (lw_at lw_m7 75 rfl) rfl
theorem q1614 : (Jvm.Cond.selects "WildBellsModel" ({ cls := "WildBellsModel", name := "text", desc := "()I" } : Jvm.MethodName) ({ cls := "WildBellsModel", name := "text", desc := "()I" } : Jvm.MethodName)) ∈ lw_all := lw_g (lw_at lw_m7 76 rfl) rfl
theorem q1615 : (Jvm.Cond.code ({ cls := "WildBellsModel", name := "text", desc := "()I" } : Jvm.MethodName) prog_16_method_98_code (3 : Nat) (Option.some Jvm.ClassFile.FieldType.int)) ∈ lw_all := lw_g (lw_at lw_m7 77 rfl) rfl
theorem q1616 : (Jvm.Cond.methodLink "WildBellsModel" (287 : Nat) ({ cls := "WildBellsModel", name := "next", desc := "()V" } : Jvm.MethodName)) ∈ lw_all := lw_g (lw_at lw_m7 78 rfl) rfl
theorem q1617 : (Jvm.Cond.privateMethod ({ cls := "WildBellsModel", name := "next", desc := "()V" } : Jvm.MethodName)) ∈ lw_tbl := lw_at lw_m7 79 rfl
theorem q1618 : (Jvm.Cond.instanceMethod ({ cls := "WildBellsModel", name := "next", desc := "()V" } : Jvm.MethodName)) ∈ lw_all := lw_g (lw_at lw_m7 80 rfl) rfl
theorem q1619 : (Jvm.Cond.code ({ cls := "WildBellsModel", name := "next", desc := "()V" } : Jvm.MethodName) prog_16_method_89_code (2 : Nat) (Option.none : Option Jvm.ClassFile.FieldType)) ∈ lw_all := lw_g (lw_at lw_m7 81 rfl) rfl
theorem q1620 : (Jvm.Cond.methodLink "WildBellsModel" (268 : Nat) ({ cls := "WildBellsModel", name := "byteAt", desc := "(I)I" } : Jvm.MethodName)) ∈ lw_all := lw_g (lw_at lw_m7 82 rfl) rfl
theorem q1621 : (Jvm.Cond.privateMethod ({ cls := "WildBellsModel", name := "byteAt", desc := "(I)I" } : Jvm.MethodName)) ∈ lw_tbl := lw_at lw_m7 83 rfl
theorem q1622 : (Jvm.Cond.instanceMethod ({ cls := "WildBellsModel", name := "byteAt", desc := "(I)I" } : Jvm.MethodName)) ∈ lw_all := lw_g (lw_at lw_m7 84 rfl) rfl
theorem q1623 : (Jvm.Cond.code ({ cls := "WildBellsModel", name := "byteAt", desc := "(I)I" } : Jvm.MethodName) prog_16_method_88_code (2 : Nat) (Option.some Jvm.ClassFile.FieldType.int)) ∈ lw_all := lw_g (lw_at lw_m7 85 rfl) rfl
theorem q1624 : (Jvm.Cond.methodLink "WildBellsModel" (330 : Nat) ({ cls := "WildBellsModel", name := "readItem", desc := "()V" } : Jvm.MethodName)) ∈ lw_all := lw_g (lw_at lw_m7 86 rfl) rfl
theorem q1625 : (Jvm.Cond.privateMethod ({ cls := "WildBellsModel", name := "readItem", desc := "()V" } : Jvm.MethodName)) ∈ lw_tbl := lw_at lw_m7 87 rfl
theorem q1626 : (Jvm.Cond.instanceMethod ({ cls := "WildBellsModel", name := "readItem", desc := "()V" } : Jvm.MethodName)) ∈ lw_all := lw_g (lw_at lw_m7 88 rfl) rfl
theorem q1627 : (Jvm.Cond.code ({ cls := "WildBellsModel", name := "readItem", desc := "()V" } : Jvm.MethodName) prog_16_method_96_code (4 : Nat) (Option.none : Option Jvm.ClassFile.FieldType)) ∈ lw_all := lw_g (lw_at lw_m7 89 rfl) rfl
theorem q1628 : (Jvm.Cond.methodLink "WildBellsModel" (301 : Nat) ({ cls := "WildBellsModel", name := "kindTold", desc := "()I" } : Jvm.MethodName)) ∈ lw_all := lw_g (lw_at lw_m7 90 rfl) rfl
theorem q1629 : (Jvm.Cond.privateMethod ({ cls := "WildBellsModel", name := "kindTold", desc := "()I" } : Jvm.MethodName)) ∈ lw_tbl := lw_at lw_m7 91 rfl
theorem q1630 : (Jvm.Cond.instanceMethod ({ cls := "WildBellsModel", name := "kindTold", desc := "()I" } : Jvm.MethodName)) ∈ lw_all := lw_g (lw_at lw_m7 92 rfl) rfl
theorem q1631 : (Jvm.Cond.code ({ cls := "WildBellsModel", name := "kindTold", desc := "()I" } : Jvm.MethodName) prog_16_method_94_code (3 : Nat) (Option.some Jvm.ClassFile.FieldType.int)) ∈ lw_all := lw_g (lw_at lw_m7 93 rfl) rfl
theorem q1632 : (Jvm.Cond.methodLink "WildBellsModel" (297 : Nat) ({ cls := "WildBellsModel", name := "isWord", desc := "(Ljava/lang/String;)Z" } : Jvm.MethodName)) ∈ lw_all := lw_g (lw_at lw_m7 94 rfl) rfl
theorem q1633 : (Jvm.Cond.privateMethod ({ cls := "WildBellsModel", name := "isWord", desc := "(Ljava/lang/String;)Z" } : Jvm.MethodName)) ∈ lw_tbl := lw_at lw_m7 95 rfl
theorem q1634 : (Jvm.Cond.instanceMethod ({ cls := "WildBellsModel", name := "isWord", desc := "(Ljava/lang/String;)Z" } : Jvm.MethodName)) ∈ lw_all := lw_g (lw_at lw_m7 96 rfl) rfl
theorem q1635 : (Jvm.Cond.code ({ cls := "WildBellsModel", name := "isWord", desc := "(Ljava/lang/String;)Z" } : Jvm.MethodName) prog_16_method_90_code (4 : Nat) (Option.some Jvm.ClassFile.FieldType.boolean)) ∈ lw_all := lw_g (lw_at lw_m7 97 rfl) rfl
theorem q1636 : (Jvm.Cond.methodLink "WildBellsModel" (277 : Nat) ({ cls := "java/lang/String", name := "length", desc := "()I" } : Jvm.MethodName)) ∈ lw_all := lw_g (lw_at lw_m7 98 rfl) rfl
theorem q1644 : (Jvm.Cond.methodLink "WildBellsModel" (280 : Nat) ({ cls := "java/lang/String", name := "charAt", desc := "(I)C" } : Jvm.MethodName)) ∈ lw_all := lw_g (lw_at lw_m7 106 rfl) rfl
theorem q1645 : (Jvm.Cond.methodLink "WildBellsModel" (290 : Nat) ({ cls := "WildBellsModel", name := "must", desc := "(Z)V" } : Jvm.MethodName)) ∈ lw_all := lw_g (lw_at lw_m7 107 rfl) rfl
theorem q1646 : (Jvm.Cond.privateMethod ({ cls := "WildBellsModel", name := "must", desc := "(Z)V" } : Jvm.MethodName)) ∈ lw_tbl := lw_at lw_m7 108 rfl
theorem q1647 : (Jvm.Cond.instanceMethod ({ cls := "WildBellsModel", name := "must", desc := "(Z)V" } : Jvm.MethodName)) ∈ lw_all := lw_g (lw_at lw_m7 109 rfl) rfl
theorem q1648 : (Jvm.Cond.code ({ cls := "WildBellsModel", name := "must", desc := "(Z)V" } : Jvm.MethodName) prog_16_method_91_code (2 : Nat) (Option.none : Option Jvm.ClassFile.FieldType)) ∈ lw_all := lw_g (lw_at lw_m7 110 rfl) rfl
theorem q1649 : (Jvm.Cond.stringRef "WildBellsModel" (307 : Nat) "at") ∈ lw_tbl := lw_at lw_m7 111 rfl
theorem q1650 : (Jvm.Cond.methodLink "WildBellsModel" (308 : Nat) ({ cls := "WildBellsModel", name := "isNext", desc := "(Ljava/lang/String;)Z" } : Jvm.MethodName)) ∈ lw_all := lw_g (lw_at lw_m7 112 rfl) rfl
theorem q1651 : (Jvm.Cond.privateMethod ({ cls := "WildBellsModel", name := "isNext", desc := "(Ljava/lang/String;)Z" } : Jvm.MethodName)) ∈ lw_tbl := lw_at lw_m7 113 rfl
theorem q1652 : (Jvm.Cond.instanceMethod ({ cls := "WildBellsModel", name := "isNext", desc := "(Ljava/lang/String;)Z" } : Jvm.MethodName)) ∈ lw_all := lw_g (lw_at lw_m7 114 rfl) rfl
theorem q1653 : (Jvm.Cond.code ({ cls := "WildBellsModel", name := "isNext", desc := "(Ljava/lang/String;)Z" } : Jvm.MethodName) prog_16_method_95_code (3 : Nat) (Option.some Jvm.ClassFile.FieldType.boolean)) ∈ lw_all := lw_g (lw_at lw_m7 115 rfl) rfl
theorem q1654 : (Jvm.Cond.methodLink "WildBellsModel" (311 : Nat) ({ cls := "WildBellsModel", name := "number", desc := "(II)I" } : Jvm.MethodName)) ∈ lw_all := lw_g (lw_at lw_m7 116 rfl) rfl
theorem q1655 : (Jvm.Cond.privateMethod ({ cls := "WildBellsModel", name := "number", desc := "(II)I" } : Jvm.MethodName)) ∈ lw_tbl := lw_at lw_m7 117 rfl
theorem q1656 : (Jvm.Cond.instanceMethod ({ cls := "WildBellsModel", name := "number", desc := "(II)I" } : Jvm.MethodName)) ∈ lw_all := lw_g (lw_at lw_m7 118 rfl) rfl
theorem q1657 : (Jvm.Cond.code ({ cls := "WildBellsModel", name := "number", desc := "(II)I" } : Jvm.MethodName) prog_16_method_92_code (4 : Nat) (Option.some Jvm.ClassFile.FieldType.int)) ∈ lw_all := lw_g (lw_at lw_m7 119 rfl) rfl
theorem q1658 : (Jvm.Cond.stringRef "WildBellsModel" (314 : Nat) "note") ∈ lw_tbl := lw_at lw_m7 120 rfl
theorem q1659 : (Jvm.Cond.stringRef "WildBellsModel" (316 : Nat) "weight") ∈ lw_tbl := lw_at lw_m7 121 rfl
theorem q1660 : (Jvm.Cond.methodLink "WildBellsModel" (318 : Nat) ({ cls := "WildBellsModel", name := "item", desc := "(IIII)V" } : Jvm.MethodName)) ∈ lw_all := lw_g (lw_at lw_m7 122 rfl) rfl
theorem q1661 : (Jvm.Cond.privateMethod ({ cls := "WildBellsModel", name := "item", desc := "(IIII)V" } : Jvm.MethodName)) ∈ lw_tbl := lw_at lw_m7 123 rfl
theorem q1662 : (Jvm.Cond.instanceMethod ({ cls := "WildBellsModel", name := "item", desc := "(IIII)V" } : Jvm.MethodName)) ∈ lw_all := lw_g (lw_at lw_m7 124 rfl) rfl
theorem q1663 : (Jvm.Cond.code ({ cls := "WildBellsModel", name := "item", desc := "(IIII)V" } : Jvm.MethodName) prog_16_method_93_code (6 : Nat) (Option.none : Option Jvm.ClassFile.FieldType)) ∈ lw_all := lw_g (lw_at lw_m7 125 rfl) rfl
theorem q1664 : (Jvm.Cond.stringRef "WildBellsModel" (322 : Nat) "net") ∈ lw_tbl := lw_at lw_m7 126 rfl
theorem q1665 : (Jvm.Cond.stringRef "WildBellsModel" (324 : Nat) "thick") ∈ lw_tbl := lw_at lw_m7 127 rfl
theorem q1666 : (Jvm.Cond.stringRef "WildBellsModel" (326 : Nat) "hunter") ∈ lw_tbl := lw_at lw_m7 128 rfl
theorem q1667 : (Jvm.Cond.stringRef "WildBellsModel" (328 : Nat) "fear") ∈ lw_tbl := lw_at lw_m7 129 rfl
theorem q1668 : (Jvm.Cond.methodLink "WildBellsModel" (333 : Nat) ({ cls := "WildBellsModel", name := "isToldSo", desc := "(I)I" } : Jvm.MethodName)) ∈ lw_all := lw_g (lw_at lw_m7 130 rfl) rfl
theorem q1669 : (Jvm.Cond.privateMethod ({ cls := "WildBellsModel", name := "isToldSo", desc := "(I)I" } : Jvm.MethodName)) ∈ lw_tbl := lw_at lw_m7 131 rfl
theorem q1670 : (Jvm.Cond.instanceMethod ({ cls := "WildBellsModel", name := "isToldSo", desc := "(I)I" } : Jvm.MethodName)) ∈ lw_all := lw_g (lw_at lw_m7 132 rfl) rfl
theorem q1671 : (Jvm.Cond.code ({ cls := "WildBellsModel", name := "isToldSo", desc := "(I)I" } : Jvm.MethodName) prog_16_method_97_code (4 : Nat) (Option.some Jvm.ClassFile.FieldType.int)) ∈ lw_all := lw_g (lw_at lw_m7 133 rfl) rfl
theorem q1673 : (Jvm.Cond.instanceMethod ({ cls := "WildBellsModel", name := "hold", desc := "(II)I" } : Jvm.MethodName)) ∈ lw_all := lw_g (lw_at lw_m7 135 rfl) rfl
theorem q1674 : (Jvm.Cond.selects "WildBellsModel" ({ cls := "WildBellsModel", name := "hold", desc := "(II)I" } : Jvm.MethodName) ({ cls := "WildBellsModel", name := "hold", desc := "(II)I" } : Jvm.MethodName)) ∈ lw_all := lw_g (lw_at lw_m7 136 rfl) rfl
theorem q1675 : (Jvm.Cond.code ({ cls := "WildBellsModel", name := "hold", desc := "(II)I" } : Jvm.MethodName) prog_16_method_100_code (3 : Nat) (Option.some Jvm.ClassFile.FieldType.int)) ∈ lw_all := lw_g (lw_at lw_m7 137 rfl) rfl
theorem q1676 : (Jvm.Cond.methodLink "WildBellsModel" (336 : Nat) ({ cls := "WildBellsModel", name := "isSpot", desc := "(I)Z" } : Jvm.MethodName)) ∈ lw_all := lw_g (lw_at lw_m7 138 rfl) rfl
theorem q1677 : (Jvm.Cond.static ({ cls := "WildBellsModel", name := "isSpot", desc := "(I)Z" } : Jvm.MethodName)) ∈ lw_all := lw_g (lw_at lw_m7 139 rfl) rfl
theorem q1678 : (Jvm.Cond.code ({ cls := "WildBellsModel", name := "isSpot", desc := "(I)Z" } : Jvm.MethodName) prog_16_method_99_code (1 : Nat) (Option.some Jvm.ClassFile.FieldType.boolean)) ∈ lw_all := lw_g (lw_at lw_m7 140 rfl) rfl
theorem q1680 : (Jvm.Cond.instanceMethod ({ cls := "WildBellsModel", name := "as", desc := "(II)I" } : Jvm.MethodName)) ∈ lw_all := lw_g (lw_at lw_m7 142 rfl) rfl
theorem q1681 : (Jvm.Cond.selects "WildBellsModel" ({ cls := "WildBellsModel", name := "as", desc := "(II)I" } : Jvm.MethodName) ({ cls := "WildBellsModel", name := "as", desc := "(II)I" } : Jvm.MethodName)) ∈ lw_all := lw_g (lw_at lw_m7 143 rfl) rfl
theorem q1682 : (Jvm.Cond.code ({ cls := "WildBellsModel", name := "as", desc := "(II)I" } : Jvm.MethodName) prog_16_method_101_code (4 : Nat) (Option.some Jvm.ClassFile.FieldType.int)) ∈ lw_all := lw_g (lw_at lw_m7 144 rfl) rfl
theorem q1683 : (Jvm.Cond.constant "WildBellsModel" (339 : Nat) (-1000003 : Int32)) ∈ lw_all := lw_g (lw_at lw_m7 145 rfl) rfl
theorem q1685 : (Jvm.Cond.instanceMethod ({ cls := "WildBellsModel", name := "sheet", desc := "(III)I" } : Jvm.MethodName)) ∈ lw_all := lw_g (lw_at lw_m7 147 rfl) rfl
theorem q1686 : (Jvm.Cond.selects "WildBellsModel" ({ cls := "WildBellsModel", name := "sheet", desc := "(III)I" } : Jvm.MethodName) ({ cls := "WildBellsModel", name := "sheet", desc := "(III)I" } : Jvm.MethodName)) ∈ lw_all := lw_g (lw_at lw_m7 148 rfl) rfl
theorem q1687 : (Jvm.Cond.code ({ cls := "WildBellsModel", name := "sheet", desc := "(III)I" } : Jvm.MethodName) prog_16_method_104_code (5 : Nat) (Option.some Jvm.ClassFile.FieldType.int)) ∈ lw_all := lw_g (lw_at lw_m7 149 rfl) rfl
theorem q1688 : (Jvm.Cond.constant "WildBellsModel" (340 : Nat) (-1000007 : Int32)) ∈ lw_all := lw_g (lw_at lw_m7 150 rfl) rfl
theorem q1690 : (Jvm.Cond.instanceMethod ({ cls := "WildBellsModel", name := "write", desc := "(III)I" } : Jvm.MethodName)) ∈ lw_all := lw_g (lw_at lw_m7 152 rfl) rfl
theorem q1691 : (Jvm.Cond.selects "WildBellsModel" ({ cls := "WildBellsModel", name := "write", desc := "(III)I" } : Jvm.MethodName) ({ cls := "WildBellsModel", name := "write", desc := "(III)I" } : Jvm.MethodName)) ∈ lw_all := lw_g (lw_at lw_m7 153 rfl) rfl
theorem q1692 : (Jvm.Cond.code ({ cls := "WildBellsModel", name := "write", desc := "(III)I" } : Jvm.MethodName) prog_16_method_105_code (4 : Nat) (Option.some Jvm.ClassFile.FieldType.int)) ∈ lw_all := lw_g (lw_at lw_m7 154 rfl) rfl
theorem q1693 : (Jvm.Cond.methodLink "WildBellsModel" (341 : Nat) ({ cls := "WildBellsModel", name := "cutTo", desc := "(II)I" } : Jvm.MethodName)) ∈ lw_all := lw_g (lw_at lw_m7 155 rfl) rfl
theorem q1694 : (Jvm.Cond.static ({ cls := "WildBellsModel", name := "cutTo", desc := "(II)I" } : Jvm.MethodName)) ∈ lw_all := lw_g (lw_at lw_m7 156 rfl) rfl
theorem q1695 : (Jvm.Cond.code ({ cls := "WildBellsModel", name := "cutTo", desc := "(II)I" } : Jvm.MethodName) prog_16_method_103_code (2 : Nat) (Option.some Jvm.ClassFile.FieldType.int)) ∈ lw_all := lw_g (lw_at lw_m7 157 rfl) rfl
theorem q1697 : (Jvm.Cond.instanceMethod ({ cls := "WildBellsModel", name := "copy", desc := "(IIIII)I" } : Jvm.MethodName)) ∈ lw_all := lw_g (lw_at lw_m7 159 rfl) rfl
theorem q1698 : (Jvm.Cond.selects "WildBellsModel" ({ cls := "WildBellsModel", name := "copy", desc := "(IIIII)I" } : Jvm.MethodName) ({ cls := "WildBellsModel", name := "copy", desc := "(IIIII)I" } : Jvm.MethodName)) ∈ lw_all := lw_g (lw_at lw_m7 160 rfl) rfl
theorem q1699 : (Jvm.Cond.code ({ cls := "WildBellsModel", name := "copy", desc := "(IIIII)I" } : Jvm.MethodName) prog_16_method_106_code (7 : Nat) (Option.some Jvm.ClassFile.FieldType.int)) ∈ lw_all := lw_g (lw_at lw_m7 161 rfl) rfl
theorem q1701 : (Jvm.Cond.instanceMethod ({ cls := "WildBellsModel", name := "load", desc := "(I)I" } : Jvm.MethodName)) ∈ lw_all := lw_g (lw_at lw_m7 163 rfl) rfl
theorem q1702 : (Jvm.Cond.selects "WildBellsModel" ({ cls := "WildBellsModel", name := "load", desc := "(I)I" } : Jvm.MethodName) ({ cls := "WildBellsModel", name := "load", desc := "(I)I" } : Jvm.MethodName)) ∈ lw_all := lw_g (lw_at lw_m7 164 rfl) rfl
theorem q1703 : (Jvm.Cond.code ({ cls := "WildBellsModel", name := "load", desc := "(I)I" } : Jvm.MethodName) prog_16_method_107_code (3 : Nat) (Option.some Jvm.ClassFile.FieldType.int)) ∈ lw_all := lw_g (lw_at lw_m7 165 rfl) rfl
theorem q1705 : (Jvm.Cond.instanceMethod ({ cls := "WildBellsModel", name := "judge", desc := "(I)I" } : Jvm.MethodName)) ∈ lw_all := lw_g (lw_at lw_m7 167 rfl) rfl
theorem q1706 : (Jvm.Cond.selects "WildBellsModel" ({ cls := "WildBellsModel", name := "judge", desc := "(I)I" } : Jvm.MethodName) ({ cls := "WildBellsModel", name := "judge", desc := "(I)I" } : Jvm.MethodName)) ∈ lw_all := lw_g (lw_at lw_m7 168 rfl) rfl
theorem q1707 : (Jvm.Cond.code ({ cls := "WildBellsModel", name := "judge", desc := "(I)I" } : Jvm.MethodName) prog_16_method_108_code (6 : Nat) (Option.some Jvm.ClassFile.FieldType.int)) ∈ lw_all := lw_g (lw_at lw_m7 169 rfl) rfl
theorem q1709 : (Jvm.Cond.instanceMethod ({ cls := "WildBellsModel", name := "image", desc := "()I" } : Jvm.MethodName)) ∈ lw_all := lw_g (lw_at lw_m7 171 rfl) rfl
theorem q1710 : (Jvm.Cond.selects "WildBellsModel" ({ cls := "WildBellsModel", name := "image", desc := "()I" } : Jvm.MethodName) ({ cls := "WildBellsModel", name := "image", desc := "()I" } : Jvm.MethodName)) ∈ lw_all := lw_g (lw_at lw_m7 172 rfl) rfl
theorem q1711 : (Jvm.Cond.code ({ cls := "WildBellsModel", name := "image", desc := "()I" } : Jvm.MethodName) prog_16_method_109_code (1 : Nat) (Option.some Jvm.ClassFile.FieldType.int)) ∈ lw_all := lw_g (lw_at lw_m7 173 rfl) rfl
theorem q1713 : (Jvm.Cond.instanceMethod ({ cls := "WildBellsModel", name := "undo", desc := "()I" } : Jvm.MethodName)) ∈ lw_all := lw_g (lw_at lw_m7 175 rfl) rfl
theorem q1714 : (Jvm.Cond.selects "WildBellsModel" ({ cls := "WildBellsModel", name := "undo", desc := "()I" } : Jvm.MethodName) ({ cls := "WildBellsModel", name := "undo", desc := "()I" } : Jvm.MethodName)) ∈ lw_all := lw_g (lw_at lw_m7 176 rfl) rfl
theorem q1715 : (Jvm.Cond.code ({ cls := "WildBellsModel", name := "undo", desc := "()I" } : Jvm.MethodName) prog_16_method_110_code (1 : Nat) (Option.some Jvm.ClassFile.FieldType.int)) ∈ lw_all := lw_g (lw_at lw_m7 177 rfl) rfl
theorem q1717 : (Jvm.Cond.instanceMethod ({ cls := "WildBellsModel", name := "tear", desc := "()I" } : Jvm.MethodName)) ∈ lw_all := lw_g (lw_at lw_m7 179 rfl) rfl
theorem q1718 : (Jvm.Cond.selects "WildBellsModel" ({ cls := "WildBellsModel", name := "tear", desc := "()I" } : Jvm.MethodName) ({ cls := "WildBellsModel", name := "tear", desc := "()I" } : Jvm.MethodName)) ∈ lw_all := lw_g (lw_at lw_m7 180 rfl) rfl
theorem q1719 : (Jvm.Cond.code ({ cls := "WildBellsModel", name := "tear", desc := "()I" } : Jvm.MethodName) prog_16_method_111_code (2 : Nat) (Option.some Jvm.ClassFile.FieldType.int)) ∈ lw_all := lw_g (lw_at lw_m7 181 rfl) rfl
theorem q1721 : (Jvm.Cond.instanceMethod ({ cls := "WildBellsModel", name := "count", desc := "(I)I" } : Jvm.MethodName)) ∈ lw_all := lw_g (lw_at lw_m7 183 rfl) rfl
theorem q1722 : (Jvm.Cond.selects "WildBellsModel" ({ cls := "WildBellsModel", name := "count", desc := "(I)I" } : Jvm.MethodName) ({ cls := "WildBellsModel", name := "count", desc := "(I)I" } : Jvm.MethodName)) ∈ lw_all := lw_g (lw_at lw_m7 184 rfl) rfl
theorem q1723 : (Jvm.Cond.code ({ cls := "WildBellsModel", name := "count", desc := "(I)I" } : Jvm.MethodName) prog_16_method_112_code (4 : Nat) (Option.some Jvm.ClassFile.FieldType.int)) ∈ lw_all := lw_g (lw_at lw_m7 185 rfl) rfl
theorem q1725 : (Jvm.Cond.instanceMethod ({ cls := "WildBellsModel", name := "status", desc := "(I)I" } : Jvm.MethodName)) ∈ lw_all := lw_g (lw_at lw_m7 187 rfl) rfl
theorem q1726 : (Jvm.Cond.selects "WildBellsModel" ({ cls := "WildBellsModel", name := "status", desc := "(I)I" } : Jvm.MethodName) ({ cls := "WildBellsModel", name := "status", desc := "(I)I" } : Jvm.MethodName)) ∈ lw_all := lw_g (lw_at lw_m7 188 rfl) rfl
theorem q1727 : (Jvm.Cond.code ({ cls := "WildBellsModel", name := "status", desc := "(I)I" } : Jvm.MethodName) prog_16_method_113_code (2 : Nat) (Option.some Jvm.ClassFile.FieldType.int)) ∈ lw_all := lw_g (lw_at lw_m7 189 rfl) rfl
theorem in_X13 : ∀ w ∈ wsX130, w ∈ lw_all := lw_in wsX130 [1220, 1222, 1224, 1226, 1228, 1230, 1232, 1234, 1236, 1238, 1240, 1242, 1244, 1246, 1248, 1250, 1252, 1254, 1256, 1258, 1260, 1262, 1264, 1266] (by decide +kernel) (by decide +kernel)
