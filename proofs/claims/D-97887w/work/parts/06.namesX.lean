/-! WildBells -/
set_option maxRecDepth 100000
def RX0 : String := "WildBells"
def TX0 : u_T := fun k => match k with
  | 0 => ("WildBells", "refusal", "LWildBells$Refusal;", true)
  | 1 => ("WildBells", "reader", "LWildBells$Reader;", true)
  | 2 => ("WildBells", "taped", "I", false)
  | 3 => ("WildBells", "d", "LWildBells$World;", true)
  | 4 => ("WildBells", "kept", "LWildBells$World;", true)
  | 5 => ("WildBells", "aside", "LWildBells$World;", true)
  | 6 => ("WildBells", "isKept", "Z", false)
  | 7 => ("WildBells", "bells", "[LWildBells$Slot;", true)
  | 8 => ("WildBells", "spots", "[LWildBells$Slot;", true)
  | 9 => ("WildBells", "sheets", "[LWildBells$Slot;", true)
  | 10 => ("WildBells", "findings", "[I", true)
  | 11 => ("WildBells", "were", "[I", true)
  | 12 => ("WildBells", "may", "[Z", true)
  | 13 => ("WildBells", "firstFit", "I", false)
  | _ => ("WildBells", "heardSo", "[I", true)
def tyX0 : Nat → FieldType := fun k => match k with
  | 0 => .object "WildBells$Refusal"
  | 1 => .object "WildBells$Reader"
  | 2 => .int
  | 3 => .object "WildBells$World"
  | 4 => .object "WildBells$World"
  | 5 => .object "WildBells$World"
  | 6 => .boolean
  | 7 => .array (.object "WildBells$Slot")
  | 8 => .array (.object "WildBells$Slot")
  | 9 => .array (.object "WildBells$Slot")
  | 10 => .array .int
  | 11 => .array .int
  | 12 => .array .boolean
  | 13 => .int
  | _ => .array .int
abbrev wsX00 : List Cond := u_ws RX0 TX0 15
set_option maxRecDepth 100000 in
theorem nmX0 : ∀ a, a < 15 → ∀ b, b < 15 → a ≠ b → (TX0 a).2.1 ≠ (TX0 b).2.1 := by decide +kernel
set_option maxRecDepth 100000 in
theorem tyX0_ok : ∀ k, k < 15 → parseFieldDescriptor (TX0 k).2.2.1 = some (tyX0 k) := by decide +kernel
abbrev cX0_init : ByteArray := prog_1_method_15_code
def yX0_init : MethodName := ⟨RX0, "<init>", "()V"⟩
def dkwX0_init_9 : List UInt8 := [183, 0, 114, 83, 132, 1, 1, 167, 255, 235, 177]
abbrev dktX0_init_9 : List UInt8 := dkwX0_init_9 ++ []
def dkwX0_init_8 : List UInt8 := [132, 1, 1, 167, 255, 234, 3, 60, 27, 7, 162, 0, 22, 42, 180, 0, 97, 27, 187, 0, 88, 89]
abbrev dktX0_init_8 : List UInt8 := dkwX0_init_8 ++ dktX0_init_9
def dkwX0_init_7 : List UInt8 := [167, 255, 213, 3, 60, 27, 16, 10, 162, 0, 22, 42, 180, 0, 94, 27, 187, 0, 88, 89, 183, 0, 114, 83]
abbrev dktX0_init_7 : List UInt8 := dkwX0_init_7 ++ dktX0_init_8
def dkwX0_init_6 : List UInt8 := [180, 0, 90, 27, 50, 42, 27, 16, 8, 108, 27, 16, 8, 112, 182, 0, 115, 181, 0, 119, 132, 1, 1]
abbrev dktX0_init_6 : List UInt8 := dkwX0_init_6 ++ dktX0_init_7
def dkwX0_init_5 : List UInt8 := [3, 60, 27, 16, 56, 162, 0, 43, 42, 180, 0, 90, 27, 187, 0, 88, 89, 183, 0, 114, 83, 42]
abbrev dktX0_init_5 : List UInt8 := dkwX0_init_5 ++ dktX0_init_6
def dkwX0_init_4 : List UInt8 := [42, 16, 8, 188, 10, 181, 0, 104, 42, 16, 64, 188, 4, 181, 0, 107, 42, 16, 100, 188, 10, 181, 0, 111]
abbrev dktX0_init_4 : List UInt8 := dkwX0_init_4 ++ dktX0_init_5
def dkwX0_init_3 : List UInt8 := [16, 10, 189, 0, 88, 181, 0, 94, 42, 7, 189, 0, 88, 181, 0, 97, 42, 16, 7, 188, 10, 181, 0, 100]
abbrev dktX0_init_3 : List UInt8 := dkwX0_init_3 ++ dktX0_init_4
def dkwX0_init_2 : List UInt8 := [181, 0, 82, 42, 187, 0, 75, 89, 183, 0, 77, 181, 0, 85, 42, 16, 56, 189, 0, 88, 181, 0, 90, 42]
abbrev dktX0_init_2 : List UInt8 := dkwX0_init_2 ++ dktX0_init_3
def dkwX0_init_1 : List UInt8 := [181, 0, 71, 42, 187, 0, 75, 89, 183, 0, 77, 181, 0, 78, 42, 187, 0, 75, 89, 183, 0, 77]
abbrev dktX0_init_1 : List UInt8 := dkwX0_init_1 ++ dktX0_init_2
def dkwX0_init_0 : List UInt8 := [42, 183, 0, 56, 42, 187, 0, 61, 89, 183, 0, 63, 181, 0, 64, 42, 187, 0, 68, 89, 183, 0, 70]
abbrev dktX0_init_0 : List UInt8 := dkwX0_init_0 ++ dktX0_init_1
theorem dksX0_init_0 : cX0_init.data.toList.drop 0 = dktX0_init_0 := by decide +kernel
theorem dksX0_init_1 : cX0_init.data.toList.drop 23 = dktX0_init_1 := dk_seg dksX0_init_0 23 rfl rfl
theorem dksX0_init_2 : cX0_init.data.toList.drop 45 = dktX0_init_2 := dk_seg dksX0_init_1 22 rfl rfl
theorem dksX0_init_3 : cX0_init.data.toList.drop 69 = dktX0_init_3 := dk_seg dksX0_init_2 24 rfl rfl
theorem dksX0_init_4 : cX0_init.data.toList.drop 93 = dktX0_init_4 := dk_seg dksX0_init_3 24 rfl rfl
theorem dksX0_init_5 : cX0_init.data.toList.drop 117 = dktX0_init_5 := dk_seg dksX0_init_4 24 rfl rfl
theorem dksX0_init_6 : cX0_init.data.toList.drop 139 = dktX0_init_6 := dk_seg dksX0_init_5 22 rfl rfl
theorem dksX0_init_7 : cX0_init.data.toList.drop 162 = dktX0_init_7 := dk_seg dksX0_init_6 23 rfl rfl
theorem dksX0_init_8 : cX0_init.data.toList.drop 186 = dktX0_init_8 := dk_seg dksX0_init_7 24 rfl rfl
theorem dksX0_init_9 : cX0_init.data.toList.drop 208 = dktX0_init_9 := dk_seg dksX0_init_8 22 rfl rfl
theorem dX0_init_0 : decode cX0_init 0 = .ok (.aload_n 0, 1) := dk_42 (dk_at dksX0_init_0 0 rfl rfl)
theorem dX0_init_1 : decode cX0_init 1 = .ok (.invokespecial 56, 3) := dk_183 0 56 (dk_at dksX0_init_0 1 rfl rfl)
theorem dX0_init_4 : decode cX0_init 4 = .ok (.aload_n 0, 1) := dk_42 (dk_at dksX0_init_0 4 rfl rfl)
theorem dX0_init_5 : decode cX0_init 5 = .ok (.new 61, 3) := dk_187 0 61 (dk_at dksX0_init_0 5 rfl rfl)
theorem dX0_init_8 : decode cX0_init 8 = .ok (.dup, 1) := dk_89 (dk_at dksX0_init_0 8 rfl rfl)
theorem dX0_init_9 : decode cX0_init 9 = .ok (.invokespecial 63, 3) := dk_183 0 63 (dk_at dksX0_init_0 9 rfl rfl)
theorem dX0_init_12 : decode cX0_init 12 = .ok (.putfield 64, 3) := dk_181 0 64 (dk_at dksX0_init_0 12 rfl rfl)
theorem dX0_init_15 : decode cX0_init 15 = .ok (.aload_n 0, 1) := dk_42 (dk_at dksX0_init_0 15 rfl rfl)
theorem dX0_init_16 : decode cX0_init 16 = .ok (.new 68, 3) := dk_187 0 68 (dk_at dksX0_init_0 16 rfl rfl)
theorem dX0_init_19 : decode cX0_init 19 = .ok (.dup, 1) := dk_89 (dk_at dksX0_init_0 19 rfl rfl)
theorem dX0_init_20 : decode cX0_init 20 = .ok (.invokespecial 70, 3) := dk_183 0 70 (dk_at dksX0_init_0 20 rfl rfl)
theorem dX0_init_23 : decode cX0_init 23 = .ok (.putfield 71, 3) := dk_181 0 71 (dk_at dksX0_init_1 0 rfl rfl)
theorem dX0_init_26 : decode cX0_init 26 = .ok (.aload_n 0, 1) := dk_42 (dk_at dksX0_init_1 3 rfl rfl)
theorem dX0_init_27 : decode cX0_init 27 = .ok (.new 75, 3) := dk_187 0 75 (dk_at dksX0_init_1 4 rfl rfl)
theorem dX0_init_30 : decode cX0_init 30 = .ok (.dup, 1) := dk_89 (dk_at dksX0_init_1 7 rfl rfl)
theorem dX0_init_31 : decode cX0_init 31 = .ok (.invokespecial 77, 3) := dk_183 0 77 (dk_at dksX0_init_1 8 rfl rfl)
theorem dX0_init_34 : decode cX0_init 34 = .ok (.putfield 78, 3) := dk_181 0 78 (dk_at dksX0_init_1 11 rfl rfl)
theorem dX0_init_37 : decode cX0_init 37 = .ok (.aload_n 0, 1) := dk_42 (dk_at dksX0_init_1 14 rfl rfl)
theorem dX0_init_38 : decode cX0_init 38 = .ok (.new 75, 3) := dk_187 0 75 (dk_at dksX0_init_1 15 rfl rfl)
theorem dX0_init_41 : decode cX0_init 41 = .ok (.dup, 1) := dk_89 (dk_at dksX0_init_1 18 rfl rfl)
theorem dX0_init_42 : decode cX0_init 42 = .ok (.invokespecial 77, 3) := dk_183 0 77 (dk_at dksX0_init_1 19 rfl rfl)
theorem dX0_init_45 : decode cX0_init 45 = .ok (.putfield 82, 3) := dk_181 0 82 (dk_at dksX0_init_2 0 rfl rfl)
theorem dX0_init_48 : decode cX0_init 48 = .ok (.aload_n 0, 1) := dk_42 (dk_at dksX0_init_2 3 rfl rfl)
theorem dX0_init_49 : decode cX0_init 49 = .ok (.new 75, 3) := dk_187 0 75 (dk_at dksX0_init_2 4 rfl rfl)
theorem dX0_init_52 : decode cX0_init 52 = .ok (.dup, 1) := dk_89 (dk_at dksX0_init_2 7 rfl rfl)
theorem dX0_init_53 : decode cX0_init 53 = .ok (.invokespecial 77, 3) := dk_183 0 77 (dk_at dksX0_init_2 8 rfl rfl)
theorem dX0_init_56 : decode cX0_init 56 = .ok (.putfield 85, 3) := dk_181 0 85 (dk_at dksX0_init_2 11 rfl rfl)
theorem dX0_init_59 : decode cX0_init 59 = .ok (.aload_n 0, 1) := dk_42 (dk_at dksX0_init_2 14 rfl rfl)
theorem dX0_init_60 : decode cX0_init 60 = .ok (.bipush 56, 2) := dk_16 56 (dk_at dksX0_init_2 15 rfl rfl)
theorem dX0_init_62 : decode cX0_init 62 = .ok (.anewarray 88, 3) := dk_189 0 88 (dk_at dksX0_init_2 17 rfl rfl)
theorem dX0_init_65 : decode cX0_init 65 = .ok (.putfield 90, 3) := dk_181 0 90 (dk_at dksX0_init_2 20 rfl rfl)
theorem dX0_init_68 : decode cX0_init 68 = .ok (.aload_n 0, 1) := dk_42 (dk_at dksX0_init_2 23 rfl rfl)
theorem dX0_init_69 : decode cX0_init 69 = .ok (.bipush 10, 2) := dk_16 10 (dk_at dksX0_init_3 0 rfl rfl)
theorem dX0_init_71 : decode cX0_init 71 = .ok (.anewarray 88, 3) := dk_189 0 88 (dk_at dksX0_init_3 2 rfl rfl)
theorem dX0_init_74 : decode cX0_init 74 = .ok (.putfield 94, 3) := dk_181 0 94 (dk_at dksX0_init_3 5 rfl rfl)
theorem dX0_init_77 : decode cX0_init 77 = .ok (.aload_n 0, 1) := dk_42 (dk_at dksX0_init_3 8 rfl rfl)
theorem dX0_init_78 : decode cX0_init 78 = .ok (.iconst 4, 1) := dk_7 (dk_at dksX0_init_3 9 rfl rfl)
theorem dX0_init_79 : decode cX0_init 79 = .ok (.anewarray 88, 3) := dk_189 0 88 (dk_at dksX0_init_3 10 rfl rfl)
theorem dX0_init_82 : decode cX0_init 82 = .ok (.putfield 97, 3) := dk_181 0 97 (dk_at dksX0_init_3 13 rfl rfl)
theorem dX0_init_85 : decode cX0_init 85 = .ok (.aload_n 0, 1) := dk_42 (dk_at dksX0_init_3 16 rfl rfl)
theorem dX0_init_86 : decode cX0_init 86 = .ok (.bipush 7, 2) := dk_16 7 (dk_at dksX0_init_3 17 rfl rfl)
theorem dX0_init_88 : decode cX0_init 88 = .ok (.newarray .int, 2) := dk_188_10 (dk_at dksX0_init_3 19 rfl rfl)
theorem dX0_init_90 : decode cX0_init 90 = .ok (.putfield 100, 3) := dk_181 0 100 (dk_at dksX0_init_3 21 rfl rfl)
theorem dX0_init_93 : decode cX0_init 93 = .ok (.aload_n 0, 1) := dk_42 (dk_at dksX0_init_4 0 rfl rfl)
theorem dX0_init_94 : decode cX0_init 94 = .ok (.bipush 8, 2) := dk_16 8 (dk_at dksX0_init_4 1 rfl rfl)
theorem dX0_init_96 : decode cX0_init 96 = .ok (.newarray .int, 2) := dk_188_10 (dk_at dksX0_init_4 3 rfl rfl)
theorem dX0_init_98 : decode cX0_init 98 = .ok (.putfield 104, 3) := dk_181 0 104 (dk_at dksX0_init_4 5 rfl rfl)
theorem dX0_init_101 : decode cX0_init 101 = .ok (.aload_n 0, 1) := dk_42 (dk_at dksX0_init_4 8 rfl rfl)
theorem dX0_init_102 : decode cX0_init 102 = .ok (.bipush 64, 2) := dk_16 64 (dk_at dksX0_init_4 9 rfl rfl)
theorem dX0_init_104 : decode cX0_init 104 = .ok (.newarray .boolean, 2) := dk_188_4 (dk_at dksX0_init_4 11 rfl rfl)
theorem dX0_init_106 : decode cX0_init 106 = .ok (.putfield 107, 3) := dk_181 0 107 (dk_at dksX0_init_4 13 rfl rfl)
theorem dX0_init_109 : decode cX0_init 109 = .ok (.aload_n 0, 1) := dk_42 (dk_at dksX0_init_4 16 rfl rfl)
theorem dX0_init_110 : decode cX0_init 110 = .ok (.bipush 100, 2) := dk_16 100 (dk_at dksX0_init_4 17 rfl rfl)
theorem dX0_init_112 : decode cX0_init 112 = .ok (.newarray .int, 2) := dk_188_10 (dk_at dksX0_init_4 19 rfl rfl)
theorem dX0_init_114 : decode cX0_init 114 = .ok (.putfield 111, 3) := dk_181 0 111 (dk_at dksX0_init_4 21 rfl rfl)
theorem dX0_init_117 : decode cX0_init 117 = .ok (.iconst 0, 1) := dk_3 (dk_at dksX0_init_5 0 rfl rfl)
theorem dX0_init_118 : decode cX0_init 118 = .ok (.istore_n 1, 1) := dk_60 (dk_at dksX0_init_5 1 rfl rfl)
theorem dX0_init_119 : decode cX0_init 119 = .ok (.iload_n 1, 1) := dk_27 (dk_at dksX0_init_5 2 rfl rfl)
theorem dX0_init_120 : decode cX0_init 120 = .ok (.bipush 56, 2) := dk_16 56 (dk_at dksX0_init_5 3 rfl rfl)
theorem dX0_init_122 : decode cX0_init 122 = .ok (.if_icmp .ge 43, 3) := dk_162 0 43 (dk_at dksX0_init_5 5 rfl rfl)
theorem dX0_init_125 : decode cX0_init 125 = .ok (.aload_n 0, 1) := dk_42 (dk_at dksX0_init_5 8 rfl rfl)
theorem dX0_init_126 : decode cX0_init 126 = .ok (.getfield 90, 3) := dk_180 0 90 (dk_at dksX0_init_5 9 rfl rfl)
theorem dX0_init_129 : decode cX0_init 129 = .ok (.iload_n 1, 1) := dk_27 (dk_at dksX0_init_5 12 rfl rfl)
theorem dX0_init_130 : decode cX0_init 130 = .ok (.new 88, 3) := dk_187 0 88 (dk_at dksX0_init_5 13 rfl rfl)
theorem dX0_init_133 : decode cX0_init 133 = .ok (.dup, 1) := dk_89 (dk_at dksX0_init_5 16 rfl rfl)
theorem dX0_init_134 : decode cX0_init 134 = .ok (.invokespecial 114, 3) := dk_183 0 114 (dk_at dksX0_init_5 17 rfl rfl)
theorem dX0_init_137 : decode cX0_init 137 = .ok (.aastore, 1) := dk_83 (dk_at dksX0_init_5 20 rfl rfl)
theorem dX0_init_138 : decode cX0_init 138 = .ok (.aload_n 0, 1) := dk_42 (dk_at dksX0_init_5 21 rfl rfl)
theorem dX0_init_139 : decode cX0_init 139 = .ok (.getfield 90, 3) := dk_180 0 90 (dk_at dksX0_init_6 0 rfl rfl)
theorem dX0_init_142 : decode cX0_init 142 = .ok (.iload_n 1, 1) := dk_27 (dk_at dksX0_init_6 3 rfl rfl)
theorem dX0_init_143 : decode cX0_init 143 = .ok (.aaload, 1) := dk_50 (dk_at dksX0_init_6 4 rfl rfl)
theorem dX0_init_144 : decode cX0_init 144 = .ok (.aload_n 0, 1) := dk_42 (dk_at dksX0_init_6 5 rfl rfl)
theorem dX0_init_145 : decode cX0_init 145 = .ok (.iload_n 1, 1) := dk_27 (dk_at dksX0_init_6 6 rfl rfl)
theorem dX0_init_146 : decode cX0_init 146 = .ok (.bipush 8, 2) := dk_16 8 (dk_at dksX0_init_6 7 rfl rfl)
theorem dX0_init_148 : decode cX0_init 148 = .ok (.idiv, 1) := dk_108 (dk_at dksX0_init_6 9 rfl rfl)
theorem dX0_init_149 : decode cX0_init 149 = .ok (.iload_n 1, 1) := dk_27 (dk_at dksX0_init_6 10 rfl rfl)
theorem dX0_init_150 : decode cX0_init 150 = .ok (.bipush 8, 2) := dk_16 8 (dk_at dksX0_init_6 11 rfl rfl)
theorem dX0_init_152 : decode cX0_init 152 = .ok (.irem, 1) := dk_112 (dk_at dksX0_init_6 13 rfl rfl)
theorem dX0_init_153 : decode cX0_init 153 = .ok (.invokevirtual 115, 3) := dk_182 0 115 (dk_at dksX0_init_6 14 rfl rfl)
theorem dX0_init_156 : decode cX0_init 156 = .ok (.putfield 119, 3) := dk_181 0 119 (dk_at dksX0_init_6 17 rfl rfl)
theorem dX0_init_159 : decode cX0_init 159 = .ok (.iinc 1 1, 3) := dk_132 1 1 (dk_at dksX0_init_6 20 rfl rfl)
theorem dX0_init_162 : decode cX0_init 162 = .ok (.goto (-43), 3) := dk_167 255 213 (dk_at dksX0_init_7 0 rfl rfl)
theorem dX0_init_165 : decode cX0_init 165 = .ok (.iconst 0, 1) := dk_3 (dk_at dksX0_init_7 3 rfl rfl)
theorem dX0_init_166 : decode cX0_init 166 = .ok (.istore_n 1, 1) := dk_60 (dk_at dksX0_init_7 4 rfl rfl)
theorem dX0_init_167 : decode cX0_init 167 = .ok (.iload_n 1, 1) := dk_27 (dk_at dksX0_init_7 5 rfl rfl)
theorem dX0_init_168 : decode cX0_init 168 = .ok (.bipush 10, 2) := dk_16 10 (dk_at dksX0_init_7 6 rfl rfl)
theorem dX0_init_170 : decode cX0_init 170 = .ok (.if_icmp .ge 22, 3) := dk_162 0 22 (dk_at dksX0_init_7 8 rfl rfl)
theorem dX0_init_173 : decode cX0_init 173 = .ok (.aload_n 0, 1) := dk_42 (dk_at dksX0_init_7 11 rfl rfl)
theorem dX0_init_174 : decode cX0_init 174 = .ok (.getfield 94, 3) := dk_180 0 94 (dk_at dksX0_init_7 12 rfl rfl)
theorem dX0_init_177 : decode cX0_init 177 = .ok (.iload_n 1, 1) := dk_27 (dk_at dksX0_init_7 15 rfl rfl)
theorem dX0_init_178 : decode cX0_init 178 = .ok (.new 88, 3) := dk_187 0 88 (dk_at dksX0_init_7 16 rfl rfl)
theorem dX0_init_181 : decode cX0_init 181 = .ok (.dup, 1) := dk_89 (dk_at dksX0_init_7 19 rfl rfl)
theorem dX0_init_182 : decode cX0_init 182 = .ok (.invokespecial 114, 3) := dk_183 0 114 (dk_at dksX0_init_7 20 rfl rfl)
theorem dX0_init_185 : decode cX0_init 185 = .ok (.aastore, 1) := dk_83 (dk_at dksX0_init_7 23 rfl rfl)
theorem dX0_init_186 : decode cX0_init 186 = .ok (.iinc 1 1, 3) := dk_132 1 1 (dk_at dksX0_init_8 0 rfl rfl)
theorem dX0_init_189 : decode cX0_init 189 = .ok (.goto (-22), 3) := dk_167 255 234 (dk_at dksX0_init_8 3 rfl rfl)
theorem dX0_init_192 : decode cX0_init 192 = .ok (.iconst 0, 1) := dk_3 (dk_at dksX0_init_8 6 rfl rfl)
theorem dX0_init_193 : decode cX0_init 193 = .ok (.istore_n 1, 1) := dk_60 (dk_at dksX0_init_8 7 rfl rfl)
theorem dX0_init_194 : decode cX0_init 194 = .ok (.iload_n 1, 1) := dk_27 (dk_at dksX0_init_8 8 rfl rfl)
theorem dX0_init_195 : decode cX0_init 195 = .ok (.iconst 4, 1) := dk_7 (dk_at dksX0_init_8 9 rfl rfl)
theorem dX0_init_196 : decode cX0_init 196 = .ok (.if_icmp .ge 22, 3) := dk_162 0 22 (dk_at dksX0_init_8 10 rfl rfl)
theorem dX0_init_199 : decode cX0_init 199 = .ok (.aload_n 0, 1) := dk_42 (dk_at dksX0_init_8 13 rfl rfl)
theorem dX0_init_200 : decode cX0_init 200 = .ok (.getfield 97, 3) := dk_180 0 97 (dk_at dksX0_init_8 14 rfl rfl)
theorem dX0_init_203 : decode cX0_init 203 = .ok (.iload_n 1, 1) := dk_27 (dk_at dksX0_init_8 17 rfl rfl)
theorem dX0_init_204 : decode cX0_init 204 = .ok (.new 88, 3) := dk_187 0 88 (dk_at dksX0_init_8 18 rfl rfl)
theorem dX0_init_207 : decode cX0_init 207 = .ok (.dup, 1) := dk_89 (dk_at dksX0_init_8 21 rfl rfl)
theorem dX0_init_208 : decode cX0_init 208 = .ok (.invokespecial 114, 3) := dk_183 0 114 (dk_at dksX0_init_9 0 rfl rfl)
theorem dX0_init_211 : decode cX0_init 211 = .ok (.aastore, 1) := dk_83 (dk_at dksX0_init_9 3 rfl rfl)
theorem dX0_init_212 : decode cX0_init 212 = .ok (.iinc 1 1, 3) := dk_132 1 1 (dk_at dksX0_init_9 4 rfl rfl)
theorem dX0_init_215 : decode cX0_init 215 = .ok (.goto (-21), 3) := dk_167 255 235 (dk_at dksX0_init_9 7 rfl rfl)
theorem dX0_init_218 : decode cX0_init 218 = .ok (.return_, 1) := dk_177 (dk_at dksX0_init_9 10 rfl rfl)
abbrev cX0_made : ByteArray := prog_1_method_14_code
def yX0_made : MethodName := ⟨RX0, "made", "(II)LWildBells$Bell;"⟩
def dkwX0_made_4 : List UInt8 := [183, 0, 49, 176, 187, 0, 50, 89, 42, 28, 183, 0, 52, 176, 187, 0, 53, 89, 42, 28, 183, 0, 55, 176]
abbrev dktX0_made_4 : List UInt8 := dkwX0_made_4 ++ []
def dkwX0_made_3 : List UInt8 := [42, 28, 183, 0, 43, 176, 187, 0, 44, 89, 42, 28, 183, 0, 46, 176, 187, 0, 47, 89, 42, 28]
abbrev dktX0_made_3 : List UInt8 := dkwX0_made_3 ++ dktX0_made_4
def dkwX0_made_2 : List UInt8 := [187, 0, 32, 89, 42, 28, 183, 0, 34, 176, 187, 0, 38, 89, 42, 28, 183, 0, 40, 176, 187, 0, 41, 89]
abbrev dktX0_made_2 : List UInt8 := dkwX0_made_2 ++ dktX0_made_3
def dkwX0_made_1 : List UInt8 := [170, 0, 0, 0, 0, 0, 99, 0, 0, 0, 1, 0, 0, 0, 6, 0, 0, 0, 39, 0, 0, 0, 49, 0, 0, 0, 59, 0, 0, 0, 69, 0, 0, 0, 79, 0, 0, 0, 89]
abbrev dktX0_made_1 : List UInt8 := dkwX0_made_1 ++ dktX0_made_2
def dkwX0_made_0 : List UInt8 := [27]
abbrev dktX0_made_0 : List UInt8 := dkwX0_made_0 ++ dktX0_made_1
theorem dksX0_made_0 : cX0_made.data.toList.drop 0 = dktX0_made_0 := by decide +kernel
theorem dksX0_made_1 : cX0_made.data.toList.drop 1 = dktX0_made_1 := dk_seg dksX0_made_0 1 rfl rfl
theorem dksX0_made_2 : cX0_made.data.toList.drop 40 = dktX0_made_2 := dk_seg dksX0_made_1 39 rfl rfl
theorem dksX0_made_3 : cX0_made.data.toList.drop 64 = dktX0_made_3 := dk_seg dksX0_made_2 24 rfl rfl
theorem dksX0_made_4 : cX0_made.data.toList.drop 86 = dktX0_made_4 := dk_seg dksX0_made_3 22 rfl rfl
theorem dX0_made_0 : decode cX0_made 0 = .ok (.iload_n 1, 1) := dk_27 (dk_at dksX0_made_0 0 rfl rfl)
theorem dX0_made_1 : decode cX0_made 1 = .ok (.tableswitch 99 1 6 #[39, 49, 59, 69, 79, 89], 39) := by decide +kernel
theorem dX0_made_40 : decode cX0_made 40 = .ok (.new 32, 3) := dk_187 0 32 (dk_at dksX0_made_2 0 rfl rfl)
theorem dX0_made_43 : decode cX0_made 43 = .ok (.dup, 1) := dk_89 (dk_at dksX0_made_2 3 rfl rfl)
theorem dX0_made_44 : decode cX0_made 44 = .ok (.aload_n 0, 1) := dk_42 (dk_at dksX0_made_2 4 rfl rfl)
theorem dX0_made_45 : decode cX0_made 45 = .ok (.iload_n 2, 1) := dk_28 (dk_at dksX0_made_2 5 rfl rfl)
theorem dX0_made_46 : decode cX0_made 46 = .ok (.invokespecial 34, 3) := dk_183 0 34 (dk_at dksX0_made_2 6 rfl rfl)
theorem dX0_made_49 : decode cX0_made 49 = .ok (.areturn, 1) := dk_176 (dk_at dksX0_made_2 9 rfl rfl)
theorem dX0_made_50 : decode cX0_made 50 = .ok (.new 38, 3) := dk_187 0 38 (dk_at dksX0_made_2 10 rfl rfl)
theorem dX0_made_53 : decode cX0_made 53 = .ok (.dup, 1) := dk_89 (dk_at dksX0_made_2 13 rfl rfl)
theorem dX0_made_54 : decode cX0_made 54 = .ok (.aload_n 0, 1) := dk_42 (dk_at dksX0_made_2 14 rfl rfl)
theorem dX0_made_55 : decode cX0_made 55 = .ok (.iload_n 2, 1) := dk_28 (dk_at dksX0_made_2 15 rfl rfl)
theorem dX0_made_56 : decode cX0_made 56 = .ok (.invokespecial 40, 3) := dk_183 0 40 (dk_at dksX0_made_2 16 rfl rfl)
theorem dX0_made_59 : decode cX0_made 59 = .ok (.areturn, 1) := dk_176 (dk_at dksX0_made_2 19 rfl rfl)
theorem dX0_made_60 : decode cX0_made 60 = .ok (.new 41, 3) := dk_187 0 41 (dk_at dksX0_made_2 20 rfl rfl)
theorem dX0_made_63 : decode cX0_made 63 = .ok (.dup, 1) := dk_89 (dk_at dksX0_made_2 23 rfl rfl)
theorem dX0_made_64 : decode cX0_made 64 = .ok (.aload_n 0, 1) := dk_42 (dk_at dksX0_made_3 0 rfl rfl)
theorem dX0_made_65 : decode cX0_made 65 = .ok (.iload_n 2, 1) := dk_28 (dk_at dksX0_made_3 1 rfl rfl)
theorem dX0_made_66 : decode cX0_made 66 = .ok (.invokespecial 43, 3) := dk_183 0 43 (dk_at dksX0_made_3 2 rfl rfl)
theorem dX0_made_69 : decode cX0_made 69 = .ok (.areturn, 1) := dk_176 (dk_at dksX0_made_3 5 rfl rfl)
theorem dX0_made_70 : decode cX0_made 70 = .ok (.new 44, 3) := dk_187 0 44 (dk_at dksX0_made_3 6 rfl rfl)
theorem dX0_made_73 : decode cX0_made 73 = .ok (.dup, 1) := dk_89 (dk_at dksX0_made_3 9 rfl rfl)
theorem dX0_made_74 : decode cX0_made 74 = .ok (.aload_n 0, 1) := dk_42 (dk_at dksX0_made_3 10 rfl rfl)
theorem dX0_made_75 : decode cX0_made 75 = .ok (.iload_n 2, 1) := dk_28 (dk_at dksX0_made_3 11 rfl rfl)
theorem dX0_made_76 : decode cX0_made 76 = .ok (.invokespecial 46, 3) := dk_183 0 46 (dk_at dksX0_made_3 12 rfl rfl)
theorem dX0_made_79 : decode cX0_made 79 = .ok (.areturn, 1) := dk_176 (dk_at dksX0_made_3 15 rfl rfl)
theorem dX0_made_80 : decode cX0_made 80 = .ok (.new 47, 3) := dk_187 0 47 (dk_at dksX0_made_3 16 rfl rfl)
theorem dX0_made_83 : decode cX0_made 83 = .ok (.dup, 1) := dk_89 (dk_at dksX0_made_3 19 rfl rfl)
theorem dX0_made_84 : decode cX0_made 84 = .ok (.aload_n 0, 1) := dk_42 (dk_at dksX0_made_3 20 rfl rfl)
theorem dX0_made_85 : decode cX0_made 85 = .ok (.iload_n 2, 1) := dk_28 (dk_at dksX0_made_3 21 rfl rfl)
theorem dX0_made_86 : decode cX0_made 86 = .ok (.invokespecial 49, 3) := dk_183 0 49 (dk_at dksX0_made_4 0 rfl rfl)
theorem dX0_made_89 : decode cX0_made 89 = .ok (.areturn, 1) := dk_176 (dk_at dksX0_made_4 3 rfl rfl)
theorem dX0_made_90 : decode cX0_made 90 = .ok (.new 50, 3) := dk_187 0 50 (dk_at dksX0_made_4 4 rfl rfl)
theorem dX0_made_93 : decode cX0_made 93 = .ok (.dup, 1) := dk_89 (dk_at dksX0_made_4 7 rfl rfl)
theorem dX0_made_94 : decode cX0_made 94 = .ok (.aload_n 0, 1) := dk_42 (dk_at dksX0_made_4 8 rfl rfl)
theorem dX0_made_95 : decode cX0_made 95 = .ok (.iload_n 2, 1) := dk_28 (dk_at dksX0_made_4 9 rfl rfl)
theorem dX0_made_96 : decode cX0_made 96 = .ok (.invokespecial 52, 3) := dk_183 0 52 (dk_at dksX0_made_4 10 rfl rfl)
theorem dX0_made_99 : decode cX0_made 99 = .ok (.areturn, 1) := dk_176 (dk_at dksX0_made_4 13 rfl rfl)
theorem dX0_made_100 : decode cX0_made 100 = .ok (.new 53, 3) := dk_187 0 53 (dk_at dksX0_made_4 14 rfl rfl)
theorem dX0_made_103 : decode cX0_made 103 = .ok (.dup, 1) := dk_89 (dk_at dksX0_made_4 17 rfl rfl)
theorem dX0_made_104 : decode cX0_made 104 = .ok (.aload_n 0, 1) := dk_42 (dk_at dksX0_made_4 18 rfl rfl)
theorem dX0_made_105 : decode cX0_made 105 = .ok (.iload_n 2, 1) := dk_28 (dk_at dksX0_made_4 19 rfl rfl)
theorem dX0_made_106 : decode cX0_made 106 = .ok (.invokespecial 55, 3) := dk_183 0 55 (dk_at dksX0_made_4 20 rfl rfl)
theorem dX0_made_109 : decode cX0_made 109 = .ok (.areturn, 1) := dk_176 (dk_at dksX0_made_4 23 rfl rfl)
abbrev cX0_net : ByteArray := prog_1_method_27_code
def yX0_net : MethodName := ⟨RX0, "net", "(II)I"⟩
def dkwX0_net_2 : List UInt8 := [180, 0, 167, 3, 50, 27, 28, 79, 29, 172]
abbrev dktX0_net_2 : List UInt8 := dkwX0_net_2 ++ []
def dkwX0_net_1 : List UInt8 := [180, 0, 78, 180, 0, 167, 3, 50, 27, 46, 28, 160, 0, 7, 3, 167, 0, 4, 4, 62, 42, 180, 0, 78]
abbrev dktX0_net_1 : List UInt8 := dkwX0_net_1 ++ dktX0_net_2
def dkwX0_net_0 : List UInt8 := [27, 184, 0, 17, 153, 0, 12, 28, 3, 4, 184, 0, 9, 154, 0, 9, 42, 3, 182, 0, 138, 172, 42]
abbrev dktX0_net_0 : List UInt8 := dkwX0_net_0 ++ dktX0_net_1
theorem dksX0_net_0 : cX0_net.data.toList.drop 0 = dktX0_net_0 := by decide +kernel
theorem dksX0_net_1 : cX0_net.data.toList.drop 23 = dktX0_net_1 := dk_seg dksX0_net_0 23 rfl rfl
theorem dksX0_net_2 : cX0_net.data.toList.drop 47 = dktX0_net_2 := dk_seg dksX0_net_1 24 rfl rfl
theorem dX0_net_0 : decode cX0_net 0 = .ok (.iload_n 1, 1) := dk_27 (dk_at dksX0_net_0 0 rfl rfl)
theorem dX0_net_1 : decode cX0_net 1 = .ok (.invokestatic 17, 3) := dk_184 0 17 (dk_at dksX0_net_0 1 rfl rfl)
theorem dX0_net_4 : decode cX0_net 4 = .ok (.ifCond .eq 12, 3) := dk_153 0 12 (dk_at dksX0_net_0 4 rfl rfl)
theorem dX0_net_7 : decode cX0_net 7 = .ok (.iload_n 2, 1) := dk_28 (dk_at dksX0_net_0 7 rfl rfl)
theorem dX0_net_8 : decode cX0_net 8 = .ok (.iconst 0, 1) := dk_3 (dk_at dksX0_net_0 8 rfl rfl)
theorem dX0_net_9 : decode cX0_net 9 = .ok (.iconst 1, 1) := dk_4 (dk_at dksX0_net_0 9 rfl rfl)
theorem dX0_net_10 : decode cX0_net 10 = .ok (.invokestatic 9, 3) := dk_184 0 9 (dk_at dksX0_net_0 10 rfl rfl)
theorem dX0_net_13 : decode cX0_net 13 = .ok (.ifCond .ne 9, 3) := dk_154 0 9 (dk_at dksX0_net_0 13 rfl rfl)
theorem dX0_net_16 : decode cX0_net 16 = .ok (.aload_n 0, 1) := dk_42 (dk_at dksX0_net_0 16 rfl rfl)
theorem dX0_net_17 : decode cX0_net 17 = .ok (.iconst 0, 1) := dk_3 (dk_at dksX0_net_0 17 rfl rfl)
theorem dX0_net_18 : decode cX0_net 18 = .ok (.invokevirtual 138, 3) := dk_182 0 138 (dk_at dksX0_net_0 18 rfl rfl)
theorem dX0_net_21 : decode cX0_net 21 = .ok (.ireturn, 1) := dk_172 (dk_at dksX0_net_0 21 rfl rfl)
theorem dX0_net_22 : decode cX0_net 22 = .ok (.aload_n 0, 1) := dk_42 (dk_at dksX0_net_0 22 rfl rfl)
theorem dX0_net_23 : decode cX0_net 23 = .ok (.getfield 78, 3) := dk_180 0 78 (dk_at dksX0_net_1 0 rfl rfl)
theorem dX0_net_26 : decode cX0_net 26 = .ok (.getfield 167, 3) := dk_180 0 167 (dk_at dksX0_net_1 3 rfl rfl)
theorem dX0_net_29 : decode cX0_net 29 = .ok (.iconst 0, 1) := dk_3 (dk_at dksX0_net_1 6 rfl rfl)
theorem dX0_net_30 : decode cX0_net 30 = .ok (.aaload, 1) := dk_50 (dk_at dksX0_net_1 7 rfl rfl)
theorem dX0_net_31 : decode cX0_net 31 = .ok (.iload_n 1, 1) := dk_27 (dk_at dksX0_net_1 8 rfl rfl)
theorem dX0_net_32 : decode cX0_net 32 = .ok (.iaload, 1) := dk_46 (dk_at dksX0_net_1 9 rfl rfl)
theorem dX0_net_33 : decode cX0_net 33 = .ok (.iload_n 2, 1) := dk_28 (dk_at dksX0_net_1 10 rfl rfl)
theorem dX0_net_34 : decode cX0_net 34 = .ok (.if_icmp .ne 7, 3) := dk_160 0 7 (dk_at dksX0_net_1 11 rfl rfl)
theorem dX0_net_37 : decode cX0_net 37 = .ok (.iconst 0, 1) := dk_3 (dk_at dksX0_net_1 14 rfl rfl)
theorem dX0_net_38 : decode cX0_net 38 = .ok (.goto 4, 3) := dk_167 0 4 (dk_at dksX0_net_1 15 rfl rfl)
theorem dX0_net_41 : decode cX0_net 41 = .ok (.iconst 1, 1) := dk_4 (dk_at dksX0_net_1 18 rfl rfl)
theorem dX0_net_42 : decode cX0_net 42 = .ok (.istore_n 3, 1) := dk_62 (dk_at dksX0_net_1 19 rfl rfl)
theorem dX0_net_43 : decode cX0_net 43 = .ok (.aload_n 0, 1) := dk_42 (dk_at dksX0_net_1 20 rfl rfl)
theorem dX0_net_44 : decode cX0_net 44 = .ok (.getfield 78, 3) := dk_180 0 78 (dk_at dksX0_net_1 21 rfl rfl)
theorem dX0_net_47 : decode cX0_net 47 = .ok (.getfield 167, 3) := dk_180 0 167 (dk_at dksX0_net_2 0 rfl rfl)
theorem dX0_net_50 : decode cX0_net 50 = .ok (.iconst 0, 1) := dk_3 (dk_at dksX0_net_2 3 rfl rfl)
theorem dX0_net_51 : decode cX0_net 51 = .ok (.aaload, 1) := dk_50 (dk_at dksX0_net_2 4 rfl rfl)
theorem dX0_net_52 : decode cX0_net 52 = .ok (.iload_n 1, 1) := dk_27 (dk_at dksX0_net_2 5 rfl rfl)
theorem dX0_net_53 : decode cX0_net 53 = .ok (.iload_n 2, 1) := dk_28 (dk_at dksX0_net_2 6 rfl rfl)
theorem dX0_net_54 : decode cX0_net 54 = .ok (.iastore, 1) := dk_79 (dk_at dksX0_net_2 7 rfl rfl)
theorem dX0_net_55 : decode cX0_net 55 = .ok (.iload_n 3, 1) := dk_29 (dk_at dksX0_net_2 8 rfl rfl)
theorem dX0_net_56 : decode cX0_net 56 = .ok (.ireturn, 1) := dk_172 (dk_at dksX0_net_2 9 rfl rfl)
abbrev cX0_isCell : ByteArray := prog_1_method_7_code
def yX0_isCell : MethodName := ⟨RX0, "isCell", "(I)Z"⟩
def dkwX0_isCell_0 : List UInt8 := [26, 3, 16, 63, 184, 0, 9, 172]
abbrev dktX0_isCell_0 : List UInt8 := dkwX0_isCell_0 ++ []
theorem dksX0_isCell_0 : cX0_isCell.data.toList.drop 0 = dktX0_isCell_0 := by decide +kernel
theorem dX0_isCell_0 : decode cX0_isCell 0 = .ok (.iload_n 0, 1) := dk_26 (dk_at dksX0_isCell_0 0 rfl rfl)
theorem dX0_isCell_1 : decode cX0_isCell 1 = .ok (.iconst 0, 1) := dk_3 (dk_at dksX0_isCell_0 1 rfl rfl)
theorem dX0_isCell_2 : decode cX0_isCell 2 = .ok (.bipush 63, 2) := dk_16 63 (dk_at dksX0_isCell_0 2 rfl rfl)
theorem dX0_isCell_4 : decode cX0_isCell 4 = .ok (.invokestatic 9, 3) := dk_184 0 9 (dk_at dksX0_isCell_0 4 rfl rfl)
theorem dX0_isCell_7 : decode cX0_isCell 7 = .ok (.ireturn, 1) := dk_172 (dk_at dksX0_isCell_0 7 rfl rfl)
abbrev cX0_in : ByteArray := prog_1_method_1_code
def yX0_in : MethodName := ⟨RX0, "in", "(III)Z"⟩
def dkwX0_in_0 : List UInt8 := [26, 27, 161, 0, 12, 26, 28, 163, 0, 7, 4, 167, 0, 4, 3, 172]
abbrev dktX0_in_0 : List UInt8 := dkwX0_in_0 ++ []
theorem dksX0_in_0 : cX0_in.data.toList.drop 0 = dktX0_in_0 := by decide +kernel
theorem dX0_in_0 : decode cX0_in 0 = .ok (.iload_n 0, 1) := dk_26 (dk_at dksX0_in_0 0 rfl rfl)
theorem dX0_in_1 : decode cX0_in 1 = .ok (.iload_n 1, 1) := dk_27 (dk_at dksX0_in_0 1 rfl rfl)
theorem dX0_in_2 : decode cX0_in 2 = .ok (.if_icmp .lt 12, 3) := dk_161 0 12 (dk_at dksX0_in_0 2 rfl rfl)
theorem dX0_in_5 : decode cX0_in 5 = .ok (.iload_n 0, 1) := dk_26 (dk_at dksX0_in_0 5 rfl rfl)
theorem dX0_in_6 : decode cX0_in 6 = .ok (.iload_n 2, 1) := dk_28 (dk_at dksX0_in_0 6 rfl rfl)
theorem dX0_in_7 : decode cX0_in 7 = .ok (.if_icmp .gt 7, 3) := dk_163 0 7 (dk_at dksX0_in_0 7 rfl rfl)
theorem dX0_in_10 : decode cX0_in 10 = .ok (.iconst 1, 1) := dk_4 (dk_at dksX0_in_0 10 rfl rfl)
theorem dX0_in_11 : decode cX0_in 11 = .ok (.goto 4, 3) := dk_167 0 4 (dk_at dksX0_in_0 11 rfl rfl)
theorem dX0_in_14 : decode cX0_in 14 = .ok (.iconst 0, 1) := dk_3 (dk_at dksX0_in_0 14 rfl rfl)
theorem dX0_in_15 : decode cX0_in 15 = .ok (.ireturn, 1) := dk_172 (dk_at dksX0_in_0 15 rfl rfl)
abbrev cX0_finding : ByteArray := prog_1_method_17_code
def yX0_finding : MethodName := ⟨RX0, "finding", "(I)I"⟩
def dkwX0_finding_0 : List UInt8 := [42, 180, 0, 100, 27, 92, 46, 4, 96, 79, 18, 127, 27, 100, 172]
abbrev dktX0_finding_0 : List UInt8 := dkwX0_finding_0 ++ []
theorem dksX0_finding_0 : cX0_finding.data.toList.drop 0 = dktX0_finding_0 := by decide +kernel
theorem dX0_finding_0 : decode cX0_finding 0 = .ok (.aload_n 0, 1) := dk_42 (dk_at dksX0_finding_0 0 rfl rfl)
theorem dX0_finding_1 : decode cX0_finding 1 = .ok (.getfield 100, 3) := dk_180 0 100 (dk_at dksX0_finding_0 1 rfl rfl)
theorem dX0_finding_4 : decode cX0_finding 4 = .ok (.iload_n 1, 1) := dk_27 (dk_at dksX0_finding_0 4 rfl rfl)
theorem dX0_finding_5 : decode cX0_finding 5 = .ok (.dup2, 1) := dk_92 (dk_at dksX0_finding_0 5 rfl rfl)
theorem dX0_finding_6 : decode cX0_finding 6 = .ok (.iaload, 1) := dk_46 (dk_at dksX0_finding_0 6 rfl rfl)
theorem dX0_finding_7 : decode cX0_finding 7 = .ok (.iconst 1, 1) := dk_4 (dk_at dksX0_finding_0 7 rfl rfl)
theorem dX0_finding_8 : decode cX0_finding 8 = .ok (.iadd, 1) := dk_96 (dk_at dksX0_finding_0 8 rfl rfl)
theorem dX0_finding_9 : decode cX0_finding 9 = .ok (.iastore, 1) := dk_79 (dk_at dksX0_finding_0 9 rfl rfl)
theorem dX0_finding_10 : decode cX0_finding 10 = .ok (.ldc 127, 2) := dk_18 127 (dk_at dksX0_finding_0 10 rfl rfl)
theorem dX0_finding_12 : decode cX0_finding 12 = .ok (.iload_n 1, 1) := dk_27 (dk_at dksX0_finding_0 12 rfl rfl)
theorem dX0_finding_13 : decode cX0_finding 13 = .ok (.isub, 1) := dk_100 (dk_at dksX0_finding_0 13 rfl rfl)
theorem dX0_finding_14 : decode cX0_finding 14 = .ok (.ireturn, 1) := dk_172 (dk_at dksX0_finding_0 14 rfl rfl)
abbrev cX0_thick : ByteArray := prog_1_method_28_code
def yX0_thick : MethodName := ⟨RX0, "thick", "(II)I"⟩
def dkwX0_thick_2 : List UInt8 := [172]
abbrev dktX0_thick_2 : List UInt8 := dkwX0_thick_2 ++ []
def dkwX0_thick_1 : List UInt8 := [180, 0, 78, 180, 0, 167, 4, 50, 27, 46, 62, 42, 180, 0, 78, 180, 0, 167, 4, 50, 27, 28, 79, 29]
abbrev dktX0_thick_1 : List UInt8 := dkwX0_thick_1 ++ dktX0_thick_2
def dkwX0_thick_0 : List UInt8 := [27, 184, 0, 17, 153, 0, 13, 28, 3, 16, 9, 184, 0, 9, 154, 0, 9, 42, 3, 182, 0, 138, 172, 42]
abbrev dktX0_thick_0 : List UInt8 := dkwX0_thick_0 ++ dktX0_thick_1
theorem dksX0_thick_0 : cX0_thick.data.toList.drop 0 = dktX0_thick_0 := by decide +kernel
theorem dksX0_thick_1 : cX0_thick.data.toList.drop 24 = dktX0_thick_1 := dk_seg dksX0_thick_0 24 rfl rfl
theorem dksX0_thick_2 : cX0_thick.data.toList.drop 48 = dktX0_thick_2 := dk_seg dksX0_thick_1 24 rfl rfl
theorem dX0_thick_0 : decode cX0_thick 0 = .ok (.iload_n 1, 1) := dk_27 (dk_at dksX0_thick_0 0 rfl rfl)
theorem dX0_thick_1 : decode cX0_thick 1 = .ok (.invokestatic 17, 3) := dk_184 0 17 (dk_at dksX0_thick_0 1 rfl rfl)
theorem dX0_thick_4 : decode cX0_thick 4 = .ok (.ifCond .eq 13, 3) := dk_153 0 13 (dk_at dksX0_thick_0 4 rfl rfl)
theorem dX0_thick_7 : decode cX0_thick 7 = .ok (.iload_n 2, 1) := dk_28 (dk_at dksX0_thick_0 7 rfl rfl)
theorem dX0_thick_8 : decode cX0_thick 8 = .ok (.iconst 0, 1) := dk_3 (dk_at dksX0_thick_0 8 rfl rfl)
theorem dX0_thick_9 : decode cX0_thick 9 = .ok (.bipush 9, 2) := dk_16 9 (dk_at dksX0_thick_0 9 rfl rfl)
theorem dX0_thick_11 : decode cX0_thick 11 = .ok (.invokestatic 9, 3) := dk_184 0 9 (dk_at dksX0_thick_0 11 rfl rfl)
theorem dX0_thick_14 : decode cX0_thick 14 = .ok (.ifCond .ne 9, 3) := dk_154 0 9 (dk_at dksX0_thick_0 14 rfl rfl)
theorem dX0_thick_17 : decode cX0_thick 17 = .ok (.aload_n 0, 1) := dk_42 (dk_at dksX0_thick_0 17 rfl rfl)
theorem dX0_thick_18 : decode cX0_thick 18 = .ok (.iconst 0, 1) := dk_3 (dk_at dksX0_thick_0 18 rfl rfl)
theorem dX0_thick_19 : decode cX0_thick 19 = .ok (.invokevirtual 138, 3) := dk_182 0 138 (dk_at dksX0_thick_0 19 rfl rfl)
theorem dX0_thick_22 : decode cX0_thick 22 = .ok (.ireturn, 1) := dk_172 (dk_at dksX0_thick_0 22 rfl rfl)
theorem dX0_thick_23 : decode cX0_thick 23 = .ok (.aload_n 0, 1) := dk_42 (dk_at dksX0_thick_0 23 rfl rfl)
theorem dX0_thick_24 : decode cX0_thick 24 = .ok (.getfield 78, 3) := dk_180 0 78 (dk_at dksX0_thick_1 0 rfl rfl)
theorem dX0_thick_27 : decode cX0_thick 27 = .ok (.getfield 167, 3) := dk_180 0 167 (dk_at dksX0_thick_1 3 rfl rfl)
theorem dX0_thick_30 : decode cX0_thick 30 = .ok (.iconst 1, 1) := dk_4 (dk_at dksX0_thick_1 6 rfl rfl)
theorem dX0_thick_31 : decode cX0_thick 31 = .ok (.aaload, 1) := dk_50 (dk_at dksX0_thick_1 7 rfl rfl)
theorem dX0_thick_32 : decode cX0_thick 32 = .ok (.iload_n 1, 1) := dk_27 (dk_at dksX0_thick_1 8 rfl rfl)
theorem dX0_thick_33 : decode cX0_thick 33 = .ok (.iaload, 1) := dk_46 (dk_at dksX0_thick_1 9 rfl rfl)
theorem dX0_thick_34 : decode cX0_thick 34 = .ok (.istore_n 3, 1) := dk_62 (dk_at dksX0_thick_1 10 rfl rfl)
theorem dX0_thick_35 : decode cX0_thick 35 = .ok (.aload_n 0, 1) := dk_42 (dk_at dksX0_thick_1 11 rfl rfl)
theorem dX0_thick_36 : decode cX0_thick 36 = .ok (.getfield 78, 3) := dk_180 0 78 (dk_at dksX0_thick_1 12 rfl rfl)
theorem dX0_thick_39 : decode cX0_thick 39 = .ok (.getfield 167, 3) := dk_180 0 167 (dk_at dksX0_thick_1 15 rfl rfl)
theorem dX0_thick_42 : decode cX0_thick 42 = .ok (.iconst 1, 1) := dk_4 (dk_at dksX0_thick_1 18 rfl rfl)
theorem dX0_thick_43 : decode cX0_thick 43 = .ok (.aaload, 1) := dk_50 (dk_at dksX0_thick_1 19 rfl rfl)
theorem dX0_thick_44 : decode cX0_thick 44 = .ok (.iload_n 1, 1) := dk_27 (dk_at dksX0_thick_1 20 rfl rfl)
theorem dX0_thick_45 : decode cX0_thick 45 = .ok (.iload_n 2, 1) := dk_28 (dk_at dksX0_thick_1 21 rfl rfl)
theorem dX0_thick_46 : decode cX0_thick 46 = .ok (.iastore, 1) := dk_79 (dk_at dksX0_thick_1 22 rfl rfl)
theorem dX0_thick_47 : decode cX0_thick 47 = .ok (.iload_n 3, 1) := dk_29 (dk_at dksX0_thick_1 23 rfl rfl)
theorem dX0_thick_48 : decode cX0_thick 48 = .ok (.ireturn, 1) := dk_172 (dk_at dksX0_thick_2 0 rfl rfl)
abbrev cX0_cell : ByteArray := prog_1_method_29_code
def yX0_cell : MethodName := ⟨RX0, "cell", "(II)I"⟩
def dkwX0_cell_3 : List UInt8 := [180, 0, 78, 27, 182, 0, 179, 172, 42, 3, 182, 0, 138, 172]
abbrev dktX0_cell_3 : List UInt8 := dkwX0_cell_3 ++ []
def dkwX0_cell_2 : List UInt8 := [42, 180, 0, 78, 180, 0, 167, 28, 50, 27, 46, 172, 42, 180, 0, 78, 27, 182, 0, 176, 172, 42]
abbrev dktX0_cell_2 : List UInt8 := dkwX0_cell_2 ++ dktX0_cell_3
def dkwX0_cell_1 : List UInt8 := [170, 0, 0, 0, 0, 60, 0, 0, 0, 0, 0, 0, 0, 3, 0, 0, 0, 30, 0, 0, 0, 30, 0, 0, 0, 42, 0, 0, 0, 51]
abbrev dktX0_cell_1 : List UInt8 := dkwX0_cell_1 ++ dktX0_cell_2
def dkwX0_cell_0 : List UInt8 := [27, 184, 0, 17, 154, 0, 9, 42, 3, 182, 0, 138, 172, 28]
abbrev dktX0_cell_0 : List UInt8 := dkwX0_cell_0 ++ dktX0_cell_1
theorem dksX0_cell_0 : cX0_cell.data.toList.drop 0 = dktX0_cell_0 := by decide +kernel
theorem dksX0_cell_1 : cX0_cell.data.toList.drop 14 = dktX0_cell_1 := dk_seg dksX0_cell_0 14 rfl rfl
theorem dksX0_cell_2 : cX0_cell.data.toList.drop 44 = dktX0_cell_2 := dk_seg dksX0_cell_1 30 rfl rfl
theorem dksX0_cell_3 : cX0_cell.data.toList.drop 66 = dktX0_cell_3 := dk_seg dksX0_cell_2 22 rfl rfl
theorem dX0_cell_0 : decode cX0_cell 0 = .ok (.iload_n 1, 1) := dk_27 (dk_at dksX0_cell_0 0 rfl rfl)
theorem dX0_cell_1 : decode cX0_cell 1 = .ok (.invokestatic 17, 3) := dk_184 0 17 (dk_at dksX0_cell_0 1 rfl rfl)
theorem dX0_cell_4 : decode cX0_cell 4 = .ok (.ifCond .ne 9, 3) := dk_154 0 9 (dk_at dksX0_cell_0 4 rfl rfl)
theorem dX0_cell_7 : decode cX0_cell 7 = .ok (.aload_n 0, 1) := dk_42 (dk_at dksX0_cell_0 7 rfl rfl)
theorem dX0_cell_8 : decode cX0_cell 8 = .ok (.iconst 0, 1) := dk_3 (dk_at dksX0_cell_0 8 rfl rfl)
theorem dX0_cell_9 : decode cX0_cell 9 = .ok (.invokevirtual 138, 3) := dk_182 0 138 (dk_at dksX0_cell_0 9 rfl rfl)
theorem dX0_cell_12 : decode cX0_cell 12 = .ok (.ireturn, 1) := dk_172 (dk_at dksX0_cell_0 12 rfl rfl)
theorem dX0_cell_13 : decode cX0_cell 13 = .ok (.iload_n 2, 1) := dk_28 (dk_at dksX0_cell_0 13 rfl rfl)
theorem dX0_cell_14 : decode cX0_cell 14 = .ok (.tableswitch 60 0 3 #[30, 30, 42, 51], 30) := by decide +kernel
theorem dX0_cell_44 : decode cX0_cell 44 = .ok (.aload_n 0, 1) := dk_42 (dk_at dksX0_cell_2 0 rfl rfl)
theorem dX0_cell_45 : decode cX0_cell 45 = .ok (.getfield 78, 3) := dk_180 0 78 (dk_at dksX0_cell_2 1 rfl rfl)
theorem dX0_cell_48 : decode cX0_cell 48 = .ok (.getfield 167, 3) := dk_180 0 167 (dk_at dksX0_cell_2 4 rfl rfl)
theorem dX0_cell_51 : decode cX0_cell 51 = .ok (.iload_n 2, 1) := dk_28 (dk_at dksX0_cell_2 7 rfl rfl)
theorem dX0_cell_52 : decode cX0_cell 52 = .ok (.aaload, 1) := dk_50 (dk_at dksX0_cell_2 8 rfl rfl)
theorem dX0_cell_53 : decode cX0_cell 53 = .ok (.iload_n 1, 1) := dk_27 (dk_at dksX0_cell_2 9 rfl rfl)
theorem dX0_cell_54 : decode cX0_cell 54 = .ok (.iaload, 1) := dk_46 (dk_at dksX0_cell_2 10 rfl rfl)
theorem dX0_cell_55 : decode cX0_cell 55 = .ok (.ireturn, 1) := dk_172 (dk_at dksX0_cell_2 11 rfl rfl)
theorem dX0_cell_56 : decode cX0_cell 56 = .ok (.aload_n 0, 1) := dk_42 (dk_at dksX0_cell_2 12 rfl rfl)
theorem dX0_cell_57 : decode cX0_cell 57 = .ok (.getfield 78, 3) := dk_180 0 78 (dk_at dksX0_cell_2 13 rfl rfl)
theorem dX0_cell_60 : decode cX0_cell 60 = .ok (.iload_n 1, 1) := dk_27 (dk_at dksX0_cell_2 16 rfl rfl)
theorem dX0_cell_61 : decode cX0_cell 61 = .ok (.invokevirtual 176, 3) := dk_182 0 176 (dk_at dksX0_cell_2 17 rfl rfl)
theorem dX0_cell_64 : decode cX0_cell 64 = .ok (.ireturn, 1) := dk_172 (dk_at dksX0_cell_2 20 rfl rfl)
theorem dX0_cell_65 : decode cX0_cell 65 = .ok (.aload_n 0, 1) := dk_42 (dk_at dksX0_cell_2 21 rfl rfl)
theorem dX0_cell_66 : decode cX0_cell 66 = .ok (.getfield 78, 3) := dk_180 0 78 (dk_at dksX0_cell_3 0 rfl rfl)
theorem dX0_cell_69 : decode cX0_cell 69 = .ok (.iload_n 1, 1) := dk_27 (dk_at dksX0_cell_3 3 rfl rfl)
theorem dX0_cell_70 : decode cX0_cell 70 = .ok (.invokevirtual 179, 3) := dk_182 0 179 (dk_at dksX0_cell_3 4 rfl rfl)
theorem dX0_cell_73 : decode cX0_cell 73 = .ok (.ireturn, 1) := dk_172 (dk_at dksX0_cell_3 7 rfl rfl)
theorem dX0_cell_74 : decode cX0_cell 74 = .ok (.aload_n 0, 1) := dk_42 (dk_at dksX0_cell_3 8 rfl rfl)
theorem dX0_cell_75 : decode cX0_cell 75 = .ok (.iconst 0, 1) := dk_3 (dk_at dksX0_cell_3 9 rfl rfl)
theorem dX0_cell_76 : decode cX0_cell 76 = .ok (.invokevirtual 138, 3) := dk_182 0 138 (dk_at dksX0_cell_3 10 rfl rfl)
theorem dX0_cell_79 : decode cX0_cell 79 = .ok (.ireturn, 1) := dk_172 (dk_at dksX0_cell_3 13 rfl rfl)
abbrev cX0_apart : ByteArray := prog_1_method_11_code
def yX0_apart : MethodName := ⟨RX0, "apart", "(II)I"⟩
def dkwX0_apart_1 : List UInt8 := [96, 172]
abbrev dktX0_apart_1 : List UInt8 := dkwX0_apart_1 ++ []
def dkwX0_apart_0 : List UInt8 := [26, 16, 8, 108, 27, 16, 8, 108, 100, 184, 0, 23, 26, 16, 8, 112, 27, 16, 8, 112, 100, 184, 0, 23]
abbrev dktX0_apart_0 : List UInt8 := dkwX0_apart_0 ++ dktX0_apart_1
theorem dksX0_apart_0 : cX0_apart.data.toList.drop 0 = dktX0_apart_0 := by decide +kernel
theorem dksX0_apart_1 : cX0_apart.data.toList.drop 24 = dktX0_apart_1 := dk_seg dksX0_apart_0 24 rfl rfl
theorem dX0_apart_0 : decode cX0_apart 0 = .ok (.iload_n 0, 1) := dk_26 (dk_at dksX0_apart_0 0 rfl rfl)
theorem dX0_apart_1 : decode cX0_apart 1 = .ok (.bipush 8, 2) := dk_16 8 (dk_at dksX0_apart_0 1 rfl rfl)
theorem dX0_apart_3 : decode cX0_apart 3 = .ok (.idiv, 1) := dk_108 (dk_at dksX0_apart_0 3 rfl rfl)
theorem dX0_apart_4 : decode cX0_apart 4 = .ok (.iload_n 1, 1) := dk_27 (dk_at dksX0_apart_0 4 rfl rfl)
theorem dX0_apart_5 : decode cX0_apart 5 = .ok (.bipush 8, 2) := dk_16 8 (dk_at dksX0_apart_0 5 rfl rfl)
theorem dX0_apart_7 : decode cX0_apart 7 = .ok (.idiv, 1) := dk_108 (dk_at dksX0_apart_0 7 rfl rfl)
theorem dX0_apart_8 : decode cX0_apart 8 = .ok (.isub, 1) := dk_100 (dk_at dksX0_apart_0 8 rfl rfl)
theorem dX0_apart_9 : decode cX0_apart 9 = .ok (.invokestatic 23, 3) := dk_184 0 23 (dk_at dksX0_apart_0 9 rfl rfl)
theorem dX0_apart_12 : decode cX0_apart 12 = .ok (.iload_n 0, 1) := dk_26 (dk_at dksX0_apart_0 12 rfl rfl)
theorem dX0_apart_13 : decode cX0_apart 13 = .ok (.bipush 8, 2) := dk_16 8 (dk_at dksX0_apart_0 13 rfl rfl)
theorem dX0_apart_15 : decode cX0_apart 15 = .ok (.irem, 1) := dk_112 (dk_at dksX0_apart_0 15 rfl rfl)
theorem dX0_apart_16 : decode cX0_apart 16 = .ok (.iload_n 1, 1) := dk_27 (dk_at dksX0_apart_0 16 rfl rfl)
theorem dX0_apart_17 : decode cX0_apart 17 = .ok (.bipush 8, 2) := dk_16 8 (dk_at dksX0_apart_0 17 rfl rfl)
theorem dX0_apart_19 : decode cX0_apart 19 = .ok (.irem, 1) := dk_112 (dk_at dksX0_apart_0 19 rfl rfl)
theorem dX0_apart_20 : decode cX0_apart 20 = .ok (.isub, 1) := dk_100 (dk_at dksX0_apart_0 20 rfl rfl)
theorem dX0_apart_21 : decode cX0_apart 21 = .ok (.invokestatic 23, 3) := dk_184 0 23 (dk_at dksX0_apart_0 21 rfl rfl)
theorem dX0_apart_24 : decode cX0_apart 24 = .ok (.iadd, 1) := dk_96 (dk_at dksX0_apart_1 0 rfl rfl)
theorem dX0_apart_25 : decode cX0_apart 25 = .ok (.ireturn, 1) := dk_172 (dk_at dksX0_apart_1 1 rfl rfl)
abbrev cX0_loudBy : ByteArray := prog_1_method_13_code
def yX0_loudBy : MethodName := ⟨RX0, "loudBy", "(II)I"⟩
def dkwX0_loudBy_0 : List UInt8 := [3, 26, 6, 27, 104, 100, 184, 0, 28, 172]
abbrev dktX0_loudBy_0 : List UInt8 := dkwX0_loudBy_0 ++ []
theorem dksX0_loudBy_0 : cX0_loudBy.data.toList.drop 0 = dktX0_loudBy_0 := by decide +kernel
theorem dX0_loudBy_0 : decode cX0_loudBy 0 = .ok (.iconst 0, 1) := dk_3 (dk_at dksX0_loudBy_0 0 rfl rfl)
theorem dX0_loudBy_1 : decode cX0_loudBy 1 = .ok (.iload_n 0, 1) := dk_26 (dk_at dksX0_loudBy_0 1 rfl rfl)
theorem dX0_loudBy_2 : decode cX0_loudBy 2 = .ok (.iconst 3, 1) := dk_6 (dk_at dksX0_loudBy_0 2 rfl rfl)
theorem dX0_loudBy_3 : decode cX0_loudBy 3 = .ok (.iload_n 1, 1) := dk_27 (dk_at dksX0_loudBy_0 3 rfl rfl)
theorem dX0_loudBy_4 : decode cX0_loudBy 4 = .ok (.imul, 1) := dk_104 (dk_at dksX0_loudBy_0 4 rfl rfl)
theorem dX0_loudBy_5 : decode cX0_loudBy 5 = .ok (.isub, 1) := dk_100 (dk_at dksX0_loudBy_0 5 rfl rfl)
theorem dX0_loudBy_6 : decode cX0_loudBy 6 = .ok (.invokestatic 28, 3) := dk_184 0 28 (dk_at dksX0_loudBy_0 6 rfl rfl)
theorem dX0_loudBy_9 : decode cX0_loudBy 9 = .ok (.ireturn, 1) := dk_172 (dk_at dksX0_loudBy_0 9 rfl rfl)
abbrev cX0_hunter : ByteArray := prog_1_method_30_code
def yX0_hunter : MethodName := ⟨RX0, "hunter", "(II)I"⟩
def dkwX0_hunter_1 : List UInt8 := [180, 0, 78, 180, 0, 185, 27, 46, 62, 42, 180, 0, 78, 180, 0, 185, 27, 28, 79, 29, 172]
abbrev dktX0_hunter_1 : List UInt8 := dkwX0_hunter_1 ++ []
def dkwX0_hunter_0 : List UInt8 := [27, 184, 0, 182, 153, 0, 13, 28, 2, 16, 63, 184, 0, 9, 154, 0, 9, 42, 3, 182, 0, 138, 172, 42]
abbrev dktX0_hunter_0 : List UInt8 := dkwX0_hunter_0 ++ dktX0_hunter_1
theorem dksX0_hunter_0 : cX0_hunter.data.toList.drop 0 = dktX0_hunter_0 := by decide +kernel
theorem dksX0_hunter_1 : cX0_hunter.data.toList.drop 24 = dktX0_hunter_1 := dk_seg dksX0_hunter_0 24 rfl rfl
theorem dX0_hunter_0 : decode cX0_hunter 0 = .ok (.iload_n 1, 1) := dk_27 (dk_at dksX0_hunter_0 0 rfl rfl)
theorem dX0_hunter_1 : decode cX0_hunter 1 = .ok (.invokestatic 182, 3) := dk_184 0 182 (dk_at dksX0_hunter_0 1 rfl rfl)
theorem dX0_hunter_4 : decode cX0_hunter 4 = .ok (.ifCond .eq 13, 3) := dk_153 0 13 (dk_at dksX0_hunter_0 4 rfl rfl)
theorem dX0_hunter_7 : decode cX0_hunter 7 = .ok (.iload_n 2, 1) := dk_28 (dk_at dksX0_hunter_0 7 rfl rfl)
theorem dX0_hunter_8 : decode cX0_hunter 8 = .ok (.iconst (-1), 1) := dk_2 (dk_at dksX0_hunter_0 8 rfl rfl)
theorem dX0_hunter_9 : decode cX0_hunter 9 = .ok (.bipush 63, 2) := dk_16 63 (dk_at dksX0_hunter_0 9 rfl rfl)
theorem dX0_hunter_11 : decode cX0_hunter 11 = .ok (.invokestatic 9, 3) := dk_184 0 9 (dk_at dksX0_hunter_0 11 rfl rfl)
theorem dX0_hunter_14 : decode cX0_hunter 14 = .ok (.ifCond .ne 9, 3) := dk_154 0 9 (dk_at dksX0_hunter_0 14 rfl rfl)
theorem dX0_hunter_17 : decode cX0_hunter 17 = .ok (.aload_n 0, 1) := dk_42 (dk_at dksX0_hunter_0 17 rfl rfl)
theorem dX0_hunter_18 : decode cX0_hunter 18 = .ok (.iconst 0, 1) := dk_3 (dk_at dksX0_hunter_0 18 rfl rfl)
theorem dX0_hunter_19 : decode cX0_hunter 19 = .ok (.invokevirtual 138, 3) := dk_182 0 138 (dk_at dksX0_hunter_0 19 rfl rfl)
theorem dX0_hunter_22 : decode cX0_hunter 22 = .ok (.ireturn, 1) := dk_172 (dk_at dksX0_hunter_0 22 rfl rfl)
theorem dX0_hunter_23 : decode cX0_hunter 23 = .ok (.aload_n 0, 1) := dk_42 (dk_at dksX0_hunter_0 23 rfl rfl)
theorem dX0_hunter_24 : decode cX0_hunter 24 = .ok (.getfield 78, 3) := dk_180 0 78 (dk_at dksX0_hunter_1 0 rfl rfl)
theorem dX0_hunter_27 : decode cX0_hunter 27 = .ok (.getfield 185, 3) := dk_180 0 185 (dk_at dksX0_hunter_1 3 rfl rfl)
theorem dX0_hunter_30 : decode cX0_hunter 30 = .ok (.iload_n 1, 1) := dk_27 (dk_at dksX0_hunter_1 6 rfl rfl)
theorem dX0_hunter_31 : decode cX0_hunter 31 = .ok (.iaload, 1) := dk_46 (dk_at dksX0_hunter_1 7 rfl rfl)
theorem dX0_hunter_32 : decode cX0_hunter 32 = .ok (.istore_n 3, 1) := dk_62 (dk_at dksX0_hunter_1 8 rfl rfl)
theorem dX0_hunter_33 : decode cX0_hunter 33 = .ok (.aload_n 0, 1) := dk_42 (dk_at dksX0_hunter_1 9 rfl rfl)
theorem dX0_hunter_34 : decode cX0_hunter 34 = .ok (.getfield 78, 3) := dk_180 0 78 (dk_at dksX0_hunter_1 10 rfl rfl)
theorem dX0_hunter_37 : decode cX0_hunter 37 = .ok (.getfield 185, 3) := dk_180 0 185 (dk_at dksX0_hunter_1 13 rfl rfl)
theorem dX0_hunter_40 : decode cX0_hunter 40 = .ok (.iload_n 1, 1) := dk_27 (dk_at dksX0_hunter_1 16 rfl rfl)
theorem dX0_hunter_41 : decode cX0_hunter 41 = .ok (.iload_n 2, 1) := dk_28 (dk_at dksX0_hunter_1 17 rfl rfl)
theorem dX0_hunter_42 : decode cX0_hunter 42 = .ok (.iastore, 1) := dk_79 (dk_at dksX0_hunter_1 18 rfl rfl)
theorem dX0_hunter_43 : decode cX0_hunter 43 = .ok (.iload_n 3, 1) := dk_29 (dk_at dksX0_hunter_1 19 rfl rfl)
theorem dX0_hunter_44 : decode cX0_hunter 44 = .ok (.ireturn, 1) := dk_172 (dk_at dksX0_hunter_1 20 rfl rfl)
abbrev cX0_isHunter : ByteArray := prog_1_method_8_code
def yX0_isHunter : MethodName := ⟨RX0, "isHunter", "(I)Z"⟩
def dkwX0_isHunter_0 : List UInt8 := [26, 3, 6, 184, 0, 9, 172]
abbrev dktX0_isHunter_0 : List UInt8 := dkwX0_isHunter_0 ++ []
theorem dksX0_isHunter_0 : cX0_isHunter.data.toList.drop 0 = dktX0_isHunter_0 := by decide +kernel
theorem dX0_isHunter_0 : decode cX0_isHunter 0 = .ok (.iload_n 0, 1) := dk_26 (dk_at dksX0_isHunter_0 0 rfl rfl)
theorem dX0_isHunter_1 : decode cX0_isHunter 1 = .ok (.iconst 0, 1) := dk_3 (dk_at dksX0_isHunter_0 1 rfl rfl)
theorem dX0_isHunter_2 : decode cX0_isHunter 2 = .ok (.iconst 3, 1) := dk_6 (dk_at dksX0_isHunter_0 2 rfl rfl)
theorem dX0_isHunter_3 : decode cX0_isHunter 3 = .ok (.invokestatic 9, 3) := dk_184 0 9 (dk_at dksX0_isHunter_0 3 rfl rfl)
theorem dX0_isHunter_6 : decode cX0_isHunter 6 = .ok (.ireturn, 1) := dk_172 (dk_at dksX0_isHunter_0 6 rfl rfl)
abbrev cX0_fear : ByteArray := prog_1_method_31_code
def yX0_fear : MethodName := ⟨RX0, "fear", "(I)I"⟩
def dkwX0_fear_1 : List UInt8 := [42, 180, 0, 78, 27, 181, 0, 188, 28, 172]
abbrev dktX0_fear_1 : List UInt8 := dkwX0_fear_1 ++ []
def dkwX0_fear_0 : List UInt8 := [27, 3, 16, 9, 184, 0, 9, 154, 0, 9, 42, 3, 182, 0, 138, 172, 42, 180, 0, 78, 180, 0, 188, 61]
abbrev dktX0_fear_0 : List UInt8 := dkwX0_fear_0 ++ dktX0_fear_1
theorem dksX0_fear_0 : cX0_fear.data.toList.drop 0 = dktX0_fear_0 := by decide +kernel
theorem dksX0_fear_1 : cX0_fear.data.toList.drop 24 = dktX0_fear_1 := dk_seg dksX0_fear_0 24 rfl rfl
theorem dX0_fear_0 : decode cX0_fear 0 = .ok (.iload_n 1, 1) := dk_27 (dk_at dksX0_fear_0 0 rfl rfl)
theorem dX0_fear_1 : decode cX0_fear 1 = .ok (.iconst 0, 1) := dk_3 (dk_at dksX0_fear_0 1 rfl rfl)
theorem dX0_fear_2 : decode cX0_fear 2 = .ok (.bipush 9, 2) := dk_16 9 (dk_at dksX0_fear_0 2 rfl rfl)
theorem dX0_fear_4 : decode cX0_fear 4 = .ok (.invokestatic 9, 3) := dk_184 0 9 (dk_at dksX0_fear_0 4 rfl rfl)
theorem dX0_fear_7 : decode cX0_fear 7 = .ok (.ifCond .ne 9, 3) := dk_154 0 9 (dk_at dksX0_fear_0 7 rfl rfl)
theorem dX0_fear_10 : decode cX0_fear 10 = .ok (.aload_n 0, 1) := dk_42 (dk_at dksX0_fear_0 10 rfl rfl)
theorem dX0_fear_11 : decode cX0_fear 11 = .ok (.iconst 0, 1) := dk_3 (dk_at dksX0_fear_0 11 rfl rfl)
theorem dX0_fear_12 : decode cX0_fear 12 = .ok (.invokevirtual 138, 3) := dk_182 0 138 (dk_at dksX0_fear_0 12 rfl rfl)
theorem dX0_fear_15 : decode cX0_fear 15 = .ok (.ireturn, 1) := dk_172 (dk_at dksX0_fear_0 15 rfl rfl)
theorem dX0_fear_16 : decode cX0_fear 16 = .ok (.aload_n 0, 1) := dk_42 (dk_at dksX0_fear_0 16 rfl rfl)
theorem dX0_fear_17 : decode cX0_fear 17 = .ok (.getfield 78, 3) := dk_180 0 78 (dk_at dksX0_fear_0 17 rfl rfl)
theorem dX0_fear_20 : decode cX0_fear 20 = .ok (.getfield 188, 3) := dk_180 0 188 (dk_at dksX0_fear_0 20 rfl rfl)
theorem dX0_fear_23 : decode cX0_fear 23 = .ok (.istore_n 2, 1) := dk_61 (dk_at dksX0_fear_0 23 rfl rfl)
theorem dX0_fear_24 : decode cX0_fear 24 = .ok (.aload_n 0, 1) := dk_42 (dk_at dksX0_fear_1 0 rfl rfl)
theorem dX0_fear_25 : decode cX0_fear 25 = .ok (.getfield 78, 3) := dk_180 0 78 (dk_at dksX0_fear_1 1 rfl rfl)
theorem dX0_fear_28 : decode cX0_fear 28 = .ok (.iload_n 1, 1) := dk_27 (dk_at dksX0_fear_1 4 rfl rfl)
theorem dX0_fear_29 : decode cX0_fear 29 = .ok (.putfield 188, 3) := dk_181 0 188 (dk_at dksX0_fear_1 5 rfl rfl)
theorem dX0_fear_32 : decode cX0_fear 32 = .ok (.iload_n 2, 1) := dk_28 (dk_at dksX0_fear_1 8 rfl rfl)
theorem dX0_fear_33 : decode cX0_fear 33 = .ok (.ireturn, 1) := dk_172 (dk_at dksX0_fear_1 9 rfl rfl)
abbrev cX0_bell : ByteArray := prog_1_method_32_code
def yX0_bell : MethodName := ⟨RX0, "bell", "(II)I"⟩
def dkwX0_bell_2 : List UInt8 := [180, 0, 78, 180, 0, 136, 4, 100, 172]
abbrev dktX0_bell_2 : List UInt8 := dkwX0_bell_2 ++ []
def dkwX0_bell_1 : List UInt8 := [180, 0, 136, 16, 8, 160, 0, 9, 42, 4, 182, 0, 138, 172, 42, 180, 0, 78, 27, 28, 182, 0, 191, 42]
abbrev dktX0_bell_1 : List UInt8 := dkwX0_bell_1 ++ dktX0_bell_2
def dkwX0_bell_0 : List UInt8 := [27, 184, 0, 13, 153, 0, 10, 28, 184, 0, 17, 154, 0, 9, 42, 3, 182, 0, 138, 172, 42, 180, 0, 78]
abbrev dktX0_bell_0 : List UInt8 := dkwX0_bell_0 ++ dktX0_bell_1
theorem dksX0_bell_0 : cX0_bell.data.toList.drop 0 = dktX0_bell_0 := by decide +kernel
theorem dksX0_bell_1 : cX0_bell.data.toList.drop 24 = dktX0_bell_1 := dk_seg dksX0_bell_0 24 rfl rfl
theorem dksX0_bell_2 : cX0_bell.data.toList.drop 48 = dktX0_bell_2 := dk_seg dksX0_bell_1 24 rfl rfl
theorem dX0_bell_0 : decode cX0_bell 0 = .ok (.iload_n 1, 1) := dk_27 (dk_at dksX0_bell_0 0 rfl rfl)
theorem dX0_bell_1 : decode cX0_bell 1 = .ok (.invokestatic 13, 3) := dk_184 0 13 (dk_at dksX0_bell_0 1 rfl rfl)
theorem dX0_bell_4 : decode cX0_bell 4 = .ok (.ifCond .eq 10, 3) := dk_153 0 10 (dk_at dksX0_bell_0 4 rfl rfl)
theorem dX0_bell_7 : decode cX0_bell 7 = .ok (.iload_n 2, 1) := dk_28 (dk_at dksX0_bell_0 7 rfl rfl)
theorem dX0_bell_8 : decode cX0_bell 8 = .ok (.invokestatic 17, 3) := dk_184 0 17 (dk_at dksX0_bell_0 8 rfl rfl)
theorem dX0_bell_11 : decode cX0_bell 11 = .ok (.ifCond .ne 9, 3) := dk_154 0 9 (dk_at dksX0_bell_0 11 rfl rfl)
theorem dX0_bell_14 : decode cX0_bell 14 = .ok (.aload_n 0, 1) := dk_42 (dk_at dksX0_bell_0 14 rfl rfl)
theorem dX0_bell_15 : decode cX0_bell 15 = .ok (.iconst 0, 1) := dk_3 (dk_at dksX0_bell_0 15 rfl rfl)
theorem dX0_bell_16 : decode cX0_bell 16 = .ok (.invokevirtual 138, 3) := dk_182 0 138 (dk_at dksX0_bell_0 16 rfl rfl)
theorem dX0_bell_19 : decode cX0_bell 19 = .ok (.ireturn, 1) := dk_172 (dk_at dksX0_bell_0 19 rfl rfl)
theorem dX0_bell_20 : decode cX0_bell 20 = .ok (.aload_n 0, 1) := dk_42 (dk_at dksX0_bell_0 20 rfl rfl)
theorem dX0_bell_21 : decode cX0_bell 21 = .ok (.getfield 78, 3) := dk_180 0 78 (dk_at dksX0_bell_0 21 rfl rfl)
theorem dX0_bell_24 : decode cX0_bell 24 = .ok (.getfield 136, 3) := dk_180 0 136 (dk_at dksX0_bell_1 0 rfl rfl)
theorem dX0_bell_27 : decode cX0_bell 27 = .ok (.bipush 8, 2) := dk_16 8 (dk_at dksX0_bell_1 3 rfl rfl)
theorem dX0_bell_29 : decode cX0_bell 29 = .ok (.if_icmp .ne 9, 3) := dk_160 0 9 (dk_at dksX0_bell_1 5 rfl rfl)
theorem dX0_bell_32 : decode cX0_bell 32 = .ok (.aload_n 0, 1) := dk_42 (dk_at dksX0_bell_1 8 rfl rfl)
theorem dX0_bell_33 : decode cX0_bell 33 = .ok (.iconst 1, 1) := dk_4 (dk_at dksX0_bell_1 9 rfl rfl)
theorem dX0_bell_34 : decode cX0_bell 34 = .ok (.invokevirtual 138, 3) := dk_182 0 138 (dk_at dksX0_bell_1 10 rfl rfl)
theorem dX0_bell_37 : decode cX0_bell 37 = .ok (.ireturn, 1) := dk_172 (dk_at dksX0_bell_1 13 rfl rfl)
theorem dX0_bell_38 : decode cX0_bell 38 = .ok (.aload_n 0, 1) := dk_42 (dk_at dksX0_bell_1 14 rfl rfl)
theorem dX0_bell_39 : decode cX0_bell 39 = .ok (.getfield 78, 3) := dk_180 0 78 (dk_at dksX0_bell_1 15 rfl rfl)
theorem dX0_bell_42 : decode cX0_bell 42 = .ok (.iload_n 1, 1) := dk_27 (dk_at dksX0_bell_1 18 rfl rfl)
theorem dX0_bell_43 : decode cX0_bell 43 = .ok (.iload_n 2, 1) := dk_28 (dk_at dksX0_bell_1 19 rfl rfl)
theorem dX0_bell_44 : decode cX0_bell 44 = .ok (.invokevirtual 191, 3) := dk_182 0 191 (dk_at dksX0_bell_1 20 rfl rfl)
theorem dX0_bell_47 : decode cX0_bell 47 = .ok (.aload_n 0, 1) := dk_42 (dk_at dksX0_bell_1 23 rfl rfl)
theorem dX0_bell_48 : decode cX0_bell 48 = .ok (.getfield 78, 3) := dk_180 0 78 (dk_at dksX0_bell_2 0 rfl rfl)
theorem dX0_bell_51 : decode cX0_bell 51 = .ok (.getfield 136, 3) := dk_180 0 136 (dk_at dksX0_bell_2 3 rfl rfl)
theorem dX0_bell_54 : decode cX0_bell 54 = .ok (.iconst 1, 1) := dk_4 (dk_at dksX0_bell_2 6 rfl rfl)
theorem dX0_bell_55 : decode cX0_bell 55 = .ok (.isub, 1) := dk_100 (dk_at dksX0_bell_2 7 rfl rfl)
theorem dX0_bell_56 : decode cX0_bell 56 = .ok (.ireturn, 1) := dk_172 (dk_at dksX0_bell_2 8 rfl rfl)
abbrev cX0_isKind : ByteArray := prog_1_method_6_code
def yX0_isKind : MethodName := ⟨RX0, "isKind", "(I)Z"⟩
def dkwX0_isKind_0 : List UInt8 := [26, 3, 16, 6, 184, 0, 9, 172]
abbrev dktX0_isKind_0 : List UInt8 := dkwX0_isKind_0 ++ []
theorem dksX0_isKind_0 : cX0_isKind.data.toList.drop 0 = dktX0_isKind_0 := by decide +kernel
theorem dX0_isKind_0 : decode cX0_isKind 0 = .ok (.iload_n 0, 1) := dk_26 (dk_at dksX0_isKind_0 0 rfl rfl)
theorem dX0_isKind_1 : decode cX0_isKind 1 = .ok (.iconst 0, 1) := dk_3 (dk_at dksX0_isKind_0 1 rfl rfl)
theorem dX0_isKind_2 : decode cX0_isKind 2 = .ok (.bipush 6, 2) := dk_16 6 (dk_at dksX0_isKind_0 2 rfl rfl)
theorem dX0_isKind_4 : decode cX0_isKind 4 = .ok (.invokestatic 9, 3) := dk_184 0 9 (dk_at dksX0_isKind_0 4 rfl rfl)
theorem dX0_isKind_7 : decode cX0_isKind 7 = .ok (.ireturn, 1) := dk_172 (dk_at dksX0_isKind_0 7 rfl rfl)
abbrev cX0_of : ByteArray := prog_1_method_33_code
def yX0_of : MethodName := ⟨RX0, "of", "(II)I"⟩
def dkwX0_of_4 : List UInt8 := [182, 0, 138, 172]
abbrev dktX0_of_4 : List UInt8 := dkwX0_of_4 ++ []
def dkwX0_of_3 : List UInt8 := [182, 0, 164, 172, 42, 27, 42, 180, 0, 78, 180, 0, 123, 4, 50, 27, 46, 182, 0, 158, 172, 42, 3]
abbrev dktX0_of_3 : List UInt8 := dkwX0_of_3 ++ dktX0_of_4
def dkwX0_of_2 : List UInt8 := [42, 27, 182, 0, 143, 182, 0, 198, 172, 42, 180, 0, 78, 180, 0, 123, 28, 50, 27, 46, 172, 42, 27]
abbrev dktX0_of_2 : List UInt8 := dkwX0_of_2 ++ dktX0_of_3
def dkwX0_of_1 : List UInt8 := [170, 0, 0, 0, 85, 0, 0, 0, 0, 0, 0, 0, 6, 0, 0, 0, 41, 0, 0, 0, 50, 0, 0, 0, 50, 0, 0, 0, 50, 0, 0, 0, 50, 0, 0, 0, 62, 0, 0, 0, 68]
abbrev dktX0_of_1 : List UInt8 := dkwX0_of_1 ++ dktX0_of_2
def dkwX0_of_0 : List UInt8 := [42, 27, 182, 0, 195, 154, 0, 9, 42, 3, 182, 0, 138, 172, 28]
abbrev dktX0_of_0 : List UInt8 := dkwX0_of_0 ++ dktX0_of_1
theorem dksX0_of_0 : cX0_of.data.toList.drop 0 = dktX0_of_0 := by decide +kernel
theorem dksX0_of_1 : cX0_of.data.toList.drop 15 = dktX0_of_1 := dk_seg dksX0_of_0 15 rfl rfl
theorem dksX0_of_2 : cX0_of.data.toList.drop 56 = dktX0_of_2 := dk_seg dksX0_of_1 41 rfl rfl
theorem dksX0_of_3 : cX0_of.data.toList.drop 79 = dktX0_of_3 := dk_seg dksX0_of_2 23 rfl rfl
theorem dksX0_of_4 : cX0_of.data.toList.drop 102 = dktX0_of_4 := dk_seg dksX0_of_3 23 rfl rfl
theorem dX0_of_0 : decode cX0_of 0 = .ok (.aload_n 0, 1) := dk_42 (dk_at dksX0_of_0 0 rfl rfl)
theorem dX0_of_1 : decode cX0_of 1 = .ok (.iload_n 1, 1) := dk_27 (dk_at dksX0_of_0 1 rfl rfl)
theorem dX0_of_2 : decode cX0_of 2 = .ok (.invokevirtual 195, 3) := dk_182 0 195 (dk_at dksX0_of_0 2 rfl rfl)
theorem dX0_of_5 : decode cX0_of 5 = .ok (.ifCond .ne 9, 3) := dk_154 0 9 (dk_at dksX0_of_0 5 rfl rfl)
theorem dX0_of_8 : decode cX0_of 8 = .ok (.aload_n 0, 1) := dk_42 (dk_at dksX0_of_0 8 rfl rfl)
theorem dX0_of_9 : decode cX0_of 9 = .ok (.iconst 0, 1) := dk_3 (dk_at dksX0_of_0 9 rfl rfl)
theorem dX0_of_10 : decode cX0_of 10 = .ok (.invokevirtual 138, 3) := dk_182 0 138 (dk_at dksX0_of_0 10 rfl rfl)
theorem dX0_of_13 : decode cX0_of 13 = .ok (.ireturn, 1) := dk_172 (dk_at dksX0_of_0 13 rfl rfl)
theorem dX0_of_14 : decode cX0_of 14 = .ok (.iload_n 2, 1) := dk_28 (dk_at dksX0_of_0 14 rfl rfl)
theorem dX0_of_15 : decode cX0_of 15 = .ok (.tableswitch 85 0 6 #[41, 50, 50, 50, 50, 62, 68], 41) := by decide +kernel
theorem dX0_of_56 : decode cX0_of 56 = .ok (.aload_n 0, 1) := dk_42 (dk_at dksX0_of_2 0 rfl rfl)
theorem dX0_of_57 : decode cX0_of 57 = .ok (.iload_n 1, 1) := dk_27 (dk_at dksX0_of_2 1 rfl rfl)
theorem dX0_of_58 : decode cX0_of 58 = .ok (.invokevirtual 143, 3) := dk_182 0 143 (dk_at dksX0_of_2 2 rfl rfl)
theorem dX0_of_61 : decode cX0_of 61 = .ok (.invokevirtual 198, 3) := dk_182 0 198 (dk_at dksX0_of_2 5 rfl rfl)
theorem dX0_of_64 : decode cX0_of 64 = .ok (.ireturn, 1) := dk_172 (dk_at dksX0_of_2 8 rfl rfl)
theorem dX0_of_65 : decode cX0_of 65 = .ok (.aload_n 0, 1) := dk_42 (dk_at dksX0_of_2 9 rfl rfl)
theorem dX0_of_66 : decode cX0_of 66 = .ok (.getfield 78, 3) := dk_180 0 78 (dk_at dksX0_of_2 10 rfl rfl)
theorem dX0_of_69 : decode cX0_of 69 = .ok (.getfield 123, 3) := dk_180 0 123 (dk_at dksX0_of_2 13 rfl rfl)
theorem dX0_of_72 : decode cX0_of 72 = .ok (.iload_n 2, 1) := dk_28 (dk_at dksX0_of_2 16 rfl rfl)
theorem dX0_of_73 : decode cX0_of 73 = .ok (.aaload, 1) := dk_50 (dk_at dksX0_of_2 17 rfl rfl)
theorem dX0_of_74 : decode cX0_of 74 = .ok (.iload_n 1, 1) := dk_27 (dk_at dksX0_of_2 18 rfl rfl)
theorem dX0_of_75 : decode cX0_of 75 = .ok (.iaload, 1) := dk_46 (dk_at dksX0_of_2 19 rfl rfl)
theorem dX0_of_76 : decode cX0_of 76 = .ok (.ireturn, 1) := dk_172 (dk_at dksX0_of_2 20 rfl rfl)
theorem dX0_of_77 : decode cX0_of 77 = .ok (.aload_n 0, 1) := dk_42 (dk_at dksX0_of_2 21 rfl rfl)
theorem dX0_of_78 : decode cX0_of 78 = .ok (.iload_n 1, 1) := dk_27 (dk_at dksX0_of_2 22 rfl rfl)
theorem dX0_of_79 : decode cX0_of 79 = .ok (.invokevirtual 164, 3) := dk_182 0 164 (dk_at dksX0_of_3 0 rfl rfl)
theorem dX0_of_82 : decode cX0_of 82 = .ok (.ireturn, 1) := dk_172 (dk_at dksX0_of_3 3 rfl rfl)
theorem dX0_of_83 : decode cX0_of 83 = .ok (.aload_n 0, 1) := dk_42 (dk_at dksX0_of_3 4 rfl rfl)
theorem dX0_of_84 : decode cX0_of 84 = .ok (.iload_n 1, 1) := dk_27 (dk_at dksX0_of_3 5 rfl rfl)
theorem dX0_of_85 : decode cX0_of 85 = .ok (.aload_n 0, 1) := dk_42 (dk_at dksX0_of_3 6 rfl rfl)
theorem dX0_of_86 : decode cX0_of 86 = .ok (.getfield 78, 3) := dk_180 0 78 (dk_at dksX0_of_3 7 rfl rfl)
theorem dX0_of_89 : decode cX0_of 89 = .ok (.getfield 123, 3) := dk_180 0 123 (dk_at dksX0_of_3 10 rfl rfl)
theorem dX0_of_92 : decode cX0_of 92 = .ok (.iconst 1, 1) := dk_4 (dk_at dksX0_of_3 13 rfl rfl)
theorem dX0_of_93 : decode cX0_of 93 = .ok (.aaload, 1) := dk_50 (dk_at dksX0_of_3 14 rfl rfl)
theorem dX0_of_94 : decode cX0_of 94 = .ok (.iload_n 1, 1) := dk_27 (dk_at dksX0_of_3 15 rfl rfl)
theorem dX0_of_95 : decode cX0_of 95 = .ok (.iaload, 1) := dk_46 (dk_at dksX0_of_3 16 rfl rfl)
theorem dX0_of_96 : decode cX0_of 96 = .ok (.invokevirtual 158, 3) := dk_182 0 158 (dk_at dksX0_of_3 17 rfl rfl)
theorem dX0_of_99 : decode cX0_of 99 = .ok (.ireturn, 1) := dk_172 (dk_at dksX0_of_3 20 rfl rfl)
theorem dX0_of_100 : decode cX0_of 100 = .ok (.aload_n 0, 1) := dk_42 (dk_at dksX0_of_3 21 rfl rfl)
theorem dX0_of_101 : decode cX0_of 101 = .ok (.iconst 0, 1) := dk_3 (dk_at dksX0_of_3 22 rfl rfl)
theorem dX0_of_102 : decode cX0_of 102 = .ok (.invokevirtual 138, 3) := dk_182 0 138 (dk_at dksX0_of_4 0 rfl rfl)
theorem dX0_of_105 : decode cX0_of 105 = .ok (.ireturn, 1) := dk_172 (dk_at dksX0_of_4 3 rfl rfl)
abbrev cX0_isBell : ByteArray := prog_1_method_20_code
def yX0_isBell : MethodName := ⟨RX0, "isBell", "(I)Z"⟩
def dkwX0_isBell_0 : List UInt8 := [27, 3, 42, 180, 0, 78, 180, 0, 136, 4, 100, 184, 0, 9, 172]
abbrev dktX0_isBell_0 : List UInt8 := dkwX0_isBell_0 ++ []
theorem dksX0_isBell_0 : cX0_isBell.data.toList.drop 0 = dktX0_isBell_0 := by decide +kernel
theorem dX0_isBell_0 : decode cX0_isBell 0 = .ok (.iload_n 1, 1) := dk_27 (dk_at dksX0_isBell_0 0 rfl rfl)
theorem dX0_isBell_1 : decode cX0_isBell 1 = .ok (.iconst 0, 1) := dk_3 (dk_at dksX0_isBell_0 1 rfl rfl)
theorem dX0_isBell_2 : decode cX0_isBell 2 = .ok (.aload_n 0, 1) := dk_42 (dk_at dksX0_isBell_0 2 rfl rfl)
theorem dX0_isBell_3 : decode cX0_isBell 3 = .ok (.getfield 78, 3) := dk_180 0 78 (dk_at dksX0_isBell_0 3 rfl rfl)
theorem dX0_isBell_6 : decode cX0_isBell 6 = .ok (.getfield 136, 3) := dk_180 0 136 (dk_at dksX0_isBell_0 6 rfl rfl)
theorem dX0_isBell_9 : decode cX0_isBell 9 = .ok (.iconst 1, 1) := dk_4 (dk_at dksX0_isBell_0 9 rfl rfl)
theorem dX0_isBell_10 : decode cX0_isBell 10 = .ok (.isub, 1) := dk_100 (dk_at dksX0_isBell_0 10 rfl rfl)
theorem dX0_isBell_11 : decode cX0_isBell 11 = .ok (.invokestatic 9, 3) := dk_184 0 9 (dk_at dksX0_isBell_0 11 rfl rfl)
theorem dX0_isBell_14 : decode cX0_isBell 14 = .ok (.ireturn, 1) := dk_172 (dk_at dksX0_isBell_0 14 rfl rfl)
abbrev cX0_bellOf : ByteArray := prog_1_method_16_code
def yX0_bellOf : MethodName := ⟨RX0, "bellOf", "(I)LWildBells$Bell;"⟩
def dkwX0_bellOf_1 : List UInt8 := [192, 0, 53, 176]
abbrev dktX0_bellOf_1 : List UInt8 := dkwX0_bellOf_1 ++ []
def dkwX0_bellOf_0 : List UInt8 := [42, 180, 0, 90, 16, 8, 42, 180, 0, 78, 180, 0, 123, 3, 50, 27, 46, 104, 27, 96, 50, 180, 0, 119]
abbrev dktX0_bellOf_0 : List UInt8 := dkwX0_bellOf_0 ++ dktX0_bellOf_1
theorem dksX0_bellOf_0 : cX0_bellOf.data.toList.drop 0 = dktX0_bellOf_0 := by decide +kernel
theorem dksX0_bellOf_1 : cX0_bellOf.data.toList.drop 24 = dktX0_bellOf_1 := dk_seg dksX0_bellOf_0 24 rfl rfl
theorem dX0_bellOf_0 : decode cX0_bellOf 0 = .ok (.aload_n 0, 1) := dk_42 (dk_at dksX0_bellOf_0 0 rfl rfl)
theorem dX0_bellOf_1 : decode cX0_bellOf 1 = .ok (.getfield 90, 3) := dk_180 0 90 (dk_at dksX0_bellOf_0 1 rfl rfl)
theorem dX0_bellOf_4 : decode cX0_bellOf 4 = .ok (.bipush 8, 2) := dk_16 8 (dk_at dksX0_bellOf_0 4 rfl rfl)
theorem dX0_bellOf_6 : decode cX0_bellOf 6 = .ok (.aload_n 0, 1) := dk_42 (dk_at dksX0_bellOf_0 6 rfl rfl)
theorem dX0_bellOf_7 : decode cX0_bellOf 7 = .ok (.getfield 78, 3) := dk_180 0 78 (dk_at dksX0_bellOf_0 7 rfl rfl)
theorem dX0_bellOf_10 : decode cX0_bellOf 10 = .ok (.getfield 123, 3) := dk_180 0 123 (dk_at dksX0_bellOf_0 10 rfl rfl)
theorem dX0_bellOf_13 : decode cX0_bellOf 13 = .ok (.iconst 0, 1) := dk_3 (dk_at dksX0_bellOf_0 13 rfl rfl)
theorem dX0_bellOf_14 : decode cX0_bellOf 14 = .ok (.aaload, 1) := dk_50 (dk_at dksX0_bellOf_0 14 rfl rfl)
theorem dX0_bellOf_15 : decode cX0_bellOf 15 = .ok (.iload_n 1, 1) := dk_27 (dk_at dksX0_bellOf_0 15 rfl rfl)
theorem dX0_bellOf_16 : decode cX0_bellOf 16 = .ok (.iaload, 1) := dk_46 (dk_at dksX0_bellOf_0 16 rfl rfl)
theorem dX0_bellOf_17 : decode cX0_bellOf 17 = .ok (.imul, 1) := dk_104 (dk_at dksX0_bellOf_0 17 rfl rfl)
theorem dX0_bellOf_18 : decode cX0_bellOf 18 = .ok (.iload_n 1, 1) := dk_27 (dk_at dksX0_bellOf_0 18 rfl rfl)
theorem dX0_bellOf_19 : decode cX0_bellOf 19 = .ok (.iadd, 1) := dk_96 (dk_at dksX0_bellOf_0 19 rfl rfl)
theorem dX0_bellOf_20 : decode cX0_bellOf 20 = .ok (.aaload, 1) := dk_50 (dk_at dksX0_bellOf_0 20 rfl rfl)
theorem dX0_bellOf_21 : decode cX0_bellOf 21 = .ok (.getfield 119, 3) := dk_180 0 119 (dk_at dksX0_bellOf_0 21 rfl rfl)
theorem dX0_bellOf_24 : decode cX0_bellOf 24 = .ok (.checkcast 53, 3) := dk_192 0 53 (dk_at dksX0_bellOf_1 0 rfl rfl)
theorem dX0_bellOf_27 : decode cX0_bellOf 27 = .ok (.areturn, 1) := dk_176 (dk_at dksX0_bellOf_1 3 rfl rfl)
abbrev cX0_nextOf : ByteArray := prog_1_method_24_code
def yX0_nextOf : MethodName := ⟨RX0, "nextOf", "(I)I"⟩
def dkwX0_nextOf_3 : List UInt8 := [29, 62, 21, 4, 21, 7, 184, 0, 28, 54, 4, 132, 5, 1, 167, 255, 196, 29, 172]
abbrev dktX0_nextOf_3 : List UInt8 := dkwX0_nextOf_3 ++ []
def dkwX0_nextOf_2 : List UInt8 := [167, 0, 10, 42, 27, 21, 6, 182, 0, 158, 54, 7, 21, 7, 21, 4, 164, 0, 8, 21, 6, 167, 0, 4]
abbrev dktX0_nextOf_2 : List UInt8 := dkwX0_nextOf_2 ++ dktX0_nextOf_3
def dkwX0_nextOf_1 : List UInt8 := [54, 5, 21, 5, 7, 162, 0, 60, 28, 21, 5, 184, 0, 161, 54, 6, 21, 6, 2, 160, 0, 8, 21, 4]
abbrev dktX0_nextOf_1 : List UInt8 := dkwX0_nextOf_1 ++ dktX0_nextOf_2
def dkwX0_nextOf_0 : List UInt8 := [42, 180, 0, 78, 180, 0, 123, 4, 50, 27, 46, 61, 28, 62, 42, 27, 28, 182, 0, 158, 54, 4, 3]
abbrev dktX0_nextOf_0 : List UInt8 := dkwX0_nextOf_0 ++ dktX0_nextOf_1
theorem dksX0_nextOf_0 : cX0_nextOf.data.toList.drop 0 = dktX0_nextOf_0 := by decide +kernel
theorem dksX0_nextOf_1 : cX0_nextOf.data.toList.drop 23 = dktX0_nextOf_1 := dk_seg dksX0_nextOf_0 23 rfl rfl
theorem dksX0_nextOf_2 : cX0_nextOf.data.toList.drop 47 = dktX0_nextOf_2 := dk_seg dksX0_nextOf_1 24 rfl rfl
theorem dksX0_nextOf_3 : cX0_nextOf.data.toList.drop 71 = dktX0_nextOf_3 := dk_seg dksX0_nextOf_2 24 rfl rfl
theorem dX0_nextOf_0 : decode cX0_nextOf 0 = .ok (.aload_n 0, 1) := dk_42 (dk_at dksX0_nextOf_0 0 rfl rfl)
theorem dX0_nextOf_1 : decode cX0_nextOf 1 = .ok (.getfield 78, 3) := dk_180 0 78 (dk_at dksX0_nextOf_0 1 rfl rfl)
theorem dX0_nextOf_4 : decode cX0_nextOf 4 = .ok (.getfield 123, 3) := dk_180 0 123 (dk_at dksX0_nextOf_0 4 rfl rfl)
theorem dX0_nextOf_7 : decode cX0_nextOf 7 = .ok (.iconst 1, 1) := dk_4 (dk_at dksX0_nextOf_0 7 rfl rfl)
theorem dX0_nextOf_8 : decode cX0_nextOf 8 = .ok (.aaload, 1) := dk_50 (dk_at dksX0_nextOf_0 8 rfl rfl)
theorem dX0_nextOf_9 : decode cX0_nextOf 9 = .ok (.iload_n 1, 1) := dk_27 (dk_at dksX0_nextOf_0 9 rfl rfl)
theorem dX0_nextOf_10 : decode cX0_nextOf 10 = .ok (.iaload, 1) := dk_46 (dk_at dksX0_nextOf_0 10 rfl rfl)
theorem dX0_nextOf_11 : decode cX0_nextOf 11 = .ok (.istore_n 2, 1) := dk_61 (dk_at dksX0_nextOf_0 11 rfl rfl)
theorem dX0_nextOf_12 : decode cX0_nextOf 12 = .ok (.iload_n 2, 1) := dk_28 (dk_at dksX0_nextOf_0 12 rfl rfl)
theorem dX0_nextOf_13 : decode cX0_nextOf 13 = .ok (.istore_n 3, 1) := dk_62 (dk_at dksX0_nextOf_0 13 rfl rfl)
theorem dX0_nextOf_14 : decode cX0_nextOf 14 = .ok (.aload_n 0, 1) := dk_42 (dk_at dksX0_nextOf_0 14 rfl rfl)
theorem dX0_nextOf_15 : decode cX0_nextOf 15 = .ok (.iload_n 1, 1) := dk_27 (dk_at dksX0_nextOf_0 15 rfl rfl)
theorem dX0_nextOf_16 : decode cX0_nextOf 16 = .ok (.iload_n 2, 1) := dk_28 (dk_at dksX0_nextOf_0 16 rfl rfl)
theorem dX0_nextOf_17 : decode cX0_nextOf 17 = .ok (.invokevirtual 158, 3) := dk_182 0 158 (dk_at dksX0_nextOf_0 17 rfl rfl)
theorem dX0_nextOf_20 : decode cX0_nextOf 20 = .ok (.istore 4, 2) := dk_54 4 (dk_at dksX0_nextOf_0 20 rfl rfl)
theorem dX0_nextOf_22 : decode cX0_nextOf 22 = .ok (.iconst 0, 1) := dk_3 (dk_at dksX0_nextOf_0 22 rfl rfl)
theorem dX0_nextOf_23 : decode cX0_nextOf 23 = .ok (.istore 5, 2) := dk_54 5 (dk_at dksX0_nextOf_1 0 rfl rfl)
theorem dX0_nextOf_25 : decode cX0_nextOf 25 = .ok (.iload 5, 2) := dk_21 5 (dk_at dksX0_nextOf_1 2 rfl rfl)
theorem dX0_nextOf_27 : decode cX0_nextOf 27 = .ok (.iconst 4, 1) := dk_7 (dk_at dksX0_nextOf_1 4 rfl rfl)
theorem dX0_nextOf_28 : decode cX0_nextOf 28 = .ok (.if_icmp .ge 60, 3) := dk_162 0 60 (dk_at dksX0_nextOf_1 5 rfl rfl)
theorem dX0_nextOf_31 : decode cX0_nextOf 31 = .ok (.iload_n 2, 1) := dk_28 (dk_at dksX0_nextOf_1 8 rfl rfl)
theorem dX0_nextOf_32 : decode cX0_nextOf 32 = .ok (.iload 5, 2) := dk_21 5 (dk_at dksX0_nextOf_1 9 rfl rfl)
theorem dX0_nextOf_34 : decode cX0_nextOf 34 = .ok (.invokestatic 161, 3) := dk_184 0 161 (dk_at dksX0_nextOf_1 11 rfl rfl)
theorem dX0_nextOf_37 : decode cX0_nextOf 37 = .ok (.istore 6, 2) := dk_54 6 (dk_at dksX0_nextOf_1 14 rfl rfl)
theorem dX0_nextOf_39 : decode cX0_nextOf 39 = .ok (.iload 6, 2) := dk_21 6 (dk_at dksX0_nextOf_1 16 rfl rfl)
theorem dX0_nextOf_41 : decode cX0_nextOf 41 = .ok (.iconst (-1), 1) := dk_2 (dk_at dksX0_nextOf_1 18 rfl rfl)
theorem dX0_nextOf_42 : decode cX0_nextOf 42 = .ok (.if_icmp .ne 8, 3) := dk_160 0 8 (dk_at dksX0_nextOf_1 19 rfl rfl)
theorem dX0_nextOf_45 : decode cX0_nextOf 45 = .ok (.iload 4, 2) := dk_21 4 (dk_at dksX0_nextOf_1 22 rfl rfl)
theorem dX0_nextOf_47 : decode cX0_nextOf 47 = .ok (.goto 10, 3) := dk_167 0 10 (dk_at dksX0_nextOf_2 0 rfl rfl)
theorem dX0_nextOf_50 : decode cX0_nextOf 50 = .ok (.aload_n 0, 1) := dk_42 (dk_at dksX0_nextOf_2 3 rfl rfl)
theorem dX0_nextOf_51 : decode cX0_nextOf 51 = .ok (.iload_n 1, 1) := dk_27 (dk_at dksX0_nextOf_2 4 rfl rfl)
theorem dX0_nextOf_52 : decode cX0_nextOf 52 = .ok (.iload 6, 2) := dk_21 6 (dk_at dksX0_nextOf_2 5 rfl rfl)
theorem dX0_nextOf_54 : decode cX0_nextOf 54 = .ok (.invokevirtual 158, 3) := dk_182 0 158 (dk_at dksX0_nextOf_2 7 rfl rfl)
theorem dX0_nextOf_57 : decode cX0_nextOf 57 = .ok (.istore 7, 2) := dk_54 7 (dk_at dksX0_nextOf_2 10 rfl rfl)
theorem dX0_nextOf_59 : decode cX0_nextOf 59 = .ok (.iload 7, 2) := dk_21 7 (dk_at dksX0_nextOf_2 12 rfl rfl)
theorem dX0_nextOf_61 : decode cX0_nextOf 61 = .ok (.iload 4, 2) := dk_21 4 (dk_at dksX0_nextOf_2 14 rfl rfl)
theorem dX0_nextOf_63 : decode cX0_nextOf 63 = .ok (.if_icmp .le 8, 3) := dk_164 0 8 (dk_at dksX0_nextOf_2 16 rfl rfl)
theorem dX0_nextOf_66 : decode cX0_nextOf 66 = .ok (.iload 6, 2) := dk_21 6 (dk_at dksX0_nextOf_2 19 rfl rfl)
theorem dX0_nextOf_68 : decode cX0_nextOf 68 = .ok (.goto 4, 3) := dk_167 0 4 (dk_at dksX0_nextOf_2 21 rfl rfl)
theorem dX0_nextOf_71 : decode cX0_nextOf 71 = .ok (.iload_n 3, 1) := dk_29 (dk_at dksX0_nextOf_3 0 rfl rfl)
theorem dX0_nextOf_72 : decode cX0_nextOf 72 = .ok (.istore_n 3, 1) := dk_62 (dk_at dksX0_nextOf_3 1 rfl rfl)
theorem dX0_nextOf_73 : decode cX0_nextOf 73 = .ok (.iload 4, 2) := dk_21 4 (dk_at dksX0_nextOf_3 2 rfl rfl)
theorem dX0_nextOf_75 : decode cX0_nextOf 75 = .ok (.iload 7, 2) := dk_21 7 (dk_at dksX0_nextOf_3 4 rfl rfl)
theorem dX0_nextOf_77 : decode cX0_nextOf 77 = .ok (.invokestatic 28, 3) := dk_184 0 28 (dk_at dksX0_nextOf_3 6 rfl rfl)
theorem dX0_nextOf_80 : decode cX0_nextOf 80 = .ok (.istore 4, 2) := dk_54 4 (dk_at dksX0_nextOf_3 9 rfl rfl)
theorem dX0_nextOf_82 : decode cX0_nextOf 82 = .ok (.iinc 5 1, 3) := dk_132 5 1 (dk_at dksX0_nextOf_3 11 rfl rfl)
theorem dX0_nextOf_85 : decode cX0_nextOf 85 = .ok (.goto (-60), 3) := dk_167 255 196 (dk_at dksX0_nextOf_3 14 rfl rfl)
theorem dX0_nextOf_88 : decode cX0_nextOf 88 = .ok (.iload_n 3, 1) := dk_29 (dk_at dksX0_nextOf_3 17 rfl rfl)
theorem dX0_nextOf_89 : decode cX0_nextOf 89 = .ok (.ireturn, 1) := dk_172 (dk_at dksX0_nextOf_3 18 rfl rfl)
abbrev cX0_worthOf : ByteArray := prog_1_method_23_code
def yX0_worthOf : MethodName := ⟨RX0, "worthOf", "(II)I"⟩
def dkwX0_worthOf_0 : List UInt8 := [42, 27, 182, 0, 143, 78, 45, 28, 185, 0, 153, 2, 0, 172]
abbrev dktX0_worthOf_0 : List UInt8 := dkwX0_worthOf_0 ++ []
theorem dksX0_worthOf_0 : cX0_worthOf.data.toList.drop 0 = dktX0_worthOf_0 := by decide +kernel
theorem dX0_worthOf_0 : decode cX0_worthOf 0 = .ok (.aload_n 0, 1) := dk_42 (dk_at dksX0_worthOf_0 0 rfl rfl)
theorem dX0_worthOf_1 : decode cX0_worthOf 1 = .ok (.iload_n 1, 1) := dk_27 (dk_at dksX0_worthOf_0 1 rfl rfl)
theorem dX0_worthOf_2 : decode cX0_worthOf 2 = .ok (.invokevirtual 143, 3) := dk_182 0 143 (dk_at dksX0_worthOf_0 2 rfl rfl)
theorem dX0_worthOf_5 : decode cX0_worthOf 5 = .ok (.astore_n 3, 1) := dk_78 (dk_at dksX0_worthOf_0 5 rfl rfl)
theorem dX0_worthOf_6 : decode cX0_worthOf 6 = .ok (.aload_n 3, 1) := dk_45 (dk_at dksX0_worthOf_0 6 rfl rfl)
theorem dX0_worthOf_7 : decode cX0_worthOf 7 = .ok (.iload_n 2, 1) := dk_28 (dk_at dksX0_worthOf_0 7 rfl rfl)
theorem dX0_worthOf_8 : decode cX0_worthOf 8 = .ok (.invokeinterface 153 2, 5) := by decide +kernel
theorem dX0_worthOf_13 : decode cX0_worthOf 13 = .ok (.ireturn, 1) := dk_172 (dk_at dksX0_worthOf_0 13 rfl rfl)
abbrev cX0_nearest : ByteArray := prog_1_method_22_code
def yX0_nearest : MethodName := ⟨RX0, "nearest", "(III)I"⟩
def dkwX0_nearest_4 : List UInt8 := [21, 7, 167, 0, 5, 21, 4, 54, 4, 132, 5, 1, 167, 255, 158, 21, 4, 172]
abbrev dktX0_nearest_4 : List UInt8 := dkwX0_nearest_4 ++ []
def dkwX0_nearest_3 : List UInt8 := [184, 0, 150, 54, 7, 21, 6, 153, 0, 21, 21, 4, 2, 159, 0, 10, 21, 7, 21, 4, 162, 0, 8]
abbrev dktX0_nearest_3 : List UInt8 := dkwX0_nearest_3 ++ dktX0_nearest_4
def dkwX0_nearest_2 : List UInt8 := [153, 0, 7, 4, 167, 0, 4, 3, 54, 6, 42, 180, 0, 78, 180, 0, 123, 4, 50, 21, 5, 46, 28]
abbrev dktX0_nearest_2 : List UInt8 := dkwX0_nearest_2 ++ dktX0_nearest_3
def dkwX0_nearest_1 : List UInt8 := [42, 180, 0, 78, 21, 5, 182, 0, 140, 154, 0, 20, 42, 21, 5, 182, 0, 143, 29, 182, 0, 147]
abbrev dktX0_nearest_1 : List UInt8 := dkwX0_nearest_1 ++ dktX0_nearest_2
def dkwX0_nearest_0 : List UInt8 := [2, 54, 4, 3, 54, 5, 21, 5, 42, 180, 0, 78, 180, 0, 136, 162, 0, 92, 21, 5, 27, 159, 0, 32]
abbrev dktX0_nearest_0 : List UInt8 := dkwX0_nearest_0 ++ dktX0_nearest_1
theorem dksX0_nearest_0 : cX0_nearest.data.toList.drop 0 = dktX0_nearest_0 := by decide +kernel
theorem dksX0_nearest_1 : cX0_nearest.data.toList.drop 24 = dktX0_nearest_1 := dk_seg dksX0_nearest_0 24 rfl rfl
theorem dksX0_nearest_2 : cX0_nearest.data.toList.drop 46 = dktX0_nearest_2 := dk_seg dksX0_nearest_1 22 rfl rfl
theorem dksX0_nearest_3 : cX0_nearest.data.toList.drop 69 = dktX0_nearest_3 := dk_seg dksX0_nearest_2 23 rfl rfl
theorem dksX0_nearest_4 : cX0_nearest.data.toList.drop 92 = dktX0_nearest_4 := dk_seg dksX0_nearest_3 23 rfl rfl
theorem dX0_nearest_0 : decode cX0_nearest 0 = .ok (.iconst (-1), 1) := dk_2 (dk_at dksX0_nearest_0 0 rfl rfl)
theorem dX0_nearest_1 : decode cX0_nearest 1 = .ok (.istore 4, 2) := dk_54 4 (dk_at dksX0_nearest_0 1 rfl rfl)
theorem dX0_nearest_3 : decode cX0_nearest 3 = .ok (.iconst 0, 1) := dk_3 (dk_at dksX0_nearest_0 3 rfl rfl)
theorem dX0_nearest_4 : decode cX0_nearest 4 = .ok (.istore 5, 2) := dk_54 5 (dk_at dksX0_nearest_0 4 rfl rfl)
theorem dX0_nearest_6 : decode cX0_nearest 6 = .ok (.iload 5, 2) := dk_21 5 (dk_at dksX0_nearest_0 6 rfl rfl)
theorem dX0_nearest_8 : decode cX0_nearest 8 = .ok (.aload_n 0, 1) := dk_42 (dk_at dksX0_nearest_0 8 rfl rfl)
theorem dX0_nearest_9 : decode cX0_nearest 9 = .ok (.getfield 78, 3) := dk_180 0 78 (dk_at dksX0_nearest_0 9 rfl rfl)
theorem dX0_nearest_12 : decode cX0_nearest 12 = .ok (.getfield 136, 3) := dk_180 0 136 (dk_at dksX0_nearest_0 12 rfl rfl)
theorem dX0_nearest_15 : decode cX0_nearest 15 = .ok (.if_icmp .ge 92, 3) := dk_162 0 92 (dk_at dksX0_nearest_0 15 rfl rfl)
theorem dX0_nearest_18 : decode cX0_nearest 18 = .ok (.iload 5, 2) := dk_21 5 (dk_at dksX0_nearest_0 18 rfl rfl)
theorem dX0_nearest_20 : decode cX0_nearest 20 = .ok (.iload_n 1, 1) := dk_27 (dk_at dksX0_nearest_0 20 rfl rfl)
theorem dX0_nearest_21 : decode cX0_nearest 21 = .ok (.if_icmp .eq 32, 3) := dk_159 0 32 (dk_at dksX0_nearest_0 21 rfl rfl)
theorem dX0_nearest_24 : decode cX0_nearest 24 = .ok (.aload_n 0, 1) := dk_42 (dk_at dksX0_nearest_1 0 rfl rfl)
theorem dX0_nearest_25 : decode cX0_nearest 25 = .ok (.getfield 78, 3) := dk_180 0 78 (dk_at dksX0_nearest_1 1 rfl rfl)
theorem dX0_nearest_28 : decode cX0_nearest 28 = .ok (.iload 5, 2) := dk_21 5 (dk_at dksX0_nearest_1 4 rfl rfl)
theorem dX0_nearest_30 : decode cX0_nearest 30 = .ok (.invokevirtual 140, 3) := dk_182 0 140 (dk_at dksX0_nearest_1 6 rfl rfl)
theorem dX0_nearest_33 : decode cX0_nearest 33 = .ok (.ifCond .ne 20, 3) := dk_154 0 20 (dk_at dksX0_nearest_1 9 rfl rfl)
theorem dX0_nearest_36 : decode cX0_nearest 36 = .ok (.aload_n 0, 1) := dk_42 (dk_at dksX0_nearest_1 12 rfl rfl)
theorem dX0_nearest_37 : decode cX0_nearest 37 = .ok (.iload 5, 2) := dk_21 5 (dk_at dksX0_nearest_1 13 rfl rfl)
theorem dX0_nearest_39 : decode cX0_nearest 39 = .ok (.invokevirtual 143, 3) := dk_182 0 143 (dk_at dksX0_nearest_1 15 rfl rfl)
theorem dX0_nearest_42 : decode cX0_nearest 42 = .ok (.iload_n 3, 1) := dk_29 (dk_at dksX0_nearest_1 18 rfl rfl)
theorem dX0_nearest_43 : decode cX0_nearest 43 = .ok (.invokevirtual 147, 3) := dk_182 0 147 (dk_at dksX0_nearest_1 19 rfl rfl)
theorem dX0_nearest_46 : decode cX0_nearest 46 = .ok (.ifCond .eq 7, 3) := dk_153 0 7 (dk_at dksX0_nearest_2 0 rfl rfl)
theorem dX0_nearest_49 : decode cX0_nearest 49 = .ok (.iconst 1, 1) := dk_4 (dk_at dksX0_nearest_2 3 rfl rfl)
theorem dX0_nearest_50 : decode cX0_nearest 50 = .ok (.goto 4, 3) := dk_167 0 4 (dk_at dksX0_nearest_2 4 rfl rfl)
theorem dX0_nearest_53 : decode cX0_nearest 53 = .ok (.iconst 0, 1) := dk_3 (dk_at dksX0_nearest_2 7 rfl rfl)
theorem dX0_nearest_54 : decode cX0_nearest 54 = .ok (.istore 6, 2) := dk_54 6 (dk_at dksX0_nearest_2 8 rfl rfl)
theorem dX0_nearest_56 : decode cX0_nearest 56 = .ok (.aload_n 0, 1) := dk_42 (dk_at dksX0_nearest_2 10 rfl rfl)
theorem dX0_nearest_57 : decode cX0_nearest 57 = .ok (.getfield 78, 3) := dk_180 0 78 (dk_at dksX0_nearest_2 11 rfl rfl)
theorem dX0_nearest_60 : decode cX0_nearest 60 = .ok (.getfield 123, 3) := dk_180 0 123 (dk_at dksX0_nearest_2 14 rfl rfl)
theorem dX0_nearest_63 : decode cX0_nearest 63 = .ok (.iconst 1, 1) := dk_4 (dk_at dksX0_nearest_2 17 rfl rfl)
theorem dX0_nearest_64 : decode cX0_nearest 64 = .ok (.aaload, 1) := dk_50 (dk_at dksX0_nearest_2 18 rfl rfl)
theorem dX0_nearest_65 : decode cX0_nearest 65 = .ok (.iload 5, 2) := dk_21 5 (dk_at dksX0_nearest_2 19 rfl rfl)
theorem dX0_nearest_67 : decode cX0_nearest 67 = .ok (.iaload, 1) := dk_46 (dk_at dksX0_nearest_2 21 rfl rfl)
theorem dX0_nearest_68 : decode cX0_nearest 68 = .ok (.iload_n 2, 1) := dk_28 (dk_at dksX0_nearest_2 22 rfl rfl)
theorem dX0_nearest_69 : decode cX0_nearest 69 = .ok (.invokestatic 150, 3) := dk_184 0 150 (dk_at dksX0_nearest_3 0 rfl rfl)
theorem dX0_nearest_72 : decode cX0_nearest 72 = .ok (.istore 7, 2) := dk_54 7 (dk_at dksX0_nearest_3 3 rfl rfl)
theorem dX0_nearest_74 : decode cX0_nearest 74 = .ok (.iload 6, 2) := dk_21 6 (dk_at dksX0_nearest_3 5 rfl rfl)
theorem dX0_nearest_76 : decode cX0_nearest 76 = .ok (.ifCond .eq 21, 3) := dk_153 0 21 (dk_at dksX0_nearest_3 7 rfl rfl)
theorem dX0_nearest_79 : decode cX0_nearest 79 = .ok (.iload 4, 2) := dk_21 4 (dk_at dksX0_nearest_3 10 rfl rfl)
theorem dX0_nearest_81 : decode cX0_nearest 81 = .ok (.iconst (-1), 1) := dk_2 (dk_at dksX0_nearest_3 12 rfl rfl)
theorem dX0_nearest_82 : decode cX0_nearest 82 = .ok (.if_icmp .eq 10, 3) := dk_159 0 10 (dk_at dksX0_nearest_3 13 rfl rfl)
theorem dX0_nearest_85 : decode cX0_nearest 85 = .ok (.iload 7, 2) := dk_21 7 (dk_at dksX0_nearest_3 16 rfl rfl)
theorem dX0_nearest_87 : decode cX0_nearest 87 = .ok (.iload 4, 2) := dk_21 4 (dk_at dksX0_nearest_3 18 rfl rfl)
theorem dX0_nearest_89 : decode cX0_nearest 89 = .ok (.if_icmp .ge 8, 3) := dk_162 0 8 (dk_at dksX0_nearest_3 20 rfl rfl)
theorem dX0_nearest_92 : decode cX0_nearest 92 = .ok (.iload 7, 2) := dk_21 7 (dk_at dksX0_nearest_4 0 rfl rfl)
theorem dX0_nearest_94 : decode cX0_nearest 94 = .ok (.goto 5, 3) := dk_167 0 5 (dk_at dksX0_nearest_4 2 rfl rfl)
theorem dX0_nearest_97 : decode cX0_nearest 97 = .ok (.iload 4, 2) := dk_21 4 (dk_at dksX0_nearest_4 5 rfl rfl)
theorem dX0_nearest_99 : decode cX0_nearest 99 = .ok (.istore 4, 2) := dk_54 4 (dk_at dksX0_nearest_4 7 rfl rfl)
theorem dX0_nearest_101 : decode cX0_nearest 101 = .ok (.iinc 5 1, 3) := dk_132 5 1 (dk_at dksX0_nearest_4 9 rfl rfl)
theorem dX0_nearest_104 : decode cX0_nearest 104 = .ok (.goto (-98), 3) := dk_167 255 158 (dk_at dksX0_nearest_4 12 rfl rfl)
theorem dX0_nearest_107 : decode cX0_nearest 107 = .ok (.iload 4, 2) := dk_21 4 (dk_at dksX0_nearest_4 15 rfl rfl)
theorem dX0_nearest_109 : decode cX0_nearest 109 = .ok (.ireturn, 1) := dk_172 (dk_at dksX0_nearest_4 17 rfl rfl)
abbrev cX0_beside : ByteArray := prog_1_method_12_code
def yX0_beside : MethodName := ⟨RX0, "beside", "(II)I"⟩
def dkwX0_beside_4 : List UInt8 := [16, 8, 112, 158, 0, 9, 26, 4, 100, 167, 0, 4, 2, 172]
abbrev dktX0_beside_4 : List UInt8 := dkwX0_beside_4 ++ []
def dkwX0_beside_3 : List UInt8 := [26, 4, 96, 167, 0, 4, 2, 172, 26, 16, 56, 162, 0, 10, 26, 16, 8, 96, 167, 0, 4, 2, 172, 26]
abbrev dktX0_beside_3 : List UInt8 := dkwX0_beside_3 ++ dktX0_beside_4
def dkwX0_beside_2 : List UInt8 := [26, 16, 8, 161, 0, 10, 26, 16, 8, 100, 167, 0, 4, 2, 172, 26, 16, 8, 112, 16, 7, 162, 0, 9]
abbrev dktX0_beside_2 : List UInt8 := dkwX0_beside_2 ++ dktX0_beside_3
def dkwX0_beside_1 : List UInt8 := [170, 0, 0, 0, 0, 0, 74, 0, 0, 0, 0, 0, 0, 0, 2, 0, 0, 0, 27, 0, 0, 0, 42, 0, 0, 0, 59]
abbrev dktX0_beside_1 : List UInt8 := dkwX0_beside_1 ++ dktX0_beside_2
def dkwX0_beside_0 : List UInt8 := [27]
abbrev dktX0_beside_0 : List UInt8 := dkwX0_beside_0 ++ dktX0_beside_1
theorem dksX0_beside_0 : cX0_beside.data.toList.drop 0 = dktX0_beside_0 := by decide +kernel
theorem dksX0_beside_1 : cX0_beside.data.toList.drop 1 = dktX0_beside_1 := dk_seg dksX0_beside_0 1 rfl rfl
theorem dksX0_beside_2 : cX0_beside.data.toList.drop 28 = dktX0_beside_2 := dk_seg dksX0_beside_1 27 rfl rfl
theorem dksX0_beside_3 : cX0_beside.data.toList.drop 52 = dktX0_beside_3 := dk_seg dksX0_beside_2 24 rfl rfl
theorem dksX0_beside_4 : cX0_beside.data.toList.drop 76 = dktX0_beside_4 := dk_seg dksX0_beside_3 24 rfl rfl
theorem dX0_beside_0 : decode cX0_beside 0 = .ok (.iload_n 1, 1) := dk_27 (dk_at dksX0_beside_0 0 rfl rfl)
theorem dX0_beside_1 : decode cX0_beside 1 = .ok (.tableswitch 74 0 2 #[27, 42, 59], 27) := by decide +kernel
theorem dX0_beside_28 : decode cX0_beside 28 = .ok (.iload_n 0, 1) := dk_26 (dk_at dksX0_beside_2 0 rfl rfl)
theorem dX0_beside_29 : decode cX0_beside 29 = .ok (.bipush 8, 2) := dk_16 8 (dk_at dksX0_beside_2 1 rfl rfl)
theorem dX0_beside_31 : decode cX0_beside 31 = .ok (.if_icmp .lt 10, 3) := dk_161 0 10 (dk_at dksX0_beside_2 3 rfl rfl)
theorem dX0_beside_34 : decode cX0_beside 34 = .ok (.iload_n 0, 1) := dk_26 (dk_at dksX0_beside_2 6 rfl rfl)
theorem dX0_beside_35 : decode cX0_beside 35 = .ok (.bipush 8, 2) := dk_16 8 (dk_at dksX0_beside_2 7 rfl rfl)
theorem dX0_beside_37 : decode cX0_beside 37 = .ok (.isub, 1) := dk_100 (dk_at dksX0_beside_2 9 rfl rfl)
theorem dX0_beside_38 : decode cX0_beside 38 = .ok (.goto 4, 3) := dk_167 0 4 (dk_at dksX0_beside_2 10 rfl rfl)
theorem dX0_beside_41 : decode cX0_beside 41 = .ok (.iconst (-1), 1) := dk_2 (dk_at dksX0_beside_2 13 rfl rfl)
theorem dX0_beside_42 : decode cX0_beside 42 = .ok (.ireturn, 1) := dk_172 (dk_at dksX0_beside_2 14 rfl rfl)
theorem dX0_beside_43 : decode cX0_beside 43 = .ok (.iload_n 0, 1) := dk_26 (dk_at dksX0_beside_2 15 rfl rfl)
theorem dX0_beside_44 : decode cX0_beside 44 = .ok (.bipush 8, 2) := dk_16 8 (dk_at dksX0_beside_2 16 rfl rfl)
theorem dX0_beside_46 : decode cX0_beside 46 = .ok (.irem, 1) := dk_112 (dk_at dksX0_beside_2 18 rfl rfl)
theorem dX0_beside_47 : decode cX0_beside 47 = .ok (.bipush 7, 2) := dk_16 7 (dk_at dksX0_beside_2 19 rfl rfl)
theorem dX0_beside_49 : decode cX0_beside 49 = .ok (.if_icmp .ge 9, 3) := dk_162 0 9 (dk_at dksX0_beside_2 21 rfl rfl)
theorem dX0_beside_52 : decode cX0_beside 52 = .ok (.iload_n 0, 1) := dk_26 (dk_at dksX0_beside_3 0 rfl rfl)
theorem dX0_beside_53 : decode cX0_beside 53 = .ok (.iconst 1, 1) := dk_4 (dk_at dksX0_beside_3 1 rfl rfl)
theorem dX0_beside_54 : decode cX0_beside 54 = .ok (.iadd, 1) := dk_96 (dk_at dksX0_beside_3 2 rfl rfl)
theorem dX0_beside_55 : decode cX0_beside 55 = .ok (.goto 4, 3) := dk_167 0 4 (dk_at dksX0_beside_3 3 rfl rfl)
theorem dX0_beside_58 : decode cX0_beside 58 = .ok (.iconst (-1), 1) := dk_2 (dk_at dksX0_beside_3 6 rfl rfl)
theorem dX0_beside_59 : decode cX0_beside 59 = .ok (.ireturn, 1) := dk_172 (dk_at dksX0_beside_3 7 rfl rfl)
theorem dX0_beside_60 : decode cX0_beside 60 = .ok (.iload_n 0, 1) := dk_26 (dk_at dksX0_beside_3 8 rfl rfl)
theorem dX0_beside_61 : decode cX0_beside 61 = .ok (.bipush 56, 2) := dk_16 56 (dk_at dksX0_beside_3 9 rfl rfl)
theorem dX0_beside_63 : decode cX0_beside 63 = .ok (.if_icmp .ge 10, 3) := dk_162 0 10 (dk_at dksX0_beside_3 11 rfl rfl)
theorem dX0_beside_66 : decode cX0_beside 66 = .ok (.iload_n 0, 1) := dk_26 (dk_at dksX0_beside_3 14 rfl rfl)
theorem dX0_beside_67 : decode cX0_beside 67 = .ok (.bipush 8, 2) := dk_16 8 (dk_at dksX0_beside_3 15 rfl rfl)
theorem dX0_beside_69 : decode cX0_beside 69 = .ok (.iadd, 1) := dk_96 (dk_at dksX0_beside_3 17 rfl rfl)
theorem dX0_beside_70 : decode cX0_beside 70 = .ok (.goto 4, 3) := dk_167 0 4 (dk_at dksX0_beside_3 18 rfl rfl)
theorem dX0_beside_73 : decode cX0_beside 73 = .ok (.iconst (-1), 1) := dk_2 (dk_at dksX0_beside_3 21 rfl rfl)
theorem dX0_beside_74 : decode cX0_beside 74 = .ok (.ireturn, 1) := dk_172 (dk_at dksX0_beside_3 22 rfl rfl)
theorem dX0_beside_75 : decode cX0_beside 75 = .ok (.iload_n 0, 1) := dk_26 (dk_at dksX0_beside_3 23 rfl rfl)
theorem dX0_beside_76 : decode cX0_beside 76 = .ok (.bipush 8, 2) := dk_16 8 (dk_at dksX0_beside_4 0 rfl rfl)
theorem dX0_beside_78 : decode cX0_beside 78 = .ok (.irem, 1) := dk_112 (dk_at dksX0_beside_4 2 rfl rfl)
theorem dX0_beside_79 : decode cX0_beside 79 = .ok (.ifCond .le 9, 3) := dk_158 0 9 (dk_at dksX0_beside_4 3 rfl rfl)
theorem dX0_beside_82 : decode cX0_beside 82 = .ok (.iload_n 0, 1) := dk_26 (dk_at dksX0_beside_4 6 rfl rfl)
theorem dX0_beside_83 : decode cX0_beside 83 = .ok (.iconst 1, 1) := dk_4 (dk_at dksX0_beside_4 7 rfl rfl)
theorem dX0_beside_84 : decode cX0_beside 84 = .ok (.isub, 1) := dk_100 (dk_at dksX0_beside_4 8 rfl rfl)
theorem dX0_beside_85 : decode cX0_beside 85 = .ok (.goto 4, 3) := dk_167 0 4 (dk_at dksX0_beside_4 9 rfl rfl)
theorem dX0_beside_88 : decode cX0_beside 88 = .ok (.iconst (-1), 1) := dk_2 (dk_at dksX0_beside_4 12 rfl rfl)
theorem dX0_beside_89 : decode cX0_beside 89 = .ok (.ireturn, 1) := dk_172 (dk_at dksX0_beside_4 13 rfl rfl)
abbrev cX0_change : ByteArray := prog_1_method_34_code
def yX0_change : MethodName := ⟨RX0, "change", "(III)I"⟩
def dkwX0_change_2 : List UInt8 := [21, 4, 172]
abbrev dktX0_change_2 : List UInt8 := dkwX0_change_2 ++ []
def dkwX0_change_1 : List UInt8 := [180, 0, 78, 180, 0, 123, 28, 50, 27, 46, 54, 4, 42, 180, 0, 78, 180, 0, 123, 28, 50, 27, 29, 79]
abbrev dktX0_change_1 : List UInt8 := dkwX0_change_1 ++ dktX0_change_2
def dkwX0_change_0 : List UInt8 := [42, 27, 182, 0, 195, 153, 0, 11, 28, 29, 184, 0, 202, 154, 0, 9, 42, 3, 182, 0, 138, 172, 42]
abbrev dktX0_change_0 : List UInt8 := dkwX0_change_0 ++ dktX0_change_1
theorem dksX0_change_0 : cX0_change.data.toList.drop 0 = dktX0_change_0 := by decide +kernel
theorem dksX0_change_1 : cX0_change.data.toList.drop 23 = dktX0_change_1 := dk_seg dksX0_change_0 23 rfl rfl
theorem dksX0_change_2 : cX0_change.data.toList.drop 47 = dktX0_change_2 := dk_seg dksX0_change_1 24 rfl rfl
theorem dX0_change_0 : decode cX0_change 0 = .ok (.aload_n 0, 1) := dk_42 (dk_at dksX0_change_0 0 rfl rfl)
theorem dX0_change_1 : decode cX0_change 1 = .ok (.iload_n 1, 1) := dk_27 (dk_at dksX0_change_0 1 rfl rfl)
theorem dX0_change_2 : decode cX0_change 2 = .ok (.invokevirtual 195, 3) := dk_182 0 195 (dk_at dksX0_change_0 2 rfl rfl)
theorem dX0_change_5 : decode cX0_change 5 = .ok (.ifCond .eq 11, 3) := dk_153 0 11 (dk_at dksX0_change_0 5 rfl rfl)
theorem dX0_change_8 : decode cX0_change 8 = .ok (.iload_n 2, 1) := dk_28 (dk_at dksX0_change_0 8 rfl rfl)
theorem dX0_change_9 : decode cX0_change 9 = .ok (.iload_n 3, 1) := dk_29 (dk_at dksX0_change_0 9 rfl rfl)
theorem dX0_change_10 : decode cX0_change 10 = .ok (.invokestatic 202, 3) := dk_184 0 202 (dk_at dksX0_change_0 10 rfl rfl)
theorem dX0_change_13 : decode cX0_change 13 = .ok (.ifCond .ne 9, 3) := dk_154 0 9 (dk_at dksX0_change_0 13 rfl rfl)
theorem dX0_change_16 : decode cX0_change 16 = .ok (.aload_n 0, 1) := dk_42 (dk_at dksX0_change_0 16 rfl rfl)
theorem dX0_change_17 : decode cX0_change 17 = .ok (.iconst 0, 1) := dk_3 (dk_at dksX0_change_0 17 rfl rfl)
theorem dX0_change_18 : decode cX0_change 18 = .ok (.invokevirtual 138, 3) := dk_182 0 138 (dk_at dksX0_change_0 18 rfl rfl)
theorem dX0_change_21 : decode cX0_change 21 = .ok (.ireturn, 1) := dk_172 (dk_at dksX0_change_0 21 rfl rfl)
theorem dX0_change_22 : decode cX0_change 22 = .ok (.aload_n 0, 1) := dk_42 (dk_at dksX0_change_0 22 rfl rfl)
theorem dX0_change_23 : decode cX0_change 23 = .ok (.getfield 78, 3) := dk_180 0 78 (dk_at dksX0_change_1 0 rfl rfl)
theorem dX0_change_26 : decode cX0_change 26 = .ok (.getfield 123, 3) := dk_180 0 123 (dk_at dksX0_change_1 3 rfl rfl)
theorem dX0_change_29 : decode cX0_change 29 = .ok (.iload_n 2, 1) := dk_28 (dk_at dksX0_change_1 6 rfl rfl)
theorem dX0_change_30 : decode cX0_change 30 = .ok (.aaload, 1) := dk_50 (dk_at dksX0_change_1 7 rfl rfl)
theorem dX0_change_31 : decode cX0_change 31 = .ok (.iload_n 1, 1) := dk_27 (dk_at dksX0_change_1 8 rfl rfl)
theorem dX0_change_32 : decode cX0_change 32 = .ok (.iaload, 1) := dk_46 (dk_at dksX0_change_1 9 rfl rfl)
theorem dX0_change_33 : decode cX0_change 33 = .ok (.istore 4, 2) := dk_54 4 (dk_at dksX0_change_1 10 rfl rfl)
theorem dX0_change_35 : decode cX0_change 35 = .ok (.aload_n 0, 1) := dk_42 (dk_at dksX0_change_1 12 rfl rfl)
theorem dX0_change_36 : decode cX0_change 36 = .ok (.getfield 78, 3) := dk_180 0 78 (dk_at dksX0_change_1 13 rfl rfl)
theorem dX0_change_39 : decode cX0_change 39 = .ok (.getfield 123, 3) := dk_180 0 123 (dk_at dksX0_change_1 16 rfl rfl)
theorem dX0_change_42 : decode cX0_change 42 = .ok (.iload_n 2, 1) := dk_28 (dk_at dksX0_change_1 19 rfl rfl)
theorem dX0_change_43 : decode cX0_change 43 = .ok (.aaload, 1) := dk_50 (dk_at dksX0_change_1 20 rfl rfl)
theorem dX0_change_44 : decode cX0_change 44 = .ok (.iload_n 1, 1) := dk_27 (dk_at dksX0_change_1 21 rfl rfl)
theorem dX0_change_45 : decode cX0_change 45 = .ok (.iload_n 3, 1) := dk_29 (dk_at dksX0_change_1 22 rfl rfl)
theorem dX0_change_46 : decode cX0_change 46 = .ok (.iastore, 1) := dk_79 (dk_at dksX0_change_1 23 rfl rfl)
theorem dX0_change_47 : decode cX0_change 47 = .ok (.iload 4, 2) := dk_21 4 (dk_at dksX0_change_2 0 rfl rfl)
theorem dX0_change_49 : decode cX0_change 49 = .ok (.ireturn, 1) := dk_172 (dk_at dksX0_change_2 2 rfl rfl)
abbrev cX0_isTold : ByteArray := prog_1_method_10_code
def yX0_isTold : MethodName := ⟨RX0, "isTold", "(II)Z"⟩
def dkwX0_isTold_3 : List UInt8 := [3, 4, 184, 0, 9, 172, 3, 172]
abbrev dktX0_isTold_3 : List UInt8 := dkwX0_isTold_3 ++ []
def dkwX0_isTold_2 : List UInt8 := [27, 184, 0, 13, 172, 27, 184, 0, 17, 172, 27, 3, 16, 11, 184, 0, 9, 172, 27, 184, 0, 20, 172, 27]
abbrev dktX0_isTold_2 : List UInt8 := dkwX0_isTold_2 ++ dktX0_isTold_3
def dkwX0_isTold_1 : List UInt8 := [170, 0, 0, 0, 0, 0, 65, 0, 0, 0, 0, 0, 0, 0, 4, 0, 0, 0, 35, 0, 0, 0, 40, 0, 0, 0, 45, 0, 0, 0, 53, 0, 0, 0, 58]
abbrev dktX0_isTold_1 : List UInt8 := dkwX0_isTold_1 ++ dktX0_isTold_2
def dkwX0_isTold_0 : List UInt8 := [26]
abbrev dktX0_isTold_0 : List UInt8 := dkwX0_isTold_0 ++ dktX0_isTold_1
theorem dksX0_isTold_0 : cX0_isTold.data.toList.drop 0 = dktX0_isTold_0 := by decide +kernel
theorem dksX0_isTold_1 : cX0_isTold.data.toList.drop 1 = dktX0_isTold_1 := dk_seg dksX0_isTold_0 1 rfl rfl
theorem dksX0_isTold_2 : cX0_isTold.data.toList.drop 36 = dktX0_isTold_2 := dk_seg dksX0_isTold_1 35 rfl rfl
theorem dksX0_isTold_3 : cX0_isTold.data.toList.drop 60 = dktX0_isTold_3 := dk_seg dksX0_isTold_2 24 rfl rfl
theorem dX0_isTold_0 : decode cX0_isTold 0 = .ok (.iload_n 0, 1) := dk_26 (dk_at dksX0_isTold_0 0 rfl rfl)
theorem dX0_isTold_1 : decode cX0_isTold 1 = .ok (.tableswitch 65 0 4 #[35, 40, 45, 53, 58], 35) := by decide +kernel
theorem dX0_isTold_36 : decode cX0_isTold 36 = .ok (.iload_n 1, 1) := dk_27 (dk_at dksX0_isTold_2 0 rfl rfl)
theorem dX0_isTold_37 : decode cX0_isTold 37 = .ok (.invokestatic 13, 3) := dk_184 0 13 (dk_at dksX0_isTold_2 1 rfl rfl)
theorem dX0_isTold_40 : decode cX0_isTold 40 = .ok (.ireturn, 1) := dk_172 (dk_at dksX0_isTold_2 4 rfl rfl)
theorem dX0_isTold_41 : decode cX0_isTold 41 = .ok (.iload_n 1, 1) := dk_27 (dk_at dksX0_isTold_2 5 rfl rfl)
theorem dX0_isTold_42 : decode cX0_isTold 42 = .ok (.invokestatic 17, 3) := dk_184 0 17 (dk_at dksX0_isTold_2 6 rfl rfl)
theorem dX0_isTold_45 : decode cX0_isTold 45 = .ok (.ireturn, 1) := dk_172 (dk_at dksX0_isTold_2 9 rfl rfl)
theorem dX0_isTold_46 : decode cX0_isTold 46 = .ok (.iload_n 1, 1) := dk_27 (dk_at dksX0_isTold_2 10 rfl rfl)
theorem dX0_isTold_47 : decode cX0_isTold 47 = .ok (.iconst 0, 1) := dk_3 (dk_at dksX0_isTold_2 11 rfl rfl)
theorem dX0_isTold_48 : decode cX0_isTold 48 = .ok (.bipush 11, 2) := dk_16 11 (dk_at dksX0_isTold_2 12 rfl rfl)
theorem dX0_isTold_50 : decode cX0_isTold 50 = .ok (.invokestatic 9, 3) := dk_184 0 9 (dk_at dksX0_isTold_2 14 rfl rfl)
theorem dX0_isTold_53 : decode cX0_isTold 53 = .ok (.ireturn, 1) := dk_172 (dk_at dksX0_isTold_2 17 rfl rfl)
theorem dX0_isTold_54 : decode cX0_isTold 54 = .ok (.iload_n 1, 1) := dk_27 (dk_at dksX0_isTold_2 18 rfl rfl)
theorem dX0_isTold_55 : decode cX0_isTold 55 = .ok (.invokestatic 20, 3) := dk_184 0 20 (dk_at dksX0_isTold_2 19 rfl rfl)
theorem dX0_isTold_58 : decode cX0_isTold 58 = .ok (.ireturn, 1) := dk_172 (dk_at dksX0_isTold_2 22 rfl rfl)
theorem dX0_isTold_59 : decode cX0_isTold 59 = .ok (.iload_n 1, 1) := dk_27 (dk_at dksX0_isTold_2 23 rfl rfl)
theorem dX0_isTold_60 : decode cX0_isTold 60 = .ok (.iconst 0, 1) := dk_3 (dk_at dksX0_isTold_3 0 rfl rfl)
theorem dX0_isTold_61 : decode cX0_isTold 61 = .ok (.iconst 1, 1) := dk_4 (dk_at dksX0_isTold_3 1 rfl rfl)
theorem dX0_isTold_62 : decode cX0_isTold 62 = .ok (.invokestatic 9, 3) := dk_184 0 9 (dk_at dksX0_isTold_3 2 rfl rfl)
theorem dX0_isTold_65 : decode cX0_isTold 65 = .ok (.ireturn, 1) := dk_172 (dk_at dksX0_isTold_3 5 rfl rfl)
theorem dX0_isTold_66 : decode cX0_isTold 66 = .ok (.iconst 0, 1) := dk_3 (dk_at dksX0_isTold_3 6 rfl rfl)
theorem dX0_isTold_67 : decode cX0_isTold 67 = .ok (.ireturn, 1) := dk_172 (dk_at dksX0_isTold_3 7 rfl rfl)
abbrev cX0_isWeight : ByteArray := prog_1_method_9_code
def yX0_isWeight : MethodName := ⟨RX0, "isWeight", "(I)Z"⟩
def dkwX0_isWeight_0 : List UInt8 := [26, 4, 16, 99, 184, 0, 9, 172]
abbrev dktX0_isWeight_0 : List UInt8 := dkwX0_isWeight_0 ++ []
theorem dksX0_isWeight_0 : cX0_isWeight.data.toList.drop 0 = dktX0_isWeight_0 := by decide +kernel
theorem dX0_isWeight_0 : decode cX0_isWeight 0 = .ok (.iload_n 0, 1) := dk_26 (dk_at dksX0_isWeight_0 0 rfl rfl)
theorem dX0_isWeight_1 : decode cX0_isWeight 1 = .ok (.iconst 1, 1) := dk_4 (dk_at dksX0_isWeight_0 1 rfl rfl)
theorem dX0_isWeight_2 : decode cX0_isWeight 2 = .ok (.bipush 99, 2) := dk_16 99 (dk_at dksX0_isWeight_0 2 rfl rfl)
theorem dX0_isWeight_4 : decode cX0_isWeight 4 = .ok (.invokestatic 9, 3) := dk_184 0 9 (dk_at dksX0_isWeight_0 4 rfl rfl)
theorem dX0_isWeight_7 : decode cX0_isWeight 7 = .ok (.ireturn, 1) := dk_172 (dk_at dksX0_isWeight_0 7 rfl rfl)
abbrev cX0_worth : ByteArray := prog_1_method_35_code
def yX0_worth : MethodName := ⟨RX0, "worth", "(II)I"⟩
def dkwX0_worth_1 : List UInt8 := [42, 3, 182, 0, 138, 172]
abbrev dktX0_worth_1 : List UInt8 := dkwX0_worth_1 ++ []
def dkwX0_worth_0 : List UInt8 := [42, 27, 182, 0, 195, 153, 0, 19, 28, 184, 0, 17, 153, 0, 12, 42, 27, 28, 182, 0, 158, 167, 0, 8]
abbrev dktX0_worth_0 : List UInt8 := dkwX0_worth_0 ++ dktX0_worth_1
theorem dksX0_worth_0 : cX0_worth.data.toList.drop 0 = dktX0_worth_0 := by decide +kernel
theorem dksX0_worth_1 : cX0_worth.data.toList.drop 24 = dktX0_worth_1 := dk_seg dksX0_worth_0 24 rfl rfl
theorem dX0_worth_0 : decode cX0_worth 0 = .ok (.aload_n 0, 1) := dk_42 (dk_at dksX0_worth_0 0 rfl rfl)
theorem dX0_worth_1 : decode cX0_worth 1 = .ok (.iload_n 1, 1) := dk_27 (dk_at dksX0_worth_0 1 rfl rfl)
theorem dX0_worth_2 : decode cX0_worth 2 = .ok (.invokevirtual 195, 3) := dk_182 0 195 (dk_at dksX0_worth_0 2 rfl rfl)
theorem dX0_worth_5 : decode cX0_worth 5 = .ok (.ifCond .eq 19, 3) := dk_153 0 19 (dk_at dksX0_worth_0 5 rfl rfl)
theorem dX0_worth_8 : decode cX0_worth 8 = .ok (.iload_n 2, 1) := dk_28 (dk_at dksX0_worth_0 8 rfl rfl)
theorem dX0_worth_9 : decode cX0_worth 9 = .ok (.invokestatic 17, 3) := dk_184 0 17 (dk_at dksX0_worth_0 9 rfl rfl)
theorem dX0_worth_12 : decode cX0_worth 12 = .ok (.ifCond .eq 12, 3) := dk_153 0 12 (dk_at dksX0_worth_0 12 rfl rfl)
theorem dX0_worth_15 : decode cX0_worth 15 = .ok (.aload_n 0, 1) := dk_42 (dk_at dksX0_worth_0 15 rfl rfl)
theorem dX0_worth_16 : decode cX0_worth 16 = .ok (.iload_n 1, 1) := dk_27 (dk_at dksX0_worth_0 16 rfl rfl)
theorem dX0_worth_17 : decode cX0_worth 17 = .ok (.iload_n 2, 1) := dk_28 (dk_at dksX0_worth_0 17 rfl rfl)
theorem dX0_worth_18 : decode cX0_worth 18 = .ok (.invokevirtual 158, 3) := dk_182 0 158 (dk_at dksX0_worth_0 18 rfl rfl)
theorem dX0_worth_21 : decode cX0_worth 21 = .ok (.goto 8, 3) := dk_167 0 8 (dk_at dksX0_worth_0 21 rfl rfl)
theorem dX0_worth_24 : decode cX0_worth 24 = .ok (.aload_n 0, 1) := dk_42 (dk_at dksX0_worth_1 0 rfl rfl)
theorem dX0_worth_25 : decode cX0_worth 25 = .ok (.iconst 0, 1) := dk_3 (dk_at dksX0_worth_1 1 rfl rfl)
theorem dX0_worth_26 : decode cX0_worth 26 = .ok (.invokevirtual 138, 3) := dk_182 0 138 (dk_at dksX0_worth_1 2 rfl rfl)
theorem dX0_worth_29 : decode cX0_worth 29 = .ok (.ireturn, 1) := dk_172 (dk_at dksX0_worth_1 5 rfl rfl)
abbrev cX0_go : ByteArray := prog_1_method_37_code
def yX0_go : MethodName := ⟨RX0, "go", "(I)I"⟩
def dkwX0_go_1 : List UInt8 := [153, 0, 11, 42, 7, 182, 0, 138, 167, 0, 8, 42, 27, 182, 0, 218, 172]
abbrev dktX0_go_1 : List UInt8 := dkwX0_go_1 ++ []
def dkwX0_go_0 : List UInt8 := [27, 4, 16, 24, 184, 0, 9, 154, 0, 9, 42, 3, 182, 0, 138, 172, 42, 180, 0, 78, 27, 182, 0, 215]
abbrev dktX0_go_0 : List UInt8 := dkwX0_go_0 ++ dktX0_go_1
theorem dksX0_go_0 : cX0_go.data.toList.drop 0 = dktX0_go_0 := by decide +kernel
theorem dksX0_go_1 : cX0_go.data.toList.drop 24 = dktX0_go_1 := dk_seg dksX0_go_0 24 rfl rfl
theorem dX0_go_0 : decode cX0_go 0 = .ok (.iload_n 1, 1) := dk_27 (dk_at dksX0_go_0 0 rfl rfl)
theorem dX0_go_1 : decode cX0_go 1 = .ok (.iconst 1, 1) := dk_4 (dk_at dksX0_go_0 1 rfl rfl)
theorem dX0_go_2 : decode cX0_go 2 = .ok (.bipush 24, 2) := dk_16 24 (dk_at dksX0_go_0 2 rfl rfl)
theorem dX0_go_4 : decode cX0_go 4 = .ok (.invokestatic 9, 3) := dk_184 0 9 (dk_at dksX0_go_0 4 rfl rfl)
theorem dX0_go_7 : decode cX0_go 7 = .ok (.ifCond .ne 9, 3) := dk_154 0 9 (dk_at dksX0_go_0 7 rfl rfl)
theorem dX0_go_10 : decode cX0_go 10 = .ok (.aload_n 0, 1) := dk_42 (dk_at dksX0_go_0 10 rfl rfl)
theorem dX0_go_11 : decode cX0_go 11 = .ok (.iconst 0, 1) := dk_3 (dk_at dksX0_go_0 11 rfl rfl)
theorem dX0_go_12 : decode cX0_go 12 = .ok (.invokevirtual 138, 3) := dk_182 0 138 (dk_at dksX0_go_0 12 rfl rfl)
theorem dX0_go_15 : decode cX0_go 15 = .ok (.ireturn, 1) := dk_172 (dk_at dksX0_go_0 15 rfl rfl)
theorem dX0_go_16 : decode cX0_go 16 = .ok (.aload_n 0, 1) := dk_42 (dk_at dksX0_go_0 16 rfl rfl)
theorem dX0_go_17 : decode cX0_go 17 = .ok (.getfield 78, 3) := dk_180 0 78 (dk_at dksX0_go_0 17 rfl rfl)
theorem dX0_go_20 : decode cX0_go 20 = .ok (.iload_n 1, 1) := dk_27 (dk_at dksX0_go_0 20 rfl rfl)
theorem dX0_go_21 : decode cX0_go 21 = .ok (.invokevirtual 215, 3) := dk_182 0 215 (dk_at dksX0_go_0 21 rfl rfl)
theorem dX0_go_24 : decode cX0_go 24 = .ok (.ifCond .eq 11, 3) := dk_153 0 11 (dk_at dksX0_go_1 0 rfl rfl)
theorem dX0_go_27 : decode cX0_go 27 = .ok (.aload_n 0, 1) := dk_42 (dk_at dksX0_go_1 3 rfl rfl)
theorem dX0_go_28 : decode cX0_go 28 = .ok (.iconst 4, 1) := dk_7 (dk_at dksX0_go_1 4 rfl rfl)
theorem dX0_go_29 : decode cX0_go 29 = .ok (.invokevirtual 138, 3) := dk_182 0 138 (dk_at dksX0_go_1 5 rfl rfl)
theorem dX0_go_32 : decode cX0_go 32 = .ok (.goto 8, 3) := dk_167 0 8 (dk_at dksX0_go_1 8 rfl rfl)
theorem dX0_go_35 : decode cX0_go 35 = .ok (.aload_n 0, 1) := dk_42 (dk_at dksX0_go_1 11 rfl rfl)
theorem dX0_go_36 : decode cX0_go 36 = .ok (.iload_n 1, 1) := dk_27 (dk_at dksX0_go_1 12 rfl rfl)
theorem dX0_go_37 : decode cX0_go 37 = .ok (.invokevirtual 218, 3) := dk_182 0 218 (dk_at dksX0_go_1 13 rfl rfl)
theorem dX0_go_40 : decode cX0_go 40 = .ok (.ireturn, 1) := dk_172 (dk_at dksX0_go_1 16 rfl rfl)
abbrev cX0_goesOn : ByteArray := prog_1_method_36_code
def yX0_goesOn : MethodName := ⟨RX0, "goesOn", "(I)I"⟩
def dkwX0_goesOn_0 : List UInt8 := [42, 27, 182, 0, 206, 42, 180, 0, 78, 182, 0, 209, 184, 0, 212, 172]
abbrev dktX0_goesOn_0 : List UInt8 := dkwX0_goesOn_0 ++ []
theorem dksX0_goesOn_0 : cX0_goesOn.data.toList.drop 0 = dktX0_goesOn_0 := by decide +kernel
theorem dX0_goesOn_0 : decode cX0_goesOn 0 = .ok (.aload_n 0, 1) := dk_42 (dk_at dksX0_goesOn_0 0 rfl rfl)
theorem dX0_goesOn_1 : decode cX0_goesOn 1 = .ok (.iload_n 1, 1) := dk_27 (dk_at dksX0_goesOn_0 1 rfl rfl)
theorem dX0_goesOn_2 : decode cX0_goesOn 2 = .ok (.invokevirtual 206, 3) := dk_182 0 206 (dk_at dksX0_goesOn_0 2 rfl rfl)
theorem dX0_goesOn_5 : decode cX0_goesOn 5 = .ok (.aload_n 0, 1) := dk_42 (dk_at dksX0_goesOn_0 5 rfl rfl)
theorem dX0_goesOn_6 : decode cX0_goesOn 6 = .ok (.getfield 78, 3) := dk_180 0 78 (dk_at dksX0_goesOn_0 6 rfl rfl)
theorem dX0_goesOn_9 : decode cX0_goesOn 9 = .ok (.invokevirtual 209, 3) := dk_182 0 209 (dk_at dksX0_goesOn_0 9 rfl rfl)
theorem dX0_goesOn_12 : decode cX0_goesOn 12 = .ok (.invokestatic 212, 3) := dk_184 0 212 (dk_at dksX0_goesOn_0 12 rfl rfl)
theorem dX0_goesOn_15 : decode cX0_goesOn 15 = .ok (.ireturn, 1) := dk_172 (dk_at dksX0_goesOn_0 15 rfl rfl)
abbrev cX0_passes : ByteArray := prog_1_method_26_code
def yX0_passes : MethodName := ⟨RX0, "passes", "(I)V"⟩
def dkwX0_passes_0 : List UInt8 := [3, 61, 28, 27, 162, 0, 13, 42, 182, 0, 173, 132, 2, 1, 167, 255, 244, 177]
abbrev dktX0_passes_0 : List UInt8 := dkwX0_passes_0 ++ []
theorem dksX0_passes_0 : cX0_passes.data.toList.drop 0 = dktX0_passes_0 := by decide +kernel
theorem dX0_passes_0 : decode cX0_passes 0 = .ok (.iconst 0, 1) := dk_3 (dk_at dksX0_passes_0 0 rfl rfl)
theorem dX0_passes_1 : decode cX0_passes 1 = .ok (.istore_n 2, 1) := dk_61 (dk_at dksX0_passes_0 1 rfl rfl)
theorem dX0_passes_2 : decode cX0_passes 2 = .ok (.iload_n 2, 1) := dk_28 (dk_at dksX0_passes_0 2 rfl rfl)
theorem dX0_passes_3 : decode cX0_passes 3 = .ok (.iload_n 1, 1) := dk_27 (dk_at dksX0_passes_0 3 rfl rfl)
theorem dX0_passes_4 : decode cX0_passes 4 = .ok (.if_icmp .ge 13, 3) := dk_162 0 13 (dk_at dksX0_passes_0 4 rfl rfl)
theorem dX0_passes_7 : decode cX0_passes 7 = .ok (.aload_n 0, 1) := dk_42 (dk_at dksX0_passes_0 7 rfl rfl)
theorem dX0_passes_8 : decode cX0_passes 8 = .ok (.invokevirtual 173, 3) := dk_182 0 173 (dk_at dksX0_passes_0 8 rfl rfl)
theorem dX0_passes_11 : decode cX0_passes 11 = .ok (.iinc 2 1, 3) := dk_132 2 1 (dk_at dksX0_passes_0 11 rfl rfl)
theorem dX0_passes_14 : decode cX0_passes 14 = .ok (.goto (-12), 3) := dk_167 255 244 (dk_at dksX0_passes_0 14 rfl rfl)
theorem dX0_passes_17 : decode cX0_passes 17 = .ok (.return_, 1) := dk_177 (dk_at dksX0_passes_0 17 rfl rfl)
abbrev cX0_passes_2 : ByteArray := prog_1_method_25_code
def yX0_passes_2 : MethodName := ⟨RX0, "passes", "()V"⟩
def dkwX0_passes_2_3 : List UInt8 := [132, 1, 1, 167, 255, 183, 42, 180, 0, 78, 89, 180, 0, 170, 4, 96, 181, 0, 170, 177]
abbrev dktX0_passes_2_3 : List UInt8 := dkwX0_passes_2_3 ++ []
def dkwX0_passes_2_2 : List UInt8 := [50, 27, 42, 180, 0, 78, 180, 0, 167, 3, 50, 42, 180, 0, 78, 180, 0, 123, 4, 50, 27, 46, 46, 79]
abbrev dktX0_passes_2_2 : List UInt8 := dkwX0_passes_2_2 ++ dktX0_passes_2_3
def dkwX0_passes_2_1 : List UInt8 := [42, 180, 0, 78, 180, 0, 123, 4, 50, 27, 42, 27, 182, 0, 164, 79, 42, 180, 0, 78, 180, 0, 123, 7]
abbrev dktX0_passes_2_1 : List UInt8 := dkwX0_passes_2_1 ++ dktX0_passes_2_2
def dkwX0_passes_2_0 : List UInt8 := [3, 60, 27, 42, 180, 0, 78, 180, 0, 136, 162, 0, 68, 42, 180, 0, 78, 27, 182, 0, 140, 154, 0, 51]
abbrev dktX0_passes_2_0 : List UInt8 := dkwX0_passes_2_0 ++ dktX0_passes_2_1
theorem dksX0_passes_2_0 : cX0_passes_2.data.toList.drop 0 = dktX0_passes_2_0 := by decide +kernel
theorem dksX0_passes_2_1 : cX0_passes_2.data.toList.drop 24 = dktX0_passes_2_1 := dk_seg dksX0_passes_2_0 24 rfl rfl
theorem dksX0_passes_2_2 : cX0_passes_2.data.toList.drop 48 = dktX0_passes_2_2 := dk_seg dksX0_passes_2_1 24 rfl rfl
theorem dksX0_passes_2_3 : cX0_passes_2.data.toList.drop 72 = dktX0_passes_2_3 := dk_seg dksX0_passes_2_2 24 rfl rfl
theorem dX0_passes_2_0 : decode cX0_passes_2 0 = .ok (.iconst 0, 1) := dk_3 (dk_at dksX0_passes_2_0 0 rfl rfl)
theorem dX0_passes_2_1 : decode cX0_passes_2 1 = .ok (.istore_n 1, 1) := dk_60 (dk_at dksX0_passes_2_0 1 rfl rfl)
theorem dX0_passes_2_2 : decode cX0_passes_2 2 = .ok (.iload_n 1, 1) := dk_27 (dk_at dksX0_passes_2_0 2 rfl rfl)
theorem dX0_passes_2_3 : decode cX0_passes_2 3 = .ok (.aload_n 0, 1) := dk_42 (dk_at dksX0_passes_2_0 3 rfl rfl)
theorem dX0_passes_2_4 : decode cX0_passes_2 4 = .ok (.getfield 78, 3) := dk_180 0 78 (dk_at dksX0_passes_2_0 4 rfl rfl)
theorem dX0_passes_2_7 : decode cX0_passes_2 7 = .ok (.getfield 136, 3) := dk_180 0 136 (dk_at dksX0_passes_2_0 7 rfl rfl)
theorem dX0_passes_2_10 : decode cX0_passes_2 10 = .ok (.if_icmp .ge 68, 3) := dk_162 0 68 (dk_at dksX0_passes_2_0 10 rfl rfl)
theorem dX0_passes_2_13 : decode cX0_passes_2 13 = .ok (.aload_n 0, 1) := dk_42 (dk_at dksX0_passes_2_0 13 rfl rfl)
theorem dX0_passes_2_14 : decode cX0_passes_2 14 = .ok (.getfield 78, 3) := dk_180 0 78 (dk_at dksX0_passes_2_0 14 rfl rfl)
theorem dX0_passes_2_17 : decode cX0_passes_2 17 = .ok (.iload_n 1, 1) := dk_27 (dk_at dksX0_passes_2_0 17 rfl rfl)
theorem dX0_passes_2_18 : decode cX0_passes_2 18 = .ok (.invokevirtual 140, 3) := dk_182 0 140 (dk_at dksX0_passes_2_0 18 rfl rfl)
theorem dX0_passes_2_21 : decode cX0_passes_2 21 = .ok (.ifCond .ne 51, 3) := dk_154 0 51 (dk_at dksX0_passes_2_0 21 rfl rfl)
theorem dX0_passes_2_24 : decode cX0_passes_2 24 = .ok (.aload_n 0, 1) := dk_42 (dk_at dksX0_passes_2_1 0 rfl rfl)
theorem dX0_passes_2_25 : decode cX0_passes_2 25 = .ok (.getfield 78, 3) := dk_180 0 78 (dk_at dksX0_passes_2_1 1 rfl rfl)
theorem dX0_passes_2_28 : decode cX0_passes_2 28 = .ok (.getfield 123, 3) := dk_180 0 123 (dk_at dksX0_passes_2_1 4 rfl rfl)
theorem dX0_passes_2_31 : decode cX0_passes_2 31 = .ok (.iconst 1, 1) := dk_4 (dk_at dksX0_passes_2_1 7 rfl rfl)
theorem dX0_passes_2_32 : decode cX0_passes_2 32 = .ok (.aaload, 1) := dk_50 (dk_at dksX0_passes_2_1 8 rfl rfl)
theorem dX0_passes_2_33 : decode cX0_passes_2 33 = .ok (.iload_n 1, 1) := dk_27 (dk_at dksX0_passes_2_1 9 rfl rfl)
theorem dX0_passes_2_34 : decode cX0_passes_2 34 = .ok (.aload_n 0, 1) := dk_42 (dk_at dksX0_passes_2_1 10 rfl rfl)
theorem dX0_passes_2_35 : decode cX0_passes_2 35 = .ok (.iload_n 1, 1) := dk_27 (dk_at dksX0_passes_2_1 11 rfl rfl)
theorem dX0_passes_2_36 : decode cX0_passes_2 36 = .ok (.invokevirtual 164, 3) := dk_182 0 164 (dk_at dksX0_passes_2_1 12 rfl rfl)
theorem dX0_passes_2_39 : decode cX0_passes_2 39 = .ok (.iastore, 1) := dk_79 (dk_at dksX0_passes_2_1 15 rfl rfl)
theorem dX0_passes_2_40 : decode cX0_passes_2 40 = .ok (.aload_n 0, 1) := dk_42 (dk_at dksX0_passes_2_1 16 rfl rfl)
theorem dX0_passes_2_41 : decode cX0_passes_2 41 = .ok (.getfield 78, 3) := dk_180 0 78 (dk_at dksX0_passes_2_1 17 rfl rfl)
theorem dX0_passes_2_44 : decode cX0_passes_2 44 = .ok (.getfield 123, 3) := dk_180 0 123 (dk_at dksX0_passes_2_1 20 rfl rfl)
theorem dX0_passes_2_47 : decode cX0_passes_2 47 = .ok (.iconst 4, 1) := dk_7 (dk_at dksX0_passes_2_1 23 rfl rfl)
theorem dX0_passes_2_48 : decode cX0_passes_2 48 = .ok (.aaload, 1) := dk_50 (dk_at dksX0_passes_2_2 0 rfl rfl)
theorem dX0_passes_2_49 : decode cX0_passes_2 49 = .ok (.iload_n 1, 1) := dk_27 (dk_at dksX0_passes_2_2 1 rfl rfl)
theorem dX0_passes_2_50 : decode cX0_passes_2 50 = .ok (.aload_n 0, 1) := dk_42 (dk_at dksX0_passes_2_2 2 rfl rfl)
theorem dX0_passes_2_51 : decode cX0_passes_2 51 = .ok (.getfield 78, 3) := dk_180 0 78 (dk_at dksX0_passes_2_2 3 rfl rfl)
theorem dX0_passes_2_54 : decode cX0_passes_2 54 = .ok (.getfield 167, 3) := dk_180 0 167 (dk_at dksX0_passes_2_2 6 rfl rfl)
theorem dX0_passes_2_57 : decode cX0_passes_2 57 = .ok (.iconst 0, 1) := dk_3 (dk_at dksX0_passes_2_2 9 rfl rfl)
theorem dX0_passes_2_58 : decode cX0_passes_2 58 = .ok (.aaload, 1) := dk_50 (dk_at dksX0_passes_2_2 10 rfl rfl)
theorem dX0_passes_2_59 : decode cX0_passes_2 59 = .ok (.aload_n 0, 1) := dk_42 (dk_at dksX0_passes_2_2 11 rfl rfl)
theorem dX0_passes_2_60 : decode cX0_passes_2 60 = .ok (.getfield 78, 3) := dk_180 0 78 (dk_at dksX0_passes_2_2 12 rfl rfl)
theorem dX0_passes_2_63 : decode cX0_passes_2 63 = .ok (.getfield 123, 3) := dk_180 0 123 (dk_at dksX0_passes_2_2 15 rfl rfl)
theorem dX0_passes_2_66 : decode cX0_passes_2 66 = .ok (.iconst 1, 1) := dk_4 (dk_at dksX0_passes_2_2 18 rfl rfl)
theorem dX0_passes_2_67 : decode cX0_passes_2 67 = .ok (.aaload, 1) := dk_50 (dk_at dksX0_passes_2_2 19 rfl rfl)
theorem dX0_passes_2_68 : decode cX0_passes_2 68 = .ok (.iload_n 1, 1) := dk_27 (dk_at dksX0_passes_2_2 20 rfl rfl)
theorem dX0_passes_2_69 : decode cX0_passes_2 69 = .ok (.iaload, 1) := dk_46 (dk_at dksX0_passes_2_2 21 rfl rfl)
theorem dX0_passes_2_70 : decode cX0_passes_2 70 = .ok (.iaload, 1) := dk_46 (dk_at dksX0_passes_2_2 22 rfl rfl)
theorem dX0_passes_2_71 : decode cX0_passes_2 71 = .ok (.iastore, 1) := dk_79 (dk_at dksX0_passes_2_2 23 rfl rfl)
theorem dX0_passes_2_72 : decode cX0_passes_2 72 = .ok (.iinc 1 1, 3) := dk_132 1 1 (dk_at dksX0_passes_2_3 0 rfl rfl)
theorem dX0_passes_2_75 : decode cX0_passes_2 75 = .ok (.goto (-73), 3) := dk_167 255 183 (dk_at dksX0_passes_2_3 3 rfl rfl)
theorem dX0_passes_2_78 : decode cX0_passes_2 78 = .ok (.aload_n 0, 1) := dk_42 (dk_at dksX0_passes_2_3 6 rfl rfl)
theorem dX0_passes_2_79 : decode cX0_passes_2 79 = .ok (.getfield 78, 3) := dk_180 0 78 (dk_at dksX0_passes_2_3 7 rfl rfl)
theorem dX0_passes_2_82 : decode cX0_passes_2 82 = .ok (.dup, 1) := dk_89 (dk_at dksX0_passes_2_3 10 rfl rfl)
theorem dX0_passes_2_83 : decode cX0_passes_2 83 = .ok (.getfield 170, 3) := dk_180 0 170 (dk_at dksX0_passes_2_3 11 rfl rfl)
theorem dX0_passes_2_86 : decode cX0_passes_2 86 = .ok (.iconst 1, 1) := dk_4 (dk_at dksX0_passes_2_3 14 rfl rfl)
theorem dX0_passes_2_87 : decode cX0_passes_2 87 = .ok (.iadd, 1) := dk_96 (dk_at dksX0_passes_2_3 15 rfl rfl)
theorem dX0_passes_2_88 : decode cX0_passes_2 88 = .ok (.putfield 170, 3) := dk_181 0 170 (dk_at dksX0_passes_2_3 16 rfl rfl)
theorem dX0_passes_2_91 : decode cX0_passes_2 91 = .ok (.return_, 1) := dk_177 (dk_at dksX0_passes_2_3 19 rfl rfl)
abbrev cX0_ones : ByteArray := prog_1_method_3_code
def yX0_ones : MethodName := ⟨RX0, "ones", "(I)I"⟩
theorem dX0_ones_0 : decode cX0_ones 0 = .ok (.iload_n 0, 1) := by decide +kernel
theorem dX0_ones_1 : decode cX0_ones 1 = .ok (.invokestatic 1, 3) := by decide +kernel
theorem dX0_ones_4 : decode cX0_ones 4 = .ok (.ireturn, 1) := by decide +kernel
abbrev cX0_now : ByteArray := prog_1_method_38_code
def yX0_now : MethodName := ⟨RX0, "now", "(I)I"⟩
def dkwX0_now_3 : List UInt8 := [42, 180, 0, 78, 180, 0, 188, 172, 42, 180, 0, 78, 3, 182, 0, 224, 172, 42, 3, 182, 0, 138, 172]
abbrev dktX0_now_3 : List UInt8 := dkwX0_now_3 ++ []
def dkwX0_now_2 : List UInt8 := [42, 180, 0, 78, 180, 0, 170, 172, 42, 180, 0, 78, 182, 0, 209, 172, 42, 180, 0, 78, 182, 0, 221, 172]
abbrev dktX0_now_2 : List UInt8 := dkwX0_now_2 ++ dktX0_now_3
def dkwX0_now_1 : List UInt8 := [170, 0, 0, 0, 0, 0, 76, 0, 0, 0, 0, 0, 0, 0, 4, 0, 0, 0, 35, 0, 0, 0, 43, 0, 0, 0, 51, 0, 0, 0, 59, 0, 0, 0, 67]
abbrev dktX0_now_1 : List UInt8 := dkwX0_now_1 ++ dktX0_now_2
def dkwX0_now_0 : List UInt8 := [27]
abbrev dktX0_now_0 : List UInt8 := dkwX0_now_0 ++ dktX0_now_1
theorem dksX0_now_0 : cX0_now.data.toList.drop 0 = dktX0_now_0 := by decide +kernel
theorem dksX0_now_1 : cX0_now.data.toList.drop 1 = dktX0_now_1 := dk_seg dksX0_now_0 1 rfl rfl
theorem dksX0_now_2 : cX0_now.data.toList.drop 36 = dktX0_now_2 := dk_seg dksX0_now_1 35 rfl rfl
theorem dksX0_now_3 : cX0_now.data.toList.drop 60 = dktX0_now_3 := dk_seg dksX0_now_2 24 rfl rfl
theorem dX0_now_0 : decode cX0_now 0 = .ok (.iload_n 1, 1) := dk_27 (dk_at dksX0_now_0 0 rfl rfl)
theorem dX0_now_1 : decode cX0_now 1 = .ok (.tableswitch 76 0 4 #[35, 43, 51, 59, 67], 35) := by decide +kernel
theorem dX0_now_36 : decode cX0_now 36 = .ok (.aload_n 0, 1) := dk_42 (dk_at dksX0_now_2 0 rfl rfl)
theorem dX0_now_37 : decode cX0_now 37 = .ok (.getfield 78, 3) := dk_180 0 78 (dk_at dksX0_now_2 1 rfl rfl)
theorem dX0_now_40 : decode cX0_now 40 = .ok (.getfield 170, 3) := dk_180 0 170 (dk_at dksX0_now_2 4 rfl rfl)
theorem dX0_now_43 : decode cX0_now 43 = .ok (.ireturn, 1) := dk_172 (dk_at dksX0_now_2 7 rfl rfl)
theorem dX0_now_44 : decode cX0_now 44 = .ok (.aload_n 0, 1) := dk_42 (dk_at dksX0_now_2 8 rfl rfl)
theorem dX0_now_45 : decode cX0_now 45 = .ok (.getfield 78, 3) := dk_180 0 78 (dk_at dksX0_now_2 9 rfl rfl)
theorem dX0_now_48 : decode cX0_now 48 = .ok (.invokevirtual 209, 3) := dk_182 0 209 (dk_at dksX0_now_2 12 rfl rfl)
theorem dX0_now_51 : decode cX0_now 51 = .ok (.ireturn, 1) := dk_172 (dk_at dksX0_now_2 15 rfl rfl)
theorem dX0_now_52 : decode cX0_now 52 = .ok (.aload_n 0, 1) := dk_42 (dk_at dksX0_now_2 16 rfl rfl)
theorem dX0_now_53 : decode cX0_now 53 = .ok (.getfield 78, 3) := dk_180 0 78 (dk_at dksX0_now_2 17 rfl rfl)
theorem dX0_now_56 : decode cX0_now 56 = .ok (.invokevirtual 221, 3) := dk_182 0 221 (dk_at dksX0_now_2 20 rfl rfl)
theorem dX0_now_59 : decode cX0_now 59 = .ok (.ireturn, 1) := dk_172 (dk_at dksX0_now_2 23 rfl rfl)
theorem dX0_now_60 : decode cX0_now 60 = .ok (.aload_n 0, 1) := dk_42 (dk_at dksX0_now_3 0 rfl rfl)
theorem dX0_now_61 : decode cX0_now 61 = .ok (.getfield 78, 3) := dk_180 0 78 (dk_at dksX0_now_3 1 rfl rfl)
theorem dX0_now_64 : decode cX0_now 64 = .ok (.getfield 188, 3) := dk_180 0 188 (dk_at dksX0_now_3 4 rfl rfl)
theorem dX0_now_67 : decode cX0_now 67 = .ok (.ireturn, 1) := dk_172 (dk_at dksX0_now_3 7 rfl rfl)
theorem dX0_now_68 : decode cX0_now 68 = .ok (.aload_n 0, 1) := dk_42 (dk_at dksX0_now_3 8 rfl rfl)
theorem dX0_now_69 : decode cX0_now 69 = .ok (.getfield 78, 3) := dk_180 0 78 (dk_at dksX0_now_3 9 rfl rfl)
theorem dX0_now_72 : decode cX0_now 72 = .ok (.iconst 0, 1) := dk_3 (dk_at dksX0_now_3 12 rfl rfl)
theorem dX0_now_73 : decode cX0_now 73 = .ok (.invokevirtual 224, 3) := dk_182 0 224 (dk_at dksX0_now_3 13 rfl rfl)
theorem dX0_now_76 : decode cX0_now 76 = .ok (.ireturn, 1) := dk_172 (dk_at dksX0_now_3 16 rfl rfl)
theorem dX0_now_77 : decode cX0_now 77 = .ok (.aload_n 0, 1) := dk_42 (dk_at dksX0_now_3 17 rfl rfl)
theorem dX0_now_78 : decode cX0_now 78 = .ok (.iconst 0, 1) := dk_3 (dk_at dksX0_now_3 18 rfl rfl)
theorem dX0_now_79 : decode cX0_now 79 = .ok (.invokevirtual 138, 3) := dk_182 0 138 (dk_at dksX0_now_3 19 rfl rfl)
theorem dX0_now_82 : decode cX0_now 82 = .ok (.ireturn, 1) := dk_172 (dk_at dksX0_now_3 22 rfl rfl)
abbrev cX0_loud : ByteArray := prog_1_method_39_code
def yX0_loud : MethodName := ⟨RX0, "loud", "(II)I"⟩
def dkwX0_loud_1 : List UInt8 := [167, 0, 8, 42, 3, 182, 0, 138, 172]
abbrev dktX0_loud_1 : List UInt8 := dkwX0_loud_1 ++ []
def dkwX0_loud_0 : List UInt8 := [42, 27, 182, 0, 195, 153, 0, 22, 28, 184, 0, 17, 153, 0, 15, 42, 180, 0, 78, 27, 28, 182, 0, 228]
abbrev dktX0_loud_0 : List UInt8 := dkwX0_loud_0 ++ dktX0_loud_1
theorem dksX0_loud_0 : cX0_loud.data.toList.drop 0 = dktX0_loud_0 := by decide +kernel
theorem dksX0_loud_1 : cX0_loud.data.toList.drop 24 = dktX0_loud_1 := dk_seg dksX0_loud_0 24 rfl rfl
theorem dX0_loud_0 : decode cX0_loud 0 = .ok (.aload_n 0, 1) := dk_42 (dk_at dksX0_loud_0 0 rfl rfl)
theorem dX0_loud_1 : decode cX0_loud 1 = .ok (.iload_n 1, 1) := dk_27 (dk_at dksX0_loud_0 1 rfl rfl)
theorem dX0_loud_2 : decode cX0_loud 2 = .ok (.invokevirtual 195, 3) := dk_182 0 195 (dk_at dksX0_loud_0 2 rfl rfl)
theorem dX0_loud_5 : decode cX0_loud 5 = .ok (.ifCond .eq 22, 3) := dk_153 0 22 (dk_at dksX0_loud_0 5 rfl rfl)
theorem dX0_loud_8 : decode cX0_loud 8 = .ok (.iload_n 2, 1) := dk_28 (dk_at dksX0_loud_0 8 rfl rfl)
theorem dX0_loud_9 : decode cX0_loud 9 = .ok (.invokestatic 17, 3) := dk_184 0 17 (dk_at dksX0_loud_0 9 rfl rfl)
theorem dX0_loud_12 : decode cX0_loud 12 = .ok (.ifCond .eq 15, 3) := dk_153 0 15 (dk_at dksX0_loud_0 12 rfl rfl)
theorem dX0_loud_15 : decode cX0_loud 15 = .ok (.aload_n 0, 1) := dk_42 (dk_at dksX0_loud_0 15 rfl rfl)
theorem dX0_loud_16 : decode cX0_loud 16 = .ok (.getfield 78, 3) := dk_180 0 78 (dk_at dksX0_loud_0 16 rfl rfl)
theorem dX0_loud_19 : decode cX0_loud 19 = .ok (.iload_n 1, 1) := dk_27 (dk_at dksX0_loud_0 19 rfl rfl)
theorem dX0_loud_20 : decode cX0_loud 20 = .ok (.iload_n 2, 1) := dk_28 (dk_at dksX0_loud_0 20 rfl rfl)
theorem dX0_loud_21 : decode cX0_loud 21 = .ok (.invokevirtual 228, 3) := dk_182 0 228 (dk_at dksX0_loud_0 21 rfl rfl)
theorem dX0_loud_24 : decode cX0_loud 24 = .ok (.goto 8, 3) := dk_167 0 8 (dk_at dksX0_loud_1 0 rfl rfl)
theorem dX0_loud_27 : decode cX0_loud 27 = .ok (.aload_n 0, 1) := dk_42 (dk_at dksX0_loud_1 3 rfl rfl)
theorem dX0_loud_28 : decode cX0_loud 28 = .ok (.iconst 0, 1) := dk_3 (dk_at dksX0_loud_1 4 rfl rfl)
theorem dX0_loud_29 : decode cX0_loud 29 = .ok (.invokevirtual 138, 3) := dk_182 0 138 (dk_at dksX0_loud_1 5 rfl rfl)
theorem dX0_loud_32 : decode cX0_loud 32 = .ok (.ireturn, 1) := dk_172 (dk_at dksX0_loud_1 8 rfl rfl)
abbrev cX0_ahead : ByteArray := prog_1_method_40_code
def yX0_ahead : MethodName := ⟨RX0, "ahead", "(II)I"⟩
def dkwX0_ahead_3 : List UInt8 := [180, 0, 85, 182, 0, 231, 25, 4, 191]
abbrev dktX0_ahead_3 : List UInt8 := dkwX0_ahead_3 ++ []
def dkwX0_ahead_2 : List UInt8 := [50, 27, 46, 62, 42, 180, 0, 78, 42, 180, 0, 85, 182, 0, 231, 29, 172, 58, 4, 42, 180, 0, 78, 42]
abbrev dktX0_ahead_2 : List UInt8 := dkwX0_ahead_2 ++ dktX0_ahead_3
def dkwX0_ahead_1 : List UInt8 := [42, 180, 0, 85, 42, 180, 0, 78, 182, 0, 231, 42, 28, 182, 0, 206, 42, 180, 0, 78, 180, 0, 123, 4]
abbrev dktX0_ahead_1 : List UInt8 := dkwX0_ahead_1 ++ dktX0_ahead_2
def dkwX0_ahead_0 : List UInt8 := [42, 27, 182, 0, 195, 153, 0, 13, 28, 3, 16, 60, 184, 0, 9, 154, 0, 9, 42, 3, 182, 0, 138, 172]
abbrev dktX0_ahead_0 : List UInt8 := dkwX0_ahead_0 ++ dktX0_ahead_1
theorem dksX0_ahead_0 : cX0_ahead.data.toList.drop 0 = dktX0_ahead_0 := by decide +kernel
theorem dksX0_ahead_1 : cX0_ahead.data.toList.drop 24 = dktX0_ahead_1 := dk_seg dksX0_ahead_0 24 rfl rfl
theorem dksX0_ahead_2 : cX0_ahead.data.toList.drop 48 = dktX0_ahead_2 := dk_seg dksX0_ahead_1 24 rfl rfl
theorem dksX0_ahead_3 : cX0_ahead.data.toList.drop 72 = dktX0_ahead_3 := dk_seg dksX0_ahead_2 24 rfl rfl
theorem dX0_ahead_0 : decode cX0_ahead 0 = .ok (.aload_n 0, 1) := dk_42 (dk_at dksX0_ahead_0 0 rfl rfl)
theorem dX0_ahead_1 : decode cX0_ahead 1 = .ok (.iload_n 1, 1) := dk_27 (dk_at dksX0_ahead_0 1 rfl rfl)
theorem dX0_ahead_2 : decode cX0_ahead 2 = .ok (.invokevirtual 195, 3) := dk_182 0 195 (dk_at dksX0_ahead_0 2 rfl rfl)
theorem dX0_ahead_5 : decode cX0_ahead 5 = .ok (.ifCond .eq 13, 3) := dk_153 0 13 (dk_at dksX0_ahead_0 5 rfl rfl)
theorem dX0_ahead_8 : decode cX0_ahead 8 = .ok (.iload_n 2, 1) := dk_28 (dk_at dksX0_ahead_0 8 rfl rfl)
theorem dX0_ahead_9 : decode cX0_ahead 9 = .ok (.iconst 0, 1) := dk_3 (dk_at dksX0_ahead_0 9 rfl rfl)
theorem dX0_ahead_10 : decode cX0_ahead 10 = .ok (.bipush 60, 2) := dk_16 60 (dk_at dksX0_ahead_0 10 rfl rfl)
theorem dX0_ahead_12 : decode cX0_ahead 12 = .ok (.invokestatic 9, 3) := dk_184 0 9 (dk_at dksX0_ahead_0 12 rfl rfl)
theorem dX0_ahead_15 : decode cX0_ahead 15 = .ok (.ifCond .ne 9, 3) := dk_154 0 9 (dk_at dksX0_ahead_0 15 rfl rfl)
theorem dX0_ahead_18 : decode cX0_ahead 18 = .ok (.aload_n 0, 1) := dk_42 (dk_at dksX0_ahead_0 18 rfl rfl)
theorem dX0_ahead_19 : decode cX0_ahead 19 = .ok (.iconst 0, 1) := dk_3 (dk_at dksX0_ahead_0 19 rfl rfl)
theorem dX0_ahead_20 : decode cX0_ahead 20 = .ok (.invokevirtual 138, 3) := dk_182 0 138 (dk_at dksX0_ahead_0 20 rfl rfl)
theorem dX0_ahead_23 : decode cX0_ahead 23 = .ok (.ireturn, 1) := dk_172 (dk_at dksX0_ahead_0 23 rfl rfl)
theorem dX0_ahead_24 : decode cX0_ahead 24 = .ok (.aload_n 0, 1) := dk_42 (dk_at dksX0_ahead_1 0 rfl rfl)
theorem dX0_ahead_25 : decode cX0_ahead 25 = .ok (.getfield 85, 3) := dk_180 0 85 (dk_at dksX0_ahead_1 1 rfl rfl)
theorem dX0_ahead_28 : decode cX0_ahead 28 = .ok (.aload_n 0, 1) := dk_42 (dk_at dksX0_ahead_1 4 rfl rfl)
theorem dX0_ahead_29 : decode cX0_ahead 29 = .ok (.getfield 78, 3) := dk_180 0 78 (dk_at dksX0_ahead_1 5 rfl rfl)
theorem dX0_ahead_32 : decode cX0_ahead 32 = .ok (.invokevirtual 231, 3) := dk_182 0 231 (dk_at dksX0_ahead_1 8 rfl rfl)
theorem dX0_ahead_35 : decode cX0_ahead 35 = .ok (.aload_n 0, 1) := dk_42 (dk_at dksX0_ahead_1 11 rfl rfl)
theorem dX0_ahead_36 : decode cX0_ahead 36 = .ok (.iload_n 2, 1) := dk_28 (dk_at dksX0_ahead_1 12 rfl rfl)
theorem dX0_ahead_37 : decode cX0_ahead 37 = .ok (.invokevirtual 206, 3) := dk_182 0 206 (dk_at dksX0_ahead_1 13 rfl rfl)
theorem dX0_ahead_40 : decode cX0_ahead 40 = .ok (.aload_n 0, 1) := dk_42 (dk_at dksX0_ahead_1 16 rfl rfl)
theorem dX0_ahead_41 : decode cX0_ahead 41 = .ok (.getfield 78, 3) := dk_180 0 78 (dk_at dksX0_ahead_1 17 rfl rfl)
theorem dX0_ahead_44 : decode cX0_ahead 44 = .ok (.getfield 123, 3) := dk_180 0 123 (dk_at dksX0_ahead_1 20 rfl rfl)
theorem dX0_ahead_47 : decode cX0_ahead 47 = .ok (.iconst 1, 1) := dk_4 (dk_at dksX0_ahead_1 23 rfl rfl)
theorem dX0_ahead_48 : decode cX0_ahead 48 = .ok (.aaload, 1) := dk_50 (dk_at dksX0_ahead_2 0 rfl rfl)
theorem dX0_ahead_49 : decode cX0_ahead 49 = .ok (.iload_n 1, 1) := dk_27 (dk_at dksX0_ahead_2 1 rfl rfl)
theorem dX0_ahead_50 : decode cX0_ahead 50 = .ok (.iaload, 1) := dk_46 (dk_at dksX0_ahead_2 2 rfl rfl)
theorem dX0_ahead_51 : decode cX0_ahead 51 = .ok (.istore_n 3, 1) := dk_62 (dk_at dksX0_ahead_2 3 rfl rfl)
theorem dX0_ahead_52 : decode cX0_ahead 52 = .ok (.aload_n 0, 1) := dk_42 (dk_at dksX0_ahead_2 4 rfl rfl)
theorem dX0_ahead_53 : decode cX0_ahead 53 = .ok (.getfield 78, 3) := dk_180 0 78 (dk_at dksX0_ahead_2 5 rfl rfl)
theorem dX0_ahead_56 : decode cX0_ahead 56 = .ok (.aload_n 0, 1) := dk_42 (dk_at dksX0_ahead_2 8 rfl rfl)
theorem dX0_ahead_57 : decode cX0_ahead 57 = .ok (.getfield 85, 3) := dk_180 0 85 (dk_at dksX0_ahead_2 9 rfl rfl)
theorem dX0_ahead_60 : decode cX0_ahead 60 = .ok (.invokevirtual 231, 3) := dk_182 0 231 (dk_at dksX0_ahead_2 12 rfl rfl)
theorem dX0_ahead_63 : decode cX0_ahead 63 = .ok (.iload_n 3, 1) := dk_29 (dk_at dksX0_ahead_2 15 rfl rfl)
theorem dX0_ahead_64 : decode cX0_ahead 64 = .ok (.ireturn, 1) := dk_172 (dk_at dksX0_ahead_2 16 rfl rfl)
theorem dX0_ahead_65 : decode cX0_ahead 65 = .ok (.astore 4, 2) := dk_58 4 (dk_at dksX0_ahead_2 17 rfl rfl)
theorem dX0_ahead_67 : decode cX0_ahead 67 = .ok (.aload_n 0, 1) := dk_42 (dk_at dksX0_ahead_2 19 rfl rfl)
theorem dX0_ahead_68 : decode cX0_ahead 68 = .ok (.getfield 78, 3) := dk_180 0 78 (dk_at dksX0_ahead_2 20 rfl rfl)
theorem dX0_ahead_71 : decode cX0_ahead 71 = .ok (.aload_n 0, 1) := dk_42 (dk_at dksX0_ahead_2 23 rfl rfl)
theorem dX0_ahead_72 : decode cX0_ahead 72 = .ok (.getfield 85, 3) := dk_180 0 85 (dk_at dksX0_ahead_3 0 rfl rfl)
theorem dX0_ahead_75 : decode cX0_ahead 75 = .ok (.invokevirtual 231, 3) := dk_182 0 231 (dk_at dksX0_ahead_3 3 rfl rfl)
theorem dX0_ahead_78 : decode cX0_ahead 78 = .ok (.aload 4, 2) := dk_25 4 (dk_at dksX0_ahead_3 6 rfl rfl)
theorem dX0_ahead_80 : decode cX0_ahead 80 = .ok (.athrow, 1) := dk_191 (dk_at dksX0_ahead_3 8 rfl rfl)
abbrev cX0_when : ByteArray := prog_1_method_42_code
def yX0_when : MethodName := ⟨RX0, "when", "(I)I"⟩
def dkwX0_when_1 : List UInt8 := [182, 0, 138, 172]
abbrev dktX0_when_1 : List UInt8 := dkwX0_when_1 ++ []
def dkwX0_when_0 : List UInt8 := [42, 27, 182, 0, 195, 153, 0, 17, 42, 42, 27, 16, 60, 182, 0, 235, 182, 0, 238, 167, 0, 8, 42, 3]
abbrev dktX0_when_0 : List UInt8 := dkwX0_when_0 ++ dktX0_when_1
theorem dksX0_when_0 : cX0_when.data.toList.drop 0 = dktX0_when_0 := by decide +kernel
theorem dksX0_when_1 : cX0_when.data.toList.drop 24 = dktX0_when_1 := dk_seg dksX0_when_0 24 rfl rfl
theorem dX0_when_0 : decode cX0_when 0 = .ok (.aload_n 0, 1) := dk_42 (dk_at dksX0_when_0 0 rfl rfl)
theorem dX0_when_1 : decode cX0_when 1 = .ok (.iload_n 1, 1) := dk_27 (dk_at dksX0_when_0 1 rfl rfl)
theorem dX0_when_2 : decode cX0_when 2 = .ok (.invokevirtual 195, 3) := dk_182 0 195 (dk_at dksX0_when_0 2 rfl rfl)
theorem dX0_when_5 : decode cX0_when 5 = .ok (.ifCond .eq 17, 3) := dk_153 0 17 (dk_at dksX0_when_0 5 rfl rfl)
theorem dX0_when_8 : decode cX0_when 8 = .ok (.aload_n 0, 1) := dk_42 (dk_at dksX0_when_0 8 rfl rfl)
theorem dX0_when_9 : decode cX0_when 9 = .ok (.aload_n 0, 1) := dk_42 (dk_at dksX0_when_0 9 rfl rfl)
theorem dX0_when_10 : decode cX0_when 10 = .ok (.iload_n 1, 1) := dk_27 (dk_at dksX0_when_0 10 rfl rfl)
theorem dX0_when_11 : decode cX0_when 11 = .ok (.bipush 60, 2) := dk_16 60 (dk_at dksX0_when_0 11 rfl rfl)
theorem dX0_when_13 : decode cX0_when 13 = .ok (.invokevirtual 235, 3) := dk_182 0 235 (dk_at dksX0_when_0 13 rfl rfl)
theorem dX0_when_16 : decode cX0_when 16 = .ok (.invokevirtual 238, 3) := dk_182 0 238 (dk_at dksX0_when_0 16 rfl rfl)
theorem dX0_when_19 : decode cX0_when 19 = .ok (.goto 8, 3) := dk_167 0 8 (dk_at dksX0_when_0 19 rfl rfl)
theorem dX0_when_22 : decode cX0_when 22 = .ok (.aload_n 0, 1) := dk_42 (dk_at dksX0_when_0 22 rfl rfl)
theorem dX0_when_23 : decode cX0_when 23 = .ok (.iconst 0, 1) := dk_3 (dk_at dksX0_when_0 23 rfl rfl)
theorem dX0_when_24 : decode cX0_when 24 = .ok (.invokevirtual 138, 3) := dk_182 0 138 (dk_at dksX0_when_1 0 rfl rfl)
theorem dX0_when_27 : decode cX0_when 27 = .ok (.ireturn, 1) := dk_172 (dk_at dksX0_when_1 3 rfl rfl)
abbrev cX0_whenIs : ByteArray := prog_1_method_41_code
def yX0_whenIs : MethodName := ⟨RX0, "whenIs", "(II)I"⟩
def dkwX0_whenIs_3 : List UInt8 := [180, 0, 78, 42, 180, 0, 85, 182, 0, 231, 25, 5, 191]
abbrev dktX0_whenIs_3 : List UInt8 := dkwX0_whenIs_3 ++ []
def dkwX0_whenIs_2 : List UInt8 := [167, 0, 4, 2, 54, 4, 42, 180, 0, 78, 42, 180, 0, 85, 182, 0, 231, 21, 4, 172, 58, 5, 42]
abbrev dktX0_whenIs_2 : List UInt8 := dkwX0_whenIs_2 ++ dktX0_whenIs_3
def dkwX0_whenIs_1 : List UInt8 := [182, 0, 140, 154, 0, 13, 42, 182, 0, 173, 132, 3, 1, 167, 255, 233, 29, 28, 163, 0, 7, 29]
abbrev dktX0_whenIs_1 : List UInt8 := dkwX0_whenIs_1 ++ dktX0_whenIs_2
def dkwX0_whenIs_0 : List UInt8 := [42, 180, 0, 85, 42, 180, 0, 78, 182, 0, 231, 3, 62, 29, 28, 163, 0, 24, 42, 180, 0, 78, 27]
abbrev dktX0_whenIs_0 : List UInt8 := dkwX0_whenIs_0 ++ dktX0_whenIs_1
theorem dksX0_whenIs_0 : cX0_whenIs.data.toList.drop 0 = dktX0_whenIs_0 := by decide +kernel
theorem dksX0_whenIs_1 : cX0_whenIs.data.toList.drop 23 = dktX0_whenIs_1 := dk_seg dksX0_whenIs_0 23 rfl rfl
theorem dksX0_whenIs_2 : cX0_whenIs.data.toList.drop 45 = dktX0_whenIs_2 := dk_seg dksX0_whenIs_1 22 rfl rfl
theorem dksX0_whenIs_3 : cX0_whenIs.data.toList.drop 68 = dktX0_whenIs_3 := dk_seg dksX0_whenIs_2 23 rfl rfl
theorem dX0_whenIs_0 : decode cX0_whenIs 0 = .ok (.aload_n 0, 1) := dk_42 (dk_at dksX0_whenIs_0 0 rfl rfl)
theorem dX0_whenIs_1 : decode cX0_whenIs 1 = .ok (.getfield 85, 3) := dk_180 0 85 (dk_at dksX0_whenIs_0 1 rfl rfl)
theorem dX0_whenIs_4 : decode cX0_whenIs 4 = .ok (.aload_n 0, 1) := dk_42 (dk_at dksX0_whenIs_0 4 rfl rfl)
theorem dX0_whenIs_5 : decode cX0_whenIs 5 = .ok (.getfield 78, 3) := dk_180 0 78 (dk_at dksX0_whenIs_0 5 rfl rfl)
theorem dX0_whenIs_8 : decode cX0_whenIs 8 = .ok (.invokevirtual 231, 3) := dk_182 0 231 (dk_at dksX0_whenIs_0 8 rfl rfl)
theorem dX0_whenIs_11 : decode cX0_whenIs 11 = .ok (.iconst 0, 1) := dk_3 (dk_at dksX0_whenIs_0 11 rfl rfl)
theorem dX0_whenIs_12 : decode cX0_whenIs 12 = .ok (.istore_n 3, 1) := dk_62 (dk_at dksX0_whenIs_0 12 rfl rfl)
theorem dX0_whenIs_13 : decode cX0_whenIs 13 = .ok (.iload_n 3, 1) := dk_29 (dk_at dksX0_whenIs_0 13 rfl rfl)
theorem dX0_whenIs_14 : decode cX0_whenIs 14 = .ok (.iload_n 2, 1) := dk_28 (dk_at dksX0_whenIs_0 14 rfl rfl)
theorem dX0_whenIs_15 : decode cX0_whenIs 15 = .ok (.if_icmp .gt 24, 3) := dk_163 0 24 (dk_at dksX0_whenIs_0 15 rfl rfl)
theorem dX0_whenIs_18 : decode cX0_whenIs 18 = .ok (.aload_n 0, 1) := dk_42 (dk_at dksX0_whenIs_0 18 rfl rfl)
theorem dX0_whenIs_19 : decode cX0_whenIs 19 = .ok (.getfield 78, 3) := dk_180 0 78 (dk_at dksX0_whenIs_0 19 rfl rfl)
theorem dX0_whenIs_22 : decode cX0_whenIs 22 = .ok (.iload_n 1, 1) := dk_27 (dk_at dksX0_whenIs_0 22 rfl rfl)
theorem dX0_whenIs_23 : decode cX0_whenIs 23 = .ok (.invokevirtual 140, 3) := dk_182 0 140 (dk_at dksX0_whenIs_1 0 rfl rfl)
theorem dX0_whenIs_26 : decode cX0_whenIs 26 = .ok (.ifCond .ne 13, 3) := dk_154 0 13 (dk_at dksX0_whenIs_1 3 rfl rfl)
theorem dX0_whenIs_29 : decode cX0_whenIs 29 = .ok (.aload_n 0, 1) := dk_42 (dk_at dksX0_whenIs_1 6 rfl rfl)
theorem dX0_whenIs_30 : decode cX0_whenIs 30 = .ok (.invokevirtual 173, 3) := dk_182 0 173 (dk_at dksX0_whenIs_1 7 rfl rfl)
theorem dX0_whenIs_33 : decode cX0_whenIs 33 = .ok (.iinc 3 1, 3) := dk_132 3 1 (dk_at dksX0_whenIs_1 10 rfl rfl)
theorem dX0_whenIs_36 : decode cX0_whenIs 36 = .ok (.goto (-23), 3) := dk_167 255 233 (dk_at dksX0_whenIs_1 13 rfl rfl)
theorem dX0_whenIs_39 : decode cX0_whenIs 39 = .ok (.iload_n 3, 1) := dk_29 (dk_at dksX0_whenIs_1 16 rfl rfl)
theorem dX0_whenIs_40 : decode cX0_whenIs 40 = .ok (.iload_n 2, 1) := dk_28 (dk_at dksX0_whenIs_1 17 rfl rfl)
theorem dX0_whenIs_41 : decode cX0_whenIs 41 = .ok (.if_icmp .gt 7, 3) := dk_163 0 7 (dk_at dksX0_whenIs_1 18 rfl rfl)
theorem dX0_whenIs_44 : decode cX0_whenIs 44 = .ok (.iload_n 3, 1) := dk_29 (dk_at dksX0_whenIs_1 21 rfl rfl)
theorem dX0_whenIs_45 : decode cX0_whenIs 45 = .ok (.goto 4, 3) := dk_167 0 4 (dk_at dksX0_whenIs_2 0 rfl rfl)
theorem dX0_whenIs_48 : decode cX0_whenIs 48 = .ok (.iconst (-1), 1) := dk_2 (dk_at dksX0_whenIs_2 3 rfl rfl)
theorem dX0_whenIs_49 : decode cX0_whenIs 49 = .ok (.istore 4, 2) := dk_54 4 (dk_at dksX0_whenIs_2 4 rfl rfl)
theorem dX0_whenIs_51 : decode cX0_whenIs 51 = .ok (.aload_n 0, 1) := dk_42 (dk_at dksX0_whenIs_2 6 rfl rfl)
theorem dX0_whenIs_52 : decode cX0_whenIs 52 = .ok (.getfield 78, 3) := dk_180 0 78 (dk_at dksX0_whenIs_2 7 rfl rfl)
theorem dX0_whenIs_55 : decode cX0_whenIs 55 = .ok (.aload_n 0, 1) := dk_42 (dk_at dksX0_whenIs_2 10 rfl rfl)
theorem dX0_whenIs_56 : decode cX0_whenIs 56 = .ok (.getfield 85, 3) := dk_180 0 85 (dk_at dksX0_whenIs_2 11 rfl rfl)
theorem dX0_whenIs_59 : decode cX0_whenIs 59 = .ok (.invokevirtual 231, 3) := dk_182 0 231 (dk_at dksX0_whenIs_2 14 rfl rfl)
theorem dX0_whenIs_62 : decode cX0_whenIs 62 = .ok (.iload 4, 2) := dk_21 4 (dk_at dksX0_whenIs_2 17 rfl rfl)
theorem dX0_whenIs_64 : decode cX0_whenIs 64 = .ok (.ireturn, 1) := dk_172 (dk_at dksX0_whenIs_2 19 rfl rfl)
theorem dX0_whenIs_65 : decode cX0_whenIs 65 = .ok (.astore 5, 2) := dk_58 5 (dk_at dksX0_whenIs_2 20 rfl rfl)
theorem dX0_whenIs_67 : decode cX0_whenIs 67 = .ok (.aload_n 0, 1) := dk_42 (dk_at dksX0_whenIs_2 22 rfl rfl)
theorem dX0_whenIs_68 : decode cX0_whenIs 68 = .ok (.getfield 78, 3) := dk_180 0 78 (dk_at dksX0_whenIs_3 0 rfl rfl)
theorem dX0_whenIs_71 : decode cX0_whenIs 71 = .ok (.aload_n 0, 1) := dk_42 (dk_at dksX0_whenIs_3 3 rfl rfl)
theorem dX0_whenIs_72 : decode cX0_whenIs 72 = .ok (.getfield 85, 3) := dk_180 0 85 (dk_at dksX0_whenIs_3 4 rfl rfl)
theorem dX0_whenIs_75 : decode cX0_whenIs 75 = .ok (.invokevirtual 231, 3) := dk_182 0 231 (dk_at dksX0_whenIs_3 7 rfl rfl)
theorem dX0_whenIs_78 : decode cX0_whenIs 78 = .ok (.aload 5, 2) := dk_25 5 (dk_at dksX0_whenIs_3 10 rfl rfl)
theorem dX0_whenIs_80 : decode cX0_whenIs 80 = .ok (.athrow, 1) := dk_191 (dk_at dksX0_whenIs_3 12 rfl rfl)
abbrev cX0_orNone : ByteArray := prog_1_method_21_code
def yX0_orNone : MethodName := ⟨RX0, "orNone", "(I)I"⟩
def dkwX0_orNone_0 : List UInt8 := [27, 2, 160, 0, 11, 42, 6, 182, 0, 138, 167, 0, 4, 27, 172]
abbrev dktX0_orNone_0 : List UInt8 := dkwX0_orNone_0 ++ []
theorem dksX0_orNone_0 : cX0_orNone.data.toList.drop 0 = dktX0_orNone_0 := by decide +kernel
theorem dX0_orNone_0 : decode cX0_orNone 0 = .ok (.iload_n 1, 1) := dk_27 (dk_at dksX0_orNone_0 0 rfl rfl)
theorem dX0_orNone_1 : decode cX0_orNone 1 = .ok (.iconst (-1), 1) := dk_2 (dk_at dksX0_orNone_0 1 rfl rfl)
theorem dX0_orNone_2 : decode cX0_orNone 2 = .ok (.if_icmp .ne 11, 3) := dk_160 0 11 (dk_at dksX0_orNone_0 2 rfl rfl)
theorem dX0_orNone_5 : decode cX0_orNone 5 = .ok (.aload_n 0, 1) := dk_42 (dk_at dksX0_orNone_0 5 rfl rfl)
theorem dX0_orNone_6 : decode cX0_orNone 6 = .ok (.iconst 3, 1) := dk_6 (dk_at dksX0_orNone_0 6 rfl rfl)
theorem dX0_orNone_7 : decode cX0_orNone 7 = .ok (.invokevirtual 138, 3) := dk_182 0 138 (dk_at dksX0_orNone_0 7 rfl rfl)
theorem dX0_orNone_10 : decode cX0_orNone 10 = .ok (.goto 4, 3) := dk_167 0 4 (dk_at dksX0_orNone_0 10 rfl rfl)
theorem dX0_orNone_13 : decode cX0_orNone 13 = .ok (.iload_n 1, 1) := dk_27 (dk_at dksX0_orNone_0 13 rfl rfl)
theorem dX0_orNone_14 : decode cX0_orNone 14 = .ok (.ireturn, 1) := dk_172 (dk_at dksX0_orNone_0 14 rfl rfl)
abbrev cX0_still : ByteArray := prog_1_method_46_code
def yX0_still : MethodName := ⟨RX0, "still", "()I"⟩
def dkwX0_still_0 : List UInt8 := [42, 42, 182, 0, 252, 182, 0, 238, 172]
abbrev dktX0_still_0 : List UInt8 := dkwX0_still_0 ++ []
theorem dksX0_still_0 : cX0_still.data.toList.drop 0 = dktX0_still_0 := by decide +kernel
theorem dX0_still_0 : decode cX0_still 0 = .ok (.aload_n 0, 1) := dk_42 (dk_at dksX0_still_0 0 rfl rfl)
theorem dX0_still_1 : decode cX0_still 1 = .ok (.aload_n 0, 1) := dk_42 (dk_at dksX0_still_0 1 rfl rfl)
theorem dX0_still_2 : decode cX0_still 2 = .ok (.invokevirtual 252, 3) := dk_182 0 252 (dk_at dksX0_still_0 2 rfl rfl)
theorem dX0_still_5 : decode cX0_still 5 = .ok (.invokevirtual 238, 3) := dk_182 0 238 (dk_at dksX0_still_0 5 rfl rfl)
theorem dX0_still_8 : decode cX0_still 8 = .ok (.ireturn, 1) := dk_172 (dk_at dksX0_still_0 8 rfl rfl)
abbrev cX0_stillBehind : ByteArray := prog_1_method_45_code
def yX0_stillBehind : MethodName := ⟨RX0, "stillBehind", "()I"⟩
def dkwX0_stillBehind_3 : List UInt8 := [45, 191]
abbrev dktX0_stillBehind_3 : List UInt8 := dkwX0_stillBehind_3 ++ []
def dkwX0_stillBehind_2 : List UInt8 := [180, 0, 78, 42, 180, 0, 85, 182, 0, 231, 28, 172, 78, 42, 180, 0, 78, 42, 180, 0, 85, 182, 0, 231]
abbrev dktX0_stillBehind_2 : List UInt8 := dkwX0_stillBehind_2 ++ dktX0_stillBehind_3
def dkwX0_stillBehind_1 : List UInt8 := [154, 0, 9, 132, 1, 1, 167, 255, 240, 27, 16, 60, 163, 0, 7, 27, 167, 0, 4, 2, 61, 42]
abbrev dktX0_stillBehind_1 : List UInt8 := dkwX0_stillBehind_1 ++ dktX0_stillBehind_2
def dkwX0_stillBehind_0 : List UInt8 := [42, 180, 0, 85, 42, 180, 0, 78, 182, 0, 231, 3, 60, 27, 16, 60, 163, 0, 16, 42, 182, 0, 248]
abbrev dktX0_stillBehind_0 : List UInt8 := dkwX0_stillBehind_0 ++ dktX0_stillBehind_1
theorem dksX0_stillBehind_0 : cX0_stillBehind.data.toList.drop 0 = dktX0_stillBehind_0 := by decide +kernel
theorem dksX0_stillBehind_1 : cX0_stillBehind.data.toList.drop 23 = dktX0_stillBehind_1 := dk_seg dksX0_stillBehind_0 23 rfl rfl
theorem dksX0_stillBehind_2 : cX0_stillBehind.data.toList.drop 45 = dktX0_stillBehind_2 := dk_seg dksX0_stillBehind_1 22 rfl rfl
theorem dksX0_stillBehind_3 : cX0_stillBehind.data.toList.drop 69 = dktX0_stillBehind_3 := dk_seg dksX0_stillBehind_2 24 rfl rfl
theorem dX0_stillBehind_0 : decode cX0_stillBehind 0 = .ok (.aload_n 0, 1) := dk_42 (dk_at dksX0_stillBehind_0 0 rfl rfl)
theorem dX0_stillBehind_1 : decode cX0_stillBehind 1 = .ok (.getfield 85, 3) := dk_180 0 85 (dk_at dksX0_stillBehind_0 1 rfl rfl)
theorem dX0_stillBehind_4 : decode cX0_stillBehind 4 = .ok (.aload_n 0, 1) := dk_42 (dk_at dksX0_stillBehind_0 4 rfl rfl)
theorem dX0_stillBehind_5 : decode cX0_stillBehind 5 = .ok (.getfield 78, 3) := dk_180 0 78 (dk_at dksX0_stillBehind_0 5 rfl rfl)
theorem dX0_stillBehind_8 : decode cX0_stillBehind 8 = .ok (.invokevirtual 231, 3) := dk_182 0 231 (dk_at dksX0_stillBehind_0 8 rfl rfl)
theorem dX0_stillBehind_11 : decode cX0_stillBehind 11 = .ok (.iconst 0, 1) := dk_3 (dk_at dksX0_stillBehind_0 11 rfl rfl)
theorem dX0_stillBehind_12 : decode cX0_stillBehind 12 = .ok (.istore_n 1, 1) := dk_60 (dk_at dksX0_stillBehind_0 12 rfl rfl)
theorem dX0_stillBehind_13 : decode cX0_stillBehind 13 = .ok (.iload_n 1, 1) := dk_27 (dk_at dksX0_stillBehind_0 13 rfl rfl)
theorem dX0_stillBehind_14 : decode cX0_stillBehind 14 = .ok (.bipush 60, 2) := dk_16 60 (dk_at dksX0_stillBehind_0 14 rfl rfl)
theorem dX0_stillBehind_16 : decode cX0_stillBehind 16 = .ok (.if_icmp .gt 16, 3) := dk_163 0 16 (dk_at dksX0_stillBehind_0 16 rfl rfl)
theorem dX0_stillBehind_19 : decode cX0_stillBehind 19 = .ok (.aload_n 0, 1) := dk_42 (dk_at dksX0_stillBehind_0 19 rfl rfl)
theorem dX0_stillBehind_20 : decode cX0_stillBehind 20 = .ok (.invokevirtual 248, 3) := dk_182 0 248 (dk_at dksX0_stillBehind_0 20 rfl rfl)
theorem dX0_stillBehind_23 : decode cX0_stillBehind 23 = .ok (.ifCond .ne 9, 3) := dk_154 0 9 (dk_at dksX0_stillBehind_1 0 rfl rfl)
theorem dX0_stillBehind_26 : decode cX0_stillBehind 26 = .ok (.iinc 1 1, 3) := dk_132 1 1 (dk_at dksX0_stillBehind_1 3 rfl rfl)
theorem dX0_stillBehind_29 : decode cX0_stillBehind 29 = .ok (.goto (-16), 3) := dk_167 255 240 (dk_at dksX0_stillBehind_1 6 rfl rfl)
theorem dX0_stillBehind_32 : decode cX0_stillBehind 32 = .ok (.iload_n 1, 1) := dk_27 (dk_at dksX0_stillBehind_1 9 rfl rfl)
theorem dX0_stillBehind_33 : decode cX0_stillBehind 33 = .ok (.bipush 60, 2) := dk_16 60 (dk_at dksX0_stillBehind_1 10 rfl rfl)
theorem dX0_stillBehind_35 : decode cX0_stillBehind 35 = .ok (.if_icmp .gt 7, 3) := dk_163 0 7 (dk_at dksX0_stillBehind_1 12 rfl rfl)
theorem dX0_stillBehind_38 : decode cX0_stillBehind 38 = .ok (.iload_n 1, 1) := dk_27 (dk_at dksX0_stillBehind_1 15 rfl rfl)
theorem dX0_stillBehind_39 : decode cX0_stillBehind 39 = .ok (.goto 4, 3) := dk_167 0 4 (dk_at dksX0_stillBehind_1 16 rfl rfl)
theorem dX0_stillBehind_42 : decode cX0_stillBehind 42 = .ok (.iconst (-1), 1) := dk_2 (dk_at dksX0_stillBehind_1 19 rfl rfl)
theorem dX0_stillBehind_43 : decode cX0_stillBehind 43 = .ok (.istore_n 2, 1) := dk_61 (dk_at dksX0_stillBehind_1 20 rfl rfl)
theorem dX0_stillBehind_44 : decode cX0_stillBehind 44 = .ok (.aload_n 0, 1) := dk_42 (dk_at dksX0_stillBehind_1 21 rfl rfl)
theorem dX0_stillBehind_45 : decode cX0_stillBehind 45 = .ok (.getfield 78, 3) := dk_180 0 78 (dk_at dksX0_stillBehind_2 0 rfl rfl)
theorem dX0_stillBehind_48 : decode cX0_stillBehind 48 = .ok (.aload_n 0, 1) := dk_42 (dk_at dksX0_stillBehind_2 3 rfl rfl)
theorem dX0_stillBehind_49 : decode cX0_stillBehind 49 = .ok (.getfield 85, 3) := dk_180 0 85 (dk_at dksX0_stillBehind_2 4 rfl rfl)
theorem dX0_stillBehind_52 : decode cX0_stillBehind 52 = .ok (.invokevirtual 231, 3) := dk_182 0 231 (dk_at dksX0_stillBehind_2 7 rfl rfl)
theorem dX0_stillBehind_55 : decode cX0_stillBehind 55 = .ok (.iload_n 2, 1) := dk_28 (dk_at dksX0_stillBehind_2 10 rfl rfl)
theorem dX0_stillBehind_56 : decode cX0_stillBehind 56 = .ok (.ireturn, 1) := dk_172 (dk_at dksX0_stillBehind_2 11 rfl rfl)
theorem dX0_stillBehind_57 : decode cX0_stillBehind 57 = .ok (.astore_n 3, 1) := dk_78 (dk_at dksX0_stillBehind_2 12 rfl rfl)
theorem dX0_stillBehind_58 : decode cX0_stillBehind 58 = .ok (.aload_n 0, 1) := dk_42 (dk_at dksX0_stillBehind_2 13 rfl rfl)
theorem dX0_stillBehind_59 : decode cX0_stillBehind 59 = .ok (.getfield 78, 3) := dk_180 0 78 (dk_at dksX0_stillBehind_2 14 rfl rfl)
theorem dX0_stillBehind_62 : decode cX0_stillBehind 62 = .ok (.aload_n 0, 1) := dk_42 (dk_at dksX0_stillBehind_2 17 rfl rfl)
theorem dX0_stillBehind_63 : decode cX0_stillBehind 63 = .ok (.getfield 85, 3) := dk_180 0 85 (dk_at dksX0_stillBehind_2 18 rfl rfl)
theorem dX0_stillBehind_66 : decode cX0_stillBehind 66 = .ok (.invokevirtual 231, 3) := dk_182 0 231 (dk_at dksX0_stillBehind_2 21 rfl rfl)
theorem dX0_stillBehind_69 : decode cX0_stillBehind 69 = .ok (.aload_n 3, 1) := dk_45 (dk_at dksX0_stillBehind_3 0 rfl rfl)
theorem dX0_stillBehind_70 : decode cX0_stillBehind 70 = .ok (.athrow, 1) := dk_191 (dk_at dksX0_stillBehind_3 1 rfl rfl)
abbrev cX0_stays : ByteArray := prog_1_method_44_code
def yX0_stays : MethodName := ⟨RX0, "stays", "()Z"⟩
def dkwX0_stays_1 : List UInt8 := [42, 182, 0, 173, 42, 27, 182, 0, 245, 172]
abbrev dktX0_stays_1 : List UInt8 := dkwX0_stays_1 ++ []
def dkwX0_stays_0 : List UInt8 := [42, 180, 0, 78, 182, 0, 209, 60, 42, 180, 0, 78, 180, 0, 123, 4, 50, 42, 180, 0, 104, 184, 0, 241]
abbrev dktX0_stays_0 : List UInt8 := dkwX0_stays_0 ++ dktX0_stays_1
theorem dksX0_stays_0 : cX0_stays.data.toList.drop 0 = dktX0_stays_0 := by decide +kernel
theorem dksX0_stays_1 : cX0_stays.data.toList.drop 24 = dktX0_stays_1 := dk_seg dksX0_stays_0 24 rfl rfl
theorem dX0_stays_0 : decode cX0_stays 0 = .ok (.aload_n 0, 1) := dk_42 (dk_at dksX0_stays_0 0 rfl rfl)
theorem dX0_stays_1 : decode cX0_stays 1 = .ok (.getfield 78, 3) := dk_180 0 78 (dk_at dksX0_stays_0 1 rfl rfl)
theorem dX0_stays_4 : decode cX0_stays 4 = .ok (.invokevirtual 209, 3) := dk_182 0 209 (dk_at dksX0_stays_0 4 rfl rfl)
theorem dX0_stays_7 : decode cX0_stays 7 = .ok (.istore_n 1, 1) := dk_60 (dk_at dksX0_stays_0 7 rfl rfl)
theorem dX0_stays_8 : decode cX0_stays 8 = .ok (.aload_n 0, 1) := dk_42 (dk_at dksX0_stays_0 8 rfl rfl)
theorem dX0_stays_9 : decode cX0_stays 9 = .ok (.getfield 78, 3) := dk_180 0 78 (dk_at dksX0_stays_0 9 rfl rfl)
theorem dX0_stays_12 : decode cX0_stays 12 = .ok (.getfield 123, 3) := dk_180 0 123 (dk_at dksX0_stays_0 12 rfl rfl)
theorem dX0_stays_15 : decode cX0_stays 15 = .ok (.iconst 1, 1) := dk_4 (dk_at dksX0_stays_0 15 rfl rfl)
theorem dX0_stays_16 : decode cX0_stays 16 = .ok (.aaload, 1) := dk_50 (dk_at dksX0_stays_0 16 rfl rfl)
theorem dX0_stays_17 : decode cX0_stays 17 = .ok (.aload_n 0, 1) := dk_42 (dk_at dksX0_stays_0 17 rfl rfl)
theorem dX0_stays_18 : decode cX0_stays 18 = .ok (.getfield 104, 3) := dk_180 0 104 (dk_at dksX0_stays_0 18 rfl rfl)
theorem dX0_stays_21 : decode cX0_stays 21 = .ok (.invokestatic 241, 3) := dk_184 0 241 (dk_at dksX0_stays_0 21 rfl rfl)
theorem dX0_stays_24 : decode cX0_stays 24 = .ok (.aload_n 0, 1) := dk_42 (dk_at dksX0_stays_1 0 rfl rfl)
theorem dX0_stays_25 : decode cX0_stays 25 = .ok (.invokevirtual 173, 3) := dk_182 0 173 (dk_at dksX0_stays_1 1 rfl rfl)
theorem dX0_stays_28 : decode cX0_stays 28 = .ok (.aload_n 0, 1) := dk_42 (dk_at dksX0_stays_1 4 rfl rfl)
theorem dX0_stays_29 : decode cX0_stays 29 = .ok (.iload_n 1, 1) := dk_27 (dk_at dksX0_stays_1 5 rfl rfl)
theorem dX0_stays_30 : decode cX0_stays 30 = .ok (.invokevirtual 245, 3) := dk_182 0 245 (dk_at dksX0_stays_1 6 rfl rfl)
theorem dX0_stays_33 : decode cX0_stays 33 = .ok (.ireturn, 1) := dk_172 (dk_at dksX0_stays_1 9 rfl rfl)
abbrev cX0_areAsTheyWere : ByteArray := prog_1_method_43_code
def yX0_areAsTheyWere : MethodName := ⟨RX0, "areAsTheyWere", "(I)Z"⟩
def dkwX0_areAsTheyWere_2 : List UInt8 := [50, 29, 46, 160, 0, 7, 4, 167, 0, 4, 3, 61, 132, 3, 1, 167, 255, 212, 28, 172]
abbrev dktX0_areAsTheyWere_2 : List UInt8 := dkwX0_areAsTheyWere_2 ++ []
def dkwX0_areAsTheyWere_1 : List UInt8 := [180, 0, 136, 162, 0, 39, 28, 153, 0, 27, 42, 180, 0, 104, 29, 46, 42, 180, 0, 78, 180, 0, 123, 4]
abbrev dktX0_areAsTheyWere_1 : List UInt8 := dkwX0_areAsTheyWere_1 ++ dktX0_areAsTheyWere_2
def dkwX0_areAsTheyWere_0 : List UInt8 := [42, 180, 0, 78, 182, 0, 209, 27, 160, 0, 7, 4, 167, 0, 4, 3, 61, 3, 62, 29, 42, 180, 0, 78]
abbrev dktX0_areAsTheyWere_0 : List UInt8 := dkwX0_areAsTheyWere_0 ++ dktX0_areAsTheyWere_1
theorem dksX0_areAsTheyWere_0 : cX0_areAsTheyWere.data.toList.drop 0 = dktX0_areAsTheyWere_0 := by decide +kernel
theorem dksX0_areAsTheyWere_1 : cX0_areAsTheyWere.data.toList.drop 24 = dktX0_areAsTheyWere_1 := dk_seg dksX0_areAsTheyWere_0 24 rfl rfl
theorem dksX0_areAsTheyWere_2 : cX0_areAsTheyWere.data.toList.drop 48 = dktX0_areAsTheyWere_2 := dk_seg dksX0_areAsTheyWere_1 24 rfl rfl
theorem dX0_areAsTheyWere_0 : decode cX0_areAsTheyWere 0 = .ok (.aload_n 0, 1) := dk_42 (dk_at dksX0_areAsTheyWere_0 0 rfl rfl)
theorem dX0_areAsTheyWere_1 : decode cX0_areAsTheyWere 1 = .ok (.getfield 78, 3) := dk_180 0 78 (dk_at dksX0_areAsTheyWere_0 1 rfl rfl)
theorem dX0_areAsTheyWere_4 : decode cX0_areAsTheyWere 4 = .ok (.invokevirtual 209, 3) := dk_182 0 209 (dk_at dksX0_areAsTheyWere_0 4 rfl rfl)
theorem dX0_areAsTheyWere_7 : decode cX0_areAsTheyWere 7 = .ok (.iload_n 1, 1) := dk_27 (dk_at dksX0_areAsTheyWere_0 7 rfl rfl)
theorem dX0_areAsTheyWere_8 : decode cX0_areAsTheyWere 8 = .ok (.if_icmp .ne 7, 3) := dk_160 0 7 (dk_at dksX0_areAsTheyWere_0 8 rfl rfl)
theorem dX0_areAsTheyWere_11 : decode cX0_areAsTheyWere 11 = .ok (.iconst 1, 1) := dk_4 (dk_at dksX0_areAsTheyWere_0 11 rfl rfl)
theorem dX0_areAsTheyWere_12 : decode cX0_areAsTheyWere 12 = .ok (.goto 4, 3) := dk_167 0 4 (dk_at dksX0_areAsTheyWere_0 12 rfl rfl)
theorem dX0_areAsTheyWere_15 : decode cX0_areAsTheyWere 15 = .ok (.iconst 0, 1) := dk_3 (dk_at dksX0_areAsTheyWere_0 15 rfl rfl)
theorem dX0_areAsTheyWere_16 : decode cX0_areAsTheyWere 16 = .ok (.istore_n 2, 1) := dk_61 (dk_at dksX0_areAsTheyWere_0 16 rfl rfl)
theorem dX0_areAsTheyWere_17 : decode cX0_areAsTheyWere 17 = .ok (.iconst 0, 1) := dk_3 (dk_at dksX0_areAsTheyWere_0 17 rfl rfl)
theorem dX0_areAsTheyWere_18 : decode cX0_areAsTheyWere 18 = .ok (.istore_n 3, 1) := dk_62 (dk_at dksX0_areAsTheyWere_0 18 rfl rfl)
theorem dX0_areAsTheyWere_19 : decode cX0_areAsTheyWere 19 = .ok (.iload_n 3, 1) := dk_29 (dk_at dksX0_areAsTheyWere_0 19 rfl rfl)
theorem dX0_areAsTheyWere_20 : decode cX0_areAsTheyWere 20 = .ok (.aload_n 0, 1) := dk_42 (dk_at dksX0_areAsTheyWere_0 20 rfl rfl)
theorem dX0_areAsTheyWere_21 : decode cX0_areAsTheyWere 21 = .ok (.getfield 78, 3) := dk_180 0 78 (dk_at dksX0_areAsTheyWere_0 21 rfl rfl)
theorem dX0_areAsTheyWere_24 : decode cX0_areAsTheyWere 24 = .ok (.getfield 136, 3) := dk_180 0 136 (dk_at dksX0_areAsTheyWere_1 0 rfl rfl)
theorem dX0_areAsTheyWere_27 : decode cX0_areAsTheyWere 27 = .ok (.if_icmp .ge 39, 3) := dk_162 0 39 (dk_at dksX0_areAsTheyWere_1 3 rfl rfl)
theorem dX0_areAsTheyWere_30 : decode cX0_areAsTheyWere 30 = .ok (.iload_n 2, 1) := dk_28 (dk_at dksX0_areAsTheyWere_1 6 rfl rfl)
theorem dX0_areAsTheyWere_31 : decode cX0_areAsTheyWere 31 = .ok (.ifCond .eq 27, 3) := dk_153 0 27 (dk_at dksX0_areAsTheyWere_1 7 rfl rfl)
theorem dX0_areAsTheyWere_34 : decode cX0_areAsTheyWere 34 = .ok (.aload_n 0, 1) := dk_42 (dk_at dksX0_areAsTheyWere_1 10 rfl rfl)
theorem dX0_areAsTheyWere_35 : decode cX0_areAsTheyWere 35 = .ok (.getfield 104, 3) := dk_180 0 104 (dk_at dksX0_areAsTheyWere_1 11 rfl rfl)
theorem dX0_areAsTheyWere_38 : decode cX0_areAsTheyWere 38 = .ok (.iload_n 3, 1) := dk_29 (dk_at dksX0_areAsTheyWere_1 14 rfl rfl)
theorem dX0_areAsTheyWere_39 : decode cX0_areAsTheyWere 39 = .ok (.iaload, 1) := dk_46 (dk_at dksX0_areAsTheyWere_1 15 rfl rfl)
theorem dX0_areAsTheyWere_40 : decode cX0_areAsTheyWere 40 = .ok (.aload_n 0, 1) := dk_42 (dk_at dksX0_areAsTheyWere_1 16 rfl rfl)
theorem dX0_areAsTheyWere_41 : decode cX0_areAsTheyWere 41 = .ok (.getfield 78, 3) := dk_180 0 78 (dk_at dksX0_areAsTheyWere_1 17 rfl rfl)
theorem dX0_areAsTheyWere_44 : decode cX0_areAsTheyWere 44 = .ok (.getfield 123, 3) := dk_180 0 123 (dk_at dksX0_areAsTheyWere_1 20 rfl rfl)
theorem dX0_areAsTheyWere_47 : decode cX0_areAsTheyWere 47 = .ok (.iconst 1, 1) := dk_4 (dk_at dksX0_areAsTheyWere_1 23 rfl rfl)
theorem dX0_areAsTheyWere_48 : decode cX0_areAsTheyWere 48 = .ok (.aaload, 1) := dk_50 (dk_at dksX0_areAsTheyWere_2 0 rfl rfl)
theorem dX0_areAsTheyWere_49 : decode cX0_areAsTheyWere 49 = .ok (.iload_n 3, 1) := dk_29 (dk_at dksX0_areAsTheyWere_2 1 rfl rfl)
theorem dX0_areAsTheyWere_50 : decode cX0_areAsTheyWere 50 = .ok (.iaload, 1) := dk_46 (dk_at dksX0_areAsTheyWere_2 2 rfl rfl)
theorem dX0_areAsTheyWere_51 : decode cX0_areAsTheyWere 51 = .ok (.if_icmp .ne 7, 3) := dk_160 0 7 (dk_at dksX0_areAsTheyWere_2 3 rfl rfl)
theorem dX0_areAsTheyWere_54 : decode cX0_areAsTheyWere 54 = .ok (.iconst 1, 1) := dk_4 (dk_at dksX0_areAsTheyWere_2 6 rfl rfl)
theorem dX0_areAsTheyWere_55 : decode cX0_areAsTheyWere 55 = .ok (.goto 4, 3) := dk_167 0 4 (dk_at dksX0_areAsTheyWere_2 7 rfl rfl)
theorem dX0_areAsTheyWere_58 : decode cX0_areAsTheyWere 58 = .ok (.iconst 0, 1) := dk_3 (dk_at dksX0_areAsTheyWere_2 10 rfl rfl)
theorem dX0_areAsTheyWere_59 : decode cX0_areAsTheyWere 59 = .ok (.istore_n 2, 1) := dk_61 (dk_at dksX0_areAsTheyWere_2 11 rfl rfl)
theorem dX0_areAsTheyWere_60 : decode cX0_areAsTheyWere 60 = .ok (.iinc 3 1, 3) := dk_132 3 1 (dk_at dksX0_areAsTheyWere_2 12 rfl rfl)
theorem dX0_areAsTheyWere_63 : decode cX0_areAsTheyWere 63 = .ok (.goto (-44), 3) := dk_167 255 212 (dk_at dksX0_areAsTheyWere_2 15 rfl rfl)
theorem dX0_areAsTheyWere_66 : decode cX0_areAsTheyWere 66 = .ok (.iload_n 2, 1) := dk_28 (dk_at dksX0_areAsTheyWere_2 18 rfl rfl)
theorem dX0_areAsTheyWere_67 : decode cX0_areAsTheyWere 67 = .ok (.ireturn, 1) := dk_172 (dk_at dksX0_areAsTheyWere_2 19 rfl rfl)
abbrev cX0_caught : ByteArray := prog_1_method_48_code
def yX0_caught : MethodName := ⟨RX0, "caught", "(I)I"⟩
def dkwX0_caught_0 : List UInt8 := [27, 3, 16, 60, 184, 0, 9, 153, 0, 11, 42, 27, 182, 0, 255, 167, 0, 8, 42, 3, 182, 0, 138, 172]
abbrev dktX0_caught_0 : List UInt8 := dkwX0_caught_0 ++ []
theorem dksX0_caught_0 : cX0_caught.data.toList.drop 0 = dktX0_caught_0 := by decide +kernel
theorem dX0_caught_0 : decode cX0_caught 0 = .ok (.iload_n 1, 1) := dk_27 (dk_at dksX0_caught_0 0 rfl rfl)
theorem dX0_caught_1 : decode cX0_caught 1 = .ok (.iconst 0, 1) := dk_3 (dk_at dksX0_caught_0 1 rfl rfl)
theorem dX0_caught_2 : decode cX0_caught 2 = .ok (.bipush 60, 2) := dk_16 60 (dk_at dksX0_caught_0 2 rfl rfl)
theorem dX0_caught_4 : decode cX0_caught 4 = .ok (.invokestatic 9, 3) := dk_184 0 9 (dk_at dksX0_caught_0 4 rfl rfl)
theorem dX0_caught_7 : decode cX0_caught 7 = .ok (.ifCond .eq 11, 3) := dk_153 0 11 (dk_at dksX0_caught_0 7 rfl rfl)
theorem dX0_caught_10 : decode cX0_caught 10 = .ok (.aload_n 0, 1) := dk_42 (dk_at dksX0_caught_0 10 rfl rfl)
theorem dX0_caught_11 : decode cX0_caught 11 = .ok (.iload_n 1, 1) := dk_27 (dk_at dksX0_caught_0 11 rfl rfl)
theorem dX0_caught_12 : decode cX0_caught 12 = .ok (.invokevirtual 255, 3) := dk_182 0 255 (dk_at dksX0_caught_0 12 rfl rfl)
theorem dX0_caught_15 : decode cX0_caught 15 = .ok (.goto 8, 3) := dk_167 0 8 (dk_at dksX0_caught_0 15 rfl rfl)
theorem dX0_caught_18 : decode cX0_caught 18 = .ok (.aload_n 0, 1) := dk_42 (dk_at dksX0_caught_0 18 rfl rfl)
theorem dX0_caught_19 : decode cX0_caught 19 = .ok (.iconst 0, 1) := dk_3 (dk_at dksX0_caught_0 19 rfl rfl)
theorem dX0_caught_20 : decode cX0_caught 20 = .ok (.invokevirtual 138, 3) := dk_182 0 138 (dk_at dksX0_caught_0 20 rfl rfl)
theorem dX0_caught_23 : decode cX0_caught 23 = .ok (.ireturn, 1) := dk_172 (dk_at dksX0_caught_0 23 rfl rfl)
abbrev cX0_caughtBehind : ByteArray := prog_1_method_47_code
def yX0_caughtBehind : MethodName := ⟨RX0, "caughtBehind", "(I)I"⟩
def dkwX0_caughtBehind_2 : List UInt8 := [182, 0, 231, 45, 191]
abbrev dktX0_caughtBehind_2 : List UInt8 := dkwX0_caughtBehind_2 ++ []
def dkwX0_caughtBehind_1 : List UInt8 := [42, 180, 0, 78, 42, 180, 0, 85, 182, 0, 231, 28, 172, 78, 42, 180, 0, 78, 42, 180, 0, 85]
abbrev dktX0_caughtBehind_1 : List UInt8 := dkwX0_caughtBehind_1 ++ dktX0_caughtBehind_2
def dkwX0_caughtBehind_0 : List UInt8 := [42, 180, 0, 85, 42, 180, 0, 78, 182, 0, 231, 42, 27, 182, 0, 206, 42, 180, 0, 78, 182, 0, 209, 61]
abbrev dktX0_caughtBehind_0 : List UInt8 := dkwX0_caughtBehind_0 ++ dktX0_caughtBehind_1
theorem dksX0_caughtBehind_0 : cX0_caughtBehind.data.toList.drop 0 = dktX0_caughtBehind_0 := by decide +kernel
theorem dksX0_caughtBehind_1 : cX0_caughtBehind.data.toList.drop 24 = dktX0_caughtBehind_1 := dk_seg dksX0_caughtBehind_0 24 rfl rfl
theorem dksX0_caughtBehind_2 : cX0_caughtBehind.data.toList.drop 46 = dktX0_caughtBehind_2 := dk_seg dksX0_caughtBehind_1 22 rfl rfl
theorem dX0_caughtBehind_0 : decode cX0_caughtBehind 0 = .ok (.aload_n 0, 1) := dk_42 (dk_at dksX0_caughtBehind_0 0 rfl rfl)
theorem dX0_caughtBehind_1 : decode cX0_caughtBehind 1 = .ok (.getfield 85, 3) := dk_180 0 85 (dk_at dksX0_caughtBehind_0 1 rfl rfl)
theorem dX0_caughtBehind_4 : decode cX0_caughtBehind 4 = .ok (.aload_n 0, 1) := dk_42 (dk_at dksX0_caughtBehind_0 4 rfl rfl)
theorem dX0_caughtBehind_5 : decode cX0_caughtBehind 5 = .ok (.getfield 78, 3) := dk_180 0 78 (dk_at dksX0_caughtBehind_0 5 rfl rfl)
theorem dX0_caughtBehind_8 : decode cX0_caughtBehind 8 = .ok (.invokevirtual 231, 3) := dk_182 0 231 (dk_at dksX0_caughtBehind_0 8 rfl rfl)
theorem dX0_caughtBehind_11 : decode cX0_caughtBehind 11 = .ok (.aload_n 0, 1) := dk_42 (dk_at dksX0_caughtBehind_0 11 rfl rfl)
theorem dX0_caughtBehind_12 : decode cX0_caughtBehind 12 = .ok (.iload_n 1, 1) := dk_27 (dk_at dksX0_caughtBehind_0 12 rfl rfl)
theorem dX0_caughtBehind_13 : decode cX0_caughtBehind 13 = .ok (.invokevirtual 206, 3) := dk_182 0 206 (dk_at dksX0_caughtBehind_0 13 rfl rfl)
theorem dX0_caughtBehind_16 : decode cX0_caughtBehind 16 = .ok (.aload_n 0, 1) := dk_42 (dk_at dksX0_caughtBehind_0 16 rfl rfl)
theorem dX0_caughtBehind_17 : decode cX0_caughtBehind 17 = .ok (.getfield 78, 3) := dk_180 0 78 (dk_at dksX0_caughtBehind_0 17 rfl rfl)
theorem dX0_caughtBehind_20 : decode cX0_caughtBehind 20 = .ok (.invokevirtual 209, 3) := dk_182 0 209 (dk_at dksX0_caughtBehind_0 20 rfl rfl)
theorem dX0_caughtBehind_23 : decode cX0_caughtBehind 23 = .ok (.istore_n 2, 1) := dk_61 (dk_at dksX0_caughtBehind_0 23 rfl rfl)
theorem dX0_caughtBehind_24 : decode cX0_caughtBehind 24 = .ok (.aload_n 0, 1) := dk_42 (dk_at dksX0_caughtBehind_1 0 rfl rfl)
theorem dX0_caughtBehind_25 : decode cX0_caughtBehind 25 = .ok (.getfield 78, 3) := dk_180 0 78 (dk_at dksX0_caughtBehind_1 1 rfl rfl)
theorem dX0_caughtBehind_28 : decode cX0_caughtBehind 28 = .ok (.aload_n 0, 1) := dk_42 (dk_at dksX0_caughtBehind_1 4 rfl rfl)
theorem dX0_caughtBehind_29 : decode cX0_caughtBehind 29 = .ok (.getfield 85, 3) := dk_180 0 85 (dk_at dksX0_caughtBehind_1 5 rfl rfl)
theorem dX0_caughtBehind_32 : decode cX0_caughtBehind 32 = .ok (.invokevirtual 231, 3) := dk_182 0 231 (dk_at dksX0_caughtBehind_1 8 rfl rfl)
theorem dX0_caughtBehind_35 : decode cX0_caughtBehind 35 = .ok (.iload_n 2, 1) := dk_28 (dk_at dksX0_caughtBehind_1 11 rfl rfl)
theorem dX0_caughtBehind_36 : decode cX0_caughtBehind 36 = .ok (.ireturn, 1) := dk_172 (dk_at dksX0_caughtBehind_1 12 rfl rfl)
theorem dX0_caughtBehind_37 : decode cX0_caughtBehind 37 = .ok (.astore_n 3, 1) := dk_78 (dk_at dksX0_caughtBehind_1 13 rfl rfl)
theorem dX0_caughtBehind_38 : decode cX0_caughtBehind 38 = .ok (.aload_n 0, 1) := dk_42 (dk_at dksX0_caughtBehind_1 14 rfl rfl)
theorem dX0_caughtBehind_39 : decode cX0_caughtBehind 39 = .ok (.getfield 78, 3) := dk_180 0 78 (dk_at dksX0_caughtBehind_1 15 rfl rfl)
theorem dX0_caughtBehind_42 : decode cX0_caughtBehind 42 = .ok (.aload_n 0, 1) := dk_42 (dk_at dksX0_caughtBehind_1 18 rfl rfl)
theorem dX0_caughtBehind_43 : decode cX0_caughtBehind 43 = .ok (.getfield 85, 3) := dk_180 0 85 (dk_at dksX0_caughtBehind_1 19 rfl rfl)
theorem dX0_caughtBehind_46 : decode cX0_caughtBehind 46 = .ok (.invokevirtual 231, 3) := dk_182 0 231 (dk_at dksX0_caughtBehind_2 0 rfl rfl)
theorem dX0_caughtBehind_49 : decode cX0_caughtBehind 49 = .ok (.aload_n 3, 1) := dk_45 (dk_at dksX0_caughtBehind_2 3 rfl rfl)
theorem dX0_caughtBehind_50 : decode cX0_caughtBehind 50 = .ok (.athrow, 1) := dk_191 (dk_at dksX0_caughtBehind_2 4 rfl rfl)
abbrev cX0_netFor : ByteArray := prog_1_method_50_code
def yX0_netFor : MethodName := ⟨RX0, "netFor", "(I)I"⟩
def dkwX0_netFor_1 : List UInt8 := [182, 0, 138, 172]
abbrev dktX0_netFor_1 : List UInt8 := dkwX0_netFor_1 ++ []
def dkwX0_netFor_0 : List UInt8 := [42, 27, 182, 0, 195, 153, 0, 15, 42, 42, 27, 182, 1, 2, 182, 0, 238, 167, 0, 8, 42, 3]
abbrev dktX0_netFor_0 : List UInt8 := dkwX0_netFor_0 ++ dktX0_netFor_1
theorem dksX0_netFor_0 : cX0_netFor.data.toList.drop 0 = dktX0_netFor_0 := by decide +kernel
theorem dksX0_netFor_1 : cX0_netFor.data.toList.drop 22 = dktX0_netFor_1 := dk_seg dksX0_netFor_0 22 rfl rfl
theorem dX0_netFor_0 : decode cX0_netFor 0 = .ok (.aload_n 0, 1) := dk_42 (dk_at dksX0_netFor_0 0 rfl rfl)
theorem dX0_netFor_1 : decode cX0_netFor 1 = .ok (.iload_n 1, 1) := dk_27 (dk_at dksX0_netFor_0 1 rfl rfl)
theorem dX0_netFor_2 : decode cX0_netFor 2 = .ok (.invokevirtual 195, 3) := dk_182 0 195 (dk_at dksX0_netFor_0 2 rfl rfl)
theorem dX0_netFor_5 : decode cX0_netFor 5 = .ok (.ifCond .eq 15, 3) := dk_153 0 15 (dk_at dksX0_netFor_0 5 rfl rfl)
theorem dX0_netFor_8 : decode cX0_netFor 8 = .ok (.aload_n 0, 1) := dk_42 (dk_at dksX0_netFor_0 8 rfl rfl)
theorem dX0_netFor_9 : decode cX0_netFor 9 = .ok (.aload_n 0, 1) := dk_42 (dk_at dksX0_netFor_0 9 rfl rfl)
theorem dX0_netFor_10 : decode cX0_netFor 10 = .ok (.iload_n 1, 1) := dk_27 (dk_at dksX0_netFor_0 10 rfl rfl)
theorem dX0_netFor_11 : decode cX0_netFor 11 = .ok (.invokevirtual 258, 3) := dk_182 1 2 (dk_at dksX0_netFor_0 11 rfl rfl)
theorem dX0_netFor_14 : decode cX0_netFor 14 = .ok (.invokevirtual 238, 3) := dk_182 0 238 (dk_at dksX0_netFor_0 14 rfl rfl)
theorem dX0_netFor_17 : decode cX0_netFor 17 = .ok (.goto 8, 3) := dk_167 0 8 (dk_at dksX0_netFor_0 17 rfl rfl)
theorem dX0_netFor_20 : decode cX0_netFor 20 = .ok (.aload_n 0, 1) := dk_42 (dk_at dksX0_netFor_0 20 rfl rfl)
theorem dX0_netFor_21 : decode cX0_netFor 21 = .ok (.iconst 0, 1) := dk_3 (dk_at dksX0_netFor_0 21 rfl rfl)
theorem dX0_netFor_22 : decode cX0_netFor 22 = .ok (.invokevirtual 138, 3) := dk_182 0 138 (dk_at dksX0_netFor_1 0 rfl rfl)
theorem dX0_netFor_25 : decode cX0_netFor 25 = .ok (.ireturn, 1) := dk_172 (dk_at dksX0_netFor_1 3 rfl rfl)
abbrev cX0_bestNet : ByteArray := prog_1_method_49_code
def yX0_bestNet : MethodName := ⟨RX0, "bestNet", "(I)I"⟩
def dkwX0_bestNet_5 : List UInt8 := [167, 0, 4, 29, 62, 132, 4, 1, 167, 255, 138, 28, 172]
abbrev dktX0_bestNet_5 : List UInt8 := dkwX0_bestNet_5 ++ []
def dkwX0_bestNet_4 : List UInt8 := [3, 54, 7, 21, 7, 153, 0, 8, 21, 4, 167, 0, 4, 28, 61, 21, 7, 153, 0, 8, 21, 6]
abbrev dktX0_bestNet_4 : List UInt8 := dkwX0_bestNet_4 ++ dktX0_bestNet_5
def dkwX0_bestNet_3 : List UInt8 := [21, 5, 79, 21, 6, 2, 159, 0, 18, 28, 2, 159, 0, 9, 21, 6, 29, 162, 0, 7, 4, 167, 0, 4]
abbrev dktX0_bestNet_3 : List UInt8 := dkwX0_bestNet_3 ++ dktX0_bestNet_4
def dkwX0_bestNet_2 : List UInt8 := [2, 167, 0, 10, 42, 27, 16, 20, 182, 0, 235, 54, 6, 42, 180, 0, 78, 180, 0, 167, 3, 50, 21, 4]
abbrev dktX0_bestNet_2 : List UInt8 := dkwX0_bestNet_2 ++ dktX0_bestNet_3
def dkwX0_bestNet_1 : List UInt8 := [21, 4, 46, 54, 5, 42, 180, 0, 78, 180, 0, 167, 3, 50, 21, 4, 4, 79, 21, 5, 4, 160, 0, 7]
abbrev dktX0_bestNet_1 : List UInt8 := dkwX0_bestNet_1 ++ dktX0_bestNet_2
def dkwX0_bestNet_0 : List UInt8 := [2, 61, 3, 62, 3, 54, 4, 21, 4, 16, 64, 162, 0, 117, 42, 180, 0, 78, 180, 0, 167, 3, 50]
abbrev dktX0_bestNet_0 : List UInt8 := dkwX0_bestNet_0 ++ dktX0_bestNet_1
theorem dksX0_bestNet_0 : cX0_bestNet.data.toList.drop 0 = dktX0_bestNet_0 := by decide +kernel
theorem dksX0_bestNet_1 : cX0_bestNet.data.toList.drop 23 = dktX0_bestNet_1 := dk_seg dksX0_bestNet_0 23 rfl rfl
theorem dksX0_bestNet_2 : cX0_bestNet.data.toList.drop 47 = dktX0_bestNet_2 := dk_seg dksX0_bestNet_1 24 rfl rfl
theorem dksX0_bestNet_3 : cX0_bestNet.data.toList.drop 71 = dktX0_bestNet_3 := dk_seg dksX0_bestNet_2 24 rfl rfl
theorem dksX0_bestNet_4 : cX0_bestNet.data.toList.drop 95 = dktX0_bestNet_4 := dk_seg dksX0_bestNet_3 24 rfl rfl
theorem dksX0_bestNet_5 : cX0_bestNet.data.toList.drop 117 = dktX0_bestNet_5 := dk_seg dksX0_bestNet_4 22 rfl rfl
theorem dX0_bestNet_0 : decode cX0_bestNet 0 = .ok (.iconst (-1), 1) := dk_2 (dk_at dksX0_bestNet_0 0 rfl rfl)
theorem dX0_bestNet_1 : decode cX0_bestNet 1 = .ok (.istore_n 2, 1) := dk_61 (dk_at dksX0_bestNet_0 1 rfl rfl)
theorem dX0_bestNet_2 : decode cX0_bestNet 2 = .ok (.iconst 0, 1) := dk_3 (dk_at dksX0_bestNet_0 2 rfl rfl)
theorem dX0_bestNet_3 : decode cX0_bestNet 3 = .ok (.istore_n 3, 1) := dk_62 (dk_at dksX0_bestNet_0 3 rfl rfl)
theorem dX0_bestNet_4 : decode cX0_bestNet 4 = .ok (.iconst 0, 1) := dk_3 (dk_at dksX0_bestNet_0 4 rfl rfl)
theorem dX0_bestNet_5 : decode cX0_bestNet 5 = .ok (.istore 4, 2) := dk_54 4 (dk_at dksX0_bestNet_0 5 rfl rfl)
theorem dX0_bestNet_7 : decode cX0_bestNet 7 = .ok (.iload 4, 2) := dk_21 4 (dk_at dksX0_bestNet_0 7 rfl rfl)
theorem dX0_bestNet_9 : decode cX0_bestNet 9 = .ok (.bipush 64, 2) := dk_16 64 (dk_at dksX0_bestNet_0 9 rfl rfl)
theorem dX0_bestNet_11 : decode cX0_bestNet 11 = .ok (.if_icmp .ge 117, 3) := dk_162 0 117 (dk_at dksX0_bestNet_0 11 rfl rfl)
theorem dX0_bestNet_14 : decode cX0_bestNet 14 = .ok (.aload_n 0, 1) := dk_42 (dk_at dksX0_bestNet_0 14 rfl rfl)
theorem dX0_bestNet_15 : decode cX0_bestNet 15 = .ok (.getfield 78, 3) := dk_180 0 78 (dk_at dksX0_bestNet_0 15 rfl rfl)
theorem dX0_bestNet_18 : decode cX0_bestNet 18 = .ok (.getfield 167, 3) := dk_180 0 167 (dk_at dksX0_bestNet_0 18 rfl rfl)
theorem dX0_bestNet_21 : decode cX0_bestNet 21 = .ok (.iconst 0, 1) := dk_3 (dk_at dksX0_bestNet_0 21 rfl rfl)
theorem dX0_bestNet_22 : decode cX0_bestNet 22 = .ok (.aaload, 1) := dk_50 (dk_at dksX0_bestNet_0 22 rfl rfl)
theorem dX0_bestNet_23 : decode cX0_bestNet 23 = .ok (.iload 4, 2) := dk_21 4 (dk_at dksX0_bestNet_1 0 rfl rfl)
theorem dX0_bestNet_25 : decode cX0_bestNet 25 = .ok (.iaload, 1) := dk_46 (dk_at dksX0_bestNet_1 2 rfl rfl)
theorem dX0_bestNet_26 : decode cX0_bestNet 26 = .ok (.istore 5, 2) := dk_54 5 (dk_at dksX0_bestNet_1 3 rfl rfl)
theorem dX0_bestNet_28 : decode cX0_bestNet 28 = .ok (.aload_n 0, 1) := dk_42 (dk_at dksX0_bestNet_1 5 rfl rfl)
theorem dX0_bestNet_29 : decode cX0_bestNet 29 = .ok (.getfield 78, 3) := dk_180 0 78 (dk_at dksX0_bestNet_1 6 rfl rfl)
theorem dX0_bestNet_32 : decode cX0_bestNet 32 = .ok (.getfield 167, 3) := dk_180 0 167 (dk_at dksX0_bestNet_1 9 rfl rfl)
theorem dX0_bestNet_35 : decode cX0_bestNet 35 = .ok (.iconst 0, 1) := dk_3 (dk_at dksX0_bestNet_1 12 rfl rfl)
theorem dX0_bestNet_36 : decode cX0_bestNet 36 = .ok (.aaload, 1) := dk_50 (dk_at dksX0_bestNet_1 13 rfl rfl)
theorem dX0_bestNet_37 : decode cX0_bestNet 37 = .ok (.iload 4, 2) := dk_21 4 (dk_at dksX0_bestNet_1 14 rfl rfl)
theorem dX0_bestNet_39 : decode cX0_bestNet 39 = .ok (.iconst 1, 1) := dk_4 (dk_at dksX0_bestNet_1 16 rfl rfl)
theorem dX0_bestNet_40 : decode cX0_bestNet 40 = .ok (.iastore, 1) := dk_79 (dk_at dksX0_bestNet_1 17 rfl rfl)
theorem dX0_bestNet_41 : decode cX0_bestNet 41 = .ok (.iload 5, 2) := dk_21 5 (dk_at dksX0_bestNet_1 18 rfl rfl)
theorem dX0_bestNet_43 : decode cX0_bestNet 43 = .ok (.iconst 1, 1) := dk_4 (dk_at dksX0_bestNet_1 20 rfl rfl)
theorem dX0_bestNet_44 : decode cX0_bestNet 44 = .ok (.if_icmp .ne 7, 3) := dk_160 0 7 (dk_at dksX0_bestNet_1 21 rfl rfl)
theorem dX0_bestNet_47 : decode cX0_bestNet 47 = .ok (.iconst (-1), 1) := dk_2 (dk_at dksX0_bestNet_2 0 rfl rfl)
theorem dX0_bestNet_48 : decode cX0_bestNet 48 = .ok (.goto 10, 3) := dk_167 0 10 (dk_at dksX0_bestNet_2 1 rfl rfl)
theorem dX0_bestNet_51 : decode cX0_bestNet 51 = .ok (.aload_n 0, 1) := dk_42 (dk_at dksX0_bestNet_2 4 rfl rfl)
theorem dX0_bestNet_52 : decode cX0_bestNet 52 = .ok (.iload_n 1, 1) := dk_27 (dk_at dksX0_bestNet_2 5 rfl rfl)
theorem dX0_bestNet_53 : decode cX0_bestNet 53 = .ok (.bipush 20, 2) := dk_16 20 (dk_at dksX0_bestNet_2 6 rfl rfl)
theorem dX0_bestNet_55 : decode cX0_bestNet 55 = .ok (.invokevirtual 235, 3) := dk_182 0 235 (dk_at dksX0_bestNet_2 8 rfl rfl)
theorem dX0_bestNet_58 : decode cX0_bestNet 58 = .ok (.istore 6, 2) := dk_54 6 (dk_at dksX0_bestNet_2 11 rfl rfl)
theorem dX0_bestNet_60 : decode cX0_bestNet 60 = .ok (.aload_n 0, 1) := dk_42 (dk_at dksX0_bestNet_2 13 rfl rfl)
theorem dX0_bestNet_61 : decode cX0_bestNet 61 = .ok (.getfield 78, 3) := dk_180 0 78 (dk_at dksX0_bestNet_2 14 rfl rfl)
theorem dX0_bestNet_64 : decode cX0_bestNet 64 = .ok (.getfield 167, 3) := dk_180 0 167 (dk_at dksX0_bestNet_2 17 rfl rfl)
theorem dX0_bestNet_67 : decode cX0_bestNet 67 = .ok (.iconst 0, 1) := dk_3 (dk_at dksX0_bestNet_2 20 rfl rfl)
theorem dX0_bestNet_68 : decode cX0_bestNet 68 = .ok (.aaload, 1) := dk_50 (dk_at dksX0_bestNet_2 21 rfl rfl)
theorem dX0_bestNet_69 : decode cX0_bestNet 69 = .ok (.iload 4, 2) := dk_21 4 (dk_at dksX0_bestNet_2 22 rfl rfl)
theorem dX0_bestNet_71 : decode cX0_bestNet 71 = .ok (.iload 5, 2) := dk_21 5 (dk_at dksX0_bestNet_3 0 rfl rfl)
theorem dX0_bestNet_73 : decode cX0_bestNet 73 = .ok (.iastore, 1) := dk_79 (dk_at dksX0_bestNet_3 2 rfl rfl)
theorem dX0_bestNet_74 : decode cX0_bestNet 74 = .ok (.iload 6, 2) := dk_21 6 (dk_at dksX0_bestNet_3 3 rfl rfl)
theorem dX0_bestNet_76 : decode cX0_bestNet 76 = .ok (.iconst (-1), 1) := dk_2 (dk_at dksX0_bestNet_3 5 rfl rfl)
theorem dX0_bestNet_77 : decode cX0_bestNet 77 = .ok (.if_icmp .eq 18, 3) := dk_159 0 18 (dk_at dksX0_bestNet_3 6 rfl rfl)
theorem dX0_bestNet_80 : decode cX0_bestNet 80 = .ok (.iload_n 2, 1) := dk_28 (dk_at dksX0_bestNet_3 9 rfl rfl)
theorem dX0_bestNet_81 : decode cX0_bestNet 81 = .ok (.iconst (-1), 1) := dk_2 (dk_at dksX0_bestNet_3 10 rfl rfl)
theorem dX0_bestNet_82 : decode cX0_bestNet 82 = .ok (.if_icmp .eq 9, 3) := dk_159 0 9 (dk_at dksX0_bestNet_3 11 rfl rfl)
theorem dX0_bestNet_85 : decode cX0_bestNet 85 = .ok (.iload 6, 2) := dk_21 6 (dk_at dksX0_bestNet_3 14 rfl rfl)
theorem dX0_bestNet_87 : decode cX0_bestNet 87 = .ok (.iload_n 3, 1) := dk_29 (dk_at dksX0_bestNet_3 16 rfl rfl)
theorem dX0_bestNet_88 : decode cX0_bestNet 88 = .ok (.if_icmp .ge 7, 3) := dk_162 0 7 (dk_at dksX0_bestNet_3 17 rfl rfl)
theorem dX0_bestNet_91 : decode cX0_bestNet 91 = .ok (.iconst 1, 1) := dk_4 (dk_at dksX0_bestNet_3 20 rfl rfl)
theorem dX0_bestNet_92 : decode cX0_bestNet 92 = .ok (.goto 4, 3) := dk_167 0 4 (dk_at dksX0_bestNet_3 21 rfl rfl)
theorem dX0_bestNet_95 : decode cX0_bestNet 95 = .ok (.iconst 0, 1) := dk_3 (dk_at dksX0_bestNet_4 0 rfl rfl)
theorem dX0_bestNet_96 : decode cX0_bestNet 96 = .ok (.istore 7, 2) := dk_54 7 (dk_at dksX0_bestNet_4 1 rfl rfl)
theorem dX0_bestNet_98 : decode cX0_bestNet 98 = .ok (.iload 7, 2) := dk_21 7 (dk_at dksX0_bestNet_4 3 rfl rfl)
theorem dX0_bestNet_100 : decode cX0_bestNet 100 = .ok (.ifCond .eq 8, 3) := dk_153 0 8 (dk_at dksX0_bestNet_4 5 rfl rfl)
theorem dX0_bestNet_103 : decode cX0_bestNet 103 = .ok (.iload 4, 2) := dk_21 4 (dk_at dksX0_bestNet_4 8 rfl rfl)
theorem dX0_bestNet_105 : decode cX0_bestNet 105 = .ok (.goto 4, 3) := dk_167 0 4 (dk_at dksX0_bestNet_4 10 rfl rfl)
theorem dX0_bestNet_108 : decode cX0_bestNet 108 = .ok (.iload_n 2, 1) := dk_28 (dk_at dksX0_bestNet_4 13 rfl rfl)
theorem dX0_bestNet_109 : decode cX0_bestNet 109 = .ok (.istore_n 2, 1) := dk_61 (dk_at dksX0_bestNet_4 14 rfl rfl)
theorem dX0_bestNet_110 : decode cX0_bestNet 110 = .ok (.iload 7, 2) := dk_21 7 (dk_at dksX0_bestNet_4 15 rfl rfl)
theorem dX0_bestNet_112 : decode cX0_bestNet 112 = .ok (.ifCond .eq 8, 3) := dk_153 0 8 (dk_at dksX0_bestNet_4 17 rfl rfl)
theorem dX0_bestNet_115 : decode cX0_bestNet 115 = .ok (.iload 6, 2) := dk_21 6 (dk_at dksX0_bestNet_4 20 rfl rfl)
theorem dX0_bestNet_117 : decode cX0_bestNet 117 = .ok (.goto 4, 3) := dk_167 0 4 (dk_at dksX0_bestNet_5 0 rfl rfl)
theorem dX0_bestNet_120 : decode cX0_bestNet 120 = .ok (.iload_n 3, 1) := dk_29 (dk_at dksX0_bestNet_5 3 rfl rfl)
theorem dX0_bestNet_121 : decode cX0_bestNet 121 = .ok (.istore_n 3, 1) := dk_62 (dk_at dksX0_bestNet_5 4 rfl rfl)
theorem dX0_bestNet_122 : decode cX0_bestNet 122 = .ok (.iinc 4 1, 3) := dk_132 4 1 (dk_at dksX0_bestNet_5 5 rfl rfl)
theorem dX0_bestNet_125 : decode cX0_bestNet 125 = .ok (.goto (-118), 3) := dk_167 255 138 (dk_at dksX0_bestNet_5 8 rfl rfl)
theorem dX0_bestNet_128 : decode cX0_bestNet 128 = .ok (.iload_n 2, 1) := dk_28 (dk_at dksX0_bestNet_5 11 rfl rfl)
theorem dX0_bestNet_129 : decode cX0_bestNet 129 = .ok (.ireturn, 1) := dk_172 (dk_at dksX0_bestNet_5 12 rfl rfl)
abbrev cX0_best : ByteArray := prog_1_method_52_code
def yX0_best : MethodName := ⟨RX0, "best", "(I)I"⟩
def dkwX0_best_1 : List UInt8 := [182, 0, 138, 172]
abbrev dktX0_best_1 : List UInt8 := dkwX0_best_1 ++ []
def dkwX0_best_0 : List UInt8 := [27, 3, 16, 20, 184, 0, 9, 153, 0, 15, 42, 42, 27, 182, 1, 5, 182, 0, 238, 167, 0, 8, 42, 3]
abbrev dktX0_best_0 : List UInt8 := dkwX0_best_0 ++ dktX0_best_1
theorem dksX0_best_0 : cX0_best.data.toList.drop 0 = dktX0_best_0 := by decide +kernel
theorem dksX0_best_1 : cX0_best.data.toList.drop 24 = dktX0_best_1 := dk_seg dksX0_best_0 24 rfl rfl
theorem dX0_best_0 : decode cX0_best 0 = .ok (.iload_n 1, 1) := dk_27 (dk_at dksX0_best_0 0 rfl rfl)
theorem dX0_best_1 : decode cX0_best 1 = .ok (.iconst 0, 1) := dk_3 (dk_at dksX0_best_0 1 rfl rfl)
theorem dX0_best_2 : decode cX0_best 2 = .ok (.bipush 20, 2) := dk_16 20 (dk_at dksX0_best_0 2 rfl rfl)
theorem dX0_best_4 : decode cX0_best 4 = .ok (.invokestatic 9, 3) := dk_184 0 9 (dk_at dksX0_best_0 4 rfl rfl)
theorem dX0_best_7 : decode cX0_best 7 = .ok (.ifCond .eq 15, 3) := dk_153 0 15 (dk_at dksX0_best_0 7 rfl rfl)
theorem dX0_best_10 : decode cX0_best 10 = .ok (.aload_n 0, 1) := dk_42 (dk_at dksX0_best_0 10 rfl rfl)
theorem dX0_best_11 : decode cX0_best 11 = .ok (.aload_n 0, 1) := dk_42 (dk_at dksX0_best_0 11 rfl rfl)
theorem dX0_best_12 : decode cX0_best 12 = .ok (.iload_n 1, 1) := dk_27 (dk_at dksX0_best_0 12 rfl rfl)
theorem dX0_best_13 : decode cX0_best 13 = .ok (.invokevirtual 261, 3) := dk_182 1 5 (dk_at dksX0_best_0 13 rfl rfl)
theorem dX0_best_16 : decode cX0_best 16 = .ok (.invokevirtual 238, 3) := dk_182 0 238 (dk_at dksX0_best_0 16 rfl rfl)
theorem dX0_best_19 : decode cX0_best 19 = .ok (.goto 8, 3) := dk_167 0 8 (dk_at dksX0_best_0 19 rfl rfl)
theorem dX0_best_22 : decode cX0_best 22 = .ok (.aload_n 0, 1) := dk_42 (dk_at dksX0_best_0 22 rfl rfl)
theorem dX0_best_23 : decode cX0_best 23 = .ok (.iconst 0, 1) := dk_3 (dk_at dksX0_best_0 23 rfl rfl)
theorem dX0_best_24 : decode cX0_best 24 = .ok (.invokevirtual 138, 3) := dk_182 0 138 (dk_at dksX0_best_1 0 rfl rfl)
theorem dX0_best_27 : decode cX0_best 27 = .ok (.ireturn, 1) := dk_172 (dk_at dksX0_best_1 3 rfl rfl)
abbrev cX0_bestOfAll : ByteArray := prog_1_method_51_code
def yX0_bestOfAll : MethodName := ⟨RX0, "bestOfAll", "(I)I"⟩
def dkwX0_bestOfAll_4 : List UInt8 := [62, 132, 4, 1, 167, 255, 165, 28, 172]
abbrev dktX0_bestOfAll_4 : List UInt8 := dkwX0_bestOfAll_4 ++ []
def dkwX0_bestOfAll_3 : List UInt8 := [21, 4, 21, 5, 79, 21, 6, 29, 164, 0, 8, 21, 4, 167, 0, 4, 28, 61, 29, 21, 6, 184, 0, 28]
abbrev dktX0_bestOfAll_3 : List UInt8 := dkwX0_bestOfAll_3 ++ dktX0_bestOfAll_4
def dkwX0_bestOfAll_2 : List UInt8 := [2, 167, 0, 11, 42, 27, 182, 0, 255, 184, 0, 212, 54, 6, 42, 180, 0, 78, 180, 0, 167, 3, 50]
abbrev dktX0_bestOfAll_2 : List UInt8 := dkwX0_bestOfAll_2 ++ dktX0_bestOfAll_3
def dkwX0_bestOfAll_1 : List UInt8 := [21, 4, 46, 54, 5, 42, 180, 0, 78, 180, 0, 167, 3, 50, 21, 4, 4, 79, 21, 5, 4, 160, 0, 7]
abbrev dktX0_bestOfAll_1 : List UInt8 := dkwX0_bestOfAll_1 ++ dktX0_bestOfAll_2
def dkwX0_bestOfAll_0 : List UInt8 := [2, 61, 2, 62, 3, 54, 4, 21, 4, 16, 64, 162, 0, 90, 42, 180, 0, 78, 180, 0, 167, 3, 50]
abbrev dktX0_bestOfAll_0 : List UInt8 := dkwX0_bestOfAll_0 ++ dktX0_bestOfAll_1
theorem dksX0_bestOfAll_0 : cX0_bestOfAll.data.toList.drop 0 = dktX0_bestOfAll_0 := by decide +kernel
theorem dksX0_bestOfAll_1 : cX0_bestOfAll.data.toList.drop 23 = dktX0_bestOfAll_1 := dk_seg dksX0_bestOfAll_0 23 rfl rfl
theorem dksX0_bestOfAll_2 : cX0_bestOfAll.data.toList.drop 47 = dktX0_bestOfAll_2 := dk_seg dksX0_bestOfAll_1 24 rfl rfl
theorem dksX0_bestOfAll_3 : cX0_bestOfAll.data.toList.drop 70 = dktX0_bestOfAll_3 := dk_seg dksX0_bestOfAll_2 23 rfl rfl
theorem dksX0_bestOfAll_4 : cX0_bestOfAll.data.toList.drop 94 = dktX0_bestOfAll_4 := dk_seg dksX0_bestOfAll_3 24 rfl rfl
theorem dX0_bestOfAll_0 : decode cX0_bestOfAll 0 = .ok (.iconst (-1), 1) := dk_2 (dk_at dksX0_bestOfAll_0 0 rfl rfl)
theorem dX0_bestOfAll_1 : decode cX0_bestOfAll 1 = .ok (.istore_n 2, 1) := dk_61 (dk_at dksX0_bestOfAll_0 1 rfl rfl)
theorem dX0_bestOfAll_2 : decode cX0_bestOfAll 2 = .ok (.iconst (-1), 1) := dk_2 (dk_at dksX0_bestOfAll_0 2 rfl rfl)
theorem dX0_bestOfAll_3 : decode cX0_bestOfAll 3 = .ok (.istore_n 3, 1) := dk_62 (dk_at dksX0_bestOfAll_0 3 rfl rfl)
theorem dX0_bestOfAll_4 : decode cX0_bestOfAll 4 = .ok (.iconst 0, 1) := dk_3 (dk_at dksX0_bestOfAll_0 4 rfl rfl)
theorem dX0_bestOfAll_5 : decode cX0_bestOfAll 5 = .ok (.istore 4, 2) := dk_54 4 (dk_at dksX0_bestOfAll_0 5 rfl rfl)
theorem dX0_bestOfAll_7 : decode cX0_bestOfAll 7 = .ok (.iload 4, 2) := dk_21 4 (dk_at dksX0_bestOfAll_0 7 rfl rfl)
theorem dX0_bestOfAll_9 : decode cX0_bestOfAll 9 = .ok (.bipush 64, 2) := dk_16 64 (dk_at dksX0_bestOfAll_0 9 rfl rfl)
theorem dX0_bestOfAll_11 : decode cX0_bestOfAll 11 = .ok (.if_icmp .ge 90, 3) := dk_162 0 90 (dk_at dksX0_bestOfAll_0 11 rfl rfl)
theorem dX0_bestOfAll_14 : decode cX0_bestOfAll 14 = .ok (.aload_n 0, 1) := dk_42 (dk_at dksX0_bestOfAll_0 14 rfl rfl)
theorem dX0_bestOfAll_15 : decode cX0_bestOfAll 15 = .ok (.getfield 78, 3) := dk_180 0 78 (dk_at dksX0_bestOfAll_0 15 rfl rfl)
theorem dX0_bestOfAll_18 : decode cX0_bestOfAll 18 = .ok (.getfield 167, 3) := dk_180 0 167 (dk_at dksX0_bestOfAll_0 18 rfl rfl)
theorem dX0_bestOfAll_21 : decode cX0_bestOfAll 21 = .ok (.iconst 0, 1) := dk_3 (dk_at dksX0_bestOfAll_0 21 rfl rfl)
theorem dX0_bestOfAll_22 : decode cX0_bestOfAll 22 = .ok (.aaload, 1) := dk_50 (dk_at dksX0_bestOfAll_0 22 rfl rfl)
theorem dX0_bestOfAll_23 : decode cX0_bestOfAll 23 = .ok (.iload 4, 2) := dk_21 4 (dk_at dksX0_bestOfAll_1 0 rfl rfl)
theorem dX0_bestOfAll_25 : decode cX0_bestOfAll 25 = .ok (.iaload, 1) := dk_46 (dk_at dksX0_bestOfAll_1 2 rfl rfl)
theorem dX0_bestOfAll_26 : decode cX0_bestOfAll 26 = .ok (.istore 5, 2) := dk_54 5 (dk_at dksX0_bestOfAll_1 3 rfl rfl)
theorem dX0_bestOfAll_28 : decode cX0_bestOfAll 28 = .ok (.aload_n 0, 1) := dk_42 (dk_at dksX0_bestOfAll_1 5 rfl rfl)
theorem dX0_bestOfAll_29 : decode cX0_bestOfAll 29 = .ok (.getfield 78, 3) := dk_180 0 78 (dk_at dksX0_bestOfAll_1 6 rfl rfl)
theorem dX0_bestOfAll_32 : decode cX0_bestOfAll 32 = .ok (.getfield 167, 3) := dk_180 0 167 (dk_at dksX0_bestOfAll_1 9 rfl rfl)
theorem dX0_bestOfAll_35 : decode cX0_bestOfAll 35 = .ok (.iconst 0, 1) := dk_3 (dk_at dksX0_bestOfAll_1 12 rfl rfl)
theorem dX0_bestOfAll_36 : decode cX0_bestOfAll 36 = .ok (.aaload, 1) := dk_50 (dk_at dksX0_bestOfAll_1 13 rfl rfl)
theorem dX0_bestOfAll_37 : decode cX0_bestOfAll 37 = .ok (.iload 4, 2) := dk_21 4 (dk_at dksX0_bestOfAll_1 14 rfl rfl)
theorem dX0_bestOfAll_39 : decode cX0_bestOfAll 39 = .ok (.iconst 1, 1) := dk_4 (dk_at dksX0_bestOfAll_1 16 rfl rfl)
theorem dX0_bestOfAll_40 : decode cX0_bestOfAll 40 = .ok (.iastore, 1) := dk_79 (dk_at dksX0_bestOfAll_1 17 rfl rfl)
theorem dX0_bestOfAll_41 : decode cX0_bestOfAll 41 = .ok (.iload 5, 2) := dk_21 5 (dk_at dksX0_bestOfAll_1 18 rfl rfl)
theorem dX0_bestOfAll_43 : decode cX0_bestOfAll 43 = .ok (.iconst 1, 1) := dk_4 (dk_at dksX0_bestOfAll_1 20 rfl rfl)
theorem dX0_bestOfAll_44 : decode cX0_bestOfAll 44 = .ok (.if_icmp .ne 7, 3) := dk_160 0 7 (dk_at dksX0_bestOfAll_1 21 rfl rfl)
theorem dX0_bestOfAll_47 : decode cX0_bestOfAll 47 = .ok (.iconst (-1), 1) := dk_2 (dk_at dksX0_bestOfAll_2 0 rfl rfl)
theorem dX0_bestOfAll_48 : decode cX0_bestOfAll 48 = .ok (.goto 11, 3) := dk_167 0 11 (dk_at dksX0_bestOfAll_2 1 rfl rfl)
theorem dX0_bestOfAll_51 : decode cX0_bestOfAll 51 = .ok (.aload_n 0, 1) := dk_42 (dk_at dksX0_bestOfAll_2 4 rfl rfl)
theorem dX0_bestOfAll_52 : decode cX0_bestOfAll 52 = .ok (.iload_n 1, 1) := dk_27 (dk_at dksX0_bestOfAll_2 5 rfl rfl)
theorem dX0_bestOfAll_53 : decode cX0_bestOfAll 53 = .ok (.invokevirtual 255, 3) := dk_182 0 255 (dk_at dksX0_bestOfAll_2 6 rfl rfl)
theorem dX0_bestOfAll_56 : decode cX0_bestOfAll 56 = .ok (.invokestatic 212, 3) := dk_184 0 212 (dk_at dksX0_bestOfAll_2 9 rfl rfl)
theorem dX0_bestOfAll_59 : decode cX0_bestOfAll 59 = .ok (.istore 6, 2) := dk_54 6 (dk_at dksX0_bestOfAll_2 12 rfl rfl)
theorem dX0_bestOfAll_61 : decode cX0_bestOfAll 61 = .ok (.aload_n 0, 1) := dk_42 (dk_at dksX0_bestOfAll_2 14 rfl rfl)
theorem dX0_bestOfAll_62 : decode cX0_bestOfAll 62 = .ok (.getfield 78, 3) := dk_180 0 78 (dk_at dksX0_bestOfAll_2 15 rfl rfl)
theorem dX0_bestOfAll_65 : decode cX0_bestOfAll 65 = .ok (.getfield 167, 3) := dk_180 0 167 (dk_at dksX0_bestOfAll_2 18 rfl rfl)
theorem dX0_bestOfAll_68 : decode cX0_bestOfAll 68 = .ok (.iconst 0, 1) := dk_3 (dk_at dksX0_bestOfAll_2 21 rfl rfl)
theorem dX0_bestOfAll_69 : decode cX0_bestOfAll 69 = .ok (.aaload, 1) := dk_50 (dk_at dksX0_bestOfAll_2 22 rfl rfl)
theorem dX0_bestOfAll_70 : decode cX0_bestOfAll 70 = .ok (.iload 4, 2) := dk_21 4 (dk_at dksX0_bestOfAll_3 0 rfl rfl)
theorem dX0_bestOfAll_72 : decode cX0_bestOfAll 72 = .ok (.iload 5, 2) := dk_21 5 (dk_at dksX0_bestOfAll_3 2 rfl rfl)
theorem dX0_bestOfAll_74 : decode cX0_bestOfAll 74 = .ok (.iastore, 1) := dk_79 (dk_at dksX0_bestOfAll_3 4 rfl rfl)
theorem dX0_bestOfAll_75 : decode cX0_bestOfAll 75 = .ok (.iload 6, 2) := dk_21 6 (dk_at dksX0_bestOfAll_3 5 rfl rfl)
theorem dX0_bestOfAll_77 : decode cX0_bestOfAll 77 = .ok (.iload_n 3, 1) := dk_29 (dk_at dksX0_bestOfAll_3 7 rfl rfl)
theorem dX0_bestOfAll_78 : decode cX0_bestOfAll 78 = .ok (.if_icmp .le 8, 3) := dk_164 0 8 (dk_at dksX0_bestOfAll_3 8 rfl rfl)
theorem dX0_bestOfAll_81 : decode cX0_bestOfAll 81 = .ok (.iload 4, 2) := dk_21 4 (dk_at dksX0_bestOfAll_3 11 rfl rfl)
theorem dX0_bestOfAll_83 : decode cX0_bestOfAll 83 = .ok (.goto 4, 3) := dk_167 0 4 (dk_at dksX0_bestOfAll_3 13 rfl rfl)
theorem dX0_bestOfAll_86 : decode cX0_bestOfAll 86 = .ok (.iload_n 2, 1) := dk_28 (dk_at dksX0_bestOfAll_3 16 rfl rfl)
theorem dX0_bestOfAll_87 : decode cX0_bestOfAll 87 = .ok (.istore_n 2, 1) := dk_61 (dk_at dksX0_bestOfAll_3 17 rfl rfl)
theorem dX0_bestOfAll_88 : decode cX0_bestOfAll 88 = .ok (.iload_n 3, 1) := dk_29 (dk_at dksX0_bestOfAll_3 18 rfl rfl)
theorem dX0_bestOfAll_89 : decode cX0_bestOfAll 89 = .ok (.iload 6, 2) := dk_21 6 (dk_at dksX0_bestOfAll_3 19 rfl rfl)
theorem dX0_bestOfAll_91 : decode cX0_bestOfAll 91 = .ok (.invokestatic 28, 3) := dk_184 0 28 (dk_at dksX0_bestOfAll_3 21 rfl rfl)
theorem dX0_bestOfAll_94 : decode cX0_bestOfAll 94 = .ok (.istore_n 3, 1) := dk_62 (dk_at dksX0_bestOfAll_4 0 rfl rfl)
theorem dX0_bestOfAll_95 : decode cX0_bestOfAll 95 = .ok (.iinc 4 1, 3) := dk_132 4 1 (dk_at dksX0_bestOfAll_4 1 rfl rfl)
theorem dX0_bestOfAll_98 : decode cX0_bestOfAll 98 = .ok (.goto (-91), 3) := dk_167 255 165 (dk_at dksX0_bestOfAll_4 4 rfl rfl)
theorem dX0_bestOfAll_101 : decode cX0_bestOfAll 101 = .ok (.iload_n 2, 1) := dk_28 (dk_at dksX0_bestOfAll_4 7 rfl rfl)
theorem dX0_bestOfAll_102 : decode cX0_bestOfAll 102 = .ok (.ireturn, 1) := dk_172 (dk_at dksX0_bestOfAll_4 8 rfl rfl)
abbrev cX0_drive : ByteArray := prog_1_method_54_code
def yX0_drive : MethodName := ⟨RX0, "drive", "(II)I"⟩
def dkwX0_drive_1 : List UInt8 := [182, 0, 238, 167, 0, 8, 42, 3, 182, 0, 138, 172]
abbrev dktX0_drive_1 : List UInt8 := dkwX0_drive_1 ++ []
def dkwX0_drive_0 : List UInt8 := [27, 184, 0, 182, 153, 0, 24, 42, 28, 182, 0, 195, 153, 0, 16, 42, 42, 27, 28, 182, 1, 8]
abbrev dktX0_drive_0 : List UInt8 := dkwX0_drive_0 ++ dktX0_drive_1
theorem dksX0_drive_0 : cX0_drive.data.toList.drop 0 = dktX0_drive_0 := by decide +kernel
theorem dksX0_drive_1 : cX0_drive.data.toList.drop 22 = dktX0_drive_1 := dk_seg dksX0_drive_0 22 rfl rfl
theorem dX0_drive_0 : decode cX0_drive 0 = .ok (.iload_n 1, 1) := dk_27 (dk_at dksX0_drive_0 0 rfl rfl)
theorem dX0_drive_1 : decode cX0_drive 1 = .ok (.invokestatic 182, 3) := dk_184 0 182 (dk_at dksX0_drive_0 1 rfl rfl)
theorem dX0_drive_4 : decode cX0_drive 4 = .ok (.ifCond .eq 24, 3) := dk_153 0 24 (dk_at dksX0_drive_0 4 rfl rfl)
theorem dX0_drive_7 : decode cX0_drive 7 = .ok (.aload_n 0, 1) := dk_42 (dk_at dksX0_drive_0 7 rfl rfl)
theorem dX0_drive_8 : decode cX0_drive 8 = .ok (.iload_n 2, 1) := dk_28 (dk_at dksX0_drive_0 8 rfl rfl)
theorem dX0_drive_9 : decode cX0_drive 9 = .ok (.invokevirtual 195, 3) := dk_182 0 195 (dk_at dksX0_drive_0 9 rfl rfl)
theorem dX0_drive_12 : decode cX0_drive 12 = .ok (.ifCond .eq 16, 3) := dk_153 0 16 (dk_at dksX0_drive_0 12 rfl rfl)
theorem dX0_drive_15 : decode cX0_drive 15 = .ok (.aload_n 0, 1) := dk_42 (dk_at dksX0_drive_0 15 rfl rfl)
theorem dX0_drive_16 : decode cX0_drive 16 = .ok (.aload_n 0, 1) := dk_42 (dk_at dksX0_drive_0 16 rfl rfl)
theorem dX0_drive_17 : decode cX0_drive 17 = .ok (.iload_n 1, 1) := dk_27 (dk_at dksX0_drive_0 17 rfl rfl)
theorem dX0_drive_18 : decode cX0_drive 18 = .ok (.iload_n 2, 1) := dk_28 (dk_at dksX0_drive_0 18 rfl rfl)
theorem dX0_drive_19 : decode cX0_drive 19 = .ok (.invokevirtual 264, 3) := dk_182 1 8 (dk_at dksX0_drive_0 19 rfl rfl)
theorem dX0_drive_22 : decode cX0_drive 22 = .ok (.invokevirtual 238, 3) := dk_182 0 238 (dk_at dksX0_drive_1 0 rfl rfl)
theorem dX0_drive_25 : decode cX0_drive 25 = .ok (.goto 8, 3) := dk_167 0 8 (dk_at dksX0_drive_1 3 rfl rfl)
theorem dX0_drive_28 : decode cX0_drive 28 = .ok (.aload_n 0, 1) := dk_42 (dk_at dksX0_drive_1 6 rfl rfl)
theorem dX0_drive_29 : decode cX0_drive 29 = .ok (.iconst 0, 1) := dk_3 (dk_at dksX0_drive_1 7 rfl rfl)
theorem dX0_drive_30 : decode cX0_drive 30 = .ok (.invokevirtual 138, 3) := dk_182 0 138 (dk_at dksX0_drive_1 8 rfl rfl)
theorem dX0_drive_33 : decode cX0_drive 33 = .ok (.ireturn, 1) := dk_172 (dk_at dksX0_drive_1 11 rfl rfl)
abbrev cX0_bestDrive : ByteArray := prog_1_method_53_code
def yX0_bestDrive : MethodName := ⟨RX0, "bestDrive", "(II)I"⟩
def dkwX0_bestDrive_5 : List UInt8 := [21, 4, 172]
abbrev dktX0_bestDrive_5 : List UInt8 := dkwX0_bestDrive_5 ++ []
def dkwX0_bestDrive_4 : List UInt8 := [167, 0, 5, 21, 5, 54, 5, 132, 6, 1, 167, 255, 172, 42, 180, 0, 78, 180, 0, 185, 27, 29, 79]
abbrev dktX0_bestDrive_4 : List UInt8 := dkwX0_bestDrive_4 ++ dktX0_bestDrive_5
def dkwX0_bestDrive_3 : List UInt8 := [54, 8, 21, 8, 153, 0, 8, 21, 6, 167, 0, 5, 21, 4, 54, 4, 21, 8, 153, 0, 8, 21, 7]
abbrev dktX0_bestDrive_3 : List UInt8 := dkwX0_bestDrive_3 ++ dktX0_bestDrive_4
def dkwX0_bestDrive_2 : List UInt8 := [21, 7, 2, 159, 0, 20, 21, 4, 2, 159, 0, 10, 21, 7, 21, 5, 162, 0, 7, 4, 167, 0, 4, 3]
abbrev dktX0_bestDrive_2 : List UInt8 := dkwX0_bestDrive_2 ++ dktX0_bestDrive_3
def dkwX0_bestDrive_1 : List UInt8 := [162, 0, 83, 42, 180, 0, 78, 180, 0, 185, 27, 21, 6, 79, 42, 28, 16, 20, 182, 0, 235, 54, 7]
abbrev dktX0_bestDrive_1 : List UInt8 := dkwX0_bestDrive_1 ++ dktX0_bestDrive_2
def dkwX0_bestDrive_0 : List UInt8 := [42, 180, 0, 78, 180, 0, 185, 27, 46, 62, 2, 54, 4, 3, 54, 5, 3, 54, 6, 21, 6, 16, 64]
abbrev dktX0_bestDrive_0 : List UInt8 := dkwX0_bestDrive_0 ++ dktX0_bestDrive_1
theorem dksX0_bestDrive_0 : cX0_bestDrive.data.toList.drop 0 = dktX0_bestDrive_0 := by decide +kernel
theorem dksX0_bestDrive_1 : cX0_bestDrive.data.toList.drop 23 = dktX0_bestDrive_1 := dk_seg dksX0_bestDrive_0 23 rfl rfl
theorem dksX0_bestDrive_2 : cX0_bestDrive.data.toList.drop 46 = dktX0_bestDrive_2 := dk_seg dksX0_bestDrive_1 23 rfl rfl
theorem dksX0_bestDrive_3 : cX0_bestDrive.data.toList.drop 70 = dktX0_bestDrive_3 := dk_seg dksX0_bestDrive_2 24 rfl rfl
theorem dksX0_bestDrive_4 : cX0_bestDrive.data.toList.drop 93 = dktX0_bestDrive_4 := dk_seg dksX0_bestDrive_3 23 rfl rfl
theorem dksX0_bestDrive_5 : cX0_bestDrive.data.toList.drop 116 = dktX0_bestDrive_5 := dk_seg dksX0_bestDrive_4 23 rfl rfl
theorem dX0_bestDrive_0 : decode cX0_bestDrive 0 = .ok (.aload_n 0, 1) := dk_42 (dk_at dksX0_bestDrive_0 0 rfl rfl)
theorem dX0_bestDrive_1 : decode cX0_bestDrive 1 = .ok (.getfield 78, 3) := dk_180 0 78 (dk_at dksX0_bestDrive_0 1 rfl rfl)
theorem dX0_bestDrive_4 : decode cX0_bestDrive 4 = .ok (.getfield 185, 3) := dk_180 0 185 (dk_at dksX0_bestDrive_0 4 rfl rfl)
theorem dX0_bestDrive_7 : decode cX0_bestDrive 7 = .ok (.iload_n 1, 1) := dk_27 (dk_at dksX0_bestDrive_0 7 rfl rfl)
theorem dX0_bestDrive_8 : decode cX0_bestDrive 8 = .ok (.iaload, 1) := dk_46 (dk_at dksX0_bestDrive_0 8 rfl rfl)
theorem dX0_bestDrive_9 : decode cX0_bestDrive 9 = .ok (.istore_n 3, 1) := dk_62 (dk_at dksX0_bestDrive_0 9 rfl rfl)
theorem dX0_bestDrive_10 : decode cX0_bestDrive 10 = .ok (.iconst (-1), 1) := dk_2 (dk_at dksX0_bestDrive_0 10 rfl rfl)
theorem dX0_bestDrive_11 : decode cX0_bestDrive 11 = .ok (.istore 4, 2) := dk_54 4 (dk_at dksX0_bestDrive_0 11 rfl rfl)
theorem dX0_bestDrive_13 : decode cX0_bestDrive 13 = .ok (.iconst 0, 1) := dk_3 (dk_at dksX0_bestDrive_0 13 rfl rfl)
theorem dX0_bestDrive_14 : decode cX0_bestDrive 14 = .ok (.istore 5, 2) := dk_54 5 (dk_at dksX0_bestDrive_0 14 rfl rfl)
theorem dX0_bestDrive_16 : decode cX0_bestDrive 16 = .ok (.iconst 0, 1) := dk_3 (dk_at dksX0_bestDrive_0 16 rfl rfl)
theorem dX0_bestDrive_17 : decode cX0_bestDrive 17 = .ok (.istore 6, 2) := dk_54 6 (dk_at dksX0_bestDrive_0 17 rfl rfl)
theorem dX0_bestDrive_19 : decode cX0_bestDrive 19 = .ok (.iload 6, 2) := dk_21 6 (dk_at dksX0_bestDrive_0 19 rfl rfl)
theorem dX0_bestDrive_21 : decode cX0_bestDrive 21 = .ok (.bipush 64, 2) := dk_16 64 (dk_at dksX0_bestDrive_0 21 rfl rfl)
theorem dX0_bestDrive_23 : decode cX0_bestDrive 23 = .ok (.if_icmp .ge 83, 3) := dk_162 0 83 (dk_at dksX0_bestDrive_1 0 rfl rfl)
theorem dX0_bestDrive_26 : decode cX0_bestDrive 26 = .ok (.aload_n 0, 1) := dk_42 (dk_at dksX0_bestDrive_1 3 rfl rfl)
theorem dX0_bestDrive_27 : decode cX0_bestDrive 27 = .ok (.getfield 78, 3) := dk_180 0 78 (dk_at dksX0_bestDrive_1 4 rfl rfl)
theorem dX0_bestDrive_30 : decode cX0_bestDrive 30 = .ok (.getfield 185, 3) := dk_180 0 185 (dk_at dksX0_bestDrive_1 7 rfl rfl)
theorem dX0_bestDrive_33 : decode cX0_bestDrive 33 = .ok (.iload_n 1, 1) := dk_27 (dk_at dksX0_bestDrive_1 10 rfl rfl)
theorem dX0_bestDrive_34 : decode cX0_bestDrive 34 = .ok (.iload 6, 2) := dk_21 6 (dk_at dksX0_bestDrive_1 11 rfl rfl)
theorem dX0_bestDrive_36 : decode cX0_bestDrive 36 = .ok (.iastore, 1) := dk_79 (dk_at dksX0_bestDrive_1 13 rfl rfl)
theorem dX0_bestDrive_37 : decode cX0_bestDrive 37 = .ok (.aload_n 0, 1) := dk_42 (dk_at dksX0_bestDrive_1 14 rfl rfl)
theorem dX0_bestDrive_38 : decode cX0_bestDrive 38 = .ok (.iload_n 2, 1) := dk_28 (dk_at dksX0_bestDrive_1 15 rfl rfl)
theorem dX0_bestDrive_39 : decode cX0_bestDrive 39 = .ok (.bipush 20, 2) := dk_16 20 (dk_at dksX0_bestDrive_1 16 rfl rfl)
theorem dX0_bestDrive_41 : decode cX0_bestDrive 41 = .ok (.invokevirtual 235, 3) := dk_182 0 235 (dk_at dksX0_bestDrive_1 18 rfl rfl)
theorem dX0_bestDrive_44 : decode cX0_bestDrive 44 = .ok (.istore 7, 2) := dk_54 7 (dk_at dksX0_bestDrive_1 21 rfl rfl)
theorem dX0_bestDrive_46 : decode cX0_bestDrive 46 = .ok (.iload 7, 2) := dk_21 7 (dk_at dksX0_bestDrive_2 0 rfl rfl)
theorem dX0_bestDrive_48 : decode cX0_bestDrive 48 = .ok (.iconst (-1), 1) := dk_2 (dk_at dksX0_bestDrive_2 2 rfl rfl)
theorem dX0_bestDrive_49 : decode cX0_bestDrive 49 = .ok (.if_icmp .eq 20, 3) := dk_159 0 20 (dk_at dksX0_bestDrive_2 3 rfl rfl)
theorem dX0_bestDrive_52 : decode cX0_bestDrive 52 = .ok (.iload 4, 2) := dk_21 4 (dk_at dksX0_bestDrive_2 6 rfl rfl)
theorem dX0_bestDrive_54 : decode cX0_bestDrive 54 = .ok (.iconst (-1), 1) := dk_2 (dk_at dksX0_bestDrive_2 8 rfl rfl)
theorem dX0_bestDrive_55 : decode cX0_bestDrive 55 = .ok (.if_icmp .eq 10, 3) := dk_159 0 10 (dk_at dksX0_bestDrive_2 9 rfl rfl)
theorem dX0_bestDrive_58 : decode cX0_bestDrive 58 = .ok (.iload 7, 2) := dk_21 7 (dk_at dksX0_bestDrive_2 12 rfl rfl)
theorem dX0_bestDrive_60 : decode cX0_bestDrive 60 = .ok (.iload 5, 2) := dk_21 5 (dk_at dksX0_bestDrive_2 14 rfl rfl)
theorem dX0_bestDrive_62 : decode cX0_bestDrive 62 = .ok (.if_icmp .ge 7, 3) := dk_162 0 7 (dk_at dksX0_bestDrive_2 16 rfl rfl)
theorem dX0_bestDrive_65 : decode cX0_bestDrive 65 = .ok (.iconst 1, 1) := dk_4 (dk_at dksX0_bestDrive_2 19 rfl rfl)
theorem dX0_bestDrive_66 : decode cX0_bestDrive 66 = .ok (.goto 4, 3) := dk_167 0 4 (dk_at dksX0_bestDrive_2 20 rfl rfl)
theorem dX0_bestDrive_69 : decode cX0_bestDrive 69 = .ok (.iconst 0, 1) := dk_3 (dk_at dksX0_bestDrive_2 23 rfl rfl)
theorem dX0_bestDrive_70 : decode cX0_bestDrive 70 = .ok (.istore 8, 2) := dk_54 8 (dk_at dksX0_bestDrive_3 0 rfl rfl)
theorem dX0_bestDrive_72 : decode cX0_bestDrive 72 = .ok (.iload 8, 2) := dk_21 8 (dk_at dksX0_bestDrive_3 2 rfl rfl)
theorem dX0_bestDrive_74 : decode cX0_bestDrive 74 = .ok (.ifCond .eq 8, 3) := dk_153 0 8 (dk_at dksX0_bestDrive_3 4 rfl rfl)
theorem dX0_bestDrive_77 : decode cX0_bestDrive 77 = .ok (.iload 6, 2) := dk_21 6 (dk_at dksX0_bestDrive_3 7 rfl rfl)
theorem dX0_bestDrive_79 : decode cX0_bestDrive 79 = .ok (.goto 5, 3) := dk_167 0 5 (dk_at dksX0_bestDrive_3 9 rfl rfl)
theorem dX0_bestDrive_82 : decode cX0_bestDrive 82 = .ok (.iload 4, 2) := dk_21 4 (dk_at dksX0_bestDrive_3 12 rfl rfl)
theorem dX0_bestDrive_84 : decode cX0_bestDrive 84 = .ok (.istore 4, 2) := dk_54 4 (dk_at dksX0_bestDrive_3 14 rfl rfl)
theorem dX0_bestDrive_86 : decode cX0_bestDrive 86 = .ok (.iload 8, 2) := dk_21 8 (dk_at dksX0_bestDrive_3 16 rfl rfl)
theorem dX0_bestDrive_88 : decode cX0_bestDrive 88 = .ok (.ifCond .eq 8, 3) := dk_153 0 8 (dk_at dksX0_bestDrive_3 18 rfl rfl)
theorem dX0_bestDrive_91 : decode cX0_bestDrive 91 = .ok (.iload 7, 2) := dk_21 7 (dk_at dksX0_bestDrive_3 21 rfl rfl)
theorem dX0_bestDrive_93 : decode cX0_bestDrive 93 = .ok (.goto 5, 3) := dk_167 0 5 (dk_at dksX0_bestDrive_4 0 rfl rfl)
theorem dX0_bestDrive_96 : decode cX0_bestDrive 96 = .ok (.iload 5, 2) := dk_21 5 (dk_at dksX0_bestDrive_4 3 rfl rfl)
theorem dX0_bestDrive_98 : decode cX0_bestDrive 98 = .ok (.istore 5, 2) := dk_54 5 (dk_at dksX0_bestDrive_4 5 rfl rfl)
theorem dX0_bestDrive_100 : decode cX0_bestDrive 100 = .ok (.iinc 6 1, 3) := dk_132 6 1 (dk_at dksX0_bestDrive_4 7 rfl rfl)
theorem dX0_bestDrive_103 : decode cX0_bestDrive 103 = .ok (.goto (-84), 3) := dk_167 255 172 (dk_at dksX0_bestDrive_4 10 rfl rfl)
theorem dX0_bestDrive_106 : decode cX0_bestDrive 106 = .ok (.aload_n 0, 1) := dk_42 (dk_at dksX0_bestDrive_4 13 rfl rfl)
theorem dX0_bestDrive_107 : decode cX0_bestDrive 107 = .ok (.getfield 78, 3) := dk_180 0 78 (dk_at dksX0_bestDrive_4 14 rfl rfl)
theorem dX0_bestDrive_110 : decode cX0_bestDrive 110 = .ok (.getfield 185, 3) := dk_180 0 185 (dk_at dksX0_bestDrive_4 17 rfl rfl)
theorem dX0_bestDrive_113 : decode cX0_bestDrive 113 = .ok (.iload_n 1, 1) := dk_27 (dk_at dksX0_bestDrive_4 20 rfl rfl)
theorem dX0_bestDrive_114 : decode cX0_bestDrive 114 = .ok (.iload_n 3, 1) := dk_29 (dk_at dksX0_bestDrive_4 21 rfl rfl)
theorem dX0_bestDrive_115 : decode cX0_bestDrive 115 = .ok (.iastore, 1) := dk_79 (dk_at dksX0_bestDrive_4 22 rfl rfl)
theorem dX0_bestDrive_116 : decode cX0_bestDrive 116 = .ok (.iload 4, 2) := dk_21 4 (dk_at dksX0_bestDrive_5 0 rfl rfl)
theorem dX0_bestDrive_118 : decode cX0_bestDrive 118 = .ok (.ireturn, 1) := dk_172 (dk_at dksX0_bestDrive_5 2 rfl rfl)
abbrev cX0_kindFor : ByteArray := prog_1_method_57_code
def yX0_kindFor : MethodName := ⟨RX0, "kindFor", "(I)I"⟩
def dkwX0_kindFor_0 : List UInt8 := [42, 27, 182, 0, 195, 153, 0, 11, 42, 27, 182, 1, 14, 167, 0, 8, 42, 3, 182, 0, 138, 172]
abbrev dktX0_kindFor_0 : List UInt8 := dkwX0_kindFor_0 ++ []
theorem dksX0_kindFor_0 : cX0_kindFor.data.toList.drop 0 = dktX0_kindFor_0 := by decide +kernel
theorem dX0_kindFor_0 : decode cX0_kindFor 0 = .ok (.aload_n 0, 1) := dk_42 (dk_at dksX0_kindFor_0 0 rfl rfl)
theorem dX0_kindFor_1 : decode cX0_kindFor 1 = .ok (.iload_n 1, 1) := dk_27 (dk_at dksX0_kindFor_0 1 rfl rfl)
theorem dX0_kindFor_2 : decode cX0_kindFor 2 = .ok (.invokevirtual 195, 3) := dk_182 0 195 (dk_at dksX0_kindFor_0 2 rfl rfl)
theorem dX0_kindFor_5 : decode cX0_kindFor 5 = .ok (.ifCond .eq 11, 3) := dk_153 0 11 (dk_at dksX0_kindFor_0 5 rfl rfl)
theorem dX0_kindFor_8 : decode cX0_kindFor 8 = .ok (.aload_n 0, 1) := dk_42 (dk_at dksX0_kindFor_0 8 rfl rfl)
theorem dX0_kindFor_9 : decode cX0_kindFor 9 = .ok (.iload_n 1, 1) := dk_27 (dk_at dksX0_kindFor_0 9 rfl rfl)
theorem dX0_kindFor_10 : decode cX0_kindFor 10 = .ok (.invokevirtual 270, 3) := dk_182 1 14 (dk_at dksX0_kindFor_0 10 rfl rfl)
theorem dX0_kindFor_13 : decode cX0_kindFor 13 = .ok (.goto 8, 3) := dk_167 0 8 (dk_at dksX0_kindFor_0 13 rfl rfl)
theorem dX0_kindFor_16 : decode cX0_kindFor 16 = .ok (.aload_n 0, 1) := dk_42 (dk_at dksX0_kindFor_0 16 rfl rfl)
theorem dX0_kindFor_17 : decode cX0_kindFor 17 = .ok (.iconst 0, 1) := dk_3 (dk_at dksX0_kindFor_0 17 rfl rfl)
theorem dX0_kindFor_18 : decode cX0_kindFor 18 = .ok (.invokevirtual 138, 3) := dk_182 0 138 (dk_at dksX0_kindFor_0 18 rfl rfl)
theorem dX0_kindFor_21 : decode cX0_kindFor 21 = .ok (.ireturn, 1) := dk_172 (dk_at dksX0_kindFor_0 21 rfl rfl)
abbrev cX0_bestKind : ByteArray := prog_1_method_56_code
def yX0_bestKind : MethodName := ⟨RX0, "bestKind", "(I)I"⟩
def dkwX0_bestKind_3 : List UInt8 := [132, 5, 1, 167, 255, 203, 42, 180, 0, 78, 180, 0, 123, 3, 50, 27, 28, 79, 29, 172]
abbrev dktX0_bestKind_3 : List UInt8 := dkwX0_bestKind_3 ++ []
def dkwX0_bestKind_2 : List UInt8 := [21, 6, 21, 4, 164, 0, 8, 21, 5, 167, 0, 4, 29, 62, 21, 4, 21, 6, 184, 0, 28, 54, 4]
abbrev dktX0_bestKind_2 : List UInt8 := dkwX0_bestKind_2 ++ dktX0_bestKind_3
def dkwX0_bestKind_1 : List UInt8 := [162, 0, 52, 42, 180, 0, 78, 180, 0, 123, 3, 50, 27, 21, 5, 79, 42, 27, 182, 1, 11, 54, 6]
abbrev dktX0_bestKind_1 : List UInt8 := dkwX0_bestKind_1 ++ dktX0_bestKind_2
def dkwX0_bestKind_0 : List UInt8 := [42, 180, 0, 78, 180, 0, 123, 3, 50, 27, 46, 61, 3, 62, 2, 54, 4, 3, 54, 5, 21, 5, 16, 7]
abbrev dktX0_bestKind_0 : List UInt8 := dkwX0_bestKind_0 ++ dktX0_bestKind_1
theorem dksX0_bestKind_0 : cX0_bestKind.data.toList.drop 0 = dktX0_bestKind_0 := by decide +kernel
theorem dksX0_bestKind_1 : cX0_bestKind.data.toList.drop 24 = dktX0_bestKind_1 := dk_seg dksX0_bestKind_0 24 rfl rfl
theorem dksX0_bestKind_2 : cX0_bestKind.data.toList.drop 47 = dktX0_bestKind_2 := dk_seg dksX0_bestKind_1 23 rfl rfl
theorem dksX0_bestKind_3 : cX0_bestKind.data.toList.drop 70 = dktX0_bestKind_3 := dk_seg dksX0_bestKind_2 23 rfl rfl
theorem dX0_bestKind_0 : decode cX0_bestKind 0 = .ok (.aload_n 0, 1) := dk_42 (dk_at dksX0_bestKind_0 0 rfl rfl)
theorem dX0_bestKind_1 : decode cX0_bestKind 1 = .ok (.getfield 78, 3) := dk_180 0 78 (dk_at dksX0_bestKind_0 1 rfl rfl)
theorem dX0_bestKind_4 : decode cX0_bestKind 4 = .ok (.getfield 123, 3) := dk_180 0 123 (dk_at dksX0_bestKind_0 4 rfl rfl)
theorem dX0_bestKind_7 : decode cX0_bestKind 7 = .ok (.iconst 0, 1) := dk_3 (dk_at dksX0_bestKind_0 7 rfl rfl)
theorem dX0_bestKind_8 : decode cX0_bestKind 8 = .ok (.aaload, 1) := dk_50 (dk_at dksX0_bestKind_0 8 rfl rfl)
theorem dX0_bestKind_9 : decode cX0_bestKind 9 = .ok (.iload_n 1, 1) := dk_27 (dk_at dksX0_bestKind_0 9 rfl rfl)
theorem dX0_bestKind_10 : decode cX0_bestKind 10 = .ok (.iaload, 1) := dk_46 (dk_at dksX0_bestKind_0 10 rfl rfl)
theorem dX0_bestKind_11 : decode cX0_bestKind 11 = .ok (.istore_n 2, 1) := dk_61 (dk_at dksX0_bestKind_0 11 rfl rfl)
theorem dX0_bestKind_12 : decode cX0_bestKind 12 = .ok (.iconst 0, 1) := dk_3 (dk_at dksX0_bestKind_0 12 rfl rfl)
theorem dX0_bestKind_13 : decode cX0_bestKind 13 = .ok (.istore_n 3, 1) := dk_62 (dk_at dksX0_bestKind_0 13 rfl rfl)
theorem dX0_bestKind_14 : decode cX0_bestKind 14 = .ok (.iconst (-1), 1) := dk_2 (dk_at dksX0_bestKind_0 14 rfl rfl)
theorem dX0_bestKind_15 : decode cX0_bestKind 15 = .ok (.istore 4, 2) := dk_54 4 (dk_at dksX0_bestKind_0 15 rfl rfl)
theorem dX0_bestKind_17 : decode cX0_bestKind 17 = .ok (.iconst 0, 1) := dk_3 (dk_at dksX0_bestKind_0 17 rfl rfl)
theorem dX0_bestKind_18 : decode cX0_bestKind 18 = .ok (.istore 5, 2) := dk_54 5 (dk_at dksX0_bestKind_0 18 rfl rfl)
theorem dX0_bestKind_20 : decode cX0_bestKind 20 = .ok (.iload 5, 2) := dk_21 5 (dk_at dksX0_bestKind_0 20 rfl rfl)
theorem dX0_bestKind_22 : decode cX0_bestKind 22 = .ok (.bipush 7, 2) := dk_16 7 (dk_at dksX0_bestKind_0 22 rfl rfl)
theorem dX0_bestKind_24 : decode cX0_bestKind 24 = .ok (.if_icmp .ge 52, 3) := dk_162 0 52 (dk_at dksX0_bestKind_1 0 rfl rfl)
theorem dX0_bestKind_27 : decode cX0_bestKind 27 = .ok (.aload_n 0, 1) := dk_42 (dk_at dksX0_bestKind_1 3 rfl rfl)
theorem dX0_bestKind_28 : decode cX0_bestKind 28 = .ok (.getfield 78, 3) := dk_180 0 78 (dk_at dksX0_bestKind_1 4 rfl rfl)
theorem dX0_bestKind_31 : decode cX0_bestKind 31 = .ok (.getfield 123, 3) := dk_180 0 123 (dk_at dksX0_bestKind_1 7 rfl rfl)
theorem dX0_bestKind_34 : decode cX0_bestKind 34 = .ok (.iconst 0, 1) := dk_3 (dk_at dksX0_bestKind_1 10 rfl rfl)
theorem dX0_bestKind_35 : decode cX0_bestKind 35 = .ok (.aaload, 1) := dk_50 (dk_at dksX0_bestKind_1 11 rfl rfl)
theorem dX0_bestKind_36 : decode cX0_bestKind 36 = .ok (.iload_n 1, 1) := dk_27 (dk_at dksX0_bestKind_1 12 rfl rfl)
theorem dX0_bestKind_37 : decode cX0_bestKind 37 = .ok (.iload 5, 2) := dk_21 5 (dk_at dksX0_bestKind_1 13 rfl rfl)
theorem dX0_bestKind_39 : decode cX0_bestKind 39 = .ok (.iastore, 1) := dk_79 (dk_at dksX0_bestKind_1 15 rfl rfl)
theorem dX0_bestKind_40 : decode cX0_bestKind 40 = .ok (.aload_n 0, 1) := dk_42 (dk_at dksX0_bestKind_1 16 rfl rfl)
theorem dX0_bestKind_41 : decode cX0_bestKind 41 = .ok (.iload_n 1, 1) := dk_27 (dk_at dksX0_bestKind_1 17 rfl rfl)
theorem dX0_bestKind_42 : decode cX0_bestKind 42 = .ok (.invokevirtual 267, 3) := dk_182 1 11 (dk_at dksX0_bestKind_1 18 rfl rfl)
theorem dX0_bestKind_45 : decode cX0_bestKind 45 = .ok (.istore 6, 2) := dk_54 6 (dk_at dksX0_bestKind_1 21 rfl rfl)
theorem dX0_bestKind_47 : decode cX0_bestKind 47 = .ok (.iload 6, 2) := dk_21 6 (dk_at dksX0_bestKind_2 0 rfl rfl)
theorem dX0_bestKind_49 : decode cX0_bestKind 49 = .ok (.iload 4, 2) := dk_21 4 (dk_at dksX0_bestKind_2 2 rfl rfl)
theorem dX0_bestKind_51 : decode cX0_bestKind 51 = .ok (.if_icmp .le 8, 3) := dk_164 0 8 (dk_at dksX0_bestKind_2 4 rfl rfl)
theorem dX0_bestKind_54 : decode cX0_bestKind 54 = .ok (.iload 5, 2) := dk_21 5 (dk_at dksX0_bestKind_2 7 rfl rfl)
theorem dX0_bestKind_56 : decode cX0_bestKind 56 = .ok (.goto 4, 3) := dk_167 0 4 (dk_at dksX0_bestKind_2 9 rfl rfl)
theorem dX0_bestKind_59 : decode cX0_bestKind 59 = .ok (.iload_n 3, 1) := dk_29 (dk_at dksX0_bestKind_2 12 rfl rfl)
theorem dX0_bestKind_60 : decode cX0_bestKind 60 = .ok (.istore_n 3, 1) := dk_62 (dk_at dksX0_bestKind_2 13 rfl rfl)
theorem dX0_bestKind_61 : decode cX0_bestKind 61 = .ok (.iload 4, 2) := dk_21 4 (dk_at dksX0_bestKind_2 14 rfl rfl)
theorem dX0_bestKind_63 : decode cX0_bestKind 63 = .ok (.iload 6, 2) := dk_21 6 (dk_at dksX0_bestKind_2 16 rfl rfl)
theorem dX0_bestKind_65 : decode cX0_bestKind 65 = .ok (.invokestatic 28, 3) := dk_184 0 28 (dk_at dksX0_bestKind_2 18 rfl rfl)
theorem dX0_bestKind_68 : decode cX0_bestKind 68 = .ok (.istore 4, 2) := dk_54 4 (dk_at dksX0_bestKind_2 21 rfl rfl)
theorem dX0_bestKind_70 : decode cX0_bestKind 70 = .ok (.iinc 5 1, 3) := dk_132 5 1 (dk_at dksX0_bestKind_3 0 rfl rfl)
theorem dX0_bestKind_73 : decode cX0_bestKind 73 = .ok (.goto (-53), 3) := dk_167 255 203 (dk_at dksX0_bestKind_3 3 rfl rfl)
theorem dX0_bestKind_76 : decode cX0_bestKind 76 = .ok (.aload_n 0, 1) := dk_42 (dk_at dksX0_bestKind_3 6 rfl rfl)
theorem dX0_bestKind_77 : decode cX0_bestKind 77 = .ok (.getfield 78, 3) := dk_180 0 78 (dk_at dksX0_bestKind_3 7 rfl rfl)
theorem dX0_bestKind_80 : decode cX0_bestKind 80 = .ok (.getfield 123, 3) := dk_180 0 123 (dk_at dksX0_bestKind_3 10 rfl rfl)
theorem dX0_bestKind_83 : decode cX0_bestKind 83 = .ok (.iconst 0, 1) := dk_3 (dk_at dksX0_bestKind_3 13 rfl rfl)
theorem dX0_bestKind_84 : decode cX0_bestKind 84 = .ok (.aaload, 1) := dk_50 (dk_at dksX0_bestKind_3 14 rfl rfl)
theorem dX0_bestKind_85 : decode cX0_bestKind 85 = .ok (.iload_n 1, 1) := dk_27 (dk_at dksX0_bestKind_3 15 rfl rfl)
theorem dX0_bestKind_86 : decode cX0_bestKind 86 = .ok (.iload_n 2, 1) := dk_28 (dk_at dksX0_bestKind_3 16 rfl rfl)
theorem dX0_bestKind_87 : decode cX0_bestKind 87 = .ok (.iastore, 1) := dk_79 (dk_at dksX0_bestKind_3 17 rfl rfl)
theorem dX0_bestKind_88 : decode cX0_bestKind 88 = .ok (.iload_n 3, 1) := dk_29 (dk_at dksX0_bestKind_3 18 rfl rfl)
theorem dX0_bestKind_89 : decode cX0_bestKind 89 = .ok (.ireturn, 1) := dk_172 (dk_at dksX0_bestKind_3 19 rfl rfl)
abbrev cX0_freeFor : ByteArray := prog_1_method_55_code
def yX0_freeFor : MethodName := ⟨RX0, "freeFor", "(I)I"⟩
def dkwX0_freeFor_0 : List UInt8 := [42, 27, 16, 60, 182, 0, 235, 61, 28, 2, 160, 0, 8, 16, 60, 167, 0, 4, 28, 172]
abbrev dktX0_freeFor_0 : List UInt8 := dkwX0_freeFor_0 ++ []
theorem dksX0_freeFor_0 : cX0_freeFor.data.toList.drop 0 = dktX0_freeFor_0 := by decide +kernel
theorem dX0_freeFor_0 : decode cX0_freeFor 0 = .ok (.aload_n 0, 1) := dk_42 (dk_at dksX0_freeFor_0 0 rfl rfl)
theorem dX0_freeFor_1 : decode cX0_freeFor 1 = .ok (.iload_n 1, 1) := dk_27 (dk_at dksX0_freeFor_0 1 rfl rfl)
theorem dX0_freeFor_2 : decode cX0_freeFor 2 = .ok (.bipush 60, 2) := dk_16 60 (dk_at dksX0_freeFor_0 2 rfl rfl)
theorem dX0_freeFor_4 : decode cX0_freeFor 4 = .ok (.invokevirtual 235, 3) := dk_182 0 235 (dk_at dksX0_freeFor_0 4 rfl rfl)
theorem dX0_freeFor_7 : decode cX0_freeFor 7 = .ok (.istore_n 2, 1) := dk_61 (dk_at dksX0_freeFor_0 7 rfl rfl)
theorem dX0_freeFor_8 : decode cX0_freeFor 8 = .ok (.iload_n 2, 1) := dk_28 (dk_at dksX0_freeFor_0 8 rfl rfl)
theorem dX0_freeFor_9 : decode cX0_freeFor 9 = .ok (.iconst (-1), 1) := dk_2 (dk_at dksX0_freeFor_0 9 rfl rfl)
theorem dX0_freeFor_10 : decode cX0_freeFor 10 = .ok (.if_icmp .ne 8, 3) := dk_160 0 8 (dk_at dksX0_freeFor_0 10 rfl rfl)
theorem dX0_freeFor_13 : decode cX0_freeFor 13 = .ok (.bipush 60, 2) := dk_16 60 (dk_at dksX0_freeFor_0 13 rfl rfl)
theorem dX0_freeFor_15 : decode cX0_freeFor 15 = .ok (.goto 4, 3) := dk_167 0 4 (dk_at dksX0_freeFor_0 15 rfl rfl)
theorem dX0_freeFor_18 : decode cX0_freeFor 18 = .ok (.iload_n 2, 1) := dk_28 (dk_at dksX0_freeFor_0 18 rfl rfl)
theorem dX0_freeFor_19 : decode cX0_freeFor 19 = .ok (.ireturn, 1) := dk_172 (dk_at dksX0_freeFor_0 19 rfl rfl)
abbrev cX0_stands : ByteArray := prog_1_method_63_code
def yX0_stands : MethodName := ⟨RX0, "stands", "(II)I"⟩
def dkwX0_stands_0 : List UInt8 := [42, 27, 28, 182, 1, 53, 172, 78, 42, 45, 180, 0, 128, 182, 0, 138, 172]
abbrev dktX0_stands_0 : List UInt8 := dkwX0_stands_0 ++ []
theorem dksX0_stands_0 : cX0_stands.data.toList.drop 0 = dktX0_stands_0 := by decide +kernel
theorem dX0_stands_0 : decode cX0_stands 0 = .ok (.aload_n 0, 1) := dk_42 (dk_at dksX0_stands_0 0 rfl rfl)
theorem dX0_stands_1 : decode cX0_stands 1 = .ok (.iload_n 1, 1) := dk_27 (dk_at dksX0_stands_0 1 rfl rfl)
theorem dX0_stands_2 : decode cX0_stands 2 = .ok (.iload_n 2, 1) := dk_28 (dk_at dksX0_stands_0 2 rfl rfl)
theorem dX0_stands_3 : decode cX0_stands 3 = .ok (.invokevirtual 309, 3) := dk_182 1 53 (dk_at dksX0_stands_0 3 rfl rfl)
theorem dX0_stands_6 : decode cX0_stands 6 = .ok (.ireturn, 1) := dk_172 (dk_at dksX0_stands_0 6 rfl rfl)
theorem dX0_stands_7 : decode cX0_stands 7 = .ok (.astore_n 3, 1) := dk_78 (dk_at dksX0_stands_0 7 rfl rfl)
theorem dX0_stands_8 : decode cX0_stands 8 = .ok (.aload_n 0, 1) := dk_42 (dk_at dksX0_stands_0 8 rfl rfl)
theorem dX0_stands_9 : decode cX0_stands 9 = .ok (.aload_n 3, 1) := dk_45 (dk_at dksX0_stands_0 9 rfl rfl)
theorem dX0_stands_10 : decode cX0_stands 10 = .ok (.getfield 128, 3) := dk_180 0 128 (dk_at dksX0_stands_0 10 rfl rfl)
theorem dX0_stands_13 : decode cX0_stands 13 = .ok (.invokevirtual 138, 3) := dk_182 0 138 (dk_at dksX0_stands_0 13 rfl rfl)
theorem dX0_stands_16 : decode cX0_stands 16 = .ok (.ireturn, 1) := dk_172 (dk_at dksX0_stands_0 16 rfl rfl)
abbrev cX0_tellsFits : ByteArray := prog_1_method_62_code
def yX0_tellsFits : MethodName := ⟨RX0, "tellsFits", "(II)I"⟩
def dkwX0_tellsFits_4 : List UInt8 := [54, 4, 132, 5, 255, 167, 255, 191, 21, 4, 172]
abbrev dktX0_tellsFits_4 : List UInt8 := dkwX0_tellsFits_4 ++ []
def dkwX0_tellsFits_3 : List UInt8 := [180, 1, 46, 181, 1, 46, 21, 4, 42, 180, 0, 107, 21, 5, 51, 153, 0, 7, 4, 167, 0, 4, 3, 96]
abbrev dktX0_tellsFits_3 : List UInt8 := dkwX0_tellsFits_3 ++ dktX0_tellsFits_4
def dkwX0_tellsFits_2 : List UInt8 := [21, 5, 184, 1, 49, 84, 42, 42, 180, 0, 107, 21, 5, 51, 153, 0, 8, 21, 5, 167, 0, 7, 42]
abbrev dktX0_tellsFits_2 : List UInt8 := dkwX0_tellsFits_2 ++ dktX0_tellsFits_3
def dkwX0_tellsFits_1 : List UInt8 := [181, 1, 46, 3, 54, 4, 16, 63, 54, 5, 21, 5, 155, 0, 66, 42, 180, 0, 107, 21, 5, 45, 28]
abbrev dktX0_tellsFits_1 : List UInt8 := dkwX0_tellsFits_1 ++ dktX0_tellsFits_2
def dkwX0_tellsFits_0 : List UInt8 := [42, 27, 182, 1, 39, 78, 42, 28, 184, 0, 20, 3, 182, 1, 25, 42, 45, 182, 1, 42, 42, 2]
abbrev dktX0_tellsFits_0 : List UInt8 := dkwX0_tellsFits_0 ++ dktX0_tellsFits_1
theorem dksX0_tellsFits_0 : cX0_tellsFits.data.toList.drop 0 = dktX0_tellsFits_0 := by decide +kernel
theorem dksX0_tellsFits_1 : cX0_tellsFits.data.toList.drop 22 = dktX0_tellsFits_1 := dk_seg dksX0_tellsFits_0 22 rfl rfl
theorem dksX0_tellsFits_2 : cX0_tellsFits.data.toList.drop 45 = dktX0_tellsFits_2 := dk_seg dksX0_tellsFits_1 23 rfl rfl
theorem dksX0_tellsFits_3 : cX0_tellsFits.data.toList.drop 68 = dktX0_tellsFits_3 := dk_seg dksX0_tellsFits_2 23 rfl rfl
theorem dksX0_tellsFits_4 : cX0_tellsFits.data.toList.drop 92 = dktX0_tellsFits_4 := dk_seg dksX0_tellsFits_3 24 rfl rfl
theorem dX0_tellsFits_0 : decode cX0_tellsFits 0 = .ok (.aload_n 0, 1) := dk_42 (dk_at dksX0_tellsFits_0 0 rfl rfl)
theorem dX0_tellsFits_1 : decode cX0_tellsFits 1 = .ok (.iload_n 1, 1) := dk_27 (dk_at dksX0_tellsFits_0 1 rfl rfl)
theorem dX0_tellsFits_2 : decode cX0_tellsFits 2 = .ok (.invokevirtual 295, 3) := dk_182 1 39 (dk_at dksX0_tellsFits_0 2 rfl rfl)
theorem dX0_tellsFits_5 : decode cX0_tellsFits 5 = .ok (.astore_n 3, 1) := dk_78 (dk_at dksX0_tellsFits_0 5 rfl rfl)
theorem dX0_tellsFits_6 : decode cX0_tellsFits 6 = .ok (.aload_n 0, 1) := dk_42 (dk_at dksX0_tellsFits_0 6 rfl rfl)
theorem dX0_tellsFits_7 : decode cX0_tellsFits 7 = .ok (.iload_n 2, 1) := dk_28 (dk_at dksX0_tellsFits_0 7 rfl rfl)
theorem dX0_tellsFits_8 : decode cX0_tellsFits 8 = .ok (.invokestatic 20, 3) := dk_184 0 20 (dk_at dksX0_tellsFits_0 8 rfl rfl)
theorem dX0_tellsFits_11 : decode cX0_tellsFits 11 = .ok (.iconst 0, 1) := dk_3 (dk_at dksX0_tellsFits_0 11 rfl rfl)
theorem dX0_tellsFits_12 : decode cX0_tellsFits 12 = .ok (.invokevirtual 281, 3) := dk_182 1 25 (dk_at dksX0_tellsFits_0 12 rfl rfl)
theorem dX0_tellsFits_15 : decode cX0_tellsFits 15 = .ok (.aload_n 0, 1) := dk_42 (dk_at dksX0_tellsFits_0 15 rfl rfl)
theorem dX0_tellsFits_16 : decode cX0_tellsFits 16 = .ok (.aload_n 3, 1) := dk_45 (dk_at dksX0_tellsFits_0 16 rfl rfl)
theorem dX0_tellsFits_17 : decode cX0_tellsFits 17 = .ok (.invokevirtual 298, 3) := dk_182 1 42 (dk_at dksX0_tellsFits_0 17 rfl rfl)
theorem dX0_tellsFits_20 : decode cX0_tellsFits 20 = .ok (.aload_n 0, 1) := dk_42 (dk_at dksX0_tellsFits_0 20 rfl rfl)
theorem dX0_tellsFits_21 : decode cX0_tellsFits 21 = .ok (.iconst (-1), 1) := dk_2 (dk_at dksX0_tellsFits_0 21 rfl rfl)
theorem dX0_tellsFits_22 : decode cX0_tellsFits 22 = .ok (.putfield 302, 3) := dk_181 1 46 (dk_at dksX0_tellsFits_1 0 rfl rfl)
theorem dX0_tellsFits_25 : decode cX0_tellsFits 25 = .ok (.iconst 0, 1) := dk_3 (dk_at dksX0_tellsFits_1 3 rfl rfl)
theorem dX0_tellsFits_26 : decode cX0_tellsFits 26 = .ok (.istore 4, 2) := dk_54 4 (dk_at dksX0_tellsFits_1 4 rfl rfl)
theorem dX0_tellsFits_28 : decode cX0_tellsFits 28 = .ok (.bipush 63, 2) := dk_16 63 (dk_at dksX0_tellsFits_1 6 rfl rfl)
theorem dX0_tellsFits_30 : decode cX0_tellsFits 30 = .ok (.istore 5, 2) := dk_54 5 (dk_at dksX0_tellsFits_1 8 rfl rfl)
theorem dX0_tellsFits_32 : decode cX0_tellsFits 32 = .ok (.iload 5, 2) := dk_21 5 (dk_at dksX0_tellsFits_1 10 rfl rfl)
theorem dX0_tellsFits_34 : decode cX0_tellsFits 34 = .ok (.ifCond .lt 66, 3) := dk_155 0 66 (dk_at dksX0_tellsFits_1 12 rfl rfl)
theorem dX0_tellsFits_37 : decode cX0_tellsFits 37 = .ok (.aload_n 0, 1) := dk_42 (dk_at dksX0_tellsFits_1 15 rfl rfl)
theorem dX0_tellsFits_38 : decode cX0_tellsFits 38 = .ok (.getfield 107, 3) := dk_180 0 107 (dk_at dksX0_tellsFits_1 16 rfl rfl)
theorem dX0_tellsFits_41 : decode cX0_tellsFits 41 = .ok (.iload 5, 2) := dk_21 5 (dk_at dksX0_tellsFits_1 19 rfl rfl)
theorem dX0_tellsFits_43 : decode cX0_tellsFits 43 = .ok (.aload_n 3, 1) := dk_45 (dk_at dksX0_tellsFits_1 21 rfl rfl)
theorem dX0_tellsFits_44 : decode cX0_tellsFits 44 = .ok (.iload_n 2, 1) := dk_28 (dk_at dksX0_tellsFits_1 22 rfl rfl)
theorem dX0_tellsFits_45 : decode cX0_tellsFits 45 = .ok (.iload 5, 2) := dk_21 5 (dk_at dksX0_tellsFits_2 0 rfl rfl)
theorem dX0_tellsFits_47 : decode cX0_tellsFits 47 = .ok (.invokestatic 305, 3) := dk_184 1 49 (dk_at dksX0_tellsFits_2 2 rfl rfl)
theorem dX0_tellsFits_50 : decode cX0_tellsFits 50 = .ok (.bastore, 1) := dk_84 (dk_at dksX0_tellsFits_2 5 rfl rfl)
theorem dX0_tellsFits_51 : decode cX0_tellsFits 51 = .ok (.aload_n 0, 1) := dk_42 (dk_at dksX0_tellsFits_2 6 rfl rfl)
theorem dX0_tellsFits_52 : decode cX0_tellsFits 52 = .ok (.aload_n 0, 1) := dk_42 (dk_at dksX0_tellsFits_2 7 rfl rfl)
theorem dX0_tellsFits_53 : decode cX0_tellsFits 53 = .ok (.getfield 107, 3) := dk_180 0 107 (dk_at dksX0_tellsFits_2 8 rfl rfl)
theorem dX0_tellsFits_56 : decode cX0_tellsFits 56 = .ok (.iload 5, 2) := dk_21 5 (dk_at dksX0_tellsFits_2 11 rfl rfl)
theorem dX0_tellsFits_58 : decode cX0_tellsFits 58 = .ok (.baload, 1) := dk_51 (dk_at dksX0_tellsFits_2 13 rfl rfl)
theorem dX0_tellsFits_59 : decode cX0_tellsFits 59 = .ok (.ifCond .eq 8, 3) := dk_153 0 8 (dk_at dksX0_tellsFits_2 14 rfl rfl)
theorem dX0_tellsFits_62 : decode cX0_tellsFits 62 = .ok (.iload 5, 2) := dk_21 5 (dk_at dksX0_tellsFits_2 17 rfl rfl)
theorem dX0_tellsFits_64 : decode cX0_tellsFits 64 = .ok (.goto 7, 3) := dk_167 0 7 (dk_at dksX0_tellsFits_2 19 rfl rfl)
theorem dX0_tellsFits_67 : decode cX0_tellsFits 67 = .ok (.aload_n 0, 1) := dk_42 (dk_at dksX0_tellsFits_2 22 rfl rfl)
theorem dX0_tellsFits_68 : decode cX0_tellsFits 68 = .ok (.getfield 302, 3) := dk_180 1 46 (dk_at dksX0_tellsFits_3 0 rfl rfl)
theorem dX0_tellsFits_71 : decode cX0_tellsFits 71 = .ok (.putfield 302, 3) := dk_181 1 46 (dk_at dksX0_tellsFits_3 3 rfl rfl)
theorem dX0_tellsFits_74 : decode cX0_tellsFits 74 = .ok (.iload 4, 2) := dk_21 4 (dk_at dksX0_tellsFits_3 6 rfl rfl)
theorem dX0_tellsFits_76 : decode cX0_tellsFits 76 = .ok (.aload_n 0, 1) := dk_42 (dk_at dksX0_tellsFits_3 8 rfl rfl)
theorem dX0_tellsFits_77 : decode cX0_tellsFits 77 = .ok (.getfield 107, 3) := dk_180 0 107 (dk_at dksX0_tellsFits_3 9 rfl rfl)
theorem dX0_tellsFits_80 : decode cX0_tellsFits 80 = .ok (.iload 5, 2) := dk_21 5 (dk_at dksX0_tellsFits_3 12 rfl rfl)
theorem dX0_tellsFits_82 : decode cX0_tellsFits 82 = .ok (.baload, 1) := dk_51 (dk_at dksX0_tellsFits_3 14 rfl rfl)
theorem dX0_tellsFits_83 : decode cX0_tellsFits 83 = .ok (.ifCond .eq 7, 3) := dk_153 0 7 (dk_at dksX0_tellsFits_3 15 rfl rfl)
theorem dX0_tellsFits_86 : decode cX0_tellsFits 86 = .ok (.iconst 1, 1) := dk_4 (dk_at dksX0_tellsFits_3 18 rfl rfl)
theorem dX0_tellsFits_87 : decode cX0_tellsFits 87 = .ok (.goto 4, 3) := dk_167 0 4 (dk_at dksX0_tellsFits_3 19 rfl rfl)
theorem dX0_tellsFits_90 : decode cX0_tellsFits 90 = .ok (.iconst 0, 1) := dk_3 (dk_at dksX0_tellsFits_3 22 rfl rfl)
theorem dX0_tellsFits_91 : decode cX0_tellsFits 91 = .ok (.iadd, 1) := dk_96 (dk_at dksX0_tellsFits_3 23 rfl rfl)
theorem dX0_tellsFits_92 : decode cX0_tellsFits 92 = .ok (.istore 4, 2) := dk_54 4 (dk_at dksX0_tellsFits_4 0 rfl rfl)
theorem dX0_tellsFits_94 : decode cX0_tellsFits 94 = .ok (.iinc 5 (-1), 3) := dk_132 5 255 (dk_at dksX0_tellsFits_4 2 rfl rfl)
theorem dX0_tellsFits_97 : decode cX0_tellsFits 97 = .ok (.goto (-65), 3) := dk_167 255 191 (dk_at dksX0_tellsFits_4 5 rfl rfl)
theorem dX0_tellsFits_100 : decode cX0_tellsFits 100 = .ok (.iload 4, 2) := dk_21 4 (dk_at dksX0_tellsFits_4 8 rfl rfl)
theorem dX0_tellsFits_102 : decode cX0_tellsFits 102 = .ok (.ireturn, 1) := dk_172 (dk_at dksX0_tellsFits_4 10 rfl rfl)
abbrev cX0_earsOf : ByteArray := prog_1_method_59_code
def yX0_earsOf : MethodName := ⟨RX0, "earsOf", "(I)Ljava/lang/Object;"⟩
def dkwX0_earsOf_0 : List UInt8 := [42, 27, 182, 1, 21, 77, 42, 44, 198, 0, 7, 4, 167, 0, 4, 3, 8, 182, 1, 25, 44, 176]
abbrev dktX0_earsOf_0 : List UInt8 := dkwX0_earsOf_0 ++ []
theorem dksX0_earsOf_0 : cX0_earsOf.data.toList.drop 0 = dktX0_earsOf_0 := by decide +kernel
theorem dX0_earsOf_0 : decode cX0_earsOf 0 = .ok (.aload_n 0, 1) := dk_42 (dk_at dksX0_earsOf_0 0 rfl rfl)
theorem dX0_earsOf_1 : decode cX0_earsOf 1 = .ok (.iload_n 1, 1) := dk_27 (dk_at dksX0_earsOf_0 1 rfl rfl)
theorem dX0_earsOf_2 : decode cX0_earsOf 2 = .ok (.invokevirtual 277, 3) := dk_182 1 21 (dk_at dksX0_earsOf_0 2 rfl rfl)
theorem dX0_earsOf_5 : decode cX0_earsOf 5 = .ok (.astore_n 2, 1) := dk_77 (dk_at dksX0_earsOf_0 5 rfl rfl)
theorem dX0_earsOf_6 : decode cX0_earsOf 6 = .ok (.aload_n 0, 1) := dk_42 (dk_at dksX0_earsOf_0 6 rfl rfl)
theorem dX0_earsOf_7 : decode cX0_earsOf 7 = .ok (.aload_n 2, 1) := dk_44 (dk_at dksX0_earsOf_0 7 rfl rfl)
theorem dX0_earsOf_8 : decode cX0_earsOf 8 = .ok (.ifnull 7, 3) := dk_198 0 7 (dk_at dksX0_earsOf_0 8 rfl rfl)
theorem dX0_earsOf_11 : decode cX0_earsOf 11 = .ok (.iconst 1, 1) := dk_4 (dk_at dksX0_earsOf_0 11 rfl rfl)
theorem dX0_earsOf_12 : decode cX0_earsOf 12 = .ok (.goto 4, 3) := dk_167 0 4 (dk_at dksX0_earsOf_0 12 rfl rfl)
theorem dX0_earsOf_15 : decode cX0_earsOf 15 = .ok (.iconst 0, 1) := dk_3 (dk_at dksX0_earsOf_0 15 rfl rfl)
theorem dX0_earsOf_16 : decode cX0_earsOf 16 = .ok (.iconst 5, 1) := dk_8 (dk_at dksX0_earsOf_0 16 rfl rfl)
theorem dX0_earsOf_17 : decode cX0_earsOf 17 = .ok (.invokevirtual 281, 3) := dk_182 1 25 (dk_at dksX0_earsOf_0 17 rfl rfl)
theorem dX0_earsOf_20 : decode cX0_earsOf 20 = .ok (.aload_n 2, 1) := dk_44 (dk_at dksX0_earsOf_0 20 rfl rfl)
theorem dX0_earsOf_21 : decode cX0_earsOf 21 = .ok (.areturn, 1) := dk_176 (dk_at dksX0_earsOf_0 21 rfl rfl)
abbrev cX0_rowAt : ByteArray := prog_1_method_94_code
def yX0_rowAt : MethodName := ⟨RX0, "rowAt", "(I)Ljava/lang/Object;"⟩
def dkwX0_rowAt_0 : List UInt8 := [42, 27, 184, 1, 134, 3, 182, 1, 25, 42, 180, 0, 97, 27, 50, 180, 0, 119, 176]
abbrev dktX0_rowAt_0 : List UInt8 := dkwX0_rowAt_0 ++ []
theorem dksX0_rowAt_0 : cX0_rowAt.data.toList.drop 0 = dktX0_rowAt_0 := by decide +kernel
theorem dX0_rowAt_0 : decode cX0_rowAt 0 = .ok (.aload_n 0, 1) := dk_42 (dk_at dksX0_rowAt_0 0 rfl rfl)
theorem dX0_rowAt_1 : decode cX0_rowAt 1 = .ok (.iload_n 1, 1) := dk_27 (dk_at dksX0_rowAt_0 1 rfl rfl)
theorem dX0_rowAt_2 : decode cX0_rowAt 2 = .ok (.invokestatic 390, 3) := dk_184 1 134 (dk_at dksX0_rowAt_0 2 rfl rfl)
theorem dX0_rowAt_5 : decode cX0_rowAt 5 = .ok (.iconst 0, 1) := dk_3 (dk_at dksX0_rowAt_0 5 rfl rfl)
theorem dX0_rowAt_6 : decode cX0_rowAt 6 = .ok (.invokevirtual 281, 3) := dk_182 1 25 (dk_at dksX0_rowAt_0 6 rfl rfl)
theorem dX0_rowAt_9 : decode cX0_rowAt 9 = .ok (.aload_n 0, 1) := dk_42 (dk_at dksX0_rowAt_0 9 rfl rfl)
theorem dX0_rowAt_10 : decode cX0_rowAt 10 = .ok (.getfield 97, 3) := dk_180 0 97 (dk_at dksX0_rowAt_0 10 rfl rfl)
theorem dX0_rowAt_13 : decode cX0_rowAt 13 = .ok (.iload_n 1, 1) := dk_27 (dk_at dksX0_rowAt_0 13 rfl rfl)
theorem dX0_rowAt_14 : decode cX0_rowAt 14 = .ok (.aaload, 1) := dk_50 (dk_at dksX0_rowAt_0 14 rfl rfl)
theorem dX0_rowAt_15 : decode cX0_rowAt 15 = .ok (.getfield 119, 3) := dk_180 0 119 (dk_at dksX0_rowAt_0 15 rfl rfl)
theorem dX0_rowAt_18 : decode cX0_rowAt 18 = .ok (.areturn, 1) := dk_176 (dk_at dksX0_rowAt_0 18 rfl rfl)
abbrev cX0_isSheet : ByteArray := prog_1_method_4_code
def yX0_isSheet : MethodName := ⟨RX0, "isSheet", "(I)Z"⟩
def dkwX0_isSheet_0 : List UInt8 := [26, 3, 6, 184, 0, 9, 172]
abbrev dktX0_isSheet_0 : List UInt8 := dkwX0_isSheet_0 ++ []
theorem dksX0_isSheet_0 : cX0_isSheet.data.toList.drop 0 = dktX0_isSheet_0 := by decide +kernel
theorem dX0_isSheet_0 : decode cX0_isSheet 0 = .ok (.iload_n 0, 1) := dk_26 (dk_at dksX0_isSheet_0 0 rfl rfl)
theorem dX0_isSheet_1 : decode cX0_isSheet 1 = .ok (.iconst 0, 1) := dk_3 (dk_at dksX0_isSheet_0 1 rfl rfl)
theorem dX0_isSheet_2 : decode cX0_isSheet 2 = .ok (.iconst 3, 1) := dk_6 (dk_at dksX0_isSheet_0 2 rfl rfl)
theorem dX0_isSheet_3 : decode cX0_isSheet 3 = .ok (.invokestatic 9, 3) := dk_184 0 9 (dk_at dksX0_isSheet_0 3 rfl rfl)
theorem dX0_isSheet_6 : decode cX0_isSheet 6 = .ok (.ireturn, 1) := dk_172 (dk_at dksX0_isSheet_0 6 rfl rfl)
abbrev cX0_need : ByteArray := prog_1_method_19_code
def yX0_need : MethodName := ⟨RX0, "need", "(ZI)V"⟩
def dkwX0_need_0 : List UInt8 := [27, 154, 0, 9, 42, 28, 182, 0, 132, 191, 177]
abbrev dktX0_need_0 : List UInt8 := dkwX0_need_0 ++ []
theorem dksX0_need_0 : cX0_need.data.toList.drop 0 = dktX0_need_0 := by decide +kernel
theorem dX0_need_0 : decode cX0_need 0 = .ok (.iload_n 1, 1) := dk_27 (dk_at dksX0_need_0 0 rfl rfl)
theorem dX0_need_1 : decode cX0_need 1 = .ok (.ifCond .ne 9, 3) := dk_154 0 9 (dk_at dksX0_need_0 1 rfl rfl)
theorem dX0_need_4 : decode cX0_need 4 = .ok (.aload_n 0, 1) := dk_42 (dk_at dksX0_need_0 4 rfl rfl)
theorem dX0_need_5 : decode cX0_need 5 = .ok (.iload_n 2, 1) := dk_28 (dk_at dksX0_need_0 5 rfl rfl)
theorem dX0_need_6 : decode cX0_need 6 = .ok (.invokevirtual 132, 3) := dk_182 0 132 (dk_at dksX0_need_0 6 rfl rfl)
theorem dX0_need_9 : decode cX0_need 9 = .ok (.athrow, 1) := dk_191 (dk_at dksX0_need_0 9 rfl rfl)
theorem dX0_need_10 : decode cX0_need 10 = .ok (.return_, 1) := dk_177 (dk_at dksX0_need_0 10 rfl rfl)
abbrev cX0_refused : ByteArray := prog_1_method_18_code
def yX0_refused : MethodName := ⟨RX0, "refused", "(I)LWildBells$Refusal;"⟩
def dkwX0_refused_0 : List UInt8 := [42, 180, 0, 64, 27, 181, 0, 128, 42, 180, 0, 64, 176]
abbrev dktX0_refused_0 : List UInt8 := dkwX0_refused_0 ++ []
theorem dksX0_refused_0 : cX0_refused.data.toList.drop 0 = dktX0_refused_0 := by decide +kernel
theorem dX0_refused_0 : decode cX0_refused 0 = .ok (.aload_n 0, 1) := dk_42 (dk_at dksX0_refused_0 0 rfl rfl)
theorem dX0_refused_1 : decode cX0_refused 1 = .ok (.getfield 64, 3) := dk_180 0 64 (dk_at dksX0_refused_0 1 rfl rfl)
theorem dX0_refused_4 : decode cX0_refused 4 = .ok (.iload_n 1, 1) := dk_27 (dk_at dksX0_refused_0 4 rfl rfl)
theorem dX0_refused_5 : decode cX0_refused 5 = .ok (.putfield 128, 3) := dk_181 0 128 (dk_at dksX0_refused_0 5 rfl rfl)
theorem dX0_refused_8 : decode cX0_refused 8 = .ok (.aload_n 0, 1) := dk_42 (dk_at dksX0_refused_0 8 rfl rfl)
theorem dX0_refused_9 : decode cX0_refused 9 = .ok (.getfield 64, 3) := dk_180 0 64 (dk_at dksX0_refused_0 9 rfl rfl)
theorem dX0_refused_12 : decode cX0_refused 12 = .ok (.areturn, 1) := dk_176 (dk_at dksX0_refused_0 12 rfl rfl)
abbrev cX0_needEars : ByteArray := prog_1_method_60_code
def yX0_needEars : MethodName := ⟨RX0, "needEars", "(Ljava/lang/Object;)V"⟩
def dkwX0_needEars_1 : List UInt8 := [182, 1, 25, 132, 2, 1, 167, 255, 230, 177]
abbrev dktX0_needEars_1 : List UInt8 := dkwX0_needEars_1 ++ []
def dkwX0_needEars_0 : List UInt8 := [3, 61, 28, 43, 184, 1, 29, 162, 0, 24, 42, 43, 5, 28, 104, 184, 1, 32, 184, 0, 17, 7]
abbrev dktX0_needEars_0 : List UInt8 := dkwX0_needEars_0 ++ dktX0_needEars_1
theorem dksX0_needEars_0 : cX0_needEars.data.toList.drop 0 = dktX0_needEars_0 := by decide +kernel
theorem dksX0_needEars_1 : cX0_needEars.data.toList.drop 22 = dktX0_needEars_1 := dk_seg dksX0_needEars_0 22 rfl rfl
theorem dX0_needEars_0 : decode cX0_needEars 0 = .ok (.iconst 0, 1) := dk_3 (dk_at dksX0_needEars_0 0 rfl rfl)
theorem dX0_needEars_1 : decode cX0_needEars 1 = .ok (.istore_n 2, 1) := dk_61 (dk_at dksX0_needEars_0 1 rfl rfl)
theorem dX0_needEars_2 : decode cX0_needEars 2 = .ok (.iload_n 2, 1) := dk_28 (dk_at dksX0_needEars_0 2 rfl rfl)
theorem dX0_needEars_3 : decode cX0_needEars 3 = .ok (.aload_n 1, 1) := dk_43 (dk_at dksX0_needEars_0 3 rfl rfl)
theorem dX0_needEars_4 : decode cX0_needEars 4 = .ok (.invokestatic 285, 3) := dk_184 1 29 (dk_at dksX0_needEars_0 4 rfl rfl)
theorem dX0_needEars_7 : decode cX0_needEars 7 = .ok (.if_icmp .ge 24, 3) := dk_162 0 24 (dk_at dksX0_needEars_0 7 rfl rfl)
theorem dX0_needEars_10 : decode cX0_needEars 10 = .ok (.aload_n 0, 1) := dk_42 (dk_at dksX0_needEars_0 10 rfl rfl)
theorem dX0_needEars_11 : decode cX0_needEars 11 = .ok (.aload_n 1, 1) := dk_43 (dk_at dksX0_needEars_0 11 rfl rfl)
theorem dX0_needEars_12 : decode cX0_needEars 12 = .ok (.iconst 2, 1) := dk_5 (dk_at dksX0_needEars_0 12 rfl rfl)
theorem dX0_needEars_13 : decode cX0_needEars 13 = .ok (.iload_n 2, 1) := dk_28 (dk_at dksX0_needEars_0 13 rfl rfl)
theorem dX0_needEars_14 : decode cX0_needEars 14 = .ok (.imul, 1) := dk_104 (dk_at dksX0_needEars_0 14 rfl rfl)
theorem dX0_needEars_15 : decode cX0_needEars 15 = .ok (.invokestatic 288, 3) := dk_184 1 32 (dk_at dksX0_needEars_0 15 rfl rfl)
theorem dX0_needEars_18 : decode cX0_needEars 18 = .ok (.invokestatic 17, 3) := dk_184 0 17 (dk_at dksX0_needEars_0 18 rfl rfl)
theorem dX0_needEars_21 : decode cX0_needEars 21 = .ok (.iconst 4, 1) := dk_7 (dk_at dksX0_needEars_0 21 rfl rfl)
theorem dX0_needEars_22 : decode cX0_needEars 22 = .ok (.invokevirtual 281, 3) := dk_182 1 25 (dk_at dksX0_needEars_1 0 rfl rfl)
theorem dX0_needEars_25 : decode cX0_needEars 25 = .ok (.iinc 2 1, 3) := dk_132 2 1 (dk_at dksX0_needEars_1 3 rfl rfl)
theorem dX0_needEars_28 : decode cX0_needEars 28 = .ok (.goto (-26), 3) := dk_167 255 230 (dk_at dksX0_needEars_1 6 rfl rfl)
theorem dX0_needEars_31 : decode cX0_needEars 31 = .ok (.return_, 1) := dk_177 (dk_at dksX0_needEars_1 9 rfl rfl)
abbrev cX0_ears : ByteArray := prog_1_method_58_code
def yX0_ears : MethodName := ⟨RX0, "ears", "(Ljava/lang/Object;)I"⟩
def dkwX0_ears_0 : List UInt8 := [42, 184, 1, 17, 5, 108, 172]
abbrev dktX0_ears_0 : List UInt8 := dkwX0_ears_0 ++ []
theorem dksX0_ears_0 : cX0_ears.data.toList.drop 0 = dktX0_ears_0 := by decide +kernel
theorem dX0_ears_0 : decode cX0_ears 0 = .ok (.aload_n 0, 1) := dk_42 (dk_at dksX0_ears_0 0 rfl rfl)
theorem dX0_ears_1 : decode cX0_ears 1 = .ok (.invokestatic 273, 3) := dk_184 1 17 (dk_at dksX0_ears_0 1 rfl rfl)
theorem dX0_ears_4 : decode cX0_ears 4 = .ok (.iconst 2, 1) := dk_5 (dk_at dksX0_ears_0 4 rfl rfl)
theorem dX0_ears_5 : decode cX0_ears 5 = .ok (.idiv, 1) := dk_108 (dk_at dksX0_ears_0 5 rfl rfl)
theorem dX0_ears_6 : decode cX0_ears 6 = .ok (.ireturn, 1) := dk_172 (dk_at dksX0_ears_0 6 rfl rfl)
abbrev cX0_length : ByteArray := prog_1_method_95_code
def yX0_length : MethodName := ⟨RX0, "length", "(Ljava/lang/Object;)I"⟩
def dkwX0_length_1 : List UInt8 := [192, 1, 138, 190, 167, 0, 8, 42, 192, 1, 140, 190, 172]
abbrev dktX0_length_1 : List UInt8 := dkwX0_length_1 ++ []
def dkwX0_length_0 : List UInt8 := [42, 193, 1, 137, 153, 0, 11, 42, 192, 1, 137, 190, 167, 0, 23, 42, 193, 1, 138, 153, 0, 11, 42]
abbrev dktX0_length_0 : List UInt8 := dkwX0_length_0 ++ dktX0_length_1
theorem dksX0_length_0 : cX0_length.data.toList.drop 0 = dktX0_length_0 := by decide +kernel
theorem dksX0_length_1 : cX0_length.data.toList.drop 23 = dktX0_length_1 := dk_seg dksX0_length_0 23 rfl rfl
theorem dX0_length_0 : decode cX0_length 0 = .ok (.aload_n 0, 1) := dk_42 (dk_at dksX0_length_0 0 rfl rfl)
theorem dX0_length_1 : decode cX0_length 1 = .ok (.instanceof 393, 3) := dk_193 1 137 (dk_at dksX0_length_0 1 rfl rfl)
theorem dX0_length_4 : decode cX0_length 4 = .ok (.ifCond .eq 11, 3) := dk_153 0 11 (dk_at dksX0_length_0 4 rfl rfl)
theorem dX0_length_7 : decode cX0_length 7 = .ok (.aload_n 0, 1) := dk_42 (dk_at dksX0_length_0 7 rfl rfl)
theorem dX0_length_8 : decode cX0_length 8 = .ok (.checkcast 393, 3) := dk_192 1 137 (dk_at dksX0_length_0 8 rfl rfl)
theorem dX0_length_11 : decode cX0_length 11 = .ok (.arraylength, 1) := dk_190 (dk_at dksX0_length_0 11 rfl rfl)
theorem dX0_length_12 : decode cX0_length 12 = .ok (.goto 23, 3) := dk_167 0 23 (dk_at dksX0_length_0 12 rfl rfl)
theorem dX0_length_15 : decode cX0_length 15 = .ok (.aload_n 0, 1) := dk_42 (dk_at dksX0_length_0 15 rfl rfl)
theorem dX0_length_16 : decode cX0_length 16 = .ok (.instanceof 394, 3) := dk_193 1 138 (dk_at dksX0_length_0 16 rfl rfl)
theorem dX0_length_19 : decode cX0_length 19 = .ok (.ifCond .eq 11, 3) := dk_153 0 11 (dk_at dksX0_length_0 19 rfl rfl)
theorem dX0_length_22 : decode cX0_length 22 = .ok (.aload_n 0, 1) := dk_42 (dk_at dksX0_length_0 22 rfl rfl)
theorem dX0_length_23 : decode cX0_length 23 = .ok (.checkcast 394, 3) := dk_192 1 138 (dk_at dksX0_length_1 0 rfl rfl)
theorem dX0_length_26 : decode cX0_length 26 = .ok (.arraylength, 1) := dk_190 (dk_at dksX0_length_1 3 rfl rfl)
theorem dX0_length_27 : decode cX0_length 27 = .ok (.goto 8, 3) := dk_167 0 8 (dk_at dksX0_length_1 4 rfl rfl)
theorem dX0_length_30 : decode cX0_length 30 = .ok (.aload_n 0, 1) := dk_42 (dk_at dksX0_length_1 7 rfl rfl)
theorem dX0_length_31 : decode cX0_length 31 = .ok (.checkcast 396, 3) := dk_192 1 140 (dk_at dksX0_length_1 8 rfl rfl)
theorem dX0_length_34 : decode cX0_length 34 = .ok (.arraylength, 1) := dk_190 (dk_at dksX0_length_1 11 rfl rfl)
theorem dX0_length_35 : decode cX0_length 35 = .ok (.ireturn, 1) := dk_172 (dk_at dksX0_length_1 12 rfl rfl)
abbrev cX0_number : ByteArray := prog_1_method_96_code
def yX0_number : MethodName := ⟨RX0, "number", "(Ljava/lang/Object;I)I"⟩
def dkwX0_number_1 : List UInt8 := [192, 1, 138, 27, 53, 167, 0, 9, 42, 192, 1, 140, 27, 46, 172]
abbrev dktX0_number_1 : List UInt8 := dkwX0_number_1 ++ []
def dkwX0_number_0 : List UInt8 := [42, 193, 1, 137, 153, 0, 12, 42, 192, 1, 137, 27, 51, 167, 0, 25, 42, 193, 1, 138, 153, 0, 12, 42]
abbrev dktX0_number_0 : List UInt8 := dkwX0_number_0 ++ dktX0_number_1
theorem dksX0_number_0 : cX0_number.data.toList.drop 0 = dktX0_number_0 := by decide +kernel
theorem dksX0_number_1 : cX0_number.data.toList.drop 24 = dktX0_number_1 := dk_seg dksX0_number_0 24 rfl rfl
theorem dX0_number_0 : decode cX0_number 0 = .ok (.aload_n 0, 1) := dk_42 (dk_at dksX0_number_0 0 rfl rfl)
theorem dX0_number_1 : decode cX0_number 1 = .ok (.instanceof 393, 3) := dk_193 1 137 (dk_at dksX0_number_0 1 rfl rfl)
theorem dX0_number_4 : decode cX0_number 4 = .ok (.ifCond .eq 12, 3) := dk_153 0 12 (dk_at dksX0_number_0 4 rfl rfl)
theorem dX0_number_7 : decode cX0_number 7 = .ok (.aload_n 0, 1) := dk_42 (dk_at dksX0_number_0 7 rfl rfl)
theorem dX0_number_8 : decode cX0_number 8 = .ok (.checkcast 393, 3) := dk_192 1 137 (dk_at dksX0_number_0 8 rfl rfl)
theorem dX0_number_11 : decode cX0_number 11 = .ok (.iload_n 1, 1) := dk_27 (dk_at dksX0_number_0 11 rfl rfl)
theorem dX0_number_12 : decode cX0_number 12 = .ok (.baload, 1) := dk_51 (dk_at dksX0_number_0 12 rfl rfl)
theorem dX0_number_13 : decode cX0_number 13 = .ok (.goto 25, 3) := dk_167 0 25 (dk_at dksX0_number_0 13 rfl rfl)
theorem dX0_number_16 : decode cX0_number 16 = .ok (.aload_n 0, 1) := dk_42 (dk_at dksX0_number_0 16 rfl rfl)
theorem dX0_number_17 : decode cX0_number 17 = .ok (.instanceof 394, 3) := dk_193 1 138 (dk_at dksX0_number_0 17 rfl rfl)
theorem dX0_number_20 : decode cX0_number 20 = .ok (.ifCond .eq 12, 3) := dk_153 0 12 (dk_at dksX0_number_0 20 rfl rfl)
theorem dX0_number_23 : decode cX0_number 23 = .ok (.aload_n 0, 1) := dk_42 (dk_at dksX0_number_0 23 rfl rfl)
theorem dX0_number_24 : decode cX0_number 24 = .ok (.checkcast 394, 3) := dk_192 1 138 (dk_at dksX0_number_1 0 rfl rfl)
theorem dX0_number_27 : decode cX0_number 27 = .ok (.iload_n 1, 1) := dk_27 (dk_at dksX0_number_1 3 rfl rfl)
theorem dX0_number_28 : decode cX0_number 28 = .ok (.saload, 1) := dk_53 (dk_at dksX0_number_1 4 rfl rfl)
theorem dX0_number_29 : decode cX0_number 29 = .ok (.goto 9, 3) := dk_167 0 9 (dk_at dksX0_number_1 5 rfl rfl)
theorem dX0_number_32 : decode cX0_number 32 = .ok (.aload_n 0, 1) := dk_42 (dk_at dksX0_number_1 8 rfl rfl)
theorem dX0_number_33 : decode cX0_number 33 = .ok (.checkcast 396, 3) := dk_192 1 140 (dk_at dksX0_number_1 9 rfl rfl)
theorem dX0_number_36 : decode cX0_number 36 = .ok (.iload_n 1, 1) := dk_27 (dk_at dksX0_number_1 12 rfl rfl)
theorem dX0_number_37 : decode cX0_number 37 = .ok (.iaload, 1) := dk_46 (dk_at dksX0_number_1 13 rfl rfl)
theorem dX0_number_38 : decode cX0_number 38 = .ok (.ireturn, 1) := dk_172 (dk_at dksX0_number_1 14 rfl rfl)
abbrev cX0_soundsSo : ByteArray := prog_1_method_61_code
def yX0_soundsSo : MethodName := ⟨RX0, "soundsSo", "(Ljava/lang/Object;II)Z"⟩
def dkwX0_soundsSo_2 : List UInt8 := [167, 0, 4, 3, 62, 132, 4, 1, 167, 255, 205, 29, 172]
abbrev dktX0_soundsSo_2 : List UInt8 := dkwX0_soundsSo_2 ++ []
def dkwX0_soundsSo_1 : List UInt8 := [184, 1, 32, 28, 184, 0, 150, 184, 1, 36, 42, 5, 21, 4, 104, 4, 96, 184, 1, 32, 160, 0, 7, 4]
abbrev dktX0_soundsSo_1 : List UInt8 := dkwX0_soundsSo_1 ++ dktX0_soundsSo_2
def dkwX0_soundsSo_0 : List UInt8 := [4, 62, 3, 54, 4, 21, 4, 42, 184, 1, 29, 162, 0, 48, 29, 153, 0, 36, 27, 42, 5, 21, 4, 104]
abbrev dktX0_soundsSo_0 : List UInt8 := dkwX0_soundsSo_0 ++ dktX0_soundsSo_1
theorem dksX0_soundsSo_0 : cX0_soundsSo.data.toList.drop 0 = dktX0_soundsSo_0 := by decide +kernel
theorem dksX0_soundsSo_1 : cX0_soundsSo.data.toList.drop 24 = dktX0_soundsSo_1 := dk_seg dksX0_soundsSo_0 24 rfl rfl
theorem dksX0_soundsSo_2 : cX0_soundsSo.data.toList.drop 48 = dktX0_soundsSo_2 := dk_seg dksX0_soundsSo_1 24 rfl rfl
theorem dX0_soundsSo_0 : decode cX0_soundsSo 0 = .ok (.iconst 1, 1) := dk_4 (dk_at dksX0_soundsSo_0 0 rfl rfl)
theorem dX0_soundsSo_1 : decode cX0_soundsSo 1 = .ok (.istore_n 3, 1) := dk_62 (dk_at dksX0_soundsSo_0 1 rfl rfl)
theorem dX0_soundsSo_2 : decode cX0_soundsSo 2 = .ok (.iconst 0, 1) := dk_3 (dk_at dksX0_soundsSo_0 2 rfl rfl)
theorem dX0_soundsSo_3 : decode cX0_soundsSo 3 = .ok (.istore 4, 2) := dk_54 4 (dk_at dksX0_soundsSo_0 3 rfl rfl)
theorem dX0_soundsSo_5 : decode cX0_soundsSo 5 = .ok (.iload 4, 2) := dk_21 4 (dk_at dksX0_soundsSo_0 5 rfl rfl)
theorem dX0_soundsSo_7 : decode cX0_soundsSo 7 = .ok (.aload_n 0, 1) := dk_42 (dk_at dksX0_soundsSo_0 7 rfl rfl)
theorem dX0_soundsSo_8 : decode cX0_soundsSo 8 = .ok (.invokestatic 285, 3) := dk_184 1 29 (dk_at dksX0_soundsSo_0 8 rfl rfl)
theorem dX0_soundsSo_11 : decode cX0_soundsSo 11 = .ok (.if_icmp .ge 48, 3) := dk_162 0 48 (dk_at dksX0_soundsSo_0 11 rfl rfl)
theorem dX0_soundsSo_14 : decode cX0_soundsSo 14 = .ok (.iload_n 3, 1) := dk_29 (dk_at dksX0_soundsSo_0 14 rfl rfl)
theorem dX0_soundsSo_15 : decode cX0_soundsSo 15 = .ok (.ifCond .eq 36, 3) := dk_153 0 36 (dk_at dksX0_soundsSo_0 15 rfl rfl)
theorem dX0_soundsSo_18 : decode cX0_soundsSo 18 = .ok (.iload_n 1, 1) := dk_27 (dk_at dksX0_soundsSo_0 18 rfl rfl)
theorem dX0_soundsSo_19 : decode cX0_soundsSo 19 = .ok (.aload_n 0, 1) := dk_42 (dk_at dksX0_soundsSo_0 19 rfl rfl)
theorem dX0_soundsSo_20 : decode cX0_soundsSo 20 = .ok (.iconst 2, 1) := dk_5 (dk_at dksX0_soundsSo_0 20 rfl rfl)
theorem dX0_soundsSo_21 : decode cX0_soundsSo 21 = .ok (.iload 4, 2) := dk_21 4 (dk_at dksX0_soundsSo_0 21 rfl rfl)
theorem dX0_soundsSo_23 : decode cX0_soundsSo 23 = .ok (.imul, 1) := dk_104 (dk_at dksX0_soundsSo_0 23 rfl rfl)
theorem dX0_soundsSo_24 : decode cX0_soundsSo 24 = .ok (.invokestatic 288, 3) := dk_184 1 32 (dk_at dksX0_soundsSo_1 0 rfl rfl)
theorem dX0_soundsSo_27 : decode cX0_soundsSo 27 = .ok (.iload_n 2, 1) := dk_28 (dk_at dksX0_soundsSo_1 3 rfl rfl)
theorem dX0_soundsSo_28 : decode cX0_soundsSo 28 = .ok (.invokestatic 150, 3) := dk_184 0 150 (dk_at dksX0_soundsSo_1 4 rfl rfl)
theorem dX0_soundsSo_31 : decode cX0_soundsSo 31 = .ok (.invokestatic 292, 3) := dk_184 1 36 (dk_at dksX0_soundsSo_1 7 rfl rfl)
theorem dX0_soundsSo_34 : decode cX0_soundsSo 34 = .ok (.aload_n 0, 1) := dk_42 (dk_at dksX0_soundsSo_1 10 rfl rfl)
theorem dX0_soundsSo_35 : decode cX0_soundsSo 35 = .ok (.iconst 2, 1) := dk_5 (dk_at dksX0_soundsSo_1 11 rfl rfl)
theorem dX0_soundsSo_36 : decode cX0_soundsSo 36 = .ok (.iload 4, 2) := dk_21 4 (dk_at dksX0_soundsSo_1 12 rfl rfl)
theorem dX0_soundsSo_38 : decode cX0_soundsSo 38 = .ok (.imul, 1) := dk_104 (dk_at dksX0_soundsSo_1 14 rfl rfl)
theorem dX0_soundsSo_39 : decode cX0_soundsSo 39 = .ok (.iconst 1, 1) := dk_4 (dk_at dksX0_soundsSo_1 15 rfl rfl)
theorem dX0_soundsSo_40 : decode cX0_soundsSo 40 = .ok (.iadd, 1) := dk_96 (dk_at dksX0_soundsSo_1 16 rfl rfl)
theorem dX0_soundsSo_41 : decode cX0_soundsSo 41 = .ok (.invokestatic 288, 3) := dk_184 1 32 (dk_at dksX0_soundsSo_1 17 rfl rfl)
theorem dX0_soundsSo_44 : decode cX0_soundsSo 44 = .ok (.if_icmp .ne 7, 3) := dk_160 0 7 (dk_at dksX0_soundsSo_1 20 rfl rfl)
theorem dX0_soundsSo_47 : decode cX0_soundsSo 47 = .ok (.iconst 1, 1) := dk_4 (dk_at dksX0_soundsSo_1 23 rfl rfl)
theorem dX0_soundsSo_48 : decode cX0_soundsSo 48 = .ok (.goto 4, 3) := dk_167 0 4 (dk_at dksX0_soundsSo_2 0 rfl rfl)
theorem dX0_soundsSo_51 : decode cX0_soundsSo 51 = .ok (.iconst 0, 1) := dk_3 (dk_at dksX0_soundsSo_2 3 rfl rfl)
theorem dX0_soundsSo_52 : decode cX0_soundsSo 52 = .ok (.istore_n 3, 1) := dk_62 (dk_at dksX0_soundsSo_2 4 rfl rfl)
theorem dX0_soundsSo_53 : decode cX0_soundsSo 53 = .ok (.iinc 4 1, 3) := dk_132 4 1 (dk_at dksX0_soundsSo_2 5 rfl rfl)
theorem dX0_soundsSo_56 : decode cX0_soundsSo 56 = .ok (.goto (-51), 3) := dk_167 255 205 (dk_at dksX0_soundsSo_2 8 rfl rfl)
theorem dX0_soundsSo_59 : decode cX0_soundsSo 59 = .ok (.iload_n 3, 1) := dk_29 (dk_at dksX0_soundsSo_2 11 rfl rfl)
theorem dX0_soundsSo_60 : decode cX0_soundsSo 60 = .ok (.ireturn, 1) := dk_172 (dk_at dksX0_soundsSo_2 12 rfl rfl)
abbrev cX0_where : ByteArray := prog_1_method_64_code
def yX0_where : MethodName := ⟨RX0, "where", "(II)I"⟩
def dkwX0_where_1 : List UInt8 := [78, 42, 45, 180, 0, 128, 182, 0, 138, 172]
abbrev dktX0_where_1 : List UInt8 := dkwX0_where_1 ++ []
def dkwX0_where_0 : List UInt8 := [42, 42, 27, 28, 182, 1, 53, 158, 0, 7, 4, 167, 0, 4, 3, 6, 182, 1, 25, 42, 180, 1, 46, 172]
abbrev dktX0_where_0 : List UInt8 := dkwX0_where_0 ++ dktX0_where_1
theorem dksX0_where_0 : cX0_where.data.toList.drop 0 = dktX0_where_0 := by decide +kernel
theorem dksX0_where_1 : cX0_where.data.toList.drop 24 = dktX0_where_1 := dk_seg dksX0_where_0 24 rfl rfl
theorem dX0_where_0 : decode cX0_where 0 = .ok (.aload_n 0, 1) := dk_42 (dk_at dksX0_where_0 0 rfl rfl)
theorem dX0_where_1 : decode cX0_where 1 = .ok (.aload_n 0, 1) := dk_42 (dk_at dksX0_where_0 1 rfl rfl)
theorem dX0_where_2 : decode cX0_where 2 = .ok (.iload_n 1, 1) := dk_27 (dk_at dksX0_where_0 2 rfl rfl)
theorem dX0_where_3 : decode cX0_where 3 = .ok (.iload_n 2, 1) := dk_28 (dk_at dksX0_where_0 3 rfl rfl)
theorem dX0_where_4 : decode cX0_where 4 = .ok (.invokevirtual 309, 3) := dk_182 1 53 (dk_at dksX0_where_0 4 rfl rfl)
theorem dX0_where_7 : decode cX0_where 7 = .ok (.ifCond .le 7, 3) := dk_158 0 7 (dk_at dksX0_where_0 7 rfl rfl)
theorem dX0_where_10 : decode cX0_where 10 = .ok (.iconst 1, 1) := dk_4 (dk_at dksX0_where_0 10 rfl rfl)
theorem dX0_where_11 : decode cX0_where 11 = .ok (.goto 4, 3) := dk_167 0 4 (dk_at dksX0_where_0 11 rfl rfl)
theorem dX0_where_14 : decode cX0_where 14 = .ok (.iconst 0, 1) := dk_3 (dk_at dksX0_where_0 14 rfl rfl)
theorem dX0_where_15 : decode cX0_where 15 = .ok (.iconst 3, 1) := dk_6 (dk_at dksX0_where_0 15 rfl rfl)
theorem dX0_where_16 : decode cX0_where 16 = .ok (.invokevirtual 281, 3) := dk_182 1 25 (dk_at dksX0_where_0 16 rfl rfl)
theorem dX0_where_19 : decode cX0_where 19 = .ok (.aload_n 0, 1) := dk_42 (dk_at dksX0_where_0 19 rfl rfl)
theorem dX0_where_20 : decode cX0_where 20 = .ok (.getfield 302, 3) := dk_180 1 46 (dk_at dksX0_where_0 20 rfl rfl)
theorem dX0_where_23 : decode cX0_where 23 = .ok (.ireturn, 1) := dk_172 (dk_at dksX0_where_0 23 rfl rfl)
theorem dX0_where_24 : decode cX0_where 24 = .ok (.astore_n 3, 1) := dk_78 (dk_at dksX0_where_1 0 rfl rfl)
theorem dX0_where_25 : decode cX0_where 25 = .ok (.aload_n 0, 1) := dk_42 (dk_at dksX0_where_1 1 rfl rfl)
theorem dX0_where_26 : decode cX0_where 26 = .ok (.aload_n 3, 1) := dk_45 (dk_at dksX0_where_1 2 rfl rfl)
theorem dX0_where_27 : decode cX0_where 27 = .ok (.getfield 128, 3) := dk_180 0 128 (dk_at dksX0_where_1 3 rfl rfl)
theorem dX0_where_30 : decode cX0_where 30 = .ok (.invokevirtual 138, 3) := dk_182 0 138 (dk_at dksX0_where_1 6 rfl rfl)
theorem dX0_where_33 : decode cX0_where 33 = .ok (.ireturn, 1) := dk_172 (dk_at dksX0_where_1 9 rfl rfl)
abbrev cX0_ear : ByteArray := prog_1_method_67_code
def yX0_ear : MethodName := ⟨RX0, "ear", "(II)I"⟩
def dkwX0_ear_1 : List UInt8 := [172, 78, 42, 45, 180, 0, 128, 182, 0, 138, 172]
abbrev dktX0_ear_1 : List UInt8 := dkwX0_ear_1 ++ []
def dkwX0_ear_0 : List UInt8 := [42, 42, 27, 28, 182, 1, 53, 158, 0, 7, 4, 167, 0, 4, 3, 6, 182, 1, 25, 42, 28, 182, 1, 59]
abbrev dktX0_ear_0 : List UInt8 := dkwX0_ear_0 ++ dktX0_ear_1
theorem dksX0_ear_0 : cX0_ear.data.toList.drop 0 = dktX0_ear_0 := by decide +kernel
theorem dksX0_ear_1 : cX0_ear.data.toList.drop 24 = dktX0_ear_1 := dk_seg dksX0_ear_0 24 rfl rfl
theorem dX0_ear_0 : decode cX0_ear 0 = .ok (.aload_n 0, 1) := dk_42 (dk_at dksX0_ear_0 0 rfl rfl)
theorem dX0_ear_1 : decode cX0_ear 1 = .ok (.aload_n 0, 1) := dk_42 (dk_at dksX0_ear_0 1 rfl rfl)
theorem dX0_ear_2 : decode cX0_ear 2 = .ok (.iload_n 1, 1) := dk_27 (dk_at dksX0_ear_0 2 rfl rfl)
theorem dX0_ear_3 : decode cX0_ear 3 = .ok (.iload_n 2, 1) := dk_28 (dk_at dksX0_ear_0 3 rfl rfl)
theorem dX0_ear_4 : decode cX0_ear 4 = .ok (.invokevirtual 309, 3) := dk_182 1 53 (dk_at dksX0_ear_0 4 rfl rfl)
theorem dX0_ear_7 : decode cX0_ear 7 = .ok (.ifCond .le 7, 3) := dk_158 0 7 (dk_at dksX0_ear_0 7 rfl rfl)
theorem dX0_ear_10 : decode cX0_ear 10 = .ok (.iconst 1, 1) := dk_4 (dk_at dksX0_ear_0 10 rfl rfl)
theorem dX0_ear_11 : decode cX0_ear 11 = .ok (.goto 4, 3) := dk_167 0 4 (dk_at dksX0_ear_0 11 rfl rfl)
theorem dX0_ear_14 : decode cX0_ear 14 = .ok (.iconst 0, 1) := dk_3 (dk_at dksX0_ear_0 14 rfl rfl)
theorem dX0_ear_15 : decode cX0_ear 15 = .ok (.iconst 3, 1) := dk_6 (dk_at dksX0_ear_0 15 rfl rfl)
theorem dX0_ear_16 : decode cX0_ear 16 = .ok (.invokevirtual 281, 3) := dk_182 1 25 (dk_at dksX0_ear_0 16 rfl rfl)
theorem dX0_ear_19 : decode cX0_ear 19 = .ok (.aload_n 0, 1) := dk_42 (dk_at dksX0_ear_0 19 rfl rfl)
theorem dX0_ear_20 : decode cX0_ear 20 = .ok (.iload_n 2, 1) := dk_28 (dk_at dksX0_ear_0 20 rfl rfl)
theorem dX0_ear_21 : decode cX0_ear 21 = .ok (.invokevirtual 315, 3) := dk_182 1 59 (dk_at dksX0_ear_0 21 rfl rfl)
theorem dX0_ear_24 : decode cX0_ear 24 = .ok (.ireturn, 1) := dk_172 (dk_at dksX0_ear_1 0 rfl rfl)
theorem dX0_ear_25 : decode cX0_ear 25 = .ok (.astore_n 3, 1) := dk_78 (dk_at dksX0_ear_1 1 rfl rfl)
theorem dX0_ear_26 : decode cX0_ear 26 = .ok (.aload_n 0, 1) := dk_42 (dk_at dksX0_ear_1 2 rfl rfl)
theorem dX0_ear_27 : decode cX0_ear 27 = .ok (.aload_n 3, 1) := dk_45 (dk_at dksX0_ear_1 3 rfl rfl)
theorem dX0_ear_28 : decode cX0_ear 28 = .ok (.getfield 128, 3) := dk_180 0 128 (dk_at dksX0_ear_1 4 rfl rfl)
theorem dX0_ear_31 : decode cX0_ear 31 = .ok (.invokevirtual 138, 3) := dk_182 0 138 (dk_at dksX0_ear_1 7 rfl rfl)
theorem dX0_ear_34 : decode cX0_ear 34 = .ok (.ireturn, 1) := dk_172 (dk_at dksX0_ear_1 10 rfl rfl)
abbrev cX0_bestEar : ByteArray := prog_1_method_66_code
def yX0_bestEar : MethodName := ⟨RX0, "bestEar", "(I)I"⟩
def dkwX0_bestEar_1 : List UInt8 := [162, 0, 7, 29, 167, 0, 4, 28, 61, 132, 3, 1, 167, 255, 226, 28, 172]
abbrev dktX0_bestEar_1 : List UInt8 := dkwX0_bestEar_1 ++ []
def dkwX0_bestEar_0 : List UInt8 := [3, 61, 4, 62, 29, 16, 64, 162, 0, 30, 42, 29, 27, 182, 1, 56, 42, 28, 27, 182, 1, 56]
abbrev dktX0_bestEar_0 : List UInt8 := dkwX0_bestEar_0 ++ dktX0_bestEar_1
theorem dksX0_bestEar_0 : cX0_bestEar.data.toList.drop 0 = dktX0_bestEar_0 := by decide +kernel
theorem dksX0_bestEar_1 : cX0_bestEar.data.toList.drop 22 = dktX0_bestEar_1 := dk_seg dksX0_bestEar_0 22 rfl rfl
theorem dX0_bestEar_0 : decode cX0_bestEar 0 = .ok (.iconst 0, 1) := dk_3 (dk_at dksX0_bestEar_0 0 rfl rfl)
theorem dX0_bestEar_1 : decode cX0_bestEar 1 = .ok (.istore_n 2, 1) := dk_61 (dk_at dksX0_bestEar_0 1 rfl rfl)
theorem dX0_bestEar_2 : decode cX0_bestEar 2 = .ok (.iconst 1, 1) := dk_4 (dk_at dksX0_bestEar_0 2 rfl rfl)
theorem dX0_bestEar_3 : decode cX0_bestEar 3 = .ok (.istore_n 3, 1) := dk_62 (dk_at dksX0_bestEar_0 3 rfl rfl)
theorem dX0_bestEar_4 : decode cX0_bestEar 4 = .ok (.iload_n 3, 1) := dk_29 (dk_at dksX0_bestEar_0 4 rfl rfl)
theorem dX0_bestEar_5 : decode cX0_bestEar 5 = .ok (.bipush 64, 2) := dk_16 64 (dk_at dksX0_bestEar_0 5 rfl rfl)
theorem dX0_bestEar_7 : decode cX0_bestEar 7 = .ok (.if_icmp .ge 30, 3) := dk_162 0 30 (dk_at dksX0_bestEar_0 7 rfl rfl)
theorem dX0_bestEar_10 : decode cX0_bestEar 10 = .ok (.aload_n 0, 1) := dk_42 (dk_at dksX0_bestEar_0 10 rfl rfl)
theorem dX0_bestEar_11 : decode cX0_bestEar 11 = .ok (.iload_n 3, 1) := dk_29 (dk_at dksX0_bestEar_0 11 rfl rfl)
theorem dX0_bestEar_12 : decode cX0_bestEar 12 = .ok (.iload_n 1, 1) := dk_27 (dk_at dksX0_bestEar_0 12 rfl rfl)
theorem dX0_bestEar_13 : decode cX0_bestEar 13 = .ok (.invokevirtual 312, 3) := dk_182 1 56 (dk_at dksX0_bestEar_0 13 rfl rfl)
theorem dX0_bestEar_16 : decode cX0_bestEar 16 = .ok (.aload_n 0, 1) := dk_42 (dk_at dksX0_bestEar_0 16 rfl rfl)
theorem dX0_bestEar_17 : decode cX0_bestEar 17 = .ok (.iload_n 2, 1) := dk_28 (dk_at dksX0_bestEar_0 17 rfl rfl)
theorem dX0_bestEar_18 : decode cX0_bestEar 18 = .ok (.iload_n 1, 1) := dk_27 (dk_at dksX0_bestEar_0 18 rfl rfl)
theorem dX0_bestEar_19 : decode cX0_bestEar 19 = .ok (.invokevirtual 312, 3) := dk_182 1 56 (dk_at dksX0_bestEar_0 19 rfl rfl)
theorem dX0_bestEar_22 : decode cX0_bestEar 22 = .ok (.if_icmp .ge 7, 3) := dk_162 0 7 (dk_at dksX0_bestEar_1 0 rfl rfl)
theorem dX0_bestEar_25 : decode cX0_bestEar 25 = .ok (.iload_n 3, 1) := dk_29 (dk_at dksX0_bestEar_1 3 rfl rfl)
theorem dX0_bestEar_26 : decode cX0_bestEar 26 = .ok (.goto 4, 3) := dk_167 0 4 (dk_at dksX0_bestEar_1 4 rfl rfl)
theorem dX0_bestEar_29 : decode cX0_bestEar 29 = .ok (.iload_n 2, 1) := dk_28 (dk_at dksX0_bestEar_1 7 rfl rfl)
theorem dX0_bestEar_30 : decode cX0_bestEar 30 = .ok (.istore_n 2, 1) := dk_61 (dk_at dksX0_bestEar_1 8 rfl rfl)
theorem dX0_bestEar_31 : decode cX0_bestEar 31 = .ok (.iinc 3 1, 3) := dk_132 3 1 (dk_at dksX0_bestEar_1 9 rfl rfl)
theorem dX0_bestEar_34 : decode cX0_bestEar 34 = .ok (.goto (-30), 3) := dk_167 255 226 (dk_at dksX0_bestEar_1 12 rfl rfl)
theorem dX0_bestEar_37 : decode cX0_bestEar 37 = .ok (.iload_n 2, 1) := dk_28 (dk_at dksX0_bestEar_1 15 rfl rfl)
theorem dX0_bestEar_38 : decode cX0_bestEar 38 = .ok (.ireturn, 1) := dk_172 (dk_at dksX0_bestEar_1 16 rfl rfl)
abbrev cX0_leftBy : ByteArray := prog_1_method_65_code
def yX0_leftBy : MethodName := ⟨RX0, "leftBy", "(II)I"⟩
def dkwX0_leftBy_3 : List UInt8 := [29, 42, 180, 0, 111, 21, 5, 46, 184, 0, 28, 62, 132, 4, 1, 167, 255, 197, 29, 172]
abbrev dktX0_leftBy_3 : List UInt8 := dkwX0_leftBy_3 ++ []
def dkwX0_leftBy_2 : List UInt8 := [180, 0, 111, 21, 5, 92, 46, 42, 180, 0, 107, 21, 4, 51, 153, 0, 7, 4, 167, 0, 4, 3, 96, 79]
abbrev dktX0_leftBy_2 : List UInt8 := dkwX0_leftBy_2 ++ dktX0_leftBy_3
def dkwX0_leftBy_1 : List UInt8 := [54, 4, 21, 4, 16, 64, 162, 0, 58, 28, 27, 21, 4, 184, 0, 150, 184, 1, 36, 54, 5, 42]
abbrev dktX0_leftBy_1 : List UInt8 := dkwX0_leftBy_1 ++ dktX0_leftBy_2
def dkwX0_leftBy_0 : List UInt8 := [3, 62, 29, 16, 99, 163, 0, 16, 42, 180, 0, 111, 29, 3, 79, 132, 3, 1, 167, 255, 240, 3, 62, 3]
abbrev dktX0_leftBy_0 : List UInt8 := dkwX0_leftBy_0 ++ dktX0_leftBy_1
theorem dksX0_leftBy_0 : cX0_leftBy.data.toList.drop 0 = dktX0_leftBy_0 := by decide +kernel
theorem dksX0_leftBy_1 : cX0_leftBy.data.toList.drop 24 = dktX0_leftBy_1 := dk_seg dksX0_leftBy_0 24 rfl rfl
theorem dksX0_leftBy_2 : cX0_leftBy.data.toList.drop 46 = dktX0_leftBy_2 := dk_seg dksX0_leftBy_1 22 rfl rfl
theorem dksX0_leftBy_3 : cX0_leftBy.data.toList.drop 70 = dktX0_leftBy_3 := dk_seg dksX0_leftBy_2 24 rfl rfl
theorem dX0_leftBy_0 : decode cX0_leftBy 0 = .ok (.iconst 0, 1) := dk_3 (dk_at dksX0_leftBy_0 0 rfl rfl)
theorem dX0_leftBy_1 : decode cX0_leftBy 1 = .ok (.istore_n 3, 1) := dk_62 (dk_at dksX0_leftBy_0 1 rfl rfl)
theorem dX0_leftBy_2 : decode cX0_leftBy 2 = .ok (.iload_n 3, 1) := dk_29 (dk_at dksX0_leftBy_0 2 rfl rfl)
theorem dX0_leftBy_3 : decode cX0_leftBy 3 = .ok (.bipush 99, 2) := dk_16 99 (dk_at dksX0_leftBy_0 3 rfl rfl)
theorem dX0_leftBy_5 : decode cX0_leftBy 5 = .ok (.if_icmp .gt 16, 3) := dk_163 0 16 (dk_at dksX0_leftBy_0 5 rfl rfl)
theorem dX0_leftBy_8 : decode cX0_leftBy 8 = .ok (.aload_n 0, 1) := dk_42 (dk_at dksX0_leftBy_0 8 rfl rfl)
theorem dX0_leftBy_9 : decode cX0_leftBy 9 = .ok (.getfield 111, 3) := dk_180 0 111 (dk_at dksX0_leftBy_0 9 rfl rfl)
theorem dX0_leftBy_12 : decode cX0_leftBy 12 = .ok (.iload_n 3, 1) := dk_29 (dk_at dksX0_leftBy_0 12 rfl rfl)
theorem dX0_leftBy_13 : decode cX0_leftBy 13 = .ok (.iconst 0, 1) := dk_3 (dk_at dksX0_leftBy_0 13 rfl rfl)
theorem dX0_leftBy_14 : decode cX0_leftBy 14 = .ok (.iastore, 1) := dk_79 (dk_at dksX0_leftBy_0 14 rfl rfl)
theorem dX0_leftBy_15 : decode cX0_leftBy 15 = .ok (.iinc 3 1, 3) := dk_132 3 1 (dk_at dksX0_leftBy_0 15 rfl rfl)
theorem dX0_leftBy_18 : decode cX0_leftBy 18 = .ok (.goto (-16), 3) := dk_167 255 240 (dk_at dksX0_leftBy_0 18 rfl rfl)
theorem dX0_leftBy_21 : decode cX0_leftBy 21 = .ok (.iconst 0, 1) := dk_3 (dk_at dksX0_leftBy_0 21 rfl rfl)
theorem dX0_leftBy_22 : decode cX0_leftBy 22 = .ok (.istore_n 3, 1) := dk_62 (dk_at dksX0_leftBy_0 22 rfl rfl)
theorem dX0_leftBy_23 : decode cX0_leftBy 23 = .ok (.iconst 0, 1) := dk_3 (dk_at dksX0_leftBy_0 23 rfl rfl)
theorem dX0_leftBy_24 : decode cX0_leftBy 24 = .ok (.istore 4, 2) := dk_54 4 (dk_at dksX0_leftBy_1 0 rfl rfl)
theorem dX0_leftBy_26 : decode cX0_leftBy 26 = .ok (.iload 4, 2) := dk_21 4 (dk_at dksX0_leftBy_1 2 rfl rfl)
theorem dX0_leftBy_28 : decode cX0_leftBy 28 = .ok (.bipush 64, 2) := dk_16 64 (dk_at dksX0_leftBy_1 4 rfl rfl)
theorem dX0_leftBy_30 : decode cX0_leftBy 30 = .ok (.if_icmp .ge 58, 3) := dk_162 0 58 (dk_at dksX0_leftBy_1 6 rfl rfl)
theorem dX0_leftBy_33 : decode cX0_leftBy 33 = .ok (.iload_n 2, 1) := dk_28 (dk_at dksX0_leftBy_1 9 rfl rfl)
theorem dX0_leftBy_34 : decode cX0_leftBy 34 = .ok (.iload_n 1, 1) := dk_27 (dk_at dksX0_leftBy_1 10 rfl rfl)
theorem dX0_leftBy_35 : decode cX0_leftBy 35 = .ok (.iload 4, 2) := dk_21 4 (dk_at dksX0_leftBy_1 11 rfl rfl)
theorem dX0_leftBy_37 : decode cX0_leftBy 37 = .ok (.invokestatic 150, 3) := dk_184 0 150 (dk_at dksX0_leftBy_1 13 rfl rfl)
theorem dX0_leftBy_40 : decode cX0_leftBy 40 = .ok (.invokestatic 292, 3) := dk_184 1 36 (dk_at dksX0_leftBy_1 16 rfl rfl)
theorem dX0_leftBy_43 : decode cX0_leftBy 43 = .ok (.istore 5, 2) := dk_54 5 (dk_at dksX0_leftBy_1 19 rfl rfl)
theorem dX0_leftBy_45 : decode cX0_leftBy 45 = .ok (.aload_n 0, 1) := dk_42 (dk_at dksX0_leftBy_1 21 rfl rfl)
theorem dX0_leftBy_46 : decode cX0_leftBy 46 = .ok (.getfield 111, 3) := dk_180 0 111 (dk_at dksX0_leftBy_2 0 rfl rfl)
theorem dX0_leftBy_49 : decode cX0_leftBy 49 = .ok (.iload 5, 2) := dk_21 5 (dk_at dksX0_leftBy_2 3 rfl rfl)
theorem dX0_leftBy_51 : decode cX0_leftBy 51 = .ok (.dup2, 1) := dk_92 (dk_at dksX0_leftBy_2 5 rfl rfl)
theorem dX0_leftBy_52 : decode cX0_leftBy 52 = .ok (.iaload, 1) := dk_46 (dk_at dksX0_leftBy_2 6 rfl rfl)
theorem dX0_leftBy_53 : decode cX0_leftBy 53 = .ok (.aload_n 0, 1) := dk_42 (dk_at dksX0_leftBy_2 7 rfl rfl)
theorem dX0_leftBy_54 : decode cX0_leftBy 54 = .ok (.getfield 107, 3) := dk_180 0 107 (dk_at dksX0_leftBy_2 8 rfl rfl)
theorem dX0_leftBy_57 : decode cX0_leftBy 57 = .ok (.iload 4, 2) := dk_21 4 (dk_at dksX0_leftBy_2 11 rfl rfl)
theorem dX0_leftBy_59 : decode cX0_leftBy 59 = .ok (.baload, 1) := dk_51 (dk_at dksX0_leftBy_2 13 rfl rfl)
theorem dX0_leftBy_60 : decode cX0_leftBy 60 = .ok (.ifCond .eq 7, 3) := dk_153 0 7 (dk_at dksX0_leftBy_2 14 rfl rfl)
theorem dX0_leftBy_63 : decode cX0_leftBy 63 = .ok (.iconst 1, 1) := dk_4 (dk_at dksX0_leftBy_2 17 rfl rfl)
theorem dX0_leftBy_64 : decode cX0_leftBy 64 = .ok (.goto 4, 3) := dk_167 0 4 (dk_at dksX0_leftBy_2 18 rfl rfl)
theorem dX0_leftBy_67 : decode cX0_leftBy 67 = .ok (.iconst 0, 1) := dk_3 (dk_at dksX0_leftBy_2 21 rfl rfl)
theorem dX0_leftBy_68 : decode cX0_leftBy 68 = .ok (.iadd, 1) := dk_96 (dk_at dksX0_leftBy_2 22 rfl rfl)
theorem dX0_leftBy_69 : decode cX0_leftBy 69 = .ok (.iastore, 1) := dk_79 (dk_at dksX0_leftBy_2 23 rfl rfl)
theorem dX0_leftBy_70 : decode cX0_leftBy 70 = .ok (.iload_n 3, 1) := dk_29 (dk_at dksX0_leftBy_3 0 rfl rfl)
theorem dX0_leftBy_71 : decode cX0_leftBy 71 = .ok (.aload_n 0, 1) := dk_42 (dk_at dksX0_leftBy_3 1 rfl rfl)
theorem dX0_leftBy_72 : decode cX0_leftBy 72 = .ok (.getfield 111, 3) := dk_180 0 111 (dk_at dksX0_leftBy_3 2 rfl rfl)
theorem dX0_leftBy_75 : decode cX0_leftBy 75 = .ok (.iload 5, 2) := dk_21 5 (dk_at dksX0_leftBy_3 5 rfl rfl)
theorem dX0_leftBy_77 : decode cX0_leftBy 77 = .ok (.iaload, 1) := dk_46 (dk_at dksX0_leftBy_3 7 rfl rfl)
theorem dX0_leftBy_78 : decode cX0_leftBy 78 = .ok (.invokestatic 28, 3) := dk_184 0 28 (dk_at dksX0_leftBy_3 8 rfl rfl)
theorem dX0_leftBy_81 : decode cX0_leftBy 81 = .ok (.istore_n 3, 1) := dk_62 (dk_at dksX0_leftBy_3 11 rfl rfl)
theorem dX0_leftBy_82 : decode cX0_leftBy 82 = .ok (.iinc 4 1, 3) := dk_132 4 1 (dk_at dksX0_leftBy_3 12 rfl rfl)
theorem dX0_leftBy_85 : decode cX0_leftBy 85 = .ok (.goto (-59), 3) := dk_167 255 197 (dk_at dksX0_leftBy_3 15 rfl rfl)
theorem dX0_leftBy_88 : decode cX0_leftBy 88 = .ok (.iload_n 3, 1) := dk_29 (dk_at dksX0_leftBy_3 18 rfl rfl)
theorem dX0_leftBy_89 : decode cX0_leftBy 89 = .ok (.ireturn, 1) := dk_172 (dk_at dksX0_leftBy_3 19 rfl rfl)
abbrev cX0_whose : ByteArray := prog_1_method_68_code
def yX0_whose : MethodName := ⟨RX0, "whose", "(I)I"⟩
def dkwX0_whose_4 : List UInt8 := [180, 0, 128, 182, 0, 138, 172]
abbrev dktX0_whose_4 : List UInt8 := dkwX0_whose_4 ++ []
def dkwX0_whose_3 : List UInt8 := [153, 0, 10, 4, 21, 4, 120, 167, 0, 4, 3, 128, 62, 132, 4, 1, 167, 255, 187, 29, 172, 77, 42, 44]
abbrev dktX0_whose_3 : List UInt8 := dkwX0_whose_3 ++ dktX0_whose_4
def dkwX0_whose_2 : List UInt8 := [180, 0, 123, 6, 50, 21, 4, 46, 42, 180, 0, 78, 180, 0, 123, 4, 50, 21, 4, 46, 184, 1, 49]
abbrev dktX0_whose_2 : List UInt8 := dkwX0_whose_2 ++ dktX0_whose_3
def dkwX0_whose_1 : List UInt8 := [180, 0, 136, 162, 0, 63, 29, 42, 180, 0, 78, 21, 4, 182, 0, 140, 154, 0, 41, 44, 42, 180, 0, 78]
abbrev dktX0_whose_1 : List UInt8 := dkwX0_whose_1 ++ dktX0_whose_2
def dkwX0_whose_0 : List UInt8 := [42, 27, 182, 1, 39, 77, 42, 44, 182, 1, 42, 3, 62, 3, 54, 4, 21, 4, 42, 180, 0, 78]
abbrev dktX0_whose_0 : List UInt8 := dkwX0_whose_0 ++ dktX0_whose_1
theorem dksX0_whose_0 : cX0_whose.data.toList.drop 0 = dktX0_whose_0 := by decide +kernel
theorem dksX0_whose_1 : cX0_whose.data.toList.drop 22 = dktX0_whose_1 := dk_seg dksX0_whose_0 22 rfl rfl
theorem dksX0_whose_2 : cX0_whose.data.toList.drop 46 = dktX0_whose_2 := dk_seg dksX0_whose_1 24 rfl rfl
theorem dksX0_whose_3 : cX0_whose.data.toList.drop 69 = dktX0_whose_3 := dk_seg dksX0_whose_2 23 rfl rfl
theorem dksX0_whose_4 : cX0_whose.data.toList.drop 93 = dktX0_whose_4 := dk_seg dksX0_whose_3 24 rfl rfl
theorem dX0_whose_0 : decode cX0_whose 0 = .ok (.aload_n 0, 1) := dk_42 (dk_at dksX0_whose_0 0 rfl rfl)
theorem dX0_whose_1 : decode cX0_whose 1 = .ok (.iload_n 1, 1) := dk_27 (dk_at dksX0_whose_0 1 rfl rfl)
theorem dX0_whose_2 : decode cX0_whose 2 = .ok (.invokevirtual 295, 3) := dk_182 1 39 (dk_at dksX0_whose_0 2 rfl rfl)
theorem dX0_whose_5 : decode cX0_whose 5 = .ok (.astore_n 2, 1) := dk_77 (dk_at dksX0_whose_0 5 rfl rfl)
theorem dX0_whose_6 : decode cX0_whose 6 = .ok (.aload_n 0, 1) := dk_42 (dk_at dksX0_whose_0 6 rfl rfl)
theorem dX0_whose_7 : decode cX0_whose 7 = .ok (.aload_n 2, 1) := dk_44 (dk_at dksX0_whose_0 7 rfl rfl)
theorem dX0_whose_8 : decode cX0_whose 8 = .ok (.invokevirtual 298, 3) := dk_182 1 42 (dk_at dksX0_whose_0 8 rfl rfl)
theorem dX0_whose_11 : decode cX0_whose 11 = .ok (.iconst 0, 1) := dk_3 (dk_at dksX0_whose_0 11 rfl rfl)
theorem dX0_whose_12 : decode cX0_whose 12 = .ok (.istore_n 3, 1) := dk_62 (dk_at dksX0_whose_0 12 rfl rfl)
theorem dX0_whose_13 : decode cX0_whose 13 = .ok (.iconst 0, 1) := dk_3 (dk_at dksX0_whose_0 13 rfl rfl)
theorem dX0_whose_14 : decode cX0_whose 14 = .ok (.istore 4, 2) := dk_54 4 (dk_at dksX0_whose_0 14 rfl rfl)
theorem dX0_whose_16 : decode cX0_whose 16 = .ok (.iload 4, 2) := dk_21 4 (dk_at dksX0_whose_0 16 rfl rfl)
theorem dX0_whose_18 : decode cX0_whose 18 = .ok (.aload_n 0, 1) := dk_42 (dk_at dksX0_whose_0 18 rfl rfl)
theorem dX0_whose_19 : decode cX0_whose 19 = .ok (.getfield 78, 3) := dk_180 0 78 (dk_at dksX0_whose_0 19 rfl rfl)
theorem dX0_whose_22 : decode cX0_whose 22 = .ok (.getfield 136, 3) := dk_180 0 136 (dk_at dksX0_whose_1 0 rfl rfl)
theorem dX0_whose_25 : decode cX0_whose 25 = .ok (.if_icmp .ge 63, 3) := dk_162 0 63 (dk_at dksX0_whose_1 3 rfl rfl)
theorem dX0_whose_28 : decode cX0_whose 28 = .ok (.iload_n 3, 1) := dk_29 (dk_at dksX0_whose_1 6 rfl rfl)
theorem dX0_whose_29 : decode cX0_whose 29 = .ok (.aload_n 0, 1) := dk_42 (dk_at dksX0_whose_1 7 rfl rfl)
theorem dX0_whose_30 : decode cX0_whose 30 = .ok (.getfield 78, 3) := dk_180 0 78 (dk_at dksX0_whose_1 8 rfl rfl)
theorem dX0_whose_33 : decode cX0_whose 33 = .ok (.iload 4, 2) := dk_21 4 (dk_at dksX0_whose_1 11 rfl rfl)
theorem dX0_whose_35 : decode cX0_whose 35 = .ok (.invokevirtual 140, 3) := dk_182 0 140 (dk_at dksX0_whose_1 13 rfl rfl)
theorem dX0_whose_38 : decode cX0_whose 38 = .ok (.ifCond .ne 41, 3) := dk_154 0 41 (dk_at dksX0_whose_1 16 rfl rfl)
theorem dX0_whose_41 : decode cX0_whose 41 = .ok (.aload_n 2, 1) := dk_44 (dk_at dksX0_whose_1 19 rfl rfl)
theorem dX0_whose_42 : decode cX0_whose 42 = .ok (.aload_n 0, 1) := dk_42 (dk_at dksX0_whose_1 20 rfl rfl)
theorem dX0_whose_43 : decode cX0_whose 43 = .ok (.getfield 78, 3) := dk_180 0 78 (dk_at dksX0_whose_1 21 rfl rfl)
theorem dX0_whose_46 : decode cX0_whose 46 = .ok (.getfield 123, 3) := dk_180 0 123 (dk_at dksX0_whose_2 0 rfl rfl)
theorem dX0_whose_49 : decode cX0_whose 49 = .ok (.iconst 3, 1) := dk_6 (dk_at dksX0_whose_2 3 rfl rfl)
theorem dX0_whose_50 : decode cX0_whose 50 = .ok (.aaload, 1) := dk_50 (dk_at dksX0_whose_2 4 rfl rfl)
theorem dX0_whose_51 : decode cX0_whose 51 = .ok (.iload 4, 2) := dk_21 4 (dk_at dksX0_whose_2 5 rfl rfl)
theorem dX0_whose_53 : decode cX0_whose 53 = .ok (.iaload, 1) := dk_46 (dk_at dksX0_whose_2 7 rfl rfl)
theorem dX0_whose_54 : decode cX0_whose 54 = .ok (.aload_n 0, 1) := dk_42 (dk_at dksX0_whose_2 8 rfl rfl)
theorem dX0_whose_55 : decode cX0_whose 55 = .ok (.getfield 78, 3) := dk_180 0 78 (dk_at dksX0_whose_2 9 rfl rfl)
theorem dX0_whose_58 : decode cX0_whose 58 = .ok (.getfield 123, 3) := dk_180 0 123 (dk_at dksX0_whose_2 12 rfl rfl)
theorem dX0_whose_61 : decode cX0_whose 61 = .ok (.iconst 1, 1) := dk_4 (dk_at dksX0_whose_2 15 rfl rfl)
theorem dX0_whose_62 : decode cX0_whose 62 = .ok (.aaload, 1) := dk_50 (dk_at dksX0_whose_2 16 rfl rfl)
theorem dX0_whose_63 : decode cX0_whose 63 = .ok (.iload 4, 2) := dk_21 4 (dk_at dksX0_whose_2 17 rfl rfl)
theorem dX0_whose_65 : decode cX0_whose 65 = .ok (.iaload, 1) := dk_46 (dk_at dksX0_whose_2 19 rfl rfl)
theorem dX0_whose_66 : decode cX0_whose 66 = .ok (.invokestatic 305, 3) := dk_184 1 49 (dk_at dksX0_whose_2 20 rfl rfl)
theorem dX0_whose_69 : decode cX0_whose 69 = .ok (.ifCond .eq 10, 3) := dk_153 0 10 (dk_at dksX0_whose_3 0 rfl rfl)
theorem dX0_whose_72 : decode cX0_whose 72 = .ok (.iconst 1, 1) := dk_4 (dk_at dksX0_whose_3 3 rfl rfl)
theorem dX0_whose_73 : decode cX0_whose 73 = .ok (.iload 4, 2) := dk_21 4 (dk_at dksX0_whose_3 4 rfl rfl)
theorem dX0_whose_75 : decode cX0_whose 75 = .ok (.ishl, 1) := dk_120 (dk_at dksX0_whose_3 6 rfl rfl)
theorem dX0_whose_76 : decode cX0_whose 76 = .ok (.goto 4, 3) := dk_167 0 4 (dk_at dksX0_whose_3 7 rfl rfl)
theorem dX0_whose_79 : decode cX0_whose 79 = .ok (.iconst 0, 1) := dk_3 (dk_at dksX0_whose_3 10 rfl rfl)
theorem dX0_whose_80 : decode cX0_whose 80 = .ok (.ior, 1) := dk_128 (dk_at dksX0_whose_3 11 rfl rfl)
theorem dX0_whose_81 : decode cX0_whose 81 = .ok (.istore_n 3, 1) := dk_62 (dk_at dksX0_whose_3 12 rfl rfl)
theorem dX0_whose_82 : decode cX0_whose 82 = .ok (.iinc 4 1, 3) := dk_132 4 1 (dk_at dksX0_whose_3 13 rfl rfl)
theorem dX0_whose_85 : decode cX0_whose 85 = .ok (.goto (-69), 3) := dk_167 255 187 (dk_at dksX0_whose_3 16 rfl rfl)
theorem dX0_whose_88 : decode cX0_whose 88 = .ok (.iload_n 3, 1) := dk_29 (dk_at dksX0_whose_3 19 rfl rfl)
theorem dX0_whose_89 : decode cX0_whose 89 = .ok (.ireturn, 1) := dk_172 (dk_at dksX0_whose_3 20 rfl rfl)
theorem dX0_whose_90 : decode cX0_whose 90 = .ok (.astore_n 2, 1) := dk_77 (dk_at dksX0_whose_3 21 rfl rfl)
theorem dX0_whose_91 : decode cX0_whose 91 = .ok (.aload_n 0, 1) := dk_42 (dk_at dksX0_whose_3 22 rfl rfl)
theorem dX0_whose_92 : decode cX0_whose 92 = .ok (.aload_n 2, 1) := dk_44 (dk_at dksX0_whose_3 23 rfl rfl)
theorem dX0_whose_93 : decode cX0_whose 93 = .ok (.getfield 128, 3) := dk_180 0 128 (dk_at dksX0_whose_4 0 rfl rfl)
theorem dX0_whose_96 : decode cX0_whose 96 = .ok (.invokevirtual 138, 3) := dk_182 0 138 (dk_at dksX0_whose_4 3 rfl rfl)
theorem dX0_whose_99 : decode cX0_whose 99 = .ok (.ireturn, 1) := dk_172 (dk_at dksX0_whose_4 6 rfl rfl)
abbrev cX0_stock : ByteArray := prog_1_method_70_code
def yX0_stock : MethodName := ⟨RX0, "stock", "(III)I"⟩
def dkwX0_stock_2 : List UInt8 := [184, 1, 65, 167, 0, 8, 42, 3, 182, 0, 138, 172]
abbrev dktX0_stock_2 : List UInt8 := dkwX0_stock_2 ++ []
def dkwX0_stock_1 : List UInt8 := [16, 99, 184, 0, 9, 153, 0, 7, 4, 167, 0, 4, 3, 54, 4, 21, 4, 153, 0, 12, 27, 28, 29]
abbrev dktX0_stock_1 : List UInt8 := dkwX0_stock_1 ++ dktX0_stock_2
def dkwX0_stock_0 : List UInt8 := [27, 3, 17, 39, 15, 184, 0, 9, 153, 0, 28, 28, 3, 17, 3, 231, 184, 0, 9, 153, 0, 17, 29, 3]
abbrev dktX0_stock_0 : List UInt8 := dkwX0_stock_0 ++ dktX0_stock_1
theorem dksX0_stock_0 : cX0_stock.data.toList.drop 0 = dktX0_stock_0 := by decide +kernel
theorem dksX0_stock_1 : cX0_stock.data.toList.drop 24 = dktX0_stock_1 := dk_seg dksX0_stock_0 24 rfl rfl
theorem dksX0_stock_2 : cX0_stock.data.toList.drop 47 = dktX0_stock_2 := dk_seg dksX0_stock_1 23 rfl rfl
theorem dX0_stock_0 : decode cX0_stock 0 = .ok (.iload_n 1, 1) := dk_27 (dk_at dksX0_stock_0 0 rfl rfl)
theorem dX0_stock_1 : decode cX0_stock 1 = .ok (.iconst 0, 1) := dk_3 (dk_at dksX0_stock_0 1 rfl rfl)
theorem dX0_stock_2 : decode cX0_stock 2 = .ok (.sipush 9999, 3) := dk_17 39 15 (dk_at dksX0_stock_0 2 rfl rfl)
theorem dX0_stock_5 : decode cX0_stock 5 = .ok (.invokestatic 9, 3) := dk_184 0 9 (dk_at dksX0_stock_0 5 rfl rfl)
theorem dX0_stock_8 : decode cX0_stock 8 = .ok (.ifCond .eq 28, 3) := dk_153 0 28 (dk_at dksX0_stock_0 8 rfl rfl)
theorem dX0_stock_11 : decode cX0_stock 11 = .ok (.iload_n 2, 1) := dk_28 (dk_at dksX0_stock_0 11 rfl rfl)
theorem dX0_stock_12 : decode cX0_stock 12 = .ok (.iconst 0, 1) := dk_3 (dk_at dksX0_stock_0 12 rfl rfl)
theorem dX0_stock_13 : decode cX0_stock 13 = .ok (.sipush 999, 3) := dk_17 3 231 (dk_at dksX0_stock_0 13 rfl rfl)
theorem dX0_stock_16 : decode cX0_stock 16 = .ok (.invokestatic 9, 3) := dk_184 0 9 (dk_at dksX0_stock_0 16 rfl rfl)
theorem dX0_stock_19 : decode cX0_stock 19 = .ok (.ifCond .eq 17, 3) := dk_153 0 17 (dk_at dksX0_stock_0 19 rfl rfl)
theorem dX0_stock_22 : decode cX0_stock 22 = .ok (.iload_n 3, 1) := dk_29 (dk_at dksX0_stock_0 22 rfl rfl)
theorem dX0_stock_23 : decode cX0_stock 23 = .ok (.iconst 0, 1) := dk_3 (dk_at dksX0_stock_0 23 rfl rfl)
theorem dX0_stock_24 : decode cX0_stock 24 = .ok (.bipush 99, 2) := dk_16 99 (dk_at dksX0_stock_1 0 rfl rfl)
theorem dX0_stock_26 : decode cX0_stock 26 = .ok (.invokestatic 9, 3) := dk_184 0 9 (dk_at dksX0_stock_1 2 rfl rfl)
theorem dX0_stock_29 : decode cX0_stock 29 = .ok (.ifCond .eq 7, 3) := dk_153 0 7 (dk_at dksX0_stock_1 5 rfl rfl)
theorem dX0_stock_32 : decode cX0_stock 32 = .ok (.iconst 1, 1) := dk_4 (dk_at dksX0_stock_1 8 rfl rfl)
theorem dX0_stock_33 : decode cX0_stock 33 = .ok (.goto 4, 3) := dk_167 0 4 (dk_at dksX0_stock_1 9 rfl rfl)
theorem dX0_stock_36 : decode cX0_stock 36 = .ok (.iconst 0, 1) := dk_3 (dk_at dksX0_stock_1 12 rfl rfl)
theorem dX0_stock_37 : decode cX0_stock 37 = .ok (.istore 4, 2) := dk_54 4 (dk_at dksX0_stock_1 13 rfl rfl)
theorem dX0_stock_39 : decode cX0_stock 39 = .ok (.iload 4, 2) := dk_21 4 (dk_at dksX0_stock_1 15 rfl rfl)
theorem dX0_stock_41 : decode cX0_stock 41 = .ok (.ifCond .eq 12, 3) := dk_153 0 12 (dk_at dksX0_stock_1 17 rfl rfl)
theorem dX0_stock_44 : decode cX0_stock 44 = .ok (.iload_n 1, 1) := dk_27 (dk_at dksX0_stock_1 20 rfl rfl)
theorem dX0_stock_45 : decode cX0_stock 45 = .ok (.iload_n 2, 1) := dk_28 (dk_at dksX0_stock_1 21 rfl rfl)
theorem dX0_stock_46 : decode cX0_stock 46 = .ok (.iload_n 3, 1) := dk_29 (dk_at dksX0_stock_1 22 rfl rfl)
theorem dX0_stock_47 : decode cX0_stock 47 = .ok (.invokestatic 321, 3) := dk_184 1 65 (dk_at dksX0_stock_2 0 rfl rfl)
theorem dX0_stock_50 : decode cX0_stock 50 = .ok (.goto 8, 3) := dk_167 0 8 (dk_at dksX0_stock_2 3 rfl rfl)
theorem dX0_stock_53 : decode cX0_stock 53 = .ok (.aload_n 0, 1) := dk_42 (dk_at dksX0_stock_2 6 rfl rfl)
theorem dX0_stock_54 : decode cX0_stock 54 = .ok (.iconst 0, 1) := dk_3 (dk_at dksX0_stock_2 7 rfl rfl)
theorem dX0_stock_55 : decode cX0_stock 55 = .ok (.invokevirtual 138, 3) := dk_182 0 138 (dk_at dksX0_stock_2 8 rfl rfl)
theorem dX0_stock_58 : decode cX0_stock 58 = .ok (.ireturn, 1) := dk_172 (dk_at dksX0_stock_2 11 rfl rfl)
abbrev cX0_stockOf : ByteArray := prog_1_method_69_code
def yX0_stockOf : MethodName := ⟨RX0, "stockOf", "(III)I"⟩
def dkwX0_stockOf_1 : List UInt8 := [16, 10, 108, 96, 184, 1, 62, 62, 132, 4, 1, 167, 255, 226, 29, 172]
abbrev dktX0_stockOf_1 : List UInt8 := dkwX0_stockOf_1 ++ []
def dkwX0_stockOf_0 : List UInt8 := [26, 62, 3, 54, 4, 21, 4, 28, 162, 0, 30, 29, 29, 27, 184, 1, 62, 100, 62, 17, 39, 15, 29, 29]
abbrev dktX0_stockOf_0 : List UInt8 := dkwX0_stockOf_0 ++ dktX0_stockOf_1
theorem dksX0_stockOf_0 : cX0_stockOf.data.toList.drop 0 = dktX0_stockOf_0 := by decide +kernel
theorem dksX0_stockOf_1 : cX0_stockOf.data.toList.drop 24 = dktX0_stockOf_1 := dk_seg dksX0_stockOf_0 24 rfl rfl
theorem dX0_stockOf_0 : decode cX0_stockOf 0 = .ok (.iload_n 0, 1) := dk_26 (dk_at dksX0_stockOf_0 0 rfl rfl)
theorem dX0_stockOf_1 : decode cX0_stockOf 1 = .ok (.istore_n 3, 1) := dk_62 (dk_at dksX0_stockOf_0 1 rfl rfl)
theorem dX0_stockOf_2 : decode cX0_stockOf 2 = .ok (.iconst 0, 1) := dk_3 (dk_at dksX0_stockOf_0 2 rfl rfl)
theorem dX0_stockOf_3 : decode cX0_stockOf 3 = .ok (.istore 4, 2) := dk_54 4 (dk_at dksX0_stockOf_0 3 rfl rfl)
theorem dX0_stockOf_5 : decode cX0_stockOf 5 = .ok (.iload 4, 2) := dk_21 4 (dk_at dksX0_stockOf_0 5 rfl rfl)
theorem dX0_stockOf_7 : decode cX0_stockOf 7 = .ok (.iload_n 2, 1) := dk_28 (dk_at dksX0_stockOf_0 7 rfl rfl)
theorem dX0_stockOf_8 : decode cX0_stockOf 8 = .ok (.if_icmp .ge 30, 3) := dk_162 0 30 (dk_at dksX0_stockOf_0 8 rfl rfl)
theorem dX0_stockOf_11 : decode cX0_stockOf 11 = .ok (.iload_n 3, 1) := dk_29 (dk_at dksX0_stockOf_0 11 rfl rfl)
theorem dX0_stockOf_12 : decode cX0_stockOf 12 = .ok (.iload_n 3, 1) := dk_29 (dk_at dksX0_stockOf_0 12 rfl rfl)
theorem dX0_stockOf_13 : decode cX0_stockOf 13 = .ok (.iload_n 1, 1) := dk_27 (dk_at dksX0_stockOf_0 13 rfl rfl)
theorem dX0_stockOf_14 : decode cX0_stockOf 14 = .ok (.invokestatic 318, 3) := dk_184 1 62 (dk_at dksX0_stockOf_0 14 rfl rfl)
theorem dX0_stockOf_17 : decode cX0_stockOf 17 = .ok (.isub, 1) := dk_100 (dk_at dksX0_stockOf_0 17 rfl rfl)
theorem dX0_stockOf_18 : decode cX0_stockOf 18 = .ok (.istore_n 3, 1) := dk_62 (dk_at dksX0_stockOf_0 18 rfl rfl)
theorem dX0_stockOf_19 : decode cX0_stockOf 19 = .ok (.sipush 9999, 3) := dk_17 39 15 (dk_at dksX0_stockOf_0 19 rfl rfl)
theorem dX0_stockOf_22 : decode cX0_stockOf 22 = .ok (.iload_n 3, 1) := dk_29 (dk_at dksX0_stockOf_0 22 rfl rfl)
theorem dX0_stockOf_23 : decode cX0_stockOf 23 = .ok (.iload_n 3, 1) := dk_29 (dk_at dksX0_stockOf_0 23 rfl rfl)
theorem dX0_stockOf_24 : decode cX0_stockOf 24 = .ok (.bipush 10, 2) := dk_16 10 (dk_at dksX0_stockOf_1 0 rfl rfl)
theorem dX0_stockOf_26 : decode cX0_stockOf 26 = .ok (.idiv, 1) := dk_108 (dk_at dksX0_stockOf_1 2 rfl rfl)
theorem dX0_stockOf_27 : decode cX0_stockOf 27 = .ok (.iadd, 1) := dk_96 (dk_at dksX0_stockOf_1 3 rfl rfl)
theorem dX0_stockOf_28 : decode cX0_stockOf 28 = .ok (.invokestatic 318, 3) := dk_184 1 62 (dk_at dksX0_stockOf_1 4 rfl rfl)
theorem dX0_stockOf_31 : decode cX0_stockOf 31 = .ok (.istore_n 3, 1) := dk_62 (dk_at dksX0_stockOf_1 7 rfl rfl)
theorem dX0_stockOf_32 : decode cX0_stockOf 32 = .ok (.iinc 4 1, 3) := dk_132 4 1 (dk_at dksX0_stockOf_1 8 rfl rfl)
theorem dX0_stockOf_35 : decode cX0_stockOf 35 = .ok (.goto (-30), 3) := dk_167 255 226 (dk_at dksX0_stockOf_1 11 rfl rfl)
theorem dX0_stockOf_38 : decode cX0_stockOf 38 = .ok (.iload_n 3, 1) := dk_29 (dk_at dksX0_stockOf_1 14 rfl rfl)
theorem dX0_stockOf_39 : decode cX0_stockOf 39 = .ok (.ireturn, 1) := dk_172 (dk_at dksX0_stockOf_1 15 rfl rfl)
abbrev cX0_lasts : ByteArray := prog_1_method_71_code
def yX0_lasts : MethodName := ⟨RX0, "lasts", "(II)I"⟩
def dkwX0_lasts_2 : List UInt8 := [29, 172]
abbrev dktX0_lasts_2 : List UInt8 := dkwX0_lasts_2 ++ []
def dkwX0_lasts_1 : List UInt8 := [182, 0, 138, 172, 17, 3, 231, 62, 27, 29, 28, 184, 1, 65, 27, 162, 0, 9, 132, 3, 255, 167, 255, 243]
abbrev dktX0_lasts_1 : List UInt8 := dkwX0_lasts_1 ++ dktX0_lasts_2
def dkwX0_lasts_0 : List UInt8 := [27, 3, 17, 39, 15, 184, 0, 9, 153, 0, 13, 28, 4, 16, 99, 184, 0, 9, 154, 0, 9, 42, 3]
abbrev dktX0_lasts_0 : List UInt8 := dkwX0_lasts_0 ++ dktX0_lasts_1
theorem dksX0_lasts_0 : cX0_lasts.data.toList.drop 0 = dktX0_lasts_0 := by decide +kernel
theorem dksX0_lasts_1 : cX0_lasts.data.toList.drop 23 = dktX0_lasts_1 := dk_seg dksX0_lasts_0 23 rfl rfl
theorem dksX0_lasts_2 : cX0_lasts.data.toList.drop 47 = dktX0_lasts_2 := dk_seg dksX0_lasts_1 24 rfl rfl
theorem dX0_lasts_0 : decode cX0_lasts 0 = .ok (.iload_n 1, 1) := dk_27 (dk_at dksX0_lasts_0 0 rfl rfl)
theorem dX0_lasts_1 : decode cX0_lasts 1 = .ok (.iconst 0, 1) := dk_3 (dk_at dksX0_lasts_0 1 rfl rfl)
theorem dX0_lasts_2 : decode cX0_lasts 2 = .ok (.sipush 9999, 3) := dk_17 39 15 (dk_at dksX0_lasts_0 2 rfl rfl)
theorem dX0_lasts_5 : decode cX0_lasts 5 = .ok (.invokestatic 9, 3) := dk_184 0 9 (dk_at dksX0_lasts_0 5 rfl rfl)
theorem dX0_lasts_8 : decode cX0_lasts 8 = .ok (.ifCond .eq 13, 3) := dk_153 0 13 (dk_at dksX0_lasts_0 8 rfl rfl)
theorem dX0_lasts_11 : decode cX0_lasts 11 = .ok (.iload_n 2, 1) := dk_28 (dk_at dksX0_lasts_0 11 rfl rfl)
theorem dX0_lasts_12 : decode cX0_lasts 12 = .ok (.iconst 1, 1) := dk_4 (dk_at dksX0_lasts_0 12 rfl rfl)
theorem dX0_lasts_13 : decode cX0_lasts 13 = .ok (.bipush 99, 2) := dk_16 99 (dk_at dksX0_lasts_0 13 rfl rfl)
theorem dX0_lasts_15 : decode cX0_lasts 15 = .ok (.invokestatic 9, 3) := dk_184 0 9 (dk_at dksX0_lasts_0 15 rfl rfl)
theorem dX0_lasts_18 : decode cX0_lasts 18 = .ok (.ifCond .ne 9, 3) := dk_154 0 9 (dk_at dksX0_lasts_0 18 rfl rfl)
theorem dX0_lasts_21 : decode cX0_lasts 21 = .ok (.aload_n 0, 1) := dk_42 (dk_at dksX0_lasts_0 21 rfl rfl)
theorem dX0_lasts_22 : decode cX0_lasts 22 = .ok (.iconst 0, 1) := dk_3 (dk_at dksX0_lasts_0 22 rfl rfl)
theorem dX0_lasts_23 : decode cX0_lasts 23 = .ok (.invokevirtual 138, 3) := dk_182 0 138 (dk_at dksX0_lasts_1 0 rfl rfl)
theorem dX0_lasts_26 : decode cX0_lasts 26 = .ok (.ireturn, 1) := dk_172 (dk_at dksX0_lasts_1 3 rfl rfl)
theorem dX0_lasts_27 : decode cX0_lasts 27 = .ok (.sipush 999, 3) := dk_17 3 231 (dk_at dksX0_lasts_1 4 rfl rfl)
theorem dX0_lasts_30 : decode cX0_lasts 30 = .ok (.istore_n 3, 1) := dk_62 (dk_at dksX0_lasts_1 7 rfl rfl)
theorem dX0_lasts_31 : decode cX0_lasts 31 = .ok (.iload_n 1, 1) := dk_27 (dk_at dksX0_lasts_1 8 rfl rfl)
theorem dX0_lasts_32 : decode cX0_lasts 32 = .ok (.iload_n 3, 1) := dk_29 (dk_at dksX0_lasts_1 9 rfl rfl)
theorem dX0_lasts_33 : decode cX0_lasts 33 = .ok (.iload_n 2, 1) := dk_28 (dk_at dksX0_lasts_1 10 rfl rfl)
theorem dX0_lasts_34 : decode cX0_lasts 34 = .ok (.invokestatic 321, 3) := dk_184 1 65 (dk_at dksX0_lasts_1 11 rfl rfl)
theorem dX0_lasts_37 : decode cX0_lasts 37 = .ok (.iload_n 1, 1) := dk_27 (dk_at dksX0_lasts_1 14 rfl rfl)
theorem dX0_lasts_38 : decode cX0_lasts 38 = .ok (.if_icmp .ge 9, 3) := dk_162 0 9 (dk_at dksX0_lasts_1 15 rfl rfl)
theorem dX0_lasts_41 : decode cX0_lasts 41 = .ok (.iinc 3 (-1), 3) := dk_132 3 255 (dk_at dksX0_lasts_1 18 rfl rfl)
theorem dX0_lasts_44 : decode cX0_lasts 44 = .ok (.goto (-13), 3) := dk_167 255 243 (dk_at dksX0_lasts_1 21 rfl rfl)
theorem dX0_lasts_47 : decode cX0_lasts 47 = .ok (.iload_n 3, 1) := dk_29 (dk_at dksX0_lasts_2 0 rfl rfl)
theorem dX0_lasts_48 : decode cX0_lasts 48 = .ok (.ireturn, 1) := dk_172 (dk_at dksX0_lasts_2 1 rfl rfl)
abbrev cX0_ring : ByteArray := prog_1_method_76_code
def yX0_ring : MethodName := ⟨RX0, "ring", "()I"⟩
def dkwX0_ring_0 : List UInt8 := [42, 182, 1, 84, 184, 0, 212, 172]
abbrev dktX0_ring_0 : List UInt8 := dkwX0_ring_0 ++ []
theorem dksX0_ring_0 : cX0_ring.data.toList.drop 0 = dktX0_ring_0 := by decide +kernel
theorem dX0_ring_0 : decode cX0_ring 0 = .ok (.aload_n 0, 1) := dk_42 (dk_at dksX0_ring_0 0 rfl rfl)
theorem dX0_ring_1 : decode cX0_ring 1 = .ok (.invokevirtual 340, 3) := dk_182 1 84 (dk_at dksX0_ring_0 1 rfl rfl)
theorem dX0_ring_4 : decode cX0_ring 4 = .ok (.invokestatic 212, 3) := dk_184 0 212 (dk_at dksX0_ring_0 4 rfl rfl)
theorem dX0_ring_7 : decode cX0_ring 7 = .ok (.ireturn, 1) := dk_172 (dk_at dksX0_ring_0 7 rfl rfl)
abbrev cX0_bestRing : ByteArray := prog_1_method_75_code
def yX0_bestRing : MethodName := ⟨RX0, "bestRing", "()I"⟩
def dkwX0_bestRing_2 : List UInt8 := [167, 255, 215, 27, 172]
abbrev dktX0_bestRing_2 : List UInt8 := dkwX0_bestRing_2 ++ []
def dkwX0_bestRing_1 : List UInt8 := [153, 0, 18, 28, 184, 0, 212, 27, 184, 0, 212, 164, 0, 7, 28, 167, 0, 4, 27, 60, 132, 2, 1]
abbrev dktX0_bestRing_1 : List UInt8 := dkwX0_bestRing_1 ++ dktX0_bestRing_2
def dkwX0_bestRing_0 : List UInt8 := [3, 60, 4, 61, 28, 4, 42, 180, 0, 78, 180, 0, 136, 120, 162, 0, 34, 42, 28, 182, 1, 81]
abbrev dktX0_bestRing_0 : List UInt8 := dkwX0_bestRing_0 ++ dktX0_bestRing_1
theorem dksX0_bestRing_0 : cX0_bestRing.data.toList.drop 0 = dktX0_bestRing_0 := by decide +kernel
theorem dksX0_bestRing_1 : cX0_bestRing.data.toList.drop 22 = dktX0_bestRing_1 := dk_seg dksX0_bestRing_0 22 rfl rfl
theorem dksX0_bestRing_2 : cX0_bestRing.data.toList.drop 45 = dktX0_bestRing_2 := dk_seg dksX0_bestRing_1 23 rfl rfl
theorem dX0_bestRing_0 : decode cX0_bestRing 0 = .ok (.iconst 0, 1) := dk_3 (dk_at dksX0_bestRing_0 0 rfl rfl)
theorem dX0_bestRing_1 : decode cX0_bestRing 1 = .ok (.istore_n 1, 1) := dk_60 (dk_at dksX0_bestRing_0 1 rfl rfl)
theorem dX0_bestRing_2 : decode cX0_bestRing 2 = .ok (.iconst 1, 1) := dk_4 (dk_at dksX0_bestRing_0 2 rfl rfl)
theorem dX0_bestRing_3 : decode cX0_bestRing 3 = .ok (.istore_n 2, 1) := dk_61 (dk_at dksX0_bestRing_0 3 rfl rfl)
theorem dX0_bestRing_4 : decode cX0_bestRing 4 = .ok (.iload_n 2, 1) := dk_28 (dk_at dksX0_bestRing_0 4 rfl rfl)
theorem dX0_bestRing_5 : decode cX0_bestRing 5 = .ok (.iconst 1, 1) := dk_4 (dk_at dksX0_bestRing_0 5 rfl rfl)
theorem dX0_bestRing_6 : decode cX0_bestRing 6 = .ok (.aload_n 0, 1) := dk_42 (dk_at dksX0_bestRing_0 6 rfl rfl)
theorem dX0_bestRing_7 : decode cX0_bestRing 7 = .ok (.getfield 78, 3) := dk_180 0 78 (dk_at dksX0_bestRing_0 7 rfl rfl)
theorem dX0_bestRing_10 : decode cX0_bestRing 10 = .ok (.getfield 136, 3) := dk_180 0 136 (dk_at dksX0_bestRing_0 10 rfl rfl)
theorem dX0_bestRing_13 : decode cX0_bestRing 13 = .ok (.ishl, 1) := dk_120 (dk_at dksX0_bestRing_0 13 rfl rfl)
theorem dX0_bestRing_14 : decode cX0_bestRing 14 = .ok (.if_icmp .ge 34, 3) := dk_162 0 34 (dk_at dksX0_bestRing_0 14 rfl rfl)
theorem dX0_bestRing_17 : decode cX0_bestRing 17 = .ok (.aload_n 0, 1) := dk_42 (dk_at dksX0_bestRing_0 17 rfl rfl)
theorem dX0_bestRing_18 : decode cX0_bestRing 18 = .ok (.iload_n 2, 1) := dk_28 (dk_at dksX0_bestRing_0 18 rfl rfl)
theorem dX0_bestRing_19 : decode cX0_bestRing 19 = .ok (.invokevirtual 337, 3) := dk_182 1 81 (dk_at dksX0_bestRing_0 19 rfl rfl)
theorem dX0_bestRing_22 : decode cX0_bestRing 22 = .ok (.ifCond .eq 18, 3) := dk_153 0 18 (dk_at dksX0_bestRing_1 0 rfl rfl)
theorem dX0_bestRing_25 : decode cX0_bestRing 25 = .ok (.iload_n 2, 1) := dk_28 (dk_at dksX0_bestRing_1 3 rfl rfl)
theorem dX0_bestRing_26 : decode cX0_bestRing 26 = .ok (.invokestatic 212, 3) := dk_184 0 212 (dk_at dksX0_bestRing_1 4 rfl rfl)
theorem dX0_bestRing_29 : decode cX0_bestRing 29 = .ok (.iload_n 1, 1) := dk_27 (dk_at dksX0_bestRing_1 7 rfl rfl)
theorem dX0_bestRing_30 : decode cX0_bestRing 30 = .ok (.invokestatic 212, 3) := dk_184 0 212 (dk_at dksX0_bestRing_1 8 rfl rfl)
theorem dX0_bestRing_33 : decode cX0_bestRing 33 = .ok (.if_icmp .le 7, 3) := dk_164 0 7 (dk_at dksX0_bestRing_1 11 rfl rfl)
theorem dX0_bestRing_36 : decode cX0_bestRing 36 = .ok (.iload_n 2, 1) := dk_28 (dk_at dksX0_bestRing_1 14 rfl rfl)
theorem dX0_bestRing_37 : decode cX0_bestRing 37 = .ok (.goto 4, 3) := dk_167 0 4 (dk_at dksX0_bestRing_1 15 rfl rfl)
theorem dX0_bestRing_40 : decode cX0_bestRing 40 = .ok (.iload_n 1, 1) := dk_27 (dk_at dksX0_bestRing_1 18 rfl rfl)
theorem dX0_bestRing_41 : decode cX0_bestRing 41 = .ok (.istore_n 1, 1) := dk_60 (dk_at dksX0_bestRing_1 19 rfl rfl)
theorem dX0_bestRing_42 : decode cX0_bestRing 42 = .ok (.iinc 2 1, 3) := dk_132 2 1 (dk_at dksX0_bestRing_1 20 rfl rfl)
theorem dX0_bestRing_45 : decode cX0_bestRing 45 = .ok (.goto (-41), 3) := dk_167 255 215 (dk_at dksX0_bestRing_2 0 rfl rfl)
theorem dX0_bestRing_48 : decode cX0_bestRing 48 = .ok (.iload_n 1, 1) := dk_27 (dk_at dksX0_bestRing_2 3 rfl rfl)
theorem dX0_bestRing_49 : decode cX0_bestRing 49 = .ok (.ireturn, 1) := dk_172 (dk_at dksX0_bestRing_2 4 rfl rfl)
abbrev cX0_isRing : ByteArray := prog_1_method_74_code
def yX0_isRing : MethodName := ⟨RX0, "isRing", "(I)Z"⟩
def dkwX0_isRing_1 : List UInt8 := [184, 1, 78, 153, 0, 7, 4, 167, 0, 4, 3, 172]
abbrev dktX0_isRing_1 : List UInt8 := dkwX0_isRing_1 ++ []
def dkwX0_isRing_0 : List UInt8 := [42, 27, 182, 1, 75, 61, 27, 153, 0, 25, 28, 184, 0, 212, 27, 184, 0, 212, 160, 0, 14, 28]
abbrev dktX0_isRing_0 : List UInt8 := dkwX0_isRing_0 ++ dktX0_isRing_1
theorem dksX0_isRing_0 : cX0_isRing.data.toList.drop 0 = dktX0_isRing_0 := by decide +kernel
theorem dksX0_isRing_1 : cX0_isRing.data.toList.drop 22 = dktX0_isRing_1 := dk_seg dksX0_isRing_0 22 rfl rfl
theorem dX0_isRing_0 : decode cX0_isRing 0 = .ok (.aload_n 0, 1) := dk_42 (dk_at dksX0_isRing_0 0 rfl rfl)
theorem dX0_isRing_1 : decode cX0_isRing 1 = .ok (.iload_n 1, 1) := dk_27 (dk_at dksX0_isRing_0 1 rfl rfl)
theorem dX0_isRing_2 : decode cX0_isRing 2 = .ok (.invokevirtual 331, 3) := dk_182 1 75 (dk_at dksX0_isRing_0 2 rfl rfl)
theorem dX0_isRing_5 : decode cX0_isRing 5 = .ok (.istore_n 2, 1) := dk_61 (dk_at dksX0_isRing_0 5 rfl rfl)
theorem dX0_isRing_6 : decode cX0_isRing 6 = .ok (.iload_n 1, 1) := dk_27 (dk_at dksX0_isRing_0 6 rfl rfl)
theorem dX0_isRing_7 : decode cX0_isRing 7 = .ok (.ifCond .eq 25, 3) := dk_153 0 25 (dk_at dksX0_isRing_0 7 rfl rfl)
theorem dX0_isRing_10 : decode cX0_isRing 10 = .ok (.iload_n 2, 1) := dk_28 (dk_at dksX0_isRing_0 10 rfl rfl)
theorem dX0_isRing_11 : decode cX0_isRing 11 = .ok (.invokestatic 212, 3) := dk_184 0 212 (dk_at dksX0_isRing_0 11 rfl rfl)
theorem dX0_isRing_14 : decode cX0_isRing 14 = .ok (.iload_n 1, 1) := dk_27 (dk_at dksX0_isRing_0 14 rfl rfl)
theorem dX0_isRing_15 : decode cX0_isRing 15 = .ok (.invokestatic 212, 3) := dk_184 0 212 (dk_at dksX0_isRing_0 15 rfl rfl)
theorem dX0_isRing_18 : decode cX0_isRing 18 = .ok (.if_icmp .ne 14, 3) := dk_160 0 14 (dk_at dksX0_isRing_0 18 rfl rfl)
theorem dX0_isRing_21 : decode cX0_isRing 21 = .ok (.iload_n 2, 1) := dk_28 (dk_at dksX0_isRing_0 21 rfl rfl)
theorem dX0_isRing_22 : decode cX0_isRing 22 = .ok (.invokestatic 334, 3) := dk_184 1 78 (dk_at dksX0_isRing_1 0 rfl rfl)
theorem dX0_isRing_25 : decode cX0_isRing 25 = .ok (.ifCond .eq 7, 3) := dk_153 0 7 (dk_at dksX0_isRing_1 3 rfl rfl)
theorem dX0_isRing_28 : decode cX0_isRing 28 = .ok (.iconst 1, 1) := dk_4 (dk_at dksX0_isRing_1 6 rfl rfl)
theorem dX0_isRing_29 : decode cX0_isRing 29 = .ok (.goto 4, 3) := dk_167 0 4 (dk_at dksX0_isRing_1 7 rfl rfl)
theorem dX0_isRing_32 : decode cX0_isRing 32 = .ok (.iconst 0, 1) := dk_3 (dk_at dksX0_isRing_1 10 rfl rfl)
theorem dX0_isRing_33 : decode cX0_isRing 33 = .ok (.ireturn, 1) := dk_172 (dk_at dksX0_isRing_1 11 rfl rfl)
abbrev cX0_notesOf : ByteArray := prog_1_method_73_code
def yX0_notesOf : MethodName := ⟨RX0, "notesOf", "(I)I"⟩
def dkwX0_notesOf_2 : List UInt8 := [167, 255, 214, 28, 172]
abbrev dktX0_notesOf_2 : List UInt8 := dkwX0_notesOf_2 ++ []
def dkwX0_notesOf_1 : List UInt8 := [4, 42, 180, 0, 78, 180, 0, 123, 5, 50, 29, 46, 120, 167, 0, 4, 3, 128, 61, 132, 3, 1]
abbrev dktX0_notesOf_1 : List UInt8 := dkwX0_notesOf_1 ++ dktX0_notesOf_2
def dkwX0_notesOf_0 : List UInt8 := [3, 61, 3, 62, 29, 42, 180, 0, 78, 180, 0, 136, 162, 0, 37, 28, 27, 29, 184, 1, 72, 153, 0, 19]
abbrev dktX0_notesOf_0 : List UInt8 := dkwX0_notesOf_0 ++ dktX0_notesOf_1
theorem dksX0_notesOf_0 : cX0_notesOf.data.toList.drop 0 = dktX0_notesOf_0 := by decide +kernel
theorem dksX0_notesOf_1 : cX0_notesOf.data.toList.drop 24 = dktX0_notesOf_1 := dk_seg dksX0_notesOf_0 24 rfl rfl
theorem dksX0_notesOf_2 : cX0_notesOf.data.toList.drop 46 = dktX0_notesOf_2 := dk_seg dksX0_notesOf_1 22 rfl rfl
theorem dX0_notesOf_0 : decode cX0_notesOf 0 = .ok (.iconst 0, 1) := dk_3 (dk_at dksX0_notesOf_0 0 rfl rfl)
theorem dX0_notesOf_1 : decode cX0_notesOf 1 = .ok (.istore_n 2, 1) := dk_61 (dk_at dksX0_notesOf_0 1 rfl rfl)
theorem dX0_notesOf_2 : decode cX0_notesOf 2 = .ok (.iconst 0, 1) := dk_3 (dk_at dksX0_notesOf_0 2 rfl rfl)
theorem dX0_notesOf_3 : decode cX0_notesOf 3 = .ok (.istore_n 3, 1) := dk_62 (dk_at dksX0_notesOf_0 3 rfl rfl)
theorem dX0_notesOf_4 : decode cX0_notesOf 4 = .ok (.iload_n 3, 1) := dk_29 (dk_at dksX0_notesOf_0 4 rfl rfl)
theorem dX0_notesOf_5 : decode cX0_notesOf 5 = .ok (.aload_n 0, 1) := dk_42 (dk_at dksX0_notesOf_0 5 rfl rfl)
theorem dX0_notesOf_6 : decode cX0_notesOf 6 = .ok (.getfield 78, 3) := dk_180 0 78 (dk_at dksX0_notesOf_0 6 rfl rfl)
theorem dX0_notesOf_9 : decode cX0_notesOf 9 = .ok (.getfield 136, 3) := dk_180 0 136 (dk_at dksX0_notesOf_0 9 rfl rfl)
theorem dX0_notesOf_12 : decode cX0_notesOf 12 = .ok (.if_icmp .ge 37, 3) := dk_162 0 37 (dk_at dksX0_notesOf_0 12 rfl rfl)
theorem dX0_notesOf_15 : decode cX0_notesOf 15 = .ok (.iload_n 2, 1) := dk_28 (dk_at dksX0_notesOf_0 15 rfl rfl)
theorem dX0_notesOf_16 : decode cX0_notesOf 16 = .ok (.iload_n 1, 1) := dk_27 (dk_at dksX0_notesOf_0 16 rfl rfl)
theorem dX0_notesOf_17 : decode cX0_notesOf 17 = .ok (.iload_n 3, 1) := dk_29 (dk_at dksX0_notesOf_0 17 rfl rfl)
theorem dX0_notesOf_18 : decode cX0_notesOf 18 = .ok (.invokestatic 328, 3) := dk_184 1 72 (dk_at dksX0_notesOf_0 18 rfl rfl)
theorem dX0_notesOf_21 : decode cX0_notesOf 21 = .ok (.ifCond .eq 19, 3) := dk_153 0 19 (dk_at dksX0_notesOf_0 21 rfl rfl)
theorem dX0_notesOf_24 : decode cX0_notesOf 24 = .ok (.iconst 1, 1) := dk_4 (dk_at dksX0_notesOf_1 0 rfl rfl)
theorem dX0_notesOf_25 : decode cX0_notesOf 25 = .ok (.aload_n 0, 1) := dk_42 (dk_at dksX0_notesOf_1 1 rfl rfl)
theorem dX0_notesOf_26 : decode cX0_notesOf 26 = .ok (.getfield 78, 3) := dk_180 0 78 (dk_at dksX0_notesOf_1 2 rfl rfl)
theorem dX0_notesOf_29 : decode cX0_notesOf 29 = .ok (.getfield 123, 3) := dk_180 0 123 (dk_at dksX0_notesOf_1 5 rfl rfl)
theorem dX0_notesOf_32 : decode cX0_notesOf 32 = .ok (.iconst 2, 1) := dk_5 (dk_at dksX0_notesOf_1 8 rfl rfl)
theorem dX0_notesOf_33 : decode cX0_notesOf 33 = .ok (.aaload, 1) := dk_50 (dk_at dksX0_notesOf_1 9 rfl rfl)
theorem dX0_notesOf_34 : decode cX0_notesOf 34 = .ok (.iload_n 3, 1) := dk_29 (dk_at dksX0_notesOf_1 10 rfl rfl)
theorem dX0_notesOf_35 : decode cX0_notesOf 35 = .ok (.iaload, 1) := dk_46 (dk_at dksX0_notesOf_1 11 rfl rfl)
theorem dX0_notesOf_36 : decode cX0_notesOf 36 = .ok (.ishl, 1) := dk_120 (dk_at dksX0_notesOf_1 12 rfl rfl)
theorem dX0_notesOf_37 : decode cX0_notesOf 37 = .ok (.goto 4, 3) := dk_167 0 4 (dk_at dksX0_notesOf_1 13 rfl rfl)
theorem dX0_notesOf_40 : decode cX0_notesOf 40 = .ok (.iconst 0, 1) := dk_3 (dk_at dksX0_notesOf_1 16 rfl rfl)
theorem dX0_notesOf_41 : decode cX0_notesOf 41 = .ok (.ior, 1) := dk_128 (dk_at dksX0_notesOf_1 17 rfl rfl)
theorem dX0_notesOf_42 : decode cX0_notesOf 42 = .ok (.istore_n 2, 1) := dk_61 (dk_at dksX0_notesOf_1 18 rfl rfl)
theorem dX0_notesOf_43 : decode cX0_notesOf 43 = .ok (.iinc 3 1, 3) := dk_132 3 1 (dk_at dksX0_notesOf_1 19 rfl rfl)
theorem dX0_notesOf_46 : decode cX0_notesOf 46 = .ok (.goto (-42), 3) := dk_167 255 214 (dk_at dksX0_notesOf_2 0 rfl rfl)
theorem dX0_notesOf_49 : decode cX0_notesOf 49 = .ok (.iload_n 2, 1) := dk_28 (dk_at dksX0_notesOf_2 3 rfl rfl)
theorem dX0_notesOf_50 : decode cX0_notesOf 50 = .ok (.ireturn, 1) := dk_172 (dk_at dksX0_notesOf_2 4 rfl rfl)
abbrev cX0_has : ByteArray := prog_1_method_2_code
def yX0_has : MethodName := ⟨RX0, "has", "(II)Z"⟩
def dkwX0_has_0 : List UInt8 := [26, 27, 122, 4, 126, 4, 160, 0, 7, 4, 167, 0, 4, 3, 172]
abbrev dktX0_has_0 : List UInt8 := dkwX0_has_0 ++ []
theorem dksX0_has_0 : cX0_has.data.toList.drop 0 = dktX0_has_0 := by decide +kernel
theorem dX0_has_0 : decode cX0_has 0 = .ok (.iload_n 0, 1) := dk_26 (dk_at dksX0_has_0 0 rfl rfl)
theorem dX0_has_1 : decode cX0_has 1 = .ok (.iload_n 1, 1) := dk_27 (dk_at dksX0_has_0 1 rfl rfl)
theorem dX0_has_2 : decode cX0_has 2 = .ok (.ishr, 1) := dk_122 (dk_at dksX0_has_0 2 rfl rfl)
theorem dX0_has_3 : decode cX0_has 3 = .ok (.iconst 1, 1) := dk_4 (dk_at dksX0_has_0 3 rfl rfl)
theorem dX0_has_4 : decode cX0_has 4 = .ok (.iand, 1) := dk_126 (dk_at dksX0_has_0 4 rfl rfl)
theorem dX0_has_5 : decode cX0_has 5 = .ok (.iconst 1, 1) := dk_4 (dk_at dksX0_has_0 5 rfl rfl)
theorem dX0_has_6 : decode cX0_has 6 = .ok (.if_icmp .ne 7, 3) := dk_160 0 7 (dk_at dksX0_has_0 6 rfl rfl)
theorem dX0_has_9 : decode cX0_has 9 = .ok (.iconst 1, 1) := dk_4 (dk_at dksX0_has_0 9 rfl rfl)
theorem dX0_has_10 : decode cX0_has 10 = .ok (.goto 4, 3) := dk_167 0 4 (dk_at dksX0_has_0 10 rfl rfl)
theorem dX0_has_13 : decode cX0_has 13 = .ok (.iconst 0, 1) := dk_3 (dk_at dksX0_has_0 13 rfl rfl)
theorem dX0_has_14 : decode cX0_has 14 = .ok (.ireturn, 1) := dk_172 (dk_at dksX0_has_0 14 rfl rfl)
abbrev cX0_isRow : ByteArray := prog_1_method_72_code
def yX0_isRow : MethodName := ⟨RX0, "isRow", "(I)Z"⟩
def dkwX0_isRow_2 : List UInt8 := [167, 255, 218, 27, 172]
abbrev dktX0_isRow_2 : List UInt8 := dkwX0_isRow_2 ++ []
def dkwX0_isRow_1 : List UInt8 := [154, 0, 13, 26, 28, 4, 96, 184, 1, 72, 153, 0, 7, 4, 167, 0, 4, 3, 60, 132, 2, 1]
abbrev dktX0_isRow_1 : List UInt8 := dkwX0_isRow_1 ++ dktX0_isRow_2
def dkwX0_isRow_0 : List UInt8 := [4, 60, 26, 184, 1, 69, 61, 27, 153, 0, 40, 26, 28, 122, 4, 164, 0, 33, 26, 28, 184, 1, 72]
abbrev dktX0_isRow_0 : List UInt8 := dkwX0_isRow_0 ++ dktX0_isRow_1
theorem dksX0_isRow_0 : cX0_isRow.data.toList.drop 0 = dktX0_isRow_0 := by decide +kernel
theorem dksX0_isRow_1 : cX0_isRow.data.toList.drop 23 = dktX0_isRow_1 := dk_seg dksX0_isRow_0 23 rfl rfl
theorem dksX0_isRow_2 : cX0_isRow.data.toList.drop 45 = dktX0_isRow_2 := dk_seg dksX0_isRow_1 22 rfl rfl
theorem dX0_isRow_0 : decode cX0_isRow 0 = .ok (.iconst 1, 1) := dk_4 (dk_at dksX0_isRow_0 0 rfl rfl)
theorem dX0_isRow_1 : decode cX0_isRow 1 = .ok (.istore_n 1, 1) := dk_60 (dk_at dksX0_isRow_0 1 rfl rfl)
theorem dX0_isRow_2 : decode cX0_isRow 2 = .ok (.iload_n 0, 1) := dk_26 (dk_at dksX0_isRow_0 2 rfl rfl)
theorem dX0_isRow_3 : decode cX0_isRow 3 = .ok (.invokestatic 325, 3) := dk_184 1 69 (dk_at dksX0_isRow_0 3 rfl rfl)
theorem dX0_isRow_6 : decode cX0_isRow 6 = .ok (.istore_n 2, 1) := dk_61 (dk_at dksX0_isRow_0 6 rfl rfl)
theorem dX0_isRow_7 : decode cX0_isRow 7 = .ok (.iload_n 1, 1) := dk_27 (dk_at dksX0_isRow_0 7 rfl rfl)
theorem dX0_isRow_8 : decode cX0_isRow 8 = .ok (.ifCond .eq 40, 3) := dk_153 0 40 (dk_at dksX0_isRow_0 8 rfl rfl)
theorem dX0_isRow_11 : decode cX0_isRow 11 = .ok (.iload_n 0, 1) := dk_26 (dk_at dksX0_isRow_0 11 rfl rfl)
theorem dX0_isRow_12 : decode cX0_isRow 12 = .ok (.iload_n 2, 1) := dk_28 (dk_at dksX0_isRow_0 12 rfl rfl)
theorem dX0_isRow_13 : decode cX0_isRow 13 = .ok (.ishr, 1) := dk_122 (dk_at dksX0_isRow_0 13 rfl rfl)
theorem dX0_isRow_14 : decode cX0_isRow 14 = .ok (.iconst 1, 1) := dk_4 (dk_at dksX0_isRow_0 14 rfl rfl)
theorem dX0_isRow_15 : decode cX0_isRow 15 = .ok (.if_icmp .le 33, 3) := dk_164 0 33 (dk_at dksX0_isRow_0 15 rfl rfl)
theorem dX0_isRow_18 : decode cX0_isRow 18 = .ok (.iload_n 0, 1) := dk_26 (dk_at dksX0_isRow_0 18 rfl rfl)
theorem dX0_isRow_19 : decode cX0_isRow 19 = .ok (.iload_n 2, 1) := dk_28 (dk_at dksX0_isRow_0 19 rfl rfl)
theorem dX0_isRow_20 : decode cX0_isRow 20 = .ok (.invokestatic 328, 3) := dk_184 1 72 (dk_at dksX0_isRow_0 20 rfl rfl)
theorem dX0_isRow_23 : decode cX0_isRow 23 = .ok (.ifCond .ne 13, 3) := dk_154 0 13 (dk_at dksX0_isRow_1 0 rfl rfl)
theorem dX0_isRow_26 : decode cX0_isRow 26 = .ok (.iload_n 0, 1) := dk_26 (dk_at dksX0_isRow_1 3 rfl rfl)
theorem dX0_isRow_27 : decode cX0_isRow 27 = .ok (.iload_n 2, 1) := dk_28 (dk_at dksX0_isRow_1 4 rfl rfl)
theorem dX0_isRow_28 : decode cX0_isRow 28 = .ok (.iconst 1, 1) := dk_4 (dk_at dksX0_isRow_1 5 rfl rfl)
theorem dX0_isRow_29 : decode cX0_isRow 29 = .ok (.iadd, 1) := dk_96 (dk_at dksX0_isRow_1 6 rfl rfl)
theorem dX0_isRow_30 : decode cX0_isRow 30 = .ok (.invokestatic 328, 3) := dk_184 1 72 (dk_at dksX0_isRow_1 7 rfl rfl)
theorem dX0_isRow_33 : decode cX0_isRow 33 = .ok (.ifCond .eq 7, 3) := dk_153 0 7 (dk_at dksX0_isRow_1 10 rfl rfl)
theorem dX0_isRow_36 : decode cX0_isRow 36 = .ok (.iconst 1, 1) := dk_4 (dk_at dksX0_isRow_1 13 rfl rfl)
theorem dX0_isRow_37 : decode cX0_isRow 37 = .ok (.goto 4, 3) := dk_167 0 4 (dk_at dksX0_isRow_1 14 rfl rfl)
theorem dX0_isRow_40 : decode cX0_isRow 40 = .ok (.iconst 0, 1) := dk_3 (dk_at dksX0_isRow_1 17 rfl rfl)
theorem dX0_isRow_41 : decode cX0_isRow 41 = .ok (.istore_n 1, 1) := dk_60 (dk_at dksX0_isRow_1 18 rfl rfl)
theorem dX0_isRow_42 : decode cX0_isRow 42 = .ok (.iinc 2 1, 3) := dk_132 2 1 (dk_at dksX0_isRow_1 19 rfl rfl)
theorem dX0_isRow_45 : decode cX0_isRow 45 = .ok (.goto (-38), 3) := dk_167 255 218 (dk_at dksX0_isRow_2 0 rfl rfl)
theorem dX0_isRow_48 : decode cX0_isRow 48 = .ok (.iload_n 1, 1) := dk_27 (dk_at dksX0_isRow_2 3 rfl rfl)
theorem dX0_isRow_49 : decode cX0_isRow 49 = .ok (.ireturn, 1) := dk_172 (dk_at dksX0_isRow_2 4 rfl rfl)
abbrev cX0_rings : ByteArray := prog_1_method_77_code
def yX0_rings : MethodName := ⟨RX0, "rings", "()I"⟩
theorem dX0_rings_0 : decode cX0_rings 0 = .ok (.aload_n 0, 1) := by decide +kernel
theorem dX0_rings_1 : decode cX0_rings 1 = .ok (.invokevirtual 340, 3) := by decide +kernel
theorem dX0_rings_4 : decode cX0_rings 4 = .ok (.ireturn, 1) := by decide +kernel
abbrev cX0_peals : ByteArray := prog_1_method_78_code
def yX0_peals : MethodName := ⟨RX0, "peals", "()I"⟩
def dkwX0_peals_1 : List UInt8 := [153, 0, 7, 4, 167, 0, 4, 3, 96, 60, 132, 2, 1, 167, 255, 224, 27, 172]
abbrev dktX0_peals_1 : List UInt8 := dkwX0_peals_1 ++ []
def dkwX0_peals_0 : List UInt8 := [3, 60, 4, 61, 28, 4, 42, 180, 0, 78, 180, 0, 136, 120, 162, 0, 25, 27, 42, 28, 182, 1, 81]
abbrev dktX0_peals_0 : List UInt8 := dkwX0_peals_0 ++ dktX0_peals_1
theorem dksX0_peals_0 : cX0_peals.data.toList.drop 0 = dktX0_peals_0 := by decide +kernel
theorem dksX0_peals_1 : cX0_peals.data.toList.drop 23 = dktX0_peals_1 := dk_seg dksX0_peals_0 23 rfl rfl
theorem dX0_peals_0 : decode cX0_peals 0 = .ok (.iconst 0, 1) := dk_3 (dk_at dksX0_peals_0 0 rfl rfl)
theorem dX0_peals_1 : decode cX0_peals 1 = .ok (.istore_n 1, 1) := dk_60 (dk_at dksX0_peals_0 1 rfl rfl)
theorem dX0_peals_2 : decode cX0_peals 2 = .ok (.iconst 1, 1) := dk_4 (dk_at dksX0_peals_0 2 rfl rfl)
theorem dX0_peals_3 : decode cX0_peals 3 = .ok (.istore_n 2, 1) := dk_61 (dk_at dksX0_peals_0 3 rfl rfl)
theorem dX0_peals_4 : decode cX0_peals 4 = .ok (.iload_n 2, 1) := dk_28 (dk_at dksX0_peals_0 4 rfl rfl)
theorem dX0_peals_5 : decode cX0_peals 5 = .ok (.iconst 1, 1) := dk_4 (dk_at dksX0_peals_0 5 rfl rfl)
theorem dX0_peals_6 : decode cX0_peals 6 = .ok (.aload_n 0, 1) := dk_42 (dk_at dksX0_peals_0 6 rfl rfl)
theorem dX0_peals_7 : decode cX0_peals 7 = .ok (.getfield 78, 3) := dk_180 0 78 (dk_at dksX0_peals_0 7 rfl rfl)
theorem dX0_peals_10 : decode cX0_peals 10 = .ok (.getfield 136, 3) := dk_180 0 136 (dk_at dksX0_peals_0 10 rfl rfl)
theorem dX0_peals_13 : decode cX0_peals 13 = .ok (.ishl, 1) := dk_120 (dk_at dksX0_peals_0 13 rfl rfl)
theorem dX0_peals_14 : decode cX0_peals 14 = .ok (.if_icmp .ge 25, 3) := dk_162 0 25 (dk_at dksX0_peals_0 14 rfl rfl)
theorem dX0_peals_17 : decode cX0_peals 17 = .ok (.iload_n 1, 1) := dk_27 (dk_at dksX0_peals_0 17 rfl rfl)
theorem dX0_peals_18 : decode cX0_peals 18 = .ok (.aload_n 0, 1) := dk_42 (dk_at dksX0_peals_0 18 rfl rfl)
theorem dX0_peals_19 : decode cX0_peals 19 = .ok (.iload_n 2, 1) := dk_28 (dk_at dksX0_peals_0 19 rfl rfl)
theorem dX0_peals_20 : decode cX0_peals 20 = .ok (.invokevirtual 337, 3) := dk_182 1 81 (dk_at dksX0_peals_0 20 rfl rfl)
theorem dX0_peals_23 : decode cX0_peals 23 = .ok (.ifCond .eq 7, 3) := dk_153 0 7 (dk_at dksX0_peals_1 0 rfl rfl)
theorem dX0_peals_26 : decode cX0_peals 26 = .ok (.iconst 1, 1) := dk_4 (dk_at dksX0_peals_1 3 rfl rfl)
theorem dX0_peals_27 : decode cX0_peals 27 = .ok (.goto 4, 3) := dk_167 0 4 (dk_at dksX0_peals_1 4 rfl rfl)
theorem dX0_peals_30 : decode cX0_peals 30 = .ok (.iconst 0, 1) := dk_3 (dk_at dksX0_peals_1 7 rfl rfl)
theorem dX0_peals_31 : decode cX0_peals 31 = .ok (.iadd, 1) := dk_96 (dk_at dksX0_peals_1 8 rfl rfl)
theorem dX0_peals_32 : decode cX0_peals 32 = .ok (.istore_n 1, 1) := dk_60 (dk_at dksX0_peals_1 9 rfl rfl)
theorem dX0_peals_33 : decode cX0_peals 33 = .ok (.iinc 2 1, 3) := dk_132 2 1 (dk_at dksX0_peals_1 10 rfl rfl)
theorem dX0_peals_36 : decode cX0_peals 36 = .ok (.goto (-32), 3) := dk_167 255 224 (dk_at dksX0_peals_1 13 rfl rfl)
theorem dX0_peals_39 : decode cX0_peals 39 = .ok (.iload_n 1, 1) := dk_27 (dk_at dksX0_peals_1 16 rfl rfl)
theorem dX0_peals_40 : decode cX0_peals 40 = .ok (.ireturn, 1) := dk_172 (dk_at dksX0_peals_1 17 rfl rfl)
abbrev cX0_wanted : ByteArray := prog_1_method_80_code
def yX0_wanted : MethodName := ⟨RX0, "wanted", "()I"⟩
def dkwX0_wanted_2 : List UInt8 := [167, 0, 4, 28, 61, 132, 3, 1, 167, 255, 222, 28, 172]
abbrev dktX0_wanted_2 : List UInt8 := dkwX0_wanted_2 ++ []
def dkwX0_wanted_1 : List UInt8 := [162, 0, 34, 27, 4, 29, 120, 128, 184, 1, 87, 27, 4, 28, 120, 128, 184, 1, 87, 164, 0, 7, 29]
abbrev dktX0_wanted_1 : List UInt8 := dkwX0_wanted_1 ++ dktX0_wanted_2
def dkwX0_wanted_0 : List UInt8 := [42, 4, 42, 180, 0, 78, 180, 0, 136, 120, 4, 100, 182, 1, 75, 60, 3, 61, 4, 62, 29, 16, 12]
abbrev dktX0_wanted_0 : List UInt8 := dkwX0_wanted_0 ++ dktX0_wanted_1
theorem dksX0_wanted_0 : cX0_wanted.data.toList.drop 0 = dktX0_wanted_0 := by decide +kernel
theorem dksX0_wanted_1 : cX0_wanted.data.toList.drop 23 = dktX0_wanted_1 := dk_seg dksX0_wanted_0 23 rfl rfl
theorem dksX0_wanted_2 : cX0_wanted.data.toList.drop 46 = dktX0_wanted_2 := dk_seg dksX0_wanted_1 23 rfl rfl
theorem dX0_wanted_0 : decode cX0_wanted 0 = .ok (.aload_n 0, 1) := dk_42 (dk_at dksX0_wanted_0 0 rfl rfl)
theorem dX0_wanted_1 : decode cX0_wanted 1 = .ok (.iconst 1, 1) := dk_4 (dk_at dksX0_wanted_0 1 rfl rfl)
theorem dX0_wanted_2 : decode cX0_wanted 2 = .ok (.aload_n 0, 1) := dk_42 (dk_at dksX0_wanted_0 2 rfl rfl)
theorem dX0_wanted_3 : decode cX0_wanted 3 = .ok (.getfield 78, 3) := dk_180 0 78 (dk_at dksX0_wanted_0 3 rfl rfl)
theorem dX0_wanted_6 : decode cX0_wanted 6 = .ok (.getfield 136, 3) := dk_180 0 136 (dk_at dksX0_wanted_0 6 rfl rfl)
theorem dX0_wanted_9 : decode cX0_wanted 9 = .ok (.ishl, 1) := dk_120 (dk_at dksX0_wanted_0 9 rfl rfl)
theorem dX0_wanted_10 : decode cX0_wanted 10 = .ok (.iconst 1, 1) := dk_4 (dk_at dksX0_wanted_0 10 rfl rfl)
theorem dX0_wanted_11 : decode cX0_wanted 11 = .ok (.isub, 1) := dk_100 (dk_at dksX0_wanted_0 11 rfl rfl)
theorem dX0_wanted_12 : decode cX0_wanted 12 = .ok (.invokevirtual 331, 3) := dk_182 1 75 (dk_at dksX0_wanted_0 12 rfl rfl)
theorem dX0_wanted_15 : decode cX0_wanted 15 = .ok (.istore_n 1, 1) := dk_60 (dk_at dksX0_wanted_0 15 rfl rfl)
theorem dX0_wanted_16 : decode cX0_wanted 16 = .ok (.iconst 0, 1) := dk_3 (dk_at dksX0_wanted_0 16 rfl rfl)
theorem dX0_wanted_17 : decode cX0_wanted 17 = .ok (.istore_n 2, 1) := dk_61 (dk_at dksX0_wanted_0 17 rfl rfl)
theorem dX0_wanted_18 : decode cX0_wanted 18 = .ok (.iconst 1, 1) := dk_4 (dk_at dksX0_wanted_0 18 rfl rfl)
theorem dX0_wanted_19 : decode cX0_wanted 19 = .ok (.istore_n 3, 1) := dk_62 (dk_at dksX0_wanted_0 19 rfl rfl)
theorem dX0_wanted_20 : decode cX0_wanted 20 = .ok (.iload_n 3, 1) := dk_29 (dk_at dksX0_wanted_0 20 rfl rfl)
theorem dX0_wanted_21 : decode cX0_wanted 21 = .ok (.bipush 12, 2) := dk_16 12 (dk_at dksX0_wanted_0 21 rfl rfl)
theorem dX0_wanted_23 : decode cX0_wanted 23 = .ok (.if_icmp .ge 34, 3) := dk_162 0 34 (dk_at dksX0_wanted_1 0 rfl rfl)
theorem dX0_wanted_26 : decode cX0_wanted 26 = .ok (.iload_n 1, 1) := dk_27 (dk_at dksX0_wanted_1 3 rfl rfl)
theorem dX0_wanted_27 : decode cX0_wanted 27 = .ok (.iconst 1, 1) := dk_4 (dk_at dksX0_wanted_1 4 rfl rfl)
theorem dX0_wanted_28 : decode cX0_wanted 28 = .ok (.iload_n 3, 1) := dk_29 (dk_at dksX0_wanted_1 5 rfl rfl)
theorem dX0_wanted_29 : decode cX0_wanted 29 = .ok (.ishl, 1) := dk_120 (dk_at dksX0_wanted_1 6 rfl rfl)
theorem dX0_wanted_30 : decode cX0_wanted 30 = .ok (.ior, 1) := dk_128 (dk_at dksX0_wanted_1 7 rfl rfl)
theorem dX0_wanted_31 : decode cX0_wanted 31 = .ok (.invokestatic 343, 3) := dk_184 1 87 (dk_at dksX0_wanted_1 8 rfl rfl)
theorem dX0_wanted_34 : decode cX0_wanted 34 = .ok (.iload_n 1, 1) := dk_27 (dk_at dksX0_wanted_1 11 rfl rfl)
theorem dX0_wanted_35 : decode cX0_wanted 35 = .ok (.iconst 1, 1) := dk_4 (dk_at dksX0_wanted_1 12 rfl rfl)
theorem dX0_wanted_36 : decode cX0_wanted 36 = .ok (.iload_n 2, 1) := dk_28 (dk_at dksX0_wanted_1 13 rfl rfl)
theorem dX0_wanted_37 : decode cX0_wanted 37 = .ok (.ishl, 1) := dk_120 (dk_at dksX0_wanted_1 14 rfl rfl)
theorem dX0_wanted_38 : decode cX0_wanted 38 = .ok (.ior, 1) := dk_128 (dk_at dksX0_wanted_1 15 rfl rfl)
theorem dX0_wanted_39 : decode cX0_wanted 39 = .ok (.invokestatic 343, 3) := dk_184 1 87 (dk_at dksX0_wanted_1 16 rfl rfl)
theorem dX0_wanted_42 : decode cX0_wanted 42 = .ok (.if_icmp .le 7, 3) := dk_164 0 7 (dk_at dksX0_wanted_1 19 rfl rfl)
theorem dX0_wanted_45 : decode cX0_wanted 45 = .ok (.iload_n 3, 1) := dk_29 (dk_at dksX0_wanted_1 22 rfl rfl)
theorem dX0_wanted_46 : decode cX0_wanted 46 = .ok (.goto 4, 3) := dk_167 0 4 (dk_at dksX0_wanted_2 0 rfl rfl)
theorem dX0_wanted_49 : decode cX0_wanted 49 = .ok (.iload_n 2, 1) := dk_28 (dk_at dksX0_wanted_2 3 rfl rfl)
theorem dX0_wanted_50 : decode cX0_wanted 50 = .ok (.istore_n 2, 1) := dk_61 (dk_at dksX0_wanted_2 4 rfl rfl)
theorem dX0_wanted_51 : decode cX0_wanted 51 = .ok (.iinc 3 1, 3) := dk_132 3 1 (dk_at dksX0_wanted_2 5 rfl rfl)
theorem dX0_wanted_54 : decode cX0_wanted 54 = .ok (.goto (-34), 3) := dk_167 255 222 (dk_at dksX0_wanted_2 8 rfl rfl)
theorem dX0_wanted_57 : decode cX0_wanted 57 = .ok (.iload_n 2, 1) := dk_28 (dk_at dksX0_wanted_2 11 rfl rfl)
theorem dX0_wanted_58 : decode cX0_wanted 58 = .ok (.ireturn, 1) := dk_172 (dk_at dksX0_wanted_2 12 rfl rfl)
abbrev cX0_longest : ByteArray := prog_1_method_79_code
def yX0_longest : MethodName := ⟨RX0, "longest", "(I)I"⟩
def dkwX0_longest_3 : List UInt8 := [167, 0, 4, 28, 61, 27, 28, 184, 0, 28, 60, 132, 3, 1, 167, 255, 180, 27, 172]
abbrev dktX0_longest_3 : List UInt8 := dkwX0_longest_3 ++ []
def dkwX0_longest_2 : List UInt8 := [54, 4, 26, 29, 184, 1, 72, 153, 0, 18, 21, 4, 153, 0, 9, 28, 4, 96, 167, 0, 8, 4]
abbrev dktX0_longest_2 : List UInt8 := dkwX0_longest_2 ++ dktX0_longest_3
def dkwX0_longest_1 : List UInt8 := [154, 0, 18, 29, 4, 164, 0, 17, 26, 29, 5, 100, 184, 1, 72, 153, 0, 7, 4, 167, 0, 4, 3]
abbrev dktX0_longest_1 : List UInt8 := dkwX0_longest_1 ++ dktX0_longest_2
def dkwX0_longest_0 : List UInt8 := [3, 60, 3, 61, 3, 62, 29, 16, 12, 162, 0, 76, 29, 158, 0, 13, 26, 29, 4, 100, 184, 1, 72]
abbrev dktX0_longest_0 : List UInt8 := dkwX0_longest_0 ++ dktX0_longest_1
theorem dksX0_longest_0 : cX0_longest.data.toList.drop 0 = dktX0_longest_0 := by decide +kernel
theorem dksX0_longest_1 : cX0_longest.data.toList.drop 23 = dktX0_longest_1 := dk_seg dksX0_longest_0 23 rfl rfl
theorem dksX0_longest_2 : cX0_longest.data.toList.drop 46 = dktX0_longest_2 := dk_seg dksX0_longest_1 23 rfl rfl
theorem dksX0_longest_3 : cX0_longest.data.toList.drop 68 = dktX0_longest_3 := dk_seg dksX0_longest_2 22 rfl rfl
theorem dX0_longest_0 : decode cX0_longest 0 = .ok (.iconst 0, 1) := dk_3 (dk_at dksX0_longest_0 0 rfl rfl)
theorem dX0_longest_1 : decode cX0_longest 1 = .ok (.istore_n 1, 1) := dk_60 (dk_at dksX0_longest_0 1 rfl rfl)
theorem dX0_longest_2 : decode cX0_longest 2 = .ok (.iconst 0, 1) := dk_3 (dk_at dksX0_longest_0 2 rfl rfl)
theorem dX0_longest_3 : decode cX0_longest 3 = .ok (.istore_n 2, 1) := dk_61 (dk_at dksX0_longest_0 3 rfl rfl)
theorem dX0_longest_4 : decode cX0_longest 4 = .ok (.iconst 0, 1) := dk_3 (dk_at dksX0_longest_0 4 rfl rfl)
theorem dX0_longest_5 : decode cX0_longest 5 = .ok (.istore_n 3, 1) := dk_62 (dk_at dksX0_longest_0 5 rfl rfl)
theorem dX0_longest_6 : decode cX0_longest 6 = .ok (.iload_n 3, 1) := dk_29 (dk_at dksX0_longest_0 6 rfl rfl)
theorem dX0_longest_7 : decode cX0_longest 7 = .ok (.bipush 12, 2) := dk_16 12 (dk_at dksX0_longest_0 7 rfl rfl)
theorem dX0_longest_9 : decode cX0_longest 9 = .ok (.if_icmp .ge 76, 3) := dk_162 0 76 (dk_at dksX0_longest_0 9 rfl rfl)
theorem dX0_longest_12 : decode cX0_longest 12 = .ok (.iload_n 3, 1) := dk_29 (dk_at dksX0_longest_0 12 rfl rfl)
theorem dX0_longest_13 : decode cX0_longest 13 = .ok (.ifCond .le 13, 3) := dk_158 0 13 (dk_at dksX0_longest_0 13 rfl rfl)
theorem dX0_longest_16 : decode cX0_longest 16 = .ok (.iload_n 0, 1) := dk_26 (dk_at dksX0_longest_0 16 rfl rfl)
theorem dX0_longest_17 : decode cX0_longest 17 = .ok (.iload_n 3, 1) := dk_29 (dk_at dksX0_longest_0 17 rfl rfl)
theorem dX0_longest_18 : decode cX0_longest 18 = .ok (.iconst 1, 1) := dk_4 (dk_at dksX0_longest_0 18 rfl rfl)
theorem dX0_longest_19 : decode cX0_longest 19 = .ok (.isub, 1) := dk_100 (dk_at dksX0_longest_0 19 rfl rfl)
theorem dX0_longest_20 : decode cX0_longest 20 = .ok (.invokestatic 328, 3) := dk_184 1 72 (dk_at dksX0_longest_0 20 rfl rfl)
theorem dX0_longest_23 : decode cX0_longest 23 = .ok (.ifCond .ne 18, 3) := dk_154 0 18 (dk_at dksX0_longest_1 0 rfl rfl)
theorem dX0_longest_26 : decode cX0_longest 26 = .ok (.iload_n 3, 1) := dk_29 (dk_at dksX0_longest_1 3 rfl rfl)
theorem dX0_longest_27 : decode cX0_longest 27 = .ok (.iconst 1, 1) := dk_4 (dk_at dksX0_longest_1 4 rfl rfl)
theorem dX0_longest_28 : decode cX0_longest 28 = .ok (.if_icmp .le 17, 3) := dk_164 0 17 (dk_at dksX0_longest_1 5 rfl rfl)
theorem dX0_longest_31 : decode cX0_longest 31 = .ok (.iload_n 0, 1) := dk_26 (dk_at dksX0_longest_1 8 rfl rfl)
theorem dX0_longest_32 : decode cX0_longest 32 = .ok (.iload_n 3, 1) := dk_29 (dk_at dksX0_longest_1 9 rfl rfl)
theorem dX0_longest_33 : decode cX0_longest 33 = .ok (.iconst 2, 1) := dk_5 (dk_at dksX0_longest_1 10 rfl rfl)
theorem dX0_longest_34 : decode cX0_longest 34 = .ok (.isub, 1) := dk_100 (dk_at dksX0_longest_1 11 rfl rfl)
theorem dX0_longest_35 : decode cX0_longest 35 = .ok (.invokestatic 328, 3) := dk_184 1 72 (dk_at dksX0_longest_1 12 rfl rfl)
theorem dX0_longest_38 : decode cX0_longest 38 = .ok (.ifCond .eq 7, 3) := dk_153 0 7 (dk_at dksX0_longest_1 15 rfl rfl)
theorem dX0_longest_41 : decode cX0_longest 41 = .ok (.iconst 1, 1) := dk_4 (dk_at dksX0_longest_1 18 rfl rfl)
theorem dX0_longest_42 : decode cX0_longest 42 = .ok (.goto 4, 3) := dk_167 0 4 (dk_at dksX0_longest_1 19 rfl rfl)
theorem dX0_longest_45 : decode cX0_longest 45 = .ok (.iconst 0, 1) := dk_3 (dk_at dksX0_longest_1 22 rfl rfl)
theorem dX0_longest_46 : decode cX0_longest 46 = .ok (.istore 4, 2) := dk_54 4 (dk_at dksX0_longest_2 0 rfl rfl)
theorem dX0_longest_48 : decode cX0_longest 48 = .ok (.iload_n 0, 1) := dk_26 (dk_at dksX0_longest_2 2 rfl rfl)
theorem dX0_longest_49 : decode cX0_longest 49 = .ok (.iload_n 3, 1) := dk_29 (dk_at dksX0_longest_2 3 rfl rfl)
theorem dX0_longest_50 : decode cX0_longest 50 = .ok (.invokestatic 328, 3) := dk_184 1 72 (dk_at dksX0_longest_2 4 rfl rfl)
theorem dX0_longest_53 : decode cX0_longest 53 = .ok (.ifCond .eq 18, 3) := dk_153 0 18 (dk_at dksX0_longest_2 7 rfl rfl)
theorem dX0_longest_56 : decode cX0_longest 56 = .ok (.iload 4, 2) := dk_21 4 (dk_at dksX0_longest_2 10 rfl rfl)
theorem dX0_longest_58 : decode cX0_longest 58 = .ok (.ifCond .eq 9, 3) := dk_153 0 9 (dk_at dksX0_longest_2 12 rfl rfl)
theorem dX0_longest_61 : decode cX0_longest 61 = .ok (.iload_n 2, 1) := dk_28 (dk_at dksX0_longest_2 15 rfl rfl)
theorem dX0_longest_62 : decode cX0_longest 62 = .ok (.iconst 1, 1) := dk_4 (dk_at dksX0_longest_2 16 rfl rfl)
theorem dX0_longest_63 : decode cX0_longest 63 = .ok (.iadd, 1) := dk_96 (dk_at dksX0_longest_2 17 rfl rfl)
theorem dX0_longest_64 : decode cX0_longest 64 = .ok (.goto 8, 3) := dk_167 0 8 (dk_at dksX0_longest_2 18 rfl rfl)
theorem dX0_longest_67 : decode cX0_longest 67 = .ok (.iconst 1, 1) := dk_4 (dk_at dksX0_longest_2 21 rfl rfl)
theorem dX0_longest_68 : decode cX0_longest 68 = .ok (.goto 4, 3) := dk_167 0 4 (dk_at dksX0_longest_3 0 rfl rfl)
theorem dX0_longest_71 : decode cX0_longest 71 = .ok (.iload_n 2, 1) := dk_28 (dk_at dksX0_longest_3 3 rfl rfl)
theorem dX0_longest_72 : decode cX0_longest 72 = .ok (.istore_n 2, 1) := dk_61 (dk_at dksX0_longest_3 4 rfl rfl)
theorem dX0_longest_73 : decode cX0_longest 73 = .ok (.iload_n 1, 1) := dk_27 (dk_at dksX0_longest_3 5 rfl rfl)
theorem dX0_longest_74 : decode cX0_longest 74 = .ok (.iload_n 2, 1) := dk_28 (dk_at dksX0_longest_3 6 rfl rfl)
theorem dX0_longest_75 : decode cX0_longest 75 = .ok (.invokestatic 28, 3) := dk_184 0 28 (dk_at dksX0_longest_3 7 rfl rfl)
theorem dX0_longest_78 : decode cX0_longest 78 = .ok (.istore_n 1, 1) := dk_60 (dk_at dksX0_longest_3 10 rfl rfl)
theorem dX0_longest_79 : decode cX0_longest 79 = .ok (.iinc 3 1, 3) := dk_132 3 1 (dk_at dksX0_longest_3 11 rfl rfl)
theorem dX0_longest_82 : decode cX0_longest 82 = .ok (.goto (-76), 3) := dk_167 255 180 (dk_at dksX0_longest_3 14 rfl rfl)
theorem dX0_longest_85 : decode cX0_longest 85 = .ok (.iload_n 1, 1) := dk_27 (dk_at dksX0_longest_3 17 rfl rfl)
theorem dX0_longest_86 : decode cX0_longest 86 = .ok (.ireturn, 1) := dk_172 (dk_at dksX0_longest_3 18 rfl rfl)
abbrev cX0_changes : ByteArray := prog_1_method_81_code
def yX0_changes : MethodName := ⟨RX0, "changes", "(I)J"⟩
def dkwX0_changes_1 : List UInt8 := [27, 163, 0, 15, 32, 21, 4, 133, 105, 65, 132, 4, 1, 167, 255, 241, 32, 173]
abbrev dktX0_changes_1 : List UInt8 := dkwX0_changes_1 ++ []
def dkwX0_changes_0 : List UInt8 := [27, 3, 16, 20, 184, 0, 9, 154, 0, 10, 42, 3, 182, 0, 138, 133, 173, 10, 65, 5, 54, 4, 21, 4]
abbrev dktX0_changes_0 : List UInt8 := dkwX0_changes_0 ++ dktX0_changes_1
theorem dksX0_changes_0 : cX0_changes.data.toList.drop 0 = dktX0_changes_0 := by decide +kernel
theorem dksX0_changes_1 : cX0_changes.data.toList.drop 24 = dktX0_changes_1 := dk_seg dksX0_changes_0 24 rfl rfl
theorem dX0_changes_0 : decode cX0_changes 0 = .ok (.iload_n 1, 1) := dk_27 (dk_at dksX0_changes_0 0 rfl rfl)
theorem dX0_changes_1 : decode cX0_changes 1 = .ok (.iconst 0, 1) := dk_3 (dk_at dksX0_changes_0 1 rfl rfl)
theorem dX0_changes_2 : decode cX0_changes 2 = .ok (.bipush 20, 2) := dk_16 20 (dk_at dksX0_changes_0 2 rfl rfl)
theorem dX0_changes_4 : decode cX0_changes 4 = .ok (.invokestatic 9, 3) := dk_184 0 9 (dk_at dksX0_changes_0 4 rfl rfl)
theorem dX0_changes_7 : decode cX0_changes 7 = .ok (.ifCond .ne 10, 3) := dk_154 0 10 (dk_at dksX0_changes_0 7 rfl rfl)
theorem dX0_changes_10 : decode cX0_changes 10 = .ok (.aload_n 0, 1) := dk_42 (dk_at dksX0_changes_0 10 rfl rfl)
theorem dX0_changes_11 : decode cX0_changes 11 = .ok (.iconst 0, 1) := dk_3 (dk_at dksX0_changes_0 11 rfl rfl)
theorem dX0_changes_12 : decode cX0_changes 12 = .ok (.invokevirtual 138, 3) := dk_182 0 138 (dk_at dksX0_changes_0 12 rfl rfl)
theorem dX0_changes_15 : decode cX0_changes 15 = .ok (.i2l, 1) := dk_133 (dk_at dksX0_changes_0 15 rfl rfl)
theorem dX0_changes_16 : decode cX0_changes 16 = .ok (.lreturn, 1) := dk_173 (dk_at dksX0_changes_0 16 rfl rfl)
theorem dX0_changes_17 : decode cX0_changes 17 = .ok (.lconst 1, 1) := dk_10 (dk_at dksX0_changes_0 17 rfl rfl)
theorem dX0_changes_18 : decode cX0_changes 18 = .ok (.lstore_n 2, 1) := dk_65 (dk_at dksX0_changes_0 18 rfl rfl)
theorem dX0_changes_19 : decode cX0_changes 19 = .ok (.iconst 2, 1) := dk_5 (dk_at dksX0_changes_0 19 rfl rfl)
theorem dX0_changes_20 : decode cX0_changes 20 = .ok (.istore 4, 2) := dk_54 4 (dk_at dksX0_changes_0 20 rfl rfl)
theorem dX0_changes_22 : decode cX0_changes 22 = .ok (.iload 4, 2) := dk_21 4 (dk_at dksX0_changes_0 22 rfl rfl)
theorem dX0_changes_24 : decode cX0_changes 24 = .ok (.iload_n 1, 1) := dk_27 (dk_at dksX0_changes_1 0 rfl rfl)
theorem dX0_changes_25 : decode cX0_changes 25 = .ok (.if_icmp .gt 15, 3) := dk_163 0 15 (dk_at dksX0_changes_1 1 rfl rfl)
theorem dX0_changes_28 : decode cX0_changes 28 = .ok (.lload_n 2, 1) := dk_32 (dk_at dksX0_changes_1 4 rfl rfl)
theorem dX0_changes_29 : decode cX0_changes 29 = .ok (.iload 4, 2) := dk_21 4 (dk_at dksX0_changes_1 5 rfl rfl)
theorem dX0_changes_31 : decode cX0_changes 31 = .ok (.i2l, 1) := dk_133 (dk_at dksX0_changes_1 7 rfl rfl)
theorem dX0_changes_32 : decode cX0_changes 32 = .ok (.lmul, 1) := dk_105 (dk_at dksX0_changes_1 8 rfl rfl)
theorem dX0_changes_33 : decode cX0_changes 33 = .ok (.lstore_n 2, 1) := dk_65 (dk_at dksX0_changes_1 9 rfl rfl)
theorem dX0_changes_34 : decode cX0_changes 34 = .ok (.iinc 4 1, 3) := dk_132 4 1 (dk_at dksX0_changes_1 10 rfl rfl)
theorem dX0_changes_37 : decode cX0_changes 37 = .ok (.goto (-15), 3) := dk_167 255 241 (dk_at dksX0_changes_1 13 rfl rfl)
theorem dX0_changes_40 : decode cX0_changes 40 = .ok (.lload_n 2, 1) := dk_32 (dk_at dksX0_changes_1 16 rfl rfl)
theorem dX0_changes_41 : decode cX0_changes 41 = .ok (.lreturn, 1) := dk_173 (dk_at dksX0_changes_1 17 rfl rfl)
abbrev cX0_thunder : ByteArray := prog_1_method_83_code
def yX0_thunder : MethodName := ⟨RX0, "thunder", "(I)I"⟩
def dkwX0_thunder_2 : List UInt8 := [182, 1, 93, 172]
abbrev dktX0_thunder_2 : List UInt8 := dkwX0_thunder_2 ++ []
def dkwX0_thunder_1 : List UInt8 := [153, 0, 14, 42, 180, 0, 78, 27, 182, 0, 215, 153, 0, 11, 42, 7, 182, 0, 138, 167, 0, 8, 42, 27]
abbrev dktX0_thunder_1 : List UInt8 := dkwX0_thunder_1 ++ dktX0_thunder_2
def dkwX0_thunder_0 : List UInt8 := [27, 4, 16, 20, 184, 0, 9, 154, 0, 9, 42, 3, 182, 0, 138, 172, 42, 180, 0, 78, 180, 0, 136]
abbrev dktX0_thunder_0 : List UInt8 := dkwX0_thunder_0 ++ dktX0_thunder_1
theorem dksX0_thunder_0 : cX0_thunder.data.toList.drop 0 = dktX0_thunder_0 := by decide +kernel
theorem dksX0_thunder_1 : cX0_thunder.data.toList.drop 23 = dktX0_thunder_1 := dk_seg dksX0_thunder_0 23 rfl rfl
theorem dksX0_thunder_2 : cX0_thunder.data.toList.drop 47 = dktX0_thunder_2 := dk_seg dksX0_thunder_1 24 rfl rfl
theorem dX0_thunder_0 : decode cX0_thunder 0 = .ok (.iload_n 1, 1) := dk_27 (dk_at dksX0_thunder_0 0 rfl rfl)
theorem dX0_thunder_1 : decode cX0_thunder 1 = .ok (.iconst 1, 1) := dk_4 (dk_at dksX0_thunder_0 1 rfl rfl)
theorem dX0_thunder_2 : decode cX0_thunder 2 = .ok (.bipush 20, 2) := dk_16 20 (dk_at dksX0_thunder_0 2 rfl rfl)
theorem dX0_thunder_4 : decode cX0_thunder 4 = .ok (.invokestatic 9, 3) := dk_184 0 9 (dk_at dksX0_thunder_0 4 rfl rfl)
theorem dX0_thunder_7 : decode cX0_thunder 7 = .ok (.ifCond .ne 9, 3) := dk_154 0 9 (dk_at dksX0_thunder_0 7 rfl rfl)
theorem dX0_thunder_10 : decode cX0_thunder 10 = .ok (.aload_n 0, 1) := dk_42 (dk_at dksX0_thunder_0 10 rfl rfl)
theorem dX0_thunder_11 : decode cX0_thunder 11 = .ok (.iconst 0, 1) := dk_3 (dk_at dksX0_thunder_0 11 rfl rfl)
theorem dX0_thunder_12 : decode cX0_thunder 12 = .ok (.invokevirtual 138, 3) := dk_182 0 138 (dk_at dksX0_thunder_0 12 rfl rfl)
theorem dX0_thunder_15 : decode cX0_thunder 15 = .ok (.ireturn, 1) := dk_172 (dk_at dksX0_thunder_0 15 rfl rfl)
theorem dX0_thunder_16 : decode cX0_thunder 16 = .ok (.aload_n 0, 1) := dk_42 (dk_at dksX0_thunder_0 16 rfl rfl)
theorem dX0_thunder_17 : decode cX0_thunder 17 = .ok (.getfield 78, 3) := dk_180 0 78 (dk_at dksX0_thunder_0 17 rfl rfl)
theorem dX0_thunder_20 : decode cX0_thunder 20 = .ok (.getfield 136, 3) := dk_180 0 136 (dk_at dksX0_thunder_0 20 rfl rfl)
theorem dX0_thunder_23 : decode cX0_thunder 23 = .ok (.ifCond .eq 14, 3) := dk_153 0 14 (dk_at dksX0_thunder_1 0 rfl rfl)
theorem dX0_thunder_26 : decode cX0_thunder 26 = .ok (.aload_n 0, 1) := dk_42 (dk_at dksX0_thunder_1 3 rfl rfl)
theorem dX0_thunder_27 : decode cX0_thunder 27 = .ok (.getfield 78, 3) := dk_180 0 78 (dk_at dksX0_thunder_1 4 rfl rfl)
theorem dX0_thunder_30 : decode cX0_thunder 30 = .ok (.iload_n 1, 1) := dk_27 (dk_at dksX0_thunder_1 7 rfl rfl)
theorem dX0_thunder_31 : decode cX0_thunder 31 = .ok (.invokevirtual 215, 3) := dk_182 0 215 (dk_at dksX0_thunder_1 8 rfl rfl)
theorem dX0_thunder_34 : decode cX0_thunder 34 = .ok (.ifCond .eq 11, 3) := dk_153 0 11 (dk_at dksX0_thunder_1 11 rfl rfl)
theorem dX0_thunder_37 : decode cX0_thunder 37 = .ok (.aload_n 0, 1) := dk_42 (dk_at dksX0_thunder_1 14 rfl rfl)
theorem dX0_thunder_38 : decode cX0_thunder 38 = .ok (.iconst 4, 1) := dk_7 (dk_at dksX0_thunder_1 15 rfl rfl)
theorem dX0_thunder_39 : decode cX0_thunder 39 = .ok (.invokevirtual 138, 3) := dk_182 0 138 (dk_at dksX0_thunder_1 16 rfl rfl)
theorem dX0_thunder_42 : decode cX0_thunder 42 = .ok (.goto 8, 3) := dk_167 0 8 (dk_at dksX0_thunder_1 19 rfl rfl)
theorem dX0_thunder_45 : decode cX0_thunder 45 = .ok (.aload_n 0, 1) := dk_42 (dk_at dksX0_thunder_1 22 rfl rfl)
theorem dX0_thunder_46 : decode cX0_thunder 46 = .ok (.iload_n 1, 1) := dk_27 (dk_at dksX0_thunder_1 23 rfl rfl)
theorem dX0_thunder_47 : decode cX0_thunder 47 = .ok (.invokevirtual 349, 3) := dk_182 1 93 (dk_at dksX0_thunder_2 0 rfl rfl)
theorem dX0_thunder_50 : decode cX0_thunder 50 = .ok (.ireturn, 1) := dk_172 (dk_at dksX0_thunder_2 3 rfl rfl)
abbrev cX0_thunders : ByteArray := prog_1_method_82_code
def yX0_thunders : MethodName := ⟨RX0, "thunders", "(I)I"⟩
def dkwX0_thunders_3 : List UInt8 := [21, 4, 79, 42, 182, 0, 173, 132, 2, 1, 167, 255, 178, 42, 180, 0, 78, 182, 0, 209, 184, 0, 212, 172]
abbrev dktX0_thunders_3 : List UInt8 := dkwX0_thunders_3 ++ []
def dkwX0_thunders_2 : List UInt8 := [180, 0, 78, 29, 182, 0, 140, 153, 0, 17, 42, 180, 0, 78, 180, 0, 123, 4, 50, 29, 46, 167, 0, 5]
abbrev dktX0_thunders_2 : List UInt8 := dkwX0_thunders_2 ++ dktX0_thunders_3
def dkwX0_thunders_1 : List UInt8 := [180, 0, 78, 182, 1, 90, 16, 64, 112, 54, 4, 42, 180, 0, 78, 180, 0, 123, 4, 50, 29, 42]
abbrev dktX0_thunders_1 : List UInt8 := dkwX0_thunders_1 ++ dktX0_thunders_2
def dkwX0_thunders_0 : List UInt8 := [3, 61, 28, 27, 162, 0, 79, 42, 180, 0, 78, 182, 1, 90, 42, 180, 0, 78, 180, 0, 136, 112, 62, 42]
abbrev dktX0_thunders_0 : List UInt8 := dkwX0_thunders_0 ++ dktX0_thunders_1
theorem dksX0_thunders_0 : cX0_thunders.data.toList.drop 0 = dktX0_thunders_0 := by decide +kernel
theorem dksX0_thunders_1 : cX0_thunders.data.toList.drop 24 = dktX0_thunders_1 := dk_seg dksX0_thunders_0 24 rfl rfl
theorem dksX0_thunders_2 : cX0_thunders.data.toList.drop 46 = dktX0_thunders_2 := dk_seg dksX0_thunders_1 22 rfl rfl
theorem dksX0_thunders_3 : cX0_thunders.data.toList.drop 70 = dktX0_thunders_3 := dk_seg dksX0_thunders_2 24 rfl rfl
theorem dX0_thunders_0 : decode cX0_thunders 0 = .ok (.iconst 0, 1) := dk_3 (dk_at dksX0_thunders_0 0 rfl rfl)
theorem dX0_thunders_1 : decode cX0_thunders 1 = .ok (.istore_n 2, 1) := dk_61 (dk_at dksX0_thunders_0 1 rfl rfl)
theorem dX0_thunders_2 : decode cX0_thunders 2 = .ok (.iload_n 2, 1) := dk_28 (dk_at dksX0_thunders_0 2 rfl rfl)
theorem dX0_thunders_3 : decode cX0_thunders 3 = .ok (.iload_n 1, 1) := dk_27 (dk_at dksX0_thunders_0 3 rfl rfl)
theorem dX0_thunders_4 : decode cX0_thunders 4 = .ok (.if_icmp .ge 79, 3) := dk_162 0 79 (dk_at dksX0_thunders_0 4 rfl rfl)
theorem dX0_thunders_7 : decode cX0_thunders 7 = .ok (.aload_n 0, 1) := dk_42 (dk_at dksX0_thunders_0 7 rfl rfl)
theorem dX0_thunders_8 : decode cX0_thunders 8 = .ok (.getfield 78, 3) := dk_180 0 78 (dk_at dksX0_thunders_0 8 rfl rfl)
theorem dX0_thunders_11 : decode cX0_thunders 11 = .ok (.invokevirtual 346, 3) := dk_182 1 90 (dk_at dksX0_thunders_0 11 rfl rfl)
theorem dX0_thunders_14 : decode cX0_thunders 14 = .ok (.aload_n 0, 1) := dk_42 (dk_at dksX0_thunders_0 14 rfl rfl)
theorem dX0_thunders_15 : decode cX0_thunders 15 = .ok (.getfield 78, 3) := dk_180 0 78 (dk_at dksX0_thunders_0 15 rfl rfl)
theorem dX0_thunders_18 : decode cX0_thunders 18 = .ok (.getfield 136, 3) := dk_180 0 136 (dk_at dksX0_thunders_0 18 rfl rfl)
theorem dX0_thunders_21 : decode cX0_thunders 21 = .ok (.irem, 1) := dk_112 (dk_at dksX0_thunders_0 21 rfl rfl)
theorem dX0_thunders_22 : decode cX0_thunders 22 = .ok (.istore_n 3, 1) := dk_62 (dk_at dksX0_thunders_0 22 rfl rfl)
theorem dX0_thunders_23 : decode cX0_thunders 23 = .ok (.aload_n 0, 1) := dk_42 (dk_at dksX0_thunders_0 23 rfl rfl)
theorem dX0_thunders_24 : decode cX0_thunders 24 = .ok (.getfield 78, 3) := dk_180 0 78 (dk_at dksX0_thunders_1 0 rfl rfl)
theorem dX0_thunders_27 : decode cX0_thunders 27 = .ok (.invokevirtual 346, 3) := dk_182 1 90 (dk_at dksX0_thunders_1 3 rfl rfl)
theorem dX0_thunders_30 : decode cX0_thunders 30 = .ok (.bipush 64, 2) := dk_16 64 (dk_at dksX0_thunders_1 6 rfl rfl)
theorem dX0_thunders_32 : decode cX0_thunders 32 = .ok (.irem, 1) := dk_112 (dk_at dksX0_thunders_1 8 rfl rfl)
theorem dX0_thunders_33 : decode cX0_thunders 33 = .ok (.istore 4, 2) := dk_54 4 (dk_at dksX0_thunders_1 9 rfl rfl)
theorem dX0_thunders_35 : decode cX0_thunders 35 = .ok (.aload_n 0, 1) := dk_42 (dk_at dksX0_thunders_1 11 rfl rfl)
theorem dX0_thunders_36 : decode cX0_thunders 36 = .ok (.getfield 78, 3) := dk_180 0 78 (dk_at dksX0_thunders_1 12 rfl rfl)
theorem dX0_thunders_39 : decode cX0_thunders 39 = .ok (.getfield 123, 3) := dk_180 0 123 (dk_at dksX0_thunders_1 15 rfl rfl)
theorem dX0_thunders_42 : decode cX0_thunders 42 = .ok (.iconst 1, 1) := dk_4 (dk_at dksX0_thunders_1 18 rfl rfl)
theorem dX0_thunders_43 : decode cX0_thunders 43 = .ok (.aaload, 1) := dk_50 (dk_at dksX0_thunders_1 19 rfl rfl)
theorem dX0_thunders_44 : decode cX0_thunders 44 = .ok (.iload_n 3, 1) := dk_29 (dk_at dksX0_thunders_1 20 rfl rfl)
theorem dX0_thunders_45 : decode cX0_thunders 45 = .ok (.aload_n 0, 1) := dk_42 (dk_at dksX0_thunders_1 21 rfl rfl)
theorem dX0_thunders_46 : decode cX0_thunders 46 = .ok (.getfield 78, 3) := dk_180 0 78 (dk_at dksX0_thunders_2 0 rfl rfl)
theorem dX0_thunders_49 : decode cX0_thunders 49 = .ok (.iload_n 3, 1) := dk_29 (dk_at dksX0_thunders_2 3 rfl rfl)
theorem dX0_thunders_50 : decode cX0_thunders 50 = .ok (.invokevirtual 140, 3) := dk_182 0 140 (dk_at dksX0_thunders_2 4 rfl rfl)
theorem dX0_thunders_53 : decode cX0_thunders 53 = .ok (.ifCond .eq 17, 3) := dk_153 0 17 (dk_at dksX0_thunders_2 7 rfl rfl)
theorem dX0_thunders_56 : decode cX0_thunders 56 = .ok (.aload_n 0, 1) := dk_42 (dk_at dksX0_thunders_2 10 rfl rfl)
theorem dX0_thunders_57 : decode cX0_thunders 57 = .ok (.getfield 78, 3) := dk_180 0 78 (dk_at dksX0_thunders_2 11 rfl rfl)
theorem dX0_thunders_60 : decode cX0_thunders 60 = .ok (.getfield 123, 3) := dk_180 0 123 (dk_at dksX0_thunders_2 14 rfl rfl)
theorem dX0_thunders_63 : decode cX0_thunders 63 = .ok (.iconst 1, 1) := dk_4 (dk_at dksX0_thunders_2 17 rfl rfl)
theorem dX0_thunders_64 : decode cX0_thunders 64 = .ok (.aaload, 1) := dk_50 (dk_at dksX0_thunders_2 18 rfl rfl)
theorem dX0_thunders_65 : decode cX0_thunders 65 = .ok (.iload_n 3, 1) := dk_29 (dk_at dksX0_thunders_2 19 rfl rfl)
theorem dX0_thunders_66 : decode cX0_thunders 66 = .ok (.iaload, 1) := dk_46 (dk_at dksX0_thunders_2 20 rfl rfl)
theorem dX0_thunders_67 : decode cX0_thunders 67 = .ok (.goto 5, 3) := dk_167 0 5 (dk_at dksX0_thunders_2 21 rfl rfl)
theorem dX0_thunders_70 : decode cX0_thunders 70 = .ok (.iload 4, 2) := dk_21 4 (dk_at dksX0_thunders_3 0 rfl rfl)
theorem dX0_thunders_72 : decode cX0_thunders 72 = .ok (.iastore, 1) := dk_79 (dk_at dksX0_thunders_3 2 rfl rfl)
theorem dX0_thunders_73 : decode cX0_thunders 73 = .ok (.aload_n 0, 1) := dk_42 (dk_at dksX0_thunders_3 3 rfl rfl)
theorem dX0_thunders_74 : decode cX0_thunders 74 = .ok (.invokevirtual 173, 3) := dk_182 0 173 (dk_at dksX0_thunders_3 4 rfl rfl)
theorem dX0_thunders_77 : decode cX0_thunders 77 = .ok (.iinc 2 1, 3) := dk_132 2 1 (dk_at dksX0_thunders_3 7 rfl rfl)
theorem dX0_thunders_80 : decode cX0_thunders 80 = .ok (.goto (-78), 3) := dk_167 255 178 (dk_at dksX0_thunders_3 10 rfl rfl)
theorem dX0_thunders_83 : decode cX0_thunders 83 = .ok (.aload_n 0, 1) := dk_42 (dk_at dksX0_thunders_3 13 rfl rfl)
theorem dX0_thunders_84 : decode cX0_thunders 84 = .ok (.getfield 78, 3) := dk_180 0 78 (dk_at dksX0_thunders_3 14 rfl rfl)
theorem dX0_thunders_87 : decode cX0_thunders 87 = .ok (.invokevirtual 209, 3) := dk_182 0 209 (dk_at dksX0_thunders_3 17 rfl rfl)
theorem dX0_thunders_90 : decode cX0_thunders 90 = .ok (.invokestatic 212, 3) := dk_184 0 212 (dk_at dksX0_thunders_3 20 rfl rfl)
theorem dX0_thunders_93 : decode cX0_thunders 93 = .ok (.ireturn, 1) := dk_172 (dk_at dksX0_thunders_3 23 rfl rfl)
abbrev cX0_seed : ByteArray := prog_1_method_84_code
def yX0_seed : MethodName := ⟨RX0, "seed", "(I)I"⟩
def dkwX0_seed_0 : List UInt8 := [42, 180, 0, 78, 180, 1, 96, 61, 42, 180, 0, 78, 27, 181, 1, 96, 28, 172]
abbrev dktX0_seed_0 : List UInt8 := dkwX0_seed_0 ++ []
theorem dksX0_seed_0 : cX0_seed.data.toList.drop 0 = dktX0_seed_0 := by decide +kernel
theorem dX0_seed_0 : decode cX0_seed 0 = .ok (.aload_n 0, 1) := dk_42 (dk_at dksX0_seed_0 0 rfl rfl)
theorem dX0_seed_1 : decode cX0_seed 1 = .ok (.getfield 78, 3) := dk_180 0 78 (dk_at dksX0_seed_0 1 rfl rfl)
theorem dX0_seed_4 : decode cX0_seed 4 = .ok (.getfield 352, 3) := dk_180 1 96 (dk_at dksX0_seed_0 4 rfl rfl)
theorem dX0_seed_7 : decode cX0_seed 7 = .ok (.istore_n 2, 1) := dk_61 (dk_at dksX0_seed_0 7 rfl rfl)
theorem dX0_seed_8 : decode cX0_seed 8 = .ok (.aload_n 0, 1) := dk_42 (dk_at dksX0_seed_0 8 rfl rfl)
theorem dX0_seed_9 : decode cX0_seed 9 = .ok (.getfield 78, 3) := dk_180 0 78 (dk_at dksX0_seed_0 9 rfl rfl)
theorem dX0_seed_12 : decode cX0_seed 12 = .ok (.iload_n 1, 1) := dk_27 (dk_at dksX0_seed_0 12 rfl rfl)
theorem dX0_seed_13 : decode cX0_seed 13 = .ok (.putfield 352, 3) := dk_181 1 96 (dk_at dksX0_seed_0 13 rfl rfl)
theorem dX0_seed_16 : decode cX0_seed 16 = .ok (.iload_n 2, 1) := dk_28 (dk_at dksX0_seed_0 16 rfl rfl)
theorem dX0_seed_17 : decode cX0_seed 17 = .ok (.ireturn, 1) := dk_172 (dk_at dksX0_seed_0 17 rfl rfl)
abbrev cX0_feed : ByteArray := prog_1_method_85_code
def yX0_feed : MethodName := ⟨RX0, "feed", "(II)I"⟩
def dkwX0_feed_3 : List UInt8 := [132, 3, 255, 167, 255, 220, 42, 180, 1, 99, 172]
abbrev dktX0_feed_3 : List UInt8 := dkwX0_feed_3 ++ []
def dkwX0_feed_2 : List UInt8 := [42, 180, 1, 99, 27, 16, 8, 29, 104, 122, 145, 84, 42, 89, 180, 1, 99, 4, 96, 181, 1, 99]
abbrev dktX0_feed_2 : List UInt8 := dkwX0_feed_2 ++ dktX0_feed_3
def dkwX0_feed_1 : List UInt8 := [164, 0, 9, 42, 4, 182, 0, 138, 172, 28, 4, 100, 62, 29, 155, 0, 38, 42, 180, 0, 71, 180, 1, 102]
abbrev dktX0_feed_1 : List UInt8 := dkwX0_feed_1 ++ dktX0_feed_2
def dkwX0_feed_0 : List UInt8 := [28, 4, 7, 184, 0, 9, 154, 0, 9, 42, 3, 182, 0, 138, 172, 42, 180, 1, 99, 28, 96, 16, 120]
abbrev dktX0_feed_0 : List UInt8 := dkwX0_feed_0 ++ dktX0_feed_1
theorem dksX0_feed_0 : cX0_feed.data.toList.drop 0 = dktX0_feed_0 := by decide +kernel
theorem dksX0_feed_1 : cX0_feed.data.toList.drop 23 = dktX0_feed_1 := dk_seg dksX0_feed_0 23 rfl rfl
theorem dksX0_feed_2 : cX0_feed.data.toList.drop 47 = dktX0_feed_2 := dk_seg dksX0_feed_1 24 rfl rfl
theorem dksX0_feed_3 : cX0_feed.data.toList.drop 69 = dktX0_feed_3 := dk_seg dksX0_feed_2 22 rfl rfl
theorem dX0_feed_0 : decode cX0_feed 0 = .ok (.iload_n 2, 1) := dk_28 (dk_at dksX0_feed_0 0 rfl rfl)
theorem dX0_feed_1 : decode cX0_feed 1 = .ok (.iconst 1, 1) := dk_4 (dk_at dksX0_feed_0 1 rfl rfl)
theorem dX0_feed_2 : decode cX0_feed 2 = .ok (.iconst 4, 1) := dk_7 (dk_at dksX0_feed_0 2 rfl rfl)
theorem dX0_feed_3 : decode cX0_feed 3 = .ok (.invokestatic 9, 3) := dk_184 0 9 (dk_at dksX0_feed_0 3 rfl rfl)
theorem dX0_feed_6 : decode cX0_feed 6 = .ok (.ifCond .ne 9, 3) := dk_154 0 9 (dk_at dksX0_feed_0 6 rfl rfl)
theorem dX0_feed_9 : decode cX0_feed 9 = .ok (.aload_n 0, 1) := dk_42 (dk_at dksX0_feed_0 9 rfl rfl)
theorem dX0_feed_10 : decode cX0_feed 10 = .ok (.iconst 0, 1) := dk_3 (dk_at dksX0_feed_0 10 rfl rfl)
theorem dX0_feed_11 : decode cX0_feed 11 = .ok (.invokevirtual 138, 3) := dk_182 0 138 (dk_at dksX0_feed_0 11 rfl rfl)
theorem dX0_feed_14 : decode cX0_feed 14 = .ok (.ireturn, 1) := dk_172 (dk_at dksX0_feed_0 14 rfl rfl)
theorem dX0_feed_15 : decode cX0_feed 15 = .ok (.aload_n 0, 1) := dk_42 (dk_at dksX0_feed_0 15 rfl rfl)
theorem dX0_feed_16 : decode cX0_feed 16 = .ok (.getfield 355, 3) := dk_180 1 99 (dk_at dksX0_feed_0 16 rfl rfl)
theorem dX0_feed_19 : decode cX0_feed 19 = .ok (.iload_n 2, 1) := dk_28 (dk_at dksX0_feed_0 19 rfl rfl)
theorem dX0_feed_20 : decode cX0_feed 20 = .ok (.iadd, 1) := dk_96 (dk_at dksX0_feed_0 20 rfl rfl)
theorem dX0_feed_21 : decode cX0_feed 21 = .ok (.bipush 120, 2) := dk_16 120 (dk_at dksX0_feed_0 21 rfl rfl)
theorem dX0_feed_23 : decode cX0_feed 23 = .ok (.if_icmp .le 9, 3) := dk_164 0 9 (dk_at dksX0_feed_1 0 rfl rfl)
theorem dX0_feed_26 : decode cX0_feed 26 = .ok (.aload_n 0, 1) := dk_42 (dk_at dksX0_feed_1 3 rfl rfl)
theorem dX0_feed_27 : decode cX0_feed 27 = .ok (.iconst 1, 1) := dk_4 (dk_at dksX0_feed_1 4 rfl rfl)
theorem dX0_feed_28 : decode cX0_feed 28 = .ok (.invokevirtual 138, 3) := dk_182 0 138 (dk_at dksX0_feed_1 5 rfl rfl)
theorem dX0_feed_31 : decode cX0_feed 31 = .ok (.ireturn, 1) := dk_172 (dk_at dksX0_feed_1 8 rfl rfl)
theorem dX0_feed_32 : decode cX0_feed 32 = .ok (.iload_n 2, 1) := dk_28 (dk_at dksX0_feed_1 9 rfl rfl)
theorem dX0_feed_33 : decode cX0_feed 33 = .ok (.iconst 1, 1) := dk_4 (dk_at dksX0_feed_1 10 rfl rfl)
theorem dX0_feed_34 : decode cX0_feed 34 = .ok (.isub, 1) := dk_100 (dk_at dksX0_feed_1 11 rfl rfl)
theorem dX0_feed_35 : decode cX0_feed 35 = .ok (.istore_n 3, 1) := dk_62 (dk_at dksX0_feed_1 12 rfl rfl)
theorem dX0_feed_36 : decode cX0_feed 36 = .ok (.iload_n 3, 1) := dk_29 (dk_at dksX0_feed_1 13 rfl rfl)
theorem dX0_feed_37 : decode cX0_feed 37 = .ok (.ifCond .lt 38, 3) := dk_155 0 38 (dk_at dksX0_feed_1 14 rfl rfl)
theorem dX0_feed_40 : decode cX0_feed 40 = .ok (.aload_n 0, 1) := dk_42 (dk_at dksX0_feed_1 17 rfl rfl)
theorem dX0_feed_41 : decode cX0_feed 41 = .ok (.getfield 71, 3) := dk_180 0 71 (dk_at dksX0_feed_1 18 rfl rfl)
theorem dX0_feed_44 : decode cX0_feed 44 = .ok (.getfield 358, 3) := dk_180 1 102 (dk_at dksX0_feed_1 21 rfl rfl)
theorem dX0_feed_47 : decode cX0_feed 47 = .ok (.aload_n 0, 1) := dk_42 (dk_at dksX0_feed_2 0 rfl rfl)
theorem dX0_feed_48 : decode cX0_feed 48 = .ok (.getfield 355, 3) := dk_180 1 99 (dk_at dksX0_feed_2 1 rfl rfl)
theorem dX0_feed_51 : decode cX0_feed 51 = .ok (.iload_n 1, 1) := dk_27 (dk_at dksX0_feed_2 4 rfl rfl)
theorem dX0_feed_52 : decode cX0_feed 52 = .ok (.bipush 8, 2) := dk_16 8 (dk_at dksX0_feed_2 5 rfl rfl)
theorem dX0_feed_54 : decode cX0_feed 54 = .ok (.iload_n 3, 1) := dk_29 (dk_at dksX0_feed_2 7 rfl rfl)
theorem dX0_feed_55 : decode cX0_feed 55 = .ok (.imul, 1) := dk_104 (dk_at dksX0_feed_2 8 rfl rfl)
theorem dX0_feed_56 : decode cX0_feed 56 = .ok (.ishr, 1) := dk_122 (dk_at dksX0_feed_2 9 rfl rfl)
theorem dX0_feed_57 : decode cX0_feed 57 = .ok (.i2b, 1) := dk_145 (dk_at dksX0_feed_2 10 rfl rfl)
theorem dX0_feed_58 : decode cX0_feed 58 = .ok (.bastore, 1) := dk_84 (dk_at dksX0_feed_2 11 rfl rfl)
theorem dX0_feed_59 : decode cX0_feed 59 = .ok (.aload_n 0, 1) := dk_42 (dk_at dksX0_feed_2 12 rfl rfl)
theorem dX0_feed_60 : decode cX0_feed 60 = .ok (.dup, 1) := dk_89 (dk_at dksX0_feed_2 13 rfl rfl)
theorem dX0_feed_61 : decode cX0_feed 61 = .ok (.getfield 355, 3) := dk_180 1 99 (dk_at dksX0_feed_2 14 rfl rfl)
theorem dX0_feed_64 : decode cX0_feed 64 = .ok (.iconst 1, 1) := dk_4 (dk_at dksX0_feed_2 17 rfl rfl)
theorem dX0_feed_65 : decode cX0_feed 65 = .ok (.iadd, 1) := dk_96 (dk_at dksX0_feed_2 18 rfl rfl)
theorem dX0_feed_66 : decode cX0_feed 66 = .ok (.putfield 355, 3) := dk_181 1 99 (dk_at dksX0_feed_2 19 rfl rfl)
theorem dX0_feed_69 : decode cX0_feed 69 = .ok (.iinc 3 (-1), 3) := dk_132 3 255 (dk_at dksX0_feed_3 0 rfl rfl)
theorem dX0_feed_72 : decode cX0_feed 72 = .ok (.goto (-36), 3) := dk_167 255 220 (dk_at dksX0_feed_3 3 rfl rfl)
theorem dX0_feed_75 : decode cX0_feed 75 = .ok (.aload_n 0, 1) := dk_42 (dk_at dksX0_feed_3 6 rfl rfl)
theorem dX0_feed_76 : decode cX0_feed 76 = .ok (.getfield 355, 3) := dk_180 1 99 (dk_at dksX0_feed_3 7 rfl rfl)
theorem dX0_feed_79 : decode cX0_feed 79 = .ok (.ireturn, 1) := dk_172 (dk_at dksX0_feed_3 10 rfl rfl)
abbrev cX0_wipe : ByteArray := prog_1_method_86_code
def yX0_wipe : MethodName := ⟨RX0, "wipe", "()I"⟩
def dkwX0_wipe_0 : List UInt8 := [42, 180, 1, 99, 60, 42, 3, 181, 1, 99, 27, 172]
abbrev dktX0_wipe_0 : List UInt8 := dkwX0_wipe_0 ++ []
theorem dksX0_wipe_0 : cX0_wipe.data.toList.drop 0 = dktX0_wipe_0 := by decide +kernel
theorem dX0_wipe_0 : decode cX0_wipe 0 = .ok (.aload_n 0, 1) := dk_42 (dk_at dksX0_wipe_0 0 rfl rfl)
theorem dX0_wipe_1 : decode cX0_wipe 1 = .ok (.getfield 355, 3) := dk_180 1 99 (dk_at dksX0_wipe_0 1 rfl rfl)
theorem dX0_wipe_4 : decode cX0_wipe 4 = .ok (.istore_n 1, 1) := dk_60 (dk_at dksX0_wipe_0 4 rfl rfl)
theorem dX0_wipe_5 : decode cX0_wipe 5 = .ok (.aload_n 0, 1) := dk_42 (dk_at dksX0_wipe_0 5 rfl rfl)
theorem dX0_wipe_6 : decode cX0_wipe 6 = .ok (.iconst 0, 1) := dk_3 (dk_at dksX0_wipe_0 6 rfl rfl)
theorem dX0_wipe_7 : decode cX0_wipe 7 = .ok (.putfield 355, 3) := dk_181 1 99 (dk_at dksX0_wipe_0 7 rfl rfl)
theorem dX0_wipe_10 : decode cX0_wipe 10 = .ok (.iload_n 1, 1) := dk_27 (dk_at dksX0_wipe_0 10 rfl rfl)
theorem dX0_wipe_11 : decode cX0_wipe 11 = .ok (.ireturn, 1) := dk_172 (dk_at dksX0_wipe_0 11 rfl rfl)
abbrev cX0_text : ByteArray := prog_1_method_87_code
def yX0_text : MethodName := ⟨RX0, "text", "()I"⟩
def dkwX0_text_2 : List UInt8 := [180, 1, 108, 182, 0, 231, 27, 172, 76, 2, 42, 180, 0, 71, 180, 1, 116, 100, 172]
abbrev dktX0_text_2 : List UInt8 := dkwX0_text_2 ++ []
def dkwX0_text_1 : List UInt8 := [180, 0, 78, 182, 0, 231, 42, 180, 0, 71, 182, 1, 111, 60, 42, 180, 0, 78, 42, 180, 0, 71]
abbrev dktX0_text_1 : List UInt8 := dkwX0_text_1 ++ dktX0_text_2
def dkwX0_text_0 : List UInt8 := [42, 180, 0, 71, 42, 180, 1, 99, 181, 1, 106, 42, 3, 181, 1, 99, 42, 180, 0, 71, 180, 1, 108, 42]
abbrev dktX0_text_0 : List UInt8 := dkwX0_text_0 ++ dktX0_text_1
theorem dksX0_text_0 : cX0_text.data.toList.drop 0 = dktX0_text_0 := by decide +kernel
theorem dksX0_text_1 : cX0_text.data.toList.drop 24 = dktX0_text_1 := dk_seg dksX0_text_0 24 rfl rfl
theorem dksX0_text_2 : cX0_text.data.toList.drop 46 = dktX0_text_2 := dk_seg dksX0_text_1 22 rfl rfl
theorem dX0_text_0 : decode cX0_text 0 = .ok (.aload_n 0, 1) := dk_42 (dk_at dksX0_text_0 0 rfl rfl)
theorem dX0_text_1 : decode cX0_text 1 = .ok (.getfield 71, 3) := dk_180 0 71 (dk_at dksX0_text_0 1 rfl rfl)
theorem dX0_text_4 : decode cX0_text 4 = .ok (.aload_n 0, 1) := dk_42 (dk_at dksX0_text_0 4 rfl rfl)
theorem dX0_text_5 : decode cX0_text 5 = .ok (.getfield 355, 3) := dk_180 1 99 (dk_at dksX0_text_0 5 rfl rfl)
theorem dX0_text_8 : decode cX0_text 8 = .ok (.putfield 362, 3) := dk_181 1 106 (dk_at dksX0_text_0 8 rfl rfl)
theorem dX0_text_11 : decode cX0_text 11 = .ok (.aload_n 0, 1) := dk_42 (dk_at dksX0_text_0 11 rfl rfl)
theorem dX0_text_12 : decode cX0_text 12 = .ok (.iconst 0, 1) := dk_3 (dk_at dksX0_text_0 12 rfl rfl)
theorem dX0_text_13 : decode cX0_text 13 = .ok (.putfield 355, 3) := dk_181 1 99 (dk_at dksX0_text_0 13 rfl rfl)
theorem dX0_text_16 : decode cX0_text 16 = .ok (.aload_n 0, 1) := dk_42 (dk_at dksX0_text_0 16 rfl rfl)
theorem dX0_text_17 : decode cX0_text 17 = .ok (.getfield 71, 3) := dk_180 0 71 (dk_at dksX0_text_0 17 rfl rfl)
theorem dX0_text_20 : decode cX0_text 20 = .ok (.getfield 364, 3) := dk_180 1 108 (dk_at dksX0_text_0 20 rfl rfl)
theorem dX0_text_23 : decode cX0_text 23 = .ok (.aload_n 0, 1) := dk_42 (dk_at dksX0_text_0 23 rfl rfl)
theorem dX0_text_24 : decode cX0_text 24 = .ok (.getfield 78, 3) := dk_180 0 78 (dk_at dksX0_text_1 0 rfl rfl)
theorem dX0_text_27 : decode cX0_text 27 = .ok (.invokevirtual 231, 3) := dk_182 0 231 (dk_at dksX0_text_1 3 rfl rfl)
theorem dX0_text_30 : decode cX0_text 30 = .ok (.aload_n 0, 1) := dk_42 (dk_at dksX0_text_1 6 rfl rfl)
theorem dX0_text_31 : decode cX0_text 31 = .ok (.getfield 71, 3) := dk_180 0 71 (dk_at dksX0_text_1 7 rfl rfl)
theorem dX0_text_34 : decode cX0_text 34 = .ok (.invokevirtual 367, 3) := dk_182 1 111 (dk_at dksX0_text_1 10 rfl rfl)
theorem dX0_text_37 : decode cX0_text 37 = .ok (.istore_n 1, 1) := dk_60 (dk_at dksX0_text_1 13 rfl rfl)
theorem dX0_text_38 : decode cX0_text 38 = .ok (.aload_n 0, 1) := dk_42 (dk_at dksX0_text_1 14 rfl rfl)
theorem dX0_text_39 : decode cX0_text 39 = .ok (.getfield 78, 3) := dk_180 0 78 (dk_at dksX0_text_1 15 rfl rfl)
theorem dX0_text_42 : decode cX0_text 42 = .ok (.aload_n 0, 1) := dk_42 (dk_at dksX0_text_1 18 rfl rfl)
theorem dX0_text_43 : decode cX0_text 43 = .ok (.getfield 71, 3) := dk_180 0 71 (dk_at dksX0_text_1 19 rfl rfl)
theorem dX0_text_46 : decode cX0_text 46 = .ok (.getfield 364, 3) := dk_180 1 108 (dk_at dksX0_text_2 0 rfl rfl)
theorem dX0_text_49 : decode cX0_text 49 = .ok (.invokevirtual 231, 3) := dk_182 0 231 (dk_at dksX0_text_2 3 rfl rfl)
theorem dX0_text_52 : decode cX0_text 52 = .ok (.iload_n 1, 1) := dk_27 (dk_at dksX0_text_2 6 rfl rfl)
theorem dX0_text_53 : decode cX0_text 53 = .ok (.ireturn, 1) := dk_172 (dk_at dksX0_text_2 7 rfl rfl)
theorem dX0_text_54 : decode cX0_text 54 = .ok (.astore_n 1, 1) := dk_76 (dk_at dksX0_text_2 8 rfl rfl)
theorem dX0_text_55 : decode cX0_text 55 = .ok (.iconst (-1), 1) := dk_2 (dk_at dksX0_text_2 9 rfl rfl)
theorem dX0_text_56 : decode cX0_text 56 = .ok (.aload_n 0, 1) := dk_42 (dk_at dksX0_text_2 10 rfl rfl)
theorem dX0_text_57 : decode cX0_text 57 = .ok (.getfield 71, 3) := dk_180 0 71 (dk_at dksX0_text_2 11 rfl rfl)
theorem dX0_text_60 : decode cX0_text 60 = .ok (.getfield 372, 3) := dk_180 1 116 (dk_at dksX0_text_2 14 rfl rfl)
theorem dX0_text_63 : decode cX0_text 63 = .ok (.isub, 1) := dk_100 (dk_at dksX0_text_2 17 rfl rfl)
theorem dX0_text_64 : decode cX0_text 64 = .ok (.ireturn, 1) := dk_172 (dk_at dksX0_text_2 18 rfl rfl)
abbrev cX0_hold : ByteArray := prog_1_method_90_code
def yX0_hold : MethodName := ⟨RX0, "hold", "(II)I"⟩
def dkwX0_hold_1 : List UInt8 := [182, 0, 138, 172, 42, 180, 0, 78, 180, 1, 119, 27, 28, 79, 4, 172]
abbrev dktX0_hold_1 : List UInt8 := dkwX0_hold_1 ++ []
def dkwX0_hold_0 : List UInt8 := [27, 184, 1, 122, 153, 0, 16, 28, 2, 159, 0, 17, 42, 28, 182, 0, 195, 154, 0, 9, 42, 3]
abbrev dktX0_hold_0 : List UInt8 := dkwX0_hold_0 ++ dktX0_hold_1
theorem dksX0_hold_0 : cX0_hold.data.toList.drop 0 = dktX0_hold_0 := by decide +kernel
theorem dksX0_hold_1 : cX0_hold.data.toList.drop 22 = dktX0_hold_1 := dk_seg dksX0_hold_0 22 rfl rfl
theorem dX0_hold_0 : decode cX0_hold 0 = .ok (.iload_n 1, 1) := dk_27 (dk_at dksX0_hold_0 0 rfl rfl)
theorem dX0_hold_1 : decode cX0_hold 1 = .ok (.invokestatic 378, 3) := dk_184 1 122 (dk_at dksX0_hold_0 1 rfl rfl)
theorem dX0_hold_4 : decode cX0_hold 4 = .ok (.ifCond .eq 16, 3) := dk_153 0 16 (dk_at dksX0_hold_0 4 rfl rfl)
theorem dX0_hold_7 : decode cX0_hold 7 = .ok (.iload_n 2, 1) := dk_28 (dk_at dksX0_hold_0 7 rfl rfl)
theorem dX0_hold_8 : decode cX0_hold 8 = .ok (.iconst (-1), 1) := dk_2 (dk_at dksX0_hold_0 8 rfl rfl)
theorem dX0_hold_9 : decode cX0_hold 9 = .ok (.if_icmp .eq 17, 3) := dk_159 0 17 (dk_at dksX0_hold_0 9 rfl rfl)
theorem dX0_hold_12 : decode cX0_hold 12 = .ok (.aload_n 0, 1) := dk_42 (dk_at dksX0_hold_0 12 rfl rfl)
theorem dX0_hold_13 : decode cX0_hold 13 = .ok (.iload_n 2, 1) := dk_28 (dk_at dksX0_hold_0 13 rfl rfl)
theorem dX0_hold_14 : decode cX0_hold 14 = .ok (.invokevirtual 195, 3) := dk_182 0 195 (dk_at dksX0_hold_0 14 rfl rfl)
theorem dX0_hold_17 : decode cX0_hold 17 = .ok (.ifCond .ne 9, 3) := dk_154 0 9 (dk_at dksX0_hold_0 17 rfl rfl)
theorem dX0_hold_20 : decode cX0_hold 20 = .ok (.aload_n 0, 1) := dk_42 (dk_at dksX0_hold_0 20 rfl rfl)
theorem dX0_hold_21 : decode cX0_hold 21 = .ok (.iconst 0, 1) := dk_3 (dk_at dksX0_hold_0 21 rfl rfl)
theorem dX0_hold_22 : decode cX0_hold 22 = .ok (.invokevirtual 138, 3) := dk_182 0 138 (dk_at dksX0_hold_1 0 rfl rfl)
theorem dX0_hold_25 : decode cX0_hold 25 = .ok (.ireturn, 1) := dk_172 (dk_at dksX0_hold_1 3 rfl rfl)
theorem dX0_hold_26 : decode cX0_hold 26 = .ok (.aload_n 0, 1) := dk_42 (dk_at dksX0_hold_1 4 rfl rfl)
theorem dX0_hold_27 : decode cX0_hold 27 = .ok (.getfield 78, 3) := dk_180 0 78 (dk_at dksX0_hold_1 5 rfl rfl)
theorem dX0_hold_30 : decode cX0_hold 30 = .ok (.getfield 375, 3) := dk_180 1 119 (dk_at dksX0_hold_1 8 rfl rfl)
theorem dX0_hold_33 : decode cX0_hold 33 = .ok (.iload_n 1, 1) := dk_27 (dk_at dksX0_hold_1 11 rfl rfl)
theorem dX0_hold_34 : decode cX0_hold 34 = .ok (.iload_n 2, 1) := dk_28 (dk_at dksX0_hold_1 12 rfl rfl)
theorem dX0_hold_35 : decode cX0_hold 35 = .ok (.iastore, 1) := dk_79 (dk_at dksX0_hold_1 13 rfl rfl)
theorem dX0_hold_36 : decode cX0_hold 36 = .ok (.iconst 1, 1) := dk_4 (dk_at dksX0_hold_1 14 rfl rfl)
theorem dX0_hold_37 : decode cX0_hold 37 = .ok (.ireturn, 1) := dk_172 (dk_at dksX0_hold_1 15 rfl rfl)
abbrev cX0_isSpot : ByteArray := prog_1_method_5_code
def yX0_isSpot : MethodName := ⟨RX0, "isSpot", "(I)Z"⟩
def dkwX0_isSpot_0 : List UInt8 := [26, 3, 16, 9, 184, 0, 9, 172]
abbrev dktX0_isSpot_0 : List UInt8 := dkwX0_isSpot_0 ++ []
theorem dksX0_isSpot_0 : cX0_isSpot.data.toList.drop 0 = dktX0_isSpot_0 := by decide +kernel
theorem dX0_isSpot_0 : decode cX0_isSpot 0 = .ok (.iload_n 0, 1) := dk_26 (dk_at dksX0_isSpot_0 0 rfl rfl)
theorem dX0_isSpot_1 : decode cX0_isSpot 1 = .ok (.iconst 0, 1) := dk_3 (dk_at dksX0_isSpot_0 1 rfl rfl)
theorem dX0_isSpot_2 : decode cX0_isSpot 2 = .ok (.bipush 9, 2) := dk_16 9 (dk_at dksX0_isSpot_0 2 rfl rfl)
theorem dX0_isSpot_4 : decode cX0_isSpot 4 = .ok (.invokestatic 9, 3) := dk_184 0 9 (dk_at dksX0_isSpot_0 4 rfl rfl)
theorem dX0_isSpot_7 : decode cX0_isSpot 7 = .ok (.ireturn, 1) := dk_172 (dk_at dksX0_isSpot_0 7 rfl rfl)
abbrev cX0_as : ByteArray := prog_1_method_92_code
def yX0_as : MethodName := ⟨RX0, "as", "(II)I"⟩
def dkwX0_as_3 : List UInt8 := [184, 1, 128, 180, 1, 132, 167, 0, 8, 42, 5, 182, 0, 138, 172]
abbrev dktX0_as_3 : List UInt8 := dkwX0_as_3 ++ []
def dkwX0_as_2 : List UInt8 := [192, 0, 53, 28, 182, 0, 147, 153, 0, 7, 4, 167, 0, 4, 3, 54, 4, 21, 4, 153, 0, 14, 45, 28]
abbrev dktX0_as_2 : List UInt8 := dkwX0_as_2 ++ dktX0_as_3
def dkwX0_as_1 : List UInt8 := [182, 1, 125, 78, 45, 199, 0, 9, 42, 8, 182, 0, 138, 172, 45, 193, 0, 53, 153, 0, 18, 45]
abbrev dktX0_as_1 : List UInt8 := dkwX0_as_1 ++ dktX0_as_2
def dkwX0_as_0 : List UInt8 := [27, 184, 1, 122, 153, 0, 10, 28, 184, 0, 13, 154, 0, 9, 42, 3, 182, 0, 138, 172, 42, 27]
abbrev dktX0_as_0 : List UInt8 := dkwX0_as_0 ++ dktX0_as_1
theorem dksX0_as_0 : cX0_as.data.toList.drop 0 = dktX0_as_0 := by decide +kernel
theorem dksX0_as_1 : cX0_as.data.toList.drop 22 = dktX0_as_1 := dk_seg dksX0_as_0 22 rfl rfl
theorem dksX0_as_2 : cX0_as.data.toList.drop 44 = dktX0_as_2 := dk_seg dksX0_as_1 22 rfl rfl
theorem dksX0_as_3 : cX0_as.data.toList.drop 68 = dktX0_as_3 := dk_seg dksX0_as_2 24 rfl rfl
theorem dX0_as_0 : decode cX0_as 0 = .ok (.iload_n 1, 1) := dk_27 (dk_at dksX0_as_0 0 rfl rfl)
theorem dX0_as_1 : decode cX0_as 1 = .ok (.invokestatic 378, 3) := dk_184 1 122 (dk_at dksX0_as_0 1 rfl rfl)
theorem dX0_as_4 : decode cX0_as 4 = .ok (.ifCond .eq 10, 3) := dk_153 0 10 (dk_at dksX0_as_0 4 rfl rfl)
theorem dX0_as_7 : decode cX0_as 7 = .ok (.iload_n 2, 1) := dk_28 (dk_at dksX0_as_0 7 rfl rfl)
theorem dX0_as_8 : decode cX0_as 8 = .ok (.invokestatic 13, 3) := dk_184 0 13 (dk_at dksX0_as_0 8 rfl rfl)
theorem dX0_as_11 : decode cX0_as 11 = .ok (.ifCond .ne 9, 3) := dk_154 0 9 (dk_at dksX0_as_0 11 rfl rfl)
theorem dX0_as_14 : decode cX0_as 14 = .ok (.aload_n 0, 1) := dk_42 (dk_at dksX0_as_0 14 rfl rfl)
theorem dX0_as_15 : decode cX0_as 15 = .ok (.iconst 0, 1) := dk_3 (dk_at dksX0_as_0 15 rfl rfl)
theorem dX0_as_16 : decode cX0_as 16 = .ok (.invokevirtual 138, 3) := dk_182 0 138 (dk_at dksX0_as_0 16 rfl rfl)
theorem dX0_as_19 : decode cX0_as 19 = .ok (.ireturn, 1) := dk_172 (dk_at dksX0_as_0 19 rfl rfl)
theorem dX0_as_20 : decode cX0_as 20 = .ok (.aload_n 0, 1) := dk_42 (dk_at dksX0_as_0 20 rfl rfl)
theorem dX0_as_21 : decode cX0_as 21 = .ok (.iload_n 1, 1) := dk_27 (dk_at dksX0_as_0 21 rfl rfl)
theorem dX0_as_22 : decode cX0_as 22 = .ok (.invokevirtual 381, 3) := dk_182 1 125 (dk_at dksX0_as_1 0 rfl rfl)
theorem dX0_as_25 : decode cX0_as 25 = .ok (.astore_n 3, 1) := dk_78 (dk_at dksX0_as_1 3 rfl rfl)
theorem dX0_as_26 : decode cX0_as 26 = .ok (.aload_n 3, 1) := dk_45 (dk_at dksX0_as_1 4 rfl rfl)
theorem dX0_as_27 : decode cX0_as 27 = .ok (.ifnonnull 9, 3) := dk_199 0 9 (dk_at dksX0_as_1 5 rfl rfl)
theorem dX0_as_30 : decode cX0_as 30 = .ok (.aload_n 0, 1) := dk_42 (dk_at dksX0_as_1 8 rfl rfl)
theorem dX0_as_31 : decode cX0_as 31 = .ok (.iconst 5, 1) := dk_8 (dk_at dksX0_as_1 9 rfl rfl)
theorem dX0_as_32 : decode cX0_as 32 = .ok (.invokevirtual 138, 3) := dk_182 0 138 (dk_at dksX0_as_1 10 rfl rfl)
theorem dX0_as_35 : decode cX0_as 35 = .ok (.ireturn, 1) := dk_172 (dk_at dksX0_as_1 13 rfl rfl)
theorem dX0_as_36 : decode cX0_as 36 = .ok (.aload_n 3, 1) := dk_45 (dk_at dksX0_as_1 14 rfl rfl)
theorem dX0_as_37 : decode cX0_as 37 = .ok (.instanceof 53, 3) := dk_193 0 53 (dk_at dksX0_as_1 15 rfl rfl)
theorem dX0_as_40 : decode cX0_as 40 = .ok (.ifCond .eq 18, 3) := dk_153 0 18 (dk_at dksX0_as_1 18 rfl rfl)
theorem dX0_as_43 : decode cX0_as 43 = .ok (.aload_n 3, 1) := dk_45 (dk_at dksX0_as_1 21 rfl rfl)
theorem dX0_as_44 : decode cX0_as 44 = .ok (.checkcast 53, 3) := dk_192 0 53 (dk_at dksX0_as_2 0 rfl rfl)
theorem dX0_as_47 : decode cX0_as 47 = .ok (.iload_n 2, 1) := dk_28 (dk_at dksX0_as_2 3 rfl rfl)
theorem dX0_as_48 : decode cX0_as 48 = .ok (.invokevirtual 147, 3) := dk_182 0 147 (dk_at dksX0_as_2 4 rfl rfl)
theorem dX0_as_51 : decode cX0_as 51 = .ok (.ifCond .eq 7, 3) := dk_153 0 7 (dk_at dksX0_as_2 7 rfl rfl)
theorem dX0_as_54 : decode cX0_as 54 = .ok (.iconst 1, 1) := dk_4 (dk_at dksX0_as_2 10 rfl rfl)
theorem dX0_as_55 : decode cX0_as 55 = .ok (.goto 4, 3) := dk_167 0 4 (dk_at dksX0_as_2 11 rfl rfl)
theorem dX0_as_58 : decode cX0_as 58 = .ok (.iconst 0, 1) := dk_3 (dk_at dksX0_as_2 14 rfl rfl)
theorem dX0_as_59 : decode cX0_as 59 = .ok (.istore 4, 2) := dk_54 4 (dk_at dksX0_as_2 15 rfl rfl)
theorem dX0_as_61 : decode cX0_as 61 = .ok (.iload 4, 2) := dk_21 4 (dk_at dksX0_as_2 17 rfl rfl)
theorem dX0_as_63 : decode cX0_as 63 = .ok (.ifCond .eq 14, 3) := dk_153 0 14 (dk_at dksX0_as_2 19 rfl rfl)
theorem dX0_as_66 : decode cX0_as 66 = .ok (.aload_n 3, 1) := dk_45 (dk_at dksX0_as_2 22 rfl rfl)
theorem dX0_as_67 : decode cX0_as 67 = .ok (.iload_n 2, 1) := dk_28 (dk_at dksX0_as_2 23 rfl rfl)
theorem dX0_as_68 : decode cX0_as 68 = .ok (.invokestatic 384, 3) := dk_184 1 128 (dk_at dksX0_as_3 0 rfl rfl)
theorem dX0_as_71 : decode cX0_as 71 = .ok (.getfield 388, 3) := dk_180 1 132 (dk_at dksX0_as_3 3 rfl rfl)
theorem dX0_as_74 : decode cX0_as 74 = .ok (.goto 8, 3) := dk_167 0 8 (dk_at dksX0_as_3 6 rfl rfl)
theorem dX0_as_77 : decode cX0_as 77 = .ok (.aload_n 0, 1) := dk_42 (dk_at dksX0_as_3 9 rfl rfl)
theorem dX0_as_78 : decode cX0_as 78 = .ok (.iconst 2, 1) := dk_5 (dk_at dksX0_as_3 10 rfl rfl)
theorem dX0_as_79 : decode cX0_as 79 = .ok (.invokevirtual 138, 3) := dk_182 0 138 (dk_at dksX0_as_3 11 rfl rfl)
theorem dX0_as_82 : decode cX0_as 82 = .ok (.ireturn, 1) := dk_172 (dk_at dksX0_as_3 14 rfl rfl)
abbrev cX0_thingAt : ByteArray := prog_1_method_88_code
def yX0_thingAt : MethodName := ⟨RX0, "thingAt", "(I)Ljava/lang/Object;"⟩
def dkwX0_thingAt_1 : List UInt8 := [167, 0, 8, 42, 28, 182, 0, 143, 181, 0, 119, 42, 180, 0, 94, 27, 50, 180, 0, 119, 176]
abbrev dktX0_thingAt_1 : List UInt8 := dkwX0_thingAt_1 ++ []
def dkwX0_thingAt_0 : List UInt8 := [42, 180, 0, 78, 180, 1, 119, 27, 46, 61, 42, 180, 0, 94, 27, 50, 28, 2, 160, 0, 7, 1]
abbrev dktX0_thingAt_0 : List UInt8 := dkwX0_thingAt_0 ++ dktX0_thingAt_1
theorem dksX0_thingAt_0 : cX0_thingAt.data.toList.drop 0 = dktX0_thingAt_0 := by decide +kernel
theorem dksX0_thingAt_1 : cX0_thingAt.data.toList.drop 22 = dktX0_thingAt_1 := dk_seg dksX0_thingAt_0 22 rfl rfl
theorem dX0_thingAt_0 : decode cX0_thingAt 0 = .ok (.aload_n 0, 1) := dk_42 (dk_at dksX0_thingAt_0 0 rfl rfl)
theorem dX0_thingAt_1 : decode cX0_thingAt 1 = .ok (.getfield 78, 3) := dk_180 0 78 (dk_at dksX0_thingAt_0 1 rfl rfl)
theorem dX0_thingAt_4 : decode cX0_thingAt 4 = .ok (.getfield 375, 3) := dk_180 1 119 (dk_at dksX0_thingAt_0 4 rfl rfl)
theorem dX0_thingAt_7 : decode cX0_thingAt 7 = .ok (.iload_n 1, 1) := dk_27 (dk_at dksX0_thingAt_0 7 rfl rfl)
theorem dX0_thingAt_8 : decode cX0_thingAt 8 = .ok (.iaload, 1) := dk_46 (dk_at dksX0_thingAt_0 8 rfl rfl)
theorem dX0_thingAt_9 : decode cX0_thingAt 9 = .ok (.istore_n 2, 1) := dk_61 (dk_at dksX0_thingAt_0 9 rfl rfl)
theorem dX0_thingAt_10 : decode cX0_thingAt 10 = .ok (.aload_n 0, 1) := dk_42 (dk_at dksX0_thingAt_0 10 rfl rfl)
theorem dX0_thingAt_11 : decode cX0_thingAt 11 = .ok (.getfield 94, 3) := dk_180 0 94 (dk_at dksX0_thingAt_0 11 rfl rfl)
theorem dX0_thingAt_14 : decode cX0_thingAt 14 = .ok (.iload_n 1, 1) := dk_27 (dk_at dksX0_thingAt_0 14 rfl rfl)
theorem dX0_thingAt_15 : decode cX0_thingAt 15 = .ok (.aaload, 1) := dk_50 (dk_at dksX0_thingAt_0 15 rfl rfl)
theorem dX0_thingAt_16 : decode cX0_thingAt 16 = .ok (.iload_n 2, 1) := dk_28 (dk_at dksX0_thingAt_0 16 rfl rfl)
theorem dX0_thingAt_17 : decode cX0_thingAt 17 = .ok (.iconst (-1), 1) := dk_2 (dk_at dksX0_thingAt_0 17 rfl rfl)
theorem dX0_thingAt_18 : decode cX0_thingAt 18 = .ok (.if_icmp .ne 7, 3) := dk_160 0 7 (dk_at dksX0_thingAt_0 18 rfl rfl)
theorem dX0_thingAt_21 : decode cX0_thingAt 21 = .ok (.aconst_null, 1) := dk_1 (dk_at dksX0_thingAt_0 21 rfl rfl)
theorem dX0_thingAt_22 : decode cX0_thingAt 22 = .ok (.goto 8, 3) := dk_167 0 8 (dk_at dksX0_thingAt_1 0 rfl rfl)
theorem dX0_thingAt_25 : decode cX0_thingAt 25 = .ok (.aload_n 0, 1) := dk_42 (dk_at dksX0_thingAt_1 3 rfl rfl)
theorem dX0_thingAt_26 : decode cX0_thingAt 26 = .ok (.iload_n 2, 1) := dk_28 (dk_at dksX0_thingAt_1 4 rfl rfl)
theorem dX0_thingAt_27 : decode cX0_thingAt 27 = .ok (.invokevirtual 143, 3) := dk_182 0 143 (dk_at dksX0_thingAt_1 5 rfl rfl)
theorem dX0_thingAt_30 : decode cX0_thingAt 30 = .ok (.putfield 119, 3) := dk_181 0 119 (dk_at dksX0_thingAt_1 8 rfl rfl)
theorem dX0_thingAt_33 : decode cX0_thingAt 33 = .ok (.aload_n 0, 1) := dk_42 (dk_at dksX0_thingAt_1 11 rfl rfl)
theorem dX0_thingAt_34 : decode cX0_thingAt 34 = .ok (.getfield 94, 3) := dk_180 0 94 (dk_at dksX0_thingAt_1 12 rfl rfl)
theorem dX0_thingAt_37 : decode cX0_thingAt 37 = .ok (.iload_n 1, 1) := dk_27 (dk_at dksX0_thingAt_1 15 rfl rfl)
theorem dX0_thingAt_38 : decode cX0_thingAt 38 = .ok (.aaload, 1) := dk_50 (dk_at dksX0_thingAt_1 16 rfl rfl)
theorem dX0_thingAt_39 : decode cX0_thingAt 39 = .ok (.getfield 119, 3) := dk_180 0 119 (dk_at dksX0_thingAt_1 17 rfl rfl)
theorem dX0_thingAt_42 : decode cX0_thingAt 42 = .ok (.areturn, 1) := dk_176 (dk_at dksX0_thingAt_1 20 rfl rfl)
abbrev cX0_cast : ByteArray := prog_1_method_91_code
def yX0_cast : MethodName := ⟨RX0, "cast", "(Ljava/lang/Object;I)LWildBells$Bell;"⟩
def dkwX0_cast_3 : List UInt8 := [176, 42, 192, 0, 50, 176, 42, 192, 0, 53, 176]
abbrev dktX0_cast_3 : List UInt8 := dkwX0_cast_3 ++ []
def dkwX0_cast_2 : List UInt8 := [42, 192, 0, 32, 176, 42, 192, 0, 38, 176, 42, 192, 0, 41, 176, 42, 192, 0, 44, 176, 42, 192, 0, 47]
abbrev dktX0_cast_2 : List UInt8 := dkwX0_cast_2 ++ dktX0_cast_3
def dkwX0_cast_1 : List UInt8 := [170, 0, 0, 0, 0, 0, 69, 0, 0, 0, 1, 0, 0, 0, 6, 0, 0, 0, 39, 0, 0, 0, 44, 0, 0, 0, 49, 0, 0, 0, 54, 0, 0, 0, 59, 0, 0, 0, 64]
abbrev dktX0_cast_1 : List UInt8 := dkwX0_cast_1 ++ dktX0_cast_2
def dkwX0_cast_0 : List UInt8 := [27]
abbrev dktX0_cast_0 : List UInt8 := dkwX0_cast_0 ++ dktX0_cast_1
theorem dksX0_cast_0 : cX0_cast.data.toList.drop 0 = dktX0_cast_0 := by decide +kernel
theorem dksX0_cast_1 : cX0_cast.data.toList.drop 1 = dktX0_cast_1 := dk_seg dksX0_cast_0 1 rfl rfl
theorem dksX0_cast_2 : cX0_cast.data.toList.drop 40 = dktX0_cast_2 := dk_seg dksX0_cast_1 39 rfl rfl
theorem dksX0_cast_3 : cX0_cast.data.toList.drop 64 = dktX0_cast_3 := dk_seg dksX0_cast_2 24 rfl rfl
theorem dX0_cast_0 : decode cX0_cast 0 = .ok (.iload_n 1, 1) := dk_27 (dk_at dksX0_cast_0 0 rfl rfl)
theorem dX0_cast_1 : decode cX0_cast 1 = .ok (.tableswitch 69 1 6 #[39, 44, 49, 54, 59, 64], 39) := by decide +kernel
theorem dX0_cast_40 : decode cX0_cast 40 = .ok (.aload_n 0, 1) := dk_42 (dk_at dksX0_cast_2 0 rfl rfl)
theorem dX0_cast_41 : decode cX0_cast 41 = .ok (.checkcast 32, 3) := dk_192 0 32 (dk_at dksX0_cast_2 1 rfl rfl)
theorem dX0_cast_44 : decode cX0_cast 44 = .ok (.areturn, 1) := dk_176 (dk_at dksX0_cast_2 4 rfl rfl)
theorem dX0_cast_45 : decode cX0_cast 45 = .ok (.aload_n 0, 1) := dk_42 (dk_at dksX0_cast_2 5 rfl rfl)
theorem dX0_cast_46 : decode cX0_cast 46 = .ok (.checkcast 38, 3) := dk_192 0 38 (dk_at dksX0_cast_2 6 rfl rfl)
theorem dX0_cast_49 : decode cX0_cast 49 = .ok (.areturn, 1) := dk_176 (dk_at dksX0_cast_2 9 rfl rfl)
theorem dX0_cast_50 : decode cX0_cast 50 = .ok (.aload_n 0, 1) := dk_42 (dk_at dksX0_cast_2 10 rfl rfl)
theorem dX0_cast_51 : decode cX0_cast 51 = .ok (.checkcast 41, 3) := dk_192 0 41 (dk_at dksX0_cast_2 11 rfl rfl)
theorem dX0_cast_54 : decode cX0_cast 54 = .ok (.areturn, 1) := dk_176 (dk_at dksX0_cast_2 14 rfl rfl)
theorem dX0_cast_55 : decode cX0_cast 55 = .ok (.aload_n 0, 1) := dk_42 (dk_at dksX0_cast_2 15 rfl rfl)
theorem dX0_cast_56 : decode cX0_cast 56 = .ok (.checkcast 44, 3) := dk_192 0 44 (dk_at dksX0_cast_2 16 rfl rfl)
theorem dX0_cast_59 : decode cX0_cast 59 = .ok (.areturn, 1) := dk_176 (dk_at dksX0_cast_2 19 rfl rfl)
theorem dX0_cast_60 : decode cX0_cast 60 = .ok (.aload_n 0, 1) := dk_42 (dk_at dksX0_cast_2 20 rfl rfl)
theorem dX0_cast_61 : decode cX0_cast 61 = .ok (.checkcast 47, 3) := dk_192 0 47 (dk_at dksX0_cast_2 21 rfl rfl)
theorem dX0_cast_64 : decode cX0_cast 64 = .ok (.areturn, 1) := dk_176 (dk_at dksX0_cast_3 0 rfl rfl)
theorem dX0_cast_65 : decode cX0_cast 65 = .ok (.aload_n 0, 1) := dk_42 (dk_at dksX0_cast_3 1 rfl rfl)
theorem dX0_cast_66 : decode cX0_cast 66 = .ok (.checkcast 50, 3) := dk_192 0 50 (dk_at dksX0_cast_3 2 rfl rfl)
theorem dX0_cast_69 : decode cX0_cast 69 = .ok (.areturn, 1) := dk_176 (dk_at dksX0_cast_3 5 rfl rfl)
theorem dX0_cast_70 : decode cX0_cast 70 = .ok (.aload_n 0, 1) := dk_42 (dk_at dksX0_cast_3 6 rfl rfl)
theorem dX0_cast_71 : decode cX0_cast 71 = .ok (.checkcast 53, 3) := dk_192 0 53 (dk_at dksX0_cast_3 7 rfl rfl)
theorem dX0_cast_74 : decode cX0_cast 74 = .ok (.areturn, 1) := dk_176 (dk_at dksX0_cast_3 10 rfl rfl)
abbrev cX0_sheet : ByteArray := prog_1_method_93_code
def yX0_sheet : MethodName := ⟨RX0, "sheet", "(III)I"⟩
def dkwX0_sheet_4 : List UInt8 := [167, 0, 6, 29, 188, 10, 181, 0, 119, 28, 154, 0, 7, 3, 167, 0, 4, 29, 172]
abbrev dktX0_sheet_4 : List UInt8 := dkwX0_sheet_4 ++ []
def dkwX0_sheet_3 : List UInt8 := [167, 0, 30, 28, 16, 8, 160, 0, 9, 29, 188, 8, 167, 0, 18, 28, 16, 16, 160, 0, 9, 29, 188, 9]
abbrev dktX0_sheet_3 : List UInt8 := dkwX0_sheet_3 ++ dktX0_sheet_4
def dkwX0_sheet_2 : List UInt8 := [156, 0, 8, 16, 6, 167, 0, 4, 3, 182, 0, 138, 172, 42, 180, 0, 97, 27, 50, 28, 154, 0, 7, 1]
abbrev dktX0_sheet_2 : List UInt8 := dkwX0_sheet_2 ++ dktX0_sheet_3
def dkwX0_sheet_1 : List UInt8 := [16, 32, 159, 0, 9, 42, 3, 182, 0, 138, 172, 29, 155, 0, 9, 29, 16, 40, 164, 0, 18, 42, 29]
abbrev dktX0_sheet_1 : List UInt8 := dkwX0_sheet_1 ++ dktX0_sheet_2
def dkwX0_sheet_0 : List UInt8 := [27, 184, 1, 134, 153, 0, 25, 28, 153, 0, 27, 28, 16, 8, 159, 0, 21, 28, 16, 16, 159, 0, 15, 28]
abbrev dktX0_sheet_0 : List UInt8 := dkwX0_sheet_0 ++ dktX0_sheet_1
theorem dksX0_sheet_0 : cX0_sheet.data.toList.drop 0 = dktX0_sheet_0 := by decide +kernel
theorem dksX0_sheet_1 : cX0_sheet.data.toList.drop 24 = dktX0_sheet_1 := dk_seg dksX0_sheet_0 24 rfl rfl
theorem dksX0_sheet_2 : cX0_sheet.data.toList.drop 47 = dktX0_sheet_2 := dk_seg dksX0_sheet_1 23 rfl rfl
theorem dksX0_sheet_3 : cX0_sheet.data.toList.drop 71 = dktX0_sheet_3 := dk_seg dksX0_sheet_2 24 rfl rfl
theorem dksX0_sheet_4 : cX0_sheet.data.toList.drop 95 = dktX0_sheet_4 := dk_seg dksX0_sheet_3 24 rfl rfl
theorem dX0_sheet_0 : decode cX0_sheet 0 = .ok (.iload_n 1, 1) := dk_27 (dk_at dksX0_sheet_0 0 rfl rfl)
theorem dX0_sheet_1 : decode cX0_sheet 1 = .ok (.invokestatic 390, 3) := dk_184 1 134 (dk_at dksX0_sheet_0 1 rfl rfl)
theorem dX0_sheet_4 : decode cX0_sheet 4 = .ok (.ifCond .eq 25, 3) := dk_153 0 25 (dk_at dksX0_sheet_0 4 rfl rfl)
theorem dX0_sheet_7 : decode cX0_sheet 7 = .ok (.iload_n 2, 1) := dk_28 (dk_at dksX0_sheet_0 7 rfl rfl)
theorem dX0_sheet_8 : decode cX0_sheet 8 = .ok (.ifCond .eq 27, 3) := dk_153 0 27 (dk_at dksX0_sheet_0 8 rfl rfl)
theorem dX0_sheet_11 : decode cX0_sheet 11 = .ok (.iload_n 2, 1) := dk_28 (dk_at dksX0_sheet_0 11 rfl rfl)
theorem dX0_sheet_12 : decode cX0_sheet 12 = .ok (.bipush 8, 2) := dk_16 8 (dk_at dksX0_sheet_0 12 rfl rfl)
theorem dX0_sheet_14 : decode cX0_sheet 14 = .ok (.if_icmp .eq 21, 3) := dk_159 0 21 (dk_at dksX0_sheet_0 14 rfl rfl)
theorem dX0_sheet_17 : decode cX0_sheet 17 = .ok (.iload_n 2, 1) := dk_28 (dk_at dksX0_sheet_0 17 rfl rfl)
theorem dX0_sheet_18 : decode cX0_sheet 18 = .ok (.bipush 16, 2) := dk_16 16 (dk_at dksX0_sheet_0 18 rfl rfl)
theorem dX0_sheet_20 : decode cX0_sheet 20 = .ok (.if_icmp .eq 15, 3) := dk_159 0 15 (dk_at dksX0_sheet_0 20 rfl rfl)
theorem dX0_sheet_23 : decode cX0_sheet 23 = .ok (.iload_n 2, 1) := dk_28 (dk_at dksX0_sheet_0 23 rfl rfl)
theorem dX0_sheet_24 : decode cX0_sheet 24 = .ok (.bipush 32, 2) := dk_16 32 (dk_at dksX0_sheet_1 0 rfl rfl)
theorem dX0_sheet_26 : decode cX0_sheet 26 = .ok (.if_icmp .eq 9, 3) := dk_159 0 9 (dk_at dksX0_sheet_1 2 rfl rfl)
theorem dX0_sheet_29 : decode cX0_sheet 29 = .ok (.aload_n 0, 1) := dk_42 (dk_at dksX0_sheet_1 5 rfl rfl)
theorem dX0_sheet_30 : decode cX0_sheet 30 = .ok (.iconst 0, 1) := dk_3 (dk_at dksX0_sheet_1 6 rfl rfl)
theorem dX0_sheet_31 : decode cX0_sheet 31 = .ok (.invokevirtual 138, 3) := dk_182 0 138 (dk_at dksX0_sheet_1 7 rfl rfl)
theorem dX0_sheet_34 : decode cX0_sheet 34 = .ok (.ireturn, 1) := dk_172 (dk_at dksX0_sheet_1 10 rfl rfl)
theorem dX0_sheet_35 : decode cX0_sheet 35 = .ok (.iload_n 3, 1) := dk_29 (dk_at dksX0_sheet_1 11 rfl rfl)
theorem dX0_sheet_36 : decode cX0_sheet 36 = .ok (.ifCond .lt 9, 3) := dk_155 0 9 (dk_at dksX0_sheet_1 12 rfl rfl)
theorem dX0_sheet_39 : decode cX0_sheet 39 = .ok (.iload_n 3, 1) := dk_29 (dk_at dksX0_sheet_1 15 rfl rfl)
theorem dX0_sheet_40 : decode cX0_sheet 40 = .ok (.bipush 40, 2) := dk_16 40 (dk_at dksX0_sheet_1 16 rfl rfl)
theorem dX0_sheet_42 : decode cX0_sheet 42 = .ok (.if_icmp .le 18, 3) := dk_164 0 18 (dk_at dksX0_sheet_1 18 rfl rfl)
theorem dX0_sheet_45 : decode cX0_sheet 45 = .ok (.aload_n 0, 1) := dk_42 (dk_at dksX0_sheet_1 21 rfl rfl)
theorem dX0_sheet_46 : decode cX0_sheet 46 = .ok (.iload_n 3, 1) := dk_29 (dk_at dksX0_sheet_1 22 rfl rfl)
theorem dX0_sheet_47 : decode cX0_sheet 47 = .ok (.ifCond .ge 8, 3) := dk_156 0 8 (dk_at dksX0_sheet_2 0 rfl rfl)
theorem dX0_sheet_50 : decode cX0_sheet 50 = .ok (.bipush 6, 2) := dk_16 6 (dk_at dksX0_sheet_2 3 rfl rfl)
theorem dX0_sheet_52 : decode cX0_sheet 52 = .ok (.goto 4, 3) := dk_167 0 4 (dk_at dksX0_sheet_2 5 rfl rfl)
theorem dX0_sheet_55 : decode cX0_sheet 55 = .ok (.iconst 0, 1) := dk_3 (dk_at dksX0_sheet_2 8 rfl rfl)
theorem dX0_sheet_56 : decode cX0_sheet 56 = .ok (.invokevirtual 138, 3) := dk_182 0 138 (dk_at dksX0_sheet_2 9 rfl rfl)
theorem dX0_sheet_59 : decode cX0_sheet 59 = .ok (.ireturn, 1) := dk_172 (dk_at dksX0_sheet_2 12 rfl rfl)
theorem dX0_sheet_60 : decode cX0_sheet 60 = .ok (.aload_n 0, 1) := dk_42 (dk_at dksX0_sheet_2 13 rfl rfl)
theorem dX0_sheet_61 : decode cX0_sheet 61 = .ok (.getfield 97, 3) := dk_180 0 97 (dk_at dksX0_sheet_2 14 rfl rfl)
theorem dX0_sheet_64 : decode cX0_sheet 64 = .ok (.iload_n 1, 1) := dk_27 (dk_at dksX0_sheet_2 17 rfl rfl)
theorem dX0_sheet_65 : decode cX0_sheet 65 = .ok (.aaload, 1) := dk_50 (dk_at dksX0_sheet_2 18 rfl rfl)
theorem dX0_sheet_66 : decode cX0_sheet 66 = .ok (.iload_n 2, 1) := dk_28 (dk_at dksX0_sheet_2 19 rfl rfl)
theorem dX0_sheet_67 : decode cX0_sheet 67 = .ok (.ifCond .ne 7, 3) := dk_154 0 7 (dk_at dksX0_sheet_2 20 rfl rfl)
theorem dX0_sheet_70 : decode cX0_sheet 70 = .ok (.aconst_null, 1) := dk_1 (dk_at dksX0_sheet_2 23 rfl rfl)
theorem dX0_sheet_71 : decode cX0_sheet 71 = .ok (.goto 30, 3) := dk_167 0 30 (dk_at dksX0_sheet_3 0 rfl rfl)
theorem dX0_sheet_74 : decode cX0_sheet 74 = .ok (.iload_n 2, 1) := dk_28 (dk_at dksX0_sheet_3 3 rfl rfl)
theorem dX0_sheet_75 : decode cX0_sheet 75 = .ok (.bipush 8, 2) := dk_16 8 (dk_at dksX0_sheet_3 4 rfl rfl)
theorem dX0_sheet_77 : decode cX0_sheet 77 = .ok (.if_icmp .ne 9, 3) := dk_160 0 9 (dk_at dksX0_sheet_3 6 rfl rfl)
theorem dX0_sheet_80 : decode cX0_sheet 80 = .ok (.iload_n 3, 1) := dk_29 (dk_at dksX0_sheet_3 9 rfl rfl)
theorem dX0_sheet_81 : decode cX0_sheet 81 = .ok (.newarray .byte, 2) := dk_188_8 (dk_at dksX0_sheet_3 10 rfl rfl)
theorem dX0_sheet_83 : decode cX0_sheet 83 = .ok (.goto 18, 3) := dk_167 0 18 (dk_at dksX0_sheet_3 12 rfl rfl)
theorem dX0_sheet_86 : decode cX0_sheet 86 = .ok (.iload_n 2, 1) := dk_28 (dk_at dksX0_sheet_3 15 rfl rfl)
theorem dX0_sheet_87 : decode cX0_sheet 87 = .ok (.bipush 16, 2) := dk_16 16 (dk_at dksX0_sheet_3 16 rfl rfl)
theorem dX0_sheet_89 : decode cX0_sheet 89 = .ok (.if_icmp .ne 9, 3) := dk_160 0 9 (dk_at dksX0_sheet_3 18 rfl rfl)
theorem dX0_sheet_92 : decode cX0_sheet 92 = .ok (.iload_n 3, 1) := dk_29 (dk_at dksX0_sheet_3 21 rfl rfl)
theorem dX0_sheet_93 : decode cX0_sheet 93 = .ok (.newarray .short, 2) := dk_188_9 (dk_at dksX0_sheet_3 22 rfl rfl)
theorem dX0_sheet_95 : decode cX0_sheet 95 = .ok (.goto 6, 3) := dk_167 0 6 (dk_at dksX0_sheet_4 0 rfl rfl)
theorem dX0_sheet_98 : decode cX0_sheet 98 = .ok (.iload_n 3, 1) := dk_29 (dk_at dksX0_sheet_4 3 rfl rfl)
theorem dX0_sheet_99 : decode cX0_sheet 99 = .ok (.newarray .int, 2) := dk_188_10 (dk_at dksX0_sheet_4 4 rfl rfl)
theorem dX0_sheet_101 : decode cX0_sheet 101 = .ok (.putfield 119, 3) := dk_181 0 119 (dk_at dksX0_sheet_4 6 rfl rfl)
theorem dX0_sheet_104 : decode cX0_sheet 104 = .ok (.iload_n 2, 1) := dk_28 (dk_at dksX0_sheet_4 9 rfl rfl)
theorem dX0_sheet_105 : decode cX0_sheet 105 = .ok (.ifCond .ne 7, 3) := dk_154 0 7 (dk_at dksX0_sheet_4 10 rfl rfl)
theorem dX0_sheet_108 : decode cX0_sheet 108 = .ok (.iconst 0, 1) := dk_3 (dk_at dksX0_sheet_4 13 rfl rfl)
theorem dX0_sheet_109 : decode cX0_sheet 109 = .ok (.goto 4, 3) := dk_167 0 4 (dk_at dksX0_sheet_4 14 rfl rfl)
theorem dX0_sheet_112 : decode cX0_sheet 112 = .ok (.iload_n 3, 1) := dk_29 (dk_at dksX0_sheet_4 17 rfl rfl)
theorem dX0_sheet_113 : decode cX0_sheet 113 = .ok (.ireturn, 1) := dk_172 (dk_at dksX0_sheet_4 18 rfl rfl)
abbrev cX0_write : ByteArray := prog_1_method_99_code
def yX0_write : MethodName := ⟨RX0, "write", "(III)I"⟩
def dkwX0_write_2 : List UInt8 := [58, 4, 42, 25, 4, 180, 0, 128, 182, 0, 138, 172]
abbrev dktX0_write_2 : List UInt8 := dkwX0_write_2 ++ []
def dkwX0_write_1 : List UInt8 := [3, 25, 4, 184, 1, 17, 4, 100, 184, 0, 9, 3, 182, 1, 25, 25, 4, 28, 29, 184, 1, 141, 4, 172]
abbrev dktX0_write_1 : List UInt8 := dkwX0_write_1 ++ dktX0_write_2
def dkwX0_write_0 : List UInt8 := [42, 27, 182, 1, 21, 58, 4, 42, 25, 4, 198, 0, 7, 4, 167, 0, 4, 3, 8, 182, 1, 25, 42, 28]
abbrev dktX0_write_0 : List UInt8 := dkwX0_write_0 ++ dktX0_write_1
theorem dksX0_write_0 : cX0_write.data.toList.drop 0 = dktX0_write_0 := by decide +kernel
theorem dksX0_write_1 : cX0_write.data.toList.drop 24 = dktX0_write_1 := dk_seg dksX0_write_0 24 rfl rfl
theorem dksX0_write_2 : cX0_write.data.toList.drop 48 = dktX0_write_2 := dk_seg dksX0_write_1 24 rfl rfl
theorem dX0_write_0 : decode cX0_write 0 = .ok (.aload_n 0, 1) := dk_42 (dk_at dksX0_write_0 0 rfl rfl)
theorem dX0_write_1 : decode cX0_write 1 = .ok (.iload_n 1, 1) := dk_27 (dk_at dksX0_write_0 1 rfl rfl)
theorem dX0_write_2 : decode cX0_write 2 = .ok (.invokevirtual 277, 3) := dk_182 1 21 (dk_at dksX0_write_0 2 rfl rfl)
theorem dX0_write_5 : decode cX0_write 5 = .ok (.astore 4, 2) := dk_58 4 (dk_at dksX0_write_0 5 rfl rfl)
theorem dX0_write_7 : decode cX0_write 7 = .ok (.aload_n 0, 1) := dk_42 (dk_at dksX0_write_0 7 rfl rfl)
theorem dX0_write_8 : decode cX0_write 8 = .ok (.aload 4, 2) := dk_25 4 (dk_at dksX0_write_0 8 rfl rfl)
theorem dX0_write_10 : decode cX0_write 10 = .ok (.ifnull 7, 3) := dk_198 0 7 (dk_at dksX0_write_0 10 rfl rfl)
theorem dX0_write_13 : decode cX0_write 13 = .ok (.iconst 1, 1) := dk_4 (dk_at dksX0_write_0 13 rfl rfl)
theorem dX0_write_14 : decode cX0_write 14 = .ok (.goto 4, 3) := dk_167 0 4 (dk_at dksX0_write_0 14 rfl rfl)
theorem dX0_write_17 : decode cX0_write 17 = .ok (.iconst 0, 1) := dk_3 (dk_at dksX0_write_0 17 rfl rfl)
theorem dX0_write_18 : decode cX0_write 18 = .ok (.iconst 5, 1) := dk_8 (dk_at dksX0_write_0 18 rfl rfl)
theorem dX0_write_19 : decode cX0_write 19 = .ok (.invokevirtual 281, 3) := dk_182 1 25 (dk_at dksX0_write_0 19 rfl rfl)
theorem dX0_write_22 : decode cX0_write 22 = .ok (.aload_n 0, 1) := dk_42 (dk_at dksX0_write_0 22 rfl rfl)
theorem dX0_write_23 : decode cX0_write 23 = .ok (.iload_n 2, 1) := dk_28 (dk_at dksX0_write_0 23 rfl rfl)
theorem dX0_write_24 : decode cX0_write 24 = .ok (.iconst 0, 1) := dk_3 (dk_at dksX0_write_1 0 rfl rfl)
theorem dX0_write_25 : decode cX0_write 25 = .ok (.aload 4, 2) := dk_25 4 (dk_at dksX0_write_1 1 rfl rfl)
theorem dX0_write_27 : decode cX0_write 27 = .ok (.invokestatic 273, 3) := dk_184 1 17 (dk_at dksX0_write_1 3 rfl rfl)
theorem dX0_write_30 : decode cX0_write 30 = .ok (.iconst 1, 1) := dk_4 (dk_at dksX0_write_1 6 rfl rfl)
theorem dX0_write_31 : decode cX0_write 31 = .ok (.isub, 1) := dk_100 (dk_at dksX0_write_1 7 rfl rfl)
theorem dX0_write_32 : decode cX0_write 32 = .ok (.invokestatic 9, 3) := dk_184 0 9 (dk_at dksX0_write_1 8 rfl rfl)
theorem dX0_write_35 : decode cX0_write 35 = .ok (.iconst 0, 1) := dk_3 (dk_at dksX0_write_1 11 rfl rfl)
theorem dX0_write_36 : decode cX0_write 36 = .ok (.invokevirtual 281, 3) := dk_182 1 25 (dk_at dksX0_write_1 12 rfl rfl)
theorem dX0_write_39 : decode cX0_write 39 = .ok (.aload 4, 2) := dk_25 4 (dk_at dksX0_write_1 15 rfl rfl)
theorem dX0_write_41 : decode cX0_write 41 = .ok (.iload_n 2, 1) := dk_28 (dk_at dksX0_write_1 17 rfl rfl)
theorem dX0_write_42 : decode cX0_write 42 = .ok (.iload_n 3, 1) := dk_29 (dk_at dksX0_write_1 18 rfl rfl)
theorem dX0_write_43 : decode cX0_write 43 = .ok (.invokestatic 397, 3) := dk_184 1 141 (dk_at dksX0_write_1 19 rfl rfl)
theorem dX0_write_46 : decode cX0_write 46 = .ok (.iconst 1, 1) := dk_4 (dk_at dksX0_write_1 22 rfl rfl)
theorem dX0_write_47 : decode cX0_write 47 = .ok (.ireturn, 1) := dk_172 (dk_at dksX0_write_1 23 rfl rfl)
theorem dX0_write_48 : decode cX0_write 48 = .ok (.astore 4, 2) := dk_58 4 (dk_at dksX0_write_2 0 rfl rfl)
theorem dX0_write_50 : decode cX0_write 50 = .ok (.aload_n 0, 1) := dk_42 (dk_at dksX0_write_2 2 rfl rfl)
theorem dX0_write_51 : decode cX0_write 51 = .ok (.aload 4, 2) := dk_25 4 (dk_at dksX0_write_2 3 rfl rfl)
theorem dX0_write_53 : decode cX0_write 53 = .ok (.getfield 128, 3) := dk_180 0 128 (dk_at dksX0_write_2 5 rfl rfl)
theorem dX0_write_56 : decode cX0_write 56 = .ok (.invokevirtual 138, 3) := dk_182 0 138 (dk_at dksX0_write_2 8 rfl rfl)
theorem dX0_write_59 : decode cX0_write 59 = .ok (.ireturn, 1) := dk_172 (dk_at dksX0_write_2 11 rfl rfl)
abbrev cX0_lay : ByteArray := prog_1_method_98_code
def yX0_lay : MethodName := ⟨RX0, "lay", "(Ljava/lang/Object;II)V"⟩
def dkwX0_lay_1 : List UInt8 := [153, 0, 14, 42, 192, 1, 138, 27, 28, 147, 86, 167, 0, 10, 42, 192, 1, 140, 27, 28, 79, 177]
abbrev dktX0_lay_1 : List UInt8 := dkwX0_lay_1 ++ []
def dkwX0_lay_0 : List UInt8 := [42, 193, 1, 137, 153, 0, 14, 42, 192, 1, 137, 27, 28, 145, 84, 167, 0, 28, 42, 193, 1, 138]
abbrev dktX0_lay_0 : List UInt8 := dkwX0_lay_0 ++ dktX0_lay_1
theorem dksX0_lay_0 : cX0_lay.data.toList.drop 0 = dktX0_lay_0 := by decide +kernel
theorem dksX0_lay_1 : cX0_lay.data.toList.drop 22 = dktX0_lay_1 := dk_seg dksX0_lay_0 22 rfl rfl
theorem dX0_lay_0 : decode cX0_lay 0 = .ok (.aload_n 0, 1) := dk_42 (dk_at dksX0_lay_0 0 rfl rfl)
theorem dX0_lay_1 : decode cX0_lay 1 = .ok (.instanceof 393, 3) := dk_193 1 137 (dk_at dksX0_lay_0 1 rfl rfl)
theorem dX0_lay_4 : decode cX0_lay 4 = .ok (.ifCond .eq 14, 3) := dk_153 0 14 (dk_at dksX0_lay_0 4 rfl rfl)
theorem dX0_lay_7 : decode cX0_lay 7 = .ok (.aload_n 0, 1) := dk_42 (dk_at dksX0_lay_0 7 rfl rfl)
theorem dX0_lay_8 : decode cX0_lay 8 = .ok (.checkcast 393, 3) := dk_192 1 137 (dk_at dksX0_lay_0 8 rfl rfl)
theorem dX0_lay_11 : decode cX0_lay 11 = .ok (.iload_n 1, 1) := dk_27 (dk_at dksX0_lay_0 11 rfl rfl)
theorem dX0_lay_12 : decode cX0_lay 12 = .ok (.iload_n 2, 1) := dk_28 (dk_at dksX0_lay_0 12 rfl rfl)
theorem dX0_lay_13 : decode cX0_lay 13 = .ok (.i2b, 1) := dk_145 (dk_at dksX0_lay_0 13 rfl rfl)
theorem dX0_lay_14 : decode cX0_lay 14 = .ok (.bastore, 1) := dk_84 (dk_at dksX0_lay_0 14 rfl rfl)
theorem dX0_lay_15 : decode cX0_lay 15 = .ok (.goto 28, 3) := dk_167 0 28 (dk_at dksX0_lay_0 15 rfl rfl)
theorem dX0_lay_18 : decode cX0_lay 18 = .ok (.aload_n 0, 1) := dk_42 (dk_at dksX0_lay_0 18 rfl rfl)
theorem dX0_lay_19 : decode cX0_lay 19 = .ok (.instanceof 394, 3) := dk_193 1 138 (dk_at dksX0_lay_0 19 rfl rfl)
theorem dX0_lay_22 : decode cX0_lay 22 = .ok (.ifCond .eq 14, 3) := dk_153 0 14 (dk_at dksX0_lay_1 0 rfl rfl)
theorem dX0_lay_25 : decode cX0_lay 25 = .ok (.aload_n 0, 1) := dk_42 (dk_at dksX0_lay_1 3 rfl rfl)
theorem dX0_lay_26 : decode cX0_lay 26 = .ok (.checkcast 394, 3) := dk_192 1 138 (dk_at dksX0_lay_1 4 rfl rfl)
theorem dX0_lay_29 : decode cX0_lay 29 = .ok (.iload_n 1, 1) := dk_27 (dk_at dksX0_lay_1 7 rfl rfl)
theorem dX0_lay_30 : decode cX0_lay 30 = .ok (.iload_n 2, 1) := dk_28 (dk_at dksX0_lay_1 8 rfl rfl)
theorem dX0_lay_31 : decode cX0_lay 31 = .ok (.i2s, 1) := dk_147 (dk_at dksX0_lay_1 9 rfl rfl)
theorem dX0_lay_32 : decode cX0_lay 32 = .ok (.sastore, 1) := dk_86 (dk_at dksX0_lay_1 10 rfl rfl)
theorem dX0_lay_33 : decode cX0_lay 33 = .ok (.goto 10, 3) := dk_167 0 10 (dk_at dksX0_lay_1 11 rfl rfl)
theorem dX0_lay_36 : decode cX0_lay 36 = .ok (.aload_n 0, 1) := dk_42 (dk_at dksX0_lay_1 14 rfl rfl)
theorem dX0_lay_37 : decode cX0_lay 37 = .ok (.checkcast 396, 3) := dk_192 1 140 (dk_at dksX0_lay_1 15 rfl rfl)
theorem dX0_lay_40 : decode cX0_lay 40 = .ok (.iload_n 1, 1) := dk_27 (dk_at dksX0_lay_1 18 rfl rfl)
theorem dX0_lay_41 : decode cX0_lay 41 = .ok (.iload_n 2, 1) := dk_28 (dk_at dksX0_lay_1 19 rfl rfl)
theorem dX0_lay_42 : decode cX0_lay 42 = .ok (.iastore, 1) := dk_79 (dk_at dksX0_lay_1 20 rfl rfl)
theorem dX0_lay_43 : decode cX0_lay 43 = .ok (.return_, 1) := dk_177 (dk_at dksX0_lay_1 21 rfl rfl)
abbrev cX0_copy : ByteArray := prog_1_method_101_code
def yX0_copy : MethodName := ⟨RX0, "copy", "(IIIII)I"⟩
def dkwX0_copy_5 : List UInt8 := [184, 1, 154, 21, 5, 172, 58, 6, 42, 25, 6, 180, 0, 128, 182, 0, 138, 172]
abbrev dktX0_copy_5 : List UInt8 := dkwX0_copy_5 ++ []
def dkwX0_copy_4 : List UInt8 := [100, 163, 0, 7, 4, 167, 0, 4, 3, 3, 182, 1, 25, 25, 6, 28, 25, 7, 21, 4, 21, 5]
abbrev dktX0_copy_4 : List UInt8 := dkwX0_copy_4 ++ dktX0_copy_5
def dkwX0_copy_3 : List UInt8 := [155, 0, 32, 28, 25, 6, 184, 1, 17, 21, 5, 100, 163, 0, 20, 21, 4, 25, 7, 184, 1, 17, 21, 5]
abbrev dktX0_copy_3 : List UInt8 := dkwX0_copy_3 ++ dktX0_copy_4
def dkwX0_copy_2 : List UInt8 := [160, 0, 7, 4, 167, 0, 4, 3, 5, 182, 1, 25, 42, 21, 5, 155, 0, 41, 28, 155, 0, 37, 21, 4]
abbrev dktX0_copy_2 : List UInt8 := dkwX0_copy_2 ++ dktX0_copy_3
def dkwX0_copy_1 : List UInt8 := [198, 0, 7, 4, 167, 0, 4, 3, 8, 182, 1, 25, 42, 25, 6, 184, 1, 151, 25, 7, 184, 1, 151]
abbrev dktX0_copy_1 : List UInt8 := dkwX0_copy_1 ++ dktX0_copy_2
def dkwX0_copy_0 : List UInt8 := [42, 27, 182, 1, 21, 58, 6, 42, 29, 182, 1, 21, 58, 7, 42, 25, 6, 198, 0, 12, 25, 7]
abbrev dktX0_copy_0 : List UInt8 := dkwX0_copy_0 ++ dktX0_copy_1
theorem dksX0_copy_0 : cX0_copy.data.toList.drop 0 = dktX0_copy_0 := by decide +kernel
theorem dksX0_copy_1 : cX0_copy.data.toList.drop 22 = dktX0_copy_1 := dk_seg dksX0_copy_0 22 rfl rfl
theorem dksX0_copy_2 : cX0_copy.data.toList.drop 45 = dktX0_copy_2 := dk_seg dksX0_copy_1 23 rfl rfl
theorem dksX0_copy_3 : cX0_copy.data.toList.drop 69 = dktX0_copy_3 := dk_seg dksX0_copy_2 24 rfl rfl
theorem dksX0_copy_4 : cX0_copy.data.toList.drop 93 = dktX0_copy_4 := dk_seg dksX0_copy_3 24 rfl rfl
theorem dksX0_copy_5 : cX0_copy.data.toList.drop 115 = dktX0_copy_5 := dk_seg dksX0_copy_4 22 rfl rfl
theorem dX0_copy_0 : decode cX0_copy 0 = .ok (.aload_n 0, 1) := dk_42 (dk_at dksX0_copy_0 0 rfl rfl)
theorem dX0_copy_1 : decode cX0_copy 1 = .ok (.iload_n 1, 1) := dk_27 (dk_at dksX0_copy_0 1 rfl rfl)
theorem dX0_copy_2 : decode cX0_copy 2 = .ok (.invokevirtual 277, 3) := dk_182 1 21 (dk_at dksX0_copy_0 2 rfl rfl)
theorem dX0_copy_5 : decode cX0_copy 5 = .ok (.astore 6, 2) := dk_58 6 (dk_at dksX0_copy_0 5 rfl rfl)
theorem dX0_copy_7 : decode cX0_copy 7 = .ok (.aload_n 0, 1) := dk_42 (dk_at dksX0_copy_0 7 rfl rfl)
theorem dX0_copy_8 : decode cX0_copy 8 = .ok (.iload_n 3, 1) := dk_29 (dk_at dksX0_copy_0 8 rfl rfl)
theorem dX0_copy_9 : decode cX0_copy 9 = .ok (.invokevirtual 277, 3) := dk_182 1 21 (dk_at dksX0_copy_0 9 rfl rfl)
theorem dX0_copy_12 : decode cX0_copy 12 = .ok (.astore 7, 2) := dk_58 7 (dk_at dksX0_copy_0 12 rfl rfl)
theorem dX0_copy_14 : decode cX0_copy 14 = .ok (.aload_n 0, 1) := dk_42 (dk_at dksX0_copy_0 14 rfl rfl)
theorem dX0_copy_15 : decode cX0_copy 15 = .ok (.aload 6, 2) := dk_25 6 (dk_at dksX0_copy_0 15 rfl rfl)
theorem dX0_copy_17 : decode cX0_copy 17 = .ok (.ifnull 12, 3) := dk_198 0 12 (dk_at dksX0_copy_0 17 rfl rfl)
theorem dX0_copy_20 : decode cX0_copy 20 = .ok (.aload 7, 2) := dk_25 7 (dk_at dksX0_copy_0 20 rfl rfl)
theorem dX0_copy_22 : decode cX0_copy 22 = .ok (.ifnull 7, 3) := dk_198 0 7 (dk_at dksX0_copy_1 0 rfl rfl)
theorem dX0_copy_25 : decode cX0_copy 25 = .ok (.iconst 1, 1) := dk_4 (dk_at dksX0_copy_1 3 rfl rfl)
theorem dX0_copy_26 : decode cX0_copy 26 = .ok (.goto 4, 3) := dk_167 0 4 (dk_at dksX0_copy_1 4 rfl rfl)
theorem dX0_copy_29 : decode cX0_copy 29 = .ok (.iconst 0, 1) := dk_3 (dk_at dksX0_copy_1 7 rfl rfl)
theorem dX0_copy_30 : decode cX0_copy 30 = .ok (.iconst 5, 1) := dk_8 (dk_at dksX0_copy_1 8 rfl rfl)
theorem dX0_copy_31 : decode cX0_copy 31 = .ok (.invokevirtual 281, 3) := dk_182 1 25 (dk_at dksX0_copy_1 9 rfl rfl)
theorem dX0_copy_34 : decode cX0_copy 34 = .ok (.aload_n 0, 1) := dk_42 (dk_at dksX0_copy_1 12 rfl rfl)
theorem dX0_copy_35 : decode cX0_copy 35 = .ok (.aload 6, 2) := dk_25 6 (dk_at dksX0_copy_1 13 rfl rfl)
theorem dX0_copy_37 : decode cX0_copy 37 = .ok (.invokestatic 407, 3) := dk_184 1 151 (dk_at dksX0_copy_1 15 rfl rfl)
theorem dX0_copy_40 : decode cX0_copy 40 = .ok (.aload 7, 2) := dk_25 7 (dk_at dksX0_copy_1 18 rfl rfl)
theorem dX0_copy_42 : decode cX0_copy 42 = .ok (.invokestatic 407, 3) := dk_184 1 151 (dk_at dksX0_copy_1 20 rfl rfl)
theorem dX0_copy_45 : decode cX0_copy 45 = .ok (.if_icmp .ne 7, 3) := dk_160 0 7 (dk_at dksX0_copy_2 0 rfl rfl)
theorem dX0_copy_48 : decode cX0_copy 48 = .ok (.iconst 1, 1) := dk_4 (dk_at dksX0_copy_2 3 rfl rfl)
theorem dX0_copy_49 : decode cX0_copy 49 = .ok (.goto 4, 3) := dk_167 0 4 (dk_at dksX0_copy_2 4 rfl rfl)
theorem dX0_copy_52 : decode cX0_copy 52 = .ok (.iconst 0, 1) := dk_3 (dk_at dksX0_copy_2 7 rfl rfl)
theorem dX0_copy_53 : decode cX0_copy 53 = .ok (.iconst 2, 1) := dk_5 (dk_at dksX0_copy_2 8 rfl rfl)
theorem dX0_copy_54 : decode cX0_copy 54 = .ok (.invokevirtual 281, 3) := dk_182 1 25 (dk_at dksX0_copy_2 9 rfl rfl)
theorem dX0_copy_57 : decode cX0_copy 57 = .ok (.aload_n 0, 1) := dk_42 (dk_at dksX0_copy_2 12 rfl rfl)
theorem dX0_copy_58 : decode cX0_copy 58 = .ok (.iload 5, 2) := dk_21 5 (dk_at dksX0_copy_2 13 rfl rfl)
theorem dX0_copy_60 : decode cX0_copy 60 = .ok (.ifCond .lt 41, 3) := dk_155 0 41 (dk_at dksX0_copy_2 15 rfl rfl)
theorem dX0_copy_63 : decode cX0_copy 63 = .ok (.iload_n 2, 1) := dk_28 (dk_at dksX0_copy_2 18 rfl rfl)
theorem dX0_copy_64 : decode cX0_copy 64 = .ok (.ifCond .lt 37, 3) := dk_155 0 37 (dk_at dksX0_copy_2 19 rfl rfl)
theorem dX0_copy_67 : decode cX0_copy 67 = .ok (.iload 4, 2) := dk_21 4 (dk_at dksX0_copy_2 22 rfl rfl)
theorem dX0_copy_69 : decode cX0_copy 69 = .ok (.ifCond .lt 32, 3) := dk_155 0 32 (dk_at dksX0_copy_3 0 rfl rfl)
theorem dX0_copy_72 : decode cX0_copy 72 = .ok (.iload_n 2, 1) := dk_28 (dk_at dksX0_copy_3 3 rfl rfl)
theorem dX0_copy_73 : decode cX0_copy 73 = .ok (.aload 6, 2) := dk_25 6 (dk_at dksX0_copy_3 4 rfl rfl)
theorem dX0_copy_75 : decode cX0_copy 75 = .ok (.invokestatic 273, 3) := dk_184 1 17 (dk_at dksX0_copy_3 6 rfl rfl)
theorem dX0_copy_78 : decode cX0_copy 78 = .ok (.iload 5, 2) := dk_21 5 (dk_at dksX0_copy_3 9 rfl rfl)
theorem dX0_copy_80 : decode cX0_copy 80 = .ok (.isub, 1) := dk_100 (dk_at dksX0_copy_3 11 rfl rfl)
theorem dX0_copy_81 : decode cX0_copy 81 = .ok (.if_icmp .gt 20, 3) := dk_163 0 20 (dk_at dksX0_copy_3 12 rfl rfl)
theorem dX0_copy_84 : decode cX0_copy 84 = .ok (.iload 4, 2) := dk_21 4 (dk_at dksX0_copy_3 15 rfl rfl)
theorem dX0_copy_86 : decode cX0_copy 86 = .ok (.aload 7, 2) := dk_25 7 (dk_at dksX0_copy_3 17 rfl rfl)
theorem dX0_copy_88 : decode cX0_copy 88 = .ok (.invokestatic 273, 3) := dk_184 1 17 (dk_at dksX0_copy_3 19 rfl rfl)
theorem dX0_copy_91 : decode cX0_copy 91 = .ok (.iload 5, 2) := dk_21 5 (dk_at dksX0_copy_3 22 rfl rfl)
theorem dX0_copy_93 : decode cX0_copy 93 = .ok (.isub, 1) := dk_100 (dk_at dksX0_copy_4 0 rfl rfl)
theorem dX0_copy_94 : decode cX0_copy 94 = .ok (.if_icmp .gt 7, 3) := dk_163 0 7 (dk_at dksX0_copy_4 1 rfl rfl)
theorem dX0_copy_97 : decode cX0_copy 97 = .ok (.iconst 1, 1) := dk_4 (dk_at dksX0_copy_4 4 rfl rfl)
theorem dX0_copy_98 : decode cX0_copy 98 = .ok (.goto 4, 3) := dk_167 0 4 (dk_at dksX0_copy_4 5 rfl rfl)
theorem dX0_copy_101 : decode cX0_copy 101 = .ok (.iconst 0, 1) := dk_3 (dk_at dksX0_copy_4 8 rfl rfl)
theorem dX0_copy_102 : decode cX0_copy 102 = .ok (.iconst 0, 1) := dk_3 (dk_at dksX0_copy_4 9 rfl rfl)
theorem dX0_copy_103 : decode cX0_copy 103 = .ok (.invokevirtual 281, 3) := dk_182 1 25 (dk_at dksX0_copy_4 10 rfl rfl)
theorem dX0_copy_106 : decode cX0_copy 106 = .ok (.aload 6, 2) := dk_25 6 (dk_at dksX0_copy_4 13 rfl rfl)
theorem dX0_copy_108 : decode cX0_copy 108 = .ok (.iload_n 2, 1) := dk_28 (dk_at dksX0_copy_4 15 rfl rfl)
theorem dX0_copy_109 : decode cX0_copy 109 = .ok (.aload 7, 2) := dk_25 7 (dk_at dksX0_copy_4 16 rfl rfl)
theorem dX0_copy_111 : decode cX0_copy 111 = .ok (.iload 4, 2) := dk_21 4 (dk_at dksX0_copy_4 18 rfl rfl)
theorem dX0_copy_113 : decode cX0_copy 113 = .ok (.iload 5, 2) := dk_21 5 (dk_at dksX0_copy_4 20 rfl rfl)
theorem dX0_copy_115 : decode cX0_copy 115 = .ok (.invokestatic 410, 3) := dk_184 1 154 (dk_at dksX0_copy_5 0 rfl rfl)
theorem dX0_copy_118 : decode cX0_copy 118 = .ok (.iload 5, 2) := dk_21 5 (dk_at dksX0_copy_5 3 rfl rfl)
theorem dX0_copy_120 : decode cX0_copy 120 = .ok (.ireturn, 1) := dk_172 (dk_at dksX0_copy_5 5 rfl rfl)
theorem dX0_copy_121 : decode cX0_copy 121 = .ok (.astore 6, 2) := dk_58 6 (dk_at dksX0_copy_5 6 rfl rfl)
theorem dX0_copy_123 : decode cX0_copy 123 = .ok (.aload_n 0, 1) := dk_42 (dk_at dksX0_copy_5 8 rfl rfl)
theorem dX0_copy_124 : decode cX0_copy 124 = .ok (.aload 6, 2) := dk_25 6 (dk_at dksX0_copy_5 9 rfl rfl)
theorem dX0_copy_126 : decode cX0_copy 126 = .ok (.getfield 128, 3) := dk_180 0 128 (dk_at dksX0_copy_5 11 rfl rfl)
theorem dX0_copy_129 : decode cX0_copy 129 = .ok (.invokevirtual 138, 3) := dk_182 0 138 (dk_at dksX0_copy_5 14 rfl rfl)
theorem dX0_copy_132 : decode cX0_copy 132 = .ok (.ireturn, 1) := dk_172 (dk_at dksX0_copy_5 17 rfl rfl)
abbrev cX0_widthOf : ByteArray := prog_1_method_97_code
def yX0_widthOf : MethodName := ⟨RX0, "widthOf", "(Ljava/lang/Object;)I"⟩
def dkwX0_widthOf_1 : List UInt8 := [16, 32, 172]
abbrev dktX0_widthOf_1 : List UInt8 := dkwX0_widthOf_1 ++ []
def dkwX0_widthOf_0 : List UInt8 := [42, 193, 1, 137, 153, 0, 8, 16, 8, 167, 0, 17, 42, 193, 1, 138, 153, 0, 8, 16, 16, 167, 0, 5]
abbrev dktX0_widthOf_0 : List UInt8 := dkwX0_widthOf_0 ++ dktX0_widthOf_1
theorem dksX0_widthOf_0 : cX0_widthOf.data.toList.drop 0 = dktX0_widthOf_0 := by decide +kernel
theorem dksX0_widthOf_1 : cX0_widthOf.data.toList.drop 24 = dktX0_widthOf_1 := dk_seg dksX0_widthOf_0 24 rfl rfl
theorem dX0_widthOf_0 : decode cX0_widthOf 0 = .ok (.aload_n 0, 1) := dk_42 (dk_at dksX0_widthOf_0 0 rfl rfl)
theorem dX0_widthOf_1 : decode cX0_widthOf 1 = .ok (.instanceof 393, 3) := dk_193 1 137 (dk_at dksX0_widthOf_0 1 rfl rfl)
theorem dX0_widthOf_4 : decode cX0_widthOf 4 = .ok (.ifCond .eq 8, 3) := dk_153 0 8 (dk_at dksX0_widthOf_0 4 rfl rfl)
theorem dX0_widthOf_7 : decode cX0_widthOf 7 = .ok (.bipush 8, 2) := dk_16 8 (dk_at dksX0_widthOf_0 7 rfl rfl)
theorem dX0_widthOf_9 : decode cX0_widthOf 9 = .ok (.goto 17, 3) := dk_167 0 17 (dk_at dksX0_widthOf_0 9 rfl rfl)
theorem dX0_widthOf_12 : decode cX0_widthOf 12 = .ok (.aload_n 0, 1) := dk_42 (dk_at dksX0_widthOf_0 12 rfl rfl)
theorem dX0_widthOf_13 : decode cX0_widthOf 13 = .ok (.instanceof 394, 3) := dk_193 1 138 (dk_at dksX0_widthOf_0 13 rfl rfl)
theorem dX0_widthOf_16 : decode cX0_widthOf 16 = .ok (.ifCond .eq 8, 3) := dk_153 0 8 (dk_at dksX0_widthOf_0 16 rfl rfl)
theorem dX0_widthOf_19 : decode cX0_widthOf 19 = .ok (.bipush 16, 2) := dk_16 16 (dk_at dksX0_widthOf_0 19 rfl rfl)
theorem dX0_widthOf_21 : decode cX0_widthOf 21 = .ok (.goto 5, 3) := dk_167 0 5 (dk_at dksX0_widthOf_0 21 rfl rfl)
theorem dX0_widthOf_24 : decode cX0_widthOf 24 = .ok (.bipush 32, 2) := dk_16 32 (dk_at dksX0_widthOf_1 0 rfl rfl)
theorem dX0_widthOf_26 : decode cX0_widthOf 26 = .ok (.ireturn, 1) := dk_172 (dk_at dksX0_widthOf_1 2 rfl rfl)
abbrev cX0_slide : ByteArray := prog_1_method_100_code
def yX0_slide : MethodName := ⟨RX0, "slide", "(Ljava/lang/Object;ILjava/lang/Object;II)V"⟩
def dkwX0_slide_2 : List UInt8 := [184, 1, 145, 167, 0, 18, 42, 192, 1, 140, 27, 44, 192, 1, 140, 29, 21, 4, 184, 1, 145, 177]
abbrev dktX0_slide_2 : List UInt8 := dkwX0_slide_2 ++ []
def dkwX0_slide_1 : List UInt8 := [167, 0, 43, 42, 193, 1, 138, 153, 0, 21, 42, 192, 1, 138, 27, 44, 192, 1, 138, 29, 21, 4]
abbrev dktX0_slide_1 : List UInt8 := dkwX0_slide_1 ++ dktX0_slide_2
def dkwX0_slide_0 : List UInt8 := [42, 193, 1, 137, 153, 0, 21, 42, 192, 1, 137, 27, 44, 192, 1, 137, 29, 21, 4, 184, 1, 145]
abbrev dktX0_slide_0 : List UInt8 := dkwX0_slide_0 ++ dktX0_slide_1
theorem dksX0_slide_0 : cX0_slide.data.toList.drop 0 = dktX0_slide_0 := by decide +kernel
theorem dksX0_slide_1 : cX0_slide.data.toList.drop 22 = dktX0_slide_1 := dk_seg dksX0_slide_0 22 rfl rfl
theorem dksX0_slide_2 : cX0_slide.data.toList.drop 44 = dktX0_slide_2 := dk_seg dksX0_slide_1 22 rfl rfl
theorem dX0_slide_0 : decode cX0_slide 0 = .ok (.aload_n 0, 1) := dk_42 (dk_at dksX0_slide_0 0 rfl rfl)
theorem dX0_slide_1 : decode cX0_slide 1 = .ok (.instanceof 393, 3) := dk_193 1 137 (dk_at dksX0_slide_0 1 rfl rfl)
theorem dX0_slide_4 : decode cX0_slide 4 = .ok (.ifCond .eq 21, 3) := dk_153 0 21 (dk_at dksX0_slide_0 4 rfl rfl)
theorem dX0_slide_7 : decode cX0_slide 7 = .ok (.aload_n 0, 1) := dk_42 (dk_at dksX0_slide_0 7 rfl rfl)
theorem dX0_slide_8 : decode cX0_slide 8 = .ok (.checkcast 393, 3) := dk_192 1 137 (dk_at dksX0_slide_0 8 rfl rfl)
theorem dX0_slide_11 : decode cX0_slide 11 = .ok (.iload_n 1, 1) := dk_27 (dk_at dksX0_slide_0 11 rfl rfl)
theorem dX0_slide_12 : decode cX0_slide 12 = .ok (.aload_n 2, 1) := dk_44 (dk_at dksX0_slide_0 12 rfl rfl)
theorem dX0_slide_13 : decode cX0_slide 13 = .ok (.checkcast 393, 3) := dk_192 1 137 (dk_at dksX0_slide_0 13 rfl rfl)
theorem dX0_slide_16 : decode cX0_slide 16 = .ok (.iload_n 3, 1) := dk_29 (dk_at dksX0_slide_0 16 rfl rfl)
theorem dX0_slide_17 : decode cX0_slide 17 = .ok (.iload 4, 2) := dk_21 4 (dk_at dksX0_slide_0 17 rfl rfl)
theorem dX0_slide_19 : decode cX0_slide 19 = .ok (.invokestatic 401, 3) := dk_184 1 145 (dk_at dksX0_slide_0 19 rfl rfl)
theorem dX0_slide_22 : decode cX0_slide 22 = .ok (.goto 43, 3) := dk_167 0 43 (dk_at dksX0_slide_1 0 rfl rfl)
theorem dX0_slide_25 : decode cX0_slide 25 = .ok (.aload_n 0, 1) := dk_42 (dk_at dksX0_slide_1 3 rfl rfl)
theorem dX0_slide_26 : decode cX0_slide 26 = .ok (.instanceof 394, 3) := dk_193 1 138 (dk_at dksX0_slide_1 4 rfl rfl)
theorem dX0_slide_29 : decode cX0_slide 29 = .ok (.ifCond .eq 21, 3) := dk_153 0 21 (dk_at dksX0_slide_1 7 rfl rfl)
theorem dX0_slide_32 : decode cX0_slide 32 = .ok (.aload_n 0, 1) := dk_42 (dk_at dksX0_slide_1 10 rfl rfl)
theorem dX0_slide_33 : decode cX0_slide 33 = .ok (.checkcast 394, 3) := dk_192 1 138 (dk_at dksX0_slide_1 11 rfl rfl)
theorem dX0_slide_36 : decode cX0_slide 36 = .ok (.iload_n 1, 1) := dk_27 (dk_at dksX0_slide_1 14 rfl rfl)
theorem dX0_slide_37 : decode cX0_slide 37 = .ok (.aload_n 2, 1) := dk_44 (dk_at dksX0_slide_1 15 rfl rfl)
theorem dX0_slide_38 : decode cX0_slide 38 = .ok (.checkcast 394, 3) := dk_192 1 138 (dk_at dksX0_slide_1 16 rfl rfl)
theorem dX0_slide_41 : decode cX0_slide 41 = .ok (.iload_n 3, 1) := dk_29 (dk_at dksX0_slide_1 19 rfl rfl)
theorem dX0_slide_42 : decode cX0_slide 42 = .ok (.iload 4, 2) := dk_21 4 (dk_at dksX0_slide_1 20 rfl rfl)
theorem dX0_slide_44 : decode cX0_slide 44 = .ok (.invokestatic 401, 3) := dk_184 1 145 (dk_at dksX0_slide_2 0 rfl rfl)
theorem dX0_slide_47 : decode cX0_slide 47 = .ok (.goto 18, 3) := dk_167 0 18 (dk_at dksX0_slide_2 3 rfl rfl)
theorem dX0_slide_50 : decode cX0_slide 50 = .ok (.aload_n 0, 1) := dk_42 (dk_at dksX0_slide_2 6 rfl rfl)
theorem dX0_slide_51 : decode cX0_slide 51 = .ok (.checkcast 396, 3) := dk_192 1 140 (dk_at dksX0_slide_2 7 rfl rfl)
theorem dX0_slide_54 : decode cX0_slide 54 = .ok (.iload_n 1, 1) := dk_27 (dk_at dksX0_slide_2 10 rfl rfl)
theorem dX0_slide_55 : decode cX0_slide 55 = .ok (.aload_n 2, 1) := dk_44 (dk_at dksX0_slide_2 11 rfl rfl)
theorem dX0_slide_56 : decode cX0_slide 56 = .ok (.checkcast 396, 3) := dk_192 1 140 (dk_at dksX0_slide_2 12 rfl rfl)
theorem dX0_slide_59 : decode cX0_slide 59 = .ok (.iload_n 3, 1) := dk_29 (dk_at dksX0_slide_2 15 rfl rfl)
theorem dX0_slide_60 : decode cX0_slide 60 = .ok (.iload 4, 2) := dk_21 4 (dk_at dksX0_slide_2 16 rfl rfl)
theorem dX0_slide_62 : decode cX0_slide 62 = .ok (.invokestatic 401, 3) := dk_184 1 145 (dk_at dksX0_slide_2 18 rfl rfl)
theorem dX0_slide_65 : decode cX0_slide 65 = .ok (.return_, 1) := dk_177 (dk_at dksX0_slide_2 21 rfl rfl)
abbrev cX0_load : ByteArray := prog_1_method_103_code
def yX0_load : MethodName := ⟨RX0, "load", "(I)I"⟩
def dkwX0_load_1 : List UInt8 := [182, 1, 157, 172, 77, 42, 44, 180, 0, 128, 182, 0, 138, 172]
abbrev dktX0_load_1 : List UInt8 := dkwX0_load_1 ++ []
def dkwX0_load_0 : List UInt8 := [42, 27, 182, 1, 21, 77, 42, 44, 198, 0, 7, 4, 167, 0, 4, 3, 8, 182, 1, 25, 42, 44]
abbrev dktX0_load_0 : List UInt8 := dkwX0_load_0 ++ dktX0_load_1
theorem dksX0_load_0 : cX0_load.data.toList.drop 0 = dktX0_load_0 := by decide +kernel
theorem dksX0_load_1 : cX0_load.data.toList.drop 22 = dktX0_load_1 := dk_seg dksX0_load_0 22 rfl rfl
theorem dX0_load_0 : decode cX0_load 0 = .ok (.aload_n 0, 1) := dk_42 (dk_at dksX0_load_0 0 rfl rfl)
theorem dX0_load_1 : decode cX0_load 1 = .ok (.iload_n 1, 1) := dk_27 (dk_at dksX0_load_0 1 rfl rfl)
theorem dX0_load_2 : decode cX0_load 2 = .ok (.invokevirtual 277, 3) := dk_182 1 21 (dk_at dksX0_load_0 2 rfl rfl)
theorem dX0_load_5 : decode cX0_load 5 = .ok (.astore_n 2, 1) := dk_77 (dk_at dksX0_load_0 5 rfl rfl)
theorem dX0_load_6 : decode cX0_load 6 = .ok (.aload_n 0, 1) := dk_42 (dk_at dksX0_load_0 6 rfl rfl)
theorem dX0_load_7 : decode cX0_load 7 = .ok (.aload_n 2, 1) := dk_44 (dk_at dksX0_load_0 7 rfl rfl)
theorem dX0_load_8 : decode cX0_load 8 = .ok (.ifnull 7, 3) := dk_198 0 7 (dk_at dksX0_load_0 8 rfl rfl)
theorem dX0_load_11 : decode cX0_load 11 = .ok (.iconst 1, 1) := dk_4 (dk_at dksX0_load_0 11 rfl rfl)
theorem dX0_load_12 : decode cX0_load 12 = .ok (.goto 4, 3) := dk_167 0 4 (dk_at dksX0_load_0 12 rfl rfl)
theorem dX0_load_15 : decode cX0_load 15 = .ok (.iconst 0, 1) := dk_3 (dk_at dksX0_load_0 15 rfl rfl)
theorem dX0_load_16 : decode cX0_load 16 = .ok (.iconst 5, 1) := dk_8 (dk_at dksX0_load_0 16 rfl rfl)
theorem dX0_load_17 : decode cX0_load 17 = .ok (.invokevirtual 281, 3) := dk_182 1 25 (dk_at dksX0_load_0 17 rfl rfl)
theorem dX0_load_20 : decode cX0_load 20 = .ok (.aload_n 0, 1) := dk_42 (dk_at dksX0_load_0 20 rfl rfl)
theorem dX0_load_21 : decode cX0_load 21 = .ok (.aload_n 2, 1) := dk_44 (dk_at dksX0_load_0 21 rfl rfl)
theorem dX0_load_22 : decode cX0_load 22 = .ok (.invokevirtual 413, 3) := dk_182 1 157 (dk_at dksX0_load_1 0 rfl rfl)
theorem dX0_load_25 : decode cX0_load 25 = .ok (.ireturn, 1) := dk_172 (dk_at dksX0_load_1 3 rfl rfl)
theorem dX0_load_26 : decode cX0_load 26 = .ok (.astore_n 2, 1) := dk_77 (dk_at dksX0_load_1 4 rfl rfl)
theorem dX0_load_27 : decode cX0_load 27 = .ok (.aload_n 0, 1) := dk_42 (dk_at dksX0_load_1 5 rfl rfl)
theorem dX0_load_28 : decode cX0_load 28 = .ok (.aload_n 2, 1) := dk_44 (dk_at dksX0_load_1 6 rfl rfl)
theorem dX0_load_29 : decode cX0_load 29 = .ok (.getfield 128, 3) := dk_180 0 128 (dk_at dksX0_load_1 7 rfl rfl)
theorem dX0_load_32 : decode cX0_load 32 = .ok (.invokevirtual 138, 3) := dk_182 0 138 (dk_at dksX0_load_1 10 rfl rfl)
theorem dX0_load_35 : decode cX0_load 35 = .ok (.ireturn, 1) := dk_172 (dk_at dksX0_load_1 13 rfl rfl)
abbrev cX0_loads : ByteArray := prog_1_method_102_code
def yX0_loads : MethodName := ⟨RX0, "loads", "(Ljava/lang/Object;)I"⟩
def dkwX0_loads_2 : List UInt8 := [132, 2, 1, 167, 255, 207, 28, 172]
abbrev dktX0_loads_2 : List UInt8 := dkwX0_loads_2 ++ []
def dkwX0_loads_1 : List UInt8 := [16, 11, 184, 0, 9, 153, 0, 25, 42, 180, 0, 78, 180, 0, 123, 5, 50, 28, 43, 28, 184, 1, 32, 79]
abbrev dktX0_loads_1 : List UInt8 := dkwX0_loads_1 ++ dktX0_loads_2
def dkwX0_loads_0 : List UInt8 := [3, 61, 28, 43, 184, 1, 17, 162, 0, 47, 42, 28, 182, 0, 195, 153, 0, 39, 43, 28, 184, 1, 32, 3]
abbrev dktX0_loads_0 : List UInt8 := dkwX0_loads_0 ++ dktX0_loads_1
theorem dksX0_loads_0 : cX0_loads.data.toList.drop 0 = dktX0_loads_0 := by decide +kernel
theorem dksX0_loads_1 : cX0_loads.data.toList.drop 24 = dktX0_loads_1 := dk_seg dksX0_loads_0 24 rfl rfl
theorem dksX0_loads_2 : cX0_loads.data.toList.drop 48 = dktX0_loads_2 := dk_seg dksX0_loads_1 24 rfl rfl
theorem dX0_loads_0 : decode cX0_loads 0 = .ok (.iconst 0, 1) := dk_3 (dk_at dksX0_loads_0 0 rfl rfl)
theorem dX0_loads_1 : decode cX0_loads 1 = .ok (.istore_n 2, 1) := dk_61 (dk_at dksX0_loads_0 1 rfl rfl)
theorem dX0_loads_2 : decode cX0_loads 2 = .ok (.iload_n 2, 1) := dk_28 (dk_at dksX0_loads_0 2 rfl rfl)
theorem dX0_loads_3 : decode cX0_loads 3 = .ok (.aload_n 1, 1) := dk_43 (dk_at dksX0_loads_0 3 rfl rfl)
theorem dX0_loads_4 : decode cX0_loads 4 = .ok (.invokestatic 273, 3) := dk_184 1 17 (dk_at dksX0_loads_0 4 rfl rfl)
theorem dX0_loads_7 : decode cX0_loads 7 = .ok (.if_icmp .ge 47, 3) := dk_162 0 47 (dk_at dksX0_loads_0 7 rfl rfl)
theorem dX0_loads_10 : decode cX0_loads 10 = .ok (.aload_n 0, 1) := dk_42 (dk_at dksX0_loads_0 10 rfl rfl)
theorem dX0_loads_11 : decode cX0_loads 11 = .ok (.iload_n 2, 1) := dk_28 (dk_at dksX0_loads_0 11 rfl rfl)
theorem dX0_loads_12 : decode cX0_loads 12 = .ok (.invokevirtual 195, 3) := dk_182 0 195 (dk_at dksX0_loads_0 12 rfl rfl)
theorem dX0_loads_15 : decode cX0_loads 15 = .ok (.ifCond .eq 39, 3) := dk_153 0 39 (dk_at dksX0_loads_0 15 rfl rfl)
theorem dX0_loads_18 : decode cX0_loads 18 = .ok (.aload_n 1, 1) := dk_43 (dk_at dksX0_loads_0 18 rfl rfl)
theorem dX0_loads_19 : decode cX0_loads 19 = .ok (.iload_n 2, 1) := dk_28 (dk_at dksX0_loads_0 19 rfl rfl)
theorem dX0_loads_20 : decode cX0_loads 20 = .ok (.invokestatic 288, 3) := dk_184 1 32 (dk_at dksX0_loads_0 20 rfl rfl)
theorem dX0_loads_23 : decode cX0_loads 23 = .ok (.iconst 0, 1) := dk_3 (dk_at dksX0_loads_0 23 rfl rfl)
theorem dX0_loads_24 : decode cX0_loads 24 = .ok (.bipush 11, 2) := dk_16 11 (dk_at dksX0_loads_1 0 rfl rfl)
theorem dX0_loads_26 : decode cX0_loads 26 = .ok (.invokestatic 9, 3) := dk_184 0 9 (dk_at dksX0_loads_1 2 rfl rfl)
theorem dX0_loads_29 : decode cX0_loads 29 = .ok (.ifCond .eq 25, 3) := dk_153 0 25 (dk_at dksX0_loads_1 5 rfl rfl)
theorem dX0_loads_32 : decode cX0_loads 32 = .ok (.aload_n 0, 1) := dk_42 (dk_at dksX0_loads_1 8 rfl rfl)
theorem dX0_loads_33 : decode cX0_loads 33 = .ok (.getfield 78, 3) := dk_180 0 78 (dk_at dksX0_loads_1 9 rfl rfl)
theorem dX0_loads_36 : decode cX0_loads 36 = .ok (.getfield 123, 3) := dk_180 0 123 (dk_at dksX0_loads_1 12 rfl rfl)
theorem dX0_loads_39 : decode cX0_loads 39 = .ok (.iconst 2, 1) := dk_5 (dk_at dksX0_loads_1 15 rfl rfl)
theorem dX0_loads_40 : decode cX0_loads 40 = .ok (.aaload, 1) := dk_50 (dk_at dksX0_loads_1 16 rfl rfl)
theorem dX0_loads_41 : decode cX0_loads 41 = .ok (.iload_n 2, 1) := dk_28 (dk_at dksX0_loads_1 17 rfl rfl)
theorem dX0_loads_42 : decode cX0_loads 42 = .ok (.aload_n 1, 1) := dk_43 (dk_at dksX0_loads_1 18 rfl rfl)
theorem dX0_loads_43 : decode cX0_loads 43 = .ok (.iload_n 2, 1) := dk_28 (dk_at dksX0_loads_1 19 rfl rfl)
theorem dX0_loads_44 : decode cX0_loads 44 = .ok (.invokestatic 288, 3) := dk_184 1 32 (dk_at dksX0_loads_1 20 rfl rfl)
theorem dX0_loads_47 : decode cX0_loads 47 = .ok (.iastore, 1) := dk_79 (dk_at dksX0_loads_1 23 rfl rfl)
theorem dX0_loads_48 : decode cX0_loads 48 = .ok (.iinc 2 1, 3) := dk_132 2 1 (dk_at dksX0_loads_2 0 rfl rfl)
theorem dX0_loads_51 : decode cX0_loads 51 = .ok (.goto (-49), 3) := dk_167 255 207 (dk_at dksX0_loads_2 3 rfl rfl)
theorem dX0_loads_54 : decode cX0_loads 54 = .ok (.iload_n 2, 1) := dk_28 (dk_at dksX0_loads_2 6 rfl rfl)
theorem dX0_loads_55 : decode cX0_loads 55 = .ok (.ireturn, 1) := dk_172 (dk_at dksX0_loads_2 7 rfl rfl)
abbrev cX0_judge : ByteArray := prog_1_method_105_code
def yX0_judge : MethodName := ⟨RX0, "judge", "(I)I"⟩
def dkwX0_judge_2 : List UInt8 := [184, 1, 17, 160, 0, 7, 3, 167, 0, 6, 4, 29, 96, 172, 77, 42, 44, 180, 0, 128, 182, 0, 138, 172]
abbrev dktX0_judge_2 : List UInt8 := dkwX0_judge_2 ++ []
def dkwX0_judge_1 : List UInt8 := [184, 1, 17, 162, 0, 18, 42, 44, 29, 182, 1, 160, 153, 0, 9, 132, 3, 1, 167, 255, 236, 29, 44]
abbrev dktX0_judge_1 : List UInt8 := dkwX0_judge_1 ++ dktX0_judge_2
def dkwX0_judge_0 : List UInt8 := [42, 27, 182, 1, 21, 77, 42, 44, 198, 0, 7, 4, 167, 0, 4, 3, 8, 182, 1, 25, 3, 62, 29, 44]
abbrev dktX0_judge_0 : List UInt8 := dkwX0_judge_0 ++ dktX0_judge_1
theorem dksX0_judge_0 : cX0_judge.data.toList.drop 0 = dktX0_judge_0 := by decide +kernel
theorem dksX0_judge_1 : cX0_judge.data.toList.drop 24 = dktX0_judge_1 := dk_seg dksX0_judge_0 24 rfl rfl
theorem dksX0_judge_2 : cX0_judge.data.toList.drop 47 = dktX0_judge_2 := dk_seg dksX0_judge_1 23 rfl rfl
theorem dX0_judge_0 : decode cX0_judge 0 = .ok (.aload_n 0, 1) := dk_42 (dk_at dksX0_judge_0 0 rfl rfl)
theorem dX0_judge_1 : decode cX0_judge 1 = .ok (.iload_n 1, 1) := dk_27 (dk_at dksX0_judge_0 1 rfl rfl)
theorem dX0_judge_2 : decode cX0_judge 2 = .ok (.invokevirtual 277, 3) := dk_182 1 21 (dk_at dksX0_judge_0 2 rfl rfl)
theorem dX0_judge_5 : decode cX0_judge 5 = .ok (.astore_n 2, 1) := dk_77 (dk_at dksX0_judge_0 5 rfl rfl)
theorem dX0_judge_6 : decode cX0_judge 6 = .ok (.aload_n 0, 1) := dk_42 (dk_at dksX0_judge_0 6 rfl rfl)
theorem dX0_judge_7 : decode cX0_judge 7 = .ok (.aload_n 2, 1) := dk_44 (dk_at dksX0_judge_0 7 rfl rfl)
theorem dX0_judge_8 : decode cX0_judge 8 = .ok (.ifnull 7, 3) := dk_198 0 7 (dk_at dksX0_judge_0 8 rfl rfl)
theorem dX0_judge_11 : decode cX0_judge 11 = .ok (.iconst 1, 1) := dk_4 (dk_at dksX0_judge_0 11 rfl rfl)
theorem dX0_judge_12 : decode cX0_judge 12 = .ok (.goto 4, 3) := dk_167 0 4 (dk_at dksX0_judge_0 12 rfl rfl)
theorem dX0_judge_15 : decode cX0_judge 15 = .ok (.iconst 0, 1) := dk_3 (dk_at dksX0_judge_0 15 rfl rfl)
theorem dX0_judge_16 : decode cX0_judge 16 = .ok (.iconst 5, 1) := dk_8 (dk_at dksX0_judge_0 16 rfl rfl)
theorem dX0_judge_17 : decode cX0_judge 17 = .ok (.invokevirtual 281, 3) := dk_182 1 25 (dk_at dksX0_judge_0 17 rfl rfl)
theorem dX0_judge_20 : decode cX0_judge 20 = .ok (.iconst 0, 1) := dk_3 (dk_at dksX0_judge_0 20 rfl rfl)
theorem dX0_judge_21 : decode cX0_judge 21 = .ok (.istore_n 3, 1) := dk_62 (dk_at dksX0_judge_0 21 rfl rfl)
theorem dX0_judge_22 : decode cX0_judge 22 = .ok (.iload_n 3, 1) := dk_29 (dk_at dksX0_judge_0 22 rfl rfl)
theorem dX0_judge_23 : decode cX0_judge 23 = .ok (.aload_n 2, 1) := dk_44 (dk_at dksX0_judge_0 23 rfl rfl)
theorem dX0_judge_24 : decode cX0_judge 24 = .ok (.invokestatic 273, 3) := dk_184 1 17 (dk_at dksX0_judge_1 0 rfl rfl)
theorem dX0_judge_27 : decode cX0_judge 27 = .ok (.if_icmp .ge 18, 3) := dk_162 0 18 (dk_at dksX0_judge_1 3 rfl rfl)
theorem dX0_judge_30 : decode cX0_judge 30 = .ok (.aload_n 0, 1) := dk_42 (dk_at dksX0_judge_1 6 rfl rfl)
theorem dX0_judge_31 : decode cX0_judge 31 = .ok (.aload_n 2, 1) := dk_44 (dk_at dksX0_judge_1 7 rfl rfl)
theorem dX0_judge_32 : decode cX0_judge 32 = .ok (.iload_n 3, 1) := dk_29 (dk_at dksX0_judge_1 8 rfl rfl)
theorem dX0_judge_33 : decode cX0_judge 33 = .ok (.invokevirtual 416, 3) := dk_182 1 160 (dk_at dksX0_judge_1 9 rfl rfl)
theorem dX0_judge_36 : decode cX0_judge 36 = .ok (.ifCond .eq 9, 3) := dk_153 0 9 (dk_at dksX0_judge_1 12 rfl rfl)
theorem dX0_judge_39 : decode cX0_judge 39 = .ok (.iinc 3 1, 3) := dk_132 3 1 (dk_at dksX0_judge_1 15 rfl rfl)
theorem dX0_judge_42 : decode cX0_judge 42 = .ok (.goto (-20), 3) := dk_167 255 236 (dk_at dksX0_judge_1 18 rfl rfl)
theorem dX0_judge_45 : decode cX0_judge 45 = .ok (.iload_n 3, 1) := dk_29 (dk_at dksX0_judge_1 21 rfl rfl)
theorem dX0_judge_46 : decode cX0_judge 46 = .ok (.aload_n 2, 1) := dk_44 (dk_at dksX0_judge_1 22 rfl rfl)
theorem dX0_judge_47 : decode cX0_judge 47 = .ok (.invokestatic 273, 3) := dk_184 1 17 (dk_at dksX0_judge_2 0 rfl rfl)
theorem dX0_judge_50 : decode cX0_judge 50 = .ok (.if_icmp .ne 7, 3) := dk_160 0 7 (dk_at dksX0_judge_2 3 rfl rfl)
theorem dX0_judge_53 : decode cX0_judge 53 = .ok (.iconst 0, 1) := dk_3 (dk_at dksX0_judge_2 6 rfl rfl)
theorem dX0_judge_54 : decode cX0_judge 54 = .ok (.goto 6, 3) := dk_167 0 6 (dk_at dksX0_judge_2 7 rfl rfl)
theorem dX0_judge_57 : decode cX0_judge 57 = .ok (.iconst 1, 1) := dk_4 (dk_at dksX0_judge_2 10 rfl rfl)
theorem dX0_judge_58 : decode cX0_judge 58 = .ok (.iload_n 3, 1) := dk_29 (dk_at dksX0_judge_2 11 rfl rfl)
theorem dX0_judge_59 : decode cX0_judge 59 = .ok (.iadd, 1) := dk_96 (dk_at dksX0_judge_2 12 rfl rfl)
theorem dX0_judge_60 : decode cX0_judge 60 = .ok (.ireturn, 1) := dk_172 (dk_at dksX0_judge_2 13 rfl rfl)
theorem dX0_judge_61 : decode cX0_judge 61 = .ok (.astore_n 2, 1) := dk_77 (dk_at dksX0_judge_2 14 rfl rfl)
theorem dX0_judge_62 : decode cX0_judge 62 = .ok (.aload_n 0, 1) := dk_42 (dk_at dksX0_judge_2 15 rfl rfl)
theorem dX0_judge_63 : decode cX0_judge 63 = .ok (.aload_n 2, 1) := dk_44 (dk_at dksX0_judge_2 16 rfl rfl)
theorem dX0_judge_64 : decode cX0_judge 64 = .ok (.getfield 128, 3) := dk_180 0 128 (dk_at dksX0_judge_2 17 rfl rfl)
theorem dX0_judge_67 : decode cX0_judge 67 = .ok (.invokevirtual 138, 3) := dk_182 0 138 (dk_at dksX0_judge_2 20 rfl rfl)
theorem dX0_judge_70 : decode cX0_judge 70 = .ok (.ireturn, 1) := dk_172 (dk_at dksX0_judge_2 23 rfl rfl)
abbrev cX0_isRight : ByteArray := prog_1_method_104_code
def yX0_isRight : MethodName := ⟨RX0, "isRight", "(Ljava/lang/Object;I)Z"⟩
def dkwX0_isRight_2 : List UInt8 := [100, 4, 5, 184, 0, 9, 153, 0, 7, 4, 167, 0, 4, 3, 172]
abbrev dktX0_isRight_2 : List UInt8 := dkwX0_isRight_2 ++ []
def dkwX0_isRight_1 : List UInt8 := [180, 0, 123, 5, 50, 29, 46, 42, 180, 0, 78, 180, 0, 123, 5, 50, 43, 28, 4, 100, 184, 1, 32, 46]
abbrev dktX0_isRight_1 : List UInt8 := dkwX0_isRight_1 ++ dktX0_isRight_2
def dkwX0_isRight_0 : List UInt8 := [43, 28, 184, 1, 32, 62, 42, 29, 182, 0, 195, 153, 0, 48, 28, 153, 0, 40, 42, 180, 0, 78]
abbrev dktX0_isRight_0 : List UInt8 := dkwX0_isRight_0 ++ dktX0_isRight_1
theorem dksX0_isRight_0 : cX0_isRight.data.toList.drop 0 = dktX0_isRight_0 := by decide +kernel
theorem dksX0_isRight_1 : cX0_isRight.data.toList.drop 22 = dktX0_isRight_1 := dk_seg dksX0_isRight_0 22 rfl rfl
theorem dksX0_isRight_2 : cX0_isRight.data.toList.drop 46 = dktX0_isRight_2 := dk_seg dksX0_isRight_1 24 rfl rfl
theorem dX0_isRight_0 : decode cX0_isRight 0 = .ok (.aload_n 1, 1) := dk_43 (dk_at dksX0_isRight_0 0 rfl rfl)
theorem dX0_isRight_1 : decode cX0_isRight 1 = .ok (.iload_n 2, 1) := dk_28 (dk_at dksX0_isRight_0 1 rfl rfl)
theorem dX0_isRight_2 : decode cX0_isRight 2 = .ok (.invokestatic 288, 3) := dk_184 1 32 (dk_at dksX0_isRight_0 2 rfl rfl)
theorem dX0_isRight_5 : decode cX0_isRight 5 = .ok (.istore_n 3, 1) := dk_62 (dk_at dksX0_isRight_0 5 rfl rfl)
theorem dX0_isRight_6 : decode cX0_isRight 6 = .ok (.aload_n 0, 1) := dk_42 (dk_at dksX0_isRight_0 6 rfl rfl)
theorem dX0_isRight_7 : decode cX0_isRight 7 = .ok (.iload_n 3, 1) := dk_29 (dk_at dksX0_isRight_0 7 rfl rfl)
theorem dX0_isRight_8 : decode cX0_isRight 8 = .ok (.invokevirtual 195, 3) := dk_182 0 195 (dk_at dksX0_isRight_0 8 rfl rfl)
theorem dX0_isRight_11 : decode cX0_isRight 11 = .ok (.ifCond .eq 48, 3) := dk_153 0 48 (dk_at dksX0_isRight_0 11 rfl rfl)
theorem dX0_isRight_14 : decode cX0_isRight 14 = .ok (.iload_n 2, 1) := dk_28 (dk_at dksX0_isRight_0 14 rfl rfl)
theorem dX0_isRight_15 : decode cX0_isRight 15 = .ok (.ifCond .eq 40, 3) := dk_153 0 40 (dk_at dksX0_isRight_0 15 rfl rfl)
theorem dX0_isRight_18 : decode cX0_isRight 18 = .ok (.aload_n 0, 1) := dk_42 (dk_at dksX0_isRight_0 18 rfl rfl)
theorem dX0_isRight_19 : decode cX0_isRight 19 = .ok (.getfield 78, 3) := dk_180 0 78 (dk_at dksX0_isRight_0 19 rfl rfl)
theorem dX0_isRight_22 : decode cX0_isRight 22 = .ok (.getfield 123, 3) := dk_180 0 123 (dk_at dksX0_isRight_1 0 rfl rfl)
theorem dX0_isRight_25 : decode cX0_isRight 25 = .ok (.iconst 2, 1) := dk_5 (dk_at dksX0_isRight_1 3 rfl rfl)
theorem dX0_isRight_26 : decode cX0_isRight 26 = .ok (.aaload, 1) := dk_50 (dk_at dksX0_isRight_1 4 rfl rfl)
theorem dX0_isRight_27 : decode cX0_isRight 27 = .ok (.iload_n 3, 1) := dk_29 (dk_at dksX0_isRight_1 5 rfl rfl)
theorem dX0_isRight_28 : decode cX0_isRight 28 = .ok (.iaload, 1) := dk_46 (dk_at dksX0_isRight_1 6 rfl rfl)
theorem dX0_isRight_29 : decode cX0_isRight 29 = .ok (.aload_n 0, 1) := dk_42 (dk_at dksX0_isRight_1 7 rfl rfl)
theorem dX0_isRight_30 : decode cX0_isRight 30 = .ok (.getfield 78, 3) := dk_180 0 78 (dk_at dksX0_isRight_1 8 rfl rfl)
theorem dX0_isRight_33 : decode cX0_isRight 33 = .ok (.getfield 123, 3) := dk_180 0 123 (dk_at dksX0_isRight_1 11 rfl rfl)
theorem dX0_isRight_36 : decode cX0_isRight 36 = .ok (.iconst 2, 1) := dk_5 (dk_at dksX0_isRight_1 14 rfl rfl)
theorem dX0_isRight_37 : decode cX0_isRight 37 = .ok (.aaload, 1) := dk_50 (dk_at dksX0_isRight_1 15 rfl rfl)
theorem dX0_isRight_38 : decode cX0_isRight 38 = .ok (.aload_n 1, 1) := dk_43 (dk_at dksX0_isRight_1 16 rfl rfl)
theorem dX0_isRight_39 : decode cX0_isRight 39 = .ok (.iload_n 2, 1) := dk_28 (dk_at dksX0_isRight_1 17 rfl rfl)
theorem dX0_isRight_40 : decode cX0_isRight 40 = .ok (.iconst 1, 1) := dk_4 (dk_at dksX0_isRight_1 18 rfl rfl)
theorem dX0_isRight_41 : decode cX0_isRight 41 = .ok (.isub, 1) := dk_100 (dk_at dksX0_isRight_1 19 rfl rfl)
theorem dX0_isRight_42 : decode cX0_isRight 42 = .ok (.invokestatic 288, 3) := dk_184 1 32 (dk_at dksX0_isRight_1 20 rfl rfl)
theorem dX0_isRight_45 : decode cX0_isRight 45 = .ok (.iaload, 1) := dk_46 (dk_at dksX0_isRight_1 23 rfl rfl)
theorem dX0_isRight_46 : decode cX0_isRight 46 = .ok (.isub, 1) := dk_100 (dk_at dksX0_isRight_2 0 rfl rfl)
theorem dX0_isRight_47 : decode cX0_isRight 47 = .ok (.iconst 1, 1) := dk_4 (dk_at dksX0_isRight_2 1 rfl rfl)
theorem dX0_isRight_48 : decode cX0_isRight 48 = .ok (.iconst 2, 1) := dk_5 (dk_at dksX0_isRight_2 2 rfl rfl)
theorem dX0_isRight_49 : decode cX0_isRight 49 = .ok (.invokestatic 9, 3) := dk_184 0 9 (dk_at dksX0_isRight_2 3 rfl rfl)
theorem dX0_isRight_52 : decode cX0_isRight 52 = .ok (.ifCond .eq 7, 3) := dk_153 0 7 (dk_at dksX0_isRight_2 6 rfl rfl)
theorem dX0_isRight_55 : decode cX0_isRight 55 = .ok (.iconst 1, 1) := dk_4 (dk_at dksX0_isRight_2 9 rfl rfl)
theorem dX0_isRight_56 : decode cX0_isRight 56 = .ok (.goto 4, 3) := dk_167 0 4 (dk_at dksX0_isRight_2 10 rfl rfl)
theorem dX0_isRight_59 : decode cX0_isRight 59 = .ok (.iconst 0, 1) := dk_3 (dk_at dksX0_isRight_2 13 rfl rfl)
theorem dX0_isRight_60 : decode cX0_isRight 60 = .ok (.ireturn, 1) := dk_172 (dk_at dksX0_isRight_2 14 rfl rfl)
abbrev cX0_image : ByteArray := prog_1_method_106_code
def yX0_image : MethodName := ⟨RX0, "image", "()I"⟩
def dkwX0_image_0 : List UInt8 := [42, 180, 0, 82, 42, 180, 0, 78, 182, 0, 231, 42, 4, 181, 1, 164, 4, 172]
abbrev dktX0_image_0 : List UInt8 := dkwX0_image_0 ++ []
theorem dksX0_image_0 : cX0_image.data.toList.drop 0 = dktX0_image_0 := by decide +kernel
theorem dX0_image_0 : decode cX0_image 0 = .ok (.aload_n 0, 1) := dk_42 (dk_at dksX0_image_0 0 rfl rfl)
theorem dX0_image_1 : decode cX0_image 1 = .ok (.getfield 82, 3) := dk_180 0 82 (dk_at dksX0_image_0 1 rfl rfl)
theorem dX0_image_4 : decode cX0_image 4 = .ok (.aload_n 0, 1) := dk_42 (dk_at dksX0_image_0 4 rfl rfl)
theorem dX0_image_5 : decode cX0_image 5 = .ok (.getfield 78, 3) := dk_180 0 78 (dk_at dksX0_image_0 5 rfl rfl)
theorem dX0_image_8 : decode cX0_image 8 = .ok (.invokevirtual 231, 3) := dk_182 0 231 (dk_at dksX0_image_0 8 rfl rfl)
theorem dX0_image_11 : decode cX0_image 11 = .ok (.aload_n 0, 1) := dk_42 (dk_at dksX0_image_0 11 rfl rfl)
theorem dX0_image_12 : decode cX0_image 12 = .ok (.iconst 1, 1) := dk_4 (dk_at dksX0_image_0 12 rfl rfl)
theorem dX0_image_13 : decode cX0_image 13 = .ok (.putfield 420, 3) := dk_181 1 164 (dk_at dksX0_image_0 13 rfl rfl)
theorem dX0_image_16 : decode cX0_image 16 = .ok (.iconst 1, 1) := dk_4 (dk_at dksX0_image_0 16 rfl rfl)
theorem dX0_image_17 : decode cX0_image 17 = .ok (.ireturn, 1) := dk_172 (dk_at dksX0_image_0 17 rfl rfl)
abbrev cX0_undo : ByteArray := prog_1_method_107_code
def yX0_undo : MethodName := ⟨RX0, "undo", "()I"⟩
def dkwX0_undo_1 : List UInt8 := [42, 180, 0, 78, 180, 0, 170, 172]
abbrev dktX0_undo_1 : List UInt8 := dkwX0_undo_1 ++ []
def dkwX0_undo_0 : List UInt8 := [42, 180, 1, 164, 154, 0, 9, 42, 6, 182, 0, 138, 172, 42, 180, 0, 78, 42, 180, 0, 82, 182, 0, 231]
abbrev dktX0_undo_0 : List UInt8 := dkwX0_undo_0 ++ dktX0_undo_1
theorem dksX0_undo_0 : cX0_undo.data.toList.drop 0 = dktX0_undo_0 := by decide +kernel
theorem dksX0_undo_1 : cX0_undo.data.toList.drop 24 = dktX0_undo_1 := dk_seg dksX0_undo_0 24 rfl rfl
theorem dX0_undo_0 : decode cX0_undo 0 = .ok (.aload_n 0, 1) := dk_42 (dk_at dksX0_undo_0 0 rfl rfl)
theorem dX0_undo_1 : decode cX0_undo 1 = .ok (.getfield 420, 3) := dk_180 1 164 (dk_at dksX0_undo_0 1 rfl rfl)
theorem dX0_undo_4 : decode cX0_undo 4 = .ok (.ifCond .ne 9, 3) := dk_154 0 9 (dk_at dksX0_undo_0 4 rfl rfl)
theorem dX0_undo_7 : decode cX0_undo 7 = .ok (.aload_n 0, 1) := dk_42 (dk_at dksX0_undo_0 7 rfl rfl)
theorem dX0_undo_8 : decode cX0_undo 8 = .ok (.iconst 3, 1) := dk_6 (dk_at dksX0_undo_0 8 rfl rfl)
theorem dX0_undo_9 : decode cX0_undo 9 = .ok (.invokevirtual 138, 3) := dk_182 0 138 (dk_at dksX0_undo_0 9 rfl rfl)
theorem dX0_undo_12 : decode cX0_undo 12 = .ok (.ireturn, 1) := dk_172 (dk_at dksX0_undo_0 12 rfl rfl)
theorem dX0_undo_13 : decode cX0_undo 13 = .ok (.aload_n 0, 1) := dk_42 (dk_at dksX0_undo_0 13 rfl rfl)
theorem dX0_undo_14 : decode cX0_undo 14 = .ok (.getfield 78, 3) := dk_180 0 78 (dk_at dksX0_undo_0 14 rfl rfl)
theorem dX0_undo_17 : decode cX0_undo 17 = .ok (.aload_n 0, 1) := dk_42 (dk_at dksX0_undo_0 17 rfl rfl)
theorem dX0_undo_18 : decode cX0_undo 18 = .ok (.getfield 82, 3) := dk_180 0 82 (dk_at dksX0_undo_0 18 rfl rfl)
theorem dX0_undo_21 : decode cX0_undo 21 = .ok (.invokevirtual 231, 3) := dk_182 0 231 (dk_at dksX0_undo_0 21 rfl rfl)
theorem dX0_undo_24 : decode cX0_undo 24 = .ok (.aload_n 0, 1) := dk_42 (dk_at dksX0_undo_1 0 rfl rfl)
theorem dX0_undo_25 : decode cX0_undo 25 = .ok (.getfield 78, 3) := dk_180 0 78 (dk_at dksX0_undo_1 1 rfl rfl)
theorem dX0_undo_28 : decode cX0_undo 28 = .ok (.getfield 170, 3) := dk_180 0 170 (dk_at dksX0_undo_1 4 rfl rfl)
theorem dX0_undo_31 : decode cX0_undo 31 = .ok (.ireturn, 1) := dk_172 (dk_at dksX0_undo_1 7 rfl rfl)
abbrev cX0_tear : ByteArray := prog_1_method_108_code
def yX0_tear : MethodName := ⟨RX0, "tear", "()I"⟩
def dkwX0_tear_0 : List UInt8 := [42, 180, 1, 164, 153, 0, 7, 4, 167, 0, 4, 3, 60, 42, 3, 181, 1, 164, 27, 172]
abbrev dktX0_tear_0 : List UInt8 := dkwX0_tear_0 ++ []
theorem dksX0_tear_0 : cX0_tear.data.toList.drop 0 = dktX0_tear_0 := by decide +kernel
theorem dX0_tear_0 : decode cX0_tear 0 = .ok (.aload_n 0, 1) := dk_42 (dk_at dksX0_tear_0 0 rfl rfl)
theorem dX0_tear_1 : decode cX0_tear 1 = .ok (.getfield 420, 3) := dk_180 1 164 (dk_at dksX0_tear_0 1 rfl rfl)
theorem dX0_tear_4 : decode cX0_tear 4 = .ok (.ifCond .eq 7, 3) := dk_153 0 7 (dk_at dksX0_tear_0 4 rfl rfl)
theorem dX0_tear_7 : decode cX0_tear 7 = .ok (.iconst 1, 1) := dk_4 (dk_at dksX0_tear_0 7 rfl rfl)
theorem dX0_tear_8 : decode cX0_tear 8 = .ok (.goto 4, 3) := dk_167 0 4 (dk_at dksX0_tear_0 8 rfl rfl)
theorem dX0_tear_11 : decode cX0_tear 11 = .ok (.iconst 0, 1) := dk_3 (dk_at dksX0_tear_0 11 rfl rfl)
theorem dX0_tear_12 : decode cX0_tear 12 = .ok (.istore_n 1, 1) := dk_60 (dk_at dksX0_tear_0 12 rfl rfl)
theorem dX0_tear_13 : decode cX0_tear 13 = .ok (.aload_n 0, 1) := dk_42 (dk_at dksX0_tear_0 13 rfl rfl)
theorem dX0_tear_14 : decode cX0_tear 14 = .ok (.iconst 0, 1) := dk_3 (dk_at dksX0_tear_0 14 rfl rfl)
theorem dX0_tear_15 : decode cX0_tear 15 = .ok (.putfield 420, 3) := dk_181 1 164 (dk_at dksX0_tear_0 15 rfl rfl)
theorem dX0_tear_18 : decode cX0_tear 18 = .ok (.iload_n 1, 1) := dk_27 (dk_at dksX0_tear_0 18 rfl rfl)
theorem dX0_tear_19 : decode cX0_tear 19 = .ok (.ireturn, 1) := dk_172 (dk_at dksX0_tear_0 19 rfl rfl)
abbrev cX0_count : ByteArray := prog_1_method_109_code
def yX0_count : MethodName := ⟨RX0, "count", "(I)I"⟩
def dkwX0_count_4 : List UInt8 := [180, 1, 99, 172, 42, 180, 0, 78, 180, 1, 96, 172, 42, 182, 1, 168, 172, 42, 3, 182, 0, 138, 172]
abbrev dktX0_count_4 : List UInt8 := dkwX0_count_4 ++ []
def dkwX0_count_3 : List UInt8 := [184, 0, 212, 172, 42, 180, 0, 78, 182, 0, 221, 172, 42, 180, 0, 78, 4, 182, 0, 224, 172, 42]
abbrev dktX0_count_3 : List UInt8 := dkwX0_count_3 ++ dktX0_count_4
def dkwX0_count_2 : List UInt8 := [42, 180, 0, 78, 180, 0, 170, 172, 42, 180, 0, 78, 180, 0, 136, 172, 42, 180, 0, 78, 182, 0, 209]
abbrev dktX0_count_2 : List UInt8 := dkwX0_count_2 ++ dktX0_count_3
def dkwX0_count_1 : List UInt8 := [170, 0, 0, 0, 0, 0, 109, 0, 0, 0, 0, 0, 0, 0, 7, 0, 0, 0, 47, 0, 0, 0, 55, 0, 0, 0, 63, 0, 0, 0, 74, 0, 0, 0, 82, 0, 0, 0, 91, 0, 0, 0, 96, 0, 0, 0, 104]
abbrev dktX0_count_1 : List UInt8 := dkwX0_count_1 ++ dktX0_count_2
def dkwX0_count_0 : List UInt8 := [27]
abbrev dktX0_count_0 : List UInt8 := dkwX0_count_0 ++ dktX0_count_1
theorem dksX0_count_0 : cX0_count.data.toList.drop 0 = dktX0_count_0 := by decide +kernel
theorem dksX0_count_1 : cX0_count.data.toList.drop 1 = dktX0_count_1 := dk_seg dksX0_count_0 1 rfl rfl
theorem dksX0_count_2 : cX0_count.data.toList.drop 48 = dktX0_count_2 := dk_seg dksX0_count_1 47 rfl rfl
theorem dksX0_count_3 : cX0_count.data.toList.drop 71 = dktX0_count_3 := dk_seg dksX0_count_2 23 rfl rfl
theorem dksX0_count_4 : cX0_count.data.toList.drop 93 = dktX0_count_4 := dk_seg dksX0_count_3 22 rfl rfl
theorem dX0_count_0 : decode cX0_count 0 = .ok (.iload_n 1, 1) := dk_27 (dk_at dksX0_count_0 0 rfl rfl)
theorem dX0_count_1 : decode cX0_count 1 = .ok (.tableswitch 109 0 7 #[47, 55, 63, 74, 82, 91, 96, 104], 47) := by decide +kernel
theorem dX0_count_48 : decode cX0_count 48 = .ok (.aload_n 0, 1) := dk_42 (dk_at dksX0_count_2 0 rfl rfl)
theorem dX0_count_49 : decode cX0_count 49 = .ok (.getfield 78, 3) := dk_180 0 78 (dk_at dksX0_count_2 1 rfl rfl)
theorem dX0_count_52 : decode cX0_count 52 = .ok (.getfield 170, 3) := dk_180 0 170 (dk_at dksX0_count_2 4 rfl rfl)
theorem dX0_count_55 : decode cX0_count 55 = .ok (.ireturn, 1) := dk_172 (dk_at dksX0_count_2 7 rfl rfl)
theorem dX0_count_56 : decode cX0_count 56 = .ok (.aload_n 0, 1) := dk_42 (dk_at dksX0_count_2 8 rfl rfl)
theorem dX0_count_57 : decode cX0_count 57 = .ok (.getfield 78, 3) := dk_180 0 78 (dk_at dksX0_count_2 9 rfl rfl)
theorem dX0_count_60 : decode cX0_count 60 = .ok (.getfield 136, 3) := dk_180 0 136 (dk_at dksX0_count_2 12 rfl rfl)
theorem dX0_count_63 : decode cX0_count 63 = .ok (.ireturn, 1) := dk_172 (dk_at dksX0_count_2 15 rfl rfl)
theorem dX0_count_64 : decode cX0_count 64 = .ok (.aload_n 0, 1) := dk_42 (dk_at dksX0_count_2 16 rfl rfl)
theorem dX0_count_65 : decode cX0_count 65 = .ok (.getfield 78, 3) := dk_180 0 78 (dk_at dksX0_count_2 17 rfl rfl)
theorem dX0_count_68 : decode cX0_count 68 = .ok (.invokevirtual 209, 3) := dk_182 0 209 (dk_at dksX0_count_2 20 rfl rfl)
theorem dX0_count_71 : decode cX0_count 71 = .ok (.invokestatic 212, 3) := dk_184 0 212 (dk_at dksX0_count_3 0 rfl rfl)
theorem dX0_count_74 : decode cX0_count 74 = .ok (.ireturn, 1) := dk_172 (dk_at dksX0_count_3 3 rfl rfl)
theorem dX0_count_75 : decode cX0_count 75 = .ok (.aload_n 0, 1) := dk_42 (dk_at dksX0_count_3 4 rfl rfl)
theorem dX0_count_76 : decode cX0_count 76 = .ok (.getfield 78, 3) := dk_180 0 78 (dk_at dksX0_count_3 5 rfl rfl)
theorem dX0_count_79 : decode cX0_count 79 = .ok (.invokevirtual 221, 3) := dk_182 0 221 (dk_at dksX0_count_3 8 rfl rfl)
theorem dX0_count_82 : decode cX0_count 82 = .ok (.ireturn, 1) := dk_172 (dk_at dksX0_count_3 11 rfl rfl)
theorem dX0_count_83 : decode cX0_count 83 = .ok (.aload_n 0, 1) := dk_42 (dk_at dksX0_count_3 12 rfl rfl)
theorem dX0_count_84 : decode cX0_count 84 = .ok (.getfield 78, 3) := dk_180 0 78 (dk_at dksX0_count_3 13 rfl rfl)
theorem dX0_count_87 : decode cX0_count 87 = .ok (.iconst 1, 1) := dk_4 (dk_at dksX0_count_3 16 rfl rfl)
theorem dX0_count_88 : decode cX0_count 88 = .ok (.invokevirtual 224, 3) := dk_182 0 224 (dk_at dksX0_count_3 17 rfl rfl)
theorem dX0_count_91 : decode cX0_count 91 = .ok (.ireturn, 1) := dk_172 (dk_at dksX0_count_3 20 rfl rfl)
theorem dX0_count_92 : decode cX0_count 92 = .ok (.aload_n 0, 1) := dk_42 (dk_at dksX0_count_3 21 rfl rfl)
theorem dX0_count_93 : decode cX0_count 93 = .ok (.getfield 355, 3) := dk_180 1 99 (dk_at dksX0_count_4 0 rfl rfl)
theorem dX0_count_96 : decode cX0_count 96 = .ok (.ireturn, 1) := dk_172 (dk_at dksX0_count_4 3 rfl rfl)
theorem dX0_count_97 : decode cX0_count 97 = .ok (.aload_n 0, 1) := dk_42 (dk_at dksX0_count_4 4 rfl rfl)
theorem dX0_count_98 : decode cX0_count 98 = .ok (.getfield 78, 3) := dk_180 0 78 (dk_at dksX0_count_4 5 rfl rfl)
theorem dX0_count_101 : decode cX0_count 101 = .ok (.getfield 352, 3) := dk_180 1 96 (dk_at dksX0_count_4 8 rfl rfl)
theorem dX0_count_104 : decode cX0_count 104 = .ok (.ireturn, 1) := dk_172 (dk_at dksX0_count_4 11 rfl rfl)
theorem dX0_count_105 : decode cX0_count 105 = .ok (.aload_n 0, 1) := dk_42 (dk_at dksX0_count_4 12 rfl rfl)
theorem dX0_count_106 : decode cX0_count 106 = .ok (.invokevirtual 424, 3) := dk_182 1 168 (dk_at dksX0_count_4 13 rfl rfl)
theorem dX0_count_109 : decode cX0_count 109 = .ok (.ireturn, 1) := dk_172 (dk_at dksX0_count_4 16 rfl rfl)
theorem dX0_count_110 : decode cX0_count 110 = .ok (.aload_n 0, 1) := dk_42 (dk_at dksX0_count_4 17 rfl rfl)
theorem dX0_count_111 : decode cX0_count 111 = .ok (.iconst 0, 1) := dk_3 (dk_at dksX0_count_4 18 rfl rfl)
theorem dX0_count_112 : decode cX0_count 112 = .ok (.invokevirtual 138, 3) := dk_182 0 138 (dk_at dksX0_count_4 19 rfl rfl)
theorem dX0_count_115 : decode cX0_count 115 = .ok (.ireturn, 1) := dk_172 (dk_at dksX0_count_4 22 rfl rfl)
abbrev cX0_holding : ByteArray := prog_1_method_89_code
def yX0_holding : MethodName := ⟨RX0, "holding", "()I"⟩
def dkwX0_holding_2 : List UInt8 := [167, 255, 227, 27, 172]
abbrev dktX0_holding_2 : List UInt8 := dkwX0_holding_2 ++ []
def dkwX0_holding_1 : List UInt8 := [21, 4, 46, 54, 5, 27, 21, 5, 2, 160, 0, 7, 3, 167, 0, 4, 4, 96, 60, 132, 4, 1]
abbrev dktX0_holding_1 : List UInt8 := dkwX0_holding_1 ++ dktX0_holding_2
def dkwX0_holding_0 : List UInt8 := [3, 60, 42, 180, 0, 78, 180, 1, 119, 77, 44, 190, 62, 3, 54, 4, 21, 4, 29, 162, 0, 29, 44]
abbrev dktX0_holding_0 : List UInt8 := dkwX0_holding_0 ++ dktX0_holding_1
theorem dksX0_holding_0 : cX0_holding.data.toList.drop 0 = dktX0_holding_0 := by decide +kernel
theorem dksX0_holding_1 : cX0_holding.data.toList.drop 23 = dktX0_holding_1 := dk_seg dksX0_holding_0 23 rfl rfl
theorem dksX0_holding_2 : cX0_holding.data.toList.drop 45 = dktX0_holding_2 := dk_seg dksX0_holding_1 22 rfl rfl
theorem dX0_holding_0 : decode cX0_holding 0 = .ok (.iconst 0, 1) := dk_3 (dk_at dksX0_holding_0 0 rfl rfl)
theorem dX0_holding_1 : decode cX0_holding 1 = .ok (.istore_n 1, 1) := dk_60 (dk_at dksX0_holding_0 1 rfl rfl)
theorem dX0_holding_2 : decode cX0_holding 2 = .ok (.aload_n 0, 1) := dk_42 (dk_at dksX0_holding_0 2 rfl rfl)
theorem dX0_holding_3 : decode cX0_holding 3 = .ok (.getfield 78, 3) := dk_180 0 78 (dk_at dksX0_holding_0 3 rfl rfl)
theorem dX0_holding_6 : decode cX0_holding 6 = .ok (.getfield 375, 3) := dk_180 1 119 (dk_at dksX0_holding_0 6 rfl rfl)
theorem dX0_holding_9 : decode cX0_holding 9 = .ok (.astore_n 2, 1) := dk_77 (dk_at dksX0_holding_0 9 rfl rfl)
theorem dX0_holding_10 : decode cX0_holding 10 = .ok (.aload_n 2, 1) := dk_44 (dk_at dksX0_holding_0 10 rfl rfl)
theorem dX0_holding_11 : decode cX0_holding 11 = .ok (.arraylength, 1) := dk_190 (dk_at dksX0_holding_0 11 rfl rfl)
theorem dX0_holding_12 : decode cX0_holding 12 = .ok (.istore_n 3, 1) := dk_62 (dk_at dksX0_holding_0 12 rfl rfl)
theorem dX0_holding_13 : decode cX0_holding 13 = .ok (.iconst 0, 1) := dk_3 (dk_at dksX0_holding_0 13 rfl rfl)
theorem dX0_holding_14 : decode cX0_holding 14 = .ok (.istore 4, 2) := dk_54 4 (dk_at dksX0_holding_0 14 rfl rfl)
theorem dX0_holding_16 : decode cX0_holding 16 = .ok (.iload 4, 2) := dk_21 4 (dk_at dksX0_holding_0 16 rfl rfl)
theorem dX0_holding_18 : decode cX0_holding 18 = .ok (.iload_n 3, 1) := dk_29 (dk_at dksX0_holding_0 18 rfl rfl)
theorem dX0_holding_19 : decode cX0_holding 19 = .ok (.if_icmp .ge 29, 3) := dk_162 0 29 (dk_at dksX0_holding_0 19 rfl rfl)
theorem dX0_holding_22 : decode cX0_holding 22 = .ok (.aload_n 2, 1) := dk_44 (dk_at dksX0_holding_0 22 rfl rfl)
theorem dX0_holding_23 : decode cX0_holding 23 = .ok (.iload 4, 2) := dk_21 4 (dk_at dksX0_holding_1 0 rfl rfl)
theorem dX0_holding_25 : decode cX0_holding 25 = .ok (.iaload, 1) := dk_46 (dk_at dksX0_holding_1 2 rfl rfl)
theorem dX0_holding_26 : decode cX0_holding 26 = .ok (.istore 5, 2) := dk_54 5 (dk_at dksX0_holding_1 3 rfl rfl)
theorem dX0_holding_28 : decode cX0_holding 28 = .ok (.iload_n 1, 1) := dk_27 (dk_at dksX0_holding_1 5 rfl rfl)
theorem dX0_holding_29 : decode cX0_holding 29 = .ok (.iload 5, 2) := dk_21 5 (dk_at dksX0_holding_1 6 rfl rfl)
theorem dX0_holding_31 : decode cX0_holding 31 = .ok (.iconst (-1), 1) := dk_2 (dk_at dksX0_holding_1 8 rfl rfl)
theorem dX0_holding_32 : decode cX0_holding 32 = .ok (.if_icmp .ne 7, 3) := dk_160 0 7 (dk_at dksX0_holding_1 9 rfl rfl)
theorem dX0_holding_35 : decode cX0_holding 35 = .ok (.iconst 0, 1) := dk_3 (dk_at dksX0_holding_1 12 rfl rfl)
theorem dX0_holding_36 : decode cX0_holding 36 = .ok (.goto 4, 3) := dk_167 0 4 (dk_at dksX0_holding_1 13 rfl rfl)
theorem dX0_holding_39 : decode cX0_holding 39 = .ok (.iconst 1, 1) := dk_4 (dk_at dksX0_holding_1 16 rfl rfl)
theorem dX0_holding_40 : decode cX0_holding 40 = .ok (.iadd, 1) := dk_96 (dk_at dksX0_holding_1 17 rfl rfl)
theorem dX0_holding_41 : decode cX0_holding 41 = .ok (.istore_n 1, 1) := dk_60 (dk_at dksX0_holding_1 18 rfl rfl)
theorem dX0_holding_42 : decode cX0_holding 42 = .ok (.iinc 4 1, 3) := dk_132 4 1 (dk_at dksX0_holding_1 19 rfl rfl)
theorem dX0_holding_45 : decode cX0_holding 45 = .ok (.goto (-29), 3) := dk_167 255 227 (dk_at dksX0_holding_2 0 rfl rfl)
theorem dX0_holding_48 : decode cX0_holding 48 = .ok (.iload_n 1, 1) := dk_27 (dk_at dksX0_holding_2 3 rfl rfl)
theorem dX0_holding_49 : decode cX0_holding 49 = .ok (.ireturn, 1) := dk_172 (dk_at dksX0_holding_2 4 rfl rfl)
abbrev cX0_status : ByteArray := prog_1_method_110_code
def yX0_status : MethodName := ⟨RX0, "status", "(I)I"⟩
def dkwX0_status_2 : List UInt8 := [167, 0, 4, 3, 96, 61, 132, 3, 1, 167, 255, 221, 28, 172]
abbrev dktX0_status_2 : List UInt8 := dkwX0_status_2 ++ []
def dkwX0_status_1 : List UInt8 := [180, 0, 100, 190, 162, 0, 32, 28, 27, 2, 159, 0, 8, 27, 29, 160, 0, 12, 42, 180, 0, 100, 29, 46]
abbrev dktX0_status_1 : List UInt8 := dkwX0_status_1 ++ dktX0_status_2
def dkwX0_status_0 : List UInt8 := [27, 2, 16, 6, 184, 0, 9, 154, 0, 9, 42, 3, 182, 0, 138, 172, 3, 61, 3, 62, 29, 42]
abbrev dktX0_status_0 : List UInt8 := dkwX0_status_0 ++ dktX0_status_1
theorem dksX0_status_0 : cX0_status.data.toList.drop 0 = dktX0_status_0 := by decide +kernel
theorem dksX0_status_1 : cX0_status.data.toList.drop 22 = dktX0_status_1 := dk_seg dksX0_status_0 22 rfl rfl
theorem dksX0_status_2 : cX0_status.data.toList.drop 46 = dktX0_status_2 := dk_seg dksX0_status_1 24 rfl rfl
theorem dX0_status_0 : decode cX0_status 0 = .ok (.iload_n 1, 1) := dk_27 (dk_at dksX0_status_0 0 rfl rfl)
theorem dX0_status_1 : decode cX0_status 1 = .ok (.iconst (-1), 1) := dk_2 (dk_at dksX0_status_0 1 rfl rfl)
theorem dX0_status_2 : decode cX0_status 2 = .ok (.bipush 6, 2) := dk_16 6 (dk_at dksX0_status_0 2 rfl rfl)
theorem dX0_status_4 : decode cX0_status 4 = .ok (.invokestatic 9, 3) := dk_184 0 9 (dk_at dksX0_status_0 4 rfl rfl)
theorem dX0_status_7 : decode cX0_status 7 = .ok (.ifCond .ne 9, 3) := dk_154 0 9 (dk_at dksX0_status_0 7 rfl rfl)
theorem dX0_status_10 : decode cX0_status 10 = .ok (.aload_n 0, 1) := dk_42 (dk_at dksX0_status_0 10 rfl rfl)
theorem dX0_status_11 : decode cX0_status 11 = .ok (.iconst 0, 1) := dk_3 (dk_at dksX0_status_0 11 rfl rfl)
theorem dX0_status_12 : decode cX0_status 12 = .ok (.invokevirtual 138, 3) := dk_182 0 138 (dk_at dksX0_status_0 12 rfl rfl)
theorem dX0_status_15 : decode cX0_status 15 = .ok (.ireturn, 1) := dk_172 (dk_at dksX0_status_0 15 rfl rfl)
theorem dX0_status_16 : decode cX0_status 16 = .ok (.iconst 0, 1) := dk_3 (dk_at dksX0_status_0 16 rfl rfl)
theorem dX0_status_17 : decode cX0_status 17 = .ok (.istore_n 2, 1) := dk_61 (dk_at dksX0_status_0 17 rfl rfl)
theorem dX0_status_18 : decode cX0_status 18 = .ok (.iconst 0, 1) := dk_3 (dk_at dksX0_status_0 18 rfl rfl)
theorem dX0_status_19 : decode cX0_status 19 = .ok (.istore_n 3, 1) := dk_62 (dk_at dksX0_status_0 19 rfl rfl)
theorem dX0_status_20 : decode cX0_status 20 = .ok (.iload_n 3, 1) := dk_29 (dk_at dksX0_status_0 20 rfl rfl)
theorem dX0_status_21 : decode cX0_status 21 = .ok (.aload_n 0, 1) := dk_42 (dk_at dksX0_status_0 21 rfl rfl)
theorem dX0_status_22 : decode cX0_status 22 = .ok (.getfield 100, 3) := dk_180 0 100 (dk_at dksX0_status_1 0 rfl rfl)
theorem dX0_status_25 : decode cX0_status 25 = .ok (.arraylength, 1) := dk_190 (dk_at dksX0_status_1 3 rfl rfl)
theorem dX0_status_26 : decode cX0_status 26 = .ok (.if_icmp .ge 32, 3) := dk_162 0 32 (dk_at dksX0_status_1 4 rfl rfl)
theorem dX0_status_29 : decode cX0_status 29 = .ok (.iload_n 2, 1) := dk_28 (dk_at dksX0_status_1 7 rfl rfl)
theorem dX0_status_30 : decode cX0_status 30 = .ok (.iload_n 1, 1) := dk_27 (dk_at dksX0_status_1 8 rfl rfl)
theorem dX0_status_31 : decode cX0_status 31 = .ok (.iconst (-1), 1) := dk_2 (dk_at dksX0_status_1 9 rfl rfl)
theorem dX0_status_32 : decode cX0_status 32 = .ok (.if_icmp .eq 8, 3) := dk_159 0 8 (dk_at dksX0_status_1 10 rfl rfl)
theorem dX0_status_35 : decode cX0_status 35 = .ok (.iload_n 1, 1) := dk_27 (dk_at dksX0_status_1 13 rfl rfl)
theorem dX0_status_36 : decode cX0_status 36 = .ok (.iload_n 3, 1) := dk_29 (dk_at dksX0_status_1 14 rfl rfl)
theorem dX0_status_37 : decode cX0_status 37 = .ok (.if_icmp .ne 12, 3) := dk_160 0 12 (dk_at dksX0_status_1 15 rfl rfl)
theorem dX0_status_40 : decode cX0_status 40 = .ok (.aload_n 0, 1) := dk_42 (dk_at dksX0_status_1 18 rfl rfl)
theorem dX0_status_41 : decode cX0_status 41 = .ok (.getfield 100, 3) := dk_180 0 100 (dk_at dksX0_status_1 19 rfl rfl)
theorem dX0_status_44 : decode cX0_status 44 = .ok (.iload_n 3, 1) := dk_29 (dk_at dksX0_status_1 22 rfl rfl)
theorem dX0_status_45 : decode cX0_status 45 = .ok (.iaload, 1) := dk_46 (dk_at dksX0_status_1 23 rfl rfl)
theorem dX0_status_46 : decode cX0_status 46 = .ok (.goto 4, 3) := dk_167 0 4 (dk_at dksX0_status_2 0 rfl rfl)
theorem dX0_status_49 : decode cX0_status 49 = .ok (.iconst 0, 1) := dk_3 (dk_at dksX0_status_2 3 rfl rfl)
theorem dX0_status_50 : decode cX0_status 50 = .ok (.iadd, 1) := dk_96 (dk_at dksX0_status_2 4 rfl rfl)
theorem dX0_status_51 : decode cX0_status 51 = .ok (.istore_n 2, 1) := dk_61 (dk_at dksX0_status_2 5 rfl rfl)
theorem dX0_status_52 : decode cX0_status 52 = .ok (.iinc 3 1, 3) := dk_132 3 1 (dk_at dksX0_status_2 6 rfl rfl)
theorem dX0_status_55 : decode cX0_status 55 = .ok (.goto (-35), 3) := dk_167 255 221 (dk_at dksX0_status_2 9 rfl rfl)
theorem dX0_status_58 : decode cX0_status 58 = .ok (.iload_n 2, 1) := dk_28 (dk_at dksX0_status_2 12 rfl rfl)
theorem dX0_status_59 : decode cX0_status 59 = .ok (.ireturn, 1) := dk_172 (dk_at dksX0_status_2 13 rfl rfl)
theorem q99 : (Jvm.Cond.initialized "WildBells") ∈ lw_all := lw_g (lw_at lw_m1 1 rfl) rfl
theorem q124 : (Jvm.Cond.instantiable "WildBells" (15 : Nat)) ∈ lw_all := lw_g (lw_at lw_m1 26 rfl) rfl
theorem q126 : (Jvm.Cond.instanceMethod ({ cls := "WildBells", name := "<init>", desc := "()V" } : Jvm.MethodName)) ∈ lw_all := lw_g (lw_at lw_m1 28 rfl) rfl
theorem q127 : (Jvm.Cond.code ({ cls := "WildBells", name := "<init>", desc := "()V" } : Jvm.MethodName) prog_1_method_15_code (2 : Nat) (Option.none : Option Jvm.ClassFile.FieldType)) ∈ lw_all := lw_g (lw_at lw_m1 29 rfl) rfl
theorem q128 : (Jvm.Cond.methodLink "WildBells" (56 : Nat) ({ cls := "java/lang/Object", name := "<init>", desc := "()V" } : Jvm.MethodName)) ∈ lw_all := lw_g (lw_at lw_m1 30 rfl) rfl
theorem q131 : (Jvm.Cond.classLink "WildBells" (61 : Nat) "WildBells$Refusal") ∈ lw_all := lw_g (lw_at lw_m1 33 rfl) rfl
theorem q171 : (Jvm.Cond.methodLink "WildBells" (63 : Nat) ({ cls := "WildBells$Refusal", name := "<init>", desc := "()V" } : Jvm.MethodName)) ∈ lw_all := lw_g (lw_at lw_m1 73 rfl) rfl
theorem q183 : (Jvm.Cond.fieldLinkNest "WildBells" (128 : Nat) "WildBells$Refusal" "finding" "I" "WildBells") ∈ lw_tbl := lw_at lw_m1 85 rfl
theorem q199 : (Jvm.Cond.classLink "WildBells" (68 : Nat) "WildBells$Reader") ∈ lw_all := lw_g (lw_at lw_m1 101 rfl) rfl
theorem q201 : (Jvm.Cond.methodLinkNest "WildBells" (70 : Nat) ({ cls := "WildBells$Reader", name := "<init>", desc := "()V" } : Jvm.MethodName) "WildBells") ∈ lw_tbl := lw_at lw_m1 103 rfl
theorem q232 : (Jvm.Cond.fieldLinkNest "WildBells" (167 : Nat) "WildBells$World" "cell" "[[I" "WildBells") ∈ lw_tbl := lw_at lw_m1 134 rfl
theorem q235 : (Jvm.Cond.fieldLinkNest "WildBells" (185 : Nat) "WildBells$World" "hunter" "[I" "WildBells") ∈ lw_tbl := lw_at lw_m1 137 rfl
theorem q238 : (Jvm.Cond.fieldLinkNest "WildBells" (188 : Nat) "WildBells$World" "fear" "I" "WildBells") ∈ lw_tbl := lw_at lw_m1 140 rfl
theorem q241 : (Jvm.Cond.fieldLinkNest "WildBells" (136 : Nat) "WildBells$World" "bells" "I" "WildBells") ∈ lw_tbl := lw_at lw_m1 143 rfl
theorem q244 : (Jvm.Cond.fieldLinkNest "WildBells" (123 : Nat) "WildBells$World" "bell" "[[I" "WildBells") ∈ lw_tbl := lw_at lw_m1 146 rfl
theorem q246 : (Jvm.Cond.fieldLinkNest "WildBells" (170 : Nat) "WildBells$World" "hour" "I" "WildBells") ∈ lw_tbl := lw_at lw_m1 148 rfl
theorem q248 : (Jvm.Cond.fieldLinkNest "WildBells" (352 : Nat) "WildBells$World" "z" "I" "WildBells") ∈ lw_tbl := lw_at lw_m1 150 rfl
theorem q250 : (Jvm.Cond.fieldLinkNest "WildBells" (375 : Nat) "WildBells$World" "holds" "[I" "WildBells") ∈ lw_tbl := lw_at lw_m1 152 rfl
theorem q272 : (Jvm.Cond.fieldLinkNest "WildBells" (358 : Nat) "WildBells$Reader" "tape" "[B" "WildBells") ∈ lw_tbl := lw_at lw_m1 174 rfl
theorem q274 : (Jvm.Cond.fieldLinkNest "WildBells" (364 : Nat) "WildBells$Reader" "told" "LWildBells$World;" "WildBells") ∈ lw_tbl := lw_at lw_m1 176 rfl
theorem q276 : (Jvm.Cond.fieldLinkNest "WildBells" (362 : Nat) "WildBells$Reader" "length" "I" "WildBells") ∈ lw_tbl := lw_at lw_m1 178 rfl
theorem q279 : (Jvm.Cond.fieldLinkNest "WildBells" (372 : Nat) "WildBells$Reader" "begin" "I" "WildBells") ∈ lw_tbl := lw_at lw_m1 181 rfl
theorem q299 : (Jvm.Cond.classLink "WildBells" (75 : Nat) "WildBells$World") ∈ lw_all := lw_g (lw_at lw_m1 201 rfl) rfl
theorem q300 : (Jvm.Cond.methodLink "WildBells" (77 : Nat) ({ cls := "WildBells$World", name := "<init>", desc := "()V" } : Jvm.MethodName)) ∈ lw_all := lw_g (lw_at lw_m1 202 rfl) rfl
theorem q301 : (Jvm.Cond.classLink "WildBells" (88 : Nat) "WildBells$Slot") ∈ lw_all := lw_g (lw_at lw_m1 203 rfl) rfl
theorem q304 : (Jvm.Cond.methodLinkNest "WildBells" (114 : Nat) ({ cls := "WildBells$Slot", name := "<init>", desc := "()V" } : Jvm.MethodName) "WildBells") ∈ lw_tbl := lw_at lw_m1 206 rfl
theorem q308 : (Jvm.Cond.fieldLinkNest "WildBells" (119 : Nat) "WildBells$Slot" "thing" "Ljava/lang/Object;" "WildBells") ∈ lw_tbl := lw_at lw_m1 210 rfl
theorem q313 : (Jvm.Cond.methodLink "WildBells" (115 : Nat) ({ cls := "WildBells", name := "made", desc := "(II)LWildBells$Bell;" } : Jvm.MethodName)) ∈ lw_all := lw_g (lw_at lw_m1 215 rfl) rfl
theorem q314 : (Jvm.Cond.privateMethod ({ cls := "WildBells", name := "made", desc := "(II)LWildBells$Bell;" } : Jvm.MethodName)) ∈ lw_tbl := lw_at lw_m1 216 rfl
theorem q315 : (Jvm.Cond.instanceMethod ({ cls := "WildBells", name := "made", desc := "(II)LWildBells$Bell;" } : Jvm.MethodName)) ∈ lw_all := lw_g (lw_at lw_m1 217 rfl) rfl
theorem q316 : (Jvm.Cond.code ({ cls := "WildBells", name := "made", desc := "(II)LWildBells$Bell;" } : Jvm.MethodName) prog_1_method_14_code (3 : Nat) (Option.some (Jvm.ClassFile.FieldType.object "WildBells$Bell"))) ∈ lw_all := lw_g (lw_at lw_m1 218 rfl) rfl
theorem q317 : (Jvm.Cond.classLink "WildBells" (32 : Nat) "WildBells$Herd") ∈ lw_all := lw_g (lw_at lw_m1 219 rfl) rfl
theorem q319 : (Jvm.Cond.methodLink "WildBells" (34 : Nat) ({ cls := "WildBells$Herd", name := "<init>", desc := "(LWildBells;I)V" } : Jvm.MethodName)) ∈ lw_all := lw_g (lw_at lw_m1 221 rfl) rfl
theorem q332 : (Jvm.Cond.fieldLink "WildBells" (388 : Nat) "WildBells$Bell" "number" "I") ∈ lw_all := lw_g (lw_at lw_m1 234 rfl) rfl
theorem q341 : (Jvm.Cond.classLink "WildBells" (38 : Nat) "WildBells$Lone") ∈ lw_all := lw_g (lw_at lw_m2 3 rfl) rfl
theorem q343 : (Jvm.Cond.methodLink "WildBells" (40 : Nat) ({ cls := "WildBells$Lone", name := "<init>", desc := "(LWildBells;I)V" } : Jvm.MethodName)) ∈ lw_all := lw_g (lw_at lw_m2 5 rfl) rfl
theorem q353 : (Jvm.Cond.classLink "WildBells" (41 : Nat) "WildBells$Tenor") ∈ lw_all := lw_g (lw_at lw_m2 15 rfl) rfl
theorem q355 : (Jvm.Cond.methodLink "WildBells" (43 : Nat) ({ cls := "WildBells$Tenor", name := "<init>", desc := "(LWildBells;I)V" } : Jvm.MethodName)) ∈ lw_all := lw_g (lw_at lw_m2 17 rfl) rfl
theorem q366 : (Jvm.Cond.classLink "WildBells" (44 : Nat) "WildBells$Eldest") ∈ lw_all := lw_g (lw_at lw_m2 28 rfl) rfl
theorem q368 : (Jvm.Cond.methodLink "WildBells" (46 : Nat) ({ cls := "WildBells$Eldest", name := "<init>", desc := "(LWildBells;I)V" } : Jvm.MethodName)) ∈ lw_all := lw_g (lw_at lw_m2 30 rfl) rfl
theorem q380 : (Jvm.Cond.classLink "WildBells" (47 : Nat) "WildBells$Tame") ∈ lw_all := lw_g (lw_at lw_m2 42 rfl) rfl
theorem q382 : (Jvm.Cond.methodLink "WildBells" (49 : Nat) ({ cls := "WildBells$Tame", name := "<init>", desc := "(LWildBells;I)V" } : Jvm.MethodName)) ∈ lw_all := lw_g (lw_at lw_m2 44 rfl) rfl
theorem q392 : (Jvm.Cond.classLink "WildBells" (50 : Nat) "WildBells$Young") ∈ lw_all := lw_g (lw_at lw_m2 54 rfl) rfl
theorem q394 : (Jvm.Cond.methodLink "WildBells" (52 : Nat) ({ cls := "WildBells$Young", name := "<init>", desc := "(LWildBells;I)V" } : Jvm.MethodName)) ∈ lw_all := lw_g (lw_at lw_m2 56 rfl) rfl
theorem q405 : (Jvm.Cond.classLink "WildBells" (53 : Nat) "WildBells$Bell") ∈ lw_all := lw_g (lw_at lw_m2 67 rfl) rfl
theorem q407 : (Jvm.Cond.methodLink "WildBells" (55 : Nat) ({ cls := "WildBells$Bell", name := "<init>", desc := "(LWildBells;I)V" } : Jvm.MethodName)) ∈ lw_all := lw_g (lw_at lw_m2 69 rfl) rfl
theorem q411 : (Jvm.Cond.fieldLink "WildBells" (64 : Nat) "WildBells" "refusal" "LWildBells$Refusal;") ∈ lw_all := lw_g (lw_at lw_m2 73 rfl) rfl
theorem q412 : (Jvm.Cond.fieldLink "WildBells" (71 : Nat) "WildBells" "reader" "LWildBells$Reader;") ∈ lw_all := lw_g (lw_at lw_m2 74 rfl) rfl
theorem q413 : (Jvm.Cond.fieldLink "WildBells" (355 : Nat) "WildBells" "taped" "I") ∈ lw_all := lw_g (lw_at lw_m2 75 rfl) rfl
theorem q416 : (Jvm.Cond.fieldLink "WildBells" (78 : Nat) "WildBells" "d" "LWildBells$World;") ∈ lw_all := lw_g (lw_at lw_m2 78 rfl) rfl
theorem q417 : (Jvm.Cond.fieldLink "WildBells" (82 : Nat) "WildBells" "kept" "LWildBells$World;") ∈ lw_all := lw_g (lw_at lw_m2 79 rfl) rfl
theorem q418 : (Jvm.Cond.fieldLink "WildBells" (85 : Nat) "WildBells" "aside" "LWildBells$World;") ∈ lw_all := lw_g (lw_at lw_m2 80 rfl) rfl
theorem q419 : (Jvm.Cond.fieldLink "WildBells" (420 : Nat) "WildBells" "isKept" "Z") ∈ lw_all := lw_g (lw_at lw_m2 81 rfl) rfl
theorem q420 : (Jvm.Cond.fieldLink "WildBells" (90 : Nat) "WildBells" "bells" "[LWildBells$Slot;") ∈ lw_all := lw_g (lw_at lw_m2 82 rfl) rfl
theorem q421 : (Jvm.Cond.fieldLink "WildBells" (94 : Nat) "WildBells" "spots" "[LWildBells$Slot;") ∈ lw_all := lw_g (lw_at lw_m2 83 rfl) rfl
theorem q422 : (Jvm.Cond.fieldLink "WildBells" (97 : Nat) "WildBells" "sheets" "[LWildBells$Slot;") ∈ lw_all := lw_g (lw_at lw_m2 84 rfl) rfl
theorem q423 : (Jvm.Cond.fieldLink "WildBells" (100 : Nat) "WildBells" "findings" "[I") ∈ lw_all := lw_g (lw_at lw_m2 85 rfl) rfl
theorem q424 : (Jvm.Cond.fieldLink "WildBells" (104 : Nat) "WildBells" "were" "[I") ∈ lw_all := lw_g (lw_at lw_m2 86 rfl) rfl
theorem q425 : (Jvm.Cond.fieldLink "WildBells" (107 : Nat) "WildBells" "may" "[Z") ∈ lw_all := lw_g (lw_at lw_m2 87 rfl) rfl
theorem q426 : (Jvm.Cond.fieldLink "WildBells" (302 : Nat) "WildBells" "firstFit" "I") ∈ lw_all := lw_g (lw_at lw_m2 88 rfl) rfl
theorem q427 : (Jvm.Cond.fieldLink "WildBells" (111 : Nat) "WildBells" "heardSo" "[I") ∈ lw_all := lw_g (lw_at lw_m2 89 rfl) rfl
theorem q428 : (Jvm.Cond.laysFinal "WildBells" "WildBells" "refusal" "LWildBells$Refusal;") ∈ lw_all := lw_g (lw_at lw_m2 90 rfl) rfl
theorem q429 : (Jvm.Cond.soleField "WildBells" "refusal") ∈ lw_all := lw_g (lw_at lw_m2 91 rfl) rfl
theorem q430 : (Jvm.Cond.laysFinal "WildBells" "WildBells" "reader" "LWildBells$Reader;") ∈ lw_all := lw_g (lw_at lw_m2 92 rfl) rfl
theorem q431 : (Jvm.Cond.soleField "WildBells" "reader") ∈ lw_all := lw_g (lw_at lw_m2 93 rfl) rfl
theorem q432 : (Jvm.Cond.lays "WildBells" "WildBells" "taped" "I") ∈ lw_all := lw_g (lw_at lw_m2 94 rfl) rfl
theorem q433 : (Jvm.Cond.soleField "WildBells" "taped") ∈ lw_all := lw_g (lw_at lw_m2 95 rfl) rfl
theorem q434 : (Jvm.Cond.laysFinal "WildBells" "WildBells" "d" "LWildBells$World;") ∈ lw_all := lw_g (lw_at lw_m2 96 rfl) rfl
theorem q435 : (Jvm.Cond.soleField "WildBells" "d") ∈ lw_all := lw_g (lw_at lw_m2 97 rfl) rfl
theorem q436 : (Jvm.Cond.laysFinal "WildBells" "WildBells" "kept" "LWildBells$World;") ∈ lw_all := lw_g (lw_at lw_m2 98 rfl) rfl
theorem q437 : (Jvm.Cond.soleField "WildBells" "kept") ∈ lw_all := lw_g (lw_at lw_m2 99 rfl) rfl
theorem q438 : (Jvm.Cond.laysFinal "WildBells" "WildBells" "aside" "LWildBells$World;") ∈ lw_all := lw_g (lw_at lw_m2 100 rfl) rfl
theorem q439 : (Jvm.Cond.soleField "WildBells" "aside") ∈ lw_all := lw_g (lw_at lw_m2 101 rfl) rfl
theorem q440 : (Jvm.Cond.lays "WildBells" "WildBells" "isKept" "Z") ∈ lw_all := lw_g (lw_at lw_m2 102 rfl) rfl
theorem q441 : (Jvm.Cond.soleField "WildBells" "isKept") ∈ lw_all := lw_g (lw_at lw_m2 103 rfl) rfl
theorem q442 : (Jvm.Cond.laysFinal "WildBells" "WildBells" "bells" "[LWildBells$Slot;") ∈ lw_all := lw_g (lw_at lw_m2 104 rfl) rfl
theorem q443 : (Jvm.Cond.soleField "WildBells" "bells") ∈ lw_all := lw_g (lw_at lw_m2 105 rfl) rfl
theorem q444 : (Jvm.Cond.laysFinal "WildBells" "WildBells" "spots" "[LWildBells$Slot;") ∈ lw_all := lw_g (lw_at lw_m2 106 rfl) rfl
theorem q445 : (Jvm.Cond.soleField "WildBells" "spots") ∈ lw_all := lw_g (lw_at lw_m2 107 rfl) rfl
theorem q446 : (Jvm.Cond.laysFinal "WildBells" "WildBells" "sheets" "[LWildBells$Slot;") ∈ lw_all := lw_g (lw_at lw_m2 108 rfl) rfl
theorem q447 : (Jvm.Cond.soleField "WildBells" "sheets") ∈ lw_all := lw_g (lw_at lw_m2 109 rfl) rfl
theorem q448 : (Jvm.Cond.laysFinal "WildBells" "WildBells" "findings" "[I") ∈ lw_all := lw_g (lw_at lw_m2 110 rfl) rfl
theorem q449 : (Jvm.Cond.soleField "WildBells" "findings") ∈ lw_all := lw_g (lw_at lw_m2 111 rfl) rfl
theorem q450 : (Jvm.Cond.laysFinal "WildBells" "WildBells" "were" "[I") ∈ lw_all := lw_g (lw_at lw_m2 112 rfl) rfl
theorem q451 : (Jvm.Cond.soleField "WildBells" "were") ∈ lw_all := lw_g (lw_at lw_m2 113 rfl) rfl
theorem q452 : (Jvm.Cond.laysFinal "WildBells" "WildBells" "may" "[Z") ∈ lw_all := lw_g (lw_at lw_m2 114 rfl) rfl
theorem q453 : (Jvm.Cond.soleField "WildBells" "may") ∈ lw_all := lw_g (lw_at lw_m2 115 rfl) rfl
theorem q454 : (Jvm.Cond.lays "WildBells" "WildBells" "firstFit" "I") ∈ lw_all := lw_g (lw_at lw_m2 116 rfl) rfl
theorem q455 : (Jvm.Cond.soleField "WildBells" "firstFit") ∈ lw_all := lw_g (lw_at lw_m2 117 rfl) rfl
theorem q456 : (Jvm.Cond.laysFinal "WildBells" "WildBells" "heardSo" "[I") ∈ lw_all := lw_g (lw_at lw_m2 118 rfl) rfl
theorem q457 : (Jvm.Cond.soleField "WildBells" "heardSo") ∈ lw_all := lw_g (lw_at lw_m2 119 rfl) rfl
theorem q458 : (Jvm.Cond.superclass "WildBells" "java/lang/Object") ∈ lw_all := lw_g (lw_at lw_m2 120 rfl) rfl
theorem q460 : (Jvm.Cond.instanceMethod ({ cls := "WildBells", name := "net", desc := "(II)I" } : Jvm.MethodName)) ∈ lw_all := lw_g (lw_at lw_m2 122 rfl) rfl
theorem q461 : (Jvm.Cond.selects "WildBells" ({ cls := "WildBells", name := "net", desc := "(II)I" } : Jvm.MethodName) ({ cls := "WildBells", name := "net", desc := "(II)I" } : Jvm.MethodName)) ∈ lw_all := lw_g (lw_at lw_m2 123 rfl) rfl
theorem q462 : (Jvm.Cond.code ({ cls := "WildBells", name := "net", desc := "(II)I" } : Jvm.MethodName) prog_1_method_27_code (4 : Nat) (Option.some Jvm.ClassFile.FieldType.int)) ∈ lw_all := lw_g (lw_at lw_m2 124 rfl) rfl
theorem q463 : (Jvm.Cond.methodLink "WildBells" (17 : Nat) ({ cls := "WildBells", name := "isCell", desc := "(I)Z" } : Jvm.MethodName)) ∈ lw_all := lw_g (lw_at lw_m2 125 rfl) rfl
theorem q464 : (Jvm.Cond.static ({ cls := "WildBells", name := "isCell", desc := "(I)Z" } : Jvm.MethodName)) ∈ lw_all := lw_g (lw_at lw_m2 126 rfl) rfl
theorem q465 : (Jvm.Cond.code ({ cls := "WildBells", name := "isCell", desc := "(I)Z" } : Jvm.MethodName) prog_1_method_7_code (1 : Nat) (Option.some Jvm.ClassFile.FieldType.boolean)) ∈ lw_all := lw_g (lw_at lw_m2 127 rfl) rfl
theorem q466 : (Jvm.Cond.methodLink "WildBells" (9 : Nat) ({ cls := "WildBells", name := "in", desc := "(III)Z" } : Jvm.MethodName)) ∈ lw_all := lw_g (lw_at lw_m2 128 rfl) rfl
theorem q467 : (Jvm.Cond.static ({ cls := "WildBells", name := "in", desc := "(III)Z" } : Jvm.MethodName)) ∈ lw_all := lw_g (lw_at lw_m2 129 rfl) rfl
theorem q468 : (Jvm.Cond.code ({ cls := "WildBells", name := "in", desc := "(III)Z" } : Jvm.MethodName) prog_1_method_1_code (3 : Nat) (Option.some Jvm.ClassFile.FieldType.boolean)) ∈ lw_all := lw_g (lw_at lw_m2 130 rfl) rfl
theorem q469 : (Jvm.Cond.methodLink "WildBells" (138 : Nat) ({ cls := "WildBells", name := "finding", desc := "(I)I" } : Jvm.MethodName)) ∈ lw_all := lw_g (lw_at lw_m2 131 rfl) rfl
theorem q470 : (Jvm.Cond.privateMethod ({ cls := "WildBells", name := "finding", desc := "(I)I" } : Jvm.MethodName)) ∈ lw_tbl := lw_at lw_m2 132 rfl
theorem q471 : (Jvm.Cond.instanceMethod ({ cls := "WildBells", name := "finding", desc := "(I)I" } : Jvm.MethodName)) ∈ lw_all := lw_g (lw_at lw_m2 133 rfl) rfl
theorem q472 : (Jvm.Cond.code ({ cls := "WildBells", name := "finding", desc := "(I)I" } : Jvm.MethodName) prog_1_method_17_code (2 : Nat) (Option.some Jvm.ClassFile.FieldType.int)) ∈ lw_all := lw_g (lw_at lw_m2 134 rfl) rfl
theorem q473 : (Jvm.Cond.constant "WildBells" (127 : Nat) (-1000001 : Int32)) ∈ lw_all := lw_g (lw_at lw_m2 135 rfl) rfl
theorem q475 : (Jvm.Cond.instanceMethod ({ cls := "WildBells", name := "thick", desc := "(II)I" } : Jvm.MethodName)) ∈ lw_all := lw_g (lw_at lw_m2 137 rfl) rfl
theorem q476 : (Jvm.Cond.selects "WildBells" ({ cls := "WildBells", name := "thick", desc := "(II)I" } : Jvm.MethodName) ({ cls := "WildBells", name := "thick", desc := "(II)I" } : Jvm.MethodName)) ∈ lw_all := lw_g (lw_at lw_m2 138 rfl) rfl
theorem q477 : (Jvm.Cond.code ({ cls := "WildBells", name := "thick", desc := "(II)I" } : Jvm.MethodName) prog_1_method_28_code (4 : Nat) (Option.some Jvm.ClassFile.FieldType.int)) ∈ lw_all := lw_g (lw_at lw_m2 139 rfl) rfl
theorem q479 : (Jvm.Cond.instanceMethod ({ cls := "WildBells", name := "cell", desc := "(II)I" } : Jvm.MethodName)) ∈ lw_all := lw_g (lw_at lw_m2 141 rfl) rfl
theorem q480 : (Jvm.Cond.selects "WildBells" ({ cls := "WildBells", name := "cell", desc := "(II)I" } : Jvm.MethodName) ({ cls := "WildBells", name := "cell", desc := "(II)I" } : Jvm.MethodName)) ∈ lw_all := lw_g (lw_at lw_m2 142 rfl) rfl
theorem q481 : (Jvm.Cond.code ({ cls := "WildBells", name := "cell", desc := "(II)I" } : Jvm.MethodName) prog_1_method_29_code (3 : Nat) (Option.some Jvm.ClassFile.FieldType.int)) ∈ lw_all := lw_g (lw_at lw_m2 143 rfl) rfl
theorem q482 : (Jvm.Cond.methodLink "WildBells" (176 : Nat) ({ cls := "WildBells$World", name := "heard", desc := "(I)I" } : Jvm.MethodName)) ∈ lw_all := lw_g (lw_at lw_m2 144 rfl) rfl
theorem q495 : (Jvm.Cond.static ({ cls := "WildBells", name := "apart", desc := "(II)I" } : Jvm.MethodName)) ∈ lw_all := lw_g (lw_at lw_m2 157 rfl) rfl
theorem q496 : (Jvm.Cond.code ({ cls := "WildBells", name := "apart", desc := "(II)I" } : Jvm.MethodName) prog_1_method_11_code (2 : Nat) (Option.some Jvm.ClassFile.FieldType.int)) ∈ lw_all := lw_g (lw_at lw_m2 158 rfl) rfl
theorem q497 : (Jvm.Cond.methodLink "WildBells" (23 : Nat) ({ cls := "java/lang/Math", name := "abs", desc := "(I)I" } : Jvm.MethodName)) ∈ lw_all := lw_g (lw_at lw_m2 159 rfl) rfl
theorem q501 : (Jvm.Cond.static ({ cls := "WildBells", name := "loudBy", desc := "(II)I" } : Jvm.MethodName)) ∈ lw_all := lw_g (lw_at lw_m2 163 rfl) rfl
theorem q502 : (Jvm.Cond.code ({ cls := "WildBells", name := "loudBy", desc := "(II)I" } : Jvm.MethodName) prog_1_method_13_code (2 : Nat) (Option.some Jvm.ClassFile.FieldType.int)) ∈ lw_all := lw_g (lw_at lw_m2 164 rfl) rfl
theorem q503 : (Jvm.Cond.methodLink "WildBells" (28 : Nat) ({ cls := "java/lang/Math", name := "max", desc := "(II)I" } : Jvm.MethodName)) ∈ lw_all := lw_g (lw_at lw_m2 165 rfl) rfl
theorem q507 : (Jvm.Cond.methodLink "WildBells" (179 : Nat) ({ cls := "WildBells$World", name := "manyAt", desc := "(I)I" } : Jvm.MethodName)) ∈ lw_all := lw_g (lw_at lw_m2 169 rfl) rfl
theorem q512 : (Jvm.Cond.instanceMethod ({ cls := "WildBells", name := "hunter", desc := "(II)I" } : Jvm.MethodName)) ∈ lw_all := lw_g (lw_at lw_m2 174 rfl) rfl
theorem q513 : (Jvm.Cond.selects "WildBells" ({ cls := "WildBells", name := "hunter", desc := "(II)I" } : Jvm.MethodName) ({ cls := "WildBells", name := "hunter", desc := "(II)I" } : Jvm.MethodName)) ∈ lw_all := lw_g (lw_at lw_m2 175 rfl) rfl
theorem q514 : (Jvm.Cond.code ({ cls := "WildBells", name := "hunter", desc := "(II)I" } : Jvm.MethodName) prog_1_method_30_code (4 : Nat) (Option.some Jvm.ClassFile.FieldType.int)) ∈ lw_all := lw_g (lw_at lw_m2 176 rfl) rfl
theorem q515 : (Jvm.Cond.methodLink "WildBells" (182 : Nat) ({ cls := "WildBells", name := "isHunter", desc := "(I)Z" } : Jvm.MethodName)) ∈ lw_all := lw_g (lw_at lw_m2 177 rfl) rfl
theorem q516 : (Jvm.Cond.static ({ cls := "WildBells", name := "isHunter", desc := "(I)Z" } : Jvm.MethodName)) ∈ lw_all := lw_g (lw_at lw_m2 178 rfl) rfl
theorem q517 : (Jvm.Cond.code ({ cls := "WildBells", name := "isHunter", desc := "(I)Z" } : Jvm.MethodName) prog_1_method_8_code (1 : Nat) (Option.some Jvm.ClassFile.FieldType.boolean)) ∈ lw_all := lw_g (lw_at lw_m2 179 rfl) rfl
theorem q519 : (Jvm.Cond.instanceMethod ({ cls := "WildBells", name := "fear", desc := "(I)I" } : Jvm.MethodName)) ∈ lw_all := lw_g (lw_at lw_m2 181 rfl) rfl
theorem q520 : (Jvm.Cond.selects "WildBells" ({ cls := "WildBells", name := "fear", desc := "(I)I" } : Jvm.MethodName) ({ cls := "WildBells", name := "fear", desc := "(I)I" } : Jvm.MethodName)) ∈ lw_all := lw_g (lw_at lw_m2 182 rfl) rfl
theorem q521 : (Jvm.Cond.code ({ cls := "WildBells", name := "fear", desc := "(I)I" } : Jvm.MethodName) prog_1_method_31_code (3 : Nat) (Option.some Jvm.ClassFile.FieldType.int)) ∈ lw_all := lw_g (lw_at lw_m2 183 rfl) rfl
theorem q523 : (Jvm.Cond.instanceMethod ({ cls := "WildBells", name := "bell", desc := "(II)I" } : Jvm.MethodName)) ∈ lw_all := lw_g (lw_at lw_m2 185 rfl) rfl
theorem q524 : (Jvm.Cond.selects "WildBells" ({ cls := "WildBells", name := "bell", desc := "(II)I" } : Jvm.MethodName) ({ cls := "WildBells", name := "bell", desc := "(II)I" } : Jvm.MethodName)) ∈ lw_all := lw_g (lw_at lw_m2 186 rfl) rfl
theorem q525 : (Jvm.Cond.code ({ cls := "WildBells", name := "bell", desc := "(II)I" } : Jvm.MethodName) prog_1_method_32_code (3 : Nat) (Option.some Jvm.ClassFile.FieldType.int)) ∈ lw_all := lw_g (lw_at lw_m2 187 rfl) rfl
theorem q526 : (Jvm.Cond.methodLink "WildBells" (13 : Nat) ({ cls := "WildBells", name := "isKind", desc := "(I)Z" } : Jvm.MethodName)) ∈ lw_all := lw_g (lw_at lw_m2 188 rfl) rfl
theorem q527 : (Jvm.Cond.static ({ cls := "WildBells", name := "isKind", desc := "(I)Z" } : Jvm.MethodName)) ∈ lw_all := lw_g (lw_at lw_m2 189 rfl) rfl
theorem q528 : (Jvm.Cond.code ({ cls := "WildBells", name := "isKind", desc := "(I)Z" } : Jvm.MethodName) prog_1_method_6_code (1 : Nat) (Option.some Jvm.ClassFile.FieldType.boolean)) ∈ lw_all := lw_g (lw_at lw_m2 190 rfl) rfl
theorem q529 : (Jvm.Cond.methodLink "WildBells" (191 : Nat) ({ cls := "WildBells$World", name := "add", desc := "(II)V" } : Jvm.MethodName)) ∈ lw_all := lw_g (lw_at lw_m2 191 rfl) rfl
theorem q534 : (Jvm.Cond.instanceMethod ({ cls := "WildBells", name := "of", desc := "(II)I" } : Jvm.MethodName)) ∈ lw_all := lw_g (lw_at lw_m2 196 rfl) rfl
theorem q535 : (Jvm.Cond.selects "WildBells" ({ cls := "WildBells", name := "of", desc := "(II)I" } : Jvm.MethodName) ({ cls := "WildBells", name := "of", desc := "(II)I" } : Jvm.MethodName)) ∈ lw_all := lw_g (lw_at lw_m2 197 rfl) rfl
theorem q536 : (Jvm.Cond.code ({ cls := "WildBells", name := "of", desc := "(II)I" } : Jvm.MethodName) prog_1_method_33_code (3 : Nat) (Option.some Jvm.ClassFile.FieldType.int)) ∈ lw_all := lw_g (lw_at lw_m2 198 rfl) rfl
theorem q537 : (Jvm.Cond.methodLink "WildBells" (195 : Nat) ({ cls := "WildBells", name := "isBell", desc := "(I)Z" } : Jvm.MethodName)) ∈ lw_all := lw_g (lw_at lw_m2 199 rfl) rfl
theorem q538 : (Jvm.Cond.privateMethod ({ cls := "WildBells", name := "isBell", desc := "(I)Z" } : Jvm.MethodName)) ∈ lw_tbl := lw_at lw_m2 200 rfl
theorem q539 : (Jvm.Cond.instanceMethod ({ cls := "WildBells", name := "isBell", desc := "(I)Z" } : Jvm.MethodName)) ∈ lw_all := lw_g (lw_at lw_m2 201 rfl) rfl
theorem q540 : (Jvm.Cond.code ({ cls := "WildBells", name := "isBell", desc := "(I)Z" } : Jvm.MethodName) prog_1_method_20_code (2 : Nat) (Option.some Jvm.ClassFile.FieldType.boolean)) ∈ lw_all := lw_g (lw_at lw_m2 202 rfl) rfl
theorem q541 : (Jvm.Cond.methodLink "WildBells" (143 : Nat) ({ cls := "WildBells", name := "bellOf", desc := "(I)LWildBells$Bell;" } : Jvm.MethodName)) ∈ lw_all := lw_g (lw_at lw_m2 203 rfl) rfl
theorem q542 : (Jvm.Cond.privateMethod ({ cls := "WildBells", name := "bellOf", desc := "(I)LWildBells$Bell;" } : Jvm.MethodName)) ∈ lw_tbl := lw_at lw_m2 204 rfl
theorem q543 : (Jvm.Cond.instanceMethod ({ cls := "WildBells", name := "bellOf", desc := "(I)LWildBells$Bell;" } : Jvm.MethodName)) ∈ lw_all := lw_g (lw_at lw_m2 205 rfl) rfl
theorem q544 : (Jvm.Cond.code ({ cls := "WildBells", name := "bellOf", desc := "(I)LWildBells$Bell;" } : Jvm.MethodName) prog_1_method_16_code (2 : Nat) (Option.some (Jvm.ClassFile.FieldType.object "WildBells$Bell"))) ∈ lw_all := lw_g (lw_at lw_m2 206 rfl) rfl
theorem q545 : (Jvm.Cond.methodLink "WildBells" (198 : Nat) ({ cls := "WildBells$Bell", name := "kind", desc := "()I" } : Jvm.MethodName)) ∈ lw_all := lw_g (lw_at lw_m2 207 rfl) rfl
theorem q574 : (Jvm.Cond.methodLink "WildBells" (164 : Nat) ({ cls := "WildBells", name := "nextOf", desc := "(I)I" } : Jvm.MethodName)) ∈ lw_all := lw_g (lw_at lw_m2 236 rfl) rfl
theorem q575 : (Jvm.Cond.privateMethod ({ cls := "WildBells", name := "nextOf", desc := "(I)I" } : Jvm.MethodName)) ∈ lw_tbl := lw_at lw_m2 237 rfl
theorem q576 : (Jvm.Cond.instanceMethod ({ cls := "WildBells", name := "nextOf", desc := "(I)I" } : Jvm.MethodName)) ∈ lw_all := lw_g (lw_at lw_m2 238 rfl) rfl
theorem q577 : (Jvm.Cond.code ({ cls := "WildBells", name := "nextOf", desc := "(I)I" } : Jvm.MethodName) prog_1_method_24_code (8 : Nat) (Option.some Jvm.ClassFile.FieldType.int)) ∈ lw_all := lw_g (lw_at lw_m2 239 rfl) rfl
theorem q578 : (Jvm.Cond.methodLink "WildBells" (158 : Nat) ({ cls := "WildBells", name := "worthOf", desc := "(II)I" } : Jvm.MethodName)) ∈ lw_all := lw_g (lw_at lw_m3 0 rfl) rfl
theorem q579 : (Jvm.Cond.privateMethod ({ cls := "WildBells", name := "worthOf", desc := "(II)I" } : Jvm.MethodName)) ∈ lw_tbl := lw_at lw_m3 1 rfl
theorem q580 : (Jvm.Cond.instanceMethod ({ cls := "WildBells", name := "worthOf", desc := "(II)I" } : Jvm.MethodName)) ∈ lw_all := lw_g (lw_at lw_m3 2 rfl) rfl
theorem q581 : (Jvm.Cond.code ({ cls := "WildBells", name := "worthOf", desc := "(II)I" } : Jvm.MethodName) prog_1_method_23_code (4 : Nat) (Option.some Jvm.ClassFile.FieldType.int)) ∈ lw_all := lw_g (lw_at lw_m3 3 rfl) rfl
theorem q582 : (Jvm.Cond.interfaceEntry "WildBells" (153 : Nat)) ∈ lw_tbl := lw_at lw_m3 4 rfl
theorem q583 : (Jvm.Cond.methodLink "WildBells" (153 : Nat) ({ cls := "WildBells$Likes", name := "worth", desc := "(I)I" } : Jvm.MethodName)) ∈ lw_all := lw_g (lw_at lw_m3 5 rfl) rfl
theorem q613 : (Jvm.Cond.privateMethod ({ cls := "WildBells", name := "nearest", desc := "(III)I" } : Jvm.MethodName)) ∈ lw_tbl := lw_at lw_m3 35 rfl
theorem q614 : (Jvm.Cond.instanceMethod ({ cls := "WildBells", name := "nearest", desc := "(III)I" } : Jvm.MethodName)) ∈ lw_all := lw_g (lw_at lw_m3 36 rfl) rfl
theorem q615 : (Jvm.Cond.code ({ cls := "WildBells", name := "nearest", desc := "(III)I" } : Jvm.MethodName) prog_1_method_22_code (8 : Nat) (Option.some Jvm.ClassFile.FieldType.int)) ∈ lw_all := lw_g (lw_at lw_m3 37 rfl) rfl
theorem q616 : (Jvm.Cond.methodLink "WildBells" (140 : Nat) ({ cls := "WildBells$World", name := "isCaught", desc := "(I)Z" } : Jvm.MethodName)) ∈ lw_all := lw_g (lw_at lw_m3 38 rfl) rfl
theorem q617 : (Jvm.Cond.methodLink "WildBells" (147 : Nat) ({ cls := "WildBells$Bell", name := "isUnder", desc := "(I)Z" } : Jvm.MethodName)) ∈ lw_all := lw_g (lw_at lw_m3 39 rfl) rfl
theorem q638 : (Jvm.Cond.methodLink "WildBells" (150 : Nat) ({ cls := "WildBells", name := "apart", desc := "(II)I" } : Jvm.MethodName)) ∈ lw_all := lw_g (lw_at lw_m3 60 rfl) rfl
theorem q679 : (Jvm.Cond.methodLink "WildBells" (161 : Nat) ({ cls := "WildBells", name := "beside", desc := "(II)I" } : Jvm.MethodName)) ∈ lw_all := lw_g (lw_at lw_m3 101 rfl) rfl
theorem q680 : (Jvm.Cond.static ({ cls := "WildBells", name := "beside", desc := "(II)I" } : Jvm.MethodName)) ∈ lw_all := lw_g (lw_at lw_m3 102 rfl) rfl
theorem q681 : (Jvm.Cond.code ({ cls := "WildBells", name := "beside", desc := "(II)I" } : Jvm.MethodName) prog_1_method_12_code (2 : Nat) (Option.some Jvm.ClassFile.FieldType.int)) ∈ lw_all := lw_g (lw_at lw_m3 103 rfl) rfl
theorem q683 : (Jvm.Cond.instanceMethod ({ cls := "WildBells", name := "change", desc := "(III)I" } : Jvm.MethodName)) ∈ lw_all := lw_g (lw_at lw_m3 105 rfl) rfl
theorem q684 : (Jvm.Cond.selects "WildBells" ({ cls := "WildBells", name := "change", desc := "(III)I" } : Jvm.MethodName) ({ cls := "WildBells", name := "change", desc := "(III)I" } : Jvm.MethodName)) ∈ lw_all := lw_g (lw_at lw_m3 106 rfl) rfl
theorem q685 : (Jvm.Cond.code ({ cls := "WildBells", name := "change", desc := "(III)I" } : Jvm.MethodName) prog_1_method_34_code (5 : Nat) (Option.some Jvm.ClassFile.FieldType.int)) ∈ lw_all := lw_g (lw_at lw_m3 107 rfl) rfl
theorem q686 : (Jvm.Cond.methodLink "WildBells" (202 : Nat) ({ cls := "WildBells", name := "isTold", desc := "(II)Z" } : Jvm.MethodName)) ∈ lw_all := lw_g (lw_at lw_m3 108 rfl) rfl
theorem q687 : (Jvm.Cond.static ({ cls := "WildBells", name := "isTold", desc := "(II)Z" } : Jvm.MethodName)) ∈ lw_all := lw_g (lw_at lw_m3 109 rfl) rfl
theorem q688 : (Jvm.Cond.code ({ cls := "WildBells", name := "isTold", desc := "(II)Z" } : Jvm.MethodName) prog_1_method_10_code (2 : Nat) (Option.some Jvm.ClassFile.FieldType.boolean)) ∈ lw_all := lw_g (lw_at lw_m3 110 rfl) rfl
theorem q689 : (Jvm.Cond.methodLink "WildBells" (20 : Nat) ({ cls := "WildBells", name := "isWeight", desc := "(I)Z" } : Jvm.MethodName)) ∈ lw_all := lw_g (lw_at lw_m3 111 rfl) rfl
theorem q690 : (Jvm.Cond.static ({ cls := "WildBells", name := "isWeight", desc := "(I)Z" } : Jvm.MethodName)) ∈ lw_all := lw_g (lw_at lw_m3 112 rfl) rfl
theorem q691 : (Jvm.Cond.code ({ cls := "WildBells", name := "isWeight", desc := "(I)Z" } : Jvm.MethodName) prog_1_method_9_code (1 : Nat) (Option.some Jvm.ClassFile.FieldType.boolean)) ∈ lw_all := lw_g (lw_at lw_m3 113 rfl) rfl
theorem q693 : (Jvm.Cond.instanceMethod ({ cls := "WildBells", name := "worth", desc := "(II)I" } : Jvm.MethodName)) ∈ lw_all := lw_g (lw_at lw_m3 115 rfl) rfl
theorem q694 : (Jvm.Cond.selects "WildBells" ({ cls := "WildBells", name := "worth", desc := "(II)I" } : Jvm.MethodName) ({ cls := "WildBells", name := "worth", desc := "(II)I" } : Jvm.MethodName)) ∈ lw_all := lw_g (lw_at lw_m3 116 rfl) rfl
theorem q695 : (Jvm.Cond.code ({ cls := "WildBells", name := "worth", desc := "(II)I" } : Jvm.MethodName) prog_1_method_35_code (3 : Nat) (Option.some Jvm.ClassFile.FieldType.int)) ∈ lw_all := lw_g (lw_at lw_m3 117 rfl) rfl
theorem q697 : (Jvm.Cond.instanceMethod ({ cls := "WildBells", name := "go", desc := "(I)I" } : Jvm.MethodName)) ∈ lw_all := lw_g (lw_at lw_m3 119 rfl) rfl
theorem q698 : (Jvm.Cond.selects "WildBells" ({ cls := "WildBells", name := "go", desc := "(I)I" } : Jvm.MethodName) ({ cls := "WildBells", name := "go", desc := "(I)I" } : Jvm.MethodName)) ∈ lw_all := lw_g (lw_at lw_m3 120 rfl) rfl
theorem q699 : (Jvm.Cond.code ({ cls := "WildBells", name := "go", desc := "(I)I" } : Jvm.MethodName) prog_1_method_37_code (2 : Nat) (Option.some Jvm.ClassFile.FieldType.int)) ∈ lw_all := lw_g (lw_at lw_m3 121 rfl) rfl
theorem q700 : (Jvm.Cond.methodLink "WildBells" (215 : Nat) ({ cls := "WildBells$World", name := "isLate", desc := "(I)Z" } : Jvm.MethodName)) ∈ lw_all := lw_g (lw_at lw_m3 122 rfl) rfl
theorem q705 : (Jvm.Cond.methodLink "WildBells" (218 : Nat) ({ cls := "WildBells", name := "goesOn", desc := "(I)I" } : Jvm.MethodName)) ∈ lw_all := lw_g (lw_at lw_m3 127 rfl) rfl
theorem q706 : (Jvm.Cond.privateMethod ({ cls := "WildBells", name := "goesOn", desc := "(I)I" } : Jvm.MethodName)) ∈ lw_tbl := lw_at lw_m3 128 rfl
theorem q707 : (Jvm.Cond.instanceMethod ({ cls := "WildBells", name := "goesOn", desc := "(I)I" } : Jvm.MethodName)) ∈ lw_all := lw_g (lw_at lw_m3 129 rfl) rfl
theorem q708 : (Jvm.Cond.code ({ cls := "WildBells", name := "goesOn", desc := "(I)I" } : Jvm.MethodName) prog_1_method_36_code (2 : Nat) (Option.some Jvm.ClassFile.FieldType.int)) ∈ lw_all := lw_g (lw_at lw_m3 130 rfl) rfl
theorem q709 : (Jvm.Cond.methodLink "WildBells" (206 : Nat) ({ cls := "WildBells", name := "passes", desc := "(I)V" } : Jvm.MethodName)) ∈ lw_all := lw_g (lw_at lw_m3 131 rfl) rfl
theorem q710 : (Jvm.Cond.privateMethod ({ cls := "WildBells", name := "passes", desc := "(I)V" } : Jvm.MethodName)) ∈ lw_tbl := lw_at lw_m3 132 rfl
theorem q711 : (Jvm.Cond.instanceMethod ({ cls := "WildBells", name := "passes", desc := "(I)V" } : Jvm.MethodName)) ∈ lw_all := lw_g (lw_at lw_m3 133 rfl) rfl
theorem q712 : (Jvm.Cond.code ({ cls := "WildBells", name := "passes", desc := "(I)V" } : Jvm.MethodName) prog_1_method_26_code (3 : Nat) (Option.none : Option Jvm.ClassFile.FieldType)) ∈ lw_all := lw_g (lw_at lw_m3 134 rfl) rfl
theorem q713 : (Jvm.Cond.methodLink "WildBells" (173 : Nat) ({ cls := "WildBells", name := "passes", desc := "()V" } : Jvm.MethodName)) ∈ lw_all := lw_g (lw_at lw_m3 135 rfl) rfl
theorem q714 : (Jvm.Cond.privateMethod ({ cls := "WildBells", name := "passes", desc := "()V" } : Jvm.MethodName)) ∈ lw_tbl := lw_at lw_m3 136 rfl
theorem q715 : (Jvm.Cond.instanceMethod ({ cls := "WildBells", name := "passes", desc := "()V" } : Jvm.MethodName)) ∈ lw_all := lw_g (lw_at lw_m3 137 rfl) rfl
theorem q716 : (Jvm.Cond.code ({ cls := "WildBells", name := "passes", desc := "()V" } : Jvm.MethodName) prog_1_method_25_code (2 : Nat) (Option.none : Option Jvm.ClassFile.FieldType)) ∈ lw_all := lw_g (lw_at lw_m3 138 rfl) rfl
theorem q717 : (Jvm.Cond.methodLink "WildBells" (209 : Nat) ({ cls := "WildBells$World", name := "whoIsCaught", desc := "()I" } : Jvm.MethodName)) ∈ lw_all := lw_g (lw_at lw_m3 139 rfl) rfl
theorem q721 : (Jvm.Cond.methodLink "WildBells" (212 : Nat) ({ cls := "WildBells", name := "ones", desc := "(I)I" } : Jvm.MethodName)) ∈ lw_all := lw_g (lw_at lw_m3 143 rfl) rfl
theorem q722 : (Jvm.Cond.static ({ cls := "WildBells", name := "ones", desc := "(I)I" } : Jvm.MethodName)) ∈ lw_all := lw_g (lw_at lw_m3 144 rfl) rfl
theorem q723 : (Jvm.Cond.code ({ cls := "WildBells", name := "ones", desc := "(I)I" } : Jvm.MethodName) prog_1_method_3_code (1 : Nat) (Option.some Jvm.ClassFile.FieldType.int)) ∈ lw_all := lw_g (lw_at lw_m3 145 rfl) rfl
theorem q724 : (Jvm.Cond.methodLink "WildBells" (1 : Nat) ({ cls := "java/lang/Integer", name := "bitCount", desc := "(I)I" } : Jvm.MethodName)) ∈ lw_all := lw_g (lw_at lw_m3 146 rfl) rfl
theorem q731 : (Jvm.Cond.instanceMethod ({ cls := "WildBells", name := "now", desc := "(I)I" } : Jvm.MethodName)) ∈ lw_all := lw_g (lw_at lw_m3 153 rfl) rfl
theorem q732 : (Jvm.Cond.selects "WildBells" ({ cls := "WildBells", name := "now", desc := "(I)I" } : Jvm.MethodName) ({ cls := "WildBells", name := "now", desc := "(I)I" } : Jvm.MethodName)) ∈ lw_all := lw_g (lw_at lw_m3 154 rfl) rfl
theorem q733 : (Jvm.Cond.code ({ cls := "WildBells", name := "now", desc := "(I)I" } : Jvm.MethodName) prog_1_method_38_code (2 : Nat) (Option.some Jvm.ClassFile.FieldType.int)) ∈ lw_all := lw_g (lw_at lw_m3 155 rfl) rfl
theorem q734 : (Jvm.Cond.methodLink "WildBells" (221 : Nat) ({ cls := "WildBells$World", name := "nets", desc := "()I" } : Jvm.MethodName)) ∈ lw_all := lw_g (lw_at lw_m3 156 rfl) rfl
theorem q738 : (Jvm.Cond.methodLink "WildBells" (224 : Nat) ({ cls := "WildBells$World", name := "weights", desc := "(Z)I" } : Jvm.MethodName)) ∈ lw_all := lw_g (lw_at lw_m3 160 rfl) rfl
theorem q743 : (Jvm.Cond.instanceMethod ({ cls := "WildBells", name := "loud", desc := "(II)I" } : Jvm.MethodName)) ∈ lw_all := lw_g (lw_at lw_m3 165 rfl) rfl
theorem q744 : (Jvm.Cond.selects "WildBells" ({ cls := "WildBells", name := "loud", desc := "(II)I" } : Jvm.MethodName) ({ cls := "WildBells", name := "loud", desc := "(II)I" } : Jvm.MethodName)) ∈ lw_all := lw_g (lw_at lw_m3 166 rfl) rfl
theorem q745 : (Jvm.Cond.code ({ cls := "WildBells", name := "loud", desc := "(II)I" } : Jvm.MethodName) prog_1_method_39_code (3 : Nat) (Option.some Jvm.ClassFile.FieldType.int)) ∈ lw_all := lw_g (lw_at lw_m3 167 rfl) rfl
theorem q746 : (Jvm.Cond.methodLink "WildBells" (228 : Nat) ({ cls := "WildBells$World", name := "loud", desc := "(II)I" } : Jvm.MethodName)) ∈ lw_all := lw_g (lw_at lw_m3 168 rfl) rfl
theorem q748 : (Jvm.Cond.instanceMethod ({ cls := "WildBells", name := "ahead", desc := "(II)I" } : Jvm.MethodName)) ∈ lw_all := lw_g (lw_at lw_m3 170 rfl) rfl
theorem q749 : (Jvm.Cond.selects "WildBells" ({ cls := "WildBells", name := "ahead", desc := "(II)I" } : Jvm.MethodName) ({ cls := "WildBells", name := "ahead", desc := "(II)I" } : Jvm.MethodName)) ∈ lw_all := lw_g (lw_at lw_m3 171 rfl) rfl
theorem q750 : (Jvm.Cond.codeWith ({ cls := "WildBells", name := "ahead", desc := "(II)I" } : Jvm.MethodName) prog_1_method_40_code (5 : Nat) (Option.some Jvm.ClassFile.FieldType.int) [((35 : Nat), (52 : Nat), (65 : Nat), (0 : Nat)), ((65 : Nat), (67 : Nat), (65 : Nat), (0 : Nat))]) ∈ lw_all := lw_g (lw_at lw_m3 172 rfl) rfl
theorem q751 : (Jvm.Cond.methodLink "WildBells" (231 : Nat) ({ cls := "WildBells$World", name := "become", desc := "(LWildBells$World;)V" } : Jvm.MethodName)) ∈ lw_all := lw_g (lw_at lw_m3 173 rfl) rfl
theorem q765 : (Jvm.Cond.instanceMethod ({ cls := "WildBells", name := "when", desc := "(I)I" } : Jvm.MethodName)) ∈ lw_all := lw_g (lw_at lw_m3 187 rfl) rfl
theorem q766 : (Jvm.Cond.selects "WildBells" ({ cls := "WildBells", name := "when", desc := "(I)I" } : Jvm.MethodName) ({ cls := "WildBells", name := "when", desc := "(I)I" } : Jvm.MethodName)) ∈ lw_all := lw_g (lw_at lw_m3 188 rfl) rfl
theorem q767 : (Jvm.Cond.code ({ cls := "WildBells", name := "when", desc := "(I)I" } : Jvm.MethodName) prog_1_method_42_code (2 : Nat) (Option.some Jvm.ClassFile.FieldType.int)) ∈ lw_all := lw_g (lw_at lw_m3 189 rfl) rfl
theorem q768 : (Jvm.Cond.methodLink "WildBells" (235 : Nat) ({ cls := "WildBells", name := "whenIs", desc := "(II)I" } : Jvm.MethodName)) ∈ lw_all := lw_g (lw_at lw_m3 190 rfl) rfl
theorem q769 : (Jvm.Cond.privateMethod ({ cls := "WildBells", name := "whenIs", desc := "(II)I" } : Jvm.MethodName)) ∈ lw_tbl := lw_at lw_m3 191 rfl
theorem q770 : (Jvm.Cond.instanceMethod ({ cls := "WildBells", name := "whenIs", desc := "(II)I" } : Jvm.MethodName)) ∈ lw_all := lw_g (lw_at lw_m3 192 rfl) rfl
theorem q771 : (Jvm.Cond.codeWith ({ cls := "WildBells", name := "whenIs", desc := "(II)I" } : Jvm.MethodName) prog_1_method_41_code (6 : Nat) (Option.some Jvm.ClassFile.FieldType.int) [((11 : Nat), (51 : Nat), (65 : Nat), (0 : Nat)), ((65 : Nat), (67 : Nat), (65 : Nat), (0 : Nat))]) ∈ lw_all := lw_g (lw_at lw_m3 193 rfl) rfl
theorem q772 : (Jvm.Cond.methodLink "WildBells" (238 : Nat) ({ cls := "WildBells", name := "orNone", desc := "(I)I" } : Jvm.MethodName)) ∈ lw_all := lw_g (lw_at lw_m3 194 rfl) rfl
theorem q773 : (Jvm.Cond.privateMethod ({ cls := "WildBells", name := "orNone", desc := "(I)I" } : Jvm.MethodName)) ∈ lw_tbl := lw_at lw_m3 195 rfl
theorem q774 : (Jvm.Cond.instanceMethod ({ cls := "WildBells", name := "orNone", desc := "(I)I" } : Jvm.MethodName)) ∈ lw_all := lw_g (lw_at lw_m3 196 rfl) rfl
theorem q775 : (Jvm.Cond.code ({ cls := "WildBells", name := "orNone", desc := "(I)I" } : Jvm.MethodName) prog_1_method_21_code (2 : Nat) (Option.some Jvm.ClassFile.FieldType.int)) ∈ lw_all := lw_g (lw_at lw_m3 197 rfl) rfl
theorem q777 : (Jvm.Cond.instanceMethod ({ cls := "WildBells", name := "still", desc := "()I" } : Jvm.MethodName)) ∈ lw_all := lw_g (lw_at lw_m3 199 rfl) rfl
theorem q778 : (Jvm.Cond.selects "WildBells" ({ cls := "WildBells", name := "still", desc := "()I" } : Jvm.MethodName) ({ cls := "WildBells", name := "still", desc := "()I" } : Jvm.MethodName)) ∈ lw_all := lw_g (lw_at lw_m3 200 rfl) rfl
theorem q779 : (Jvm.Cond.code ({ cls := "WildBells", name := "still", desc := "()I" } : Jvm.MethodName) prog_1_method_46_code (1 : Nat) (Option.some Jvm.ClassFile.FieldType.int)) ∈ lw_all := lw_g (lw_at lw_m3 201 rfl) rfl
theorem q780 : (Jvm.Cond.methodLink "WildBells" (252 : Nat) ({ cls := "WildBells", name := "stillBehind", desc := "()I" } : Jvm.MethodName)) ∈ lw_all := lw_g (lw_at lw_m3 202 rfl) rfl
theorem q781 : (Jvm.Cond.privateMethod ({ cls := "WildBells", name := "stillBehind", desc := "()I" } : Jvm.MethodName)) ∈ lw_tbl := lw_at lw_m3 203 rfl
theorem q782 : (Jvm.Cond.instanceMethod ({ cls := "WildBells", name := "stillBehind", desc := "()I" } : Jvm.MethodName)) ∈ lw_all := lw_g (lw_at lw_m3 204 rfl) rfl
theorem q783 : (Jvm.Cond.codeWith ({ cls := "WildBells", name := "stillBehind", desc := "()I" } : Jvm.MethodName) prog_1_method_45_code (4 : Nat) (Option.some Jvm.ClassFile.FieldType.int) [((11 : Nat), (44 : Nat), (57 : Nat), (0 : Nat))]) ∈ lw_all := lw_g (lw_at lw_m3 205 rfl) rfl
theorem q784 : (Jvm.Cond.methodLink "WildBells" (248 : Nat) ({ cls := "WildBells", name := "stays", desc := "()Z" } : Jvm.MethodName)) ∈ lw_all := lw_g (lw_at lw_m3 206 rfl) rfl
theorem q785 : (Jvm.Cond.privateMethod ({ cls := "WildBells", name := "stays", desc := "()Z" } : Jvm.MethodName)) ∈ lw_tbl := lw_at lw_m3 207 rfl
theorem q786 : (Jvm.Cond.instanceMethod ({ cls := "WildBells", name := "stays", desc := "()Z" } : Jvm.MethodName)) ∈ lw_all := lw_g (lw_at lw_m3 208 rfl) rfl
theorem q787 : (Jvm.Cond.code ({ cls := "WildBells", name := "stays", desc := "()Z" } : Jvm.MethodName) prog_1_method_44_code (2 : Nat) (Option.some Jvm.ClassFile.FieldType.boolean)) ∈ lw_all := lw_g (lw_at lw_m3 209 rfl) rfl
theorem q788 : (Jvm.Cond.methodLinkNest "WildBells" (241 : Nat) ({ cls := "WildBells$World", name := "copy", desc := "([I[I)V" } : Jvm.MethodName) "WildBells") ∈ lw_tbl := lw_at lw_m3 210 rfl
theorem q789 : (Jvm.Cond.methodLink "WildBells" (245 : Nat) ({ cls := "WildBells", name := "areAsTheyWere", desc := "(I)Z" } : Jvm.MethodName)) ∈ lw_all := lw_g (lw_at lw_m3 211 rfl) rfl
theorem q790 : (Jvm.Cond.privateMethod ({ cls := "WildBells", name := "areAsTheyWere", desc := "(I)Z" } : Jvm.MethodName)) ∈ lw_tbl := lw_at lw_m3 212 rfl
theorem q791 : (Jvm.Cond.instanceMethod ({ cls := "WildBells", name := "areAsTheyWere", desc := "(I)Z" } : Jvm.MethodName)) ∈ lw_all := lw_g (lw_at lw_m3 213 rfl) rfl
theorem q792 : (Jvm.Cond.code ({ cls := "WildBells", name := "areAsTheyWere", desc := "(I)Z" } : Jvm.MethodName) prog_1_method_43_code (4 : Nat) (Option.some Jvm.ClassFile.FieldType.boolean)) ∈ lw_all := lw_g (lw_at lw_m3 214 rfl) rfl
theorem q794 : (Jvm.Cond.instanceMethod ({ cls := "WildBells", name := "caught", desc := "(I)I" } : Jvm.MethodName)) ∈ lw_all := lw_g (lw_at lw_m3 216 rfl) rfl
theorem q795 : (Jvm.Cond.selects "WildBells" ({ cls := "WildBells", name := "caught", desc := "(I)I" } : Jvm.MethodName) ({ cls := "WildBells", name := "caught", desc := "(I)I" } : Jvm.MethodName)) ∈ lw_all := lw_g (lw_at lw_m3 217 rfl) rfl
theorem q796 : (Jvm.Cond.code ({ cls := "WildBells", name := "caught", desc := "(I)I" } : Jvm.MethodName) prog_1_method_48_code (2 : Nat) (Option.some Jvm.ClassFile.FieldType.int)) ∈ lw_all := lw_g (lw_at lw_m3 218 rfl) rfl
theorem q797 : (Jvm.Cond.methodLink "WildBells" (255 : Nat) ({ cls := "WildBells", name := "caughtBehind", desc := "(I)I" } : Jvm.MethodName)) ∈ lw_all := lw_g (lw_at lw_m3 219 rfl) rfl
theorem q798 : (Jvm.Cond.privateMethod ({ cls := "WildBells", name := "caughtBehind", desc := "(I)I" } : Jvm.MethodName)) ∈ lw_tbl := lw_at lw_m3 220 rfl
theorem q799 : (Jvm.Cond.instanceMethod ({ cls := "WildBells", name := "caughtBehind", desc := "(I)I" } : Jvm.MethodName)) ∈ lw_all := lw_g (lw_at lw_m3 221 rfl) rfl
theorem q800 : (Jvm.Cond.codeWith ({ cls := "WildBells", name := "caughtBehind", desc := "(I)I" } : Jvm.MethodName) prog_1_method_47_code (4 : Nat) (Option.some Jvm.ClassFile.FieldType.int) [((11 : Nat), (24 : Nat), (37 : Nat), (0 : Nat))]) ∈ lw_all := lw_g (lw_at lw_m3 222 rfl) rfl
theorem q802 : (Jvm.Cond.instanceMethod ({ cls := "WildBells", name := "netFor", desc := "(I)I" } : Jvm.MethodName)) ∈ lw_all := lw_g (lw_at lw_m3 224 rfl) rfl
theorem q803 : (Jvm.Cond.selects "WildBells" ({ cls := "WildBells", name := "netFor", desc := "(I)I" } : Jvm.MethodName) ({ cls := "WildBells", name := "netFor", desc := "(I)I" } : Jvm.MethodName)) ∈ lw_all := lw_g (lw_at lw_m3 225 rfl) rfl
theorem q804 : (Jvm.Cond.code ({ cls := "WildBells", name := "netFor", desc := "(I)I" } : Jvm.MethodName) prog_1_method_50_code (2 : Nat) (Option.some Jvm.ClassFile.FieldType.int)) ∈ lw_all := lw_g (lw_at lw_m3 226 rfl) rfl
theorem q805 : (Jvm.Cond.methodLink "WildBells" (258 : Nat) ({ cls := "WildBells", name := "bestNet", desc := "(I)I" } : Jvm.MethodName)) ∈ lw_all := lw_g (lw_at lw_m3 227 rfl) rfl
theorem q806 : (Jvm.Cond.privateMethod ({ cls := "WildBells", name := "bestNet", desc := "(I)I" } : Jvm.MethodName)) ∈ lw_tbl := lw_at lw_m3 228 rfl
theorem q807 : (Jvm.Cond.instanceMethod ({ cls := "WildBells", name := "bestNet", desc := "(I)I" } : Jvm.MethodName)) ∈ lw_all := lw_g (lw_at lw_m3 229 rfl) rfl
theorem q808 : (Jvm.Cond.code ({ cls := "WildBells", name := "bestNet", desc := "(I)I" } : Jvm.MethodName) prog_1_method_49_code (8 : Nat) (Option.some Jvm.ClassFile.FieldType.int)) ∈ lw_all := lw_g (lw_at lw_m3 230 rfl) rfl
theorem q810 : (Jvm.Cond.instanceMethod ({ cls := "WildBells", name := "best", desc := "(I)I" } : Jvm.MethodName)) ∈ lw_all := lw_g (lw_at lw_m3 232 rfl) rfl
theorem q811 : (Jvm.Cond.selects "WildBells" ({ cls := "WildBells", name := "best", desc := "(I)I" } : Jvm.MethodName) ({ cls := "WildBells", name := "best", desc := "(I)I" } : Jvm.MethodName)) ∈ lw_all := lw_g (lw_at lw_m3 233 rfl) rfl
theorem q812 : (Jvm.Cond.code ({ cls := "WildBells", name := "best", desc := "(I)I" } : Jvm.MethodName) prog_1_method_52_code (2 : Nat) (Option.some Jvm.ClassFile.FieldType.int)) ∈ lw_all := lw_g (lw_at lw_m3 234 rfl) rfl
theorem q813 : (Jvm.Cond.methodLink "WildBells" (261 : Nat) ({ cls := "WildBells", name := "bestOfAll", desc := "(I)I" } : Jvm.MethodName)) ∈ lw_all := lw_g (lw_at lw_m3 235 rfl) rfl
theorem q814 : (Jvm.Cond.privateMethod ({ cls := "WildBells", name := "bestOfAll", desc := "(I)I" } : Jvm.MethodName)) ∈ lw_tbl := lw_at lw_m3 236 rfl
theorem q815 : (Jvm.Cond.instanceMethod ({ cls := "WildBells", name := "bestOfAll", desc := "(I)I" } : Jvm.MethodName)) ∈ lw_all := lw_g (lw_at lw_m3 237 rfl) rfl
theorem q816 : (Jvm.Cond.code ({ cls := "WildBells", name := "bestOfAll", desc := "(I)I" } : Jvm.MethodName) prog_1_method_51_code (7 : Nat) (Option.some Jvm.ClassFile.FieldType.int)) ∈ lw_all := lw_g (lw_at lw_m3 238 rfl) rfl
theorem q818 : (Jvm.Cond.instanceMethod ({ cls := "WildBells", name := "drive", desc := "(II)I" } : Jvm.MethodName)) ∈ lw_all := lw_g (lw_at lw_m4 0 rfl) rfl
theorem q819 : (Jvm.Cond.selects "WildBells" ({ cls := "WildBells", name := "drive", desc := "(II)I" } : Jvm.MethodName) ({ cls := "WildBells", name := "drive", desc := "(II)I" } : Jvm.MethodName)) ∈ lw_all := lw_g (lw_at lw_m4 1 rfl) rfl
theorem q820 : (Jvm.Cond.code ({ cls := "WildBells", name := "drive", desc := "(II)I" } : Jvm.MethodName) prog_1_method_54_code (3 : Nat) (Option.some Jvm.ClassFile.FieldType.int)) ∈ lw_all := lw_g (lw_at lw_m4 2 rfl) rfl
theorem q821 : (Jvm.Cond.methodLink "WildBells" (264 : Nat) ({ cls := "WildBells", name := "bestDrive", desc := "(II)I" } : Jvm.MethodName)) ∈ lw_all := lw_g (lw_at lw_m4 3 rfl) rfl
theorem q822 : (Jvm.Cond.privateMethod ({ cls := "WildBells", name := "bestDrive", desc := "(II)I" } : Jvm.MethodName)) ∈ lw_tbl := lw_at lw_m4 4 rfl
theorem q823 : (Jvm.Cond.instanceMethod ({ cls := "WildBells", name := "bestDrive", desc := "(II)I" } : Jvm.MethodName)) ∈ lw_all := lw_g (lw_at lw_m4 5 rfl) rfl
theorem q824 : (Jvm.Cond.code ({ cls := "WildBells", name := "bestDrive", desc := "(II)I" } : Jvm.MethodName) prog_1_method_53_code (9 : Nat) (Option.some Jvm.ClassFile.FieldType.int)) ∈ lw_all := lw_g (lw_at lw_m4 6 rfl) rfl
theorem q826 : (Jvm.Cond.instanceMethod ({ cls := "WildBells", name := "kindFor", desc := "(I)I" } : Jvm.MethodName)) ∈ lw_all := lw_g (lw_at lw_m4 8 rfl) rfl
theorem q827 : (Jvm.Cond.selects "WildBells" ({ cls := "WildBells", name := "kindFor", desc := "(I)I" } : Jvm.MethodName) ({ cls := "WildBells", name := "kindFor", desc := "(I)I" } : Jvm.MethodName)) ∈ lw_all := lw_g (lw_at lw_m4 9 rfl) rfl
theorem q828 : (Jvm.Cond.code ({ cls := "WildBells", name := "kindFor", desc := "(I)I" } : Jvm.MethodName) prog_1_method_57_code (2 : Nat) (Option.some Jvm.ClassFile.FieldType.int)) ∈ lw_all := lw_g (lw_at lw_m4 10 rfl) rfl
theorem q829 : (Jvm.Cond.methodLink "WildBells" (270 : Nat) ({ cls := "WildBells", name := "bestKind", desc := "(I)I" } : Jvm.MethodName)) ∈ lw_all := lw_g (lw_at lw_m4 11 rfl) rfl
theorem q830 : (Jvm.Cond.privateMethod ({ cls := "WildBells", name := "bestKind", desc := "(I)I" } : Jvm.MethodName)) ∈ lw_tbl := lw_at lw_m4 12 rfl
theorem q831 : (Jvm.Cond.instanceMethod ({ cls := "WildBells", name := "bestKind", desc := "(I)I" } : Jvm.MethodName)) ∈ lw_all := lw_g (lw_at lw_m4 13 rfl) rfl
theorem q832 : (Jvm.Cond.code ({ cls := "WildBells", name := "bestKind", desc := "(I)I" } : Jvm.MethodName) prog_1_method_56_code (7 : Nat) (Option.some Jvm.ClassFile.FieldType.int)) ∈ lw_all := lw_g (lw_at lw_m4 14 rfl) rfl
theorem q833 : (Jvm.Cond.methodLink "WildBells" (267 : Nat) ({ cls := "WildBells", name := "freeFor", desc := "(I)I" } : Jvm.MethodName)) ∈ lw_all := lw_g (lw_at lw_m4 15 rfl) rfl
theorem q834 : (Jvm.Cond.privateMethod ({ cls := "WildBells", name := "freeFor", desc := "(I)I" } : Jvm.MethodName)) ∈ lw_tbl := lw_at lw_m4 16 rfl
theorem q835 : (Jvm.Cond.instanceMethod ({ cls := "WildBells", name := "freeFor", desc := "(I)I" } : Jvm.MethodName)) ∈ lw_all := lw_g (lw_at lw_m4 17 rfl) rfl
theorem q836 : (Jvm.Cond.code ({ cls := "WildBells", name := "freeFor", desc := "(I)I" } : Jvm.MethodName) prog_1_method_55_code (3 : Nat) (Option.some Jvm.ClassFile.FieldType.int)) ∈ lw_all := lw_g (lw_at lw_m4 18 rfl) rfl
theorem q838 : (Jvm.Cond.instanceMethod ({ cls := "WildBells", name := "stands", desc := "(II)I" } : Jvm.MethodName)) ∈ lw_all := lw_g (lw_at lw_m4 20 rfl) rfl
theorem q839 : (Jvm.Cond.selects "WildBells" ({ cls := "WildBells", name := "stands", desc := "(II)I" } : Jvm.MethodName) ({ cls := "WildBells", name := "stands", desc := "(II)I" } : Jvm.MethodName)) ∈ lw_all := lw_g (lw_at lw_m4 21 rfl) rfl
theorem q840 : (Jvm.Cond.codeWith ({ cls := "WildBells", name := "stands", desc := "(II)I" } : Jvm.MethodName) prog_1_method_63_code (4 : Nat) (Option.some Jvm.ClassFile.FieldType.int) [((0 : Nat), (6 : Nat), (7 : Nat), (61 : Nat))]) ∈ lw_all := lw_g (lw_at lw_m4 22 rfl) rfl
theorem q841 : (Jvm.Cond.methodLink "WildBells" (309 : Nat) ({ cls := "WildBells", name := "tellsFits", desc := "(II)I" } : Jvm.MethodName)) ∈ lw_all := lw_g (lw_at lw_m4 23 rfl) rfl
theorem q842 : (Jvm.Cond.privateMethod ({ cls := "WildBells", name := "tellsFits", desc := "(II)I" } : Jvm.MethodName)) ∈ lw_tbl := lw_at lw_m4 24 rfl
theorem q843 : (Jvm.Cond.instanceMethod ({ cls := "WildBells", name := "tellsFits", desc := "(II)I" } : Jvm.MethodName)) ∈ lw_all := lw_g (lw_at lw_m4 25 rfl) rfl
theorem q844 : (Jvm.Cond.code ({ cls := "WildBells", name := "tellsFits", desc := "(II)I" } : Jvm.MethodName) prog_1_method_62_code (6 : Nat) (Option.some Jvm.ClassFile.FieldType.int)) ∈ lw_all := lw_g (lw_at lw_m4 26 rfl) rfl
theorem q845 : (Jvm.Cond.methodLink "WildBells" (295 : Nat) ({ cls := "WildBells", name := "earsOf", desc := "(I)Ljava/lang/Object;" } : Jvm.MethodName)) ∈ lw_all := lw_g (lw_at lw_m4 27 rfl) rfl
theorem q846 : (Jvm.Cond.privateMethod ({ cls := "WildBells", name := "earsOf", desc := "(I)Ljava/lang/Object;" } : Jvm.MethodName)) ∈ lw_tbl := lw_at lw_m4 28 rfl
theorem q847 : (Jvm.Cond.instanceMethod ({ cls := "WildBells", name := "earsOf", desc := "(I)Ljava/lang/Object;" } : Jvm.MethodName)) ∈ lw_all := lw_g (lw_at lw_m4 29 rfl) rfl
theorem q848 : (Jvm.Cond.code ({ cls := "WildBells", name := "earsOf", desc := "(I)Ljava/lang/Object;" } : Jvm.MethodName) prog_1_method_59_code (3 : Nat) (Option.some (Jvm.ClassFile.FieldType.object "java/lang/Object"))) ∈ lw_all := lw_g (lw_at lw_m4 30 rfl) rfl
theorem q849 : (Jvm.Cond.methodLink "WildBells" (277 : Nat) ({ cls := "WildBells", name := "rowAt", desc := "(I)Ljava/lang/Object;" } : Jvm.MethodName)) ∈ lw_all := lw_g (lw_at lw_m4 31 rfl) rfl
theorem q850 : (Jvm.Cond.privateMethod ({ cls := "WildBells", name := "rowAt", desc := "(I)Ljava/lang/Object;" } : Jvm.MethodName)) ∈ lw_tbl := lw_at lw_m4 32 rfl
theorem q851 : (Jvm.Cond.instanceMethod ({ cls := "WildBells", name := "rowAt", desc := "(I)Ljava/lang/Object;" } : Jvm.MethodName)) ∈ lw_all := lw_g (lw_at lw_m4 33 rfl) rfl
theorem q852 : (Jvm.Cond.code ({ cls := "WildBells", name := "rowAt", desc := "(I)Ljava/lang/Object;" } : Jvm.MethodName) prog_1_method_94_code (2 : Nat) (Option.some (Jvm.ClassFile.FieldType.object "java/lang/Object"))) ∈ lw_all := lw_g (lw_at lw_m4 34 rfl) rfl
theorem q853 : (Jvm.Cond.methodLink "WildBells" (390 : Nat) ({ cls := "WildBells", name := "isSheet", desc := "(I)Z" } : Jvm.MethodName)) ∈ lw_all := lw_g (lw_at lw_m4 35 rfl) rfl
theorem q854 : (Jvm.Cond.static ({ cls := "WildBells", name := "isSheet", desc := "(I)Z" } : Jvm.MethodName)) ∈ lw_all := lw_g (lw_at lw_m4 36 rfl) rfl
theorem q855 : (Jvm.Cond.code ({ cls := "WildBells", name := "isSheet", desc := "(I)Z" } : Jvm.MethodName) prog_1_method_4_code (1 : Nat) (Option.some Jvm.ClassFile.FieldType.boolean)) ∈ lw_all := lw_g (lw_at lw_m4 37 rfl) rfl
theorem q856 : (Jvm.Cond.methodLink "WildBells" (281 : Nat) ({ cls := "WildBells", name := "need", desc := "(ZI)V" } : Jvm.MethodName)) ∈ lw_all := lw_g (lw_at lw_m4 38 rfl) rfl
theorem q857 : (Jvm.Cond.privateMethod ({ cls := "WildBells", name := "need", desc := "(ZI)V" } : Jvm.MethodName)) ∈ lw_tbl := lw_at lw_m4 39 rfl
theorem q858 : (Jvm.Cond.instanceMethod ({ cls := "WildBells", name := "need", desc := "(ZI)V" } : Jvm.MethodName)) ∈ lw_all := lw_g (lw_at lw_m4 40 rfl) rfl
theorem q859 : (Jvm.Cond.code ({ cls := "WildBells", name := "need", desc := "(ZI)V" } : Jvm.MethodName) prog_1_method_19_code (3 : Nat) (Option.none : Option Jvm.ClassFile.FieldType)) ∈ lw_all := lw_g (lw_at lw_m4 41 rfl) rfl
theorem q860 : (Jvm.Cond.methodLink "WildBells" (132 : Nat) ({ cls := "WildBells", name := "refused", desc := "(I)LWildBells$Refusal;" } : Jvm.MethodName)) ∈ lw_all := lw_g (lw_at lw_m4 42 rfl) rfl
theorem q861 : (Jvm.Cond.privateMethod ({ cls := "WildBells", name := "refused", desc := "(I)LWildBells$Refusal;" } : Jvm.MethodName)) ∈ lw_tbl := lw_at lw_m4 43 rfl
theorem q862 : (Jvm.Cond.instanceMethod ({ cls := "WildBells", name := "refused", desc := "(I)LWildBells$Refusal;" } : Jvm.MethodName)) ∈ lw_all := lw_g (lw_at lw_m4 44 rfl) rfl
theorem q863 : (Jvm.Cond.code ({ cls := "WildBells", name := "refused", desc := "(I)LWildBells$Refusal;" } : Jvm.MethodName) prog_1_method_18_code (2 : Nat) (Option.some (Jvm.ClassFile.FieldType.object "WildBells$Refusal"))) ∈ lw_all := lw_g (lw_at lw_m4 45 rfl) rfl
theorem q864 : (Jvm.Cond.methodLink "WildBells" (298 : Nat) ({ cls := "WildBells", name := "needEars", desc := "(Ljava/lang/Object;)V" } : Jvm.MethodName)) ∈ lw_all := lw_g (lw_at lw_m4 46 rfl) rfl
theorem q865 : (Jvm.Cond.privateMethod ({ cls := "WildBells", name := "needEars", desc := "(Ljava/lang/Object;)V" } : Jvm.MethodName)) ∈ lw_tbl := lw_at lw_m4 47 rfl
theorem q866 : (Jvm.Cond.instanceMethod ({ cls := "WildBells", name := "needEars", desc := "(Ljava/lang/Object;)V" } : Jvm.MethodName)) ∈ lw_all := lw_g (lw_at lw_m4 48 rfl) rfl
theorem q867 : (Jvm.Cond.code ({ cls := "WildBells", name := "needEars", desc := "(Ljava/lang/Object;)V" } : Jvm.MethodName) prog_1_method_60_code (3 : Nat) (Option.none : Option Jvm.ClassFile.FieldType)) ∈ lw_all := lw_g (lw_at lw_m4 49 rfl) rfl
theorem q868 : (Jvm.Cond.methodLink "WildBells" (285 : Nat) ({ cls := "WildBells", name := "ears", desc := "(Ljava/lang/Object;)I" } : Jvm.MethodName)) ∈ lw_all := lw_g (lw_at lw_m4 50 rfl) rfl
theorem q869 : (Jvm.Cond.static ({ cls := "WildBells", name := "ears", desc := "(Ljava/lang/Object;)I" } : Jvm.MethodName)) ∈ lw_all := lw_g (lw_at lw_m4 51 rfl) rfl
theorem q870 : (Jvm.Cond.code ({ cls := "WildBells", name := "ears", desc := "(Ljava/lang/Object;)I" } : Jvm.MethodName) prog_1_method_58_code (1 : Nat) (Option.some Jvm.ClassFile.FieldType.int)) ∈ lw_all := lw_g (lw_at lw_m4 52 rfl) rfl
theorem q871 : (Jvm.Cond.methodLink "WildBells" (273 : Nat) ({ cls := "WildBells", name := "length", desc := "(Ljava/lang/Object;)I" } : Jvm.MethodName)) ∈ lw_all := lw_g (lw_at lw_m4 53 rfl) rfl
theorem q872 : (Jvm.Cond.static ({ cls := "WildBells", name := "length", desc := "(Ljava/lang/Object;)I" } : Jvm.MethodName)) ∈ lw_all := lw_g (lw_at lw_m4 54 rfl) rfl
theorem q873 : (Jvm.Cond.code ({ cls := "WildBells", name := "length", desc := "(Ljava/lang/Object;)I" } : Jvm.MethodName) prog_1_method_95_code (1 : Nat) (Option.some Jvm.ClassFile.FieldType.int)) ∈ lw_all := lw_g (lw_at lw_m4 55 rfl) rfl
theorem q874 : (Jvm.Cond.classLink "WildBells" (393 : Nat) "[B") ∈ lw_all := lw_g (lw_at lw_m4 56 rfl) rfl
theorem q875 : (Jvm.Cond.classLink "WildBells" (394 : Nat) "[S") ∈ lw_all := lw_g (lw_at lw_m4 57 rfl) rfl
theorem q876 : (Jvm.Cond.classLink "WildBells" (396 : Nat) "[I") ∈ lw_all := lw_g (lw_at lw_m4 58 rfl) rfl
theorem q877 : (Jvm.Cond.methodLink "WildBells" (288 : Nat) ({ cls := "WildBells", name := "number", desc := "(Ljava/lang/Object;I)I" } : Jvm.MethodName)) ∈ lw_all := lw_g (lw_at lw_m4 59 rfl) rfl
theorem q878 : (Jvm.Cond.static ({ cls := "WildBells", name := "number", desc := "(Ljava/lang/Object;I)I" } : Jvm.MethodName)) ∈ lw_all := lw_g (lw_at lw_m4 60 rfl) rfl
theorem q879 : (Jvm.Cond.code ({ cls := "WildBells", name := "number", desc := "(Ljava/lang/Object;I)I" } : Jvm.MethodName) prog_1_method_96_code (2 : Nat) (Option.some Jvm.ClassFile.FieldType.int)) ∈ lw_all := lw_g (lw_at lw_m4 61 rfl) rfl
theorem q880 : (Jvm.Cond.methodLink "WildBells" (305 : Nat) ({ cls := "WildBells", name := "soundsSo", desc := "(Ljava/lang/Object;II)Z" } : Jvm.MethodName)) ∈ lw_all := lw_g (lw_at lw_m4 62 rfl) rfl
theorem q881 : (Jvm.Cond.static ({ cls := "WildBells", name := "soundsSo", desc := "(Ljava/lang/Object;II)Z" } : Jvm.MethodName)) ∈ lw_all := lw_g (lw_at lw_m4 63 rfl) rfl
theorem q882 : (Jvm.Cond.code ({ cls := "WildBells", name := "soundsSo", desc := "(Ljava/lang/Object;II)Z" } : Jvm.MethodName) prog_1_method_61_code (5 : Nat) (Option.some Jvm.ClassFile.FieldType.boolean)) ∈ lw_all := lw_g (lw_at lw_m4 64 rfl) rfl
theorem q883 : (Jvm.Cond.methodLink "WildBells" (292 : Nat) ({ cls := "WildBells", name := "loudBy", desc := "(II)I" } : Jvm.MethodName)) ∈ lw_all := lw_g (lw_at lw_m4 65 rfl) rfl
theorem q885 : (Jvm.Cond.instanceMethod ({ cls := "WildBells", name := "where", desc := "(II)I" } : Jvm.MethodName)) ∈ lw_all := lw_g (lw_at lw_m4 67 rfl) rfl
theorem q886 : (Jvm.Cond.selects "WildBells" ({ cls := "WildBells", name := "where", desc := "(II)I" } : Jvm.MethodName) ({ cls := "WildBells", name := "where", desc := "(II)I" } : Jvm.MethodName)) ∈ lw_all := lw_g (lw_at lw_m4 68 rfl) rfl
theorem q887 : (Jvm.Cond.codeWith ({ cls := "WildBells", name := "where", desc := "(II)I" } : Jvm.MethodName) prog_1_method_64_code (4 : Nat) (Option.some Jvm.ClassFile.FieldType.int) [((0 : Nat), (23 : Nat), (24 : Nat), (61 : Nat))]) ∈ lw_all := lw_g (lw_at lw_m4 69 rfl) rfl
theorem q889 : (Jvm.Cond.instanceMethod ({ cls := "WildBells", name := "ear", desc := "(II)I" } : Jvm.MethodName)) ∈ lw_all := lw_g (lw_at lw_m4 71 rfl) rfl
theorem q890 : (Jvm.Cond.selects "WildBells" ({ cls := "WildBells", name := "ear", desc := "(II)I" } : Jvm.MethodName) ({ cls := "WildBells", name := "ear", desc := "(II)I" } : Jvm.MethodName)) ∈ lw_all := lw_g (lw_at lw_m4 72 rfl) rfl
theorem q891 : (Jvm.Cond.codeWith ({ cls := "WildBells", name := "ear", desc := "(II)I" } : Jvm.MethodName) prog_1_method_67_code (4 : Nat) (Option.some Jvm.ClassFile.FieldType.int) [((0 : Nat), (24 : Nat), (25 : Nat), (61 : Nat))]) ∈ lw_all := lw_g (lw_at lw_m4 73 rfl) rfl
theorem q892 : (Jvm.Cond.methodLink "WildBells" (315 : Nat) ({ cls := "WildBells", name := "bestEar", desc := "(I)I" } : Jvm.MethodName)) ∈ lw_all := lw_g (lw_at lw_m4 74 rfl) rfl
theorem q893 : (Jvm.Cond.privateMethod ({ cls := "WildBells", name := "bestEar", desc := "(I)I" } : Jvm.MethodName)) ∈ lw_tbl := lw_at lw_m4 75 rfl
theorem q894 : (Jvm.Cond.instanceMethod ({ cls := "WildBells", name := "bestEar", desc := "(I)I" } : Jvm.MethodName)) ∈ lw_all := lw_g (lw_at lw_m4 76 rfl) rfl
theorem q895 : (Jvm.Cond.code ({ cls := "WildBells", name := "bestEar", desc := "(I)I" } : Jvm.MethodName) prog_1_method_66_code (4 : Nat) (Option.some Jvm.ClassFile.FieldType.int)) ∈ lw_all := lw_g (lw_at lw_m4 77 rfl) rfl
theorem q896 : (Jvm.Cond.methodLink "WildBells" (312 : Nat) ({ cls := "WildBells", name := "leftBy", desc := "(II)I" } : Jvm.MethodName)) ∈ lw_all := lw_g (lw_at lw_m4 78 rfl) rfl
theorem q897 : (Jvm.Cond.privateMethod ({ cls := "WildBells", name := "leftBy", desc := "(II)I" } : Jvm.MethodName)) ∈ lw_tbl := lw_at lw_m4 79 rfl
theorem q898 : (Jvm.Cond.instanceMethod ({ cls := "WildBells", name := "leftBy", desc := "(II)I" } : Jvm.MethodName)) ∈ lw_all := lw_g (lw_at lw_m4 80 rfl) rfl
theorem q899 : (Jvm.Cond.code ({ cls := "WildBells", name := "leftBy", desc := "(II)I" } : Jvm.MethodName) prog_1_method_65_code (6 : Nat) (Option.some Jvm.ClassFile.FieldType.int)) ∈ lw_all := lw_g (lw_at lw_m4 81 rfl) rfl
theorem q901 : (Jvm.Cond.instanceMethod ({ cls := "WildBells", name := "whose", desc := "(I)I" } : Jvm.MethodName)) ∈ lw_all := lw_g (lw_at lw_m4 83 rfl) rfl
theorem q902 : (Jvm.Cond.selects "WildBells" ({ cls := "WildBells", name := "whose", desc := "(I)I" } : Jvm.MethodName) ({ cls := "WildBells", name := "whose", desc := "(I)I" } : Jvm.MethodName)) ∈ lw_all := lw_g (lw_at lw_m4 84 rfl) rfl
theorem q903 : (Jvm.Cond.codeWith ({ cls := "WildBells", name := "whose", desc := "(I)I" } : Jvm.MethodName) prog_1_method_68_code (5 : Nat) (Option.some Jvm.ClassFile.FieldType.int) [((0 : Nat), (89 : Nat), (90 : Nat), (61 : Nat))]) ∈ lw_all := lw_g (lw_at lw_m4 85 rfl) rfl
theorem q905 : (Jvm.Cond.instanceMethod ({ cls := "WildBells", name := "stock", desc := "(III)I" } : Jvm.MethodName)) ∈ lw_all := lw_g (lw_at lw_m4 87 rfl) rfl
theorem q906 : (Jvm.Cond.selects "WildBells" ({ cls := "WildBells", name := "stock", desc := "(III)I" } : Jvm.MethodName) ({ cls := "WildBells", name := "stock", desc := "(III)I" } : Jvm.MethodName)) ∈ lw_all := lw_g (lw_at lw_m4 88 rfl) rfl
theorem q907 : (Jvm.Cond.code ({ cls := "WildBells", name := "stock", desc := "(III)I" } : Jvm.MethodName) prog_1_method_70_code (5 : Nat) (Option.some Jvm.ClassFile.FieldType.int)) ∈ lw_all := lw_g (lw_at lw_m4 89 rfl) rfl
theorem q908 : (Jvm.Cond.methodLink "WildBells" (321 : Nat) ({ cls := "WildBells", name := "stockOf", desc := "(III)I" } : Jvm.MethodName)) ∈ lw_all := lw_g (lw_at lw_m4 90 rfl) rfl
theorem q909 : (Jvm.Cond.static ({ cls := "WildBells", name := "stockOf", desc := "(III)I" } : Jvm.MethodName)) ∈ lw_all := lw_g (lw_at lw_m4 91 rfl) rfl
theorem q910 : (Jvm.Cond.code ({ cls := "WildBells", name := "stockOf", desc := "(III)I" } : Jvm.MethodName) prog_1_method_69_code (5 : Nat) (Option.some Jvm.ClassFile.FieldType.int)) ∈ lw_all := lw_g (lw_at lw_m4 92 rfl) rfl
theorem q911 : (Jvm.Cond.methodLink "WildBells" (318 : Nat) ({ cls := "java/lang/Math", name := "min", desc := "(II)I" } : Jvm.MethodName)) ∈ lw_all := lw_g (lw_at lw_m4 93 rfl) rfl
theorem q913 : (Jvm.Cond.instanceMethod ({ cls := "WildBells", name := "lasts", desc := "(II)I" } : Jvm.MethodName)) ∈ lw_all := lw_g (lw_at lw_m4 95 rfl) rfl
theorem q914 : (Jvm.Cond.selects "WildBells" ({ cls := "WildBells", name := "lasts", desc := "(II)I" } : Jvm.MethodName) ({ cls := "WildBells", name := "lasts", desc := "(II)I" } : Jvm.MethodName)) ∈ lw_all := lw_g (lw_at lw_m4 96 rfl) rfl
theorem q915 : (Jvm.Cond.code ({ cls := "WildBells", name := "lasts", desc := "(II)I" } : Jvm.MethodName) prog_1_method_71_code (4 : Nat) (Option.some Jvm.ClassFile.FieldType.int)) ∈ lw_all := lw_g (lw_at lw_m4 97 rfl) rfl
theorem q917 : (Jvm.Cond.instanceMethod ({ cls := "WildBells", name := "ring", desc := "()I" } : Jvm.MethodName)) ∈ lw_all := lw_g (lw_at lw_m4 99 rfl) rfl
theorem q918 : (Jvm.Cond.selects "WildBells" ({ cls := "WildBells", name := "ring", desc := "()I" } : Jvm.MethodName) ({ cls := "WildBells", name := "ring", desc := "()I" } : Jvm.MethodName)) ∈ lw_all := lw_g (lw_at lw_m4 100 rfl) rfl
theorem q919 : (Jvm.Cond.code ({ cls := "WildBells", name := "ring", desc := "()I" } : Jvm.MethodName) prog_1_method_76_code (1 : Nat) (Option.some Jvm.ClassFile.FieldType.int)) ∈ lw_all := lw_g (lw_at lw_m4 101 rfl) rfl
theorem q920 : (Jvm.Cond.methodLink "WildBells" (340 : Nat) ({ cls := "WildBells", name := "bestRing", desc := "()I" } : Jvm.MethodName)) ∈ lw_all := lw_g (lw_at lw_m4 102 rfl) rfl
theorem q921 : (Jvm.Cond.privateMethod ({ cls := "WildBells", name := "bestRing", desc := "()I" } : Jvm.MethodName)) ∈ lw_tbl := lw_at lw_m4 103 rfl
theorem q922 : (Jvm.Cond.instanceMethod ({ cls := "WildBells", name := "bestRing", desc := "()I" } : Jvm.MethodName)) ∈ lw_all := lw_g (lw_at lw_m4 104 rfl) rfl
theorem q923 : (Jvm.Cond.code ({ cls := "WildBells", name := "bestRing", desc := "()I" } : Jvm.MethodName) prog_1_method_75_code (3 : Nat) (Option.some Jvm.ClassFile.FieldType.int)) ∈ lw_all := lw_g (lw_at lw_m4 105 rfl) rfl
theorem q924 : (Jvm.Cond.methodLink "WildBells" (337 : Nat) ({ cls := "WildBells", name := "isRing", desc := "(I)Z" } : Jvm.MethodName)) ∈ lw_all := lw_g (lw_at lw_m4 106 rfl) rfl
theorem q925 : (Jvm.Cond.privateMethod ({ cls := "WildBells", name := "isRing", desc := "(I)Z" } : Jvm.MethodName)) ∈ lw_tbl := lw_at lw_m4 107 rfl
theorem q926 : (Jvm.Cond.instanceMethod ({ cls := "WildBells", name := "isRing", desc := "(I)Z" } : Jvm.MethodName)) ∈ lw_all := lw_g (lw_at lw_m4 108 rfl) rfl
theorem q927 : (Jvm.Cond.code ({ cls := "WildBells", name := "isRing", desc := "(I)Z" } : Jvm.MethodName) prog_1_method_74_code (3 : Nat) (Option.some Jvm.ClassFile.FieldType.boolean)) ∈ lw_all := lw_g (lw_at lw_m4 109 rfl) rfl
theorem q928 : (Jvm.Cond.methodLink "WildBells" (331 : Nat) ({ cls := "WildBells", name := "notesOf", desc := "(I)I" } : Jvm.MethodName)) ∈ lw_all := lw_g (lw_at lw_m4 110 rfl) rfl
theorem q929 : (Jvm.Cond.privateMethod ({ cls := "WildBells", name := "notesOf", desc := "(I)I" } : Jvm.MethodName)) ∈ lw_tbl := lw_at lw_m4 111 rfl
theorem q930 : (Jvm.Cond.instanceMethod ({ cls := "WildBells", name := "notesOf", desc := "(I)I" } : Jvm.MethodName)) ∈ lw_all := lw_g (lw_at lw_m4 112 rfl) rfl
theorem q931 : (Jvm.Cond.code ({ cls := "WildBells", name := "notesOf", desc := "(I)I" } : Jvm.MethodName) prog_1_method_73_code (4 : Nat) (Option.some Jvm.ClassFile.FieldType.int)) ∈ lw_all := lw_g (lw_at lw_m4 113 rfl) rfl
theorem q932 : (Jvm.Cond.methodLink "WildBells" (328 : Nat) ({ cls := "WildBells", name := "has", desc := "(II)Z" } : Jvm.MethodName)) ∈ lw_all := lw_g (lw_at lw_m4 114 rfl) rfl
theorem q933 : (Jvm.Cond.static ({ cls := "WildBells", name := "has", desc := "(II)Z" } : Jvm.MethodName)) ∈ lw_all := lw_g (lw_at lw_m4 115 rfl) rfl
theorem q934 : (Jvm.Cond.code ({ cls := "WildBells", name := "has", desc := "(II)Z" } : Jvm.MethodName) prog_1_method_2_code (2 : Nat) (Option.some Jvm.ClassFile.FieldType.boolean)) ∈ lw_all := lw_g (lw_at lw_m4 116 rfl) rfl
theorem q935 : (Jvm.Cond.methodLink "WildBells" (334 : Nat) ({ cls := "WildBells", name := "isRow", desc := "(I)Z" } : Jvm.MethodName)) ∈ lw_all := lw_g (lw_at lw_m4 117 rfl) rfl
theorem q936 : (Jvm.Cond.static ({ cls := "WildBells", name := "isRow", desc := "(I)Z" } : Jvm.MethodName)) ∈ lw_all := lw_g (lw_at lw_m4 118 rfl) rfl
theorem q937 : (Jvm.Cond.code ({ cls := "WildBells", name := "isRow", desc := "(I)Z" } : Jvm.MethodName) prog_1_method_72_code (3 : Nat) (Option.some Jvm.ClassFile.FieldType.boolean)) ∈ lw_all := lw_g (lw_at lw_m4 119 rfl) rfl
theorem q938 : (Jvm.Cond.methodLink "WildBells" (325 : Nat) ({ cls := "java/lang/Integer", name := "numberOfTrailingZeros", desc := "(I)I" } : Jvm.MethodName)) ∈ lw_all := lw_g (lw_at lw_m4 120 rfl) rfl
theorem q943 : (Jvm.Cond.instanceMethod ({ cls := "WildBells", name := "rings", desc := "()I" } : Jvm.MethodName)) ∈ lw_all := lw_g (lw_at lw_m4 125 rfl) rfl
theorem q944 : (Jvm.Cond.selects "WildBells" ({ cls := "WildBells", name := "rings", desc := "()I" } : Jvm.MethodName) ({ cls := "WildBells", name := "rings", desc := "()I" } : Jvm.MethodName)) ∈ lw_all := lw_g (lw_at lw_m4 126 rfl) rfl
theorem q945 : (Jvm.Cond.code ({ cls := "WildBells", name := "rings", desc := "()I" } : Jvm.MethodName) prog_1_method_77_code (1 : Nat) (Option.some Jvm.ClassFile.FieldType.int)) ∈ lw_all := lw_g (lw_at lw_m4 127 rfl) rfl
theorem q947 : (Jvm.Cond.instanceMethod ({ cls := "WildBells", name := "peals", desc := "()I" } : Jvm.MethodName)) ∈ lw_all := lw_g (lw_at lw_m4 129 rfl) rfl
theorem q948 : (Jvm.Cond.selects "WildBells" ({ cls := "WildBells", name := "peals", desc := "()I" } : Jvm.MethodName) ({ cls := "WildBells", name := "peals", desc := "()I" } : Jvm.MethodName)) ∈ lw_all := lw_g (lw_at lw_m4 130 rfl) rfl
theorem q949 : (Jvm.Cond.code ({ cls := "WildBells", name := "peals", desc := "()I" } : Jvm.MethodName) prog_1_method_78_code (3 : Nat) (Option.some Jvm.ClassFile.FieldType.int)) ∈ lw_all := lw_g (lw_at lw_m4 131 rfl) rfl
theorem q951 : (Jvm.Cond.instanceMethod ({ cls := "WildBells", name := "wanted", desc := "()I" } : Jvm.MethodName)) ∈ lw_all := lw_g (lw_at lw_m4 133 rfl) rfl
theorem q952 : (Jvm.Cond.selects "WildBells" ({ cls := "WildBells", name := "wanted", desc := "()I" } : Jvm.MethodName) ({ cls := "WildBells", name := "wanted", desc := "()I" } : Jvm.MethodName)) ∈ lw_all := lw_g (lw_at lw_m4 134 rfl) rfl
theorem q953 : (Jvm.Cond.code ({ cls := "WildBells", name := "wanted", desc := "()I" } : Jvm.MethodName) prog_1_method_80_code (4 : Nat) (Option.some Jvm.ClassFile.FieldType.int)) ∈ lw_all := lw_g (lw_at lw_m4 135 rfl) rfl
theorem q954 : (Jvm.Cond.methodLink "WildBells" (343 : Nat) ({ cls := "WildBells", name := "longest", desc := "(I)I" } : Jvm.MethodName)) ∈ lw_all := lw_g (lw_at lw_m4 136 rfl) rfl
theorem q955 : (Jvm.Cond.static ({ cls := "WildBells", name := "longest", desc := "(I)I" } : Jvm.MethodName)) ∈ lw_all := lw_g (lw_at lw_m4 137 rfl) rfl
theorem q956 : (Jvm.Cond.code ({ cls := "WildBells", name := "longest", desc := "(I)I" } : Jvm.MethodName) prog_1_method_79_code (5 : Nat) (Option.some Jvm.ClassFile.FieldType.int)) ∈ lw_all := lw_g (lw_at lw_m4 138 rfl) rfl
theorem q958 : (Jvm.Cond.instanceMethod ({ cls := "WildBells", name := "changes", desc := "(I)J" } : Jvm.MethodName)) ∈ lw_all := lw_g (lw_at lw_m4 140 rfl) rfl
theorem q959 : (Jvm.Cond.selects "WildBells" ({ cls := "WildBells", name := "changes", desc := "(I)J" } : Jvm.MethodName) ({ cls := "WildBells", name := "changes", desc := "(I)J" } : Jvm.MethodName)) ∈ lw_all := lw_g (lw_at lw_m4 141 rfl) rfl
theorem q960 : (Jvm.Cond.code ({ cls := "WildBells", name := "changes", desc := "(I)J" } : Jvm.MethodName) prog_1_method_81_code (5 : Nat) (Option.some Jvm.ClassFile.FieldType.long)) ∈ lw_all := lw_g (lw_at lw_m4 142 rfl) rfl
theorem q962 : (Jvm.Cond.instanceMethod ({ cls := "WildBells", name := "thunder", desc := "(I)I" } : Jvm.MethodName)) ∈ lw_all := lw_g (lw_at lw_m4 144 rfl) rfl
theorem q963 : (Jvm.Cond.selects "WildBells" ({ cls := "WildBells", name := "thunder", desc := "(I)I" } : Jvm.MethodName) ({ cls := "WildBells", name := "thunder", desc := "(I)I" } : Jvm.MethodName)) ∈ lw_all := lw_g (lw_at lw_m4 145 rfl) rfl
theorem q964 : (Jvm.Cond.code ({ cls := "WildBells", name := "thunder", desc := "(I)I" } : Jvm.MethodName) prog_1_method_83_code (2 : Nat) (Option.some Jvm.ClassFile.FieldType.int)) ∈ lw_all := lw_g (lw_at lw_m4 146 rfl) rfl
theorem q965 : (Jvm.Cond.methodLink "WildBells" (349 : Nat) ({ cls := "WildBells", name := "thunders", desc := "(I)I" } : Jvm.MethodName)) ∈ lw_all := lw_g (lw_at lw_m4 147 rfl) rfl
theorem q966 : (Jvm.Cond.privateMethod ({ cls := "WildBells", name := "thunders", desc := "(I)I" } : Jvm.MethodName)) ∈ lw_tbl := lw_at lw_m4 148 rfl
theorem q967 : (Jvm.Cond.instanceMethod ({ cls := "WildBells", name := "thunders", desc := "(I)I" } : Jvm.MethodName)) ∈ lw_all := lw_g (lw_at lw_m4 149 rfl) rfl
theorem q968 : (Jvm.Cond.code ({ cls := "WildBells", name := "thunders", desc := "(I)I" } : Jvm.MethodName) prog_1_method_82_code (5 : Nat) (Option.some Jvm.ClassFile.FieldType.int)) ∈ lw_all := lw_g (lw_at lw_m4 150 rfl) rfl
theorem q969 : (Jvm.Cond.methodLink "WildBells" (346 : Nat) ({ cls := "WildBells$World", name := "draw", desc := "()I" } : Jvm.MethodName)) ∈ lw_all := lw_g (lw_at lw_m4 151 rfl) rfl
theorem q975 : (Jvm.Cond.instanceMethod ({ cls := "WildBells", name := "seed", desc := "(I)I" } : Jvm.MethodName)) ∈ lw_all := lw_g (lw_at lw_m4 157 rfl) rfl
theorem q976 : (Jvm.Cond.selects "WildBells" ({ cls := "WildBells", name := "seed", desc := "(I)I" } : Jvm.MethodName) ({ cls := "WildBells", name := "seed", desc := "(I)I" } : Jvm.MethodName)) ∈ lw_all := lw_g (lw_at lw_m4 158 rfl) rfl
theorem q977 : (Jvm.Cond.code ({ cls := "WildBells", name := "seed", desc := "(I)I" } : Jvm.MethodName) prog_1_method_84_code (3 : Nat) (Option.some Jvm.ClassFile.FieldType.int)) ∈ lw_all := lw_g (lw_at lw_m4 159 rfl) rfl
theorem q979 : (Jvm.Cond.instanceMethod ({ cls := "WildBells", name := "feed", desc := "(II)I" } : Jvm.MethodName)) ∈ lw_all := lw_g (lw_at lw_m4 161 rfl) rfl
theorem q980 : (Jvm.Cond.selects "WildBells" ({ cls := "WildBells", name := "feed", desc := "(II)I" } : Jvm.MethodName) ({ cls := "WildBells", name := "feed", desc := "(II)I" } : Jvm.MethodName)) ∈ lw_all := lw_g (lw_at lw_m4 162 rfl) rfl
theorem q981 : (Jvm.Cond.code ({ cls := "WildBells", name := "feed", desc := "(II)I" } : Jvm.MethodName) prog_1_method_85_code (4 : Nat) (Option.some Jvm.ClassFile.FieldType.int)) ∈ lw_all := lw_g (lw_at lw_m4 163 rfl) rfl
theorem q983 : (Jvm.Cond.instanceMethod ({ cls := "WildBells", name := "wipe", desc := "()I" } : Jvm.MethodName)) ∈ lw_all := lw_g (lw_at lw_m4 165 rfl) rfl
theorem q984 : (Jvm.Cond.selects "WildBells" ({ cls := "WildBells", name := "wipe", desc := "()I" } : Jvm.MethodName) ({ cls := "WildBells", name := "wipe", desc := "()I" } : Jvm.MethodName)) ∈ lw_all := lw_g (lw_at lw_m4 166 rfl) rfl
theorem q985 : (Jvm.Cond.code ({ cls := "WildBells", name := "wipe", desc := "()I" } : Jvm.MethodName) prog_1_method_86_code (2 : Nat) (Option.some Jvm.ClassFile.FieldType.int)) ∈ lw_all := lw_g (lw_at lw_m4 167 rfl) rfl
theorem q987 : (Jvm.Cond.instanceMethod ({ cls := "WildBells", name := "text", desc := "()I" } : Jvm.MethodName)) ∈ lw_all := lw_g (lw_at lw_m4 169 rfl) rfl
theorem q988 : (Jvm.Cond.selects "WildBells" ({ cls := "WildBells", name := "text", desc := "()I" } : Jvm.MethodName) ({ cls := "WildBells", name := "text", desc := "()I" } : Jvm.MethodName)) ∈ lw_all := lw_g (lw_at lw_m4 170 rfl) rfl
theorem q989 : (Jvm.Cond.codeWith ({ cls := "WildBells", name := "text", desc := "()I" } : Jvm.MethodName) prog_1_method_87_code (2 : Nat) (Option.some Jvm.ClassFile.FieldType.int) [((30 : Nat), (53 : Nat), (54 : Nat), (370 : Nat))]) ∈ lw_all := lw_g (lw_at lw_m4 171 rfl) rfl
theorem q990 : (Jvm.Cond.classLink "WildBells" (370 : Nat) "WildBells$Wrong") ∈ lw_all := lw_g (lw_at lw_m4 172 rfl) rfl
theorem q991 : (Jvm.Cond.methodLink "WildBells" (367 : Nat) ({ cls := "WildBells$Reader", name := "whole", desc := "()I" } : Jvm.MethodName)) ∈ lw_all := lw_g (lw_at lw_m4 173 rfl) rfl
theorem q1101 : (Jvm.Cond.instanceMethod ({ cls := "WildBells", name := "hold", desc := "(II)I" } : Jvm.MethodName)) ∈ lw_all := lw_g (lw_at lw_m5 43 rfl) rfl
theorem q1102 : (Jvm.Cond.selects "WildBells" ({ cls := "WildBells", name := "hold", desc := "(II)I" } : Jvm.MethodName) ({ cls := "WildBells", name := "hold", desc := "(II)I" } : Jvm.MethodName)) ∈ lw_all := lw_g (lw_at lw_m5 44 rfl) rfl
theorem q1103 : (Jvm.Cond.code ({ cls := "WildBells", name := "hold", desc := "(II)I" } : Jvm.MethodName) prog_1_method_90_code (3 : Nat) (Option.some Jvm.ClassFile.FieldType.int)) ∈ lw_all := lw_g (lw_at lw_m5 45 rfl) rfl
theorem q1104 : (Jvm.Cond.methodLink "WildBells" (378 : Nat) ({ cls := "WildBells", name := "isSpot", desc := "(I)Z" } : Jvm.MethodName)) ∈ lw_all := lw_g (lw_at lw_m5 46 rfl) rfl
theorem q1105 : (Jvm.Cond.static ({ cls := "WildBells", name := "isSpot", desc := "(I)Z" } : Jvm.MethodName)) ∈ lw_all := lw_g (lw_at lw_m5 47 rfl) rfl
theorem q1106 : (Jvm.Cond.code ({ cls := "WildBells", name := "isSpot", desc := "(I)Z" } : Jvm.MethodName) prog_1_method_5_code (1 : Nat) (Option.some Jvm.ClassFile.FieldType.boolean)) ∈ lw_all := lw_g (lw_at lw_m5 48 rfl) rfl
theorem q1108 : (Jvm.Cond.instanceMethod ({ cls := "WildBells", name := "as", desc := "(II)I" } : Jvm.MethodName)) ∈ lw_all := lw_g (lw_at lw_m5 50 rfl) rfl
theorem q1109 : (Jvm.Cond.selects "WildBells" ({ cls := "WildBells", name := "as", desc := "(II)I" } : Jvm.MethodName) ({ cls := "WildBells", name := "as", desc := "(II)I" } : Jvm.MethodName)) ∈ lw_all := lw_g (lw_at lw_m5 51 rfl) rfl
theorem q1110 : (Jvm.Cond.code ({ cls := "WildBells", name := "as", desc := "(II)I" } : Jvm.MethodName) prog_1_method_92_code (5 : Nat) (Option.some Jvm.ClassFile.FieldType.int)) ∈ lw_all := lw_g (lw_at lw_m5 52 rfl) rfl
theorem q1111 : (Jvm.Cond.methodLink "WildBells" (381 : Nat) ({ cls := "WildBells", name := "thingAt", desc := "(I)Ljava/lang/Object;" } : Jvm.MethodName)) ∈ lw_all := lw_g (lw_at lw_m5 53 rfl) rfl
theorem q1112 : (Jvm.Cond.privateMethod ({ cls := "WildBells", name := "thingAt", desc := "(I)Ljava/lang/Object;" } : Jvm.MethodName)) ∈ lw_tbl := lw_at lw_m5 54 rfl
theorem q1113 : (Jvm.Cond.instanceMethod ({ cls := "WildBells", name := "thingAt", desc := "(I)Ljava/lang/Object;" } : Jvm.MethodName)) ∈ lw_all := lw_g (lw_at lw_m5 55 rfl) rfl
theorem q1114 : (Jvm.Cond.code ({ cls := "WildBells", name := "thingAt", desc := "(I)Ljava/lang/Object;" } : Jvm.MethodName) prog_1_method_88_code (3 : Nat) (Option.some (Jvm.ClassFile.FieldType.object "java/lang/Object"))) ∈ lw_all := lw_g (lw_at lw_m5 56 rfl) rfl
theorem q1115 : (Jvm.Cond.methodLink "WildBells" (384 : Nat) ({ cls := "WildBells", name := "cast", desc := "(Ljava/lang/Object;I)LWildBells$Bell;" } : Jvm.MethodName)) ∈ lw_all := lw_g (lw_at lw_m5 57 rfl) rfl
theorem q1116 : (Jvm.Cond.static ({ cls := "WildBells", name := "cast", desc := "(Ljava/lang/Object;I)LWildBells$Bell;" } : Jvm.MethodName)) ∈ lw_all := lw_g (lw_at lw_m5 58 rfl) rfl
theorem q1117 : (Jvm.Cond.code ({ cls := "WildBells", name := "cast", desc := "(Ljava/lang/Object;I)LWildBells$Bell;" } : Jvm.MethodName) prog_1_method_91_code (2 : Nat) (Option.some (Jvm.ClassFile.FieldType.object "WildBells$Bell"))) ∈ lw_all := lw_g (lw_at lw_m5 59 rfl) rfl
theorem q1119 : (Jvm.Cond.instanceMethod ({ cls := "WildBells", name := "sheet", desc := "(III)I" } : Jvm.MethodName)) ∈ lw_all := lw_g (lw_at lw_m5 61 rfl) rfl
theorem q1120 : (Jvm.Cond.selects "WildBells" ({ cls := "WildBells", name := "sheet", desc := "(III)I" } : Jvm.MethodName) ({ cls := "WildBells", name := "sheet", desc := "(III)I" } : Jvm.MethodName)) ∈ lw_all := lw_g (lw_at lw_m5 62 rfl) rfl
theorem q1121 : (Jvm.Cond.code ({ cls := "WildBells", name := "sheet", desc := "(III)I" } : Jvm.MethodName) prog_1_method_93_code (4 : Nat) (Option.some Jvm.ClassFile.FieldType.int)) ∈ lw_all := lw_g (lw_at lw_m5 63 rfl) rfl
theorem q1124 : (Jvm.Cond.instanceMethod ({ cls := "WildBells", name := "write", desc := "(III)I" } : Jvm.MethodName)) ∈ lw_all := lw_g (lw_at lw_m5 66 rfl) rfl
theorem q1125 : (Jvm.Cond.selects "WildBells" ({ cls := "WildBells", name := "write", desc := "(III)I" } : Jvm.MethodName) ({ cls := "WildBells", name := "write", desc := "(III)I" } : Jvm.MethodName)) ∈ lw_all := lw_g (lw_at lw_m5 67 rfl) rfl
theorem q1126 : (Jvm.Cond.codeWith ({ cls := "WildBells", name := "write", desc := "(III)I" } : Jvm.MethodName) prog_1_method_99_code (5 : Nat) (Option.some Jvm.ClassFile.FieldType.int) [((0 : Nat), (47 : Nat), (48 : Nat), (61 : Nat))]) ∈ lw_all := lw_g (lw_at lw_m5 68 rfl) rfl
theorem q1127 : (Jvm.Cond.methodLink "WildBells" (397 : Nat) ({ cls := "WildBells", name := "lay", desc := "(Ljava/lang/Object;II)V" } : Jvm.MethodName)) ∈ lw_all := lw_g (lw_at lw_m5 69 rfl) rfl
theorem q1128 : (Jvm.Cond.static ({ cls := "WildBells", name := "lay", desc := "(Ljava/lang/Object;II)V" } : Jvm.MethodName)) ∈ lw_all := lw_g (lw_at lw_m5 70 rfl) rfl
theorem q1129 : (Jvm.Cond.code ({ cls := "WildBells", name := "lay", desc := "(Ljava/lang/Object;II)V" } : Jvm.MethodName) prog_1_method_98_code (3 : Nat) (Option.none : Option Jvm.ClassFile.FieldType)) ∈ lw_all := lw_g (lw_at lw_m5 71 rfl) rfl
theorem q1131 : (Jvm.Cond.instanceMethod ({ cls := "WildBells", name := "copy", desc := "(IIIII)I" } : Jvm.MethodName)) ∈ lw_all := lw_g (lw_at lw_m5 73 rfl) rfl
theorem q1132 : (Jvm.Cond.selects "WildBells" ({ cls := "WildBells", name := "copy", desc := "(IIIII)I" } : Jvm.MethodName) ({ cls := "WildBells", name := "copy", desc := "(IIIII)I" } : Jvm.MethodName)) ∈ lw_all := lw_g (lw_at lw_m5 74 rfl) rfl
theorem q1133 : (Jvm.Cond.codeWith ({ cls := "WildBells", name := "copy", desc := "(IIIII)I" } : Jvm.MethodName) prog_1_method_101_code (8 : Nat) (Option.some Jvm.ClassFile.FieldType.int) [((0 : Nat), (120 : Nat), (121 : Nat), (61 : Nat))]) ∈ lw_all := lw_g (lw_at lw_m5 75 rfl) rfl
theorem q1134 : (Jvm.Cond.methodLink "WildBells" (407 : Nat) ({ cls := "WildBells", name := "widthOf", desc := "(Ljava/lang/Object;)I" } : Jvm.MethodName)) ∈ lw_all := lw_g (lw_at lw_m5 76 rfl) rfl
theorem q1135 : (Jvm.Cond.static ({ cls := "WildBells", name := "widthOf", desc := "(Ljava/lang/Object;)I" } : Jvm.MethodName)) ∈ lw_all := lw_g (lw_at lw_m5 77 rfl) rfl
theorem q1136 : (Jvm.Cond.code ({ cls := "WildBells", name := "widthOf", desc := "(Ljava/lang/Object;)I" } : Jvm.MethodName) prog_1_method_97_code (1 : Nat) (Option.some Jvm.ClassFile.FieldType.int)) ∈ lw_all := lw_g (lw_at lw_m5 78 rfl) rfl
theorem q1137 : (Jvm.Cond.methodLink "WildBells" (410 : Nat) ({ cls := "WildBells", name := "slide", desc := "(Ljava/lang/Object;ILjava/lang/Object;II)V" } : Jvm.MethodName)) ∈ lw_all := lw_g (lw_at lw_m5 79 rfl) rfl
theorem q1138 : (Jvm.Cond.static ({ cls := "WildBells", name := "slide", desc := "(Ljava/lang/Object;ILjava/lang/Object;II)V" } : Jvm.MethodName)) ∈ lw_all := lw_g (lw_at lw_m5 80 rfl) rfl
theorem q1139 : (Jvm.Cond.code ({ cls := "WildBells", name := "slide", desc := "(Ljava/lang/Object;ILjava/lang/Object;II)V" } : Jvm.MethodName) prog_1_method_100_code (5 : Nat) (Option.none : Option Jvm.ClassFile.FieldType)) ∈ lw_all := lw_g (lw_at lw_m5 81 rfl) rfl
theorem q1140 : (Jvm.Cond.methodLink "WildBells" (401 : Nat) ({ cls := "java/lang/System", name := "arraycopy", desc := "(Ljava/lang/Object;ILjava/lang/Object;II)V" } : Jvm.MethodName)) ∈ lw_all := lw_g (lw_at lw_m5 82 rfl) rfl
theorem q1142 : (Jvm.Cond.instanceMethod ({ cls := "WildBells", name := "load", desc := "(I)I" } : Jvm.MethodName)) ∈ lw_all := lw_g (lw_at lw_m5 84 rfl) rfl
theorem q1143 : (Jvm.Cond.selects "WildBells" ({ cls := "WildBells", name := "load", desc := "(I)I" } : Jvm.MethodName) ({ cls := "WildBells", name := "load", desc := "(I)I" } : Jvm.MethodName)) ∈ lw_all := lw_g (lw_at lw_m5 85 rfl) rfl
theorem q1144 : (Jvm.Cond.codeWith ({ cls := "WildBells", name := "load", desc := "(I)I" } : Jvm.MethodName) prog_1_method_103_code (3 : Nat) (Option.some Jvm.ClassFile.FieldType.int) [((0 : Nat), (25 : Nat), (26 : Nat), (61 : Nat))]) ∈ lw_all := lw_g (lw_at lw_m5 86 rfl) rfl
theorem q1145 : (Jvm.Cond.methodLink "WildBells" (413 : Nat) ({ cls := "WildBells", name := "loads", desc := "(Ljava/lang/Object;)I" } : Jvm.MethodName)) ∈ lw_all := lw_g (lw_at lw_m5 87 rfl) rfl
theorem q1146 : (Jvm.Cond.privateMethod ({ cls := "WildBells", name := "loads", desc := "(Ljava/lang/Object;)I" } : Jvm.MethodName)) ∈ lw_tbl := lw_at lw_m5 88 rfl
theorem q1147 : (Jvm.Cond.instanceMethod ({ cls := "WildBells", name := "loads", desc := "(Ljava/lang/Object;)I" } : Jvm.MethodName)) ∈ lw_all := lw_g (lw_at lw_m5 89 rfl) rfl
theorem q1148 : (Jvm.Cond.code ({ cls := "WildBells", name := "loads", desc := "(Ljava/lang/Object;)I" } : Jvm.MethodName) prog_1_method_102_code (3 : Nat) (Option.some Jvm.ClassFile.FieldType.int)) ∈ lw_all := lw_g (lw_at lw_m5 90 rfl) rfl
theorem q1150 : (Jvm.Cond.instanceMethod ({ cls := "WildBells", name := "judge", desc := "(I)I" } : Jvm.MethodName)) ∈ lw_all := lw_g (lw_at lw_m5 92 rfl) rfl
theorem q1151 : (Jvm.Cond.selects "WildBells" ({ cls := "WildBells", name := "judge", desc := "(I)I" } : Jvm.MethodName) ({ cls := "WildBells", name := "judge", desc := "(I)I" } : Jvm.MethodName)) ∈ lw_all := lw_g (lw_at lw_m5 93 rfl) rfl
theorem q1152 : (Jvm.Cond.codeWith ({ cls := "WildBells", name := "judge", desc := "(I)I" } : Jvm.MethodName) prog_1_method_105_code (4 : Nat) (Option.some Jvm.ClassFile.FieldType.int) [((0 : Nat), (60 : Nat), (61 : Nat), (61 : Nat))]) ∈ lw_all := lw_g (lw_at lw_m5 94 rfl) rfl
theorem q1153 : (Jvm.Cond.methodLink "WildBells" (416 : Nat) ({ cls := "WildBells", name := "isRight", desc := "(Ljava/lang/Object;I)Z" } : Jvm.MethodName)) ∈ lw_all := lw_g (lw_at lw_m5 95 rfl) rfl
theorem q1154 : (Jvm.Cond.privateMethod ({ cls := "WildBells", name := "isRight", desc := "(Ljava/lang/Object;I)Z" } : Jvm.MethodName)) ∈ lw_tbl := lw_at lw_m5 96 rfl
theorem q1155 : (Jvm.Cond.instanceMethod ({ cls := "WildBells", name := "isRight", desc := "(Ljava/lang/Object;I)Z" } : Jvm.MethodName)) ∈ lw_all := lw_g (lw_at lw_m5 97 rfl) rfl
theorem q1156 : (Jvm.Cond.code ({ cls := "WildBells", name := "isRight", desc := "(Ljava/lang/Object;I)Z" } : Jvm.MethodName) prog_1_method_104_code (4 : Nat) (Option.some Jvm.ClassFile.FieldType.boolean)) ∈ lw_all := lw_g (lw_at lw_m5 98 rfl) rfl
theorem q1158 : (Jvm.Cond.instanceMethod ({ cls := "WildBells", name := "image", desc := "()I" } : Jvm.MethodName)) ∈ lw_all := lw_g (lw_at lw_m5 100 rfl) rfl
theorem q1159 : (Jvm.Cond.selects "WildBells" ({ cls := "WildBells", name := "image", desc := "()I" } : Jvm.MethodName) ({ cls := "WildBells", name := "image", desc := "()I" } : Jvm.MethodName)) ∈ lw_all := lw_g (lw_at lw_m5 101 rfl) rfl
theorem q1160 : (Jvm.Cond.code ({ cls := "WildBells", name := "image", desc := "()I" } : Jvm.MethodName) prog_1_method_106_code (1 : Nat) (Option.some Jvm.ClassFile.FieldType.int)) ∈ lw_all := lw_g (lw_at lw_m5 102 rfl) rfl
theorem q1162 : (Jvm.Cond.instanceMethod ({ cls := "WildBells", name := "undo", desc := "()I" } : Jvm.MethodName)) ∈ lw_all := lw_g (lw_at lw_m5 104 rfl) rfl
theorem q1163 : (Jvm.Cond.selects "WildBells" ({ cls := "WildBells", name := "undo", desc := "()I" } : Jvm.MethodName) ({ cls := "WildBells", name := "undo", desc := "()I" } : Jvm.MethodName)) ∈ lw_all := lw_g (lw_at lw_m5 105 rfl) rfl
theorem q1164 : (Jvm.Cond.code ({ cls := "WildBells", name := "undo", desc := "()I" } : Jvm.MethodName) prog_1_method_107_code (1 : Nat) (Option.some Jvm.ClassFile.FieldType.int)) ∈ lw_all := lw_g (lw_at lw_m5 106 rfl) rfl
theorem q1166 : (Jvm.Cond.instanceMethod ({ cls := "WildBells", name := "tear", desc := "()I" } : Jvm.MethodName)) ∈ lw_all := lw_g (lw_at lw_m5 108 rfl) rfl
theorem q1167 : (Jvm.Cond.selects "WildBells" ({ cls := "WildBells", name := "tear", desc := "()I" } : Jvm.MethodName) ({ cls := "WildBells", name := "tear", desc := "()I" } : Jvm.MethodName)) ∈ lw_all := lw_g (lw_at lw_m5 109 rfl) rfl
theorem q1168 : (Jvm.Cond.code ({ cls := "WildBells", name := "tear", desc := "()I" } : Jvm.MethodName) prog_1_method_108_code (2 : Nat) (Option.some Jvm.ClassFile.FieldType.int)) ∈ lw_all := lw_g (lw_at lw_m5 110 rfl) rfl
theorem q1170 : (Jvm.Cond.instanceMethod ({ cls := "WildBells", name := "count", desc := "(I)I" } : Jvm.MethodName)) ∈ lw_all := lw_g (lw_at lw_m5 112 rfl) rfl
theorem q1171 : (Jvm.Cond.selects "WildBells" ({ cls := "WildBells", name := "count", desc := "(I)I" } : Jvm.MethodName) ({ cls := "WildBells", name := "count", desc := "(I)I" } : Jvm.MethodName)) ∈ lw_all := lw_g (lw_at lw_m5 113 rfl) rfl
theorem q1172 : (Jvm.Cond.code ({ cls := "WildBells", name := "count", desc := "(I)I" } : Jvm.MethodName) prog_1_method_109_code (2 : Nat) (Option.some Jvm.ClassFile.FieldType.int)) ∈ lw_all := lw_g (lw_at lw_m5 114 rfl) rfl
theorem q1173 : (Jvm.Cond.methodLink "WildBells" (424 : Nat) ({ cls := "WildBells", name := "holding", desc := "()I" } : Jvm.MethodName)) ∈ lw_all := lw_g (lw_at lw_m5 115 rfl) rfl
theorem q1174 : (Jvm.Cond.privateMethod ({ cls := "WildBells", name := "holding", desc := "()I" } : Jvm.MethodName)) ∈ lw_tbl := lw_at lw_m5 116 rfl
theorem q1175 : (Jvm.Cond.instanceMethod ({ cls := "WildBells", name := "holding", desc := "()I" } : Jvm.MethodName)) ∈ lw_all := lw_g (lw_at lw_m5 117 rfl) rfl
theorem q1176 : (Jvm.Cond.code ({ cls := "WildBells", name := "holding", desc := "()I" } : Jvm.MethodName) prog_1_method_89_code (6 : Nat) (Option.some Jvm.ClassFile.FieldType.int)) ∈ lw_all := lw_g (lw_at lw_m5 118 rfl) rfl
theorem q1178 : (Jvm.Cond.instanceMethod ({ cls := "WildBells", name := "status", desc := "(I)I" } : Jvm.MethodName)) ∈ lw_all := lw_g (lw_at lw_m5 120 rfl) rfl
theorem q1179 : (Jvm.Cond.selects "WildBells" ({ cls := "WildBells", name := "status", desc := "(I)I" } : Jvm.MethodName) ({ cls := "WildBells", name := "status", desc := "(I)I" } : Jvm.MethodName)) ∈ lw_all := lw_g (lw_at lw_m5 121 rfl) rfl
theorem q1180 : (Jvm.Cond.code ({ cls := "WildBells", name := "status", desc := "(I)I" } : Jvm.MethodName) prog_1_method_110_code (4 : Nat) (Option.some Jvm.ClassFile.FieldType.int)) ∈ lw_all := lw_g (lw_at lw_m5 122 rfl) rfl
theorem in_X0 : ∀ w ∈ wsX00, w ∈ lw_all := lw_in wsX00 [428, 430, 432, 434, 436, 438, 440, 442, 444, 446, 448, 450, 452, 454, 456] (by decide +kernel) (by decide +kernel)
