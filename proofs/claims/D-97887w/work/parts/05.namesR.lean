/-! WildBells$Reader -/
set_option maxRecDepth 100000
def RX2 : String := "WildBells$Reader"
def TX2 : u_T := fun k => match k with
  | 0 => ("WildBells$Reader", "wrong", "LWildBells$Wrong;", true)
  | 1 => ("WildBells$Reader", "tape", "[B", true)
  | 2 => ("WildBells$Reader", "told", "LWildBells$World;", true)
  | 3 => ("WildBells$Reader", "length", "I", false)
  | 4 => ("WildBells$Reader", "at", "I", false)
  | 5 => ("WildBells$Reader", "begin", "I", false)
  | 6 => ("WildBells$Reader", "token", "I", false)
  | _ => ("WildBells$Reader", "value", "I", false)
def tyX2 : Nat → FieldType := fun k => match k with
  | 0 => .object "WildBells$Wrong"
  | 1 => .array .byte
  | 2 => .object "WildBells$World"
  | 3 => .int
  | 4 => .int
  | 5 => .int
  | 6 => .int
  | _ => .int
abbrev wsX20 : List Cond := u_ws RX2 TX2 8
theorem nmX2 : ∀ a, a < 8 → ∀ b, b < 8 → a ≠ b → (TX2 a).2.1 ≠ (TX2 b).2.1 := by decide +kernel
theorem tyX2_ok : ∀ k, k < 8 → parseFieldDescriptor (TX2 k).2.2.1 = some (tyX2 k) := by decide +kernel
abbrev cX2_init : ByteArray := prog_7_method_1_code
def yX2_init : MethodName := ⟨RX2, "<init>", "()V"⟩
def dkwX2_init_1 : List UInt8 := [187, 0, 22, 89, 183, 0, 24, 181, 0, 25, 177]
abbrev dktX2_init_1 : List UInt8 := dkwX2_init_1 ++ []
def dkwX2_init_0 : List UInt8 := [42, 183, 0, 3, 42, 187, 0, 9, 89, 183, 0, 11, 181, 0, 12, 42, 16, 120, 188, 8, 181, 0, 18, 42]
abbrev dktX2_init_0 : List UInt8 := dkwX2_init_0 ++ dktX2_init_1
theorem dksX2_init_0 : cX2_init.data.toList.drop 0 = dktX2_init_0 := by decide +kernel
theorem dksX2_init_1 : cX2_init.data.toList.drop 24 = dktX2_init_1 := dk_seg dksX2_init_0 24 rfl rfl
theorem dX2_init_0 : decode cX2_init 0 = .ok (.aload_n 0, 1) := dk_42 (dk_at dksX2_init_0 0 rfl rfl)
theorem dX2_init_1 : decode cX2_init 1 = .ok (.invokespecial 3, 3) := dk_183 0 3 (dk_at dksX2_init_0 1 rfl rfl)
theorem dX2_init_4 : decode cX2_init 4 = .ok (.aload_n 0, 1) := dk_42 (dk_at dksX2_init_0 4 rfl rfl)
theorem dX2_init_5 : decode cX2_init 5 = .ok (.new 9, 3) := dk_187 0 9 (dk_at dksX2_init_0 5 rfl rfl)
theorem dX2_init_8 : decode cX2_init 8 = .ok (.dup, 1) := dk_89 (dk_at dksX2_init_0 8 rfl rfl)
theorem dX2_init_9 : decode cX2_init 9 = .ok (.invokespecial 11, 3) := dk_183 0 11 (dk_at dksX2_init_0 9 rfl rfl)
theorem dX2_init_12 : decode cX2_init 12 = .ok (.putfield 12, 3) := dk_181 0 12 (dk_at dksX2_init_0 12 rfl rfl)
theorem dX2_init_15 : decode cX2_init 15 = .ok (.aload_n 0, 1) := dk_42 (dk_at dksX2_init_0 15 rfl rfl)
theorem dX2_init_16 : decode cX2_init 16 = .ok (.bipush 120, 2) := dk_16 120 (dk_at dksX2_init_0 16 rfl rfl)
theorem dX2_init_18 : decode cX2_init 18 = .ok (.newarray .byte, 2) := dk_188_8 (dk_at dksX2_init_0 18 rfl rfl)
theorem dX2_init_20 : decode cX2_init 20 = .ok (.putfield 18, 3) := dk_181 0 18 (dk_at dksX2_init_0 20 rfl rfl)
theorem dX2_init_23 : decode cX2_init 23 = .ok (.aload_n 0, 1) := dk_42 (dk_at dksX2_init_0 23 rfl rfl)
theorem dX2_init_24 : decode cX2_init 24 = .ok (.new 22, 3) := dk_187 0 22 (dk_at dksX2_init_1 0 rfl rfl)
theorem dX2_init_27 : decode cX2_init 27 = .ok (.dup, 1) := dk_89 (dk_at dksX2_init_1 3 rfl rfl)
theorem dX2_init_28 : decode cX2_init 28 = .ok (.invokespecial 24, 3) := dk_183 0 24 (dk_at dksX2_init_1 4 rfl rfl)
theorem dX2_init_31 : decode cX2_init 31 = .ok (.putfield 25, 3) := dk_181 0 25 (dk_at dksX2_init_1 7 rfl rfl)
theorem dX2_init_34 : decode cX2_init 34 = .ok (.return_, 1) := dk_177 (dk_at dksX2_init_1 10 rfl rfl)
abbrev cX2_whole : ByteArray := prog_7_method_18_code
def yX2_whole : MethodName := ⟨RX2, "whole", "()I"⟩
def dkwX2_whole_2 : List UInt8 := [167, 0, 4, 3, 182, 0, 63, 27, 172]
abbrev dktX2_whole_2 : List UInt8 := dkwX2_whole_2 ++ []
def dkwX2_whole_1 : List UInt8 := [182, 0, 82, 42, 182, 0, 128, 132, 1, 1, 167, 255, 237, 42, 42, 180, 0, 47, 154, 0, 7, 4]
abbrev dktX2_whole_1 : List UInt8 := dkwX2_whole_1 ++ dktX2_whole_2
def dkwX2_whole_0 : List UInt8 := [42, 3, 181, 0, 37, 42, 182, 0, 82, 42, 182, 0, 128, 4, 60, 42, 180, 0, 47, 6, 160, 0, 17, 42]
abbrev dktX2_whole_0 : List UInt8 := dkwX2_whole_0 ++ dktX2_whole_1
theorem dksX2_whole_0 : cX2_whole.data.toList.drop 0 = dktX2_whole_0 := by decide +kernel
theorem dksX2_whole_1 : cX2_whole.data.toList.drop 24 = dktX2_whole_1 := dk_seg dksX2_whole_0 24 rfl rfl
theorem dksX2_whole_2 : cX2_whole.data.toList.drop 46 = dktX2_whole_2 := dk_seg dksX2_whole_1 22 rfl rfl
theorem dX2_whole_0 : decode cX2_whole 0 = .ok (.aload_n 0, 1) := dk_42 (dk_at dksX2_whole_0 0 rfl rfl)
theorem dX2_whole_1 : decode cX2_whole 1 = .ok (.iconst 0, 1) := dk_3 (dk_at dksX2_whole_0 1 rfl rfl)
theorem dX2_whole_2 : decode cX2_whole 2 = .ok (.putfield 37, 3) := dk_181 0 37 (dk_at dksX2_whole_0 2 rfl rfl)
theorem dX2_whole_5 : decode cX2_whole 5 = .ok (.aload_n 0, 1) := dk_42 (dk_at dksX2_whole_0 5 rfl rfl)
theorem dX2_whole_6 : decode cX2_whole 6 = .ok (.invokevirtual 82, 3) := dk_182 0 82 (dk_at dksX2_whole_0 6 rfl rfl)
theorem dX2_whole_9 : decode cX2_whole 9 = .ok (.aload_n 0, 1) := dk_42 (dk_at dksX2_whole_0 9 rfl rfl)
theorem dX2_whole_10 : decode cX2_whole 10 = .ok (.invokevirtual 128, 3) := dk_182 0 128 (dk_at dksX2_whole_0 10 rfl rfl)
theorem dX2_whole_13 : decode cX2_whole 13 = .ok (.iconst 1, 1) := dk_4 (dk_at dksX2_whole_0 13 rfl rfl)
theorem dX2_whole_14 : decode cX2_whole 14 = .ok (.istore_n 1, 1) := dk_60 (dk_at dksX2_whole_0 14 rfl rfl)
theorem dX2_whole_15 : decode cX2_whole 15 = .ok (.aload_n 0, 1) := dk_42 (dk_at dksX2_whole_0 15 rfl rfl)
theorem dX2_whole_16 : decode cX2_whole 16 = .ok (.getfield 47, 3) := dk_180 0 47 (dk_at dksX2_whole_0 16 rfl rfl)
theorem dX2_whole_19 : decode cX2_whole 19 = .ok (.iconst 3, 1) := dk_6 (dk_at dksX2_whole_0 19 rfl rfl)
theorem dX2_whole_20 : decode cX2_whole 20 = .ok (.if_icmp .ne 17, 3) := dk_160 0 17 (dk_at dksX2_whole_0 20 rfl rfl)
theorem dX2_whole_23 : decode cX2_whole 23 = .ok (.aload_n 0, 1) := dk_42 (dk_at dksX2_whole_0 23 rfl rfl)
theorem dX2_whole_24 : decode cX2_whole 24 = .ok (.invokevirtual 82, 3) := dk_182 0 82 (dk_at dksX2_whole_1 0 rfl rfl)
theorem dX2_whole_27 : decode cX2_whole 27 = .ok (.aload_n 0, 1) := dk_42 (dk_at dksX2_whole_1 3 rfl rfl)
theorem dX2_whole_28 : decode cX2_whole 28 = .ok (.invokevirtual 128, 3) := dk_182 0 128 (dk_at dksX2_whole_1 4 rfl rfl)
theorem dX2_whole_31 : decode cX2_whole 31 = .ok (.iinc 1 1, 3) := dk_132 1 1 (dk_at dksX2_whole_1 7 rfl rfl)
theorem dX2_whole_34 : decode cX2_whole 34 = .ok (.goto (-19), 3) := dk_167 255 237 (dk_at dksX2_whole_1 10 rfl rfl)
theorem dX2_whole_37 : decode cX2_whole 37 = .ok (.aload_n 0, 1) := dk_42 (dk_at dksX2_whole_1 13 rfl rfl)
theorem dX2_whole_38 : decode cX2_whole 38 = .ok (.aload_n 0, 1) := dk_42 (dk_at dksX2_whole_1 14 rfl rfl)
theorem dX2_whole_39 : decode cX2_whole 39 = .ok (.getfield 47, 3) := dk_180 0 47 (dk_at dksX2_whole_1 15 rfl rfl)
theorem dX2_whole_42 : decode cX2_whole 42 = .ok (.ifCond .ne 7, 3) := dk_154 0 7 (dk_at dksX2_whole_1 18 rfl rfl)
theorem dX2_whole_45 : decode cX2_whole 45 = .ok (.iconst 1, 1) := dk_4 (dk_at dksX2_whole_1 21 rfl rfl)
theorem dX2_whole_46 : decode cX2_whole 46 = .ok (.goto 4, 3) := dk_167 0 4 (dk_at dksX2_whole_2 0 rfl rfl)
theorem dX2_whole_49 : decode cX2_whole 49 = .ok (.iconst 0, 1) := dk_3 (dk_at dksX2_whole_2 3 rfl rfl)
theorem dX2_whole_50 : decode cX2_whole 50 = .ok (.invokevirtual 63, 3) := dk_182 0 63 (dk_at dksX2_whole_2 4 rfl rfl)
theorem dX2_whole_53 : decode cX2_whole 53 = .ok (.iload_n 1, 1) := dk_27 (dk_at dksX2_whole_2 7 rfl rfl)
theorem dX2_whole_54 : decode cX2_whole 54 = .ok (.ireturn, 1) := dk_172 (dk_at dksX2_whole_2 8 rfl rfl)
abbrev cX2_next : ByteArray := prog_7_method_6_code
def yX2_next : MethodName := ⟨RX2, "next", "()V"⟩
def dkwX2_next_4 : List UInt8 := [3, 182, 0, 63, 42, 6, 181, 0, 47, 42, 89, 180, 0, 37, 4, 96, 181, 0, 37, 177]
abbrev dktX2_next_4 : List UInt8 := dkwX2_next_4 ++ []
def dkwX2_next_3 : List UInt8 := [184, 0, 57, 153, 0, 10, 42, 182, 0, 60, 167, 0, 33, 42, 27, 16, 59, 160, 0, 7, 4, 167, 0, 4]
abbrev dktX2_next_3 : List UInt8 := dkwX2_next_3 ++ dktX2_next_4
def dkwX2_next_2 : List UInt8 := [42, 3, 181, 0, 47, 167, 0, 61, 27, 184, 0, 50, 153, 0, 10, 42, 182, 0, 54, 167, 0, 47, 27]
abbrev dktX2_next_2 : List UInt8 := dkwX2_next_2 ++ dktX2_next_3
def dkwX2_next_1 : List UInt8 := [167, 255, 233, 42, 42, 180, 0, 37, 181, 0, 44, 42, 42, 180, 0, 37, 182, 0, 40, 60, 27, 156, 0, 11]
abbrev dktX2_next_1 : List UInt8 := dkwX2_next_1 ++ dktX2_next_2
def dkwX2_next_0 : List UInt8 := [42, 42, 180, 0, 37, 182, 0, 40, 16, 32, 160, 0, 16, 42, 89, 180, 0, 37, 4, 96, 181, 0, 37]
abbrev dktX2_next_0 : List UInt8 := dkwX2_next_0 ++ dktX2_next_1
theorem dksX2_next_0 : cX2_next.data.toList.drop 0 = dktX2_next_0 := by decide +kernel
theorem dksX2_next_1 : cX2_next.data.toList.drop 23 = dktX2_next_1 := dk_seg dksX2_next_0 23 rfl rfl
theorem dksX2_next_2 : cX2_next.data.toList.drop 47 = dktX2_next_2 := dk_seg dksX2_next_1 24 rfl rfl
theorem dksX2_next_3 : cX2_next.data.toList.drop 70 = dktX2_next_3 := dk_seg dksX2_next_2 23 rfl rfl
theorem dksX2_next_4 : cX2_next.data.toList.drop 94 = dktX2_next_4 := dk_seg dksX2_next_3 24 rfl rfl
theorem dX2_next_0 : decode cX2_next 0 = .ok (.aload_n 0, 1) := dk_42 (dk_at dksX2_next_0 0 rfl rfl)
theorem dX2_next_1 : decode cX2_next 1 = .ok (.aload_n 0, 1) := dk_42 (dk_at dksX2_next_0 1 rfl rfl)
theorem dX2_next_2 : decode cX2_next 2 = .ok (.getfield 37, 3) := dk_180 0 37 (dk_at dksX2_next_0 2 rfl rfl)
theorem dX2_next_5 : decode cX2_next 5 = .ok (.invokevirtual 40, 3) := dk_182 0 40 (dk_at dksX2_next_0 5 rfl rfl)
theorem dX2_next_8 : decode cX2_next 8 = .ok (.bipush 32, 2) := dk_16 32 (dk_at dksX2_next_0 8 rfl rfl)
theorem dX2_next_10 : decode cX2_next 10 = .ok (.if_icmp .ne 16, 3) := dk_160 0 16 (dk_at dksX2_next_0 10 rfl rfl)
theorem dX2_next_13 : decode cX2_next 13 = .ok (.aload_n 0, 1) := dk_42 (dk_at dksX2_next_0 13 rfl rfl)
theorem dX2_next_14 : decode cX2_next 14 = .ok (.dup, 1) := dk_89 (dk_at dksX2_next_0 14 rfl rfl)
theorem dX2_next_15 : decode cX2_next 15 = .ok (.getfield 37, 3) := dk_180 0 37 (dk_at dksX2_next_0 15 rfl rfl)
theorem dX2_next_18 : decode cX2_next 18 = .ok (.iconst 1, 1) := dk_4 (dk_at dksX2_next_0 18 rfl rfl)
theorem dX2_next_19 : decode cX2_next 19 = .ok (.iadd, 1) := dk_96 (dk_at dksX2_next_0 19 rfl rfl)
theorem dX2_next_20 : decode cX2_next 20 = .ok (.putfield 37, 3) := dk_181 0 37 (dk_at dksX2_next_0 20 rfl rfl)
theorem dX2_next_23 : decode cX2_next 23 = .ok (.goto (-23), 3) := dk_167 255 233 (dk_at dksX2_next_1 0 rfl rfl)
theorem dX2_next_26 : decode cX2_next 26 = .ok (.aload_n 0, 1) := dk_42 (dk_at dksX2_next_1 3 rfl rfl)
theorem dX2_next_27 : decode cX2_next 27 = .ok (.aload_n 0, 1) := dk_42 (dk_at dksX2_next_1 4 rfl rfl)
theorem dX2_next_28 : decode cX2_next 28 = .ok (.getfield 37, 3) := dk_180 0 37 (dk_at dksX2_next_1 5 rfl rfl)
theorem dX2_next_31 : decode cX2_next 31 = .ok (.putfield 44, 3) := dk_181 0 44 (dk_at dksX2_next_1 8 rfl rfl)
theorem dX2_next_34 : decode cX2_next 34 = .ok (.aload_n 0, 1) := dk_42 (dk_at dksX2_next_1 11 rfl rfl)
theorem dX2_next_35 : decode cX2_next 35 = .ok (.aload_n 0, 1) := dk_42 (dk_at dksX2_next_1 12 rfl rfl)
theorem dX2_next_36 : decode cX2_next 36 = .ok (.getfield 37, 3) := dk_180 0 37 (dk_at dksX2_next_1 13 rfl rfl)
theorem dX2_next_39 : decode cX2_next 39 = .ok (.invokevirtual 40, 3) := dk_182 0 40 (dk_at dksX2_next_1 16 rfl rfl)
theorem dX2_next_42 : decode cX2_next 42 = .ok (.istore_n 1, 1) := dk_60 (dk_at dksX2_next_1 19 rfl rfl)
theorem dX2_next_43 : decode cX2_next 43 = .ok (.iload_n 1, 1) := dk_27 (dk_at dksX2_next_1 20 rfl rfl)
theorem dX2_next_44 : decode cX2_next 44 = .ok (.ifCond .ge 11, 3) := dk_156 0 11 (dk_at dksX2_next_1 21 rfl rfl)
theorem dX2_next_47 : decode cX2_next 47 = .ok (.aload_n 0, 1) := dk_42 (dk_at dksX2_next_2 0 rfl rfl)
theorem dX2_next_48 : decode cX2_next 48 = .ok (.iconst 0, 1) := dk_3 (dk_at dksX2_next_2 1 rfl rfl)
theorem dX2_next_49 : decode cX2_next 49 = .ok (.putfield 47, 3) := dk_181 0 47 (dk_at dksX2_next_2 2 rfl rfl)
theorem dX2_next_52 : decode cX2_next 52 = .ok (.goto 61, 3) := dk_167 0 61 (dk_at dksX2_next_2 5 rfl rfl)
theorem dX2_next_55 : decode cX2_next 55 = .ok (.iload_n 1, 1) := dk_27 (dk_at dksX2_next_2 8 rfl rfl)
theorem dX2_next_56 : decode cX2_next 56 = .ok (.invokestatic 50, 3) := dk_184 0 50 (dk_at dksX2_next_2 9 rfl rfl)
theorem dX2_next_59 : decode cX2_next 59 = .ok (.ifCond .eq 10, 3) := dk_153 0 10 (dk_at dksX2_next_2 12 rfl rfl)
theorem dX2_next_62 : decode cX2_next 62 = .ok (.aload_n 0, 1) := dk_42 (dk_at dksX2_next_2 15 rfl rfl)
theorem dX2_next_63 : decode cX2_next 63 = .ok (.invokevirtual 54, 3) := dk_182 0 54 (dk_at dksX2_next_2 16 rfl rfl)
theorem dX2_next_66 : decode cX2_next 66 = .ok (.goto 47, 3) := dk_167 0 47 (dk_at dksX2_next_2 19 rfl rfl)
theorem dX2_next_69 : decode cX2_next 69 = .ok (.iload_n 1, 1) := dk_27 (dk_at dksX2_next_2 22 rfl rfl)
theorem dX2_next_70 : decode cX2_next 70 = .ok (.invokestatic 57, 3) := dk_184 0 57 (dk_at dksX2_next_3 0 rfl rfl)
theorem dX2_next_73 : decode cX2_next 73 = .ok (.ifCond .eq 10, 3) := dk_153 0 10 (dk_at dksX2_next_3 3 rfl rfl)
theorem dX2_next_76 : decode cX2_next 76 = .ok (.aload_n 0, 1) := dk_42 (dk_at dksX2_next_3 6 rfl rfl)
theorem dX2_next_77 : decode cX2_next 77 = .ok (.invokevirtual 60, 3) := dk_182 0 60 (dk_at dksX2_next_3 7 rfl rfl)
theorem dX2_next_80 : decode cX2_next 80 = .ok (.goto 33, 3) := dk_167 0 33 (dk_at dksX2_next_3 10 rfl rfl)
theorem dX2_next_83 : decode cX2_next 83 = .ok (.aload_n 0, 1) := dk_42 (dk_at dksX2_next_3 13 rfl rfl)
theorem dX2_next_84 : decode cX2_next 84 = .ok (.iload_n 1, 1) := dk_27 (dk_at dksX2_next_3 14 rfl rfl)
theorem dX2_next_85 : decode cX2_next 85 = .ok (.bipush 59, 2) := dk_16 59 (dk_at dksX2_next_3 15 rfl rfl)
theorem dX2_next_87 : decode cX2_next 87 = .ok (.if_icmp .ne 7, 3) := dk_160 0 7 (dk_at dksX2_next_3 17 rfl rfl)
theorem dX2_next_90 : decode cX2_next 90 = .ok (.iconst 1, 1) := dk_4 (dk_at dksX2_next_3 20 rfl rfl)
theorem dX2_next_91 : decode cX2_next 91 = .ok (.goto 4, 3) := dk_167 0 4 (dk_at dksX2_next_3 21 rfl rfl)
theorem dX2_next_94 : decode cX2_next 94 = .ok (.iconst 0, 1) := dk_3 (dk_at dksX2_next_4 0 rfl rfl)
theorem dX2_next_95 : decode cX2_next 95 = .ok (.invokevirtual 63, 3) := dk_182 0 63 (dk_at dksX2_next_4 1 rfl rfl)
theorem dX2_next_98 : decode cX2_next 98 = .ok (.aload_n 0, 1) := dk_42 (dk_at dksX2_next_4 4 rfl rfl)
theorem dX2_next_99 : decode cX2_next 99 = .ok (.iconst 3, 1) := dk_6 (dk_at dksX2_next_4 5 rfl rfl)
theorem dX2_next_100 : decode cX2_next 100 = .ok (.putfield 47, 3) := dk_181 0 47 (dk_at dksX2_next_4 6 rfl rfl)
theorem dX2_next_103 : decode cX2_next 103 = .ok (.aload_n 0, 1) := dk_42 (dk_at dksX2_next_4 9 rfl rfl)
theorem dX2_next_104 : decode cX2_next 104 = .ok (.dup, 1) := dk_89 (dk_at dksX2_next_4 10 rfl rfl)
theorem dX2_next_105 : decode cX2_next 105 = .ok (.getfield 37, 3) := dk_180 0 37 (dk_at dksX2_next_4 11 rfl rfl)
theorem dX2_next_108 : decode cX2_next 108 = .ok (.iconst 1, 1) := dk_4 (dk_at dksX2_next_4 14 rfl rfl)
theorem dX2_next_109 : decode cX2_next 109 = .ok (.iadd, 1) := dk_96 (dk_at dksX2_next_4 15 rfl rfl)
theorem dX2_next_110 : decode cX2_next 110 = .ok (.putfield 37, 3) := dk_181 0 37 (dk_at dksX2_next_4 16 rfl rfl)
theorem dX2_next_113 : decode cX2_next 113 = .ok (.return_, 1) := dk_177 (dk_at dksX2_next_4 19 rfl rfl)
abbrev cX2_byteAt : ByteArray := prog_7_method_3_code
def yX2_byteAt : MethodName := ⟨RX2, "byteAt", "(I)I"⟩
def dkwX2_byteAt_0 : List UInt8 := [27, 42, 180, 0, 29, 162, 0, 16, 42, 180, 0, 18, 27, 51, 17, 0, 255, 126, 167, 0, 4, 2, 172]
abbrev dktX2_byteAt_0 : List UInt8 := dkwX2_byteAt_0 ++ []
theorem dksX2_byteAt_0 : cX2_byteAt.data.toList.drop 0 = dktX2_byteAt_0 := by decide +kernel
theorem dX2_byteAt_0 : decode cX2_byteAt 0 = .ok (.iload_n 1, 1) := dk_27 (dk_at dksX2_byteAt_0 0 rfl rfl)
theorem dX2_byteAt_1 : decode cX2_byteAt 1 = .ok (.aload_n 0, 1) := dk_42 (dk_at dksX2_byteAt_0 1 rfl rfl)
theorem dX2_byteAt_2 : decode cX2_byteAt 2 = .ok (.getfield 29, 3) := dk_180 0 29 (dk_at dksX2_byteAt_0 2 rfl rfl)
theorem dX2_byteAt_5 : decode cX2_byteAt 5 = .ok (.if_icmp .ge 16, 3) := dk_162 0 16 (dk_at dksX2_byteAt_0 5 rfl rfl)
theorem dX2_byteAt_8 : decode cX2_byteAt 8 = .ok (.aload_n 0, 1) := dk_42 (dk_at dksX2_byteAt_0 8 rfl rfl)
theorem dX2_byteAt_9 : decode cX2_byteAt 9 = .ok (.getfield 18, 3) := dk_180 0 18 (dk_at dksX2_byteAt_0 9 rfl rfl)
theorem dX2_byteAt_12 : decode cX2_byteAt 12 = .ok (.iload_n 1, 1) := dk_27 (dk_at dksX2_byteAt_0 12 rfl rfl)
theorem dX2_byteAt_13 : decode cX2_byteAt 13 = .ok (.baload, 1) := dk_51 (dk_at dksX2_byteAt_0 13 rfl rfl)
theorem dX2_byteAt_14 : decode cX2_byteAt 14 = .ok (.sipush 255, 3) := dk_17 0 255 (dk_at dksX2_byteAt_0 14 rfl rfl)
theorem dX2_byteAt_17 : decode cX2_byteAt 17 = .ok (.iand, 1) := dk_126 (dk_at dksX2_byteAt_0 17 rfl rfl)
theorem dX2_byteAt_18 : decode cX2_byteAt 18 = .ok (.goto 4, 3) := dk_167 0 4 (dk_at dksX2_byteAt_0 18 rfl rfl)
theorem dX2_byteAt_21 : decode cX2_byteAt 21 = .ok (.iconst (-1), 1) := dk_2 (dk_at dksX2_byteAt_0 21 rfl rfl)
theorem dX2_byteAt_22 : decode cX2_byteAt 22 = .ok (.ireturn, 1) := dk_172 (dk_at dksX2_byteAt_0 22 rfl rfl)
abbrev cX2_isLetter : ByteArray := prog_7_method_5_code
def yX2_isLetter : MethodName := ⟨RX2, "isLetter", "(I)Z"⟩
def dkwX2_isLetter_0 : List UInt8 := [26, 16, 97, 16, 122, 184, 0, 33, 172]
abbrev dktX2_isLetter_0 : List UInt8 := dkwX2_isLetter_0 ++ []
theorem dksX2_isLetter_0 : cX2_isLetter.data.toList.drop 0 = dktX2_isLetter_0 := by decide +kernel
theorem dX2_isLetter_0 : decode cX2_isLetter 0 = .ok (.iload_n 0, 1) := dk_26 (dk_at dksX2_isLetter_0 0 rfl rfl)
theorem dX2_isLetter_1 : decode cX2_isLetter 1 = .ok (.bipush 97, 2) := dk_16 97 (dk_at dksX2_isLetter_0 1 rfl rfl)
theorem dX2_isLetter_3 : decode cX2_isLetter 3 = .ok (.bipush 122, 2) := dk_16 122 (dk_at dksX2_isLetter_0 3 rfl rfl)
theorem dX2_isLetter_5 : decode cX2_isLetter 5 = .ok (.invokestatic 33, 3) := dk_184 0 33 (dk_at dksX2_isLetter_0 5 rfl rfl)
theorem dX2_isLetter_8 : decode cX2_isLetter 8 = .ok (.ireturn, 1) := dk_172 (dk_at dksX2_isLetter_0 8 rfl rfl)
abbrev cX2_word : ByteArray := prog_7_method_8_code
def yX2_word : MethodName := ⟨RX2, "word", "()V"⟩
def dkwX2_word_3 : List UInt8 := [182, 0, 63, 42, 5, 181, 0, 47, 42, 27, 181, 0, 67, 177]
abbrev dktX2_word_3 : List UInt8 := dkwX2_word_3 ++ []
def dkwX2_word_2 : List UInt8 := [182, 0, 70, 154, 0, 9, 132, 1, 1, 167, 255, 230, 42, 27, 16, 14, 162, 0, 7, 4, 167, 0, 4, 3]
abbrev dktX2_word_2 : List UInt8 := dkwX2_word_2 ++ dktX2_word_3
def dkwX2_word_1 : List UInt8 := [167, 255, 232, 3, 60, 27, 16, 14, 162, 0, 26, 42, 27, 42, 180, 0, 37, 42, 180, 0, 44, 100]
abbrev dktX2_word_1 : List UInt8 := dkwX2_word_1 ++ dktX2_word_2
def dkwX2_word_0 : List UInt8 := [42, 42, 180, 0, 37, 182, 0, 40, 184, 0, 50, 153, 0, 16, 42, 89, 180, 0, 37, 4, 96, 181, 0, 37]
abbrev dktX2_word_0 : List UInt8 := dkwX2_word_0 ++ dktX2_word_1
theorem dksX2_word_0 : cX2_word.data.toList.drop 0 = dktX2_word_0 := by decide +kernel
theorem dksX2_word_1 : cX2_word.data.toList.drop 24 = dktX2_word_1 := dk_seg dksX2_word_0 24 rfl rfl
theorem dksX2_word_2 : cX2_word.data.toList.drop 46 = dktX2_word_2 := dk_seg dksX2_word_1 22 rfl rfl
theorem dksX2_word_3 : cX2_word.data.toList.drop 70 = dktX2_word_3 := dk_seg dksX2_word_2 24 rfl rfl
theorem dX2_word_0 : decode cX2_word 0 = .ok (.aload_n 0, 1) := dk_42 (dk_at dksX2_word_0 0 rfl rfl)
theorem dX2_word_1 : decode cX2_word 1 = .ok (.aload_n 0, 1) := dk_42 (dk_at dksX2_word_0 1 rfl rfl)
theorem dX2_word_2 : decode cX2_word 2 = .ok (.getfield 37, 3) := dk_180 0 37 (dk_at dksX2_word_0 2 rfl rfl)
theorem dX2_word_5 : decode cX2_word 5 = .ok (.invokevirtual 40, 3) := dk_182 0 40 (dk_at dksX2_word_0 5 rfl rfl)
theorem dX2_word_8 : decode cX2_word 8 = .ok (.invokestatic 50, 3) := dk_184 0 50 (dk_at dksX2_word_0 8 rfl rfl)
theorem dX2_word_11 : decode cX2_word 11 = .ok (.ifCond .eq 16, 3) := dk_153 0 16 (dk_at dksX2_word_0 11 rfl rfl)
theorem dX2_word_14 : decode cX2_word 14 = .ok (.aload_n 0, 1) := dk_42 (dk_at dksX2_word_0 14 rfl rfl)
theorem dX2_word_15 : decode cX2_word 15 = .ok (.dup, 1) := dk_89 (dk_at dksX2_word_0 15 rfl rfl)
theorem dX2_word_16 : decode cX2_word 16 = .ok (.getfield 37, 3) := dk_180 0 37 (dk_at dksX2_word_0 16 rfl rfl)
theorem dX2_word_19 : decode cX2_word 19 = .ok (.iconst 1, 1) := dk_4 (dk_at dksX2_word_0 19 rfl rfl)
theorem dX2_word_20 : decode cX2_word 20 = .ok (.iadd, 1) := dk_96 (dk_at dksX2_word_0 20 rfl rfl)
theorem dX2_word_21 : decode cX2_word 21 = .ok (.putfield 37, 3) := dk_181 0 37 (dk_at dksX2_word_0 21 rfl rfl)
theorem dX2_word_24 : decode cX2_word 24 = .ok (.goto (-24), 3) := dk_167 255 232 (dk_at dksX2_word_1 0 rfl rfl)
theorem dX2_word_27 : decode cX2_word 27 = .ok (.iconst 0, 1) := dk_3 (dk_at dksX2_word_1 3 rfl rfl)
theorem dX2_word_28 : decode cX2_word 28 = .ok (.istore_n 1, 1) := dk_60 (dk_at dksX2_word_1 4 rfl rfl)
theorem dX2_word_29 : decode cX2_word 29 = .ok (.iload_n 1, 1) := dk_27 (dk_at dksX2_word_1 5 rfl rfl)
theorem dX2_word_30 : decode cX2_word 30 = .ok (.bipush 14, 2) := dk_16 14 (dk_at dksX2_word_1 6 rfl rfl)
theorem dX2_word_32 : decode cX2_word 32 = .ok (.if_icmp .ge 26, 3) := dk_162 0 26 (dk_at dksX2_word_1 8 rfl rfl)
theorem dX2_word_35 : decode cX2_word 35 = .ok (.aload_n 0, 1) := dk_42 (dk_at dksX2_word_1 11 rfl rfl)
theorem dX2_word_36 : decode cX2_word 36 = .ok (.iload_n 1, 1) := dk_27 (dk_at dksX2_word_1 12 rfl rfl)
theorem dX2_word_37 : decode cX2_word 37 = .ok (.aload_n 0, 1) := dk_42 (dk_at dksX2_word_1 13 rfl rfl)
theorem dX2_word_38 : decode cX2_word 38 = .ok (.getfield 37, 3) := dk_180 0 37 (dk_at dksX2_word_1 14 rfl rfl)
theorem dX2_word_41 : decode cX2_word 41 = .ok (.aload_n 0, 1) := dk_42 (dk_at dksX2_word_1 17 rfl rfl)
theorem dX2_word_42 : decode cX2_word 42 = .ok (.getfield 44, 3) := dk_180 0 44 (dk_at dksX2_word_1 18 rfl rfl)
theorem dX2_word_45 : decode cX2_word 45 = .ok (.isub, 1) := dk_100 (dk_at dksX2_word_1 21 rfl rfl)
theorem dX2_word_46 : decode cX2_word 46 = .ok (.invokevirtual 70, 3) := dk_182 0 70 (dk_at dksX2_word_2 0 rfl rfl)
theorem dX2_word_49 : decode cX2_word 49 = .ok (.ifCond .ne 9, 3) := dk_154 0 9 (dk_at dksX2_word_2 3 rfl rfl)
theorem dX2_word_52 : decode cX2_word 52 = .ok (.iinc 1 1, 3) := dk_132 1 1 (dk_at dksX2_word_2 6 rfl rfl)
theorem dX2_word_55 : decode cX2_word 55 = .ok (.goto (-26), 3) := dk_167 255 230 (dk_at dksX2_word_2 9 rfl rfl)
theorem dX2_word_58 : decode cX2_word 58 = .ok (.aload_n 0, 1) := dk_42 (dk_at dksX2_word_2 12 rfl rfl)
theorem dX2_word_59 : decode cX2_word 59 = .ok (.iload_n 1, 1) := dk_27 (dk_at dksX2_word_2 13 rfl rfl)
theorem dX2_word_60 : decode cX2_word 60 = .ok (.bipush 14, 2) := dk_16 14 (dk_at dksX2_word_2 14 rfl rfl)
theorem dX2_word_62 : decode cX2_word 62 = .ok (.if_icmp .ge 7, 3) := dk_162 0 7 (dk_at dksX2_word_2 16 rfl rfl)
theorem dX2_word_65 : decode cX2_word 65 = .ok (.iconst 1, 1) := dk_4 (dk_at dksX2_word_2 19 rfl rfl)
theorem dX2_word_66 : decode cX2_word 66 = .ok (.goto 4, 3) := dk_167 0 4 (dk_at dksX2_word_2 20 rfl rfl)
theorem dX2_word_69 : decode cX2_word 69 = .ok (.iconst 0, 1) := dk_3 (dk_at dksX2_word_2 23 rfl rfl)
theorem dX2_word_70 : decode cX2_word 70 = .ok (.invokevirtual 63, 3) := dk_182 0 63 (dk_at dksX2_word_3 0 rfl rfl)
theorem dX2_word_73 : decode cX2_word 73 = .ok (.aload_n 0, 1) := dk_42 (dk_at dksX2_word_3 3 rfl rfl)
theorem dX2_word_74 : decode cX2_word 74 = .ok (.iconst 2, 1) := dk_5 (dk_at dksX2_word_3 4 rfl rfl)
theorem dX2_word_75 : decode cX2_word 75 = .ok (.putfield 47, 3) := dk_181 0 47 (dk_at dksX2_word_3 5 rfl rfl)
theorem dX2_word_78 : decode cX2_word 78 = .ok (.aload_n 0, 1) := dk_42 (dk_at dksX2_word_3 8 rfl rfl)
theorem dX2_word_79 : decode cX2_word 79 = .ok (.iload_n 1, 1) := dk_27 (dk_at dksX2_word_3 9 rfl rfl)
theorem dX2_word_80 : decode cX2_word 80 = .ok (.putfield 67, 3) := dk_181 0 67 (dk_at dksX2_word_3 10 rfl rfl)
theorem dX2_word_83 : decode cX2_word 83 = .ok (.return_, 1) := dk_177 (dk_at dksX2_word_3 13 rfl rfl)
abbrev cX2_isKey : ByteArray := prog_7_method_9_code
def yX2_isKey : MethodName := ⟨RX2, "isKey", "(II)Z"⟩
def dkwX2_isKey_3 : List UInt8 := [160, 0, 7, 4, 167, 0, 4, 3, 62, 132, 4, 1, 167, 255, 211, 29, 172]
abbrev dktX2_isKey_3 : List UInt8 := dkwX2_isKey_3 ++ []
def dkwX2_isKey_2 : List UInt8 := [18, 74, 16, 6, 27, 104, 21, 4, 96, 182, 0, 76, 42, 42, 180, 0, 44, 21, 4, 96, 182, 0, 40]
abbrev dktX2_isKey_2 : List UInt8 := dkwX2_isKey_2 ++ dktX2_isKey_3
def dkwX2_isKey_1 : List UInt8 := [16, 32, 160, 0, 7, 4, 167, 0, 4, 3, 62, 3, 54, 4, 21, 4, 28, 162, 0, 45, 29, 153, 0, 41]
abbrev dktX2_isKey_1 : List UInt8 := dkwX2_isKey_1 ++ dktX2_isKey_2
def dkwX2_isKey_0 : List UInt8 := [28, 16, 6, 163, 0, 29, 28, 16, 6, 159, 0, 19, 18, 74, 16, 6, 27, 104, 28, 96, 182, 0, 76]
abbrev dktX2_isKey_0 : List UInt8 := dkwX2_isKey_0 ++ dktX2_isKey_1
theorem dksX2_isKey_0 : cX2_isKey.data.toList.drop 0 = dktX2_isKey_0 := by decide +kernel
theorem dksX2_isKey_1 : cX2_isKey.data.toList.drop 23 = dktX2_isKey_1 := dk_seg dksX2_isKey_0 23 rfl rfl
theorem dksX2_isKey_2 : cX2_isKey.data.toList.drop 47 = dktX2_isKey_2 := dk_seg dksX2_isKey_1 24 rfl rfl
theorem dksX2_isKey_3 : cX2_isKey.data.toList.drop 70 = dktX2_isKey_3 := dk_seg dksX2_isKey_2 23 rfl rfl
theorem dX2_isKey_0 : decode cX2_isKey 0 = .ok (.iload_n 2, 1) := dk_28 (dk_at dksX2_isKey_0 0 rfl rfl)
theorem dX2_isKey_1 : decode cX2_isKey 1 = .ok (.bipush 6, 2) := dk_16 6 (dk_at dksX2_isKey_0 1 rfl rfl)
theorem dX2_isKey_3 : decode cX2_isKey 3 = .ok (.if_icmp .gt 29, 3) := dk_163 0 29 (dk_at dksX2_isKey_0 3 rfl rfl)
theorem dX2_isKey_6 : decode cX2_isKey 6 = .ok (.iload_n 2, 1) := dk_28 (dk_at dksX2_isKey_0 6 rfl rfl)
theorem dX2_isKey_7 : decode cX2_isKey 7 = .ok (.bipush 6, 2) := dk_16 6 (dk_at dksX2_isKey_0 7 rfl rfl)
theorem dX2_isKey_9 : decode cX2_isKey 9 = .ok (.if_icmp .eq 19, 3) := dk_159 0 19 (dk_at dksX2_isKey_0 9 rfl rfl)
theorem dX2_isKey_12 : decode cX2_isKey 12 = .ok (.ldc 74, 2) := dk_18 74 (dk_at dksX2_isKey_0 12 rfl rfl)
theorem dX2_isKey_14 : decode cX2_isKey 14 = .ok (.bipush 6, 2) := dk_16 6 (dk_at dksX2_isKey_0 14 rfl rfl)
theorem dX2_isKey_16 : decode cX2_isKey 16 = .ok (.iload_n 1, 1) := dk_27 (dk_at dksX2_isKey_0 16 rfl rfl)
theorem dX2_isKey_17 : decode cX2_isKey 17 = .ok (.imul, 1) := dk_104 (dk_at dksX2_isKey_0 17 rfl rfl)
theorem dX2_isKey_18 : decode cX2_isKey 18 = .ok (.iload_n 2, 1) := dk_28 (dk_at dksX2_isKey_0 18 rfl rfl)
theorem dX2_isKey_19 : decode cX2_isKey 19 = .ok (.iadd, 1) := dk_96 (dk_at dksX2_isKey_0 19 rfl rfl)
theorem dX2_isKey_20 : decode cX2_isKey 20 = .ok (.invokevirtual 76, 3) := dk_182 0 76 (dk_at dksX2_isKey_0 20 rfl rfl)
theorem dX2_isKey_23 : decode cX2_isKey 23 = .ok (.bipush 32, 2) := dk_16 32 (dk_at dksX2_isKey_1 0 rfl rfl)
theorem dX2_isKey_25 : decode cX2_isKey 25 = .ok (.if_icmp .ne 7, 3) := dk_160 0 7 (dk_at dksX2_isKey_1 2 rfl rfl)
theorem dX2_isKey_28 : decode cX2_isKey 28 = .ok (.iconst 1, 1) := dk_4 (dk_at dksX2_isKey_1 5 rfl rfl)
theorem dX2_isKey_29 : decode cX2_isKey 29 = .ok (.goto 4, 3) := dk_167 0 4 (dk_at dksX2_isKey_1 6 rfl rfl)
theorem dX2_isKey_32 : decode cX2_isKey 32 = .ok (.iconst 0, 1) := dk_3 (dk_at dksX2_isKey_1 9 rfl rfl)
theorem dX2_isKey_33 : decode cX2_isKey 33 = .ok (.istore_n 3, 1) := dk_62 (dk_at dksX2_isKey_1 10 rfl rfl)
theorem dX2_isKey_34 : decode cX2_isKey 34 = .ok (.iconst 0, 1) := dk_3 (dk_at dksX2_isKey_1 11 rfl rfl)
theorem dX2_isKey_35 : decode cX2_isKey 35 = .ok (.istore 4, 2) := dk_54 4 (dk_at dksX2_isKey_1 12 rfl rfl)
theorem dX2_isKey_37 : decode cX2_isKey 37 = .ok (.iload 4, 2) := dk_21 4 (dk_at dksX2_isKey_1 14 rfl rfl)
theorem dX2_isKey_39 : decode cX2_isKey 39 = .ok (.iload_n 2, 1) := dk_28 (dk_at dksX2_isKey_1 16 rfl rfl)
theorem dX2_isKey_40 : decode cX2_isKey 40 = .ok (.if_icmp .ge 45, 3) := dk_162 0 45 (dk_at dksX2_isKey_1 17 rfl rfl)
theorem dX2_isKey_43 : decode cX2_isKey 43 = .ok (.iload_n 3, 1) := dk_29 (dk_at dksX2_isKey_1 20 rfl rfl)
theorem dX2_isKey_44 : decode cX2_isKey 44 = .ok (.ifCond .eq 41, 3) := dk_153 0 41 (dk_at dksX2_isKey_1 21 rfl rfl)
theorem dX2_isKey_47 : decode cX2_isKey 47 = .ok (.ldc 74, 2) := dk_18 74 (dk_at dksX2_isKey_2 0 rfl rfl)
theorem dX2_isKey_49 : decode cX2_isKey 49 = .ok (.bipush 6, 2) := dk_16 6 (dk_at dksX2_isKey_2 2 rfl rfl)
theorem dX2_isKey_51 : decode cX2_isKey 51 = .ok (.iload_n 1, 1) := dk_27 (dk_at dksX2_isKey_2 4 rfl rfl)
theorem dX2_isKey_52 : decode cX2_isKey 52 = .ok (.imul, 1) := dk_104 (dk_at dksX2_isKey_2 5 rfl rfl)
theorem dX2_isKey_53 : decode cX2_isKey 53 = .ok (.iload 4, 2) := dk_21 4 (dk_at dksX2_isKey_2 6 rfl rfl)
theorem dX2_isKey_55 : decode cX2_isKey 55 = .ok (.iadd, 1) := dk_96 (dk_at dksX2_isKey_2 8 rfl rfl)
theorem dX2_isKey_56 : decode cX2_isKey 56 = .ok (.invokevirtual 76, 3) := dk_182 0 76 (dk_at dksX2_isKey_2 9 rfl rfl)
theorem dX2_isKey_59 : decode cX2_isKey 59 = .ok (.aload_n 0, 1) := dk_42 (dk_at dksX2_isKey_2 12 rfl rfl)
theorem dX2_isKey_60 : decode cX2_isKey 60 = .ok (.aload_n 0, 1) := dk_42 (dk_at dksX2_isKey_2 13 rfl rfl)
theorem dX2_isKey_61 : decode cX2_isKey 61 = .ok (.getfield 44, 3) := dk_180 0 44 (dk_at dksX2_isKey_2 14 rfl rfl)
theorem dX2_isKey_64 : decode cX2_isKey 64 = .ok (.iload 4, 2) := dk_21 4 (dk_at dksX2_isKey_2 17 rfl rfl)
theorem dX2_isKey_66 : decode cX2_isKey 66 = .ok (.iadd, 1) := dk_96 (dk_at dksX2_isKey_2 19 rfl rfl)
theorem dX2_isKey_67 : decode cX2_isKey 67 = .ok (.invokevirtual 40, 3) := dk_182 0 40 (dk_at dksX2_isKey_2 20 rfl rfl)
theorem dX2_isKey_70 : decode cX2_isKey 70 = .ok (.if_icmp .ne 7, 3) := dk_160 0 7 (dk_at dksX2_isKey_3 0 rfl rfl)
theorem dX2_isKey_73 : decode cX2_isKey 73 = .ok (.iconst 1, 1) := dk_4 (dk_at dksX2_isKey_3 3 rfl rfl)
theorem dX2_isKey_74 : decode cX2_isKey 74 = .ok (.goto 4, 3) := dk_167 0 4 (dk_at dksX2_isKey_3 4 rfl rfl)
theorem dX2_isKey_77 : decode cX2_isKey 77 = .ok (.iconst 0, 1) := dk_3 (dk_at dksX2_isKey_3 7 rfl rfl)
theorem dX2_isKey_78 : decode cX2_isKey 78 = .ok (.istore_n 3, 1) := dk_62 (dk_at dksX2_isKey_3 8 rfl rfl)
theorem dX2_isKey_79 : decode cX2_isKey 79 = .ok (.iinc 4 1, 3) := dk_132 4 1 (dk_at dksX2_isKey_3 9 rfl rfl)
theorem dX2_isKey_82 : decode cX2_isKey 82 = .ok (.goto (-45), 3) := dk_167 255 211 (dk_at dksX2_isKey_3 12 rfl rfl)
theorem dX2_isKey_85 : decode cX2_isKey 85 = .ok (.iload_n 3, 1) := dk_29 (dk_at dksX2_isKey_3 15 rfl rfl)
theorem dX2_isKey_86 : decode cX2_isKey 86 = .ok (.ireturn, 1) := dk_172 (dk_at dksX2_isKey_3 16 rfl rfl)
abbrev cX2_need : ByteArray := prog_7_method_2_code
def yX2_need : MethodName := ⟨RX2, "need", "(Z)V"⟩
def dkwX2_need_0 : List UInt8 := [27, 154, 0, 8, 42, 180, 0, 12, 191, 177]
abbrev dktX2_need_0 : List UInt8 := dkwX2_need_0 ++ []
theorem dksX2_need_0 : cX2_need.data.toList.drop 0 = dktX2_need_0 := by decide +kernel
theorem dX2_need_0 : decode cX2_need 0 = .ok (.iload_n 1, 1) := dk_27 (dk_at dksX2_need_0 0 rfl rfl)
theorem dX2_need_1 : decode cX2_need 1 = .ok (.ifCond .ne 8, 3) := dk_154 0 8 (dk_at dksX2_need_0 1 rfl rfl)
theorem dX2_need_4 : decode cX2_need 4 = .ok (.aload_n 0, 1) := dk_42 (dk_at dksX2_need_0 4 rfl rfl)
theorem dX2_need_5 : decode cX2_need 5 = .ok (.getfield 12, 3) := dk_180 0 12 (dk_at dksX2_need_0 5 rfl rfl)
theorem dX2_need_8 : decode cX2_need 8 = .ok (.athrow, 1) := dk_191 (dk_at dksX2_need_0 8 rfl rfl)
theorem dX2_need_9 : decode cX2_need 9 = .ok (.return_, 1) := dk_177 (dk_at dksX2_need_0 9 rfl rfl)
abbrev cX2_isDigit : ByteArray := prog_7_method_4_code
def yX2_isDigit : MethodName := ⟨RX2, "isDigit", "(I)Z"⟩
def dkwX2_isDigit_0 : List UInt8 := [26, 16, 48, 16, 57, 184, 0, 33, 172]
abbrev dktX2_isDigit_0 : List UInt8 := dkwX2_isDigit_0 ++ []
theorem dksX2_isDigit_0 : cX2_isDigit.data.toList.drop 0 = dktX2_isDigit_0 := by decide +kernel
theorem dX2_isDigit_0 : decode cX2_isDigit 0 = .ok (.iload_n 0, 1) := dk_26 (dk_at dksX2_isDigit_0 0 rfl rfl)
theorem dX2_isDigit_1 : decode cX2_isDigit 1 = .ok (.bipush 48, 2) := dk_16 48 (dk_at dksX2_isDigit_0 1 rfl rfl)
theorem dX2_isDigit_3 : decode cX2_isDigit 3 = .ok (.bipush 57, 2) := dk_16 57 (dk_at dksX2_isDigit_0 3 rfl rfl)
theorem dX2_isDigit_5 : decode cX2_isDigit 5 = .ok (.invokestatic 33, 3) := dk_184 0 33 (dk_at dksX2_isDigit_0 5 rfl rfl)
theorem dX2_isDigit_8 : decode cX2_isDigit 8 = .ok (.ireturn, 1) := dk_172 (dk_at dksX2_isDigit_0 8 rfl rfl)
abbrev cX2_digits : ByteArray := prog_7_method_7_code
def yX2_digits : MethodName := ⟨RX2, "digits", "()V"⟩
def dkwX2_digits_3 : List UInt8 := [17, 3, 231, 163, 0, 7, 4, 167, 0, 4, 3, 182, 0, 63, 177]
abbrev dktX2_digits_3 : List UInt8 := dkwX2_digits_3 ++ []
def dkwX2_digits_2 : List UInt8 := [180, 0, 37, 4, 96, 181, 0, 37, 167, 255, 204, 42, 4, 181, 0, 47, 42, 27, 181, 0, 67, 42, 27]
abbrev dktX2_digits_2 : List UInt8 := dkwX2_digits_2 ++ dktX2_digits_3
def dkwX2_digits_1 : List UInt8 := [167, 0, 19, 16, 10, 27, 104, 42, 42, 180, 0, 37, 182, 0, 40, 96, 16, 48, 100, 60, 42, 89]
abbrev dktX2_digits_1 : List UInt8 := dkwX2_digits_1 ++ dktX2_digits_2
def dkwX2_digits_0 : List UInt8 := [3, 60, 42, 42, 180, 0, 37, 182, 0, 40, 184, 0, 57, 153, 0, 44, 27, 17, 3, 231, 164, 0, 7, 27]
abbrev dktX2_digits_0 : List UInt8 := dkwX2_digits_0 ++ dktX2_digits_1
theorem dksX2_digits_0 : cX2_digits.data.toList.drop 0 = dktX2_digits_0 := by decide +kernel
theorem dksX2_digits_1 : cX2_digits.data.toList.drop 24 = dktX2_digits_1 := dk_seg dksX2_digits_0 24 rfl rfl
theorem dksX2_digits_2 : cX2_digits.data.toList.drop 46 = dktX2_digits_2 := dk_seg dksX2_digits_1 22 rfl rfl
theorem dksX2_digits_3 : cX2_digits.data.toList.drop 69 = dktX2_digits_3 := dk_seg dksX2_digits_2 23 rfl rfl
theorem dX2_digits_0 : decode cX2_digits 0 = .ok (.iconst 0, 1) := dk_3 (dk_at dksX2_digits_0 0 rfl rfl)
theorem dX2_digits_1 : decode cX2_digits 1 = .ok (.istore_n 1, 1) := dk_60 (dk_at dksX2_digits_0 1 rfl rfl)
theorem dX2_digits_2 : decode cX2_digits 2 = .ok (.aload_n 0, 1) := dk_42 (dk_at dksX2_digits_0 2 rfl rfl)
theorem dX2_digits_3 : decode cX2_digits 3 = .ok (.aload_n 0, 1) := dk_42 (dk_at dksX2_digits_0 3 rfl rfl)
theorem dX2_digits_4 : decode cX2_digits 4 = .ok (.getfield 37, 3) := dk_180 0 37 (dk_at dksX2_digits_0 4 rfl rfl)
theorem dX2_digits_7 : decode cX2_digits 7 = .ok (.invokevirtual 40, 3) := dk_182 0 40 (dk_at dksX2_digits_0 7 rfl rfl)
theorem dX2_digits_10 : decode cX2_digits 10 = .ok (.invokestatic 57, 3) := dk_184 0 57 (dk_at dksX2_digits_0 10 rfl rfl)
theorem dX2_digits_13 : decode cX2_digits 13 = .ok (.ifCond .eq 44, 3) := dk_153 0 44 (dk_at dksX2_digits_0 13 rfl rfl)
theorem dX2_digits_16 : decode cX2_digits 16 = .ok (.iload_n 1, 1) := dk_27 (dk_at dksX2_digits_0 16 rfl rfl)
theorem dX2_digits_17 : decode cX2_digits 17 = .ok (.sipush 999, 3) := dk_17 3 231 (dk_at dksX2_digits_0 17 rfl rfl)
theorem dX2_digits_20 : decode cX2_digits 20 = .ok (.if_icmp .le 7, 3) := dk_164 0 7 (dk_at dksX2_digits_0 20 rfl rfl)
theorem dX2_digits_23 : decode cX2_digits 23 = .ok (.iload_n 1, 1) := dk_27 (dk_at dksX2_digits_0 23 rfl rfl)
theorem dX2_digits_24 : decode cX2_digits 24 = .ok (.goto 19, 3) := dk_167 0 19 (dk_at dksX2_digits_1 0 rfl rfl)
theorem dX2_digits_27 : decode cX2_digits 27 = .ok (.bipush 10, 2) := dk_16 10 (dk_at dksX2_digits_1 3 rfl rfl)
theorem dX2_digits_29 : decode cX2_digits 29 = .ok (.iload_n 1, 1) := dk_27 (dk_at dksX2_digits_1 5 rfl rfl)
theorem dX2_digits_30 : decode cX2_digits 30 = .ok (.imul, 1) := dk_104 (dk_at dksX2_digits_1 6 rfl rfl)
theorem dX2_digits_31 : decode cX2_digits 31 = .ok (.aload_n 0, 1) := dk_42 (dk_at dksX2_digits_1 7 rfl rfl)
theorem dX2_digits_32 : decode cX2_digits 32 = .ok (.aload_n 0, 1) := dk_42 (dk_at dksX2_digits_1 8 rfl rfl)
theorem dX2_digits_33 : decode cX2_digits 33 = .ok (.getfield 37, 3) := dk_180 0 37 (dk_at dksX2_digits_1 9 rfl rfl)
theorem dX2_digits_36 : decode cX2_digits 36 = .ok (.invokevirtual 40, 3) := dk_182 0 40 (dk_at dksX2_digits_1 12 rfl rfl)
theorem dX2_digits_39 : decode cX2_digits 39 = .ok (.iadd, 1) := dk_96 (dk_at dksX2_digits_1 15 rfl rfl)
theorem dX2_digits_40 : decode cX2_digits 40 = .ok (.bipush 48, 2) := dk_16 48 (dk_at dksX2_digits_1 16 rfl rfl)
theorem dX2_digits_42 : decode cX2_digits 42 = .ok (.isub, 1) := dk_100 (dk_at dksX2_digits_1 18 rfl rfl)
theorem dX2_digits_43 : decode cX2_digits 43 = .ok (.istore_n 1, 1) := dk_60 (dk_at dksX2_digits_1 19 rfl rfl)
theorem dX2_digits_44 : decode cX2_digits 44 = .ok (.aload_n 0, 1) := dk_42 (dk_at dksX2_digits_1 20 rfl rfl)
theorem dX2_digits_45 : decode cX2_digits 45 = .ok (.dup, 1) := dk_89 (dk_at dksX2_digits_1 21 rfl rfl)
theorem dX2_digits_46 : decode cX2_digits 46 = .ok (.getfield 37, 3) := dk_180 0 37 (dk_at dksX2_digits_2 0 rfl rfl)
theorem dX2_digits_49 : decode cX2_digits 49 = .ok (.iconst 1, 1) := dk_4 (dk_at dksX2_digits_2 3 rfl rfl)
theorem dX2_digits_50 : decode cX2_digits 50 = .ok (.iadd, 1) := dk_96 (dk_at dksX2_digits_2 4 rfl rfl)
theorem dX2_digits_51 : decode cX2_digits 51 = .ok (.putfield 37, 3) := dk_181 0 37 (dk_at dksX2_digits_2 5 rfl rfl)
theorem dX2_digits_54 : decode cX2_digits 54 = .ok (.goto (-52), 3) := dk_167 255 204 (dk_at dksX2_digits_2 8 rfl rfl)
theorem dX2_digits_57 : decode cX2_digits 57 = .ok (.aload_n 0, 1) := dk_42 (dk_at dksX2_digits_2 11 rfl rfl)
theorem dX2_digits_58 : decode cX2_digits 58 = .ok (.iconst 1, 1) := dk_4 (dk_at dksX2_digits_2 12 rfl rfl)
theorem dX2_digits_59 : decode cX2_digits 59 = .ok (.putfield 47, 3) := dk_181 0 47 (dk_at dksX2_digits_2 13 rfl rfl)
theorem dX2_digits_62 : decode cX2_digits 62 = .ok (.aload_n 0, 1) := dk_42 (dk_at dksX2_digits_2 16 rfl rfl)
theorem dX2_digits_63 : decode cX2_digits 63 = .ok (.iload_n 1, 1) := dk_27 (dk_at dksX2_digits_2 17 rfl rfl)
theorem dX2_digits_64 : decode cX2_digits 64 = .ok (.putfield 67, 3) := dk_181 0 67 (dk_at dksX2_digits_2 18 rfl rfl)
theorem dX2_digits_67 : decode cX2_digits 67 = .ok (.aload_n 0, 1) := dk_42 (dk_at dksX2_digits_2 21 rfl rfl)
theorem dX2_digits_68 : decode cX2_digits 68 = .ok (.iload_n 1, 1) := dk_27 (dk_at dksX2_digits_2 22 rfl rfl)
theorem dX2_digits_69 : decode cX2_digits 69 = .ok (.sipush 999, 3) := dk_17 3 231 (dk_at dksX2_digits_3 0 rfl rfl)
theorem dX2_digits_72 : decode cX2_digits 72 = .ok (.if_icmp .gt 7, 3) := dk_163 0 7 (dk_at dksX2_digits_3 3 rfl rfl)
theorem dX2_digits_75 : decode cX2_digits 75 = .ok (.iconst 1, 1) := dk_4 (dk_at dksX2_digits_3 6 rfl rfl)
theorem dX2_digits_76 : decode cX2_digits 76 = .ok (.goto 4, 3) := dk_167 0 4 (dk_at dksX2_digits_3 7 rfl rfl)
theorem dX2_digits_79 : decode cX2_digits 79 = .ok (.iconst 0, 1) := dk_3 (dk_at dksX2_digits_3 10 rfl rfl)
theorem dX2_digits_80 : decode cX2_digits 80 = .ok (.invokevirtual 63, 3) := dk_182 0 63 (dk_at dksX2_digits_3 11 rfl rfl)
theorem dX2_digits_83 : decode cX2_digits 83 = .ok (.return_, 1) := dk_177 (dk_at dksX2_digits_3 14 rfl rfl)
abbrev cX2_item : ByteArray := prog_7_method_17_code
def yX2_item : MethodName := ⟨RX2, "item", "()V"⟩
def dkwX2_item_5 : List UInt8 := [181, 0, 122, 167, 0, 11, 42, 42, 180, 0, 67, 182, 0, 125, 177]
abbrev dktX2_item_5 : List UInt8 := dkwX2_item_5 ++ []
def dkwX2_item_4 : List UInt8 := [182, 0, 117, 167, 0, 35, 42, 182, 0, 120, 167, 0, 28, 42, 180, 0, 25, 42, 3, 16, 9, 182, 0, 99]
abbrev dktX2_item_4 : List UInt8 := dkwX2_item_4 ++ dktX2_item_5
def dkwX2_item_3 : List UInt8 := [42, 180, 0, 25, 180, 0, 110, 3, 50, 42, 3, 16, 63, 182, 0, 99, 4, 79, 167, 0, 42, 42]
abbrev dktX2_item_3 : List UInt8 := dkwX2_item_3 ++ dktX2_item_4
def dkwX2_item_2 : List UInt8 := [170, 0, 0, 0, 0, 82, 0, 0, 0, 7, 0, 0, 0, 10, 0, 0, 0, 30, 0, 0, 0, 51, 0, 0, 0, 58, 0, 0, 0, 65]
abbrev dktX2_item_2 : List UInt8 := dkwX2_item_2 ++ dktX2_item_3
def dkwX2_item_1 : List UInt8 := [182, 0, 63, 42, 180, 0, 67]
abbrev dktX2_item_1 : List UInt8 := dkwX2_item_1 ++ dktX2_item_2
def dkwX2_item_0 : List UInt8 := [42, 42, 180, 0, 47, 5, 160, 0, 16, 42, 180, 0, 67, 16, 10, 163, 0, 7, 4, 167, 0, 4, 3]
abbrev dktX2_item_0 : List UInt8 := dkwX2_item_0 ++ dktX2_item_1
theorem dksX2_item_0 : cX2_item.data.toList.drop 0 = dktX2_item_0 := by decide +kernel
theorem dksX2_item_1 : cX2_item.data.toList.drop 23 = dktX2_item_1 := dk_seg dksX2_item_0 23 rfl rfl
theorem dksX2_item_2 : cX2_item.data.toList.drop 30 = dktX2_item_2 := dk_seg dksX2_item_1 7 rfl rfl
theorem dksX2_item_3 : cX2_item.data.toList.drop 60 = dktX2_item_3 := dk_seg dksX2_item_2 30 rfl rfl
theorem dksX2_item_4 : cX2_item.data.toList.drop 82 = dktX2_item_4 := dk_seg dksX2_item_3 22 rfl rfl
theorem dksX2_item_5 : cX2_item.data.toList.drop 106 = dktX2_item_5 := dk_seg dksX2_item_4 24 rfl rfl
theorem dX2_item_0 : decode cX2_item 0 = .ok (.aload_n 0, 1) := dk_42 (dk_at dksX2_item_0 0 rfl rfl)
theorem dX2_item_1 : decode cX2_item 1 = .ok (.aload_n 0, 1) := dk_42 (dk_at dksX2_item_0 1 rfl rfl)
theorem dX2_item_2 : decode cX2_item 2 = .ok (.getfield 47, 3) := dk_180 0 47 (dk_at dksX2_item_0 2 rfl rfl)
theorem dX2_item_5 : decode cX2_item 5 = .ok (.iconst 2, 1) := dk_5 (dk_at dksX2_item_0 5 rfl rfl)
theorem dX2_item_6 : decode cX2_item 6 = .ok (.if_icmp .ne 16, 3) := dk_160 0 16 (dk_at dksX2_item_0 6 rfl rfl)
theorem dX2_item_9 : decode cX2_item 9 = .ok (.aload_n 0, 1) := dk_42 (dk_at dksX2_item_0 9 rfl rfl)
theorem dX2_item_10 : decode cX2_item 10 = .ok (.getfield 67, 3) := dk_180 0 67 (dk_at dksX2_item_0 10 rfl rfl)
theorem dX2_item_13 : decode cX2_item 13 = .ok (.bipush 10, 2) := dk_16 10 (dk_at dksX2_item_0 13 rfl rfl)
theorem dX2_item_15 : decode cX2_item 15 = .ok (.if_icmp .gt 7, 3) := dk_163 0 7 (dk_at dksX2_item_0 15 rfl rfl)
theorem dX2_item_18 : decode cX2_item 18 = .ok (.iconst 1, 1) := dk_4 (dk_at dksX2_item_0 18 rfl rfl)
theorem dX2_item_19 : decode cX2_item 19 = .ok (.goto 4, 3) := dk_167 0 4 (dk_at dksX2_item_0 19 rfl rfl)
theorem dX2_item_22 : decode cX2_item 22 = .ok (.iconst 0, 1) := dk_3 (dk_at dksX2_item_0 22 rfl rfl)
theorem dX2_item_23 : decode cX2_item 23 = .ok (.invokevirtual 63, 3) := dk_182 0 63 (dk_at dksX2_item_1 0 rfl rfl)
theorem dX2_item_26 : decode cX2_item 26 = .ok (.aload_n 0, 1) := dk_42 (dk_at dksX2_item_1 3 rfl rfl)
theorem dX2_item_27 : decode cX2_item 27 = .ok (.getfield 67, 3) := dk_180 0 67 (dk_at dksX2_item_1 4 rfl rfl)
theorem dX2_item_30 : decode cX2_item 30 = .ok (.tableswitch 82 7 10 #[30, 51, 58, 65], 30) := by decide +kernel
theorem dX2_item_60 : decode cX2_item 60 = .ok (.aload_n 0, 1) := dk_42 (dk_at dksX2_item_3 0 rfl rfl)
theorem dX2_item_61 : decode cX2_item 61 = .ok (.getfield 25, 3) := dk_180 0 25 (dk_at dksX2_item_3 1 rfl rfl)
theorem dX2_item_64 : decode cX2_item 64 = .ok (.getfield 110, 3) := dk_180 0 110 (dk_at dksX2_item_3 4 rfl rfl)
theorem dX2_item_67 : decode cX2_item 67 = .ok (.iconst 0, 1) := dk_3 (dk_at dksX2_item_3 7 rfl rfl)
theorem dX2_item_68 : decode cX2_item 68 = .ok (.aaload, 1) := dk_50 (dk_at dksX2_item_3 8 rfl rfl)
theorem dX2_item_69 : decode cX2_item 69 = .ok (.aload_n 0, 1) := dk_42 (dk_at dksX2_item_3 9 rfl rfl)
theorem dX2_item_70 : decode cX2_item 70 = .ok (.iconst 0, 1) := dk_3 (dk_at dksX2_item_3 10 rfl rfl)
theorem dX2_item_71 : decode cX2_item 71 = .ok (.bipush 63, 2) := dk_16 63 (dk_at dksX2_item_3 11 rfl rfl)
theorem dX2_item_73 : decode cX2_item 73 = .ok (.invokevirtual 99, 3) := dk_182 0 99 (dk_at dksX2_item_3 13 rfl rfl)
theorem dX2_item_76 : decode cX2_item 76 = .ok (.iconst 1, 1) := dk_4 (dk_at dksX2_item_3 16 rfl rfl)
theorem dX2_item_77 : decode cX2_item 77 = .ok (.iastore, 1) := dk_79 (dk_at dksX2_item_3 17 rfl rfl)
theorem dX2_item_78 : decode cX2_item 78 = .ok (.goto 42, 3) := dk_167 0 42 (dk_at dksX2_item_3 18 rfl rfl)
theorem dX2_item_81 : decode cX2_item 81 = .ok (.aload_n 0, 1) := dk_42 (dk_at dksX2_item_3 21 rfl rfl)
theorem dX2_item_82 : decode cX2_item 82 = .ok (.invokevirtual 117, 3) := dk_182 0 117 (dk_at dksX2_item_4 0 rfl rfl)
theorem dX2_item_85 : decode cX2_item 85 = .ok (.goto 35, 3) := dk_167 0 35 (dk_at dksX2_item_4 3 rfl rfl)
theorem dX2_item_88 : decode cX2_item 88 = .ok (.aload_n 0, 1) := dk_42 (dk_at dksX2_item_4 6 rfl rfl)
theorem dX2_item_89 : decode cX2_item 89 = .ok (.invokevirtual 120, 3) := dk_182 0 120 (dk_at dksX2_item_4 7 rfl rfl)
theorem dX2_item_92 : decode cX2_item 92 = .ok (.goto 28, 3) := dk_167 0 28 (dk_at dksX2_item_4 10 rfl rfl)
theorem dX2_item_95 : decode cX2_item 95 = .ok (.aload_n 0, 1) := dk_42 (dk_at dksX2_item_4 13 rfl rfl)
theorem dX2_item_96 : decode cX2_item 96 = .ok (.getfield 25, 3) := dk_180 0 25 (dk_at dksX2_item_4 14 rfl rfl)
theorem dX2_item_99 : decode cX2_item 99 = .ok (.aload_n 0, 1) := dk_42 (dk_at dksX2_item_4 17 rfl rfl)
theorem dX2_item_100 : decode cX2_item 100 = .ok (.iconst 0, 1) := dk_3 (dk_at dksX2_item_4 18 rfl rfl)
theorem dX2_item_101 : decode cX2_item 101 = .ok (.bipush 9, 2) := dk_16 9 (dk_at dksX2_item_4 19 rfl rfl)
theorem dX2_item_103 : decode cX2_item 103 = .ok (.invokevirtual 99, 3) := dk_182 0 99 (dk_at dksX2_item_4 21 rfl rfl)
theorem dX2_item_106 : decode cX2_item 106 = .ok (.putfield 122, 3) := dk_181 0 122 (dk_at dksX2_item_5 0 rfl rfl)
theorem dX2_item_109 : decode cX2_item 109 = .ok (.goto 11, 3) := dk_167 0 11 (dk_at dksX2_item_5 3 rfl rfl)
theorem dX2_item_112 : decode cX2_item 112 = .ok (.aload_n 0, 1) := dk_42 (dk_at dksX2_item_5 6 rfl rfl)
theorem dX2_item_113 : decode cX2_item 113 = .ok (.aload_n 0, 1) := dk_42 (dk_at dksX2_item_5 7 rfl rfl)
theorem dX2_item_114 : decode cX2_item 114 = .ok (.getfield 67, 3) := dk_180 0 67 (dk_at dksX2_item_5 8 rfl rfl)
theorem dX2_item_117 : decode cX2_item 117 = .ok (.invokevirtual 125, 3) := dk_182 0 125 (dk_at dksX2_item_5 11 rfl rfl)
theorem dX2_item_120 : decode cX2_item 120 = .ok (.return_, 1) := dk_177 (dk_at dksX2_item_5 14 rfl rfl)
abbrev cX2_behind : ByteArray := prog_7_method_12_code
def yX2_behind : MethodName := ⟨RX2, "behind", "(II)I"⟩
def dkwX2_behind_0 : List UInt8 := [42, 182, 0, 82, 42, 27, 28, 182, 0, 85, 172]
abbrev dktX2_behind_0 : List UInt8 := dkwX2_behind_0 ++ []
theorem dksX2_behind_0 : cX2_behind.data.toList.drop 0 = dktX2_behind_0 := by decide +kernel
theorem dX2_behind_0 : decode cX2_behind 0 = .ok (.aload_n 0, 1) := dk_42 (dk_at dksX2_behind_0 0 rfl rfl)
theorem dX2_behind_1 : decode cX2_behind 1 = .ok (.invokevirtual 82, 3) := dk_182 0 82 (dk_at dksX2_behind_0 1 rfl rfl)
theorem dX2_behind_4 : decode cX2_behind 4 = .ok (.aload_n 0, 1) := dk_42 (dk_at dksX2_behind_0 4 rfl rfl)
theorem dX2_behind_5 : decode cX2_behind 5 = .ok (.iload_n 1, 1) := dk_27 (dk_at dksX2_behind_0 5 rfl rfl)
theorem dX2_behind_6 : decode cX2_behind 6 = .ok (.iload_n 2, 1) := dk_28 (dk_at dksX2_behind_0 6 rfl rfl)
theorem dX2_behind_7 : decode cX2_behind 7 = .ok (.invokevirtual 85, 3) := dk_182 0 85 (dk_at dksX2_behind_0 7 rfl rfl)
theorem dX2_behind_10 : decode cX2_behind 10 = .ok (.ireturn, 1) := dk_172 (dk_at dksX2_behind_0 10 rfl rfl)
abbrev cX2_number : ByteArray := prog_7_method_11_code
def yX2_number : MethodName := ⟨RX2, "number", "(II)I"⟩
def dkwX2_number_1 : List UInt8 := [167, 0, 4, 3, 182, 0, 63, 42, 180, 0, 67, 62, 42, 182, 0, 82, 29, 172]
abbrev dktX2_number_1 : List UInt8 := dkwX2_number_1 ++ []
def dkwX2_number_0 : List UInt8 := [42, 42, 180, 0, 47, 4, 160, 0, 19, 42, 180, 0, 67, 27, 28, 184, 0, 33, 153, 0, 7, 4]
abbrev dktX2_number_0 : List UInt8 := dkwX2_number_0 ++ dktX2_number_1
theorem dksX2_number_0 : cX2_number.data.toList.drop 0 = dktX2_number_0 := by decide +kernel
theorem dksX2_number_1 : cX2_number.data.toList.drop 22 = dktX2_number_1 := dk_seg dksX2_number_0 22 rfl rfl
theorem dX2_number_0 : decode cX2_number 0 = .ok (.aload_n 0, 1) := dk_42 (dk_at dksX2_number_0 0 rfl rfl)
theorem dX2_number_1 : decode cX2_number 1 = .ok (.aload_n 0, 1) := dk_42 (dk_at dksX2_number_0 1 rfl rfl)
theorem dX2_number_2 : decode cX2_number 2 = .ok (.getfield 47, 3) := dk_180 0 47 (dk_at dksX2_number_0 2 rfl rfl)
theorem dX2_number_5 : decode cX2_number 5 = .ok (.iconst 1, 1) := dk_4 (dk_at dksX2_number_0 5 rfl rfl)
theorem dX2_number_6 : decode cX2_number 6 = .ok (.if_icmp .ne 19, 3) := dk_160 0 19 (dk_at dksX2_number_0 6 rfl rfl)
theorem dX2_number_9 : decode cX2_number 9 = .ok (.aload_n 0, 1) := dk_42 (dk_at dksX2_number_0 9 rfl rfl)
theorem dX2_number_10 : decode cX2_number 10 = .ok (.getfield 67, 3) := dk_180 0 67 (dk_at dksX2_number_0 10 rfl rfl)
theorem dX2_number_13 : decode cX2_number 13 = .ok (.iload_n 1, 1) := dk_27 (dk_at dksX2_number_0 13 rfl rfl)
theorem dX2_number_14 : decode cX2_number 14 = .ok (.iload_n 2, 1) := dk_28 (dk_at dksX2_number_0 14 rfl rfl)
theorem dX2_number_15 : decode cX2_number 15 = .ok (.invokestatic 33, 3) := dk_184 0 33 (dk_at dksX2_number_0 15 rfl rfl)
theorem dX2_number_18 : decode cX2_number 18 = .ok (.ifCond .eq 7, 3) := dk_153 0 7 (dk_at dksX2_number_0 18 rfl rfl)
theorem dX2_number_21 : decode cX2_number 21 = .ok (.iconst 1, 1) := dk_4 (dk_at dksX2_number_0 21 rfl rfl)
theorem dX2_number_22 : decode cX2_number 22 = .ok (.goto 4, 3) := dk_167 0 4 (dk_at dksX2_number_1 0 rfl rfl)
theorem dX2_number_25 : decode cX2_number 25 = .ok (.iconst 0, 1) := dk_3 (dk_at dksX2_number_1 3 rfl rfl)
theorem dX2_number_26 : decode cX2_number 26 = .ok (.invokevirtual 63, 3) := dk_182 0 63 (dk_at dksX2_number_1 4 rfl rfl)
theorem dX2_number_29 : decode cX2_number 29 = .ok (.aload_n 0, 1) := dk_42 (dk_at dksX2_number_1 7 rfl rfl)
theorem dX2_number_30 : decode cX2_number 30 = .ok (.getfield 67, 3) := dk_180 0 67 (dk_at dksX2_number_1 8 rfl rfl)
theorem dX2_number_33 : decode cX2_number 33 = .ok (.istore_n 3, 1) := dk_62 (dk_at dksX2_number_1 11 rfl rfl)
theorem dX2_number_34 : decode cX2_number 34 = .ok (.aload_n 0, 1) := dk_42 (dk_at dksX2_number_1 12 rfl rfl)
theorem dX2_number_35 : decode cX2_number 35 = .ok (.invokevirtual 82, 3) := dk_182 0 82 (dk_at dksX2_number_1 13 rfl rfl)
theorem dX2_number_38 : decode cX2_number 38 = .ok (.iload_n 3, 1) := dk_29 (dk_at dksX2_number_1 16 rfl rfl)
theorem dX2_number_39 : decode cX2_number 39 = .ok (.ireturn, 1) := dk_172 (dk_at dksX2_number_1 17 rfl rfl)
abbrev cX2_thick : ByteArray := prog_7_method_15_code
def yX2_thick : MethodName := ⟨RX2, "thick", "()V"⟩
def dkwX2_thick_1 : List UInt8 := [182, 0, 85, 79, 177]
abbrev dktX2_thick_1 : List UInt8 := dkwX2_thick_1 ++ []
def dkwX2_thick_0 : List UInt8 := [42, 3, 16, 63, 182, 0, 99, 60, 42, 180, 0, 25, 180, 0, 110, 4, 50, 27, 42, 3, 16, 9]
abbrev dktX2_thick_0 : List UInt8 := dkwX2_thick_0 ++ dktX2_thick_1
theorem dksX2_thick_0 : cX2_thick.data.toList.drop 0 = dktX2_thick_0 := by decide +kernel
theorem dksX2_thick_1 : cX2_thick.data.toList.drop 22 = dktX2_thick_1 := dk_seg dksX2_thick_0 22 rfl rfl
theorem dX2_thick_0 : decode cX2_thick 0 = .ok (.aload_n 0, 1) := dk_42 (dk_at dksX2_thick_0 0 rfl rfl)
theorem dX2_thick_1 : decode cX2_thick 1 = .ok (.iconst 0, 1) := dk_3 (dk_at dksX2_thick_0 1 rfl rfl)
theorem dX2_thick_2 : decode cX2_thick 2 = .ok (.bipush 63, 2) := dk_16 63 (dk_at dksX2_thick_0 2 rfl rfl)
theorem dX2_thick_4 : decode cX2_thick 4 = .ok (.invokevirtual 99, 3) := dk_182 0 99 (dk_at dksX2_thick_0 4 rfl rfl)
theorem dX2_thick_7 : decode cX2_thick 7 = .ok (.istore_n 1, 1) := dk_60 (dk_at dksX2_thick_0 7 rfl rfl)
theorem dX2_thick_8 : decode cX2_thick 8 = .ok (.aload_n 0, 1) := dk_42 (dk_at dksX2_thick_0 8 rfl rfl)
theorem dX2_thick_9 : decode cX2_thick 9 = .ok (.getfield 25, 3) := dk_180 0 25 (dk_at dksX2_thick_0 9 rfl rfl)
theorem dX2_thick_12 : decode cX2_thick 12 = .ok (.getfield 110, 3) := dk_180 0 110 (dk_at dksX2_thick_0 12 rfl rfl)
theorem dX2_thick_15 : decode cX2_thick 15 = .ok (.iconst 1, 1) := dk_4 (dk_at dksX2_thick_0 15 rfl rfl)
theorem dX2_thick_16 : decode cX2_thick 16 = .ok (.aaload, 1) := dk_50 (dk_at dksX2_thick_0 16 rfl rfl)
theorem dX2_thick_17 : decode cX2_thick 17 = .ok (.iload_n 1, 1) := dk_27 (dk_at dksX2_thick_0 17 rfl rfl)
theorem dX2_thick_18 : decode cX2_thick 18 = .ok (.aload_n 0, 1) := dk_42 (dk_at dksX2_thick_0 18 rfl rfl)
theorem dX2_thick_19 : decode cX2_thick 19 = .ok (.iconst 0, 1) := dk_3 (dk_at dksX2_thick_0 19 rfl rfl)
theorem dX2_thick_20 : decode cX2_thick 20 = .ok (.bipush 9, 2) := dk_16 9 (dk_at dksX2_thick_0 20 rfl rfl)
theorem dX2_thick_22 : decode cX2_thick 22 = .ok (.invokevirtual 85, 3) := dk_182 0 85 (dk_at dksX2_thick_1 0 rfl rfl)
theorem dX2_thick_25 : decode cX2_thick 25 = .ok (.iastore, 1) := dk_79 (dk_at dksX2_thick_1 3 rfl rfl)
theorem dX2_thick_26 : decode cX2_thick 26 = .ok (.return_, 1) := dk_177 (dk_at dksX2_thick_1 4 rfl rfl)
abbrev cX2_hunter : ByteArray := prog_7_method_16_code
def yX2_hunter : MethodName := ⟨RX2, "hunter", "()V"⟩
def dkwX2_hunter_1 : List UInt8 := [42, 3, 16, 63, 182, 0, 99, 167, 0, 4, 2, 79, 177]
abbrev dktX2_hunter_1 : List UInt8 := dkwX2_hunter_1 ++ []
def dkwX2_hunter_0 : List UInt8 := [42, 3, 6, 182, 0, 99, 60, 42, 180, 0, 25, 180, 0, 113, 27, 42, 16, 11, 182, 0, 89, 153, 0, 13]
abbrev dktX2_hunter_0 : List UInt8 := dkwX2_hunter_0 ++ dktX2_hunter_1
theorem dksX2_hunter_0 : cX2_hunter.data.toList.drop 0 = dktX2_hunter_0 := by decide +kernel
theorem dksX2_hunter_1 : cX2_hunter.data.toList.drop 24 = dktX2_hunter_1 := dk_seg dksX2_hunter_0 24 rfl rfl
theorem dX2_hunter_0 : decode cX2_hunter 0 = .ok (.aload_n 0, 1) := dk_42 (dk_at dksX2_hunter_0 0 rfl rfl)
theorem dX2_hunter_1 : decode cX2_hunter 1 = .ok (.iconst 0, 1) := dk_3 (dk_at dksX2_hunter_0 1 rfl rfl)
theorem dX2_hunter_2 : decode cX2_hunter 2 = .ok (.iconst 3, 1) := dk_6 (dk_at dksX2_hunter_0 2 rfl rfl)
theorem dX2_hunter_3 : decode cX2_hunter 3 = .ok (.invokevirtual 99, 3) := dk_182 0 99 (dk_at dksX2_hunter_0 3 rfl rfl)
theorem dX2_hunter_6 : decode cX2_hunter 6 = .ok (.istore_n 1, 1) := dk_60 (dk_at dksX2_hunter_0 6 rfl rfl)
theorem dX2_hunter_7 : decode cX2_hunter 7 = .ok (.aload_n 0, 1) := dk_42 (dk_at dksX2_hunter_0 7 rfl rfl)
theorem dX2_hunter_8 : decode cX2_hunter 8 = .ok (.getfield 25, 3) := dk_180 0 25 (dk_at dksX2_hunter_0 8 rfl rfl)
theorem dX2_hunter_11 : decode cX2_hunter 11 = .ok (.getfield 113, 3) := dk_180 0 113 (dk_at dksX2_hunter_0 11 rfl rfl)
theorem dX2_hunter_14 : decode cX2_hunter 14 = .ok (.iload_n 1, 1) := dk_27 (dk_at dksX2_hunter_0 14 rfl rfl)
theorem dX2_hunter_15 : decode cX2_hunter 15 = .ok (.aload_n 0, 1) := dk_42 (dk_at dksX2_hunter_0 15 rfl rfl)
theorem dX2_hunter_16 : decode cX2_hunter 16 = .ok (.bipush 11, 2) := dk_16 11 (dk_at dksX2_hunter_0 16 rfl rfl)
theorem dX2_hunter_18 : decode cX2_hunter 18 = .ok (.invokevirtual 89, 3) := dk_182 0 89 (dk_at dksX2_hunter_0 18 rfl rfl)
theorem dX2_hunter_21 : decode cX2_hunter 21 = .ok (.ifCond .eq 13, 3) := dk_153 0 13 (dk_at dksX2_hunter_0 21 rfl rfl)
theorem dX2_hunter_24 : decode cX2_hunter 24 = .ok (.aload_n 0, 1) := dk_42 (dk_at dksX2_hunter_1 0 rfl rfl)
theorem dX2_hunter_25 : decode cX2_hunter 25 = .ok (.iconst 0, 1) := dk_3 (dk_at dksX2_hunter_1 1 rfl rfl)
theorem dX2_hunter_26 : decode cX2_hunter 26 = .ok (.bipush 63, 2) := dk_16 63 (dk_at dksX2_hunter_1 2 rfl rfl)
theorem dX2_hunter_28 : decode cX2_hunter 28 = .ok (.invokevirtual 99, 3) := dk_182 0 99 (dk_at dksX2_hunter_1 4 rfl rfl)
theorem dX2_hunter_31 : decode cX2_hunter 31 = .ok (.goto 4, 3) := dk_167 0 4 (dk_at dksX2_hunter_1 7 rfl rfl)
theorem dX2_hunter_34 : decode cX2_hunter 34 = .ok (.iconst (-1), 1) := dk_2 (dk_at dksX2_hunter_1 10 rfl rfl)
theorem dX2_hunter_35 : decode cX2_hunter 35 = .ok (.iastore, 1) := dk_79 (dk_at dksX2_hunter_1 11 rfl rfl)
theorem dX2_hunter_36 : decode cX2_hunter 36 = .ok (.return_, 1) := dk_177 (dk_at dksX2_hunter_1 12 rfl rfl)
abbrev cX2_isWord : ByteArray := prog_7_method_10_code
def yX2_isWord : MethodName := ⟨RX2, "isWord", "(I)Z"⟩
def dkwX2_isWord_0 : List UInt8 := [42, 180, 0, 47, 5, 160, 0, 15, 42, 180, 0, 67, 27, 160, 0, 7, 4, 167, 0, 4, 3, 172]
abbrev dktX2_isWord_0 : List UInt8 := dkwX2_isWord_0 ++ []
theorem dksX2_isWord_0 : cX2_isWord.data.toList.drop 0 = dktX2_isWord_0 := by decide +kernel
theorem dX2_isWord_0 : decode cX2_isWord 0 = .ok (.aload_n 0, 1) := dk_42 (dk_at dksX2_isWord_0 0 rfl rfl)
theorem dX2_isWord_1 : decode cX2_isWord 1 = .ok (.getfield 47, 3) := dk_180 0 47 (dk_at dksX2_isWord_0 1 rfl rfl)
theorem dX2_isWord_4 : decode cX2_isWord 4 = .ok (.iconst 2, 1) := dk_5 (dk_at dksX2_isWord_0 4 rfl rfl)
theorem dX2_isWord_5 : decode cX2_isWord 5 = .ok (.if_icmp .ne 15, 3) := dk_160 0 15 (dk_at dksX2_isWord_0 5 rfl rfl)
theorem dX2_isWord_8 : decode cX2_isWord 8 = .ok (.aload_n 0, 1) := dk_42 (dk_at dksX2_isWord_0 8 rfl rfl)
theorem dX2_isWord_9 : decode cX2_isWord 9 = .ok (.getfield 67, 3) := dk_180 0 67 (dk_at dksX2_isWord_0 9 rfl rfl)
theorem dX2_isWord_12 : decode cX2_isWord 12 = .ok (.iload_n 1, 1) := dk_27 (dk_at dksX2_isWord_0 12 rfl rfl)
theorem dX2_isWord_13 : decode cX2_isWord 13 = .ok (.if_icmp .ne 7, 3) := dk_160 0 7 (dk_at dksX2_isWord_0 13 rfl rfl)
theorem dX2_isWord_16 : decode cX2_isWord 16 = .ok (.iconst 1, 1) := dk_4 (dk_at dksX2_isWord_0 16 rfl rfl)
theorem dX2_isWord_17 : decode cX2_isWord 17 = .ok (.goto 4, 3) := dk_167 0 4 (dk_at dksX2_isWord_0 17 rfl rfl)
theorem dX2_isWord_20 : decode cX2_isWord 20 = .ok (.iconst 0, 1) := dk_3 (dk_at dksX2_isWord_0 20 rfl rfl)
theorem dX2_isWord_21 : decode cX2_isWord 21 = .ok (.ireturn, 1) := dk_172 (dk_at dksX2_isWord_0 21 rfl rfl)
abbrev cX2_bell : ByteArray := prog_7_method_14_code
def yX2_bell : MethodName := ⟨RX2, "bell", "(I)V"⟩
def dkwX2_bell_2 : List UInt8 := [16, 12, 5, 3, 16, 11, 182, 0, 106, 42, 16, 13, 6, 4, 16, 99, 182, 0, 106, 177]
abbrev dktX2_bell_2 : List UInt8 := dkwX2_bell_2 ++ []
def dkwX2_bell_1 : List UInt8 := [182, 0, 82, 42, 180, 0, 25, 27, 3, 182, 0, 102, 42, 16, 11, 4, 3, 16, 63, 182, 0, 106, 42]
abbrev dktX2_bell_1 : List UInt8 := dkwX2_bell_1 ++ dktX2_bell_2
def dkwX2_bell_0 : List UInt8 := [42, 42, 180, 0, 25, 180, 0, 96, 16, 8, 162, 0, 7, 4, 167, 0, 4, 3, 182, 0, 63, 42]
abbrev dktX2_bell_0 : List UInt8 := dkwX2_bell_0 ++ dktX2_bell_1
theorem dksX2_bell_0 : cX2_bell.data.toList.drop 0 = dktX2_bell_0 := by decide +kernel
theorem dksX2_bell_1 : cX2_bell.data.toList.drop 22 = dktX2_bell_1 := dk_seg dksX2_bell_0 22 rfl rfl
theorem dksX2_bell_2 : cX2_bell.data.toList.drop 45 = dktX2_bell_2 := dk_seg dksX2_bell_1 23 rfl rfl
theorem dX2_bell_0 : decode cX2_bell 0 = .ok (.aload_n 0, 1) := dk_42 (dk_at dksX2_bell_0 0 rfl rfl)
theorem dX2_bell_1 : decode cX2_bell 1 = .ok (.aload_n 0, 1) := dk_42 (dk_at dksX2_bell_0 1 rfl rfl)
theorem dX2_bell_2 : decode cX2_bell 2 = .ok (.getfield 25, 3) := dk_180 0 25 (dk_at dksX2_bell_0 2 rfl rfl)
theorem dX2_bell_5 : decode cX2_bell 5 = .ok (.getfield 96, 3) := dk_180 0 96 (dk_at dksX2_bell_0 5 rfl rfl)
theorem dX2_bell_8 : decode cX2_bell 8 = .ok (.bipush 8, 2) := dk_16 8 (dk_at dksX2_bell_0 8 rfl rfl)
theorem dX2_bell_10 : decode cX2_bell 10 = .ok (.if_icmp .ge 7, 3) := dk_162 0 7 (dk_at dksX2_bell_0 10 rfl rfl)
theorem dX2_bell_13 : decode cX2_bell 13 = .ok (.iconst 1, 1) := dk_4 (dk_at dksX2_bell_0 13 rfl rfl)
theorem dX2_bell_14 : decode cX2_bell 14 = .ok (.goto 4, 3) := dk_167 0 4 (dk_at dksX2_bell_0 14 rfl rfl)
theorem dX2_bell_17 : decode cX2_bell 17 = .ok (.iconst 0, 1) := dk_3 (dk_at dksX2_bell_0 17 rfl rfl)
theorem dX2_bell_18 : decode cX2_bell 18 = .ok (.invokevirtual 63, 3) := dk_182 0 63 (dk_at dksX2_bell_0 18 rfl rfl)
theorem dX2_bell_21 : decode cX2_bell 21 = .ok (.aload_n 0, 1) := dk_42 (dk_at dksX2_bell_0 21 rfl rfl)
theorem dX2_bell_22 : decode cX2_bell 22 = .ok (.invokevirtual 82, 3) := dk_182 0 82 (dk_at dksX2_bell_1 0 rfl rfl)
theorem dX2_bell_25 : decode cX2_bell 25 = .ok (.aload_n 0, 1) := dk_42 (dk_at dksX2_bell_1 3 rfl rfl)
theorem dX2_bell_26 : decode cX2_bell 26 = .ok (.getfield 25, 3) := dk_180 0 25 (dk_at dksX2_bell_1 4 rfl rfl)
theorem dX2_bell_29 : decode cX2_bell 29 = .ok (.iload_n 1, 1) := dk_27 (dk_at dksX2_bell_1 7 rfl rfl)
theorem dX2_bell_30 : decode cX2_bell 30 = .ok (.iconst 0, 1) := dk_3 (dk_at dksX2_bell_1 8 rfl rfl)
theorem dX2_bell_31 : decode cX2_bell 31 = .ok (.invokevirtual 102, 3) := dk_182 0 102 (dk_at dksX2_bell_1 9 rfl rfl)
theorem dX2_bell_34 : decode cX2_bell 34 = .ok (.aload_n 0, 1) := dk_42 (dk_at dksX2_bell_1 12 rfl rfl)
theorem dX2_bell_35 : decode cX2_bell 35 = .ok (.bipush 11, 2) := dk_16 11 (dk_at dksX2_bell_1 13 rfl rfl)
theorem dX2_bell_37 : decode cX2_bell 37 = .ok (.iconst 1, 1) := dk_4 (dk_at dksX2_bell_1 15 rfl rfl)
theorem dX2_bell_38 : decode cX2_bell 38 = .ok (.iconst 0, 1) := dk_3 (dk_at dksX2_bell_1 16 rfl rfl)
theorem dX2_bell_39 : decode cX2_bell 39 = .ok (.bipush 63, 2) := dk_16 63 (dk_at dksX2_bell_1 17 rfl rfl)
theorem dX2_bell_41 : decode cX2_bell 41 = .ok (.invokevirtual 106, 3) := dk_182 0 106 (dk_at dksX2_bell_1 19 rfl rfl)
theorem dX2_bell_44 : decode cX2_bell 44 = .ok (.aload_n 0, 1) := dk_42 (dk_at dksX2_bell_1 22 rfl rfl)
theorem dX2_bell_45 : decode cX2_bell 45 = .ok (.bipush 12, 2) := dk_16 12 (dk_at dksX2_bell_2 0 rfl rfl)
theorem dX2_bell_47 : decode cX2_bell 47 = .ok (.iconst 2, 1) := dk_5 (dk_at dksX2_bell_2 2 rfl rfl)
theorem dX2_bell_48 : decode cX2_bell 48 = .ok (.iconst 0, 1) := dk_3 (dk_at dksX2_bell_2 3 rfl rfl)
theorem dX2_bell_49 : decode cX2_bell 49 = .ok (.bipush 11, 2) := dk_16 11 (dk_at dksX2_bell_2 4 rfl rfl)
theorem dX2_bell_51 : decode cX2_bell 51 = .ok (.invokevirtual 106, 3) := dk_182 0 106 (dk_at dksX2_bell_2 6 rfl rfl)
theorem dX2_bell_54 : decode cX2_bell 54 = .ok (.aload_n 0, 1) := dk_42 (dk_at dksX2_bell_2 9 rfl rfl)
theorem dX2_bell_55 : decode cX2_bell 55 = .ok (.bipush 13, 2) := dk_16 13 (dk_at dksX2_bell_2 10 rfl rfl)
theorem dX2_bell_57 : decode cX2_bell 57 = .ok (.iconst 3, 1) := dk_6 (dk_at dksX2_bell_2 12 rfl rfl)
theorem dX2_bell_58 : decode cX2_bell 58 = .ok (.iconst 1, 1) := dk_4 (dk_at dksX2_bell_2 13 rfl rfl)
theorem dX2_bell_59 : decode cX2_bell 59 = .ok (.bipush 99, 2) := dk_16 99 (dk_at dksX2_bell_2 14 rfl rfl)
theorem dX2_bell_61 : decode cX2_bell 61 = .ok (.invokevirtual 106, 3) := dk_182 0 106 (dk_at dksX2_bell_2 16 rfl rfl)
theorem dX2_bell_64 : decode cX2_bell 64 = .ok (.return_, 1) := dk_177 (dk_at dksX2_bell_2 19 rfl rfl)
abbrev cX2_perhaps : ByteArray := prog_7_method_13_code
def yX2_perhaps : MethodName := ⟨RX2, "perhaps", "(IIII)V"⟩
def dkwX2_perhaps_1 : List UInt8 := [4, 100, 42, 29, 21, 4, 182, 0, 99, 79, 177]
abbrev dktX2_perhaps_1 : List UInt8 := dkwX2_perhaps_1 ++ []
def dkwX2_perhaps_0 : List UInt8 := [42, 27, 182, 0, 89, 153, 0, 29, 42, 180, 0, 25, 180, 0, 92, 28, 50, 42, 180, 0, 25, 180, 0, 96]
abbrev dktX2_perhaps_0 : List UInt8 := dkwX2_perhaps_0 ++ dktX2_perhaps_1
theorem dksX2_perhaps_0 : cX2_perhaps.data.toList.drop 0 = dktX2_perhaps_0 := by decide +kernel
theorem dksX2_perhaps_1 : cX2_perhaps.data.toList.drop 24 = dktX2_perhaps_1 := dk_seg dksX2_perhaps_0 24 rfl rfl
theorem dX2_perhaps_0 : decode cX2_perhaps 0 = .ok (.aload_n 0, 1) := dk_42 (dk_at dksX2_perhaps_0 0 rfl rfl)
theorem dX2_perhaps_1 : decode cX2_perhaps 1 = .ok (.iload_n 1, 1) := dk_27 (dk_at dksX2_perhaps_0 1 rfl rfl)
theorem dX2_perhaps_2 : decode cX2_perhaps 2 = .ok (.invokevirtual 89, 3) := dk_182 0 89 (dk_at dksX2_perhaps_0 2 rfl rfl)
theorem dX2_perhaps_5 : decode cX2_perhaps 5 = .ok (.ifCond .eq 29, 3) := dk_153 0 29 (dk_at dksX2_perhaps_0 5 rfl rfl)
theorem dX2_perhaps_8 : decode cX2_perhaps 8 = .ok (.aload_n 0, 1) := dk_42 (dk_at dksX2_perhaps_0 8 rfl rfl)
theorem dX2_perhaps_9 : decode cX2_perhaps 9 = .ok (.getfield 25, 3) := dk_180 0 25 (dk_at dksX2_perhaps_0 9 rfl rfl)
theorem dX2_perhaps_12 : decode cX2_perhaps 12 = .ok (.getfield 92, 3) := dk_180 0 92 (dk_at dksX2_perhaps_0 12 rfl rfl)
theorem dX2_perhaps_15 : decode cX2_perhaps 15 = .ok (.iload_n 2, 1) := dk_28 (dk_at dksX2_perhaps_0 15 rfl rfl)
theorem dX2_perhaps_16 : decode cX2_perhaps 16 = .ok (.aaload, 1) := dk_50 (dk_at dksX2_perhaps_0 16 rfl rfl)
theorem dX2_perhaps_17 : decode cX2_perhaps 17 = .ok (.aload_n 0, 1) := dk_42 (dk_at dksX2_perhaps_0 17 rfl rfl)
theorem dX2_perhaps_18 : decode cX2_perhaps 18 = .ok (.getfield 25, 3) := dk_180 0 25 (dk_at dksX2_perhaps_0 18 rfl rfl)
theorem dX2_perhaps_21 : decode cX2_perhaps 21 = .ok (.getfield 96, 3) := dk_180 0 96 (dk_at dksX2_perhaps_0 21 rfl rfl)
theorem dX2_perhaps_24 : decode cX2_perhaps 24 = .ok (.iconst 1, 1) := dk_4 (dk_at dksX2_perhaps_1 0 rfl rfl)
theorem dX2_perhaps_25 : decode cX2_perhaps 25 = .ok (.isub, 1) := dk_100 (dk_at dksX2_perhaps_1 1 rfl rfl)
theorem dX2_perhaps_26 : decode cX2_perhaps 26 = .ok (.aload_n 0, 1) := dk_42 (dk_at dksX2_perhaps_1 2 rfl rfl)
theorem dX2_perhaps_27 : decode cX2_perhaps 27 = .ok (.iload_n 3, 1) := dk_29 (dk_at dksX2_perhaps_1 3 rfl rfl)
theorem dX2_perhaps_28 : decode cX2_perhaps 28 = .ok (.iload 4, 2) := dk_21 4 (dk_at dksX2_perhaps_1 4 rfl rfl)
theorem dX2_perhaps_30 : decode cX2_perhaps 30 = .ok (.invokevirtual 99, 3) := dk_182 0 99 (dk_at dksX2_perhaps_1 6 rfl rfl)
theorem dX2_perhaps_33 : decode cX2_perhaps 33 = .ok (.iastore, 1) := dk_79 (dk_at dksX2_perhaps_1 9 rfl rfl)
theorem dX2_perhaps_34 : decode cX2_perhaps 34 = .ok (.return_, 1) := dk_177 (dk_at dksX2_perhaps_1 10 rfl rfl)
theorem q104 : (Jvm.Cond.initialized "WildBells$Reader") ∈ lw_all := lw_g (lw_at lw_m1 6 rfl) rfl
theorem q200 : (Jvm.Cond.instantiable "WildBells$Reader" (8 : Nat)) ∈ lw_all := lw_g (lw_at lw_m1 102 rfl) rfl
theorem q202 : (Jvm.Cond.instanceMethod ({ cls := "WildBells$Reader", name := "<init>", desc := "()V" } : Jvm.MethodName)) ∈ lw_all := lw_g (lw_at lw_m1 104 rfl) rfl
theorem q203 : (Jvm.Cond.code ({ cls := "WildBells$Reader", name := "<init>", desc := "()V" } : Jvm.MethodName) prog_7_method_1_code (1 : Nat) (Option.none : Option Jvm.ClassFile.FieldType)) ∈ lw_all := lw_g (lw_at lw_m1 105 rfl) rfl
theorem q204 : (Jvm.Cond.methodLink "WildBells$Reader" (3 : Nat) ({ cls := "java/lang/Object", name := "<init>", desc := "()V" } : Jvm.MethodName)) ∈ lw_all := lw_g (lw_at lw_m1 106 rfl) rfl
theorem q205 : (Jvm.Cond.classLink "WildBells$Reader" (9 : Nat) "WildBells$Wrong") ∈ lw_all := lw_g (lw_at lw_m1 107 rfl) rfl
theorem q214 : (Jvm.Cond.methodLink "WildBells$Reader" (11 : Nat) ({ cls := "WildBells$Wrong", name := "<init>", desc := "()V" } : Jvm.MethodName)) ∈ lw_all := lw_g (lw_at lw_m1 116 rfl) rfl
theorem q220 : (Jvm.Cond.classLink "WildBells$Reader" (22 : Nat) "WildBells$World") ∈ lw_all := lw_g (lw_at lw_m1 122 rfl) rfl
theorem q222 : (Jvm.Cond.methodLink "WildBells$Reader" (24 : Nat) ({ cls := "WildBells$World", name := "<init>", desc := "()V" } : Jvm.MethodName)) ∈ lw_all := lw_g (lw_at lw_m1 124 rfl) rfl
theorem q231 : (Jvm.Cond.fieldLinkNest "WildBells$Reader" (110 : Nat) "WildBells$World" "cell" "[[I" "WildBells") ∈ lw_tbl := lw_at lw_m1 133 rfl
theorem q234 : (Jvm.Cond.fieldLinkNest "WildBells$Reader" (113 : Nat) "WildBells$World" "hunter" "[I" "WildBells") ∈ lw_tbl := lw_at lw_m1 136 rfl
theorem q237 : (Jvm.Cond.fieldLinkNest "WildBells$Reader" (122 : Nat) "WildBells$World" "fear" "I" "WildBells") ∈ lw_tbl := lw_at lw_m1 139 rfl
theorem q240 : (Jvm.Cond.fieldLinkNest "WildBells$Reader" (96 : Nat) "WildBells$World" "bells" "I" "WildBells") ∈ lw_tbl := lw_at lw_m1 142 rfl
theorem q243 : (Jvm.Cond.fieldLinkNest "WildBells$Reader" (92 : Nat) "WildBells$World" "bell" "[[I" "WildBells") ∈ lw_tbl := lw_at lw_m1 145 rfl
theorem q270 : (Jvm.Cond.fieldLink "WildBells$Reader" (12 : Nat) "WildBells$Reader" "wrong" "LWildBells$Wrong;") ∈ lw_all := lw_g (lw_at lw_m1 172 rfl) rfl
theorem q271 : (Jvm.Cond.fieldLink "WildBells$Reader" (18 : Nat) "WildBells$Reader" "tape" "[B") ∈ lw_all := lw_g (lw_at lw_m1 173 rfl) rfl
theorem q273 : (Jvm.Cond.fieldLink "WildBells$Reader" (25 : Nat) "WildBells$Reader" "told" "LWildBells$World;") ∈ lw_all := lw_g (lw_at lw_m1 175 rfl) rfl
theorem q275 : (Jvm.Cond.fieldLink "WildBells$Reader" (29 : Nat) "WildBells$Reader" "length" "I") ∈ lw_all := lw_g (lw_at lw_m1 177 rfl) rfl
theorem q277 : (Jvm.Cond.fieldLink "WildBells$Reader" (37 : Nat) "WildBells$Reader" "at" "I") ∈ lw_all := lw_g (lw_at lw_m1 179 rfl) rfl
theorem q278 : (Jvm.Cond.fieldLink "WildBells$Reader" (44 : Nat) "WildBells$Reader" "begin" "I") ∈ lw_all := lw_g (lw_at lw_m1 180 rfl) rfl
theorem q280 : (Jvm.Cond.fieldLink "WildBells$Reader" (47 : Nat) "WildBells$Reader" "token" "I") ∈ lw_all := lw_g (lw_at lw_m1 182 rfl) rfl
theorem q281 : (Jvm.Cond.fieldLink "WildBells$Reader" (67 : Nat) "WildBells$Reader" "value" "I") ∈ lw_all := lw_g (lw_at lw_m1 183 rfl) rfl
theorem q282 : (Jvm.Cond.laysFinal "WildBells$Reader" "WildBells$Reader" "wrong" "LWildBells$Wrong;") ∈ lw_all := lw_g (lw_at lw_m1 184 rfl) rfl
theorem q283 : (Jvm.Cond.soleField "WildBells$Reader" "wrong") ∈ lw_all := lw_g (lw_at lw_m1 185 rfl) rfl
theorem q284 : (Jvm.Cond.laysFinal "WildBells$Reader" "WildBells$Reader" "tape" "[B") ∈ lw_all := lw_g (lw_at lw_m1 186 rfl) rfl
theorem q285 : (Jvm.Cond.soleField "WildBells$Reader" "tape") ∈ lw_all := lw_g (lw_at lw_m1 187 rfl) rfl
theorem q286 : (Jvm.Cond.laysFinal "WildBells$Reader" "WildBells$Reader" "told" "LWildBells$World;") ∈ lw_all := lw_g (lw_at lw_m1 188 rfl) rfl
theorem q287 : (Jvm.Cond.soleField "WildBells$Reader" "told") ∈ lw_all := lw_g (lw_at lw_m1 189 rfl) rfl
theorem q288 : (Jvm.Cond.lays "WildBells$Reader" "WildBells$Reader" "length" "I") ∈ lw_all := lw_g (lw_at lw_m1 190 rfl) rfl
theorem q289 : (Jvm.Cond.soleField "WildBells$Reader" "length") ∈ lw_all := lw_g (lw_at lw_m1 191 rfl) rfl
theorem q290 : (Jvm.Cond.lays "WildBells$Reader" "WildBells$Reader" "at" "I") ∈ lw_all := lw_g (lw_at lw_m1 192 rfl) rfl
theorem q291 : (Jvm.Cond.soleField "WildBells$Reader" "at") ∈ lw_all := lw_g (lw_at lw_m1 193 rfl) rfl
theorem q292 : (Jvm.Cond.lays "WildBells$Reader" "WildBells$Reader" "begin" "I") ∈ lw_all := lw_g (lw_at lw_m1 194 rfl) rfl
theorem q293 : (Jvm.Cond.soleField "WildBells$Reader" "begin") ∈ lw_all := lw_g (lw_at lw_m1 195 rfl) rfl
theorem q294 : (Jvm.Cond.lays "WildBells$Reader" "WildBells$Reader" "token" "I") ∈ lw_all := lw_g (lw_at lw_m1 196 rfl) rfl
theorem q295 : (Jvm.Cond.soleField "WildBells$Reader" "token") ∈ lw_all := lw_g (lw_at lw_m1 197 rfl) rfl
theorem q296 : (Jvm.Cond.lays "WildBells$Reader" "WildBells$Reader" "value" "I") ∈ lw_all := lw_g (lw_at lw_m1 198 rfl) rfl
theorem q297 : (Jvm.Cond.soleField "WildBells$Reader" "value") ∈ lw_all := lw_g (lw_at lw_m1 199 rfl) rfl
theorem q298 : (Jvm.Cond.superclass "WildBells$Reader" "java/lang/Object") ∈ lw_all := lw_g (lw_at lw_m1 200 rfl) rfl
theorem q992 : (Jvm.Cond.instanceMethod ({ cls := "WildBells$Reader", name := "whole", desc := "()I" } : Jvm.MethodName)) ∈ lw_all := lw_g (lw_at lw_m4 174 rfl) rfl
theorem q993 : (Jvm.Cond.selects "WildBells$Reader" ({ cls := "WildBells$Reader", name := "whole", desc := "()I" } : Jvm.MethodName) ({ cls := "WildBells$Reader", name := "whole", desc := "()I" } : Jvm.MethodName)) ∈ lw_all := lw_g (lw_at lw_m4 175 rfl) rfl
theorem q994 : (Jvm.Cond.code ({ cls := "WildBells$Reader", name := "whole", desc := "()I" } : Jvm.MethodName) prog_7_method_18_code (2 : Nat) (Option.some Jvm.ClassFile.FieldType.int)) ∈ lw_all := lw_g (lw_at lw_m4 176 rfl) rfl
theorem q995 : (Jvm.Cond.methodLink "WildBells$Reader" (82 : Nat) ({ cls := "WildBells$Reader", name := "next", desc := "()V" } : Jvm.MethodName)) ∈ lw_all := lw_g (lw_at lw_m4 177 rfl) rfl
theorem q996 : (Jvm.Cond.privateMethod ({ cls := "WildBells$Reader", name := "next", desc := "()V" } : Jvm.MethodName)) ∈ lw_tbl := lw_at lw_m4 178 rfl
theorem q997 : (Jvm.Cond.instanceMethod ({ cls := "WildBells$Reader", name := "next", desc := "()V" } : Jvm.MethodName)) ∈ lw_all := lw_g (lw_at lw_m4 179 rfl) rfl
theorem q998 : (Jvm.Cond.code ({ cls := "WildBells$Reader", name := "next", desc := "()V" } : Jvm.MethodName) prog_7_method_6_code (2 : Nat) (Option.none : Option Jvm.ClassFile.FieldType)) ∈ lw_all := lw_g (lw_at lw_m4 180 rfl) rfl
theorem q999 : (Jvm.Cond.methodLink "WildBells$Reader" (40 : Nat) ({ cls := "WildBells$Reader", name := "byteAt", desc := "(I)I" } : Jvm.MethodName)) ∈ lw_all := lw_g (lw_at lw_m4 181 rfl) rfl
theorem q1000 : (Jvm.Cond.privateMethod ({ cls := "WildBells$Reader", name := "byteAt", desc := "(I)I" } : Jvm.MethodName)) ∈ lw_tbl := lw_at lw_m4 182 rfl
theorem q1001 : (Jvm.Cond.instanceMethod ({ cls := "WildBells$Reader", name := "byteAt", desc := "(I)I" } : Jvm.MethodName)) ∈ lw_all := lw_g (lw_at lw_m4 183 rfl) rfl
theorem q1002 : (Jvm.Cond.code ({ cls := "WildBells$Reader", name := "byteAt", desc := "(I)I" } : Jvm.MethodName) prog_7_method_3_code (2 : Nat) (Option.some Jvm.ClassFile.FieldType.int)) ∈ lw_all := lw_g (lw_at lw_m4 184 rfl) rfl
theorem q1003 : (Jvm.Cond.methodLink "WildBells$Reader" (50 : Nat) ({ cls := "WildBells$Reader", name := "isLetter", desc := "(I)Z" } : Jvm.MethodName)) ∈ lw_all := lw_g (lw_at lw_m4 185 rfl) rfl
theorem q1004 : (Jvm.Cond.static ({ cls := "WildBells$Reader", name := "isLetter", desc := "(I)Z" } : Jvm.MethodName)) ∈ lw_all := lw_g (lw_at lw_m4 186 rfl) rfl
theorem q1005 : (Jvm.Cond.code ({ cls := "WildBells$Reader", name := "isLetter", desc := "(I)Z" } : Jvm.MethodName) prog_7_method_5_code (1 : Nat) (Option.some Jvm.ClassFile.FieldType.boolean)) ∈ lw_all := lw_g (lw_at lw_m4 187 rfl) rfl
theorem q1006 : (Jvm.Cond.methodLinkNest "WildBells$Reader" (33 : Nat) ({ cls := "WildBells", name := "in", desc := "(III)Z" } : Jvm.MethodName) "WildBells") ∈ lw_tbl := lw_at lw_m4 188 rfl
theorem q1007 : (Jvm.Cond.methodLink "WildBells$Reader" (54 : Nat) ({ cls := "WildBells$Reader", name := "word", desc := "()V" } : Jvm.MethodName)) ∈ lw_all := lw_g (lw_at lw_m4 189 rfl) rfl
theorem q1008 : (Jvm.Cond.privateMethod ({ cls := "WildBells$Reader", name := "word", desc := "()V" } : Jvm.MethodName)) ∈ lw_tbl := lw_at lw_m4 190 rfl
theorem q1009 : (Jvm.Cond.instanceMethod ({ cls := "WildBells$Reader", name := "word", desc := "()V" } : Jvm.MethodName)) ∈ lw_all := lw_g (lw_at lw_m4 191 rfl) rfl
theorem q1010 : (Jvm.Cond.code ({ cls := "WildBells$Reader", name := "word", desc := "()V" } : Jvm.MethodName) prog_7_method_8_code (2 : Nat) (Option.none : Option Jvm.ClassFile.FieldType)) ∈ lw_all := lw_g (lw_at lw_m4 192 rfl) rfl
theorem q1011 : (Jvm.Cond.methodLink "WildBells$Reader" (70 : Nat) ({ cls := "WildBells$Reader", name := "isKey", desc := "(II)Z" } : Jvm.MethodName)) ∈ lw_all := lw_g (lw_at lw_m4 193 rfl) rfl
theorem q1012 : (Jvm.Cond.privateMethod ({ cls := "WildBells$Reader", name := "isKey", desc := "(II)Z" } : Jvm.MethodName)) ∈ lw_tbl := lw_at lw_m4 194 rfl
theorem q1013 : (Jvm.Cond.instanceMethod ({ cls := "WildBells$Reader", name := "isKey", desc := "(II)Z" } : Jvm.MethodName)) ∈ lw_all := lw_g (lw_at lw_m4 195 rfl) rfl
theorem q1014 : (Jvm.Cond.code ({ cls := "WildBells$Reader", name := "isKey", desc := "(II)Z" } : Jvm.MethodName) prog_7_method_9_code (5 : Nat) (Option.some Jvm.ClassFile.FieldType.boolean)) ∈ lw_all := lw_g (lw_at lw_m4 196 rfl) rfl
theorem q1015 : (Jvm.Cond.stringRef "WildBells$Reader" (74 : Nat) "bell  herd  lone  tenor eldesttame  young net   thick hunterfear  at    note  weight") ∈ lw_tbl := lw_at lw_m4 197 rfl
theorem q1016 : (Jvm.Cond.methodLink "WildBells$Reader" (76 : Nat) ({ cls := "java/lang/String", name := "charAt", desc := "(I)C" } : Jvm.MethodName)) ∈ lw_all := lw_g (lw_at lw_m4 198 rfl) rfl
theorem q1056 : (Jvm.Cond.methodLink "WildBells$Reader" (63 : Nat) ({ cls := "WildBells$Reader", name := "need", desc := "(Z)V" } : Jvm.MethodName)) ∈ lw_all := lw_g (lw_at lw_m4 238 rfl) rfl
theorem q1057 : (Jvm.Cond.privateMethod ({ cls := "WildBells$Reader", name := "need", desc := "(Z)V" } : Jvm.MethodName)) ∈ lw_tbl := lw_at lw_m4 239 rfl
theorem q1058 : (Jvm.Cond.instanceMethod ({ cls := "WildBells$Reader", name := "need", desc := "(Z)V" } : Jvm.MethodName)) ∈ lw_all := lw_g (lw_at lw_m5 0 rfl) rfl
theorem q1059 : (Jvm.Cond.code ({ cls := "WildBells$Reader", name := "need", desc := "(Z)V" } : Jvm.MethodName) prog_7_method_2_code (2 : Nat) (Option.none : Option Jvm.ClassFile.FieldType)) ∈ lw_all := lw_g (lw_at lw_m5 1 rfl) rfl
theorem q1060 : (Jvm.Cond.methodLink "WildBells$Reader" (57 : Nat) ({ cls := "WildBells$Reader", name := "isDigit", desc := "(I)Z" } : Jvm.MethodName)) ∈ lw_all := lw_g (lw_at lw_m5 2 rfl) rfl
theorem q1061 : (Jvm.Cond.static ({ cls := "WildBells$Reader", name := "isDigit", desc := "(I)Z" } : Jvm.MethodName)) ∈ lw_all := lw_g (lw_at lw_m5 3 rfl) rfl
theorem q1062 : (Jvm.Cond.code ({ cls := "WildBells$Reader", name := "isDigit", desc := "(I)Z" } : Jvm.MethodName) prog_7_method_4_code (1 : Nat) (Option.some Jvm.ClassFile.FieldType.boolean)) ∈ lw_all := lw_g (lw_at lw_m5 4 rfl) rfl
theorem q1063 : (Jvm.Cond.methodLink "WildBells$Reader" (60 : Nat) ({ cls := "WildBells$Reader", name := "digits", desc := "()V" } : Jvm.MethodName)) ∈ lw_all := lw_g (lw_at lw_m5 5 rfl) rfl
theorem q1064 : (Jvm.Cond.privateMethod ({ cls := "WildBells$Reader", name := "digits", desc := "()V" } : Jvm.MethodName)) ∈ lw_tbl := lw_at lw_m5 6 rfl
theorem q1065 : (Jvm.Cond.instanceMethod ({ cls := "WildBells$Reader", name := "digits", desc := "()V" } : Jvm.MethodName)) ∈ lw_all := lw_g (lw_at lw_m5 7 rfl) rfl
theorem q1066 : (Jvm.Cond.code ({ cls := "WildBells$Reader", name := "digits", desc := "()V" } : Jvm.MethodName) prog_7_method_7_code (2 : Nat) (Option.none : Option Jvm.ClassFile.FieldType)) ∈ lw_all := lw_g (lw_at lw_m5 8 rfl) rfl
theorem q1067 : (Jvm.Cond.methodLink "WildBells$Reader" (128 : Nat) ({ cls := "WildBells$Reader", name := "item", desc := "()V" } : Jvm.MethodName)) ∈ lw_all := lw_g (lw_at lw_m5 9 rfl) rfl
theorem q1068 : (Jvm.Cond.privateMethod ({ cls := "WildBells$Reader", name := "item", desc := "()V" } : Jvm.MethodName)) ∈ lw_tbl := lw_at lw_m5 10 rfl
theorem q1069 : (Jvm.Cond.instanceMethod ({ cls := "WildBells$Reader", name := "item", desc := "()V" } : Jvm.MethodName)) ∈ lw_all := lw_g (lw_at lw_m5 11 rfl) rfl
theorem q1070 : (Jvm.Cond.code ({ cls := "WildBells$Reader", name := "item", desc := "()V" } : Jvm.MethodName) prog_7_method_17_code (1 : Nat) (Option.none : Option Jvm.ClassFile.FieldType)) ∈ lw_all := lw_g (lw_at lw_m5 12 rfl) rfl
theorem q1071 : (Jvm.Cond.methodLink "WildBells$Reader" (99 : Nat) ({ cls := "WildBells$Reader", name := "behind", desc := "(II)I" } : Jvm.MethodName)) ∈ lw_all := lw_g (lw_at lw_m5 13 rfl) rfl
theorem q1072 : (Jvm.Cond.privateMethod ({ cls := "WildBells$Reader", name := "behind", desc := "(II)I" } : Jvm.MethodName)) ∈ lw_tbl := lw_at lw_m5 14 rfl
theorem q1073 : (Jvm.Cond.instanceMethod ({ cls := "WildBells$Reader", name := "behind", desc := "(II)I" } : Jvm.MethodName)) ∈ lw_all := lw_g (lw_at lw_m5 15 rfl) rfl
theorem q1074 : (Jvm.Cond.code ({ cls := "WildBells$Reader", name := "behind", desc := "(II)I" } : Jvm.MethodName) prog_7_method_12_code (3 : Nat) (Option.some Jvm.ClassFile.FieldType.int)) ∈ lw_all := lw_g (lw_at lw_m5 16 rfl) rfl
theorem q1075 : (Jvm.Cond.methodLink "WildBells$Reader" (85 : Nat) ({ cls := "WildBells$Reader", name := "number", desc := "(II)I" } : Jvm.MethodName)) ∈ lw_all := lw_g (lw_at lw_m5 17 rfl) rfl
theorem q1076 : (Jvm.Cond.privateMethod ({ cls := "WildBells$Reader", name := "number", desc := "(II)I" } : Jvm.MethodName)) ∈ lw_tbl := lw_at lw_m5 18 rfl
theorem q1077 : (Jvm.Cond.instanceMethod ({ cls := "WildBells$Reader", name := "number", desc := "(II)I" } : Jvm.MethodName)) ∈ lw_all := lw_g (lw_at lw_m5 19 rfl) rfl
theorem q1078 : (Jvm.Cond.code ({ cls := "WildBells$Reader", name := "number", desc := "(II)I" } : Jvm.MethodName) prog_7_method_11_code (4 : Nat) (Option.some Jvm.ClassFile.FieldType.int)) ∈ lw_all := lw_g (lw_at lw_m5 20 rfl) rfl
theorem q1079 : (Jvm.Cond.methodLink "WildBells$Reader" (117 : Nat) ({ cls := "WildBells$Reader", name := "thick", desc := "()V" } : Jvm.MethodName)) ∈ lw_all := lw_g (lw_at lw_m5 21 rfl) rfl
theorem q1080 : (Jvm.Cond.privateMethod ({ cls := "WildBells$Reader", name := "thick", desc := "()V" } : Jvm.MethodName)) ∈ lw_tbl := lw_at lw_m5 22 rfl
theorem q1081 : (Jvm.Cond.instanceMethod ({ cls := "WildBells$Reader", name := "thick", desc := "()V" } : Jvm.MethodName)) ∈ lw_all := lw_g (lw_at lw_m5 23 rfl) rfl
theorem q1082 : (Jvm.Cond.code ({ cls := "WildBells$Reader", name := "thick", desc := "()V" } : Jvm.MethodName) prog_7_method_15_code (2 : Nat) (Option.none : Option Jvm.ClassFile.FieldType)) ∈ lw_all := lw_g (lw_at lw_m5 24 rfl) rfl
theorem q1083 : (Jvm.Cond.methodLink "WildBells$Reader" (120 : Nat) ({ cls := "WildBells$Reader", name := "hunter", desc := "()V" } : Jvm.MethodName)) ∈ lw_all := lw_g (lw_at lw_m5 25 rfl) rfl
theorem q1084 : (Jvm.Cond.privateMethod ({ cls := "WildBells$Reader", name := "hunter", desc := "()V" } : Jvm.MethodName)) ∈ lw_tbl := lw_at lw_m5 26 rfl
theorem q1085 : (Jvm.Cond.instanceMethod ({ cls := "WildBells$Reader", name := "hunter", desc := "()V" } : Jvm.MethodName)) ∈ lw_all := lw_g (lw_at lw_m5 27 rfl) rfl
theorem q1086 : (Jvm.Cond.code ({ cls := "WildBells$Reader", name := "hunter", desc := "()V" } : Jvm.MethodName) prog_7_method_16_code (2 : Nat) (Option.none : Option Jvm.ClassFile.FieldType)) ∈ lw_all := lw_g (lw_at lw_m5 28 rfl) rfl
theorem q1087 : (Jvm.Cond.methodLink "WildBells$Reader" (89 : Nat) ({ cls := "WildBells$Reader", name := "isWord", desc := "(I)Z" } : Jvm.MethodName)) ∈ lw_all := lw_g (lw_at lw_m5 29 rfl) rfl
theorem q1088 : (Jvm.Cond.privateMethod ({ cls := "WildBells$Reader", name := "isWord", desc := "(I)Z" } : Jvm.MethodName)) ∈ lw_tbl := lw_at lw_m5 30 rfl
theorem q1089 : (Jvm.Cond.instanceMethod ({ cls := "WildBells$Reader", name := "isWord", desc := "(I)Z" } : Jvm.MethodName)) ∈ lw_all := lw_g (lw_at lw_m5 31 rfl) rfl
theorem q1090 : (Jvm.Cond.code ({ cls := "WildBells$Reader", name := "isWord", desc := "(I)Z" } : Jvm.MethodName) prog_7_method_10_code (2 : Nat) (Option.some Jvm.ClassFile.FieldType.boolean)) ∈ lw_all := lw_g (lw_at lw_m5 32 rfl) rfl
theorem q1091 : (Jvm.Cond.methodLink "WildBells$Reader" (125 : Nat) ({ cls := "WildBells$Reader", name := "bell", desc := "(I)V" } : Jvm.MethodName)) ∈ lw_all := lw_g (lw_at lw_m5 33 rfl) rfl
theorem q1092 : (Jvm.Cond.privateMethod ({ cls := "WildBells$Reader", name := "bell", desc := "(I)V" } : Jvm.MethodName)) ∈ lw_tbl := lw_at lw_m5 34 rfl
theorem q1093 : (Jvm.Cond.instanceMethod ({ cls := "WildBells$Reader", name := "bell", desc := "(I)V" } : Jvm.MethodName)) ∈ lw_all := lw_g (lw_at lw_m5 35 rfl) rfl
theorem q1094 : (Jvm.Cond.code ({ cls := "WildBells$Reader", name := "bell", desc := "(I)V" } : Jvm.MethodName) prog_7_method_14_code (2 : Nat) (Option.none : Option Jvm.ClassFile.FieldType)) ∈ lw_all := lw_g (lw_at lw_m5 36 rfl) rfl
theorem q1095 : (Jvm.Cond.methodLink "WildBells$Reader" (102 : Nat) ({ cls := "WildBells$World", name := "add", desc := "(II)V" } : Jvm.MethodName)) ∈ lw_all := lw_g (lw_at lw_m5 37 rfl) rfl
theorem q1096 : (Jvm.Cond.methodLink "WildBells$Reader" (106 : Nat) ({ cls := "WildBells$Reader", name := "perhaps", desc := "(IIII)V" } : Jvm.MethodName)) ∈ lw_all := lw_g (lw_at lw_m5 38 rfl) rfl
theorem q1097 : (Jvm.Cond.privateMethod ({ cls := "WildBells$Reader", name := "perhaps", desc := "(IIII)V" } : Jvm.MethodName)) ∈ lw_tbl := lw_at lw_m5 39 rfl
theorem q1098 : (Jvm.Cond.instanceMethod ({ cls := "WildBells$Reader", name := "perhaps", desc := "(IIII)V" } : Jvm.MethodName)) ∈ lw_all := lw_g (lw_at lw_m5 40 rfl) rfl
theorem q1099 : (Jvm.Cond.code ({ cls := "WildBells$Reader", name := "perhaps", desc := "(IIII)V" } : Jvm.MethodName) prog_7_method_13_code (5 : Nat) (Option.none : Option Jvm.ClassFile.FieldType)) ∈ lw_all := lw_g (lw_at lw_m5 41 rfl) rfl
theorem in_X2 : ∀ w ∈ wsX20, w ∈ lw_all := lw_in wsX20 [282, 284, 286, 288, 290, 292, 294, 296] (by decide +kernel) (by decide +kernel)
/-! WildBells$World -/
set_option maxRecDepth 100000
def RX4 : String := "WildBells$World"
def TX4 : u_T := fun k => match k with
  | 0 => ("WildBells$World", "cell", "[[I", true)
  | 1 => ("WildBells$World", "hunter", "[I", true)
  | 2 => ("WildBells$World", "fear", "I", false)
  | 3 => ("WildBells$World", "bells", "I", false)
  | 4 => ("WildBells$World", "bell", "[[I", true)
  | 5 => ("WildBells$World", "hour", "I", false)
  | 6 => ("WildBells$World", "z", "I", false)
  | _ => ("WildBells$World", "holds", "[I", true)
def tyX4 : Nat → FieldType := fun k => match k with
  | 0 => .array (.array .int)
  | 1 => .array .int
  | 2 => .int
  | 3 => .int
  | 4 => .array (.array .int)
  | 5 => .int
  | 6 => .int
  | _ => .array .int
abbrev wsX40 : List Cond := u_ws RX4 TX4 8
theorem nmX4 : ∀ a, a < 8 → ∀ b, b < 8 → a ≠ b → (TX4 a).2.1 ≠ (TX4 b).2.1 := by decide +kernel
theorem tyX4_ok : ∀ k, k < 8 → parseFieldDescriptor (TX4 k).2.2.1 = some (tyX4 k) := by decide +kernel
abbrev cX4_init : ByteArray := prog_12_method_1_code
def yX4_init : MethodName := ⟨RX4, "<init>", "()V"⟩
def dkwX4_init_3 : List UInt8 := [60, 27, 16, 10, 162, 0, 16, 42, 180, 0, 30, 27, 2, 79, 132, 1, 1, 167, 255, 240, 177]
abbrev dktX4_init_3 : List UInt8 := dkwX4_init_3 ++ []
def dkwX4_init_2 : List UInt8 := [181, 0, 30, 3, 60, 27, 7, 162, 0, 16, 42, 180, 0, 16, 27, 2, 79, 132, 1, 1, 167, 255, 241, 3]
abbrev dktX4_init_2 : List UInt8 := dkwX4_init_2 ++ dktX4_init_3
def dkwX4_init_1 : List UInt8 := [181, 0, 20, 42, 8, 16, 8, 197, 0, 9, 2, 181, 0, 24, 42, 4, 181, 0, 27, 42, 16, 10, 188, 10]
abbrev dktX4_init_1 : List UInt8 := dkwX4_init_1 ++ dktX4_init_2
def dkwX4_init_0 : List UInt8 := [42, 183, 0, 3, 42, 5, 16, 64, 197, 0, 9, 2, 181, 0, 11, 42, 7, 188, 10, 181, 0, 16, 42, 6]
abbrev dktX4_init_0 : List UInt8 := dkwX4_init_0 ++ dktX4_init_1
theorem dksX4_init_0 : cX4_init.data.toList.drop 0 = dktX4_init_0 := by decide +kernel
theorem dksX4_init_1 : cX4_init.data.toList.drop 24 = dktX4_init_1 := dk_seg dksX4_init_0 24 rfl rfl
theorem dksX4_init_2 : cX4_init.data.toList.drop 48 = dktX4_init_2 := dk_seg dksX4_init_1 24 rfl rfl
theorem dksX4_init_3 : cX4_init.data.toList.drop 72 = dktX4_init_3 := dk_seg dksX4_init_2 24 rfl rfl
theorem dX4_init_0 : decode cX4_init 0 = .ok (.aload_n 0, 1) := dk_42 (dk_at dksX4_init_0 0 rfl rfl)
theorem dX4_init_1 : decode cX4_init 1 = .ok (.invokespecial 3, 3) := dk_183 0 3 (dk_at dksX4_init_0 1 rfl rfl)
theorem dX4_init_4 : decode cX4_init 4 = .ok (.aload_n 0, 1) := dk_42 (dk_at dksX4_init_0 4 rfl rfl)
theorem dX4_init_5 : decode cX4_init 5 = .ok (.iconst 2, 1) := dk_5 (dk_at dksX4_init_0 5 rfl rfl)
theorem dX4_init_6 : decode cX4_init 6 = .ok (.bipush 64, 2) := dk_16 64 (dk_at dksX4_init_0 6 rfl rfl)
theorem dX4_init_8 : decode cX4_init 8 = .ok (.multianewarray 9 2, 4) := by decide +kernel
theorem dX4_init_12 : decode cX4_init 12 = .ok (.putfield 11, 3) := dk_181 0 11 (dk_at dksX4_init_0 12 rfl rfl)
theorem dX4_init_15 : decode cX4_init 15 = .ok (.aload_n 0, 1) := dk_42 (dk_at dksX4_init_0 15 rfl rfl)
theorem dX4_init_16 : decode cX4_init 16 = .ok (.iconst 4, 1) := dk_7 (dk_at dksX4_init_0 16 rfl rfl)
theorem dX4_init_17 : decode cX4_init 17 = .ok (.newarray .int, 2) := dk_188_10 (dk_at dksX4_init_0 17 rfl rfl)
theorem dX4_init_19 : decode cX4_init 19 = .ok (.putfield 16, 3) := dk_181 0 16 (dk_at dksX4_init_0 19 rfl rfl)
theorem dX4_init_22 : decode cX4_init 22 = .ok (.aload_n 0, 1) := dk_42 (dk_at dksX4_init_0 22 rfl rfl)
theorem dX4_init_23 : decode cX4_init 23 = .ok (.iconst 3, 1) := dk_6 (dk_at dksX4_init_0 23 rfl rfl)
theorem dX4_init_24 : decode cX4_init 24 = .ok (.putfield 20, 3) := dk_181 0 20 (dk_at dksX4_init_1 0 rfl rfl)
theorem dX4_init_27 : decode cX4_init 27 = .ok (.aload_n 0, 1) := dk_42 (dk_at dksX4_init_1 3 rfl rfl)
theorem dX4_init_28 : decode cX4_init 28 = .ok (.iconst 5, 1) := dk_8 (dk_at dksX4_init_1 4 rfl rfl)
theorem dX4_init_29 : decode cX4_init 29 = .ok (.bipush 8, 2) := dk_16 8 (dk_at dksX4_init_1 5 rfl rfl)
theorem dX4_init_31 : decode cX4_init 31 = .ok (.multianewarray 9 2, 4) := by decide +kernel
theorem dX4_init_35 : decode cX4_init 35 = .ok (.putfield 24, 3) := dk_181 0 24 (dk_at dksX4_init_1 11 rfl rfl)
theorem dX4_init_38 : decode cX4_init 38 = .ok (.aload_n 0, 1) := dk_42 (dk_at dksX4_init_1 14 rfl rfl)
theorem dX4_init_39 : decode cX4_init 39 = .ok (.iconst 1, 1) := dk_4 (dk_at dksX4_init_1 15 rfl rfl)
theorem dX4_init_40 : decode cX4_init 40 = .ok (.putfield 27, 3) := dk_181 0 27 (dk_at dksX4_init_1 16 rfl rfl)
theorem dX4_init_43 : decode cX4_init 43 = .ok (.aload_n 0, 1) := dk_42 (dk_at dksX4_init_1 19 rfl rfl)
theorem dX4_init_44 : decode cX4_init 44 = .ok (.bipush 10, 2) := dk_16 10 (dk_at dksX4_init_1 20 rfl rfl)
theorem dX4_init_46 : decode cX4_init 46 = .ok (.newarray .int, 2) := dk_188_10 (dk_at dksX4_init_1 22 rfl rfl)
theorem dX4_init_48 : decode cX4_init 48 = .ok (.putfield 30, 3) := dk_181 0 30 (dk_at dksX4_init_2 0 rfl rfl)
theorem dX4_init_51 : decode cX4_init 51 = .ok (.iconst 0, 1) := dk_3 (dk_at dksX4_init_2 3 rfl rfl)
theorem dX4_init_52 : decode cX4_init 52 = .ok (.istore_n 1, 1) := dk_60 (dk_at dksX4_init_2 4 rfl rfl)
theorem dX4_init_53 : decode cX4_init 53 = .ok (.iload_n 1, 1) := dk_27 (dk_at dksX4_init_2 5 rfl rfl)
theorem dX4_init_54 : decode cX4_init 54 = .ok (.iconst 4, 1) := dk_7 (dk_at dksX4_init_2 6 rfl rfl)
theorem dX4_init_55 : decode cX4_init 55 = .ok (.if_icmp .ge 16, 3) := dk_162 0 16 (dk_at dksX4_init_2 7 rfl rfl)
theorem dX4_init_58 : decode cX4_init 58 = .ok (.aload_n 0, 1) := dk_42 (dk_at dksX4_init_2 10 rfl rfl)
theorem dX4_init_59 : decode cX4_init 59 = .ok (.getfield 16, 3) := dk_180 0 16 (dk_at dksX4_init_2 11 rfl rfl)
theorem dX4_init_62 : decode cX4_init 62 = .ok (.iload_n 1, 1) := dk_27 (dk_at dksX4_init_2 14 rfl rfl)
theorem dX4_init_63 : decode cX4_init 63 = .ok (.iconst (-1), 1) := dk_2 (dk_at dksX4_init_2 15 rfl rfl)
theorem dX4_init_64 : decode cX4_init 64 = .ok (.iastore, 1) := dk_79 (dk_at dksX4_init_2 16 rfl rfl)
theorem dX4_init_65 : decode cX4_init 65 = .ok (.iinc 1 1, 3) := dk_132 1 1 (dk_at dksX4_init_2 17 rfl rfl)
theorem dX4_init_68 : decode cX4_init 68 = .ok (.goto (-15), 3) := dk_167 255 241 (dk_at dksX4_init_2 20 rfl rfl)
theorem dX4_init_71 : decode cX4_init 71 = .ok (.iconst 0, 1) := dk_3 (dk_at dksX4_init_2 23 rfl rfl)
theorem dX4_init_72 : decode cX4_init 72 = .ok (.istore_n 1, 1) := dk_60 (dk_at dksX4_init_3 0 rfl rfl)
theorem dX4_init_73 : decode cX4_init 73 = .ok (.iload_n 1, 1) := dk_27 (dk_at dksX4_init_3 1 rfl rfl)
theorem dX4_init_74 : decode cX4_init 74 = .ok (.bipush 10, 2) := dk_16 10 (dk_at dksX4_init_3 2 rfl rfl)
theorem dX4_init_76 : decode cX4_init 76 = .ok (.if_icmp .ge 16, 3) := dk_162 0 16 (dk_at dksX4_init_3 4 rfl rfl)
theorem dX4_init_79 : decode cX4_init 79 = .ok (.aload_n 0, 1) := dk_42 (dk_at dksX4_init_3 7 rfl rfl)
theorem dX4_init_80 : decode cX4_init 80 = .ok (.getfield 30, 3) := dk_180 0 30 (dk_at dksX4_init_3 8 rfl rfl)
theorem dX4_init_83 : decode cX4_init 83 = .ok (.iload_n 1, 1) := dk_27 (dk_at dksX4_init_3 11 rfl rfl)
theorem dX4_init_84 : decode cX4_init 84 = .ok (.iconst (-1), 1) := dk_2 (dk_at dksX4_init_3 12 rfl rfl)
theorem dX4_init_85 : decode cX4_init 85 = .ok (.iastore, 1) := dk_79 (dk_at dksX4_init_3 13 rfl rfl)
theorem dX4_init_86 : decode cX4_init 86 = .ok (.iinc 1 1, 3) := dk_132 1 1 (dk_at dksX4_init_3 14 rfl rfl)
theorem dX4_init_89 : decode cX4_init 89 = .ok (.goto (-16), 3) := dk_167 255 240 (dk_at dksX4_init_3 17 rfl rfl)
theorem dX4_init_92 : decode cX4_init 92 = .ok (.return_, 1) := dk_177 (dk_at dksX4_init_3 20 rfl rfl)
abbrev cX4_heard : ByteArray := prog_12_method_11_code
def yX4_heard : MethodName := ⟨RX4, "heard", "(I)I"⟩
def dkwX4_heard_1 : List UInt8 := [28, 42, 29, 27, 182, 0, 65, 184, 0, 68, 61, 132, 3, 1, 167, 255, 222, 28, 172]
abbrev dktX4_heard_1 : List UInt8 := dkwX4_heard_1 ++ []
def dkwX4_heard_0 : List UInt8 := [3, 61, 3, 62, 29, 42, 180, 0, 47, 162, 0, 32, 42, 29, 182, 0, 54, 153, 0, 7, 28, 167, 0, 13]
abbrev dktX4_heard_0 : List UInt8 := dkwX4_heard_0 ++ dktX4_heard_1
theorem dksX4_heard_0 : cX4_heard.data.toList.drop 0 = dktX4_heard_0 := by decide +kernel
theorem dksX4_heard_1 : cX4_heard.data.toList.drop 24 = dktX4_heard_1 := dk_seg dksX4_heard_0 24 rfl rfl
theorem dX4_heard_0 : decode cX4_heard 0 = .ok (.iconst 0, 1) := dk_3 (dk_at dksX4_heard_0 0 rfl rfl)
theorem dX4_heard_1 : decode cX4_heard 1 = .ok (.istore_n 2, 1) := dk_61 (dk_at dksX4_heard_0 1 rfl rfl)
theorem dX4_heard_2 : decode cX4_heard 2 = .ok (.iconst 0, 1) := dk_3 (dk_at dksX4_heard_0 2 rfl rfl)
theorem dX4_heard_3 : decode cX4_heard 3 = .ok (.istore_n 3, 1) := dk_62 (dk_at dksX4_heard_0 3 rfl rfl)
theorem dX4_heard_4 : decode cX4_heard 4 = .ok (.iload_n 3, 1) := dk_29 (dk_at dksX4_heard_0 4 rfl rfl)
theorem dX4_heard_5 : decode cX4_heard 5 = .ok (.aload_n 0, 1) := dk_42 (dk_at dksX4_heard_0 5 rfl rfl)
theorem dX4_heard_6 : decode cX4_heard 6 = .ok (.getfield 47, 3) := dk_180 0 47 (dk_at dksX4_heard_0 6 rfl rfl)
theorem dX4_heard_9 : decode cX4_heard 9 = .ok (.if_icmp .ge 32, 3) := dk_162 0 32 (dk_at dksX4_heard_0 9 rfl rfl)
theorem dX4_heard_12 : decode cX4_heard 12 = .ok (.aload_n 0, 1) := dk_42 (dk_at dksX4_heard_0 12 rfl rfl)
theorem dX4_heard_13 : decode cX4_heard 13 = .ok (.iload_n 3, 1) := dk_29 (dk_at dksX4_heard_0 13 rfl rfl)
theorem dX4_heard_14 : decode cX4_heard 14 = .ok (.invokevirtual 54, 3) := dk_182 0 54 (dk_at dksX4_heard_0 14 rfl rfl)
theorem dX4_heard_17 : decode cX4_heard 17 = .ok (.ifCond .eq 7, 3) := dk_153 0 7 (dk_at dksX4_heard_0 17 rfl rfl)
theorem dX4_heard_20 : decode cX4_heard 20 = .ok (.iload_n 2, 1) := dk_28 (dk_at dksX4_heard_0 20 rfl rfl)
theorem dX4_heard_21 : decode cX4_heard 21 = .ok (.goto 13, 3) := dk_167 0 13 (dk_at dksX4_heard_0 21 rfl rfl)
theorem dX4_heard_24 : decode cX4_heard 24 = .ok (.iload_n 2, 1) := dk_28 (dk_at dksX4_heard_1 0 rfl rfl)
theorem dX4_heard_25 : decode cX4_heard 25 = .ok (.aload_n 0, 1) := dk_42 (dk_at dksX4_heard_1 1 rfl rfl)
theorem dX4_heard_26 : decode cX4_heard 26 = .ok (.iload_n 3, 1) := dk_29 (dk_at dksX4_heard_1 2 rfl rfl)
theorem dX4_heard_27 : decode cX4_heard 27 = .ok (.iload_n 1, 1) := dk_27 (dk_at dksX4_heard_1 3 rfl rfl)
theorem dX4_heard_28 : decode cX4_heard 28 = .ok (.invokevirtual 65, 3) := dk_182 0 65 (dk_at dksX4_heard_1 4 rfl rfl)
theorem dX4_heard_31 : decode cX4_heard 31 = .ok (.invokestatic 68, 3) := dk_184 0 68 (dk_at dksX4_heard_1 7 rfl rfl)
theorem dX4_heard_34 : decode cX4_heard 34 = .ok (.istore_n 2, 1) := dk_61 (dk_at dksX4_heard_1 10 rfl rfl)
theorem dX4_heard_35 : decode cX4_heard 35 = .ok (.iinc 3 1, 3) := dk_132 3 1 (dk_at dksX4_heard_1 11 rfl rfl)
theorem dX4_heard_38 : decode cX4_heard 38 = .ok (.goto (-34), 3) := dk_167 255 222 (dk_at dksX4_heard_1 14 rfl rfl)
theorem dX4_heard_41 : decode cX4_heard 41 = .ok (.iload_n 2, 1) := dk_28 (dk_at dksX4_heard_1 17 rfl rfl)
theorem dX4_heard_42 : decode cX4_heard 42 = .ok (.ireturn, 1) := dk_172 (dk_at dksX4_heard_1 18 rfl rfl)
abbrev cX4_isCaught : ByteArray := prog_12_method_7_code
def yX4_isCaught : MethodName := ⟨RX4, "isCaught", "(I)Z"⟩
def dkwX4_isCaught_0 : List UInt8 := [42, 180, 0, 24, 7, 50, 27, 46, 4, 160, 0, 7, 4, 167, 0, 4, 3, 172]
abbrev dktX4_isCaught_0 : List UInt8 := dkwX4_isCaught_0 ++ []
theorem dksX4_isCaught_0 : cX4_isCaught.data.toList.drop 0 = dktX4_isCaught_0 := by decide +kernel
theorem dX4_isCaught_0 : decode cX4_isCaught 0 = .ok (.aload_n 0, 1) := dk_42 (dk_at dksX4_isCaught_0 0 rfl rfl)
theorem dX4_isCaught_1 : decode cX4_isCaught 1 = .ok (.getfield 24, 3) := dk_180 0 24 (dk_at dksX4_isCaught_0 1 rfl rfl)
theorem dX4_isCaught_4 : decode cX4_isCaught 4 = .ok (.iconst 4, 1) := dk_7 (dk_at dksX4_isCaught_0 4 rfl rfl)
theorem dX4_isCaught_5 : decode cX4_isCaught 5 = .ok (.aaload, 1) := dk_50 (dk_at dksX4_isCaught_0 5 rfl rfl)
theorem dX4_isCaught_6 : decode cX4_isCaught 6 = .ok (.iload_n 1, 1) := dk_27 (dk_at dksX4_isCaught_0 6 rfl rfl)
theorem dX4_isCaught_7 : decode cX4_isCaught 7 = .ok (.iaload, 1) := dk_46 (dk_at dksX4_isCaught_0 7 rfl rfl)
theorem dX4_isCaught_8 : decode cX4_isCaught 8 = .ok (.iconst 1, 1) := dk_4 (dk_at dksX4_isCaught_0 8 rfl rfl)
theorem dX4_isCaught_9 : decode cX4_isCaught 9 = .ok (.if_icmp .ne 7, 3) := dk_160 0 7 (dk_at dksX4_isCaught_0 9 rfl rfl)
theorem dX4_isCaught_12 : decode cX4_isCaught 12 = .ok (.iconst 1, 1) := dk_4 (dk_at dksX4_isCaught_0 12 rfl rfl)
theorem dX4_isCaught_13 : decode cX4_isCaught 13 = .ok (.goto 4, 3) := dk_167 0 4 (dk_at dksX4_isCaught_0 13 rfl rfl)
theorem dX4_isCaught_16 : decode cX4_isCaught 16 = .ok (.iconst 0, 1) := dk_3 (dk_at dksX4_isCaught_0 16 rfl rfl)
theorem dX4_isCaught_17 : decode cX4_isCaught 17 = .ok (.ireturn, 1) := dk_172 (dk_at dksX4_isCaught_0 17 rfl rfl)
abbrev cX4_loud : ByteArray := prog_12_method_10_code
def yX4_loud : MethodName := ⟨RX4, "loud", "(II)I"⟩
def dkwX4_loud_0 : List UInt8 := [42, 180, 0, 24, 6, 50, 27, 46, 42, 180, 0, 24, 4, 50, 27, 46, 28, 184, 0, 58, 184, 0, 62, 172]
abbrev dktX4_loud_0 : List UInt8 := dkwX4_loud_0 ++ []
theorem dksX4_loud_0 : cX4_loud.data.toList.drop 0 = dktX4_loud_0 := by decide +kernel
theorem dX4_loud_0 : decode cX4_loud 0 = .ok (.aload_n 0, 1) := dk_42 (dk_at dksX4_loud_0 0 rfl rfl)
theorem dX4_loud_1 : decode cX4_loud 1 = .ok (.getfield 24, 3) := dk_180 0 24 (dk_at dksX4_loud_0 1 rfl rfl)
theorem dX4_loud_4 : decode cX4_loud 4 = .ok (.iconst 3, 1) := dk_6 (dk_at dksX4_loud_0 4 rfl rfl)
theorem dX4_loud_5 : decode cX4_loud 5 = .ok (.aaload, 1) := dk_50 (dk_at dksX4_loud_0 5 rfl rfl)
theorem dX4_loud_6 : decode cX4_loud 6 = .ok (.iload_n 1, 1) := dk_27 (dk_at dksX4_loud_0 6 rfl rfl)
theorem dX4_loud_7 : decode cX4_loud 7 = .ok (.iaload, 1) := dk_46 (dk_at dksX4_loud_0 7 rfl rfl)
theorem dX4_loud_8 : decode cX4_loud 8 = .ok (.aload_n 0, 1) := dk_42 (dk_at dksX4_loud_0 8 rfl rfl)
theorem dX4_loud_9 : decode cX4_loud 9 = .ok (.getfield 24, 3) := dk_180 0 24 (dk_at dksX4_loud_0 9 rfl rfl)
theorem dX4_loud_12 : decode cX4_loud 12 = .ok (.iconst 1, 1) := dk_4 (dk_at dksX4_loud_0 12 rfl rfl)
theorem dX4_loud_13 : decode cX4_loud 13 = .ok (.aaload, 1) := dk_50 (dk_at dksX4_loud_0 13 rfl rfl)
theorem dX4_loud_14 : decode cX4_loud 14 = .ok (.iload_n 1, 1) := dk_27 (dk_at dksX4_loud_0 14 rfl rfl)
theorem dX4_loud_15 : decode cX4_loud 15 = .ok (.iaload, 1) := dk_46 (dk_at dksX4_loud_0 15 rfl rfl)
theorem dX4_loud_16 : decode cX4_loud 16 = .ok (.iload_n 2, 1) := dk_28 (dk_at dksX4_loud_0 16 rfl rfl)
theorem dX4_loud_17 : decode cX4_loud 17 = .ok (.invokestatic 58, 3) := dk_184 0 58 (dk_at dksX4_loud_0 17 rfl rfl)
theorem dX4_loud_20 : decode cX4_loud 20 = .ok (.invokestatic 62, 3) := dk_184 0 62 (dk_at dksX4_loud_0 20 rfl rfl)
theorem dX4_loud_23 : decode cX4_loud 23 = .ok (.ireturn, 1) := dk_172 (dk_at dksX4_loud_0 23 rfl rfl)
abbrev cX4_manyAt : ByteArray := prog_12_method_12_code
def yX4_manyAt : MethodName := ⟨RX4, "manyAt", "(I)I"⟩
def dkwX4_manyAt_1 : List UInt8 := [160, 0, 7, 4, 167, 0, 4, 3, 96, 61, 132, 3, 1, 167, 255, 225, 28, 172]
abbrev dktX4_manyAt_1 : List UInt8 := dkwX4_manyAt_1 ++ []
def dkwX4_manyAt_0 : List UInt8 := [3, 61, 3, 62, 29, 42, 180, 0, 47, 162, 0, 29, 28, 42, 180, 0, 24, 4, 50, 29, 46, 27]
abbrev dktX4_manyAt_0 : List UInt8 := dkwX4_manyAt_0 ++ dktX4_manyAt_1
theorem dksX4_manyAt_0 : cX4_manyAt.data.toList.drop 0 = dktX4_manyAt_0 := by decide +kernel
theorem dksX4_manyAt_1 : cX4_manyAt.data.toList.drop 22 = dktX4_manyAt_1 := dk_seg dksX4_manyAt_0 22 rfl rfl
theorem dX4_manyAt_0 : decode cX4_manyAt 0 = .ok (.iconst 0, 1) := dk_3 (dk_at dksX4_manyAt_0 0 rfl rfl)
theorem dX4_manyAt_1 : decode cX4_manyAt 1 = .ok (.istore_n 2, 1) := dk_61 (dk_at dksX4_manyAt_0 1 rfl rfl)
theorem dX4_manyAt_2 : decode cX4_manyAt 2 = .ok (.iconst 0, 1) := dk_3 (dk_at dksX4_manyAt_0 2 rfl rfl)
theorem dX4_manyAt_3 : decode cX4_manyAt 3 = .ok (.istore_n 3, 1) := dk_62 (dk_at dksX4_manyAt_0 3 rfl rfl)
theorem dX4_manyAt_4 : decode cX4_manyAt 4 = .ok (.iload_n 3, 1) := dk_29 (dk_at dksX4_manyAt_0 4 rfl rfl)
theorem dX4_manyAt_5 : decode cX4_manyAt 5 = .ok (.aload_n 0, 1) := dk_42 (dk_at dksX4_manyAt_0 5 rfl rfl)
theorem dX4_manyAt_6 : decode cX4_manyAt 6 = .ok (.getfield 47, 3) := dk_180 0 47 (dk_at dksX4_manyAt_0 6 rfl rfl)
theorem dX4_manyAt_9 : decode cX4_manyAt 9 = .ok (.if_icmp .ge 29, 3) := dk_162 0 29 (dk_at dksX4_manyAt_0 9 rfl rfl)
theorem dX4_manyAt_12 : decode cX4_manyAt 12 = .ok (.iload_n 2, 1) := dk_28 (dk_at dksX4_manyAt_0 12 rfl rfl)
theorem dX4_manyAt_13 : decode cX4_manyAt 13 = .ok (.aload_n 0, 1) := dk_42 (dk_at dksX4_manyAt_0 13 rfl rfl)
theorem dX4_manyAt_14 : decode cX4_manyAt 14 = .ok (.getfield 24, 3) := dk_180 0 24 (dk_at dksX4_manyAt_0 14 rfl rfl)
theorem dX4_manyAt_17 : decode cX4_manyAt 17 = .ok (.iconst 1, 1) := dk_4 (dk_at dksX4_manyAt_0 17 rfl rfl)
theorem dX4_manyAt_18 : decode cX4_manyAt 18 = .ok (.aaload, 1) := dk_50 (dk_at dksX4_manyAt_0 18 rfl rfl)
theorem dX4_manyAt_19 : decode cX4_manyAt 19 = .ok (.iload_n 3, 1) := dk_29 (dk_at dksX4_manyAt_0 19 rfl rfl)
theorem dX4_manyAt_20 : decode cX4_manyAt 20 = .ok (.iaload, 1) := dk_46 (dk_at dksX4_manyAt_0 20 rfl rfl)
theorem dX4_manyAt_21 : decode cX4_manyAt 21 = .ok (.iload_n 1, 1) := dk_27 (dk_at dksX4_manyAt_0 21 rfl rfl)
theorem dX4_manyAt_22 : decode cX4_manyAt 22 = .ok (.if_icmp .ne 7, 3) := dk_160 0 7 (dk_at dksX4_manyAt_1 0 rfl rfl)
theorem dX4_manyAt_25 : decode cX4_manyAt 25 = .ok (.iconst 1, 1) := dk_4 (dk_at dksX4_manyAt_1 3 rfl rfl)
theorem dX4_manyAt_26 : decode cX4_manyAt 26 = .ok (.goto 4, 3) := dk_167 0 4 (dk_at dksX4_manyAt_1 4 rfl rfl)
theorem dX4_manyAt_29 : decode cX4_manyAt 29 = .ok (.iconst 0, 1) := dk_3 (dk_at dksX4_manyAt_1 7 rfl rfl)
theorem dX4_manyAt_30 : decode cX4_manyAt 30 = .ok (.iadd, 1) := dk_96 (dk_at dksX4_manyAt_1 8 rfl rfl)
theorem dX4_manyAt_31 : decode cX4_manyAt 31 = .ok (.istore_n 2, 1) := dk_61 (dk_at dksX4_manyAt_1 9 rfl rfl)
theorem dX4_manyAt_32 : decode cX4_manyAt 32 = .ok (.iinc 3 1, 3) := dk_132 3 1 (dk_at dksX4_manyAt_1 10 rfl rfl)
theorem dX4_manyAt_35 : decode cX4_manyAt 35 = .ok (.goto (-31), 3) := dk_167 255 225 (dk_at dksX4_manyAt_1 13 rfl rfl)
theorem dX4_manyAt_38 : decode cX4_manyAt 38 = .ok (.iload_n 2, 1) := dk_28 (dk_at dksX4_manyAt_1 16 rfl rfl)
theorem dX4_manyAt_39 : decode cX4_manyAt 39 = .ok (.ireturn, 1) := dk_172 (dk_at dksX4_manyAt_1 17 rfl rfl)
abbrev cX4_add : ByteArray := prog_12_method_6_code
def yX4_add : MethodName := ⟨RX4, "add", "(II)V"⟩
def dkwX4_add_2 : List UInt8 := [79, 42, 180, 0, 24, 7, 50, 42, 180, 0, 47, 3, 79, 42, 89, 180, 0, 47, 4, 96, 181, 0, 47, 177]
abbrev dktX4_add_2 : List UInt8 := dkwX4_add_2 ++ []
def dkwX4_add_1 : List UInt8 := [42, 180, 0, 24, 5, 50, 42, 180, 0, 47, 3, 79, 42, 180, 0, 24, 6, 50, 42, 180, 0, 47, 16, 10]
abbrev dktX4_add_1 : List UInt8 := dkwX4_add_1 ++ dktX4_add_2
def dkwX4_add_0 : List UInt8 := [42, 180, 0, 24, 3, 50, 42, 180, 0, 47, 27, 79, 42, 180, 0, 24, 4, 50, 42, 180, 0, 47, 28, 79]
abbrev dktX4_add_0 : List UInt8 := dkwX4_add_0 ++ dktX4_add_1
theorem dksX4_add_0 : cX4_add.data.toList.drop 0 = dktX4_add_0 := by decide +kernel
theorem dksX4_add_1 : cX4_add.data.toList.drop 24 = dktX4_add_1 := dk_seg dksX4_add_0 24 rfl rfl
theorem dksX4_add_2 : cX4_add.data.toList.drop 48 = dktX4_add_2 := dk_seg dksX4_add_1 24 rfl rfl
theorem dX4_add_0 : decode cX4_add 0 = .ok (.aload_n 0, 1) := dk_42 (dk_at dksX4_add_0 0 rfl rfl)
theorem dX4_add_1 : decode cX4_add 1 = .ok (.getfield 24, 3) := dk_180 0 24 (dk_at dksX4_add_0 1 rfl rfl)
theorem dX4_add_4 : decode cX4_add 4 = .ok (.iconst 0, 1) := dk_3 (dk_at dksX4_add_0 4 rfl rfl)
theorem dX4_add_5 : decode cX4_add 5 = .ok (.aaload, 1) := dk_50 (dk_at dksX4_add_0 5 rfl rfl)
theorem dX4_add_6 : decode cX4_add 6 = .ok (.aload_n 0, 1) := dk_42 (dk_at dksX4_add_0 6 rfl rfl)
theorem dX4_add_7 : decode cX4_add 7 = .ok (.getfield 47, 3) := dk_180 0 47 (dk_at dksX4_add_0 7 rfl rfl)
theorem dX4_add_10 : decode cX4_add 10 = .ok (.iload_n 1, 1) := dk_27 (dk_at dksX4_add_0 10 rfl rfl)
theorem dX4_add_11 : decode cX4_add 11 = .ok (.iastore, 1) := dk_79 (dk_at dksX4_add_0 11 rfl rfl)
theorem dX4_add_12 : decode cX4_add 12 = .ok (.aload_n 0, 1) := dk_42 (dk_at dksX4_add_0 12 rfl rfl)
theorem dX4_add_13 : decode cX4_add 13 = .ok (.getfield 24, 3) := dk_180 0 24 (dk_at dksX4_add_0 13 rfl rfl)
theorem dX4_add_16 : decode cX4_add 16 = .ok (.iconst 1, 1) := dk_4 (dk_at dksX4_add_0 16 rfl rfl)
theorem dX4_add_17 : decode cX4_add 17 = .ok (.aaload, 1) := dk_50 (dk_at dksX4_add_0 17 rfl rfl)
theorem dX4_add_18 : decode cX4_add 18 = .ok (.aload_n 0, 1) := dk_42 (dk_at dksX4_add_0 18 rfl rfl)
theorem dX4_add_19 : decode cX4_add 19 = .ok (.getfield 47, 3) := dk_180 0 47 (dk_at dksX4_add_0 19 rfl rfl)
theorem dX4_add_22 : decode cX4_add 22 = .ok (.iload_n 2, 1) := dk_28 (dk_at dksX4_add_0 22 rfl rfl)
theorem dX4_add_23 : decode cX4_add 23 = .ok (.iastore, 1) := dk_79 (dk_at dksX4_add_0 23 rfl rfl)
theorem dX4_add_24 : decode cX4_add 24 = .ok (.aload_n 0, 1) := dk_42 (dk_at dksX4_add_1 0 rfl rfl)
theorem dX4_add_25 : decode cX4_add 25 = .ok (.getfield 24, 3) := dk_180 0 24 (dk_at dksX4_add_1 1 rfl rfl)
theorem dX4_add_28 : decode cX4_add 28 = .ok (.iconst 2, 1) := dk_5 (dk_at dksX4_add_1 4 rfl rfl)
theorem dX4_add_29 : decode cX4_add 29 = .ok (.aaload, 1) := dk_50 (dk_at dksX4_add_1 5 rfl rfl)
theorem dX4_add_30 : decode cX4_add 30 = .ok (.aload_n 0, 1) := dk_42 (dk_at dksX4_add_1 6 rfl rfl)
theorem dX4_add_31 : decode cX4_add 31 = .ok (.getfield 47, 3) := dk_180 0 47 (dk_at dksX4_add_1 7 rfl rfl)
theorem dX4_add_34 : decode cX4_add 34 = .ok (.iconst 0, 1) := dk_3 (dk_at dksX4_add_1 10 rfl rfl)
theorem dX4_add_35 : decode cX4_add 35 = .ok (.iastore, 1) := dk_79 (dk_at dksX4_add_1 11 rfl rfl)
theorem dX4_add_36 : decode cX4_add 36 = .ok (.aload_n 0, 1) := dk_42 (dk_at dksX4_add_1 12 rfl rfl)
theorem dX4_add_37 : decode cX4_add 37 = .ok (.getfield 24, 3) := dk_180 0 24 (dk_at dksX4_add_1 13 rfl rfl)
theorem dX4_add_40 : decode cX4_add 40 = .ok (.iconst 3, 1) := dk_6 (dk_at dksX4_add_1 16 rfl rfl)
theorem dX4_add_41 : decode cX4_add 41 = .ok (.aaload, 1) := dk_50 (dk_at dksX4_add_1 17 rfl rfl)
theorem dX4_add_42 : decode cX4_add 42 = .ok (.aload_n 0, 1) := dk_42 (dk_at dksX4_add_1 18 rfl rfl)
theorem dX4_add_43 : decode cX4_add 43 = .ok (.getfield 47, 3) := dk_180 0 47 (dk_at dksX4_add_1 19 rfl rfl)
theorem dX4_add_46 : decode cX4_add 46 = .ok (.bipush 10, 2) := dk_16 10 (dk_at dksX4_add_1 22 rfl rfl)
theorem dX4_add_48 : decode cX4_add 48 = .ok (.iastore, 1) := dk_79 (dk_at dksX4_add_2 0 rfl rfl)
theorem dX4_add_49 : decode cX4_add 49 = .ok (.aload_n 0, 1) := dk_42 (dk_at dksX4_add_2 1 rfl rfl)
theorem dX4_add_50 : decode cX4_add 50 = .ok (.getfield 24, 3) := dk_180 0 24 (dk_at dksX4_add_2 2 rfl rfl)
theorem dX4_add_53 : decode cX4_add 53 = .ok (.iconst 4, 1) := dk_7 (dk_at dksX4_add_2 5 rfl rfl)
theorem dX4_add_54 : decode cX4_add 54 = .ok (.aaload, 1) := dk_50 (dk_at dksX4_add_2 6 rfl rfl)
theorem dX4_add_55 : decode cX4_add 55 = .ok (.aload_n 0, 1) := dk_42 (dk_at dksX4_add_2 7 rfl rfl)
theorem dX4_add_56 : decode cX4_add 56 = .ok (.getfield 47, 3) := dk_180 0 47 (dk_at dksX4_add_2 8 rfl rfl)
theorem dX4_add_59 : decode cX4_add 59 = .ok (.iconst 0, 1) := dk_3 (dk_at dksX4_add_2 11 rfl rfl)
theorem dX4_add_60 : decode cX4_add 60 = .ok (.iastore, 1) := dk_79 (dk_at dksX4_add_2 12 rfl rfl)
theorem dX4_add_61 : decode cX4_add 61 = .ok (.aload_n 0, 1) := dk_42 (dk_at dksX4_add_2 13 rfl rfl)
theorem dX4_add_62 : decode cX4_add 62 = .ok (.dup, 1) := dk_89 (dk_at dksX4_add_2 14 rfl rfl)
theorem dX4_add_63 : decode cX4_add 63 = .ok (.getfield 47, 3) := dk_180 0 47 (dk_at dksX4_add_2 15 rfl rfl)
theorem dX4_add_66 : decode cX4_add 66 = .ok (.iconst 1, 1) := dk_4 (dk_at dksX4_add_2 18 rfl rfl)
theorem dX4_add_67 : decode cX4_add 67 = .ok (.iadd, 1) := dk_96 (dk_at dksX4_add_2 19 rfl rfl)
theorem dX4_add_68 : decode cX4_add 68 = .ok (.putfield 47, 3) := dk_181 0 47 (dk_at dksX4_add_2 20 rfl rfl)
theorem dX4_add_71 : decode cX4_add 71 = .ok (.return_, 1) := dk_177 (dk_at dksX4_add_2 23 rfl rfl)
abbrev cX4_fearAt : ByteArray := prog_12_method_14_code
def yX4_fearAt : MethodName := ⟨RX4, "fearAt", "(I)I"⟩
def dkwX4_fearAt_2 : List UInt8 := [184, 0, 73, 61, 132, 5, 1, 167, 255, 219, 28, 172]
abbrev dktX4_fearAt_2 : List UInt8 := dkwX4_fearAt_2 ++ []
def dkwX4_fearAt_1 : List UInt8 := [45, 21, 5, 46, 54, 6, 21, 6, 2, 160, 0, 7, 28, 167, 0, 13, 28, 21, 6, 27, 184, 0, 58]
abbrev dktX4_fearAt_1 : List UInt8 := dkwX4_fearAt_1 ++ dktX4_fearAt_2
def dkwX4_fearAt_0 : List UInt8 := [42, 180, 0, 20, 61, 42, 180, 0, 16, 78, 45, 190, 54, 4, 3, 54, 5, 21, 5, 21, 4, 162, 0, 36]
abbrev dktX4_fearAt_0 : List UInt8 := dkwX4_fearAt_0 ++ dktX4_fearAt_1
theorem dksX4_fearAt_0 : cX4_fearAt.data.toList.drop 0 = dktX4_fearAt_0 := by decide +kernel
theorem dksX4_fearAt_1 : cX4_fearAt.data.toList.drop 24 = dktX4_fearAt_1 := dk_seg dksX4_fearAt_0 24 rfl rfl
theorem dksX4_fearAt_2 : cX4_fearAt.data.toList.drop 47 = dktX4_fearAt_2 := dk_seg dksX4_fearAt_1 23 rfl rfl
theorem dX4_fearAt_0 : decode cX4_fearAt 0 = .ok (.aload_n 0, 1) := dk_42 (dk_at dksX4_fearAt_0 0 rfl rfl)
theorem dX4_fearAt_1 : decode cX4_fearAt 1 = .ok (.getfield 20, 3) := dk_180 0 20 (dk_at dksX4_fearAt_0 1 rfl rfl)
theorem dX4_fearAt_4 : decode cX4_fearAt 4 = .ok (.istore_n 2, 1) := dk_61 (dk_at dksX4_fearAt_0 4 rfl rfl)
theorem dX4_fearAt_5 : decode cX4_fearAt 5 = .ok (.aload_n 0, 1) := dk_42 (dk_at dksX4_fearAt_0 5 rfl rfl)
theorem dX4_fearAt_6 : decode cX4_fearAt 6 = .ok (.getfield 16, 3) := dk_180 0 16 (dk_at dksX4_fearAt_0 6 rfl rfl)
theorem dX4_fearAt_9 : decode cX4_fearAt 9 = .ok (.astore_n 3, 1) := dk_78 (dk_at dksX4_fearAt_0 9 rfl rfl)
theorem dX4_fearAt_10 : decode cX4_fearAt 10 = .ok (.aload_n 3, 1) := dk_45 (dk_at dksX4_fearAt_0 10 rfl rfl)
theorem dX4_fearAt_11 : decode cX4_fearAt 11 = .ok (.arraylength, 1) := dk_190 (dk_at dksX4_fearAt_0 11 rfl rfl)
theorem dX4_fearAt_12 : decode cX4_fearAt 12 = .ok (.istore 4, 2) := dk_54 4 (dk_at dksX4_fearAt_0 12 rfl rfl)
theorem dX4_fearAt_14 : decode cX4_fearAt 14 = .ok (.iconst 0, 1) := dk_3 (dk_at dksX4_fearAt_0 14 rfl rfl)
theorem dX4_fearAt_15 : decode cX4_fearAt 15 = .ok (.istore 5, 2) := dk_54 5 (dk_at dksX4_fearAt_0 15 rfl rfl)
theorem dX4_fearAt_17 : decode cX4_fearAt 17 = .ok (.iload 5, 2) := dk_21 5 (dk_at dksX4_fearAt_0 17 rfl rfl)
theorem dX4_fearAt_19 : decode cX4_fearAt 19 = .ok (.iload 4, 2) := dk_21 4 (dk_at dksX4_fearAt_0 19 rfl rfl)
theorem dX4_fearAt_21 : decode cX4_fearAt 21 = .ok (.if_icmp .ge 36, 3) := dk_162 0 36 (dk_at dksX4_fearAt_0 21 rfl rfl)
theorem dX4_fearAt_24 : decode cX4_fearAt 24 = .ok (.aload_n 3, 1) := dk_45 (dk_at dksX4_fearAt_1 0 rfl rfl)
theorem dX4_fearAt_25 : decode cX4_fearAt 25 = .ok (.iload 5, 2) := dk_21 5 (dk_at dksX4_fearAt_1 1 rfl rfl)
theorem dX4_fearAt_27 : decode cX4_fearAt 27 = .ok (.iaload, 1) := dk_46 (dk_at dksX4_fearAt_1 3 rfl rfl)
theorem dX4_fearAt_28 : decode cX4_fearAt 28 = .ok (.istore 6, 2) := dk_54 6 (dk_at dksX4_fearAt_1 4 rfl rfl)
theorem dX4_fearAt_30 : decode cX4_fearAt 30 = .ok (.iload 6, 2) := dk_21 6 (dk_at dksX4_fearAt_1 6 rfl rfl)
theorem dX4_fearAt_32 : decode cX4_fearAt 32 = .ok (.iconst (-1), 1) := dk_2 (dk_at dksX4_fearAt_1 8 rfl rfl)
theorem dX4_fearAt_33 : decode cX4_fearAt 33 = .ok (.if_icmp .ne 7, 3) := dk_160 0 7 (dk_at dksX4_fearAt_1 9 rfl rfl)
theorem dX4_fearAt_36 : decode cX4_fearAt 36 = .ok (.iload_n 2, 1) := dk_28 (dk_at dksX4_fearAt_1 12 rfl rfl)
theorem dX4_fearAt_37 : decode cX4_fearAt 37 = .ok (.goto 13, 3) := dk_167 0 13 (dk_at dksX4_fearAt_1 13 rfl rfl)
theorem dX4_fearAt_40 : decode cX4_fearAt 40 = .ok (.iload_n 2, 1) := dk_28 (dk_at dksX4_fearAt_1 16 rfl rfl)
theorem dX4_fearAt_41 : decode cX4_fearAt 41 = .ok (.iload 6, 2) := dk_21 6 (dk_at dksX4_fearAt_1 17 rfl rfl)
theorem dX4_fearAt_43 : decode cX4_fearAt 43 = .ok (.iload_n 1, 1) := dk_27 (dk_at dksX4_fearAt_1 19 rfl rfl)
theorem dX4_fearAt_44 : decode cX4_fearAt 44 = .ok (.invokestatic 58, 3) := dk_184 0 58 (dk_at dksX4_fearAt_1 20 rfl rfl)
theorem dX4_fearAt_47 : decode cX4_fearAt 47 = .ok (.invokestatic 73, 3) := dk_184 0 73 (dk_at dksX4_fearAt_2 0 rfl rfl)
theorem dX4_fearAt_50 : decode cX4_fearAt 50 = .ok (.istore_n 2, 1) := dk_61 (dk_at dksX4_fearAt_2 3 rfl rfl)
theorem dX4_fearAt_51 : decode cX4_fearAt 51 = .ok (.iinc 5 1, 3) := dk_132 5 1 (dk_at dksX4_fearAt_2 4 rfl rfl)
theorem dX4_fearAt_54 : decode cX4_fearAt 54 = .ok (.goto (-37), 3) := dk_167 255 219 (dk_at dksX4_fearAt_2 7 rfl rfl)
theorem dX4_fearAt_57 : decode cX4_fearAt 57 = .ok (.iload_n 2, 1) := dk_28 (dk_at dksX4_fearAt_2 10 rfl rfl)
theorem dX4_fearAt_58 : decode cX4_fearAt 58 = .ok (.ireturn, 1) := dk_172 (dk_at dksX4_fearAt_2 11 rfl rfl)
abbrev cX4_isLate : ByteArray := prog_12_method_15_code
def yX4_isLate : MethodName := ⟨RX4, "isLate", "(I)Z"⟩
def dkwX4_isLate_0 : List UInt8 := [42, 180, 0, 50, 27, 96, 18, 76, 164, 0, 7, 4, 167, 0, 4, 3, 172]
abbrev dktX4_isLate_0 : List UInt8 := dkwX4_isLate_0 ++ []
theorem dksX4_isLate_0 : cX4_isLate.data.toList.drop 0 = dktX4_isLate_0 := by decide +kernel
theorem dX4_isLate_0 : decode cX4_isLate 0 = .ok (.aload_n 0, 1) := dk_42 (dk_at dksX4_isLate_0 0 rfl rfl)
theorem dX4_isLate_1 : decode cX4_isLate 1 = .ok (.getfield 50, 3) := dk_180 0 50 (dk_at dksX4_isLate_0 1 rfl rfl)
theorem dX4_isLate_4 : decode cX4_isLate 4 = .ok (.iload_n 1, 1) := dk_27 (dk_at dksX4_isLate_0 4 rfl rfl)
theorem dX4_isLate_5 : decode cX4_isLate 5 = .ok (.iadd, 1) := dk_96 (dk_at dksX4_isLate_0 5 rfl rfl)
theorem dX4_isLate_6 : decode cX4_isLate 6 = .ok (.ldc 76, 2) := dk_18 76 (dk_at dksX4_isLate_0 6 rfl rfl)
theorem dX4_isLate_8 : decode cX4_isLate 8 = .ok (.if_icmp .le 7, 3) := dk_164 0 7 (dk_at dksX4_isLate_0 8 rfl rfl)
theorem dX4_isLate_11 : decode cX4_isLate 11 = .ok (.iconst 1, 1) := dk_4 (dk_at dksX4_isLate_0 11 rfl rfl)
theorem dX4_isLate_12 : decode cX4_isLate 12 = .ok (.goto 4, 3) := dk_167 0 4 (dk_at dksX4_isLate_0 12 rfl rfl)
theorem dX4_isLate_15 : decode cX4_isLate 15 = .ok (.iconst 0, 1) := dk_3 (dk_at dksX4_isLate_0 15 rfl rfl)
theorem dX4_isLate_16 : decode cX4_isLate 16 = .ok (.ireturn, 1) := dk_172 (dk_at dksX4_isLate_0 16 rfl rfl)
abbrev cX4_whoIsCaught : ByteArray := prog_12_method_8_code
def yX4_whoIsCaught : MethodName := ⟨RX4, "whoIsCaught", "()I"⟩
def dkwX4_whoIsCaught_1 : List UInt8 := [167, 0, 4, 3, 128, 60, 132, 2, 1, 167, 255, 227, 27, 172]
abbrev dktX4_whoIsCaught_1 : List UInt8 := dkwX4_whoIsCaught_1 ++ []
def dkwX4_whoIsCaught_0 : List UInt8 := [3, 60, 3, 61, 28, 42, 180, 0, 47, 162, 0, 27, 27, 42, 28, 182, 0, 54, 153, 0, 9, 4, 28, 120]
abbrev dktX4_whoIsCaught_0 : List UInt8 := dkwX4_whoIsCaught_0 ++ dktX4_whoIsCaught_1
theorem dksX4_whoIsCaught_0 : cX4_whoIsCaught.data.toList.drop 0 = dktX4_whoIsCaught_0 := by decide +kernel
theorem dksX4_whoIsCaught_1 : cX4_whoIsCaught.data.toList.drop 24 = dktX4_whoIsCaught_1 := dk_seg dksX4_whoIsCaught_0 24 rfl rfl
theorem dX4_whoIsCaught_0 : decode cX4_whoIsCaught 0 = .ok (.iconst 0, 1) := dk_3 (dk_at dksX4_whoIsCaught_0 0 rfl rfl)
theorem dX4_whoIsCaught_1 : decode cX4_whoIsCaught 1 = .ok (.istore_n 1, 1) := dk_60 (dk_at dksX4_whoIsCaught_0 1 rfl rfl)
theorem dX4_whoIsCaught_2 : decode cX4_whoIsCaught 2 = .ok (.iconst 0, 1) := dk_3 (dk_at dksX4_whoIsCaught_0 2 rfl rfl)
theorem dX4_whoIsCaught_3 : decode cX4_whoIsCaught 3 = .ok (.istore_n 2, 1) := dk_61 (dk_at dksX4_whoIsCaught_0 3 rfl rfl)
theorem dX4_whoIsCaught_4 : decode cX4_whoIsCaught 4 = .ok (.iload_n 2, 1) := dk_28 (dk_at dksX4_whoIsCaught_0 4 rfl rfl)
theorem dX4_whoIsCaught_5 : decode cX4_whoIsCaught 5 = .ok (.aload_n 0, 1) := dk_42 (dk_at dksX4_whoIsCaught_0 5 rfl rfl)
theorem dX4_whoIsCaught_6 : decode cX4_whoIsCaught 6 = .ok (.getfield 47, 3) := dk_180 0 47 (dk_at dksX4_whoIsCaught_0 6 rfl rfl)
theorem dX4_whoIsCaught_9 : decode cX4_whoIsCaught 9 = .ok (.if_icmp .ge 27, 3) := dk_162 0 27 (dk_at dksX4_whoIsCaught_0 9 rfl rfl)
theorem dX4_whoIsCaught_12 : decode cX4_whoIsCaught 12 = .ok (.iload_n 1, 1) := dk_27 (dk_at dksX4_whoIsCaught_0 12 rfl rfl)
theorem dX4_whoIsCaught_13 : decode cX4_whoIsCaught 13 = .ok (.aload_n 0, 1) := dk_42 (dk_at dksX4_whoIsCaught_0 13 rfl rfl)
theorem dX4_whoIsCaught_14 : decode cX4_whoIsCaught 14 = .ok (.iload_n 2, 1) := dk_28 (dk_at dksX4_whoIsCaught_0 14 rfl rfl)
theorem dX4_whoIsCaught_15 : decode cX4_whoIsCaught 15 = .ok (.invokevirtual 54, 3) := dk_182 0 54 (dk_at dksX4_whoIsCaught_0 15 rfl rfl)
theorem dX4_whoIsCaught_18 : decode cX4_whoIsCaught 18 = .ok (.ifCond .eq 9, 3) := dk_153 0 9 (dk_at dksX4_whoIsCaught_0 18 rfl rfl)
theorem dX4_whoIsCaught_21 : decode cX4_whoIsCaught 21 = .ok (.iconst 1, 1) := dk_4 (dk_at dksX4_whoIsCaught_0 21 rfl rfl)
theorem dX4_whoIsCaught_22 : decode cX4_whoIsCaught 22 = .ok (.iload_n 2, 1) := dk_28 (dk_at dksX4_whoIsCaught_0 22 rfl rfl)
theorem dX4_whoIsCaught_23 : decode cX4_whoIsCaught 23 = .ok (.ishl, 1) := dk_120 (dk_at dksX4_whoIsCaught_0 23 rfl rfl)
theorem dX4_whoIsCaught_24 : decode cX4_whoIsCaught 24 = .ok (.goto 4, 3) := dk_167 0 4 (dk_at dksX4_whoIsCaught_1 0 rfl rfl)
theorem dX4_whoIsCaught_27 : decode cX4_whoIsCaught 27 = .ok (.iconst 0, 1) := dk_3 (dk_at dksX4_whoIsCaught_1 3 rfl rfl)
theorem dX4_whoIsCaught_28 : decode cX4_whoIsCaught 28 = .ok (.ior, 1) := dk_128 (dk_at dksX4_whoIsCaught_1 4 rfl rfl)
theorem dX4_whoIsCaught_29 : decode cX4_whoIsCaught 29 = .ok (.istore_n 1, 1) := dk_60 (dk_at dksX4_whoIsCaught_1 5 rfl rfl)
theorem dX4_whoIsCaught_30 : decode cX4_whoIsCaught 30 = .ok (.iinc 2 1, 3) := dk_132 2 1 (dk_at dksX4_whoIsCaught_1 6 rfl rfl)
theorem dX4_whoIsCaught_33 : decode cX4_whoIsCaught 33 = .ok (.goto (-29), 3) := dk_167 255 227 (dk_at dksX4_whoIsCaught_1 9 rfl rfl)
theorem dX4_whoIsCaught_36 : decode cX4_whoIsCaught 36 = .ok (.iload_n 1, 1) := dk_27 (dk_at dksX4_whoIsCaught_1 12 rfl rfl)
theorem dX4_whoIsCaught_37 : decode cX4_whoIsCaught 37 = .ok (.ireturn, 1) := dk_172 (dk_at dksX4_whoIsCaught_1 13 rfl rfl)
abbrev cX4_nets : ByteArray := prog_12_method_13_code
def yX4_nets : MethodName := ⟨RX4, "nets", "()I"⟩
def dkwX4_nets_1 : List UInt8 := [46, 54, 5, 27, 21, 5, 96, 60, 132, 4, 1, 167, 255, 236, 27, 172]
abbrev dktX4_nets_1 : List UInt8 := dkwX4_nets_1 ++ []
def dkwX4_nets_0 : List UInt8 := [3, 60, 42, 180, 0, 11, 3, 50, 77, 44, 190, 62, 3, 54, 4, 21, 4, 29, 162, 0, 20, 44, 21, 4]
abbrev dktX4_nets_0 : List UInt8 := dkwX4_nets_0 ++ dktX4_nets_1
theorem dksX4_nets_0 : cX4_nets.data.toList.drop 0 = dktX4_nets_0 := by decide +kernel
theorem dksX4_nets_1 : cX4_nets.data.toList.drop 24 = dktX4_nets_1 := dk_seg dksX4_nets_0 24 rfl rfl
theorem dX4_nets_0 : decode cX4_nets 0 = .ok (.iconst 0, 1) := dk_3 (dk_at dksX4_nets_0 0 rfl rfl)
theorem dX4_nets_1 : decode cX4_nets 1 = .ok (.istore_n 1, 1) := dk_60 (dk_at dksX4_nets_0 1 rfl rfl)
theorem dX4_nets_2 : decode cX4_nets 2 = .ok (.aload_n 0, 1) := dk_42 (dk_at dksX4_nets_0 2 rfl rfl)
theorem dX4_nets_3 : decode cX4_nets 3 = .ok (.getfield 11, 3) := dk_180 0 11 (dk_at dksX4_nets_0 3 rfl rfl)
theorem dX4_nets_6 : decode cX4_nets 6 = .ok (.iconst 0, 1) := dk_3 (dk_at dksX4_nets_0 6 rfl rfl)
theorem dX4_nets_7 : decode cX4_nets 7 = .ok (.aaload, 1) := dk_50 (dk_at dksX4_nets_0 7 rfl rfl)
theorem dX4_nets_8 : decode cX4_nets 8 = .ok (.astore_n 2, 1) := dk_77 (dk_at dksX4_nets_0 8 rfl rfl)
theorem dX4_nets_9 : decode cX4_nets 9 = .ok (.aload_n 2, 1) := dk_44 (dk_at dksX4_nets_0 9 rfl rfl)
theorem dX4_nets_10 : decode cX4_nets 10 = .ok (.arraylength, 1) := dk_190 (dk_at dksX4_nets_0 10 rfl rfl)
theorem dX4_nets_11 : decode cX4_nets 11 = .ok (.istore_n 3, 1) := dk_62 (dk_at dksX4_nets_0 11 rfl rfl)
theorem dX4_nets_12 : decode cX4_nets 12 = .ok (.iconst 0, 1) := dk_3 (dk_at dksX4_nets_0 12 rfl rfl)
theorem dX4_nets_13 : decode cX4_nets 13 = .ok (.istore 4, 2) := dk_54 4 (dk_at dksX4_nets_0 13 rfl rfl)
theorem dX4_nets_15 : decode cX4_nets 15 = .ok (.iload 4, 2) := dk_21 4 (dk_at dksX4_nets_0 15 rfl rfl)
theorem dX4_nets_17 : decode cX4_nets 17 = .ok (.iload_n 3, 1) := dk_29 (dk_at dksX4_nets_0 17 rfl rfl)
theorem dX4_nets_18 : decode cX4_nets 18 = .ok (.if_icmp .ge 20, 3) := dk_162 0 20 (dk_at dksX4_nets_0 18 rfl rfl)
theorem dX4_nets_21 : decode cX4_nets 21 = .ok (.aload_n 2, 1) := dk_44 (dk_at dksX4_nets_0 21 rfl rfl)
theorem dX4_nets_22 : decode cX4_nets 22 = .ok (.iload 4, 2) := dk_21 4 (dk_at dksX4_nets_0 22 rfl rfl)
theorem dX4_nets_24 : decode cX4_nets 24 = .ok (.iaload, 1) := dk_46 (dk_at dksX4_nets_1 0 rfl rfl)
theorem dX4_nets_25 : decode cX4_nets 25 = .ok (.istore 5, 2) := dk_54 5 (dk_at dksX4_nets_1 1 rfl rfl)
theorem dX4_nets_27 : decode cX4_nets 27 = .ok (.iload_n 1, 1) := dk_27 (dk_at dksX4_nets_1 3 rfl rfl)
theorem dX4_nets_28 : decode cX4_nets 28 = .ok (.iload 5, 2) := dk_21 5 (dk_at dksX4_nets_1 4 rfl rfl)
theorem dX4_nets_30 : decode cX4_nets 30 = .ok (.iadd, 1) := dk_96 (dk_at dksX4_nets_1 6 rfl rfl)
theorem dX4_nets_31 : decode cX4_nets 31 = .ok (.istore_n 1, 1) := dk_60 (dk_at dksX4_nets_1 7 rfl rfl)
theorem dX4_nets_32 : decode cX4_nets 32 = .ok (.iinc 4 1, 3) := dk_132 4 1 (dk_at dksX4_nets_1 8 rfl rfl)
theorem dX4_nets_35 : decode cX4_nets 35 = .ok (.goto (-20), 3) := dk_167 255 236 (dk_at dksX4_nets_1 11 rfl rfl)
theorem dX4_nets_38 : decode cX4_nets 38 = .ok (.iload_n 1, 1) := dk_27 (dk_at dksX4_nets_1 14 rfl rfl)
theorem dX4_nets_39 : decode cX4_nets 39 = .ok (.ireturn, 1) := dk_172 (dk_at dksX4_nets_1 15 rfl rfl)
abbrev cX4_weights : ByteArray := prog_12_method_9_code
def yX4_weights : MethodName := ⟨RX4, "weights", "(Z)I"⟩
def dkwX4_weights_2 : List UInt8 := [172]
abbrev dktX4_weights_2 : List UInt8 := dkwX4_weights_2 ++ []
def dkwX4_weights_1 : List UInt8 := [153, 0, 14, 42, 180, 0, 24, 6, 50, 29, 46, 167, 0, 4, 3, 96, 61, 132, 3, 1, 167, 255, 218, 28]
abbrev dktX4_weights_1 : List UInt8 := dkwX4_weights_1 ++ dktX4_weights_2
def dkwX4_weights_0 : List UInt8 := [3, 61, 3, 62, 29, 42, 180, 0, 47, 162, 0, 36, 28, 27, 154, 0, 11, 42, 29, 182, 0, 54]
abbrev dktX4_weights_0 : List UInt8 := dkwX4_weights_0 ++ dktX4_weights_1
theorem dksX4_weights_0 : cX4_weights.data.toList.drop 0 = dktX4_weights_0 := by decide +kernel
theorem dksX4_weights_1 : cX4_weights.data.toList.drop 22 = dktX4_weights_1 := dk_seg dksX4_weights_0 22 rfl rfl
theorem dksX4_weights_2 : cX4_weights.data.toList.drop 46 = dktX4_weights_2 := dk_seg dksX4_weights_1 24 rfl rfl
theorem dX4_weights_0 : decode cX4_weights 0 = .ok (.iconst 0, 1) := dk_3 (dk_at dksX4_weights_0 0 rfl rfl)
theorem dX4_weights_1 : decode cX4_weights 1 = .ok (.istore_n 2, 1) := dk_61 (dk_at dksX4_weights_0 1 rfl rfl)
theorem dX4_weights_2 : decode cX4_weights 2 = .ok (.iconst 0, 1) := dk_3 (dk_at dksX4_weights_0 2 rfl rfl)
theorem dX4_weights_3 : decode cX4_weights 3 = .ok (.istore_n 3, 1) := dk_62 (dk_at dksX4_weights_0 3 rfl rfl)
theorem dX4_weights_4 : decode cX4_weights 4 = .ok (.iload_n 3, 1) := dk_29 (dk_at dksX4_weights_0 4 rfl rfl)
theorem dX4_weights_5 : decode cX4_weights 5 = .ok (.aload_n 0, 1) := dk_42 (dk_at dksX4_weights_0 5 rfl rfl)
theorem dX4_weights_6 : decode cX4_weights 6 = .ok (.getfield 47, 3) := dk_180 0 47 (dk_at dksX4_weights_0 6 rfl rfl)
theorem dX4_weights_9 : decode cX4_weights 9 = .ok (.if_icmp .ge 36, 3) := dk_162 0 36 (dk_at dksX4_weights_0 9 rfl rfl)
theorem dX4_weights_12 : decode cX4_weights 12 = .ok (.iload_n 2, 1) := dk_28 (dk_at dksX4_weights_0 12 rfl rfl)
theorem dX4_weights_13 : decode cX4_weights 13 = .ok (.iload_n 1, 1) := dk_27 (dk_at dksX4_weights_0 13 rfl rfl)
theorem dX4_weights_14 : decode cX4_weights 14 = .ok (.ifCond .ne 11, 3) := dk_154 0 11 (dk_at dksX4_weights_0 14 rfl rfl)
theorem dX4_weights_17 : decode cX4_weights 17 = .ok (.aload_n 0, 1) := dk_42 (dk_at dksX4_weights_0 17 rfl rfl)
theorem dX4_weights_18 : decode cX4_weights 18 = .ok (.iload_n 3, 1) := dk_29 (dk_at dksX4_weights_0 18 rfl rfl)
theorem dX4_weights_19 : decode cX4_weights 19 = .ok (.invokevirtual 54, 3) := dk_182 0 54 (dk_at dksX4_weights_0 19 rfl rfl)
theorem dX4_weights_22 : decode cX4_weights 22 = .ok (.ifCond .eq 14, 3) := dk_153 0 14 (dk_at dksX4_weights_1 0 rfl rfl)
theorem dX4_weights_25 : decode cX4_weights 25 = .ok (.aload_n 0, 1) := dk_42 (dk_at dksX4_weights_1 3 rfl rfl)
theorem dX4_weights_26 : decode cX4_weights 26 = .ok (.getfield 24, 3) := dk_180 0 24 (dk_at dksX4_weights_1 4 rfl rfl)
theorem dX4_weights_29 : decode cX4_weights 29 = .ok (.iconst 3, 1) := dk_6 (dk_at dksX4_weights_1 7 rfl rfl)
theorem dX4_weights_30 : decode cX4_weights 30 = .ok (.aaload, 1) := dk_50 (dk_at dksX4_weights_1 8 rfl rfl)
theorem dX4_weights_31 : decode cX4_weights 31 = .ok (.iload_n 3, 1) := dk_29 (dk_at dksX4_weights_1 9 rfl rfl)
theorem dX4_weights_32 : decode cX4_weights 32 = .ok (.iaload, 1) := dk_46 (dk_at dksX4_weights_1 10 rfl rfl)
theorem dX4_weights_33 : decode cX4_weights 33 = .ok (.goto 4, 3) := dk_167 0 4 (dk_at dksX4_weights_1 11 rfl rfl)
theorem dX4_weights_36 : decode cX4_weights 36 = .ok (.iconst 0, 1) := dk_3 (dk_at dksX4_weights_1 14 rfl rfl)
theorem dX4_weights_37 : decode cX4_weights 37 = .ok (.iadd, 1) := dk_96 (dk_at dksX4_weights_1 15 rfl rfl)
theorem dX4_weights_38 : decode cX4_weights 38 = .ok (.istore_n 2, 1) := dk_61 (dk_at dksX4_weights_1 16 rfl rfl)
theorem dX4_weights_39 : decode cX4_weights 39 = .ok (.iinc 3 1, 3) := dk_132 3 1 (dk_at dksX4_weights_1 17 rfl rfl)
theorem dX4_weights_42 : decode cX4_weights 42 = .ok (.goto (-38), 3) := dk_167 255 218 (dk_at dksX4_weights_1 20 rfl rfl)
theorem dX4_weights_45 : decode cX4_weights 45 = .ok (.iload_n 2, 1) := dk_28 (dk_at dksX4_weights_1 23 rfl rfl)
theorem dX4_weights_46 : decode cX4_weights 46 = .ok (.ireturn, 1) := dk_172 (dk_at dksX4_weights_2 0 rfl rfl)
abbrev cX4_become : ByteArray := prog_12_method_4_code
def yX4_become : MethodName := ⟨RX4, "become", "(LWildBells$World;)V"⟩
def dkwX4_become_3 : List UInt8 := [180, 0, 30, 184, 0, 39, 177]
abbrev dktX4_become_3 : List UInt8 := dkwX4_become_3 ++ []
def dkwX4_become_2 : List UInt8 := [184, 0, 43, 42, 43, 180, 0, 50, 181, 0, 50, 42, 43, 180, 0, 27, 181, 0, 27, 43, 180, 0, 30, 42]
abbrev dktX4_become_2 : List UInt8 := dkwX4_become_2 ++ dktX4_become_3
def dkwX4_become_1 : List UInt8 := [180, 0, 20, 181, 0, 20, 42, 43, 180, 0, 47, 181, 0, 47, 43, 180, 0, 24, 42, 180, 0, 24]
abbrev dktX4_become_1 : List UInt8 := dkwX4_become_1 ++ dktX4_become_2
def dkwX4_become_0 : List UInt8 := [43, 180, 0, 11, 42, 180, 0, 11, 184, 0, 43, 43, 180, 0, 16, 42, 180, 0, 16, 184, 0, 39, 42, 43]
abbrev dktX4_become_0 : List UInt8 := dkwX4_become_0 ++ dktX4_become_1
theorem dksX4_become_0 : cX4_become.data.toList.drop 0 = dktX4_become_0 := by decide +kernel
theorem dksX4_become_1 : cX4_become.data.toList.drop 24 = dktX4_become_1 := dk_seg dksX4_become_0 24 rfl rfl
theorem dksX4_become_2 : cX4_become.data.toList.drop 46 = dktX4_become_2 := dk_seg dksX4_become_1 22 rfl rfl
theorem dksX4_become_3 : cX4_become.data.toList.drop 70 = dktX4_become_3 := dk_seg dksX4_become_2 24 rfl rfl
theorem dX4_become_0 : decode cX4_become 0 = .ok (.aload_n 1, 1) := dk_43 (dk_at dksX4_become_0 0 rfl rfl)
theorem dX4_become_1 : decode cX4_become 1 = .ok (.getfield 11, 3) := dk_180 0 11 (dk_at dksX4_become_0 1 rfl rfl)
theorem dX4_become_4 : decode cX4_become 4 = .ok (.aload_n 0, 1) := dk_42 (dk_at dksX4_become_0 4 rfl rfl)
theorem dX4_become_5 : decode cX4_become 5 = .ok (.getfield 11, 3) := dk_180 0 11 (dk_at dksX4_become_0 5 rfl rfl)
theorem dX4_become_8 : decode cX4_become 8 = .ok (.invokestatic 43, 3) := dk_184 0 43 (dk_at dksX4_become_0 8 rfl rfl)
theorem dX4_become_11 : decode cX4_become 11 = .ok (.aload_n 1, 1) := dk_43 (dk_at dksX4_become_0 11 rfl rfl)
theorem dX4_become_12 : decode cX4_become 12 = .ok (.getfield 16, 3) := dk_180 0 16 (dk_at dksX4_become_0 12 rfl rfl)
theorem dX4_become_15 : decode cX4_become 15 = .ok (.aload_n 0, 1) := dk_42 (dk_at dksX4_become_0 15 rfl rfl)
theorem dX4_become_16 : decode cX4_become 16 = .ok (.getfield 16, 3) := dk_180 0 16 (dk_at dksX4_become_0 16 rfl rfl)
theorem dX4_become_19 : decode cX4_become 19 = .ok (.invokestatic 39, 3) := dk_184 0 39 (dk_at dksX4_become_0 19 rfl rfl)
theorem dX4_become_22 : decode cX4_become 22 = .ok (.aload_n 0, 1) := dk_42 (dk_at dksX4_become_0 22 rfl rfl)
theorem dX4_become_23 : decode cX4_become 23 = .ok (.aload_n 1, 1) := dk_43 (dk_at dksX4_become_0 23 rfl rfl)
theorem dX4_become_24 : decode cX4_become 24 = .ok (.getfield 20, 3) := dk_180 0 20 (dk_at dksX4_become_1 0 rfl rfl)
theorem dX4_become_27 : decode cX4_become 27 = .ok (.putfield 20, 3) := dk_181 0 20 (dk_at dksX4_become_1 3 rfl rfl)
theorem dX4_become_30 : decode cX4_become 30 = .ok (.aload_n 0, 1) := dk_42 (dk_at dksX4_become_1 6 rfl rfl)
theorem dX4_become_31 : decode cX4_become 31 = .ok (.aload_n 1, 1) := dk_43 (dk_at dksX4_become_1 7 rfl rfl)
theorem dX4_become_32 : decode cX4_become 32 = .ok (.getfield 47, 3) := dk_180 0 47 (dk_at dksX4_become_1 8 rfl rfl)
theorem dX4_become_35 : decode cX4_become 35 = .ok (.putfield 47, 3) := dk_181 0 47 (dk_at dksX4_become_1 11 rfl rfl)
theorem dX4_become_38 : decode cX4_become 38 = .ok (.aload_n 1, 1) := dk_43 (dk_at dksX4_become_1 14 rfl rfl)
theorem dX4_become_39 : decode cX4_become 39 = .ok (.getfield 24, 3) := dk_180 0 24 (dk_at dksX4_become_1 15 rfl rfl)
theorem dX4_become_42 : decode cX4_become 42 = .ok (.aload_n 0, 1) := dk_42 (dk_at dksX4_become_1 18 rfl rfl)
theorem dX4_become_43 : decode cX4_become 43 = .ok (.getfield 24, 3) := dk_180 0 24 (dk_at dksX4_become_1 19 rfl rfl)
theorem dX4_become_46 : decode cX4_become 46 = .ok (.invokestatic 43, 3) := dk_184 0 43 (dk_at dksX4_become_2 0 rfl rfl)
theorem dX4_become_49 : decode cX4_become 49 = .ok (.aload_n 0, 1) := dk_42 (dk_at dksX4_become_2 3 rfl rfl)
theorem dX4_become_50 : decode cX4_become 50 = .ok (.aload_n 1, 1) := dk_43 (dk_at dksX4_become_2 4 rfl rfl)
theorem dX4_become_51 : decode cX4_become 51 = .ok (.getfield 50, 3) := dk_180 0 50 (dk_at dksX4_become_2 5 rfl rfl)
theorem dX4_become_54 : decode cX4_become 54 = .ok (.putfield 50, 3) := dk_181 0 50 (dk_at dksX4_become_2 8 rfl rfl)
theorem dX4_become_57 : decode cX4_become 57 = .ok (.aload_n 0, 1) := dk_42 (dk_at dksX4_become_2 11 rfl rfl)
theorem dX4_become_58 : decode cX4_become 58 = .ok (.aload_n 1, 1) := dk_43 (dk_at dksX4_become_2 12 rfl rfl)
theorem dX4_become_59 : decode cX4_become 59 = .ok (.getfield 27, 3) := dk_180 0 27 (dk_at dksX4_become_2 13 rfl rfl)
theorem dX4_become_62 : decode cX4_become 62 = .ok (.putfield 27, 3) := dk_181 0 27 (dk_at dksX4_become_2 16 rfl rfl)
theorem dX4_become_65 : decode cX4_become 65 = .ok (.aload_n 1, 1) := dk_43 (dk_at dksX4_become_2 19 rfl rfl)
theorem dX4_become_66 : decode cX4_become 66 = .ok (.getfield 30, 3) := dk_180 0 30 (dk_at dksX4_become_2 20 rfl rfl)
theorem dX4_become_69 : decode cX4_become 69 = .ok (.aload_n 0, 1) := dk_42 (dk_at dksX4_become_2 23 rfl rfl)
theorem dX4_become_70 : decode cX4_become 70 = .ok (.getfield 30, 3) := dk_180 0 30 (dk_at dksX4_become_3 0 rfl rfl)
theorem dX4_become_73 : decode cX4_become 73 = .ok (.invokestatic 39, 3) := dk_184 0 39 (dk_at dksX4_become_3 3 rfl rfl)
theorem dX4_become_76 : decode cX4_become 76 = .ok (.return_, 1) := dk_177 (dk_at dksX4_become_3 6 rfl rfl)
abbrev cX4_copyAll : ByteArray := prog_12_method_3_code
def yX4_copyAll : MethodName := ⟨RX4, "copyAll", "([[I[[I)V"⟩
def dkwX4_copyAll_0 : List UInt8 := [3, 61, 28, 43, 190, 162, 0, 18, 42, 28, 50, 43, 28, 50, 184, 0, 39, 132, 2, 1, 167, 255, 238, 177]
abbrev dktX4_copyAll_0 : List UInt8 := dkwX4_copyAll_0 ++ []
theorem dksX4_copyAll_0 : cX4_copyAll.data.toList.drop 0 = dktX4_copyAll_0 := by decide +kernel
theorem dX4_copyAll_0 : decode cX4_copyAll 0 = .ok (.iconst 0, 1) := dk_3 (dk_at dksX4_copyAll_0 0 rfl rfl)
theorem dX4_copyAll_1 : decode cX4_copyAll 1 = .ok (.istore_n 2, 1) := dk_61 (dk_at dksX4_copyAll_0 1 rfl rfl)
theorem dX4_copyAll_2 : decode cX4_copyAll 2 = .ok (.iload_n 2, 1) := dk_28 (dk_at dksX4_copyAll_0 2 rfl rfl)
theorem dX4_copyAll_3 : decode cX4_copyAll 3 = .ok (.aload_n 1, 1) := dk_43 (dk_at dksX4_copyAll_0 3 rfl rfl)
theorem dX4_copyAll_4 : decode cX4_copyAll 4 = .ok (.arraylength, 1) := dk_190 (dk_at dksX4_copyAll_0 4 rfl rfl)
theorem dX4_copyAll_5 : decode cX4_copyAll 5 = .ok (.if_icmp .ge 18, 3) := dk_162 0 18 (dk_at dksX4_copyAll_0 5 rfl rfl)
theorem dX4_copyAll_8 : decode cX4_copyAll 8 = .ok (.aload_n 0, 1) := dk_42 (dk_at dksX4_copyAll_0 8 rfl rfl)
theorem dX4_copyAll_9 : decode cX4_copyAll 9 = .ok (.iload_n 2, 1) := dk_28 (dk_at dksX4_copyAll_0 9 rfl rfl)
theorem dX4_copyAll_10 : decode cX4_copyAll 10 = .ok (.aaload, 1) := dk_50 (dk_at dksX4_copyAll_0 10 rfl rfl)
theorem dX4_copyAll_11 : decode cX4_copyAll 11 = .ok (.aload_n 1, 1) := dk_43 (dk_at dksX4_copyAll_0 11 rfl rfl)
theorem dX4_copyAll_12 : decode cX4_copyAll 12 = .ok (.iload_n 2, 1) := dk_28 (dk_at dksX4_copyAll_0 12 rfl rfl)
theorem dX4_copyAll_13 : decode cX4_copyAll 13 = .ok (.aaload, 1) := dk_50 (dk_at dksX4_copyAll_0 13 rfl rfl)
theorem dX4_copyAll_14 : decode cX4_copyAll 14 = .ok (.invokestatic 39, 3) := dk_184 0 39 (dk_at dksX4_copyAll_0 14 rfl rfl)
theorem dX4_copyAll_17 : decode cX4_copyAll 17 = .ok (.iinc 2 1, 3) := dk_132 2 1 (dk_at dksX4_copyAll_0 17 rfl rfl)
theorem dX4_copyAll_20 : decode cX4_copyAll 20 = .ok (.goto (-18), 3) := dk_167 255 238 (dk_at dksX4_copyAll_0 20 rfl rfl)
theorem dX4_copyAll_23 : decode cX4_copyAll 23 = .ok (.return_, 1) := dk_177 (dk_at dksX4_copyAll_0 23 rfl rfl)
abbrev cX4_copy : ByteArray := prog_12_method_2_code
def yX4_copy : MethodName := ⟨RX4, "copy", "([I[I)V"⟩
def dkwX4_copy_0 : List UInt8 := [42, 3, 43, 3, 43, 190, 184, 0, 33, 177]
abbrev dktX4_copy_0 : List UInt8 := dkwX4_copy_0 ++ []
theorem dksX4_copy_0 : cX4_copy.data.toList.drop 0 = dktX4_copy_0 := by decide +kernel
theorem dX4_copy_0 : decode cX4_copy 0 = .ok (.aload_n 0, 1) := dk_42 (dk_at dksX4_copy_0 0 rfl rfl)
theorem dX4_copy_1 : decode cX4_copy 1 = .ok (.iconst 0, 1) := dk_3 (dk_at dksX4_copy_0 1 rfl rfl)
theorem dX4_copy_2 : decode cX4_copy 2 = .ok (.aload_n 1, 1) := dk_43 (dk_at dksX4_copy_0 2 rfl rfl)
theorem dX4_copy_3 : decode cX4_copy 3 = .ok (.iconst 0, 1) := dk_3 (dk_at dksX4_copy_0 3 rfl rfl)
theorem dX4_copy_4 : decode cX4_copy 4 = .ok (.aload_n 1, 1) := dk_43 (dk_at dksX4_copy_0 4 rfl rfl)
theorem dX4_copy_5 : decode cX4_copy 5 = .ok (.arraylength, 1) := dk_190 (dk_at dksX4_copy_0 5 rfl rfl)
theorem dX4_copy_6 : decode cX4_copy 6 = .ok (.invokestatic 33, 3) := dk_184 0 33 (dk_at dksX4_copy_0 6 rfl rfl)
theorem dX4_copy_9 : decode cX4_copy 9 = .ok (.return_, 1) := dk_177 (dk_at dksX4_copy_0 9 rfl rfl)
abbrev cX4_draw : ByteArray := prog_12_method_5_code
def yX4_draw : MethodName := ⟨RX4, "draw", "()I"⟩
def dkwX4_draw_0 : List UInt8 := [42, 42, 180, 0, 27, 18, 53, 104, 17, 48, 57, 96, 181, 0, 27, 42, 180, 0, 27, 16, 8, 124, 172]
abbrev dktX4_draw_0 : List UInt8 := dkwX4_draw_0 ++ []
theorem dksX4_draw_0 : cX4_draw.data.toList.drop 0 = dktX4_draw_0 := by decide +kernel
theorem dX4_draw_0 : decode cX4_draw 0 = .ok (.aload_n 0, 1) := dk_42 (dk_at dksX4_draw_0 0 rfl rfl)
theorem dX4_draw_1 : decode cX4_draw 1 = .ok (.aload_n 0, 1) := dk_42 (dk_at dksX4_draw_0 1 rfl rfl)
theorem dX4_draw_2 : decode cX4_draw 2 = .ok (.getfield 27, 3) := dk_180 0 27 (dk_at dksX4_draw_0 2 rfl rfl)
theorem dX4_draw_5 : decode cX4_draw 5 = .ok (.ldc 53, 2) := dk_18 53 (dk_at dksX4_draw_0 5 rfl rfl)
theorem dX4_draw_7 : decode cX4_draw 7 = .ok (.imul, 1) := dk_104 (dk_at dksX4_draw_0 7 rfl rfl)
theorem dX4_draw_8 : decode cX4_draw 8 = .ok (.sipush 12345, 3) := dk_17 48 57 (dk_at dksX4_draw_0 8 rfl rfl)
theorem dX4_draw_11 : decode cX4_draw 11 = .ok (.iadd, 1) := dk_96 (dk_at dksX4_draw_0 11 rfl rfl)
theorem dX4_draw_12 : decode cX4_draw 12 = .ok (.putfield 27, 3) := dk_181 0 27 (dk_at dksX4_draw_0 12 rfl rfl)
theorem dX4_draw_15 : decode cX4_draw 15 = .ok (.aload_n 0, 1) := dk_42 (dk_at dksX4_draw_0 15 rfl rfl)
theorem dX4_draw_16 : decode cX4_draw 16 = .ok (.getfield 27, 3) := dk_180 0 27 (dk_at dksX4_draw_0 16 rfl rfl)
theorem dX4_draw_19 : decode cX4_draw 19 = .ok (.bipush 8, 2) := dk_16 8 (dk_at dksX4_draw_0 19 rfl rfl)
theorem dX4_draw_21 : decode cX4_draw 21 = .ok (.iushr, 1) := dk_124 (dk_at dksX4_draw_0 21 rfl rfl)
theorem dX4_draw_22 : decode cX4_draw 22 = .ok (.ireturn, 1) := dk_172 (dk_at dksX4_draw_0 22 rfl rfl)
theorem q106 : (Jvm.Cond.initialized "WildBells$World") ∈ lw_all := lw_g (lw_at lw_m1 8 rfl) rfl
theorem q221 : (Jvm.Cond.instantiable "WildBells$World" (8 : Nat)) ∈ lw_all := lw_g (lw_at lw_m1 123 rfl) rfl
theorem q223 : (Jvm.Cond.instanceMethod ({ cls := "WildBells$World", name := "<init>", desc := "()V" } : Jvm.MethodName)) ∈ lw_all := lw_g (lw_at lw_m1 125 rfl) rfl
theorem q224 : (Jvm.Cond.code ({ cls := "WildBells$World", name := "<init>", desc := "()V" } : Jvm.MethodName) prog_12_method_1_code (2 : Nat) (Option.none : Option Jvm.ClassFile.FieldType)) ∈ lw_all := lw_g (lw_at lw_m1 126 rfl) rfl
theorem q225 : (Jvm.Cond.methodLink "WildBells$World" (3 : Nat) ({ cls := "java/lang/Object", name := "<init>", desc := "()V" } : Jvm.MethodName)) ∈ lw_all := lw_g (lw_at lw_m1 127 rfl) rfl
theorem q226 : (Jvm.Cond.classLink "WildBells$World" (9 : Nat) "[[I") ∈ lw_all := lw_g (lw_at lw_m1 128 rfl) rfl
theorem q228 : (Jvm.Cond.fieldLink "WildBells$World" (11 : Nat) "WildBells$World" "cell" "[[I") ∈ lw_all := lw_g (lw_at lw_m1 130 rfl) rfl
theorem q233 : (Jvm.Cond.fieldLink "WildBells$World" (16 : Nat) "WildBells$World" "hunter" "[I") ∈ lw_all := lw_g (lw_at lw_m1 135 rfl) rfl
theorem q236 : (Jvm.Cond.fieldLink "WildBells$World" (20 : Nat) "WildBells$World" "fear" "I") ∈ lw_all := lw_g (lw_at lw_m1 138 rfl) rfl
theorem q239 : (Jvm.Cond.fieldLink "WildBells$World" (47 : Nat) "WildBells$World" "bells" "I") ∈ lw_all := lw_g (lw_at lw_m1 141 rfl) rfl
theorem q242 : (Jvm.Cond.fieldLink "WildBells$World" (24 : Nat) "WildBells$World" "bell" "[[I") ∈ lw_all := lw_g (lw_at lw_m1 144 rfl) rfl
theorem q245 : (Jvm.Cond.fieldLink "WildBells$World" (50 : Nat) "WildBells$World" "hour" "I") ∈ lw_all := lw_g (lw_at lw_m1 147 rfl) rfl
theorem q247 : (Jvm.Cond.fieldLink "WildBells$World" (27 : Nat) "WildBells$World" "z" "I") ∈ lw_all := lw_g (lw_at lw_m1 149 rfl) rfl
theorem q249 : (Jvm.Cond.fieldLink "WildBells$World" (30 : Nat) "WildBells$World" "holds" "[I") ∈ lw_all := lw_g (lw_at lw_m1 151 rfl) rfl
theorem q251 : (Jvm.Cond.laysFinal "WildBells$World" "WildBells$World" "cell" "[[I") ∈ lw_all := lw_g (lw_at lw_m1 153 rfl) rfl
theorem q252 : (Jvm.Cond.soleField "WildBells$World" "cell") ∈ lw_all := lw_g (lw_at lw_m1 154 rfl) rfl
theorem q253 : (Jvm.Cond.laysFinal "WildBells$World" "WildBells$World" "hunter" "[I") ∈ lw_all := lw_g (lw_at lw_m1 155 rfl) rfl
theorem q254 : (Jvm.Cond.soleField "WildBells$World" "hunter") ∈ lw_all := lw_g (lw_at lw_m1 156 rfl) rfl
theorem q255 : (Jvm.Cond.lays "WildBells$World" "WildBells$World" "fear" "I") ∈ lw_all := lw_g (lw_at lw_m1 157 rfl) rfl
theorem q256 : (Jvm.Cond.soleField "WildBells$World" "fear") ∈ lw_all := lw_g (lw_at lw_m1 158 rfl) rfl
theorem q257 : (Jvm.Cond.lays "WildBells$World" "WildBells$World" "bells" "I") ∈ lw_all := lw_g (lw_at lw_m1 159 rfl) rfl
theorem q258 : (Jvm.Cond.soleField "WildBells$World" "bells") ∈ lw_all := lw_g (lw_at lw_m1 160 rfl) rfl
theorem q259 : (Jvm.Cond.laysFinal "WildBells$World" "WildBells$World" "bell" "[[I") ∈ lw_all := lw_g (lw_at lw_m1 161 rfl) rfl
theorem q260 : (Jvm.Cond.soleField "WildBells$World" "bell") ∈ lw_all := lw_g (lw_at lw_m1 162 rfl) rfl
theorem q261 : (Jvm.Cond.lays "WildBells$World" "WildBells$World" "hour" "I") ∈ lw_all := lw_g (lw_at lw_m1 163 rfl) rfl
theorem q262 : (Jvm.Cond.soleField "WildBells$World" "hour") ∈ lw_all := lw_g (lw_at lw_m1 164 rfl) rfl
theorem q263 : (Jvm.Cond.lays "WildBells$World" "WildBells$World" "z" "I") ∈ lw_all := lw_g (lw_at lw_m1 165 rfl) rfl
theorem q264 : (Jvm.Cond.soleField "WildBells$World" "z") ∈ lw_all := lw_g (lw_at lw_m1 166 rfl) rfl
theorem q265 : (Jvm.Cond.laysFinal "WildBells$World" "WildBells$World" "holds" "[I") ∈ lw_all := lw_g (lw_at lw_m1 167 rfl) rfl
theorem q266 : (Jvm.Cond.soleField "WildBells$World" "holds") ∈ lw_all := lw_g (lw_at lw_m1 168 rfl) rfl
theorem q267 : (Jvm.Cond.superclass "WildBells$World" "java/lang/Object") ∈ lw_all := lw_g (lw_at lw_m1 169 rfl) rfl
theorem q483 : (Jvm.Cond.instanceMethod ({ cls := "WildBells$World", name := "heard", desc := "(I)I" } : Jvm.MethodName)) ∈ lw_all := lw_g (lw_at lw_m2 145 rfl) rfl
theorem q484 : (Jvm.Cond.selects "WildBells$World" ({ cls := "WildBells$World", name := "heard", desc := "(I)I" } : Jvm.MethodName) ({ cls := "WildBells$World", name := "heard", desc := "(I)I" } : Jvm.MethodName)) ∈ lw_all := lw_g (lw_at lw_m2 146 rfl) rfl
theorem q485 : (Jvm.Cond.code ({ cls := "WildBells$World", name := "heard", desc := "(I)I" } : Jvm.MethodName) prog_12_method_11_code (4 : Nat) (Option.some Jvm.ClassFile.FieldType.int)) ∈ lw_all := lw_g (lw_at lw_m2 147 rfl) rfl
theorem q486 : (Jvm.Cond.methodLink "WildBells$World" (54 : Nat) ({ cls := "WildBells$World", name := "isCaught", desc := "(I)Z" } : Jvm.MethodName)) ∈ lw_all := lw_g (lw_at lw_m2 148 rfl) rfl
theorem q487 : (Jvm.Cond.instanceMethod ({ cls := "WildBells$World", name := "isCaught", desc := "(I)Z" } : Jvm.MethodName)) ∈ lw_all := lw_g (lw_at lw_m2 149 rfl) rfl
theorem q488 : (Jvm.Cond.selects "WildBells$World" ({ cls := "WildBells$World", name := "isCaught", desc := "(I)Z" } : Jvm.MethodName) ({ cls := "WildBells$World", name := "isCaught", desc := "(I)Z" } : Jvm.MethodName)) ∈ lw_all := lw_g (lw_at lw_m2 150 rfl) rfl
theorem q489 : (Jvm.Cond.code ({ cls := "WildBells$World", name := "isCaught", desc := "(I)Z" } : Jvm.MethodName) prog_12_method_7_code (2 : Nat) (Option.some Jvm.ClassFile.FieldType.boolean)) ∈ lw_all := lw_g (lw_at lw_m2 151 rfl) rfl
theorem q490 : (Jvm.Cond.methodLink "WildBells$World" (65 : Nat) ({ cls := "WildBells$World", name := "loud", desc := "(II)I" } : Jvm.MethodName)) ∈ lw_all := lw_g (lw_at lw_m2 152 rfl) rfl
theorem q491 : (Jvm.Cond.instanceMethod ({ cls := "WildBells$World", name := "loud", desc := "(II)I" } : Jvm.MethodName)) ∈ lw_all := lw_g (lw_at lw_m2 153 rfl) rfl
theorem q492 : (Jvm.Cond.selects "WildBells$World" ({ cls := "WildBells$World", name := "loud", desc := "(II)I" } : Jvm.MethodName) ({ cls := "WildBells$World", name := "loud", desc := "(II)I" } : Jvm.MethodName)) ∈ lw_all := lw_g (lw_at lw_m2 154 rfl) rfl
theorem q493 : (Jvm.Cond.code ({ cls := "WildBells$World", name := "loud", desc := "(II)I" } : Jvm.MethodName) prog_12_method_10_code (3 : Nat) (Option.some Jvm.ClassFile.FieldType.int)) ∈ lw_all := lw_g (lw_at lw_m2 155 rfl) rfl
theorem q494 : (Jvm.Cond.methodLinkNest "WildBells$World" (58 : Nat) ({ cls := "WildBells", name := "apart", desc := "(II)I" } : Jvm.MethodName) "WildBells") ∈ lw_tbl := lw_at lw_m2 156 rfl
theorem q500 : (Jvm.Cond.methodLinkNest "WildBells$World" (62 : Nat) ({ cls := "WildBells", name := "loudBy", desc := "(II)I" } : Jvm.MethodName) "WildBells") ∈ lw_tbl := lw_at lw_m2 162 rfl
theorem q506 : (Jvm.Cond.methodLink "WildBells$World" (68 : Nat) ({ cls := "java/lang/Math", name := "max", desc := "(II)I" } : Jvm.MethodName)) ∈ lw_all := lw_g (lw_at lw_m2 168 rfl) rfl
theorem q508 : (Jvm.Cond.instanceMethod ({ cls := "WildBells$World", name := "manyAt", desc := "(I)I" } : Jvm.MethodName)) ∈ lw_all := lw_g (lw_at lw_m2 170 rfl) rfl
theorem q509 : (Jvm.Cond.selects "WildBells$World" ({ cls := "WildBells$World", name := "manyAt", desc := "(I)I" } : Jvm.MethodName) ({ cls := "WildBells$World", name := "manyAt", desc := "(I)I" } : Jvm.MethodName)) ∈ lw_all := lw_g (lw_at lw_m2 171 rfl) rfl
theorem q510 : (Jvm.Cond.code ({ cls := "WildBells$World", name := "manyAt", desc := "(I)I" } : Jvm.MethodName) prog_12_method_12_code (4 : Nat) (Option.some Jvm.ClassFile.FieldType.int)) ∈ lw_all := lw_g (lw_at lw_m2 172 rfl) rfl
theorem q530 : (Jvm.Cond.instanceMethod ({ cls := "WildBells$World", name := "add", desc := "(II)V" } : Jvm.MethodName)) ∈ lw_all := lw_g (lw_at lw_m2 192 rfl) rfl
theorem q531 : (Jvm.Cond.selects "WildBells$World" ({ cls := "WildBells$World", name := "add", desc := "(II)V" } : Jvm.MethodName) ({ cls := "WildBells$World", name := "add", desc := "(II)V" } : Jvm.MethodName)) ∈ lw_all := lw_g (lw_at lw_m2 193 rfl) rfl
theorem q532 : (Jvm.Cond.code ({ cls := "WildBells$World", name := "add", desc := "(II)V" } : Jvm.MethodName) prog_12_method_6_code (3 : Nat) (Option.none : Option Jvm.ClassFile.FieldType)) ∈ lw_all := lw_g (lw_at lw_m2 194 rfl) rfl
theorem q593 : (Jvm.Cond.instanceMethod ({ cls := "WildBells$World", name := "fearAt", desc := "(I)I" } : Jvm.MethodName)) ∈ lw_all := lw_g (lw_at lw_m3 15 rfl) rfl
theorem q594 : (Jvm.Cond.selects "WildBells$World" ({ cls := "WildBells$World", name := "fearAt", desc := "(I)I" } : Jvm.MethodName) ({ cls := "WildBells$World", name := "fearAt", desc := "(I)I" } : Jvm.MethodName)) ∈ lw_all := lw_g (lw_at lw_m3 16 rfl) rfl
theorem q595 : (Jvm.Cond.code ({ cls := "WildBells$World", name := "fearAt", desc := "(I)I" } : Jvm.MethodName) prog_12_method_14_code (7 : Nat) (Option.some Jvm.ClassFile.FieldType.int)) ∈ lw_all := lw_g (lw_at lw_m3 17 rfl) rfl
theorem q596 : (Jvm.Cond.methodLink "WildBells$World" (73 : Nat) ({ cls := "java/lang/Math", name := "min", desc := "(II)I" } : Jvm.MethodName)) ∈ lw_all := lw_g (lw_at lw_m3 18 rfl) rfl
theorem q701 : (Jvm.Cond.instanceMethod ({ cls := "WildBells$World", name := "isLate", desc := "(I)Z" } : Jvm.MethodName)) ∈ lw_all := lw_g (lw_at lw_m3 123 rfl) rfl
theorem q702 : (Jvm.Cond.selects "WildBells$World" ({ cls := "WildBells$World", name := "isLate", desc := "(I)Z" } : Jvm.MethodName) ({ cls := "WildBells$World", name := "isLate", desc := "(I)Z" } : Jvm.MethodName)) ∈ lw_all := lw_g (lw_at lw_m3 124 rfl) rfl
theorem q703 : (Jvm.Cond.code ({ cls := "WildBells$World", name := "isLate", desc := "(I)Z" } : Jvm.MethodName) prog_12_method_15_code (2 : Nat) (Option.some Jvm.ClassFile.FieldType.boolean)) ∈ lw_all := lw_g (lw_at lw_m3 125 rfl) rfl
theorem q704 : (Jvm.Cond.constant "WildBells$World" (76 : Nat) (99999 : Int32)) ∈ lw_all := lw_g (lw_at lw_m3 126 rfl) rfl
theorem q718 : (Jvm.Cond.instanceMethod ({ cls := "WildBells$World", name := "whoIsCaught", desc := "()I" } : Jvm.MethodName)) ∈ lw_all := lw_g (lw_at lw_m3 140 rfl) rfl
theorem q719 : (Jvm.Cond.selects "WildBells$World" ({ cls := "WildBells$World", name := "whoIsCaught", desc := "()I" } : Jvm.MethodName) ({ cls := "WildBells$World", name := "whoIsCaught", desc := "()I" } : Jvm.MethodName)) ∈ lw_all := lw_g (lw_at lw_m3 141 rfl) rfl
theorem q720 : (Jvm.Cond.code ({ cls := "WildBells$World", name := "whoIsCaught", desc := "()I" } : Jvm.MethodName) prog_12_method_8_code (3 : Nat) (Option.some Jvm.ClassFile.FieldType.int)) ∈ lw_all := lw_g (lw_at lw_m3 142 rfl) rfl
theorem q735 : (Jvm.Cond.instanceMethod ({ cls := "WildBells$World", name := "nets", desc := "()I" } : Jvm.MethodName)) ∈ lw_all := lw_g (lw_at lw_m3 157 rfl) rfl
theorem q736 : (Jvm.Cond.selects "WildBells$World" ({ cls := "WildBells$World", name := "nets", desc := "()I" } : Jvm.MethodName) ({ cls := "WildBells$World", name := "nets", desc := "()I" } : Jvm.MethodName)) ∈ lw_all := lw_g (lw_at lw_m3 158 rfl) rfl
theorem q737 : (Jvm.Cond.code ({ cls := "WildBells$World", name := "nets", desc := "()I" } : Jvm.MethodName) prog_12_method_13_code (6 : Nat) (Option.some Jvm.ClassFile.FieldType.int)) ∈ lw_all := lw_g (lw_at lw_m3 159 rfl) rfl
theorem q739 : (Jvm.Cond.instanceMethod ({ cls := "WildBells$World", name := "weights", desc := "(Z)I" } : Jvm.MethodName)) ∈ lw_all := lw_g (lw_at lw_m3 161 rfl) rfl
theorem q740 : (Jvm.Cond.selects "WildBells$World" ({ cls := "WildBells$World", name := "weights", desc := "(Z)I" } : Jvm.MethodName) ({ cls := "WildBells$World", name := "weights", desc := "(Z)I" } : Jvm.MethodName)) ∈ lw_all := lw_g (lw_at lw_m3 162 rfl) rfl
theorem q741 : (Jvm.Cond.code ({ cls := "WildBells$World", name := "weights", desc := "(Z)I" } : Jvm.MethodName) prog_12_method_9_code (4 : Nat) (Option.some Jvm.ClassFile.FieldType.int)) ∈ lw_all := lw_g (lw_at lw_m3 163 rfl) rfl
theorem q752 : (Jvm.Cond.instanceMethod ({ cls := "WildBells$World", name := "become", desc := "(LWildBells$World;)V" } : Jvm.MethodName)) ∈ lw_all := lw_g (lw_at lw_m3 174 rfl) rfl
theorem q753 : (Jvm.Cond.selects "WildBells$World" ({ cls := "WildBells$World", name := "become", desc := "(LWildBells$World;)V" } : Jvm.MethodName) ({ cls := "WildBells$World", name := "become", desc := "(LWildBells$World;)V" } : Jvm.MethodName)) ∈ lw_all := lw_g (lw_at lw_m3 175 rfl) rfl
theorem q754 : (Jvm.Cond.code ({ cls := "WildBells$World", name := "become", desc := "(LWildBells$World;)V" } : Jvm.MethodName) prog_12_method_4_code (2 : Nat) (Option.none : Option Jvm.ClassFile.FieldType)) ∈ lw_all := lw_g (lw_at lw_m3 176 rfl) rfl
theorem q755 : (Jvm.Cond.methodLink "WildBells$World" (43 : Nat) ({ cls := "WildBells$World", name := "copyAll", desc := "([[I[[I)V" } : Jvm.MethodName)) ∈ lw_all := lw_g (lw_at lw_m3 177 rfl) rfl
theorem q756 : (Jvm.Cond.static ({ cls := "WildBells$World", name := "copyAll", desc := "([[I[[I)V" } : Jvm.MethodName)) ∈ lw_all := lw_g (lw_at lw_m3 178 rfl) rfl
theorem q757 : (Jvm.Cond.code ({ cls := "WildBells$World", name := "copyAll", desc := "([[I[[I)V" } : Jvm.MethodName) prog_12_method_3_code (3 : Nat) (Option.none : Option Jvm.ClassFile.FieldType)) ∈ lw_all := lw_g (lw_at lw_m3 179 rfl) rfl
theorem q758 : (Jvm.Cond.methodLink "WildBells$World" (39 : Nat) ({ cls := "WildBells$World", name := "copy", desc := "([I[I)V" } : Jvm.MethodName)) ∈ lw_all := lw_g (lw_at lw_m3 180 rfl) rfl
theorem q759 : (Jvm.Cond.static ({ cls := "WildBells$World", name := "copy", desc := "([I[I)V" } : Jvm.MethodName)) ∈ lw_all := lw_g (lw_at lw_m3 181 rfl) rfl
theorem q760 : (Jvm.Cond.code ({ cls := "WildBells$World", name := "copy", desc := "([I[I)V" } : Jvm.MethodName) prog_12_method_2_code (2 : Nat) (Option.none : Option Jvm.ClassFile.FieldType)) ∈ lw_all := lw_g (lw_at lw_m3 182 rfl) rfl
theorem q761 : (Jvm.Cond.methodLink "WildBells$World" (33 : Nat) ({ cls := "java/lang/System", name := "arraycopy", desc := "(Ljava/lang/Object;ILjava/lang/Object;II)V" } : Jvm.MethodName)) ∈ lw_all := lw_g (lw_at lw_m3 183 rfl) rfl
theorem q970 : (Jvm.Cond.instanceMethod ({ cls := "WildBells$World", name := "draw", desc := "()I" } : Jvm.MethodName)) ∈ lw_all := lw_g (lw_at lw_m4 152 rfl) rfl
theorem q971 : (Jvm.Cond.selects "WildBells$World" ({ cls := "WildBells$World", name := "draw", desc := "()I" } : Jvm.MethodName) ({ cls := "WildBells$World", name := "draw", desc := "()I" } : Jvm.MethodName)) ∈ lw_all := lw_g (lw_at lw_m4 153 rfl) rfl
theorem q972 : (Jvm.Cond.code ({ cls := "WildBells$World", name := "draw", desc := "()I" } : Jvm.MethodName) prog_12_method_5_code (1 : Nat) (Option.some Jvm.ClassFile.FieldType.int)) ∈ lw_all := lw_g (lw_at lw_m4 154 rfl) rfl
theorem q973 : (Jvm.Cond.constant "WildBells$World" (53 : Nat) (1103515245 : Int32)) ∈ lw_all := lw_g (lw_at lw_m4 155 rfl) rfl
theorem in_X4 : ∀ w ∈ wsX40, w ∈ lw_all := lw_in wsX40 [251, 253, 255, 257, 259, 261, 263, 265] (by decide +kernel) (by decide +kernel)
