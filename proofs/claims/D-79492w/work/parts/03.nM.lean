/-! KiteRoofsModel -/
set_option maxRecDepth 100000
def RX6 : String := "KiteRoofsModel"
def TX6 : u_T := fun k => match k with
  | 0 => ("KiteRoofsModel", "g", "[I", true)
  | 1 => ("KiteRoofsModel", "kept", "[I", true)
  | 2 => ("KiteRoofsModel", "saved", "[I", true)
  | 3 => ("KiteRoofsModel", "ahead", "[I", true)
  | 4 => ("KiteRoofsModel", "thought", "[I", true)
  | 5 => ("KiteRoofsModel", "isSaved", "Z", false)
  | 6 => ("KiteRoofsModel", "changes", "I", false)
  | 7 => ("KiteRoofsModel", "isWithin", "Z", false)
  | 8 => ("KiteRoofsModel", "buffer", "[I", true)
  | 9 => ("KiteRoofsModel", "length", "I", false)
  | 10 => ("KiteRoofsModel", "fault", "I", false)
  | 11 => ("KiteRoofsModel", "reason", "I", false)
  | 12 => ("KiteRoofsModel", "order", "I", false)
  | 13 => ("KiteRoofsModel", "code", "I", false)
  | 14 => ("KiteRoofsModel", "cutAt", "[I", true)
  | 15 => ("KiteRoofsModel", "cutter", "[I", true)
  | 16 => ("KiteRoofsModel", "sawers", "[I", true)
  | 17 => ("KiteRoofsModel", "at", "I", false)
  | 18 => ("KiteRoofsModel", "orders", "[I", true)
  | _ => ("KiteRoofsModel", "many", "I", false)
def tyX6 : Nat → FieldType := fun k => match k with
  | 0 => .array .int
  | 1 => .array .int
  | 2 => .array .int
  | 3 => .array .int
  | 4 => .array .int
  | 5 => .boolean
  | 6 => .int
  | 7 => .boolean
  | 8 => .array .int
  | 9 => .int
  | 10 => .int
  | 11 => .int
  | 12 => .int
  | 13 => .int
  | 14 => .array .int
  | 15 => .array .int
  | 16 => .array .int
  | 17 => .int
  | 18 => .array .int
  | _ => .int
abbrev wsX60 : List Cond := u_ws RX6 TX6 20
set_option maxRecDepth 100000 in
theorem nmX6 : ∀ a, a < 20 → ∀ b, b < 20 → a ≠ b → (TX6 a).2.1 ≠ (TX6 b).2.1 := by decide +kernel
set_option maxRecDepth 100000 in
theorem tyX6_ok : ∀ k, k < 20 → parseFieldDescriptor (TX6 k).2.2.1 = some (tyX6 k) := by decide +kernel
abbrev cX6_init : ByteArray := prog_21_method_1_code
def yX6_init : MethodName := ⟨RX6, "<init>", "()V"⟩
def dkwX6_init_4 : List UInt8 := [3, 60, 27, 16, 10, 162, 0, 18, 42, 180, 0, 7, 5, 27, 104, 6, 79, 132, 1, 1, 167, 255, 238, 177]
abbrev dktX6_init_4 : List UInt8 := dkwX6_init_4 ++ []
def dkwX6_init_3 : List UInt8 := [16, 6, 188, 10, 181, 0, 38, 42, 16, 6, 188, 10, 181, 0, 41, 42, 17, 0, 155, 188, 10, 181, 0, 44]
abbrev dktX6_init_3 : List UInt8 := dkwX6_init_3 ++ dktX6_init_4
def dkwX6_init_2 : List UInt8 := [188, 10, 181, 0, 25, 42, 2, 181, 0, 28, 42, 2, 181, 0, 32, 42, 16, 6, 188, 10, 181, 0, 35, 42]
abbrev dktX6_init_2 : List UInt8 := dkwX6_init_2 ++ dktX6_init_3
def dkwX6_init_1 : List UInt8 := [188, 10, 181, 0, 16, 42, 16, 116, 188, 10, 181, 0, 19, 42, 16, 116, 188, 10, 181, 0, 22, 42, 16, 60]
abbrev dktX6_init_1 : List UInt8 := dkwX6_init_1 ++ dktX6_init_2
def dkwX6_init_0 : List UInt8 := [42, 183, 0, 1, 42, 16, 116, 188, 10, 181, 0, 7, 42, 17, 3, 160, 188, 10, 181, 0, 13, 42, 16, 116]
abbrev dktX6_init_0 : List UInt8 := dkwX6_init_0 ++ dktX6_init_1
theorem dksX6_init_0 : cX6_init.data.toList.drop 0 = dktX6_init_0 := by decide +kernel
theorem dksX6_init_1 : cX6_init.data.toList.drop 24 = dktX6_init_1 := dk_seg dksX6_init_0 24 rfl rfl
theorem dksX6_init_2 : cX6_init.data.toList.drop 48 = dktX6_init_2 := dk_seg dksX6_init_1 24 rfl rfl
theorem dksX6_init_3 : cX6_init.data.toList.drop 72 = dktX6_init_3 := dk_seg dksX6_init_2 24 rfl rfl
theorem dksX6_init_4 : cX6_init.data.toList.drop 96 = dktX6_init_4 := dk_seg dksX6_init_3 24 rfl rfl
theorem dX6_init_0 : decode cX6_init 0 = .ok (.aload_n 0, 1) := dk_42 (dk_at dksX6_init_0 0 rfl rfl)
theorem dX6_init_1 : decode cX6_init 1 = .ok (.invokespecial 1, 3) := dk_183 0 1 (dk_at dksX6_init_0 1 rfl rfl)
theorem dX6_init_4 : decode cX6_init 4 = .ok (.aload_n 0, 1) := dk_42 (dk_at dksX6_init_0 4 rfl rfl)
theorem dX6_init_5 : decode cX6_init 5 = .ok (.bipush 116, 2) := dk_16 116 (dk_at dksX6_init_0 5 rfl rfl)
theorem dX6_init_7 : decode cX6_init 7 = .ok (.newarray .int, 2) := dk_188_10 (dk_at dksX6_init_0 7 rfl rfl)
theorem dX6_init_9 : decode cX6_init 9 = .ok (.putfield 7, 3) := dk_181 0 7 (dk_at dksX6_init_0 9 rfl rfl)
theorem dX6_init_12 : decode cX6_init 12 = .ok (.aload_n 0, 1) := dk_42 (dk_at dksX6_init_0 12 rfl rfl)
theorem dX6_init_13 : decode cX6_init 13 = .ok (.sipush 928, 3) := dk_17 3 160 (dk_at dksX6_init_0 13 rfl rfl)
theorem dX6_init_16 : decode cX6_init 16 = .ok (.newarray .int, 2) := dk_188_10 (dk_at dksX6_init_0 16 rfl rfl)
theorem dX6_init_18 : decode cX6_init 18 = .ok (.putfield 13, 3) := dk_181 0 13 (dk_at dksX6_init_0 18 rfl rfl)
theorem dX6_init_21 : decode cX6_init 21 = .ok (.aload_n 0, 1) := dk_42 (dk_at dksX6_init_0 21 rfl rfl)
theorem dX6_init_22 : decode cX6_init 22 = .ok (.bipush 116, 2) := dk_16 116 (dk_at dksX6_init_0 22 rfl rfl)
theorem dX6_init_24 : decode cX6_init 24 = .ok (.newarray .int, 2) := dk_188_10 (dk_at dksX6_init_1 0 rfl rfl)
theorem dX6_init_26 : decode cX6_init 26 = .ok (.putfield 16, 3) := dk_181 0 16 (dk_at dksX6_init_1 2 rfl rfl)
theorem dX6_init_29 : decode cX6_init 29 = .ok (.aload_n 0, 1) := dk_42 (dk_at dksX6_init_1 5 rfl rfl)
theorem dX6_init_30 : decode cX6_init 30 = .ok (.bipush 116, 2) := dk_16 116 (dk_at dksX6_init_1 6 rfl rfl)
theorem dX6_init_32 : decode cX6_init 32 = .ok (.newarray .int, 2) := dk_188_10 (dk_at dksX6_init_1 8 rfl rfl)
theorem dX6_init_34 : decode cX6_init 34 = .ok (.putfield 19, 3) := dk_181 0 19 (dk_at dksX6_init_1 10 rfl rfl)
theorem dX6_init_37 : decode cX6_init 37 = .ok (.aload_n 0, 1) := dk_42 (dk_at dksX6_init_1 13 rfl rfl)
theorem dX6_init_38 : decode cX6_init 38 = .ok (.bipush 116, 2) := dk_16 116 (dk_at dksX6_init_1 14 rfl rfl)
theorem dX6_init_40 : decode cX6_init 40 = .ok (.newarray .int, 2) := dk_188_10 (dk_at dksX6_init_1 16 rfl rfl)
theorem dX6_init_42 : decode cX6_init 42 = .ok (.putfield 22, 3) := dk_181 0 22 (dk_at dksX6_init_1 18 rfl rfl)
theorem dX6_init_45 : decode cX6_init 45 = .ok (.aload_n 0, 1) := dk_42 (dk_at dksX6_init_1 21 rfl rfl)
theorem dX6_init_46 : decode cX6_init 46 = .ok (.bipush 60, 2) := dk_16 60 (dk_at dksX6_init_1 22 rfl rfl)
theorem dX6_init_48 : decode cX6_init 48 = .ok (.newarray .int, 2) := dk_188_10 (dk_at dksX6_init_2 0 rfl rfl)
theorem dX6_init_50 : decode cX6_init 50 = .ok (.putfield 25, 3) := dk_181 0 25 (dk_at dksX6_init_2 2 rfl rfl)
theorem dX6_init_53 : decode cX6_init 53 = .ok (.aload_n 0, 1) := dk_42 (dk_at dksX6_init_2 5 rfl rfl)
theorem dX6_init_54 : decode cX6_init 54 = .ok (.iconst (-1), 1) := dk_2 (dk_at dksX6_init_2 6 rfl rfl)
theorem dX6_init_55 : decode cX6_init 55 = .ok (.putfield 28, 3) := dk_181 0 28 (dk_at dksX6_init_2 7 rfl rfl)
theorem dX6_init_58 : decode cX6_init 58 = .ok (.aload_n 0, 1) := dk_42 (dk_at dksX6_init_2 10 rfl rfl)
theorem dX6_init_59 : decode cX6_init 59 = .ok (.iconst (-1), 1) := dk_2 (dk_at dksX6_init_2 11 rfl rfl)
theorem dX6_init_60 : decode cX6_init 60 = .ok (.putfield 32, 3) := dk_181 0 32 (dk_at dksX6_init_2 12 rfl rfl)
theorem dX6_init_63 : decode cX6_init 63 = .ok (.aload_n 0, 1) := dk_42 (dk_at dksX6_init_2 15 rfl rfl)
theorem dX6_init_64 : decode cX6_init 64 = .ok (.bipush 6, 2) := dk_16 6 (dk_at dksX6_init_2 16 rfl rfl)
theorem dX6_init_66 : decode cX6_init 66 = .ok (.newarray .int, 2) := dk_188_10 (dk_at dksX6_init_2 18 rfl rfl)
theorem dX6_init_68 : decode cX6_init 68 = .ok (.putfield 35, 3) := dk_181 0 35 (dk_at dksX6_init_2 20 rfl rfl)
theorem dX6_init_71 : decode cX6_init 71 = .ok (.aload_n 0, 1) := dk_42 (dk_at dksX6_init_2 23 rfl rfl)
theorem dX6_init_72 : decode cX6_init 72 = .ok (.bipush 6, 2) := dk_16 6 (dk_at dksX6_init_3 0 rfl rfl)
theorem dX6_init_74 : decode cX6_init 74 = .ok (.newarray .int, 2) := dk_188_10 (dk_at dksX6_init_3 2 rfl rfl)
theorem dX6_init_76 : decode cX6_init 76 = .ok (.putfield 38, 3) := dk_181 0 38 (dk_at dksX6_init_3 4 rfl rfl)
theorem dX6_init_79 : decode cX6_init 79 = .ok (.aload_n 0, 1) := dk_42 (dk_at dksX6_init_3 7 rfl rfl)
theorem dX6_init_80 : decode cX6_init 80 = .ok (.bipush 6, 2) := dk_16 6 (dk_at dksX6_init_3 8 rfl rfl)
theorem dX6_init_82 : decode cX6_init 82 = .ok (.newarray .int, 2) := dk_188_10 (dk_at dksX6_init_3 10 rfl rfl)
theorem dX6_init_84 : decode cX6_init 84 = .ok (.putfield 41, 3) := dk_181 0 41 (dk_at dksX6_init_3 12 rfl rfl)
theorem dX6_init_87 : decode cX6_init 87 = .ok (.aload_n 0, 1) := dk_42 (dk_at dksX6_init_3 15 rfl rfl)
theorem dX6_init_88 : decode cX6_init 88 = .ok (.sipush 155, 3) := dk_17 0 155 (dk_at dksX6_init_3 16 rfl rfl)
theorem dX6_init_91 : decode cX6_init 91 = .ok (.newarray .int, 2) := dk_188_10 (dk_at dksX6_init_3 19 rfl rfl)
theorem dX6_init_93 : decode cX6_init 93 = .ok (.putfield 44, 3) := dk_181 0 44 (dk_at dksX6_init_3 21 rfl rfl)
theorem dX6_init_96 : decode cX6_init 96 = .ok (.iconst 0, 1) := dk_3 (dk_at dksX6_init_4 0 rfl rfl)
theorem dX6_init_97 : decode cX6_init 97 = .ok (.istore_n 1, 1) := dk_60 (dk_at dksX6_init_4 1 rfl rfl)
theorem dX6_init_98 : decode cX6_init 98 = .ok (.iload_n 1, 1) := dk_27 (dk_at dksX6_init_4 2 rfl rfl)
theorem dX6_init_99 : decode cX6_init 99 = .ok (.bipush 10, 2) := dk_16 10 (dk_at dksX6_init_4 3 rfl rfl)
theorem dX6_init_101 : decode cX6_init 101 = .ok (.if_icmp .ge 18, 3) := dk_162 0 18 (dk_at dksX6_init_4 5 rfl rfl)
theorem dX6_init_104 : decode cX6_init 104 = .ok (.aload_n 0, 1) := dk_42 (dk_at dksX6_init_4 8 rfl rfl)
theorem dX6_init_105 : decode cX6_init 105 = .ok (.getfield 7, 3) := dk_180 0 7 (dk_at dksX6_init_4 9 rfl rfl)
theorem dX6_init_108 : decode cX6_init 108 = .ok (.iconst 2, 1) := dk_5 (dk_at dksX6_init_4 12 rfl rfl)
theorem dX6_init_109 : decode cX6_init 109 = .ok (.iload_n 1, 1) := dk_27 (dk_at dksX6_init_4 13 rfl rfl)
theorem dX6_init_110 : decode cX6_init 110 = .ok (.imul, 1) := dk_104 (dk_at dksX6_init_4 14 rfl rfl)
theorem dX6_init_111 : decode cX6_init 111 = .ok (.iconst 3, 1) := dk_6 (dk_at dksX6_init_4 15 rfl rfl)
theorem dX6_init_112 : decode cX6_init 112 = .ok (.iastore, 1) := dk_79 (dk_at dksX6_init_4 16 rfl rfl)
theorem dX6_init_113 : decode cX6_init 113 = .ok (.iinc 1 1, 3) := dk_132 1 1 (dk_at dksX6_init_4 17 rfl rfl)
theorem dX6_init_116 : decode cX6_init 116 = .ok (.goto (-18), 3) := dk_167 255 238 (dk_at dksX6_init_4 20 rfl rfl)
theorem dX6_init_119 : decode cX6_init 119 = .ok (.return_, 1) := dk_177 (dk_at dksX6_init_4 23 rfl rfl)
abbrev cX6_thrown : ByteArray := prog_21_method_2_code
def yX6_thrown : MethodName := ⟨RX6, "thrown", "()I"⟩
theorem dX6_thrown_0 : decode cX6_thrown 0 = .ok (.aload_n 0, 1) := by decide +kernel
theorem dX6_thrown_1 : decode cX6_thrown 1 = .ok (.getfield 47, 3) := by decide +kernel
theorem dX6_thrown_4 : decode cX6_thrown 4 = .ok (.ireturn, 1) := by decide +kernel
abbrev cX6_wind : ByteArray := prog_21_method_18_code
def yX6_wind : MethodName := ⟨RX6, "wind", "(III)I"⟩
def dkwX6_wind_3 : List UInt8 := [79, 42, 180, 0, 7, 5, 27, 104, 4, 96, 29, 79, 21, 4, 172]
abbrev dktX6_wind_3 : List UInt8 := dkwX6_wind_3 ++ []
def dkwX6_wind_2 : List UInt8 := [180, 0, 7, 182, 0, 79, 42, 180, 0, 7, 5, 27, 104, 46, 54, 4, 42, 180, 0, 7, 5, 27, 104, 28]
abbrev dktX6_wind_2 : List UInt8 := dkwX6_wind_2 ++ dktX6_wind_3
def dkwX6_wind_1 : List UInt8 := [16, 253, 6, 184, 0, 64, 153, 0, 7, 3, 167, 0, 4, 5, 182, 0, 76, 153, 0, 5, 3, 172, 42, 42]
abbrev dktX6_wind_1 : List UInt8 := dkwX6_wind_1 ++ dktX6_wind_2
def dkwX6_wind_0 : List UInt8 := [42, 27, 184, 0, 72, 154, 0, 7, 4, 167, 0, 28, 28, 3, 16, 9, 184, 0, 64, 153, 0, 17, 29]
abbrev dktX6_wind_0 : List UInt8 := dkwX6_wind_0 ++ dktX6_wind_1
theorem dksX6_wind_0 : cX6_wind.data.toList.drop 0 = dktX6_wind_0 := by decide +kernel
theorem dksX6_wind_1 : cX6_wind.data.toList.drop 23 = dktX6_wind_1 := dk_seg dksX6_wind_0 23 rfl rfl
theorem dksX6_wind_2 : cX6_wind.data.toList.drop 47 = dktX6_wind_2 := dk_seg dksX6_wind_1 24 rfl rfl
theorem dksX6_wind_3 : cX6_wind.data.toList.drop 71 = dktX6_wind_3 := dk_seg dksX6_wind_2 24 rfl rfl
theorem dX6_wind_0 : decode cX6_wind 0 = .ok (.aload_n 0, 1) := dk_42 (dk_at dksX6_wind_0 0 rfl rfl)
theorem dX6_wind_1 : decode cX6_wind 1 = .ok (.iload_n 1, 1) := dk_27 (dk_at dksX6_wind_0 1 rfl rfl)
theorem dX6_wind_2 : decode cX6_wind 2 = .ok (.invokestatic 72, 3) := dk_184 0 72 (dk_at dksX6_wind_0 2 rfl rfl)
theorem dX6_wind_5 : decode cX6_wind 5 = .ok (.ifCond .ne 7, 3) := dk_154 0 7 (dk_at dksX6_wind_0 5 rfl rfl)
theorem dX6_wind_8 : decode cX6_wind 8 = .ok (.iconst 1, 1) := dk_4 (dk_at dksX6_wind_0 8 rfl rfl)
theorem dX6_wind_9 : decode cX6_wind 9 = .ok (.goto 28, 3) := dk_167 0 28 (dk_at dksX6_wind_0 9 rfl rfl)
theorem dX6_wind_12 : decode cX6_wind 12 = .ok (.iload_n 2, 1) := dk_28 (dk_at dksX6_wind_0 12 rfl rfl)
theorem dX6_wind_13 : decode cX6_wind 13 = .ok (.iconst 0, 1) := dk_3 (dk_at dksX6_wind_0 13 rfl rfl)
theorem dX6_wind_14 : decode cX6_wind 14 = .ok (.bipush 9, 2) := dk_16 9 (dk_at dksX6_wind_0 14 rfl rfl)
theorem dX6_wind_16 : decode cX6_wind 16 = .ok (.invokestatic 64, 3) := dk_184 0 64 (dk_at dksX6_wind_0 16 rfl rfl)
theorem dX6_wind_19 : decode cX6_wind 19 = .ok (.ifCond .eq 17, 3) := dk_153 0 17 (dk_at dksX6_wind_0 19 rfl rfl)
theorem dX6_wind_22 : decode cX6_wind 22 = .ok (.iload_n 3, 1) := dk_29 (dk_at dksX6_wind_0 22 rfl rfl)
theorem dX6_wind_23 : decode cX6_wind 23 = .ok (.bipush (-3), 2) := dk_16 253 (dk_at dksX6_wind_1 0 rfl rfl)
theorem dX6_wind_25 : decode cX6_wind 25 = .ok (.iconst 3, 1) := dk_6 (dk_at dksX6_wind_1 2 rfl rfl)
theorem dX6_wind_26 : decode cX6_wind 26 = .ok (.invokestatic 64, 3) := dk_184 0 64 (dk_at dksX6_wind_1 3 rfl rfl)
theorem dX6_wind_29 : decode cX6_wind 29 = .ok (.ifCond .eq 7, 3) := dk_153 0 7 (dk_at dksX6_wind_1 6 rfl rfl)
theorem dX6_wind_32 : decode cX6_wind 32 = .ok (.iconst 0, 1) := dk_3 (dk_at dksX6_wind_1 9 rfl rfl)
theorem dX6_wind_33 : decode cX6_wind 33 = .ok (.goto 4, 3) := dk_167 0 4 (dk_at dksX6_wind_1 10 rfl rfl)
theorem dX6_wind_36 : decode cX6_wind 36 = .ok (.iconst 2, 1) := dk_5 (dk_at dksX6_wind_1 13 rfl rfl)
theorem dX6_wind_37 : decode cX6_wind 37 = .ok (.invokevirtual 76, 3) := dk_182 0 76 (dk_at dksX6_wind_1 14 rfl rfl)
theorem dX6_wind_40 : decode cX6_wind 40 = .ok (.ifCond .eq 5, 3) := dk_153 0 5 (dk_at dksX6_wind_1 17 rfl rfl)
theorem dX6_wind_43 : decode cX6_wind 43 = .ok (.iconst 0, 1) := dk_3 (dk_at dksX6_wind_1 20 rfl rfl)
theorem dX6_wind_44 : decode cX6_wind 44 = .ok (.ireturn, 1) := dk_172 (dk_at dksX6_wind_1 21 rfl rfl)
theorem dX6_wind_45 : decode cX6_wind 45 = .ok (.aload_n 0, 1) := dk_42 (dk_at dksX6_wind_1 22 rfl rfl)
theorem dX6_wind_46 : decode cX6_wind 46 = .ok (.aload_n 0, 1) := dk_42 (dk_at dksX6_wind_1 23 rfl rfl)
theorem dX6_wind_47 : decode cX6_wind 47 = .ok (.getfield 7, 3) := dk_180 0 7 (dk_at dksX6_wind_2 0 rfl rfl)
theorem dX6_wind_50 : decode cX6_wind 50 = .ok (.invokevirtual 79, 3) := dk_182 0 79 (dk_at dksX6_wind_2 3 rfl rfl)
theorem dX6_wind_53 : decode cX6_wind 53 = .ok (.aload_n 0, 1) := dk_42 (dk_at dksX6_wind_2 6 rfl rfl)
theorem dX6_wind_54 : decode cX6_wind 54 = .ok (.getfield 7, 3) := dk_180 0 7 (dk_at dksX6_wind_2 7 rfl rfl)
theorem dX6_wind_57 : decode cX6_wind 57 = .ok (.iconst 2, 1) := dk_5 (dk_at dksX6_wind_2 10 rfl rfl)
theorem dX6_wind_58 : decode cX6_wind 58 = .ok (.iload_n 1, 1) := dk_27 (dk_at dksX6_wind_2 11 rfl rfl)
theorem dX6_wind_59 : decode cX6_wind 59 = .ok (.imul, 1) := dk_104 (dk_at dksX6_wind_2 12 rfl rfl)
theorem dX6_wind_60 : decode cX6_wind 60 = .ok (.iaload, 1) := dk_46 (dk_at dksX6_wind_2 13 rfl rfl)
theorem dX6_wind_61 : decode cX6_wind 61 = .ok (.istore 4, 2) := dk_54 4 (dk_at dksX6_wind_2 14 rfl rfl)
theorem dX6_wind_63 : decode cX6_wind 63 = .ok (.aload_n 0, 1) := dk_42 (dk_at dksX6_wind_2 16 rfl rfl)
theorem dX6_wind_64 : decode cX6_wind 64 = .ok (.getfield 7, 3) := dk_180 0 7 (dk_at dksX6_wind_2 17 rfl rfl)
theorem dX6_wind_67 : decode cX6_wind 67 = .ok (.iconst 2, 1) := dk_5 (dk_at dksX6_wind_2 20 rfl rfl)
theorem dX6_wind_68 : decode cX6_wind 68 = .ok (.iload_n 1, 1) := dk_27 (dk_at dksX6_wind_2 21 rfl rfl)
theorem dX6_wind_69 : decode cX6_wind 69 = .ok (.imul, 1) := dk_104 (dk_at dksX6_wind_2 22 rfl rfl)
theorem dX6_wind_70 : decode cX6_wind 70 = .ok (.iload_n 2, 1) := dk_28 (dk_at dksX6_wind_2 23 rfl rfl)
theorem dX6_wind_71 : decode cX6_wind 71 = .ok (.iastore, 1) := dk_79 (dk_at dksX6_wind_3 0 rfl rfl)
theorem dX6_wind_72 : decode cX6_wind 72 = .ok (.aload_n 0, 1) := dk_42 (dk_at dksX6_wind_3 1 rfl rfl)
theorem dX6_wind_73 : decode cX6_wind 73 = .ok (.getfield 7, 3) := dk_180 0 7 (dk_at dksX6_wind_3 2 rfl rfl)
theorem dX6_wind_76 : decode cX6_wind 76 = .ok (.iconst 2, 1) := dk_5 (dk_at dksX6_wind_3 5 rfl rfl)
theorem dX6_wind_77 : decode cX6_wind 77 = .ok (.iload_n 1, 1) := dk_27 (dk_at dksX6_wind_3 6 rfl rfl)
theorem dX6_wind_78 : decode cX6_wind 78 = .ok (.imul, 1) := dk_104 (dk_at dksX6_wind_3 7 rfl rfl)
theorem dX6_wind_79 : decode cX6_wind 79 = .ok (.iconst 1, 1) := dk_4 (dk_at dksX6_wind_3 8 rfl rfl)
theorem dX6_wind_80 : decode cX6_wind 80 = .ok (.iadd, 1) := dk_96 (dk_at dksX6_wind_3 9 rfl rfl)
theorem dX6_wind_81 : decode cX6_wind 81 = .ok (.iload_n 3, 1) := dk_29 (dk_at dksX6_wind_3 10 rfl rfl)
theorem dX6_wind_82 : decode cX6_wind 82 = .ok (.iastore, 1) := dk_79 (dk_at dksX6_wind_3 11 rfl rfl)
theorem dX6_wind_83 : decode cX6_wind 83 = .ok (.iload 4, 2) := dk_21 4 (dk_at dksX6_wind_3 12 rfl rfl)
theorem dX6_wind_85 : decode cX6_wind 85 = .ok (.ireturn, 1) := dk_172 (dk_at dksX6_wind_3 14 rfl rfl)
abbrev cX6_isLayer : ByteArray := prog_21_method_11_code
def yX6_isLayer : MethodName := ⟨RX6, "isLayer", "(I)Z"⟩
def dkwX6_isLayer_0 : List UInt8 := [26, 3, 16, 9, 184, 0, 64, 172]
abbrev dktX6_isLayer_0 : List UInt8 := dkwX6_isLayer_0 ++ []
theorem dksX6_isLayer_0 : cX6_isLayer.data.toList.drop 0 = dktX6_isLayer_0 := by decide +kernel
theorem dX6_isLayer_0 : decode cX6_isLayer 0 = .ok (.iload_n 0, 1) := dk_26 (dk_at dksX6_isLayer_0 0 rfl rfl)
theorem dX6_isLayer_1 : decode cX6_isLayer 1 = .ok (.iconst 0, 1) := dk_3 (dk_at dksX6_isLayer_0 1 rfl rfl)
theorem dX6_isLayer_2 : decode cX6_isLayer 2 = .ok (.bipush 9, 2) := dk_16 9 (dk_at dksX6_isLayer_0 2 rfl rfl)
theorem dX6_isLayer_4 : decode cX6_isLayer 4 = .ok (.invokestatic 64, 3) := dk_184 0 64 (dk_at dksX6_isLayer_0 4 rfl rfl)
theorem dX6_isLayer_7 : decode cX6_isLayer 7 = .ok (.ireturn, 1) := dk_172 (dk_at dksX6_isLayer_0 7 rfl rfl)
abbrev cX6_in : ByteArray := prog_21_method_5_code
def yX6_in : MethodName := ⟨RX6, "in", "(III)Z"⟩
def dkwX6_in_0 : List UInt8 := [26, 27, 161, 0, 12, 26, 28, 163, 0, 7, 4, 167, 0, 4, 3, 172]
abbrev dktX6_in_0 : List UInt8 := dkwX6_in_0 ++ []
theorem dksX6_in_0 : cX6_in.data.toList.drop 0 = dktX6_in_0 := by decide +kernel
theorem dX6_in_0 : decode cX6_in 0 = .ok (.iload_n 0, 1) := dk_26 (dk_at dksX6_in_0 0 rfl rfl)
theorem dX6_in_1 : decode cX6_in 1 = .ok (.iload_n 1, 1) := dk_27 (dk_at dksX6_in_0 1 rfl rfl)
theorem dX6_in_2 : decode cX6_in 2 = .ok (.if_icmp .lt 12, 3) := dk_161 0 12 (dk_at dksX6_in_0 2 rfl rfl)
theorem dX6_in_5 : decode cX6_in 5 = .ok (.iload_n 0, 1) := dk_26 (dk_at dksX6_in_0 5 rfl rfl)
theorem dX6_in_6 : decode cX6_in 6 = .ok (.iload_n 2, 1) := dk_28 (dk_at dksX6_in_0 6 rfl rfl)
theorem dX6_in_7 : decode cX6_in 7 = .ok (.if_icmp .gt 7, 3) := dk_163 0 7 (dk_at dksX6_in_0 7 rfl rfl)
theorem dX6_in_10 : decode cX6_in 10 = .ok (.iconst 1, 1) := dk_4 (dk_at dksX6_in_0 10 rfl rfl)
theorem dX6_in_11 : decode cX6_in 11 = .ok (.goto 4, 3) := dk_167 0 4 (dk_at dksX6_in_0 11 rfl rfl)
theorem dX6_in_14 : decode cX6_in 14 = .ok (.iconst 0, 1) := dk_3 (dk_at dksX6_in_0 14 rfl rfl)
theorem dX6_in_15 : decode cX6_in 15 = .ok (.ireturn, 1) := dk_172 (dk_at dksX6_in_0 15 rfl rfl)
abbrev cX6_fails : ByteArray := prog_21_method_3_code
def yX6_fails : MethodName := ⟨RX6, "fails", "(I)Z"⟩
def dkwX6_fails_0 : List UInt8 := [42, 27, 181, 0, 47, 27, 158, 0, 7, 4, 167, 0, 4, 3, 172]
abbrev dktX6_fails_0 : List UInt8 := dkwX6_fails_0 ++ []
theorem dksX6_fails_0 : cX6_fails.data.toList.drop 0 = dktX6_fails_0 := by decide +kernel
theorem dX6_fails_0 : decode cX6_fails 0 = .ok (.aload_n 0, 1) := dk_42 (dk_at dksX6_fails_0 0 rfl rfl)
theorem dX6_fails_1 : decode cX6_fails 1 = .ok (.iload_n 1, 1) := dk_27 (dk_at dksX6_fails_0 1 rfl rfl)
theorem dX6_fails_2 : decode cX6_fails 2 = .ok (.putfield 47, 3) := dk_181 0 47 (dk_at dksX6_fails_0 2 rfl rfl)
theorem dX6_fails_5 : decode cX6_fails 5 = .ok (.iload_n 1, 1) := dk_27 (dk_at dksX6_fails_0 5 rfl rfl)
theorem dX6_fails_6 : decode cX6_fails 6 = .ok (.ifCond .le 7, 3) := dk_158 0 7 (dk_at dksX6_fails_0 6 rfl rfl)
theorem dX6_fails_9 : decode cX6_fails 9 = .ok (.iconst 1, 1) := dk_4 (dk_at dksX6_fails_0 9 rfl rfl)
theorem dX6_fails_10 : decode cX6_fails 10 = .ok (.goto 4, 3) := dk_167 0 4 (dk_at dksX6_fails_0 10 rfl rfl)
theorem dX6_fails_13 : decode cX6_fails 13 = .ok (.iconst 0, 1) := dk_3 (dk_at dksX6_fails_0 13 rfl rfl)
theorem dX6_fails_14 : decode cX6_fails 14 = .ok (.ireturn, 1) := dk_172 (dk_at dksX6_fails_0 14 rfl rfl)
abbrev cX6_keeps : ByteArray := prog_21_method_9_code
def yX6_keeps : MethodName := ⟨RX6, "keeps", "([I)V"⟩
def dkwX6_keeps_3 : List UInt8 := [184, 0, 60, 42, 89, 180, 0, 57, 4, 96, 181, 0, 57, 177]
abbrev dktX6_keeps_3 : List UInt8 := dkwX6_keeps_3 ++ []
def dkwX6_keeps_2 : List UInt8 := [42, 89, 180, 0, 57, 4, 100, 181, 0, 57, 43, 3, 42, 180, 0, 13, 16, 116, 42, 180, 0, 57, 104]
abbrev dktX6_keeps_2 : List UInt8 := dkwX6_keeps_2 ++ dktX6_keeps_3
def dkwX6_keeps_1 : List UInt8 := [162, 0, 24, 42, 180, 0, 13, 28, 42, 180, 0, 13, 28, 16, 116, 96, 46, 79, 132, 2, 1, 167, 255, 231]
abbrev dktX6_keeps_1 : List UInt8 := dkwX6_keeps_1 ++ dktX6_keeps_2
def dkwX6_keeps_0 : List UInt8 := [42, 180, 0, 53, 153, 0, 4, 177, 42, 180, 0, 57, 16, 8, 160, 0, 43, 3, 61, 28, 17, 3, 44]
abbrev dktX6_keeps_0 : List UInt8 := dkwX6_keeps_0 ++ dktX6_keeps_1
theorem dksX6_keeps_0 : cX6_keeps.data.toList.drop 0 = dktX6_keeps_0 := by decide +kernel
theorem dksX6_keeps_1 : cX6_keeps.data.toList.drop 23 = dktX6_keeps_1 := dk_seg dksX6_keeps_0 23 rfl rfl
theorem dksX6_keeps_2 : cX6_keeps.data.toList.drop 47 = dktX6_keeps_2 := dk_seg dksX6_keeps_1 24 rfl rfl
theorem dksX6_keeps_3 : cX6_keeps.data.toList.drop 70 = dktX6_keeps_3 := dk_seg dksX6_keeps_2 23 rfl rfl
theorem dX6_keeps_0 : decode cX6_keeps 0 = .ok (.aload_n 0, 1) := dk_42 (dk_at dksX6_keeps_0 0 rfl rfl)
theorem dX6_keeps_1 : decode cX6_keeps 1 = .ok (.getfield 53, 3) := dk_180 0 53 (dk_at dksX6_keeps_0 1 rfl rfl)
theorem dX6_keeps_4 : decode cX6_keeps 4 = .ok (.ifCond .eq 4, 3) := dk_153 0 4 (dk_at dksX6_keeps_0 4 rfl rfl)
theorem dX6_keeps_7 : decode cX6_keeps 7 = .ok (.return_, 1) := dk_177 (dk_at dksX6_keeps_0 7 rfl rfl)
theorem dX6_keeps_8 : decode cX6_keeps 8 = .ok (.aload_n 0, 1) := dk_42 (dk_at dksX6_keeps_0 8 rfl rfl)
theorem dX6_keeps_9 : decode cX6_keeps 9 = .ok (.getfield 57, 3) := dk_180 0 57 (dk_at dksX6_keeps_0 9 rfl rfl)
theorem dX6_keeps_12 : decode cX6_keeps 12 = .ok (.bipush 8, 2) := dk_16 8 (dk_at dksX6_keeps_0 12 rfl rfl)
theorem dX6_keeps_14 : decode cX6_keeps 14 = .ok (.if_icmp .ne 43, 3) := dk_160 0 43 (dk_at dksX6_keeps_0 14 rfl rfl)
theorem dX6_keeps_17 : decode cX6_keeps 17 = .ok (.iconst 0, 1) := dk_3 (dk_at dksX6_keeps_0 17 rfl rfl)
theorem dX6_keeps_18 : decode cX6_keeps 18 = .ok (.istore_n 2, 1) := dk_61 (dk_at dksX6_keeps_0 18 rfl rfl)
theorem dX6_keeps_19 : decode cX6_keeps 19 = .ok (.iload_n 2, 1) := dk_28 (dk_at dksX6_keeps_0 19 rfl rfl)
theorem dX6_keeps_20 : decode cX6_keeps 20 = .ok (.sipush 812, 3) := dk_17 3 44 (dk_at dksX6_keeps_0 20 rfl rfl)
theorem dX6_keeps_23 : decode cX6_keeps 23 = .ok (.if_icmp .ge 24, 3) := dk_162 0 24 (dk_at dksX6_keeps_1 0 rfl rfl)
theorem dX6_keeps_26 : decode cX6_keeps 26 = .ok (.aload_n 0, 1) := dk_42 (dk_at dksX6_keeps_1 3 rfl rfl)
theorem dX6_keeps_27 : decode cX6_keeps 27 = .ok (.getfield 13, 3) := dk_180 0 13 (dk_at dksX6_keeps_1 4 rfl rfl)
theorem dX6_keeps_30 : decode cX6_keeps 30 = .ok (.iload_n 2, 1) := dk_28 (dk_at dksX6_keeps_1 7 rfl rfl)
theorem dX6_keeps_31 : decode cX6_keeps 31 = .ok (.aload_n 0, 1) := dk_42 (dk_at dksX6_keeps_1 8 rfl rfl)
theorem dX6_keeps_32 : decode cX6_keeps 32 = .ok (.getfield 13, 3) := dk_180 0 13 (dk_at dksX6_keeps_1 9 rfl rfl)
theorem dX6_keeps_35 : decode cX6_keeps 35 = .ok (.iload_n 2, 1) := dk_28 (dk_at dksX6_keeps_1 12 rfl rfl)
theorem dX6_keeps_36 : decode cX6_keeps 36 = .ok (.bipush 116, 2) := dk_16 116 (dk_at dksX6_keeps_1 13 rfl rfl)
theorem dX6_keeps_38 : decode cX6_keeps 38 = .ok (.iadd, 1) := dk_96 (dk_at dksX6_keeps_1 15 rfl rfl)
theorem dX6_keeps_39 : decode cX6_keeps 39 = .ok (.iaload, 1) := dk_46 (dk_at dksX6_keeps_1 16 rfl rfl)
theorem dX6_keeps_40 : decode cX6_keeps 40 = .ok (.iastore, 1) := dk_79 (dk_at dksX6_keeps_1 17 rfl rfl)
theorem dX6_keeps_41 : decode cX6_keeps 41 = .ok (.iinc 2 1, 3) := dk_132 2 1 (dk_at dksX6_keeps_1 18 rfl rfl)
theorem dX6_keeps_44 : decode cX6_keeps 44 = .ok (.goto (-25), 3) := dk_167 255 231 (dk_at dksX6_keeps_1 21 rfl rfl)
theorem dX6_keeps_47 : decode cX6_keeps 47 = .ok (.aload_n 0, 1) := dk_42 (dk_at dksX6_keeps_2 0 rfl rfl)
theorem dX6_keeps_48 : decode cX6_keeps 48 = .ok (.dup, 1) := dk_89 (dk_at dksX6_keeps_2 1 rfl rfl)
theorem dX6_keeps_49 : decode cX6_keeps 49 = .ok (.getfield 57, 3) := dk_180 0 57 (dk_at dksX6_keeps_2 2 rfl rfl)
theorem dX6_keeps_52 : decode cX6_keeps 52 = .ok (.iconst 1, 1) := dk_4 (dk_at dksX6_keeps_2 5 rfl rfl)
theorem dX6_keeps_53 : decode cX6_keeps 53 = .ok (.isub, 1) := dk_100 (dk_at dksX6_keeps_2 6 rfl rfl)
theorem dX6_keeps_54 : decode cX6_keeps 54 = .ok (.putfield 57, 3) := dk_181 0 57 (dk_at dksX6_keeps_2 7 rfl rfl)
theorem dX6_keeps_57 : decode cX6_keeps 57 = .ok (.aload_n 1, 1) := dk_43 (dk_at dksX6_keeps_2 10 rfl rfl)
theorem dX6_keeps_58 : decode cX6_keeps 58 = .ok (.iconst 0, 1) := dk_3 (dk_at dksX6_keeps_2 11 rfl rfl)
theorem dX6_keeps_59 : decode cX6_keeps 59 = .ok (.aload_n 0, 1) := dk_42 (dk_at dksX6_keeps_2 12 rfl rfl)
theorem dX6_keeps_60 : decode cX6_keeps 60 = .ok (.getfield 13, 3) := dk_180 0 13 (dk_at dksX6_keeps_2 13 rfl rfl)
theorem dX6_keeps_63 : decode cX6_keeps 63 = .ok (.bipush 116, 2) := dk_16 116 (dk_at dksX6_keeps_2 16 rfl rfl)
theorem dX6_keeps_65 : decode cX6_keeps 65 = .ok (.aload_n 0, 1) := dk_42 (dk_at dksX6_keeps_2 18 rfl rfl)
theorem dX6_keeps_66 : decode cX6_keeps 66 = .ok (.getfield 57, 3) := dk_180 0 57 (dk_at dksX6_keeps_2 19 rfl rfl)
theorem dX6_keeps_69 : decode cX6_keeps 69 = .ok (.imul, 1) := dk_104 (dk_at dksX6_keeps_2 22 rfl rfl)
theorem dX6_keeps_70 : decode cX6_keeps 70 = .ok (.invokestatic 60, 3) := dk_184 0 60 (dk_at dksX6_keeps_3 0 rfl rfl)
theorem dX6_keeps_73 : decode cX6_keeps 73 = .ok (.aload_n 0, 1) := dk_42 (dk_at dksX6_keeps_3 3 rfl rfl)
theorem dX6_keeps_74 : decode cX6_keeps 74 = .ok (.dup, 1) := dk_89 (dk_at dksX6_keeps_3 4 rfl rfl)
theorem dX6_keeps_75 : decode cX6_keeps 75 = .ok (.getfield 57, 3) := dk_180 0 57 (dk_at dksX6_keeps_3 5 rfl rfl)
theorem dX6_keeps_78 : decode cX6_keeps 78 = .ok (.iconst 1, 1) := dk_4 (dk_at dksX6_keeps_3 8 rfl rfl)
theorem dX6_keeps_79 : decode cX6_keeps 79 = .ok (.iadd, 1) := dk_96 (dk_at dksX6_keeps_3 9 rfl rfl)
theorem dX6_keeps_80 : decode cX6_keeps 80 = .ok (.putfield 57, 3) := dk_181 0 57 (dk_at dksX6_keeps_3 10 rfl rfl)
theorem dX6_keeps_83 : decode cX6_keeps 83 = .ok (.return_, 1) := dk_177 (dk_at dksX6_keeps_3 13 rfl rfl)
abbrev cX6_copies : ByteArray := prog_21_method_8_code
def yX6_copies : MethodName := ⟨RX6, "copies", "([II[II)V"⟩
def dkwX6_copies_1 : List UInt8 := [132, 4, 1, 167, 255, 234, 177]
abbrev dktX6_copies_1 : List UInt8 := dkwX6_copies_1 ++ []
def dkwX6_copies_0 : List UInt8 := [3, 54, 4, 21, 4, 16, 116, 162, 0, 21, 44, 29, 21, 4, 96, 42, 27, 21, 4, 96, 46, 79]
abbrev dktX6_copies_0 : List UInt8 := dkwX6_copies_0 ++ dktX6_copies_1
theorem dksX6_copies_0 : cX6_copies.data.toList.drop 0 = dktX6_copies_0 := by decide +kernel
theorem dksX6_copies_1 : cX6_copies.data.toList.drop 22 = dktX6_copies_1 := dk_seg dksX6_copies_0 22 rfl rfl
theorem dX6_copies_0 : decode cX6_copies 0 = .ok (.iconst 0, 1) := dk_3 (dk_at dksX6_copies_0 0 rfl rfl)
theorem dX6_copies_1 : decode cX6_copies 1 = .ok (.istore 4, 2) := dk_54 4 (dk_at dksX6_copies_0 1 rfl rfl)
theorem dX6_copies_3 : decode cX6_copies 3 = .ok (.iload 4, 2) := dk_21 4 (dk_at dksX6_copies_0 3 rfl rfl)
theorem dX6_copies_5 : decode cX6_copies 5 = .ok (.bipush 116, 2) := dk_16 116 (dk_at dksX6_copies_0 5 rfl rfl)
theorem dX6_copies_7 : decode cX6_copies 7 = .ok (.if_icmp .ge 21, 3) := dk_162 0 21 (dk_at dksX6_copies_0 7 rfl rfl)
theorem dX6_copies_10 : decode cX6_copies 10 = .ok (.aload_n 2, 1) := dk_44 (dk_at dksX6_copies_0 10 rfl rfl)
theorem dX6_copies_11 : decode cX6_copies 11 = .ok (.iload_n 3, 1) := dk_29 (dk_at dksX6_copies_0 11 rfl rfl)
theorem dX6_copies_12 : decode cX6_copies 12 = .ok (.iload 4, 2) := dk_21 4 (dk_at dksX6_copies_0 12 rfl rfl)
theorem dX6_copies_14 : decode cX6_copies 14 = .ok (.iadd, 1) := dk_96 (dk_at dksX6_copies_0 14 rfl rfl)
theorem dX6_copies_15 : decode cX6_copies 15 = .ok (.aload_n 0, 1) := dk_42 (dk_at dksX6_copies_0 15 rfl rfl)
theorem dX6_copies_16 : decode cX6_copies 16 = .ok (.iload_n 1, 1) := dk_27 (dk_at dksX6_copies_0 16 rfl rfl)
theorem dX6_copies_17 : decode cX6_copies 17 = .ok (.iload 4, 2) := dk_21 4 (dk_at dksX6_copies_0 17 rfl rfl)
theorem dX6_copies_19 : decode cX6_copies 19 = .ok (.iadd, 1) := dk_96 (dk_at dksX6_copies_0 19 rfl rfl)
theorem dX6_copies_20 : decode cX6_copies 20 = .ok (.iaload, 1) := dk_46 (dk_at dksX6_copies_0 20 rfl rfl)
theorem dX6_copies_21 : decode cX6_copies 21 = .ok (.iastore, 1) := dk_79 (dk_at dksX6_copies_0 21 rfl rfl)
theorem dX6_copies_22 : decode cX6_copies 22 = .ok (.iinc 4 1, 3) := dk_132 4 1 (dk_at dksX6_copies_1 0 rfl rfl)
theorem dX6_copies_25 : decode cX6_copies 25 = .ok (.goto (-22), 3) := dk_167 255 234 (dk_at dksX6_copies_1 3 rfl rfl)
theorem dX6_copies_28 : decode cX6_copies 28 = .ok (.return_, 1) := dk_177 (dk_at dksX6_copies_1 6 rfl rfl)
abbrev cX6_windOf : ByteArray := prog_21_method_19_code
def yX6_windOf : MethodName := ⟨RX6, "windOf", "(IZ)I"⟩
def dkwX6_windOf_1 : List UInt8 := [180, 0, 7, 5, 27, 104, 28, 153, 0, 7, 4, 167, 0, 4, 3, 96, 46, 172]
abbrev dktX6_windOf_1 : List UInt8 := dkwX6_windOf_1 ++ []
def dkwX6_windOf_0 : List UInt8 := [42, 27, 184, 0, 72, 153, 0, 7, 3, 167, 0, 4, 4, 182, 0, 76, 153, 0, 7, 3, 167, 0, 21, 42]
abbrev dktX6_windOf_0 : List UInt8 := dkwX6_windOf_0 ++ dktX6_windOf_1
theorem dksX6_windOf_0 : cX6_windOf.data.toList.drop 0 = dktX6_windOf_0 := by decide +kernel
theorem dksX6_windOf_1 : cX6_windOf.data.toList.drop 24 = dktX6_windOf_1 := dk_seg dksX6_windOf_0 24 rfl rfl
theorem dX6_windOf_0 : decode cX6_windOf 0 = .ok (.aload_n 0, 1) := dk_42 (dk_at dksX6_windOf_0 0 rfl rfl)
theorem dX6_windOf_1 : decode cX6_windOf 1 = .ok (.iload_n 1, 1) := dk_27 (dk_at dksX6_windOf_0 1 rfl rfl)
theorem dX6_windOf_2 : decode cX6_windOf 2 = .ok (.invokestatic 72, 3) := dk_184 0 72 (dk_at dksX6_windOf_0 2 rfl rfl)
theorem dX6_windOf_5 : decode cX6_windOf 5 = .ok (.ifCond .eq 7, 3) := dk_153 0 7 (dk_at dksX6_windOf_0 5 rfl rfl)
theorem dX6_windOf_8 : decode cX6_windOf 8 = .ok (.iconst 0, 1) := dk_3 (dk_at dksX6_windOf_0 8 rfl rfl)
theorem dX6_windOf_9 : decode cX6_windOf 9 = .ok (.goto 4, 3) := dk_167 0 4 (dk_at dksX6_windOf_0 9 rfl rfl)
theorem dX6_windOf_12 : decode cX6_windOf 12 = .ok (.iconst 1, 1) := dk_4 (dk_at dksX6_windOf_0 12 rfl rfl)
theorem dX6_windOf_13 : decode cX6_windOf 13 = .ok (.invokevirtual 76, 3) := dk_182 0 76 (dk_at dksX6_windOf_0 13 rfl rfl)
theorem dX6_windOf_16 : decode cX6_windOf 16 = .ok (.ifCond .eq 7, 3) := dk_153 0 7 (dk_at dksX6_windOf_0 16 rfl rfl)
theorem dX6_windOf_19 : decode cX6_windOf 19 = .ok (.iconst 0, 1) := dk_3 (dk_at dksX6_windOf_0 19 rfl rfl)
theorem dX6_windOf_20 : decode cX6_windOf 20 = .ok (.goto 21, 3) := dk_167 0 21 (dk_at dksX6_windOf_0 20 rfl rfl)
theorem dX6_windOf_23 : decode cX6_windOf 23 = .ok (.aload_n 0, 1) := dk_42 (dk_at dksX6_windOf_0 23 rfl rfl)
theorem dX6_windOf_24 : decode cX6_windOf 24 = .ok (.getfield 7, 3) := dk_180 0 7 (dk_at dksX6_windOf_1 0 rfl rfl)
theorem dX6_windOf_27 : decode cX6_windOf 27 = .ok (.iconst 2, 1) := dk_5 (dk_at dksX6_windOf_1 3 rfl rfl)
theorem dX6_windOf_28 : decode cX6_windOf 28 = .ok (.iload_n 1, 1) := dk_27 (dk_at dksX6_windOf_1 4 rfl rfl)
theorem dX6_windOf_29 : decode cX6_windOf 29 = .ok (.imul, 1) := dk_104 (dk_at dksX6_windOf_1 5 rfl rfl)
theorem dX6_windOf_30 : decode cX6_windOf 30 = .ok (.iload_n 2, 1) := dk_28 (dk_at dksX6_windOf_1 6 rfl rfl)
theorem dX6_windOf_31 : decode cX6_windOf 31 = .ok (.ifCond .eq 7, 3) := dk_153 0 7 (dk_at dksX6_windOf_1 7 rfl rfl)
theorem dX6_windOf_34 : decode cX6_windOf 34 = .ok (.iconst 1, 1) := dk_4 (dk_at dksX6_windOf_1 10 rfl rfl)
theorem dX6_windOf_35 : decode cX6_windOf 35 = .ok (.goto 4, 3) := dk_167 0 4 (dk_at dksX6_windOf_1 11 rfl rfl)
theorem dX6_windOf_38 : decode cX6_windOf 38 = .ok (.iconst 0, 1) := dk_3 (dk_at dksX6_windOf_1 14 rfl rfl)
theorem dX6_windOf_39 : decode cX6_windOf 39 = .ok (.iadd, 1) := dk_96 (dk_at dksX6_windOf_1 15 rfl rfl)
theorem dX6_windOf_40 : decode cX6_windOf 40 = .ok (.iaload, 1) := dk_46 (dk_at dksX6_windOf_1 16 rfl rfl)
theorem dX6_windOf_41 : decode cX6_windOf 41 = .ok (.ireturn, 1) := dk_172 (dk_at dksX6_windOf_1 17 rfl rfl)
abbrev cX6_kite : ByteArray := prog_21_method_20_code
def yX6_kite : MethodName := ⟨RX6, "kite", "(IIII)I"⟩
def dkwX6_kite_7 : List UInt8 := [46, 4, 96, 79, 21, 5, 172]
abbrev dktX6_kite_7 : List UInt8 := dkwX6_kite_7 ++ []
def dkwX6_kite_6 : List UInt8 := [21, 5, 16, 12, 29, 182, 0, 86, 42, 21, 5, 7, 21, 4, 182, 0, 86, 42, 180, 0, 7, 16, 25, 92]
abbrev dktX6_kite_6 : List UInt8 := dkwX6_kite_6 ++ dktX6_kite_7
def dkwX6_kite_5 : List UInt8 := [21, 5, 4, 27, 182, 0, 86, 42, 21, 5, 5, 28, 182, 0, 86, 42, 21, 5, 6, 29, 182, 0, 86, 42]
abbrev dktX6_kite_5 : List UInt8 := dkwX6_kite_5 ++ dktX6_kite_6
def dkwX6_kite_4 : List UInt8 := [21, 6, 16, 15, 162, 0, 18, 42, 21, 5, 21, 6, 3, 182, 0, 86, 132, 6, 1, 167, 255, 237, 42]
abbrev dktX6_kite_4 : List UInt8 := dkwX6_kite_4 ++ dktX6_kite_5
def dkwX6_kite_3 : List UInt8 := [182, 0, 83, 172, 42, 42, 180, 0, 7, 182, 0, 79, 42, 180, 0, 7, 16, 25, 46, 54, 5, 3, 54, 6]
abbrev dktX6_kite_3 : List UInt8 := dkwX6_kite_3 ++ dktX6_kite_4
def dkwX6_kite_2 : List UInt8 := [182, 0, 76, 153, 0, 5, 3, 172, 42, 180, 0, 7, 16, 25, 46, 16, 6, 160, 0, 10, 42, 4, 5]
abbrev dktX6_kite_2 : List UInt8 := dkwX6_kite_2 ++ dktX6_kite_3
def dkwX6_kite_1 : List UInt8 := [16, 99, 184, 0, 64, 153, 0, 18, 21, 4, 3, 16, 9, 184, 0, 64, 153, 0, 7, 3, 167, 0, 4, 4]
abbrev dktX6_kite_1 : List UInt8 := dkwX6_kite_1 ++ dktX6_kite_2
def dkwX6_kite_0 : List UInt8 := [42, 27, 3, 5, 184, 0, 64, 153, 0, 39, 28, 3, 16, 40, 184, 0, 64, 153, 0, 29, 29, 16, 10]
abbrev dktX6_kite_0 : List UInt8 := dkwX6_kite_0 ++ dktX6_kite_1
theorem dksX6_kite_0 : cX6_kite.data.toList.drop 0 = dktX6_kite_0 := by decide +kernel
theorem dksX6_kite_1 : cX6_kite.data.toList.drop 23 = dktX6_kite_1 := dk_seg dksX6_kite_0 23 rfl rfl
theorem dksX6_kite_2 : cX6_kite.data.toList.drop 47 = dktX6_kite_2 := dk_seg dksX6_kite_1 24 rfl rfl
theorem dksX6_kite_3 : cX6_kite.data.toList.drop 70 = dktX6_kite_3 := dk_seg dksX6_kite_2 23 rfl rfl
theorem dksX6_kite_4 : cX6_kite.data.toList.drop 94 = dktX6_kite_4 := dk_seg dksX6_kite_3 24 rfl rfl
theorem dksX6_kite_5 : cX6_kite.data.toList.drop 117 = dktX6_kite_5 := dk_seg dksX6_kite_4 23 rfl rfl
theorem dksX6_kite_6 : cX6_kite.data.toList.drop 141 = dktX6_kite_6 := dk_seg dksX6_kite_5 24 rfl rfl
theorem dksX6_kite_7 : cX6_kite.data.toList.drop 165 = dktX6_kite_7 := dk_seg dksX6_kite_6 24 rfl rfl
theorem dX6_kite_0 : decode cX6_kite 0 = .ok (.aload_n 0, 1) := dk_42 (dk_at dksX6_kite_0 0 rfl rfl)
theorem dX6_kite_1 : decode cX6_kite 1 = .ok (.iload_n 1, 1) := dk_27 (dk_at dksX6_kite_0 1 rfl rfl)
theorem dX6_kite_2 : decode cX6_kite 2 = .ok (.iconst 0, 1) := dk_3 (dk_at dksX6_kite_0 2 rfl rfl)
theorem dX6_kite_3 : decode cX6_kite 3 = .ok (.iconst 2, 1) := dk_5 (dk_at dksX6_kite_0 3 rfl rfl)
theorem dX6_kite_4 : decode cX6_kite 4 = .ok (.invokestatic 64, 3) := dk_184 0 64 (dk_at dksX6_kite_0 4 rfl rfl)
theorem dX6_kite_7 : decode cX6_kite 7 = .ok (.ifCond .eq 39, 3) := dk_153 0 39 (dk_at dksX6_kite_0 7 rfl rfl)
theorem dX6_kite_10 : decode cX6_kite 10 = .ok (.iload_n 2, 1) := dk_28 (dk_at dksX6_kite_0 10 rfl rfl)
theorem dX6_kite_11 : decode cX6_kite 11 = .ok (.iconst 0, 1) := dk_3 (dk_at dksX6_kite_0 11 rfl rfl)
theorem dX6_kite_12 : decode cX6_kite 12 = .ok (.bipush 40, 2) := dk_16 40 (dk_at dksX6_kite_0 12 rfl rfl)
theorem dX6_kite_14 : decode cX6_kite 14 = .ok (.invokestatic 64, 3) := dk_184 0 64 (dk_at dksX6_kite_0 14 rfl rfl)
theorem dX6_kite_17 : decode cX6_kite 17 = .ok (.ifCond .eq 29, 3) := dk_153 0 29 (dk_at dksX6_kite_0 17 rfl rfl)
theorem dX6_kite_20 : decode cX6_kite 20 = .ok (.iload_n 3, 1) := dk_29 (dk_at dksX6_kite_0 20 rfl rfl)
theorem dX6_kite_21 : decode cX6_kite 21 = .ok (.bipush 10, 2) := dk_16 10 (dk_at dksX6_kite_0 21 rfl rfl)
theorem dX6_kite_23 : decode cX6_kite 23 = .ok (.bipush 99, 2) := dk_16 99 (dk_at dksX6_kite_1 0 rfl rfl)
theorem dX6_kite_25 : decode cX6_kite 25 = .ok (.invokestatic 64, 3) := dk_184 0 64 (dk_at dksX6_kite_1 2 rfl rfl)
theorem dX6_kite_28 : decode cX6_kite 28 = .ok (.ifCond .eq 18, 3) := dk_153 0 18 (dk_at dksX6_kite_1 5 rfl rfl)
theorem dX6_kite_31 : decode cX6_kite 31 = .ok (.iload 4, 2) := dk_21 4 (dk_at dksX6_kite_1 8 rfl rfl)
theorem dX6_kite_33 : decode cX6_kite 33 = .ok (.iconst 0, 1) := dk_3 (dk_at dksX6_kite_1 10 rfl rfl)
theorem dX6_kite_34 : decode cX6_kite 34 = .ok (.bipush 9, 2) := dk_16 9 (dk_at dksX6_kite_1 11 rfl rfl)
theorem dX6_kite_36 : decode cX6_kite 36 = .ok (.invokestatic 64, 3) := dk_184 0 64 (dk_at dksX6_kite_1 13 rfl rfl)
theorem dX6_kite_39 : decode cX6_kite 39 = .ok (.ifCond .eq 7, 3) := dk_153 0 7 (dk_at dksX6_kite_1 16 rfl rfl)
theorem dX6_kite_42 : decode cX6_kite 42 = .ok (.iconst 0, 1) := dk_3 (dk_at dksX6_kite_1 19 rfl rfl)
theorem dX6_kite_43 : decode cX6_kite 43 = .ok (.goto 4, 3) := dk_167 0 4 (dk_at dksX6_kite_1 20 rfl rfl)
theorem dX6_kite_46 : decode cX6_kite 46 = .ok (.iconst 1, 1) := dk_4 (dk_at dksX6_kite_1 23 rfl rfl)
theorem dX6_kite_47 : decode cX6_kite 47 = .ok (.invokevirtual 76, 3) := dk_182 0 76 (dk_at dksX6_kite_2 0 rfl rfl)
theorem dX6_kite_50 : decode cX6_kite 50 = .ok (.ifCond .eq 5, 3) := dk_153 0 5 (dk_at dksX6_kite_2 3 rfl rfl)
theorem dX6_kite_53 : decode cX6_kite 53 = .ok (.iconst 0, 1) := dk_3 (dk_at dksX6_kite_2 6 rfl rfl)
theorem dX6_kite_54 : decode cX6_kite 54 = .ok (.ireturn, 1) := dk_172 (dk_at dksX6_kite_2 7 rfl rfl)
theorem dX6_kite_55 : decode cX6_kite 55 = .ok (.aload_n 0, 1) := dk_42 (dk_at dksX6_kite_2 8 rfl rfl)
theorem dX6_kite_56 : decode cX6_kite 56 = .ok (.getfield 7, 3) := dk_180 0 7 (dk_at dksX6_kite_2 9 rfl rfl)
theorem dX6_kite_59 : decode cX6_kite 59 = .ok (.bipush 25, 2) := dk_16 25 (dk_at dksX6_kite_2 12 rfl rfl)
theorem dX6_kite_61 : decode cX6_kite 61 = .ok (.iaload, 1) := dk_46 (dk_at dksX6_kite_2 14 rfl rfl)
theorem dX6_kite_62 : decode cX6_kite 62 = .ok (.bipush 6, 2) := dk_16 6 (dk_at dksX6_kite_2 15 rfl rfl)
theorem dX6_kite_64 : decode cX6_kite 64 = .ok (.if_icmp .ne 10, 3) := dk_160 0 10 (dk_at dksX6_kite_2 17 rfl rfl)
theorem dX6_kite_67 : decode cX6_kite 67 = .ok (.aload_n 0, 1) := dk_42 (dk_at dksX6_kite_2 20 rfl rfl)
theorem dX6_kite_68 : decode cX6_kite 68 = .ok (.iconst 1, 1) := dk_4 (dk_at dksX6_kite_2 21 rfl rfl)
theorem dX6_kite_69 : decode cX6_kite 69 = .ok (.iconst 2, 1) := dk_5 (dk_at dksX6_kite_2 22 rfl rfl)
theorem dX6_kite_70 : decode cX6_kite 70 = .ok (.invokevirtual 83, 3) := dk_182 0 83 (dk_at dksX6_kite_3 0 rfl rfl)
theorem dX6_kite_73 : decode cX6_kite 73 = .ok (.ireturn, 1) := dk_172 (dk_at dksX6_kite_3 3 rfl rfl)
theorem dX6_kite_74 : decode cX6_kite 74 = .ok (.aload_n 0, 1) := dk_42 (dk_at dksX6_kite_3 4 rfl rfl)
theorem dX6_kite_75 : decode cX6_kite 75 = .ok (.aload_n 0, 1) := dk_42 (dk_at dksX6_kite_3 5 rfl rfl)
theorem dX6_kite_76 : decode cX6_kite 76 = .ok (.getfield 7, 3) := dk_180 0 7 (dk_at dksX6_kite_3 6 rfl rfl)
theorem dX6_kite_79 : decode cX6_kite 79 = .ok (.invokevirtual 79, 3) := dk_182 0 79 (dk_at dksX6_kite_3 9 rfl rfl)
theorem dX6_kite_82 : decode cX6_kite 82 = .ok (.aload_n 0, 1) := dk_42 (dk_at dksX6_kite_3 12 rfl rfl)
theorem dX6_kite_83 : decode cX6_kite 83 = .ok (.getfield 7, 3) := dk_180 0 7 (dk_at dksX6_kite_3 13 rfl rfl)
theorem dX6_kite_86 : decode cX6_kite 86 = .ok (.bipush 25, 2) := dk_16 25 (dk_at dksX6_kite_3 16 rfl rfl)
theorem dX6_kite_88 : decode cX6_kite 88 = .ok (.iaload, 1) := dk_46 (dk_at dksX6_kite_3 18 rfl rfl)
theorem dX6_kite_89 : decode cX6_kite 89 = .ok (.istore 5, 2) := dk_54 5 (dk_at dksX6_kite_3 19 rfl rfl)
theorem dX6_kite_91 : decode cX6_kite 91 = .ok (.iconst 0, 1) := dk_3 (dk_at dksX6_kite_3 21 rfl rfl)
theorem dX6_kite_92 : decode cX6_kite 92 = .ok (.istore 6, 2) := dk_54 6 (dk_at dksX6_kite_3 22 rfl rfl)
theorem dX6_kite_94 : decode cX6_kite 94 = .ok (.iload 6, 2) := dk_21 6 (dk_at dksX6_kite_4 0 rfl rfl)
theorem dX6_kite_96 : decode cX6_kite 96 = .ok (.bipush 15, 2) := dk_16 15 (dk_at dksX6_kite_4 2 rfl rfl)
theorem dX6_kite_98 : decode cX6_kite 98 = .ok (.if_icmp .ge 18, 3) := dk_162 0 18 (dk_at dksX6_kite_4 4 rfl rfl)
theorem dX6_kite_101 : decode cX6_kite 101 = .ok (.aload_n 0, 1) := dk_42 (dk_at dksX6_kite_4 7 rfl rfl)
theorem dX6_kite_102 : decode cX6_kite 102 = .ok (.iload 5, 2) := dk_21 5 (dk_at dksX6_kite_4 8 rfl rfl)
theorem dX6_kite_104 : decode cX6_kite 104 = .ok (.iload 6, 2) := dk_21 6 (dk_at dksX6_kite_4 10 rfl rfl)
theorem dX6_kite_106 : decode cX6_kite 106 = .ok (.iconst 0, 1) := dk_3 (dk_at dksX6_kite_4 12 rfl rfl)
theorem dX6_kite_107 : decode cX6_kite 107 = .ok (.invokevirtual 86, 3) := dk_182 0 86 (dk_at dksX6_kite_4 13 rfl rfl)
theorem dX6_kite_110 : decode cX6_kite 110 = .ok (.iinc 6 1, 3) := dk_132 6 1 (dk_at dksX6_kite_4 16 rfl rfl)
theorem dX6_kite_113 : decode cX6_kite 113 = .ok (.goto (-19), 3) := dk_167 255 237 (dk_at dksX6_kite_4 19 rfl rfl)
theorem dX6_kite_116 : decode cX6_kite 116 = .ok (.aload_n 0, 1) := dk_42 (dk_at dksX6_kite_4 22 rfl rfl)
theorem dX6_kite_117 : decode cX6_kite 117 = .ok (.iload 5, 2) := dk_21 5 (dk_at dksX6_kite_5 0 rfl rfl)
theorem dX6_kite_119 : decode cX6_kite 119 = .ok (.iconst 1, 1) := dk_4 (dk_at dksX6_kite_5 2 rfl rfl)
theorem dX6_kite_120 : decode cX6_kite 120 = .ok (.iload_n 1, 1) := dk_27 (dk_at dksX6_kite_5 3 rfl rfl)
theorem dX6_kite_121 : decode cX6_kite 121 = .ok (.invokevirtual 86, 3) := dk_182 0 86 (dk_at dksX6_kite_5 4 rfl rfl)
theorem dX6_kite_124 : decode cX6_kite 124 = .ok (.aload_n 0, 1) := dk_42 (dk_at dksX6_kite_5 7 rfl rfl)
theorem dX6_kite_125 : decode cX6_kite 125 = .ok (.iload 5, 2) := dk_21 5 (dk_at dksX6_kite_5 8 rfl rfl)
theorem dX6_kite_127 : decode cX6_kite 127 = .ok (.iconst 2, 1) := dk_5 (dk_at dksX6_kite_5 10 rfl rfl)
theorem dX6_kite_128 : decode cX6_kite 128 = .ok (.iload_n 2, 1) := dk_28 (dk_at dksX6_kite_5 11 rfl rfl)
theorem dX6_kite_129 : decode cX6_kite 129 = .ok (.invokevirtual 86, 3) := dk_182 0 86 (dk_at dksX6_kite_5 12 rfl rfl)
theorem dX6_kite_132 : decode cX6_kite 132 = .ok (.aload_n 0, 1) := dk_42 (dk_at dksX6_kite_5 15 rfl rfl)
theorem dX6_kite_133 : decode cX6_kite 133 = .ok (.iload 5, 2) := dk_21 5 (dk_at dksX6_kite_5 16 rfl rfl)
theorem dX6_kite_135 : decode cX6_kite 135 = .ok (.iconst 3, 1) := dk_6 (dk_at dksX6_kite_5 18 rfl rfl)
theorem dX6_kite_136 : decode cX6_kite 136 = .ok (.iload_n 3, 1) := dk_29 (dk_at dksX6_kite_5 19 rfl rfl)
theorem dX6_kite_137 : decode cX6_kite 137 = .ok (.invokevirtual 86, 3) := dk_182 0 86 (dk_at dksX6_kite_5 20 rfl rfl)
theorem dX6_kite_140 : decode cX6_kite 140 = .ok (.aload_n 0, 1) := dk_42 (dk_at dksX6_kite_5 23 rfl rfl)
theorem dX6_kite_141 : decode cX6_kite 141 = .ok (.iload 5, 2) := dk_21 5 (dk_at dksX6_kite_6 0 rfl rfl)
theorem dX6_kite_143 : decode cX6_kite 143 = .ok (.bipush 12, 2) := dk_16 12 (dk_at dksX6_kite_6 2 rfl rfl)
theorem dX6_kite_145 : decode cX6_kite 145 = .ok (.iload_n 3, 1) := dk_29 (dk_at dksX6_kite_6 4 rfl rfl)
theorem dX6_kite_146 : decode cX6_kite 146 = .ok (.invokevirtual 86, 3) := dk_182 0 86 (dk_at dksX6_kite_6 5 rfl rfl)
theorem dX6_kite_149 : decode cX6_kite 149 = .ok (.aload_n 0, 1) := dk_42 (dk_at dksX6_kite_6 8 rfl rfl)
theorem dX6_kite_150 : decode cX6_kite 150 = .ok (.iload 5, 2) := dk_21 5 (dk_at dksX6_kite_6 9 rfl rfl)
theorem dX6_kite_152 : decode cX6_kite 152 = .ok (.iconst 4, 1) := dk_7 (dk_at dksX6_kite_6 11 rfl rfl)
theorem dX6_kite_153 : decode cX6_kite 153 = .ok (.iload 4, 2) := dk_21 4 (dk_at dksX6_kite_6 12 rfl rfl)
theorem dX6_kite_155 : decode cX6_kite 155 = .ok (.invokevirtual 86, 3) := dk_182 0 86 (dk_at dksX6_kite_6 14 rfl rfl)
theorem dX6_kite_158 : decode cX6_kite 158 = .ok (.aload_n 0, 1) := dk_42 (dk_at dksX6_kite_6 17 rfl rfl)
theorem dX6_kite_159 : decode cX6_kite 159 = .ok (.getfield 7, 3) := dk_180 0 7 (dk_at dksX6_kite_6 18 rfl rfl)
theorem dX6_kite_162 : decode cX6_kite 162 = .ok (.bipush 25, 2) := dk_16 25 (dk_at dksX6_kite_6 21 rfl rfl)
theorem dX6_kite_164 : decode cX6_kite 164 = .ok (.dup2, 1) := dk_92 (dk_at dksX6_kite_6 23 rfl rfl)
theorem dX6_kite_165 : decode cX6_kite 165 = .ok (.iaload, 1) := dk_46 (dk_at dksX6_kite_7 0 rfl rfl)
theorem dX6_kite_166 : decode cX6_kite 166 = .ok (.iconst 1, 1) := dk_4 (dk_at dksX6_kite_7 1 rfl rfl)
theorem dX6_kite_167 : decode cX6_kite 167 = .ok (.iadd, 1) := dk_96 (dk_at dksX6_kite_7 2 rfl rfl)
theorem dX6_kite_168 : decode cX6_kite 168 = .ok (.iastore, 1) := dk_79 (dk_at dksX6_kite_7 3 rfl rfl)
theorem dX6_kite_169 : decode cX6_kite 169 = .ok (.iload 5, 2) := dk_21 5 (dk_at dksX6_kite_7 4 rfl rfl)
theorem dX6_kite_171 : decode cX6_kite 171 = .ok (.ireturn, 1) := dk_172 (dk_at dksX6_kite_7 6 rfl rfl)
abbrev cX6_refuses : ByteArray := prog_21_method_4_code
def yX6_refuses : MethodName := ⟨RX6, "refuses", "(II)I"⟩
def dkwX6_refuses_0 : List UInt8 := [42, 27, 181, 0, 50, 42, 2, 181, 0, 32, 42, 28, 181, 0, 47, 3, 172]
abbrev dktX6_refuses_0 : List UInt8 := dkwX6_refuses_0 ++ []
theorem dksX6_refuses_0 : cX6_refuses.data.toList.drop 0 = dktX6_refuses_0 := by decide +kernel
theorem dX6_refuses_0 : decode cX6_refuses 0 = .ok (.aload_n 0, 1) := dk_42 (dk_at dksX6_refuses_0 0 rfl rfl)
theorem dX6_refuses_1 : decode cX6_refuses 1 = .ok (.iload_n 1, 1) := dk_27 (dk_at dksX6_refuses_0 1 rfl rfl)
theorem dX6_refuses_2 : decode cX6_refuses 2 = .ok (.putfield 50, 3) := dk_181 0 50 (dk_at dksX6_refuses_0 2 rfl rfl)
theorem dX6_refuses_5 : decode cX6_refuses 5 = .ok (.aload_n 0, 1) := dk_42 (dk_at dksX6_refuses_0 5 rfl rfl)
theorem dX6_refuses_6 : decode cX6_refuses 6 = .ok (.iconst (-1), 1) := dk_2 (dk_at dksX6_refuses_0 6 rfl rfl)
theorem dX6_refuses_7 : decode cX6_refuses 7 = .ok (.putfield 32, 3) := dk_181 0 32 (dk_at dksX6_refuses_0 7 rfl rfl)
theorem dX6_refuses_10 : decode cX6_refuses 10 = .ok (.aload_n 0, 1) := dk_42 (dk_at dksX6_refuses_0 10 rfl rfl)
theorem dX6_refuses_11 : decode cX6_refuses 11 = .ok (.iload_n 2, 1) := dk_28 (dk_at dksX6_refuses_0 11 rfl rfl)
theorem dX6_refuses_12 : decode cX6_refuses 12 = .ok (.putfield 47, 3) := dk_181 0 47 (dk_at dksX6_refuses_0 12 rfl rfl)
theorem dX6_refuses_15 : decode cX6_refuses 15 = .ok (.iconst 0, 1) := dk_3 (dk_at dksX6_refuses_0 15 rfl rfl)
theorem dX6_refuses_16 : decode cX6_refuses 16 = .ok (.ireturn, 1) := dk_172 (dk_at dksX6_refuses_0 16 rfl rfl)
abbrev cX6_lays : ByteArray := prog_21_method_13_code
def yX6_lays : MethodName := ⟨RX6, "lays", "(III)V"⟩
def dkwX6_lays_0 : List UInt8 := [42, 180, 0, 7, 16, 26, 16, 15, 27, 104, 96, 28, 96, 29, 79, 177]
abbrev dktX6_lays_0 : List UInt8 := dkwX6_lays_0 ++ []
theorem dksX6_lays_0 : cX6_lays.data.toList.drop 0 = dktX6_lays_0 := by decide +kernel
theorem dX6_lays_0 : decode cX6_lays 0 = .ok (.aload_n 0, 1) := dk_42 (dk_at dksX6_lays_0 0 rfl rfl)
theorem dX6_lays_1 : decode cX6_lays 1 = .ok (.getfield 7, 3) := dk_180 0 7 (dk_at dksX6_lays_0 1 rfl rfl)
theorem dX6_lays_4 : decode cX6_lays 4 = .ok (.bipush 26, 2) := dk_16 26 (dk_at dksX6_lays_0 4 rfl rfl)
theorem dX6_lays_6 : decode cX6_lays 6 = .ok (.bipush 15, 2) := dk_16 15 (dk_at dksX6_lays_0 6 rfl rfl)
theorem dX6_lays_8 : decode cX6_lays 8 = .ok (.iload_n 1, 1) := dk_27 (dk_at dksX6_lays_0 8 rfl rfl)
theorem dX6_lays_9 : decode cX6_lays 9 = .ok (.imul, 1) := dk_104 (dk_at dksX6_lays_0 9 rfl rfl)
theorem dX6_lays_10 : decode cX6_lays 10 = .ok (.iadd, 1) := dk_96 (dk_at dksX6_lays_0 10 rfl rfl)
theorem dX6_lays_11 : decode cX6_lays 11 = .ok (.iload_n 2, 1) := dk_28 (dk_at dksX6_lays_0 11 rfl rfl)
theorem dX6_lays_12 : decode cX6_lays 12 = .ok (.iadd, 1) := dk_96 (dk_at dksX6_lays_0 12 rfl rfl)
theorem dX6_lays_13 : decode cX6_lays 13 = .ok (.iload_n 3, 1) := dk_29 (dk_at dksX6_lays_0 13 rfl rfl)
theorem dX6_lays_14 : decode cX6_lays 14 = .ok (.iastore, 1) := dk_79 (dk_at dksX6_lays_0 14 rfl rfl)
theorem dX6_lays_15 : decode cX6_lays 15 = .ok (.return_, 1) := dk_177 (dk_at dksX6_lays_0 15 rfl rfl)
abbrev cX6_launch : ByteArray := prog_21_method_22_code
def yX6_launch : MethodName := ⟨RX6, "launch", "(I)I"⟩
def dkwX6_launch_3 : List UInt8 := [3, 182, 0, 86, 42, 27, 16, 6, 3, 182, 0, 86, 42, 4, 182, 0, 93, 172]
abbrev dktX6_launch_3 : List UInt8 := dkwX6_launch_3 ++ []
def dkwX6_launch_2 : List UInt8 := [6, 5, 182, 0, 83, 172, 42, 42, 180, 0, 7, 182, 0, 79, 42, 27, 3, 4, 182, 0, 86, 42, 27, 8]
abbrev dktX6_launch_2 : List UInt8 := dkwX6_launch_2 ++ dktX6_launch_3
def dkwX6_launch_1 : List UInt8 := [3, 182, 0, 68, 153, 0, 10, 42, 5, 5, 182, 0, 83, 172, 42, 180, 0, 7, 3, 46, 154, 0, 10, 42]
abbrev dktX6_launch_1 : List UInt8 := dkwX6_launch_1 ++ dktX6_launch_2
def dkwX6_launch_0 : List UInt8 := [42, 42, 27, 182, 0, 90, 153, 0, 7, 3, 167, 0, 4, 4, 182, 0, 76, 153, 0, 5, 3, 172, 42, 27]
abbrev dktX6_launch_0 : List UInt8 := dkwX6_launch_0 ++ dktX6_launch_1
theorem dksX6_launch_0 : cX6_launch.data.toList.drop 0 = dktX6_launch_0 := by decide +kernel
theorem dksX6_launch_1 : cX6_launch.data.toList.drop 24 = dktX6_launch_1 := dk_seg dksX6_launch_0 24 rfl rfl
theorem dksX6_launch_2 : cX6_launch.data.toList.drop 48 = dktX6_launch_2 := dk_seg dksX6_launch_1 24 rfl rfl
theorem dksX6_launch_3 : cX6_launch.data.toList.drop 72 = dktX6_launch_3 := dk_seg dksX6_launch_2 24 rfl rfl
theorem dX6_launch_0 : decode cX6_launch 0 = .ok (.aload_n 0, 1) := dk_42 (dk_at dksX6_launch_0 0 rfl rfl)
theorem dX6_launch_1 : decode cX6_launch 1 = .ok (.aload_n 0, 1) := dk_42 (dk_at dksX6_launch_0 1 rfl rfl)
theorem dX6_launch_2 : decode cX6_launch 2 = .ok (.iload_n 1, 1) := dk_27 (dk_at dksX6_launch_0 2 rfl rfl)
theorem dX6_launch_3 : decode cX6_launch 3 = .ok (.invokevirtual 90, 3) := dk_182 0 90 (dk_at dksX6_launch_0 3 rfl rfl)
theorem dX6_launch_6 : decode cX6_launch 6 = .ok (.ifCond .eq 7, 3) := dk_153 0 7 (dk_at dksX6_launch_0 6 rfl rfl)
theorem dX6_launch_9 : decode cX6_launch 9 = .ok (.iconst 0, 1) := dk_3 (dk_at dksX6_launch_0 9 rfl rfl)
theorem dX6_launch_10 : decode cX6_launch 10 = .ok (.goto 4, 3) := dk_167 0 4 (dk_at dksX6_launch_0 10 rfl rfl)
theorem dX6_launch_13 : decode cX6_launch 13 = .ok (.iconst 1, 1) := dk_4 (dk_at dksX6_launch_0 13 rfl rfl)
theorem dX6_launch_14 : decode cX6_launch 14 = .ok (.invokevirtual 76, 3) := dk_182 0 76 (dk_at dksX6_launch_0 14 rfl rfl)
theorem dX6_launch_17 : decode cX6_launch 17 = .ok (.ifCond .eq 5, 3) := dk_153 0 5 (dk_at dksX6_launch_0 17 rfl rfl)
theorem dX6_launch_20 : decode cX6_launch 20 = .ok (.iconst 0, 1) := dk_3 (dk_at dksX6_launch_0 20 rfl rfl)
theorem dX6_launch_21 : decode cX6_launch 21 = .ok (.ireturn, 1) := dk_172 (dk_at dksX6_launch_0 21 rfl rfl)
theorem dX6_launch_22 : decode cX6_launch 22 = .ok (.aload_n 0, 1) := dk_42 (dk_at dksX6_launch_0 22 rfl rfl)
theorem dX6_launch_23 : decode cX6_launch 23 = .ok (.iload_n 1, 1) := dk_27 (dk_at dksX6_launch_0 23 rfl rfl)
theorem dX6_launch_24 : decode cX6_launch 24 = .ok (.iconst 0, 1) := dk_3 (dk_at dksX6_launch_1 0 rfl rfl)
theorem dX6_launch_25 : decode cX6_launch 25 = .ok (.invokevirtual 68, 3) := dk_182 0 68 (dk_at dksX6_launch_1 1 rfl rfl)
theorem dX6_launch_28 : decode cX6_launch 28 = .ok (.ifCond .eq 10, 3) := dk_153 0 10 (dk_at dksX6_launch_1 4 rfl rfl)
theorem dX6_launch_31 : decode cX6_launch 31 = .ok (.aload_n 0, 1) := dk_42 (dk_at dksX6_launch_1 7 rfl rfl)
theorem dX6_launch_32 : decode cX6_launch 32 = .ok (.iconst 2, 1) := dk_5 (dk_at dksX6_launch_1 8 rfl rfl)
theorem dX6_launch_33 : decode cX6_launch 33 = .ok (.iconst 2, 1) := dk_5 (dk_at dksX6_launch_1 9 rfl rfl)
theorem dX6_launch_34 : decode cX6_launch 34 = .ok (.invokevirtual 83, 3) := dk_182 0 83 (dk_at dksX6_launch_1 10 rfl rfl)
theorem dX6_launch_37 : decode cX6_launch 37 = .ok (.ireturn, 1) := dk_172 (dk_at dksX6_launch_1 13 rfl rfl)
theorem dX6_launch_38 : decode cX6_launch 38 = .ok (.aload_n 0, 1) := dk_42 (dk_at dksX6_launch_1 14 rfl rfl)
theorem dX6_launch_39 : decode cX6_launch 39 = .ok (.getfield 7, 3) := dk_180 0 7 (dk_at dksX6_launch_1 15 rfl rfl)
theorem dX6_launch_42 : decode cX6_launch 42 = .ok (.iconst 0, 1) := dk_3 (dk_at dksX6_launch_1 18 rfl rfl)
theorem dX6_launch_43 : decode cX6_launch 43 = .ok (.iaload, 1) := dk_46 (dk_at dksX6_launch_1 19 rfl rfl)
theorem dX6_launch_44 : decode cX6_launch 44 = .ok (.ifCond .ne 10, 3) := dk_154 0 10 (dk_at dksX6_launch_1 20 rfl rfl)
theorem dX6_launch_47 : decode cX6_launch 47 = .ok (.aload_n 0, 1) := dk_42 (dk_at dksX6_launch_1 23 rfl rfl)
theorem dX6_launch_48 : decode cX6_launch 48 = .ok (.iconst 3, 1) := dk_6 (dk_at dksX6_launch_2 0 rfl rfl)
theorem dX6_launch_49 : decode cX6_launch 49 = .ok (.iconst 2, 1) := dk_5 (dk_at dksX6_launch_2 1 rfl rfl)
theorem dX6_launch_50 : decode cX6_launch 50 = .ok (.invokevirtual 83, 3) := dk_182 0 83 (dk_at dksX6_launch_2 2 rfl rfl)
theorem dX6_launch_53 : decode cX6_launch 53 = .ok (.ireturn, 1) := dk_172 (dk_at dksX6_launch_2 5 rfl rfl)
theorem dX6_launch_54 : decode cX6_launch 54 = .ok (.aload_n 0, 1) := dk_42 (dk_at dksX6_launch_2 6 rfl rfl)
theorem dX6_launch_55 : decode cX6_launch 55 = .ok (.aload_n 0, 1) := dk_42 (dk_at dksX6_launch_2 7 rfl rfl)
theorem dX6_launch_56 : decode cX6_launch 56 = .ok (.getfield 7, 3) := dk_180 0 7 (dk_at dksX6_launch_2 8 rfl rfl)
theorem dX6_launch_59 : decode cX6_launch 59 = .ok (.invokevirtual 79, 3) := dk_182 0 79 (dk_at dksX6_launch_2 11 rfl rfl)
theorem dX6_launch_62 : decode cX6_launch 62 = .ok (.aload_n 0, 1) := dk_42 (dk_at dksX6_launch_2 14 rfl rfl)
theorem dX6_launch_63 : decode cX6_launch 63 = .ok (.iload_n 1, 1) := dk_27 (dk_at dksX6_launch_2 15 rfl rfl)
theorem dX6_launch_64 : decode cX6_launch 64 = .ok (.iconst 0, 1) := dk_3 (dk_at dksX6_launch_2 16 rfl rfl)
theorem dX6_launch_65 : decode cX6_launch 65 = .ok (.iconst 1, 1) := dk_4 (dk_at dksX6_launch_2 17 rfl rfl)
theorem dX6_launch_66 : decode cX6_launch 66 = .ok (.invokevirtual 86, 3) := dk_182 0 86 (dk_at dksX6_launch_2 18 rfl rfl)
theorem dX6_launch_69 : decode cX6_launch 69 = .ok (.aload_n 0, 1) := dk_42 (dk_at dksX6_launch_2 21 rfl rfl)
theorem dX6_launch_70 : decode cX6_launch 70 = .ok (.iload_n 1, 1) := dk_27 (dk_at dksX6_launch_2 22 rfl rfl)
theorem dX6_launch_71 : decode cX6_launch 71 = .ok (.iconst 5, 1) := dk_8 (dk_at dksX6_launch_2 23 rfl rfl)
theorem dX6_launch_72 : decode cX6_launch 72 = .ok (.iconst 0, 1) := dk_3 (dk_at dksX6_launch_3 0 rfl rfl)
theorem dX6_launch_73 : decode cX6_launch 73 = .ok (.invokevirtual 86, 3) := dk_182 0 86 (dk_at dksX6_launch_3 1 rfl rfl)
theorem dX6_launch_76 : decode cX6_launch 76 = .ok (.aload_n 0, 1) := dk_42 (dk_at dksX6_launch_3 4 rfl rfl)
theorem dX6_launch_77 : decode cX6_launch 77 = .ok (.iload_n 1, 1) := dk_27 (dk_at dksX6_launch_3 5 rfl rfl)
theorem dX6_launch_78 : decode cX6_launch 78 = .ok (.bipush 6, 2) := dk_16 6 (dk_at dksX6_launch_3 6 rfl rfl)
theorem dX6_launch_80 : decode cX6_launch 80 = .ok (.iconst 0, 1) := dk_3 (dk_at dksX6_launch_3 8 rfl rfl)
theorem dX6_launch_81 : decode cX6_launch 81 = .ok (.invokevirtual 86, 3) := dk_182 0 86 (dk_at dksX6_launch_3 9 rfl rfl)
theorem dX6_launch_84 : decode cX6_launch 84 = .ok (.aload_n 0, 1) := dk_42 (dk_at dksX6_launch_3 12 rfl rfl)
theorem dX6_launch_85 : decode cX6_launch 85 = .ok (.iconst 1, 1) := dk_4 (dk_at dksX6_launch_3 13 rfl rfl)
theorem dX6_launch_86 : decode cX6_launch 86 = .ok (.invokevirtual 93, 3) := dk_182 0 93 (dk_at dksX6_launch_3 14 rfl rfl)
theorem dX6_launch_89 : decode cX6_launch 89 = .ok (.ireturn, 1) := dk_172 (dk_at dksX6_launch_3 17 rfl rfl)
abbrev cX6_isKite : ByteArray := prog_21_method_10_code
def yX6_isKite : MethodName := ⟨RX6, "isKite", "(I)Z"⟩
def dkwX6_isKite_0 : List UInt8 := [27, 3, 42, 180, 0, 7, 16, 25, 46, 4, 100, 184, 0, 64, 172]
abbrev dktX6_isKite_0 : List UInt8 := dkwX6_isKite_0 ++ []
theorem dksX6_isKite_0 : cX6_isKite.data.toList.drop 0 = dktX6_isKite_0 := by decide +kernel
theorem dX6_isKite_0 : decode cX6_isKite 0 = .ok (.iload_n 1, 1) := dk_27 (dk_at dksX6_isKite_0 0 rfl rfl)
theorem dX6_isKite_1 : decode cX6_isKite 1 = .ok (.iconst 0, 1) := dk_3 (dk_at dksX6_isKite_0 1 rfl rfl)
theorem dX6_isKite_2 : decode cX6_isKite 2 = .ok (.aload_n 0, 1) := dk_42 (dk_at dksX6_isKite_0 2 rfl rfl)
theorem dX6_isKite_3 : decode cX6_isKite 3 = .ok (.getfield 7, 3) := dk_180 0 7 (dk_at dksX6_isKite_0 3 rfl rfl)
theorem dX6_isKite_6 : decode cX6_isKite 6 = .ok (.bipush 25, 2) := dk_16 25 (dk_at dksX6_isKite_0 6 rfl rfl)
theorem dX6_isKite_8 : decode cX6_isKite 8 = .ok (.iaload, 1) := dk_46 (dk_at dksX6_isKite_0 8 rfl rfl)
theorem dX6_isKite_9 : decode cX6_isKite 9 = .ok (.iconst 1, 1) := dk_4 (dk_at dksX6_isKite_0 9 rfl rfl)
theorem dX6_isKite_10 : decode cX6_isKite 10 = .ok (.isub, 1) := dk_100 (dk_at dksX6_isKite_0 10 rfl rfl)
theorem dX6_isKite_11 : decode cX6_isKite 11 = .ok (.invokestatic 64, 3) := dk_184 0 64 (dk_at dksX6_isKite_0 11 rfl rfl)
theorem dX6_isKite_14 : decode cX6_isKite 14 = .ok (.ireturn, 1) := dk_172 (dk_at dksX6_isKite_0 14 rfl rfl)
abbrev cX6_of : ByteArray := prog_21_method_12_code
def yX6_of : MethodName := ⟨RX6, "of", "(II)I"⟩
def dkwX6_of_0 : List UInt8 := [42, 180, 0, 7, 16, 26, 16, 15, 27, 104, 96, 28, 96, 46, 172]
abbrev dktX6_of_0 : List UInt8 := dkwX6_of_0 ++ []
theorem dksX6_of_0 : cX6_of.data.toList.drop 0 = dktX6_of_0 := by decide +kernel
theorem dX6_of_0 : decode cX6_of 0 = .ok (.aload_n 0, 1) := dk_42 (dk_at dksX6_of_0 0 rfl rfl)
theorem dX6_of_1 : decode cX6_of 1 = .ok (.getfield 7, 3) := dk_180 0 7 (dk_at dksX6_of_0 1 rfl rfl)
theorem dX6_of_4 : decode cX6_of 4 = .ok (.bipush 26, 2) := dk_16 26 (dk_at dksX6_of_0 4 rfl rfl)
theorem dX6_of_6 : decode cX6_of 6 = .ok (.bipush 15, 2) := dk_16 15 (dk_at dksX6_of_0 6 rfl rfl)
theorem dX6_of_8 : decode cX6_of 8 = .ok (.iload_n 1, 1) := dk_27 (dk_at dksX6_of_0 8 rfl rfl)
theorem dX6_of_9 : decode cX6_of 9 = .ok (.imul, 1) := dk_104 (dk_at dksX6_of_0 9 rfl rfl)
theorem dX6_of_10 : decode cX6_of 10 = .ok (.iadd, 1) := dk_96 (dk_at dksX6_of_0 10 rfl rfl)
theorem dX6_of_11 : decode cX6_of 11 = .ok (.iload_n 2, 1) := dk_28 (dk_at dksX6_of_0 11 rfl rfl)
theorem dX6_of_12 : decode cX6_of 12 = .ok (.iadd, 1) := dk_96 (dk_at dksX6_of_0 12 rfl rfl)
theorem dX6_of_13 : decode cX6_of 13 = .ok (.iaload, 1) := dk_46 (dk_at dksX6_of_0 13 rfl rfl)
theorem dX6_of_14 : decode cX6_of 14 = .ok (.ireturn, 1) := dk_172 (dk_at dksX6_of_0 14 rfl rfl)
abbrev cX6_inState : ByteArray := prog_21_method_21_code
def yX6_inState : MethodName := ⟨RX6, "inState", "(I)I"⟩
def dkwX6_inState_1 : List UInt8 := [160, 0, 7, 4, 167, 0, 4, 3, 96, 61, 132, 3, 1, 167, 255, 224, 28, 172]
abbrev dktX6_inState_1 : List UInt8 := dkwX6_inState_1 ++ []
def dkwX6_inState_0 : List UInt8 := [3, 61, 3, 62, 29, 42, 180, 0, 7, 16, 25, 46, 162, 0, 27, 28, 42, 29, 3, 182, 0, 68, 27]
abbrev dktX6_inState_0 : List UInt8 := dkwX6_inState_0 ++ dktX6_inState_1
theorem dksX6_inState_0 : cX6_inState.data.toList.drop 0 = dktX6_inState_0 := by decide +kernel
theorem dksX6_inState_1 : cX6_inState.data.toList.drop 23 = dktX6_inState_1 := dk_seg dksX6_inState_0 23 rfl rfl
theorem dX6_inState_0 : decode cX6_inState 0 = .ok (.iconst 0, 1) := dk_3 (dk_at dksX6_inState_0 0 rfl rfl)
theorem dX6_inState_1 : decode cX6_inState 1 = .ok (.istore_n 2, 1) := dk_61 (dk_at dksX6_inState_0 1 rfl rfl)
theorem dX6_inState_2 : decode cX6_inState 2 = .ok (.iconst 0, 1) := dk_3 (dk_at dksX6_inState_0 2 rfl rfl)
theorem dX6_inState_3 : decode cX6_inState 3 = .ok (.istore_n 3, 1) := dk_62 (dk_at dksX6_inState_0 3 rfl rfl)
theorem dX6_inState_4 : decode cX6_inState 4 = .ok (.iload_n 3, 1) := dk_29 (dk_at dksX6_inState_0 4 rfl rfl)
theorem dX6_inState_5 : decode cX6_inState 5 = .ok (.aload_n 0, 1) := dk_42 (dk_at dksX6_inState_0 5 rfl rfl)
theorem dX6_inState_6 : decode cX6_inState 6 = .ok (.getfield 7, 3) := dk_180 0 7 (dk_at dksX6_inState_0 6 rfl rfl)
theorem dX6_inState_9 : decode cX6_inState 9 = .ok (.bipush 25, 2) := dk_16 25 (dk_at dksX6_inState_0 9 rfl rfl)
theorem dX6_inState_11 : decode cX6_inState 11 = .ok (.iaload, 1) := dk_46 (dk_at dksX6_inState_0 11 rfl rfl)
theorem dX6_inState_12 : decode cX6_inState 12 = .ok (.if_icmp .ge 27, 3) := dk_162 0 27 (dk_at dksX6_inState_0 12 rfl rfl)
theorem dX6_inState_15 : decode cX6_inState 15 = .ok (.iload_n 2, 1) := dk_28 (dk_at dksX6_inState_0 15 rfl rfl)
theorem dX6_inState_16 : decode cX6_inState 16 = .ok (.aload_n 0, 1) := dk_42 (dk_at dksX6_inState_0 16 rfl rfl)
theorem dX6_inState_17 : decode cX6_inState 17 = .ok (.iload_n 3, 1) := dk_29 (dk_at dksX6_inState_0 17 rfl rfl)
theorem dX6_inState_18 : decode cX6_inState 18 = .ok (.iconst 0, 1) := dk_3 (dk_at dksX6_inState_0 18 rfl rfl)
theorem dX6_inState_19 : decode cX6_inState 19 = .ok (.invokevirtual 68, 3) := dk_182 0 68 (dk_at dksX6_inState_0 19 rfl rfl)
theorem dX6_inState_22 : decode cX6_inState 22 = .ok (.iload_n 1, 1) := dk_27 (dk_at dksX6_inState_0 22 rfl rfl)
theorem dX6_inState_23 : decode cX6_inState 23 = .ok (.if_icmp .ne 7, 3) := dk_160 0 7 (dk_at dksX6_inState_1 0 rfl rfl)
theorem dX6_inState_26 : decode cX6_inState 26 = .ok (.iconst 1, 1) := dk_4 (dk_at dksX6_inState_1 3 rfl rfl)
theorem dX6_inState_27 : decode cX6_inState 27 = .ok (.goto 4, 3) := dk_167 0 4 (dk_at dksX6_inState_1 4 rfl rfl)
theorem dX6_inState_30 : decode cX6_inState 30 = .ok (.iconst 0, 1) := dk_3 (dk_at dksX6_inState_1 7 rfl rfl)
theorem dX6_inState_31 : decode cX6_inState 31 = .ok (.iadd, 1) := dk_96 (dk_at dksX6_inState_1 8 rfl rfl)
theorem dX6_inState_32 : decode cX6_inState 32 = .ok (.istore_n 2, 1) := dk_61 (dk_at dksX6_inState_1 9 rfl rfl)
theorem dX6_inState_33 : decode cX6_inState 33 = .ok (.iinc 3 1, 3) := dk_132 3 1 (dk_at dksX6_inState_1 10 rfl rfl)
theorem dX6_inState_36 : decode cX6_inState 36 = .ok (.goto (-32), 3) := dk_167 255 224 (dk_at dksX6_inState_1 13 rfl rfl)
theorem dX6_inState_39 : decode cX6_inState 39 = .ok (.iload_n 2, 1) := dk_28 (dk_at dksX6_inState_1 16 rfl rfl)
theorem dX6_inState_40 : decode cX6_inState 40 = .ok (.ireturn, 1) := dk_172 (dk_at dksX6_inState_1 17 rfl rfl)
abbrev cX6_reel : ByteArray := prog_21_method_24_code
def yX6_reel : MethodName := ⟨RX6, "reel", "(II)I"⟩
def dkwX6_reel_4 : List UInt8 := [42, 180, 0, 7, 182, 0, 79, 42, 27, 28, 182, 0, 100, 42, 27, 8, 182, 0, 68, 172]
abbrev dktX6_reel_4 : List UInt8 := dkwX6_reel_4 ++ []
def dkwX6_reel_3 : List UInt8 := [182, 0, 83, 172, 42, 27, 8, 182, 0, 68, 28, 96, 156, 0, 11, 42, 16, 6, 6, 182, 0, 83, 172, 42]
abbrev dktX6_reel_3 : List UInt8 := dkwX6_reel_3 ++ dktX6_reel_4
def dkwX6_reel_2 : List UInt8 := [182, 0, 83, 172, 42, 27, 8, 182, 0, 68, 28, 96, 42, 27, 6, 182, 0, 68, 164, 0, 10, 42, 8, 6]
abbrev dktX6_reel_2 : List UInt8 := dkwX6_reel_2 ++ dktX6_reel_3
def dkwX6_reel_1 : List UInt8 := [3, 167, 0, 4, 5, 182, 0, 76, 153, 0, 5, 3, 172, 42, 27, 182, 0, 97, 154, 0, 10, 42, 7, 6]
abbrev dktX6_reel_1 : List UInt8 := dkwX6_reel_1 ++ dktX6_reel_2
def dkwX6_reel_0 : List UInt8 := [42, 42, 27, 182, 0, 90, 154, 0, 7, 4, 167, 0, 19, 28, 16, 236, 16, 20, 184, 0, 64, 153, 0, 7]
abbrev dktX6_reel_0 : List UInt8 := dkwX6_reel_0 ++ dktX6_reel_1
theorem dksX6_reel_0 : cX6_reel.data.toList.drop 0 = dktX6_reel_0 := by decide +kernel
theorem dksX6_reel_1 : cX6_reel.data.toList.drop 24 = dktX6_reel_1 := dk_seg dksX6_reel_0 24 rfl rfl
theorem dksX6_reel_2 : cX6_reel.data.toList.drop 48 = dktX6_reel_2 := dk_seg dksX6_reel_1 24 rfl rfl
theorem dksX6_reel_3 : cX6_reel.data.toList.drop 72 = dktX6_reel_3 := dk_seg dksX6_reel_2 24 rfl rfl
theorem dksX6_reel_4 : cX6_reel.data.toList.drop 96 = dktX6_reel_4 := dk_seg dksX6_reel_3 24 rfl rfl
theorem dX6_reel_0 : decode cX6_reel 0 = .ok (.aload_n 0, 1) := dk_42 (dk_at dksX6_reel_0 0 rfl rfl)
theorem dX6_reel_1 : decode cX6_reel 1 = .ok (.aload_n 0, 1) := dk_42 (dk_at dksX6_reel_0 1 rfl rfl)
theorem dX6_reel_2 : decode cX6_reel 2 = .ok (.iload_n 1, 1) := dk_27 (dk_at dksX6_reel_0 2 rfl rfl)
theorem dX6_reel_3 : decode cX6_reel 3 = .ok (.invokevirtual 90, 3) := dk_182 0 90 (dk_at dksX6_reel_0 3 rfl rfl)
theorem dX6_reel_6 : decode cX6_reel 6 = .ok (.ifCond .ne 7, 3) := dk_154 0 7 (dk_at dksX6_reel_0 6 rfl rfl)
theorem dX6_reel_9 : decode cX6_reel 9 = .ok (.iconst 1, 1) := dk_4 (dk_at dksX6_reel_0 9 rfl rfl)
theorem dX6_reel_10 : decode cX6_reel 10 = .ok (.goto 19, 3) := dk_167 0 19 (dk_at dksX6_reel_0 10 rfl rfl)
theorem dX6_reel_13 : decode cX6_reel 13 = .ok (.iload_n 2, 1) := dk_28 (dk_at dksX6_reel_0 13 rfl rfl)
theorem dX6_reel_14 : decode cX6_reel 14 = .ok (.bipush (-20), 2) := dk_16 236 (dk_at dksX6_reel_0 14 rfl rfl)
theorem dX6_reel_16 : decode cX6_reel 16 = .ok (.bipush 20, 2) := dk_16 20 (dk_at dksX6_reel_0 16 rfl rfl)
theorem dX6_reel_18 : decode cX6_reel 18 = .ok (.invokestatic 64, 3) := dk_184 0 64 (dk_at dksX6_reel_0 18 rfl rfl)
theorem dX6_reel_21 : decode cX6_reel 21 = .ok (.ifCond .eq 7, 3) := dk_153 0 7 (dk_at dksX6_reel_0 21 rfl rfl)
theorem dX6_reel_24 : decode cX6_reel 24 = .ok (.iconst 0, 1) := dk_3 (dk_at dksX6_reel_1 0 rfl rfl)
theorem dX6_reel_25 : decode cX6_reel 25 = .ok (.goto 4, 3) := dk_167 0 4 (dk_at dksX6_reel_1 1 rfl rfl)
theorem dX6_reel_28 : decode cX6_reel 28 = .ok (.iconst 2, 1) := dk_5 (dk_at dksX6_reel_1 4 rfl rfl)
theorem dX6_reel_29 : decode cX6_reel 29 = .ok (.invokevirtual 76, 3) := dk_182 0 76 (dk_at dksX6_reel_1 5 rfl rfl)
theorem dX6_reel_32 : decode cX6_reel 32 = .ok (.ifCond .eq 5, 3) := dk_153 0 5 (dk_at dksX6_reel_1 8 rfl rfl)
theorem dX6_reel_35 : decode cX6_reel 35 = .ok (.iconst 0, 1) := dk_3 (dk_at dksX6_reel_1 11 rfl rfl)
theorem dX6_reel_36 : decode cX6_reel 36 = .ok (.ireturn, 1) := dk_172 (dk_at dksX6_reel_1 12 rfl rfl)
theorem dX6_reel_37 : decode cX6_reel 37 = .ok (.aload_n 0, 1) := dk_42 (dk_at dksX6_reel_1 13 rfl rfl)
theorem dX6_reel_38 : decode cX6_reel 38 = .ok (.iload_n 1, 1) := dk_27 (dk_at dksX6_reel_1 14 rfl rfl)
theorem dX6_reel_39 : decode cX6_reel 39 = .ok (.invokevirtual 97, 3) := dk_182 0 97 (dk_at dksX6_reel_1 15 rfl rfl)
theorem dX6_reel_42 : decode cX6_reel 42 = .ok (.ifCond .ne 10, 3) := dk_154 0 10 (dk_at dksX6_reel_1 18 rfl rfl)
theorem dX6_reel_45 : decode cX6_reel 45 = .ok (.aload_n 0, 1) := dk_42 (dk_at dksX6_reel_1 21 rfl rfl)
theorem dX6_reel_46 : decode cX6_reel 46 = .ok (.iconst 4, 1) := dk_7 (dk_at dksX6_reel_1 22 rfl rfl)
theorem dX6_reel_47 : decode cX6_reel 47 = .ok (.iconst 3, 1) := dk_6 (dk_at dksX6_reel_1 23 rfl rfl)
theorem dX6_reel_48 : decode cX6_reel 48 = .ok (.invokevirtual 83, 3) := dk_182 0 83 (dk_at dksX6_reel_2 0 rfl rfl)
theorem dX6_reel_51 : decode cX6_reel 51 = .ok (.ireturn, 1) := dk_172 (dk_at dksX6_reel_2 3 rfl rfl)
theorem dX6_reel_52 : decode cX6_reel 52 = .ok (.aload_n 0, 1) := dk_42 (dk_at dksX6_reel_2 4 rfl rfl)
theorem dX6_reel_53 : decode cX6_reel 53 = .ok (.iload_n 1, 1) := dk_27 (dk_at dksX6_reel_2 5 rfl rfl)
theorem dX6_reel_54 : decode cX6_reel 54 = .ok (.iconst 5, 1) := dk_8 (dk_at dksX6_reel_2 6 rfl rfl)
theorem dX6_reel_55 : decode cX6_reel 55 = .ok (.invokevirtual 68, 3) := dk_182 0 68 (dk_at dksX6_reel_2 7 rfl rfl)
theorem dX6_reel_58 : decode cX6_reel 58 = .ok (.iload_n 2, 1) := dk_28 (dk_at dksX6_reel_2 10 rfl rfl)
theorem dX6_reel_59 : decode cX6_reel 59 = .ok (.iadd, 1) := dk_96 (dk_at dksX6_reel_2 11 rfl rfl)
theorem dX6_reel_60 : decode cX6_reel 60 = .ok (.aload_n 0, 1) := dk_42 (dk_at dksX6_reel_2 12 rfl rfl)
theorem dX6_reel_61 : decode cX6_reel 61 = .ok (.iload_n 1, 1) := dk_27 (dk_at dksX6_reel_2 13 rfl rfl)
theorem dX6_reel_62 : decode cX6_reel 62 = .ok (.iconst 3, 1) := dk_6 (dk_at dksX6_reel_2 14 rfl rfl)
theorem dX6_reel_63 : decode cX6_reel 63 = .ok (.invokevirtual 68, 3) := dk_182 0 68 (dk_at dksX6_reel_2 15 rfl rfl)
theorem dX6_reel_66 : decode cX6_reel 66 = .ok (.if_icmp .le 10, 3) := dk_164 0 10 (dk_at dksX6_reel_2 18 rfl rfl)
theorem dX6_reel_69 : decode cX6_reel 69 = .ok (.aload_n 0, 1) := dk_42 (dk_at dksX6_reel_2 21 rfl rfl)
theorem dX6_reel_70 : decode cX6_reel 70 = .ok (.iconst 5, 1) := dk_8 (dk_at dksX6_reel_2 22 rfl rfl)
theorem dX6_reel_71 : decode cX6_reel 71 = .ok (.iconst 3, 1) := dk_6 (dk_at dksX6_reel_2 23 rfl rfl)
theorem dX6_reel_72 : decode cX6_reel 72 = .ok (.invokevirtual 83, 3) := dk_182 0 83 (dk_at dksX6_reel_3 0 rfl rfl)
theorem dX6_reel_75 : decode cX6_reel 75 = .ok (.ireturn, 1) := dk_172 (dk_at dksX6_reel_3 3 rfl rfl)
theorem dX6_reel_76 : decode cX6_reel 76 = .ok (.aload_n 0, 1) := dk_42 (dk_at dksX6_reel_3 4 rfl rfl)
theorem dX6_reel_77 : decode cX6_reel 77 = .ok (.iload_n 1, 1) := dk_27 (dk_at dksX6_reel_3 5 rfl rfl)
theorem dX6_reel_78 : decode cX6_reel 78 = .ok (.iconst 5, 1) := dk_8 (dk_at dksX6_reel_3 6 rfl rfl)
theorem dX6_reel_79 : decode cX6_reel 79 = .ok (.invokevirtual 68, 3) := dk_182 0 68 (dk_at dksX6_reel_3 7 rfl rfl)
theorem dX6_reel_82 : decode cX6_reel 82 = .ok (.iload_n 2, 1) := dk_28 (dk_at dksX6_reel_3 10 rfl rfl)
theorem dX6_reel_83 : decode cX6_reel 83 = .ok (.iadd, 1) := dk_96 (dk_at dksX6_reel_3 11 rfl rfl)
theorem dX6_reel_84 : decode cX6_reel 84 = .ok (.ifCond .ge 11, 3) := dk_156 0 11 (dk_at dksX6_reel_3 12 rfl rfl)
theorem dX6_reel_87 : decode cX6_reel 87 = .ok (.aload_n 0, 1) := dk_42 (dk_at dksX6_reel_3 15 rfl rfl)
theorem dX6_reel_88 : decode cX6_reel 88 = .ok (.bipush 6, 2) := dk_16 6 (dk_at dksX6_reel_3 16 rfl rfl)
theorem dX6_reel_90 : decode cX6_reel 90 = .ok (.iconst 3, 1) := dk_6 (dk_at dksX6_reel_3 18 rfl rfl)
theorem dX6_reel_91 : decode cX6_reel 91 = .ok (.invokevirtual 83, 3) := dk_182 0 83 (dk_at dksX6_reel_3 19 rfl rfl)
theorem dX6_reel_94 : decode cX6_reel 94 = .ok (.ireturn, 1) := dk_172 (dk_at dksX6_reel_3 22 rfl rfl)
theorem dX6_reel_95 : decode cX6_reel 95 = .ok (.aload_n 0, 1) := dk_42 (dk_at dksX6_reel_3 23 rfl rfl)
theorem dX6_reel_96 : decode cX6_reel 96 = .ok (.aload_n 0, 1) := dk_42 (dk_at dksX6_reel_4 0 rfl rfl)
theorem dX6_reel_97 : decode cX6_reel 97 = .ok (.getfield 7, 3) := dk_180 0 7 (dk_at dksX6_reel_4 1 rfl rfl)
theorem dX6_reel_100 : decode cX6_reel 100 = .ok (.invokevirtual 79, 3) := dk_182 0 79 (dk_at dksX6_reel_4 4 rfl rfl)
theorem dX6_reel_103 : decode cX6_reel 103 = .ok (.aload_n 0, 1) := dk_42 (dk_at dksX6_reel_4 7 rfl rfl)
theorem dX6_reel_104 : decode cX6_reel 104 = .ok (.iload_n 1, 1) := dk_27 (dk_at dksX6_reel_4 8 rfl rfl)
theorem dX6_reel_105 : decode cX6_reel 105 = .ok (.iload_n 2, 1) := dk_28 (dk_at dksX6_reel_4 9 rfl rfl)
theorem dX6_reel_106 : decode cX6_reel 106 = .ok (.invokevirtual 100, 3) := dk_182 0 100 (dk_at dksX6_reel_4 10 rfl rfl)
theorem dX6_reel_109 : decode cX6_reel 109 = .ok (.aload_n 0, 1) := dk_42 (dk_at dksX6_reel_4 13 rfl rfl)
theorem dX6_reel_110 : decode cX6_reel 110 = .ok (.iload_n 1, 1) := dk_27 (dk_at dksX6_reel_4 14 rfl rfl)
theorem dX6_reel_111 : decode cX6_reel 111 = .ok (.iconst 5, 1) := dk_8 (dk_at dksX6_reel_4 15 rfl rfl)
theorem dX6_reel_112 : decode cX6_reel 112 = .ok (.invokevirtual 68, 3) := dk_182 0 68 (dk_at dksX6_reel_4 16 rfl rfl)
theorem dX6_reel_115 : decode cX6_reel 115 = .ok (.ireturn, 1) := dk_172 (dk_at dksX6_reel_4 19 rfl rfl)
abbrev cX6_isUp : ByteArray := prog_21_method_14_code
def yX6_isUp : MethodName := ⟨RX6, "isUp", "(I)Z"⟩
def dkwX6_isUp_0 : List UInt8 := [42, 27, 3, 182, 0, 68, 4, 160, 0, 7, 4, 167, 0, 4, 3, 172]
abbrev dktX6_isUp_0 : List UInt8 := dkwX6_isUp_0 ++ []
theorem dksX6_isUp_0 : cX6_isUp.data.toList.drop 0 = dktX6_isUp_0 := by decide +kernel
theorem dX6_isUp_0 : decode cX6_isUp 0 = .ok (.aload_n 0, 1) := dk_42 (dk_at dksX6_isUp_0 0 rfl rfl)
theorem dX6_isUp_1 : decode cX6_isUp 1 = .ok (.iload_n 1, 1) := dk_27 (dk_at dksX6_isUp_0 1 rfl rfl)
theorem dX6_isUp_2 : decode cX6_isUp 2 = .ok (.iconst 0, 1) := dk_3 (dk_at dksX6_isUp_0 2 rfl rfl)
theorem dX6_isUp_3 : decode cX6_isUp 3 = .ok (.invokevirtual 68, 3) := dk_182 0 68 (dk_at dksX6_isUp_0 3 rfl rfl)
theorem dX6_isUp_6 : decode cX6_isUp 6 = .ok (.iconst 1, 1) := dk_4 (dk_at dksX6_isUp_0 6 rfl rfl)
theorem dX6_isUp_7 : decode cX6_isUp 7 = .ok (.if_icmp .ne 7, 3) := dk_160 0 7 (dk_at dksX6_isUp_0 7 rfl rfl)
theorem dX6_isUp_10 : decode cX6_isUp 10 = .ok (.iconst 1, 1) := dk_4 (dk_at dksX6_isUp_0 10 rfl rfl)
theorem dX6_isUp_11 : decode cX6_isUp 11 = .ok (.goto 4, 3) := dk_167 0 4 (dk_at dksX6_isUp_0 11 rfl rfl)
theorem dX6_isUp_14 : decode cX6_isUp 14 = .ok (.iconst 0, 1) := dk_3 (dk_at dksX6_isUp_0 14 rfl rfl)
theorem dX6_isUp_15 : decode cX6_isUp 15 = .ok (.ireturn, 1) := dk_172 (dk_at dksX6_isUp_0 15 rfl rfl)
abbrev cX6_lets : ByteArray := prog_21_method_23_code
def yX6_lets : MethodName := ⟨RX6, "lets", "(II)V"⟩
def dkwX6_lets_1 : List UInt8 := [92, 46, 28, 96, 79, 167, 0, 14, 42, 180, 0, 7, 16, 23, 92, 46, 28, 100, 79, 177]
abbrev dktX6_lets_1 : List UInt8 := dkwX6_lets_1 ++ []
def dkwX6_lets_0 : List UInt8 := [42, 27, 8, 42, 27, 8, 182, 0, 68, 28, 96, 182, 0, 86, 28, 158, 0, 17, 42, 180, 0, 7, 16, 21]
abbrev dktX6_lets_0 : List UInt8 := dkwX6_lets_0 ++ dktX6_lets_1
theorem dksX6_lets_0 : cX6_lets.data.toList.drop 0 = dktX6_lets_0 := by decide +kernel
theorem dksX6_lets_1 : cX6_lets.data.toList.drop 24 = dktX6_lets_1 := dk_seg dksX6_lets_0 24 rfl rfl
theorem dX6_lets_0 : decode cX6_lets 0 = .ok (.aload_n 0, 1) := dk_42 (dk_at dksX6_lets_0 0 rfl rfl)
theorem dX6_lets_1 : decode cX6_lets 1 = .ok (.iload_n 1, 1) := dk_27 (dk_at dksX6_lets_0 1 rfl rfl)
theorem dX6_lets_2 : decode cX6_lets 2 = .ok (.iconst 5, 1) := dk_8 (dk_at dksX6_lets_0 2 rfl rfl)
theorem dX6_lets_3 : decode cX6_lets 3 = .ok (.aload_n 0, 1) := dk_42 (dk_at dksX6_lets_0 3 rfl rfl)
theorem dX6_lets_4 : decode cX6_lets 4 = .ok (.iload_n 1, 1) := dk_27 (dk_at dksX6_lets_0 4 rfl rfl)
theorem dX6_lets_5 : decode cX6_lets 5 = .ok (.iconst 5, 1) := dk_8 (dk_at dksX6_lets_0 5 rfl rfl)
theorem dX6_lets_6 : decode cX6_lets 6 = .ok (.invokevirtual 68, 3) := dk_182 0 68 (dk_at dksX6_lets_0 6 rfl rfl)
theorem dX6_lets_9 : decode cX6_lets 9 = .ok (.iload_n 2, 1) := dk_28 (dk_at dksX6_lets_0 9 rfl rfl)
theorem dX6_lets_10 : decode cX6_lets 10 = .ok (.iadd, 1) := dk_96 (dk_at dksX6_lets_0 10 rfl rfl)
theorem dX6_lets_11 : decode cX6_lets 11 = .ok (.invokevirtual 86, 3) := dk_182 0 86 (dk_at dksX6_lets_0 11 rfl rfl)
theorem dX6_lets_14 : decode cX6_lets 14 = .ok (.iload_n 2, 1) := dk_28 (dk_at dksX6_lets_0 14 rfl rfl)
theorem dX6_lets_15 : decode cX6_lets 15 = .ok (.ifCond .le 17, 3) := dk_158 0 17 (dk_at dksX6_lets_0 15 rfl rfl)
theorem dX6_lets_18 : decode cX6_lets 18 = .ok (.aload_n 0, 1) := dk_42 (dk_at dksX6_lets_0 18 rfl rfl)
theorem dX6_lets_19 : decode cX6_lets 19 = .ok (.getfield 7, 3) := dk_180 0 7 (dk_at dksX6_lets_0 19 rfl rfl)
theorem dX6_lets_22 : decode cX6_lets 22 = .ok (.bipush 21, 2) := dk_16 21 (dk_at dksX6_lets_0 22 rfl rfl)
theorem dX6_lets_24 : decode cX6_lets 24 = .ok (.dup2, 1) := dk_92 (dk_at dksX6_lets_1 0 rfl rfl)
theorem dX6_lets_25 : decode cX6_lets 25 = .ok (.iaload, 1) := dk_46 (dk_at dksX6_lets_1 1 rfl rfl)
theorem dX6_lets_26 : decode cX6_lets 26 = .ok (.iload_n 2, 1) := dk_28 (dk_at dksX6_lets_1 2 rfl rfl)
theorem dX6_lets_27 : decode cX6_lets 27 = .ok (.iadd, 1) := dk_96 (dk_at dksX6_lets_1 3 rfl rfl)
theorem dX6_lets_28 : decode cX6_lets 28 = .ok (.iastore, 1) := dk_79 (dk_at dksX6_lets_1 4 rfl rfl)
theorem dX6_lets_29 : decode cX6_lets 29 = .ok (.goto 14, 3) := dk_167 0 14 (dk_at dksX6_lets_1 5 rfl rfl)
theorem dX6_lets_32 : decode cX6_lets 32 = .ok (.aload_n 0, 1) := dk_42 (dk_at dksX6_lets_1 8 rfl rfl)
theorem dX6_lets_33 : decode cX6_lets 33 = .ok (.getfield 7, 3) := dk_180 0 7 (dk_at dksX6_lets_1 9 rfl rfl)
theorem dX6_lets_36 : decode cX6_lets 36 = .ok (.bipush 23, 2) := dk_16 23 (dk_at dksX6_lets_1 12 rfl rfl)
theorem dX6_lets_38 : decode cX6_lets 38 = .ok (.dup2, 1) := dk_92 (dk_at dksX6_lets_1 14 rfl rfl)
theorem dX6_lets_39 : decode cX6_lets 39 = .ok (.iaload, 1) := dk_46 (dk_at dksX6_lets_1 15 rfl rfl)
theorem dX6_lets_40 : decode cX6_lets 40 = .ok (.iload_n 2, 1) := dk_28 (dk_at dksX6_lets_1 16 rfl rfl)
theorem dX6_lets_41 : decode cX6_lets 41 = .ok (.isub, 1) := dk_100 (dk_at dksX6_lets_1 17 rfl rfl)
theorem dX6_lets_42 : decode cX6_lets 42 = .ok (.iastore, 1) := dk_79 (dk_at dksX6_lets_1 18 rfl rfl)
theorem dX6_lets_43 : decode cX6_lets 43 = .ok (.return_, 1) := dk_177 (dk_at dksX6_lets_1 19 rfl rfl)
abbrev cX6_setSpeed : ByteArray := prog_21_method_25_code
def yX6_setSpeed : MethodName := ⟨RX6, "setSpeed", "(II)I"⟩
def dkwX6_setSpeed_2 : List UInt8 := [16, 7, 182, 0, 68, 62, 42, 27, 16, 7, 28, 182, 0, 86, 29, 172]
abbrev dktX6_setSpeed_2 : List UInt8 := dkwX6_setSpeed_2 ++ []
def dkwX6_setSpeed_1 : List UInt8 := [3, 167, 0, 4, 5, 182, 0, 76, 153, 0, 5, 3, 172, 42, 42, 180, 0, 7, 182, 0, 79, 42, 27]
abbrev dktX6_setSpeed_1 : List UInt8 := dkwX6_setSpeed_1 ++ dktX6_setSpeed_2
def dkwX6_setSpeed_0 : List UInt8 := [42, 42, 27, 182, 0, 90, 154, 0, 7, 4, 167, 0, 19, 28, 16, 247, 16, 9, 184, 0, 64, 153, 0, 7]
abbrev dktX6_setSpeed_0 : List UInt8 := dkwX6_setSpeed_0 ++ dktX6_setSpeed_1
theorem dksX6_setSpeed_0 : cX6_setSpeed.data.toList.drop 0 = dktX6_setSpeed_0 := by decide +kernel
theorem dksX6_setSpeed_1 : cX6_setSpeed.data.toList.drop 24 = dktX6_setSpeed_1 := dk_seg dksX6_setSpeed_0 24 rfl rfl
theorem dksX6_setSpeed_2 : cX6_setSpeed.data.toList.drop 47 = dktX6_setSpeed_2 := dk_seg dksX6_setSpeed_1 23 rfl rfl
theorem dX6_setSpeed_0 : decode cX6_setSpeed 0 = .ok (.aload_n 0, 1) := dk_42 (dk_at dksX6_setSpeed_0 0 rfl rfl)
theorem dX6_setSpeed_1 : decode cX6_setSpeed 1 = .ok (.aload_n 0, 1) := dk_42 (dk_at dksX6_setSpeed_0 1 rfl rfl)
theorem dX6_setSpeed_2 : decode cX6_setSpeed 2 = .ok (.iload_n 1, 1) := dk_27 (dk_at dksX6_setSpeed_0 2 rfl rfl)
theorem dX6_setSpeed_3 : decode cX6_setSpeed 3 = .ok (.invokevirtual 90, 3) := dk_182 0 90 (dk_at dksX6_setSpeed_0 3 rfl rfl)
theorem dX6_setSpeed_6 : decode cX6_setSpeed 6 = .ok (.ifCond .ne 7, 3) := dk_154 0 7 (dk_at dksX6_setSpeed_0 6 rfl rfl)
theorem dX6_setSpeed_9 : decode cX6_setSpeed 9 = .ok (.iconst 1, 1) := dk_4 (dk_at dksX6_setSpeed_0 9 rfl rfl)
theorem dX6_setSpeed_10 : decode cX6_setSpeed 10 = .ok (.goto 19, 3) := dk_167 0 19 (dk_at dksX6_setSpeed_0 10 rfl rfl)
theorem dX6_setSpeed_13 : decode cX6_setSpeed 13 = .ok (.iload_n 2, 1) := dk_28 (dk_at dksX6_setSpeed_0 13 rfl rfl)
theorem dX6_setSpeed_14 : decode cX6_setSpeed 14 = .ok (.bipush (-9), 2) := dk_16 247 (dk_at dksX6_setSpeed_0 14 rfl rfl)
theorem dX6_setSpeed_16 : decode cX6_setSpeed 16 = .ok (.bipush 9, 2) := dk_16 9 (dk_at dksX6_setSpeed_0 16 rfl rfl)
theorem dX6_setSpeed_18 : decode cX6_setSpeed 18 = .ok (.invokestatic 64, 3) := dk_184 0 64 (dk_at dksX6_setSpeed_0 18 rfl rfl)
theorem dX6_setSpeed_21 : decode cX6_setSpeed 21 = .ok (.ifCond .eq 7, 3) := dk_153 0 7 (dk_at dksX6_setSpeed_0 21 rfl rfl)
theorem dX6_setSpeed_24 : decode cX6_setSpeed 24 = .ok (.iconst 0, 1) := dk_3 (dk_at dksX6_setSpeed_1 0 rfl rfl)
theorem dX6_setSpeed_25 : decode cX6_setSpeed 25 = .ok (.goto 4, 3) := dk_167 0 4 (dk_at dksX6_setSpeed_1 1 rfl rfl)
theorem dX6_setSpeed_28 : decode cX6_setSpeed 28 = .ok (.iconst 2, 1) := dk_5 (dk_at dksX6_setSpeed_1 4 rfl rfl)
theorem dX6_setSpeed_29 : decode cX6_setSpeed 29 = .ok (.invokevirtual 76, 3) := dk_182 0 76 (dk_at dksX6_setSpeed_1 5 rfl rfl)
theorem dX6_setSpeed_32 : decode cX6_setSpeed 32 = .ok (.ifCond .eq 5, 3) := dk_153 0 5 (dk_at dksX6_setSpeed_1 8 rfl rfl)
theorem dX6_setSpeed_35 : decode cX6_setSpeed 35 = .ok (.iconst 0, 1) := dk_3 (dk_at dksX6_setSpeed_1 11 rfl rfl)
theorem dX6_setSpeed_36 : decode cX6_setSpeed 36 = .ok (.ireturn, 1) := dk_172 (dk_at dksX6_setSpeed_1 12 rfl rfl)
theorem dX6_setSpeed_37 : decode cX6_setSpeed 37 = .ok (.aload_n 0, 1) := dk_42 (dk_at dksX6_setSpeed_1 13 rfl rfl)
theorem dX6_setSpeed_38 : decode cX6_setSpeed 38 = .ok (.aload_n 0, 1) := dk_42 (dk_at dksX6_setSpeed_1 14 rfl rfl)
theorem dX6_setSpeed_39 : decode cX6_setSpeed 39 = .ok (.getfield 7, 3) := dk_180 0 7 (dk_at dksX6_setSpeed_1 15 rfl rfl)
theorem dX6_setSpeed_42 : decode cX6_setSpeed 42 = .ok (.invokevirtual 79, 3) := dk_182 0 79 (dk_at dksX6_setSpeed_1 18 rfl rfl)
theorem dX6_setSpeed_45 : decode cX6_setSpeed 45 = .ok (.aload_n 0, 1) := dk_42 (dk_at dksX6_setSpeed_1 21 rfl rfl)
theorem dX6_setSpeed_46 : decode cX6_setSpeed 46 = .ok (.iload_n 1, 1) := dk_27 (dk_at dksX6_setSpeed_1 22 rfl rfl)
theorem dX6_setSpeed_47 : decode cX6_setSpeed 47 = .ok (.bipush 7, 2) := dk_16 7 (dk_at dksX6_setSpeed_2 0 rfl rfl)
theorem dX6_setSpeed_49 : decode cX6_setSpeed 49 = .ok (.invokevirtual 68, 3) := dk_182 0 68 (dk_at dksX6_setSpeed_2 2 rfl rfl)
theorem dX6_setSpeed_52 : decode cX6_setSpeed 52 = .ok (.istore_n 3, 1) := dk_62 (dk_at dksX6_setSpeed_2 5 rfl rfl)
theorem dX6_setSpeed_53 : decode cX6_setSpeed 53 = .ok (.aload_n 0, 1) := dk_42 (dk_at dksX6_setSpeed_2 6 rfl rfl)
theorem dX6_setSpeed_54 : decode cX6_setSpeed 54 = .ok (.iload_n 1, 1) := dk_27 (dk_at dksX6_setSpeed_2 7 rfl rfl)
theorem dX6_setSpeed_55 : decode cX6_setSpeed 55 = .ok (.bipush 7, 2) := dk_16 7 (dk_at dksX6_setSpeed_2 8 rfl rfl)
theorem dX6_setSpeed_57 : decode cX6_setSpeed 57 = .ok (.iload_n 2, 1) := dk_28 (dk_at dksX6_setSpeed_2 10 rfl rfl)
theorem dX6_setSpeed_58 : decode cX6_setSpeed 58 = .ok (.invokevirtual 86, 3) := dk_182 0 86 (dk_at dksX6_setSpeed_2 11 rfl rfl)
theorem dX6_setSpeed_61 : decode cX6_setSpeed 61 = .ok (.iload_n 3, 1) := dk_29 (dk_at dksX6_setSpeed_2 14 rfl rfl)
theorem dX6_setSpeed_62 : decode cX6_setSpeed 62 = .ok (.ireturn, 1) := dk_172 (dk_at dksX6_setSpeed_2 15 rfl rfl)
abbrev cX6_land : ByteArray := prog_21_method_26_code
def yX6_land : MethodName := ⟨RX6, "land", "(I)I"⟩
def dkwX6_land_2 : List UInt8 := [182, 0, 68, 61, 42, 27, 28, 116, 182, 0, 100, 42, 27, 3, 3, 182, 0, 86, 28, 172]
abbrev dktX6_land_2 : List UInt8 := dkwX6_land_2 ++ []
def dkwX6_land_1 : List UInt8 := [182, 0, 97, 154, 0, 10, 42, 7, 5, 182, 0, 83, 172, 42, 42, 180, 0, 7, 182, 0, 79, 42, 27, 8]
abbrev dktX6_land_1 : List UInt8 := dkwX6_land_1 ++ dktX6_land_2
def dkwX6_land_0 : List UInt8 := [42, 42, 27, 182, 0, 90, 153, 0, 7, 3, 167, 0, 4, 4, 182, 0, 76, 153, 0, 5, 3, 172, 42, 27]
abbrev dktX6_land_0 : List UInt8 := dkwX6_land_0 ++ dktX6_land_1
theorem dksX6_land_0 : cX6_land.data.toList.drop 0 = dktX6_land_0 := by decide +kernel
theorem dksX6_land_1 : cX6_land.data.toList.drop 24 = dktX6_land_1 := dk_seg dksX6_land_0 24 rfl rfl
theorem dksX6_land_2 : cX6_land.data.toList.drop 48 = dktX6_land_2 := dk_seg dksX6_land_1 24 rfl rfl
theorem dX6_land_0 : decode cX6_land 0 = .ok (.aload_n 0, 1) := dk_42 (dk_at dksX6_land_0 0 rfl rfl)
theorem dX6_land_1 : decode cX6_land 1 = .ok (.aload_n 0, 1) := dk_42 (dk_at dksX6_land_0 1 rfl rfl)
theorem dX6_land_2 : decode cX6_land 2 = .ok (.iload_n 1, 1) := dk_27 (dk_at dksX6_land_0 2 rfl rfl)
theorem dX6_land_3 : decode cX6_land 3 = .ok (.invokevirtual 90, 3) := dk_182 0 90 (dk_at dksX6_land_0 3 rfl rfl)
theorem dX6_land_6 : decode cX6_land 6 = .ok (.ifCond .eq 7, 3) := dk_153 0 7 (dk_at dksX6_land_0 6 rfl rfl)
theorem dX6_land_9 : decode cX6_land 9 = .ok (.iconst 0, 1) := dk_3 (dk_at dksX6_land_0 9 rfl rfl)
theorem dX6_land_10 : decode cX6_land 10 = .ok (.goto 4, 3) := dk_167 0 4 (dk_at dksX6_land_0 10 rfl rfl)
theorem dX6_land_13 : decode cX6_land 13 = .ok (.iconst 1, 1) := dk_4 (dk_at dksX6_land_0 13 rfl rfl)
theorem dX6_land_14 : decode cX6_land 14 = .ok (.invokevirtual 76, 3) := dk_182 0 76 (dk_at dksX6_land_0 14 rfl rfl)
theorem dX6_land_17 : decode cX6_land 17 = .ok (.ifCond .eq 5, 3) := dk_153 0 5 (dk_at dksX6_land_0 17 rfl rfl)
theorem dX6_land_20 : decode cX6_land 20 = .ok (.iconst 0, 1) := dk_3 (dk_at dksX6_land_0 20 rfl rfl)
theorem dX6_land_21 : decode cX6_land 21 = .ok (.ireturn, 1) := dk_172 (dk_at dksX6_land_0 21 rfl rfl)
theorem dX6_land_22 : decode cX6_land 22 = .ok (.aload_n 0, 1) := dk_42 (dk_at dksX6_land_0 22 rfl rfl)
theorem dX6_land_23 : decode cX6_land 23 = .ok (.iload_n 1, 1) := dk_27 (dk_at dksX6_land_0 23 rfl rfl)
theorem dX6_land_24 : decode cX6_land 24 = .ok (.invokevirtual 97, 3) := dk_182 0 97 (dk_at dksX6_land_1 0 rfl rfl)
theorem dX6_land_27 : decode cX6_land 27 = .ok (.ifCond .ne 10, 3) := dk_154 0 10 (dk_at dksX6_land_1 3 rfl rfl)
theorem dX6_land_30 : decode cX6_land 30 = .ok (.aload_n 0, 1) := dk_42 (dk_at dksX6_land_1 6 rfl rfl)
theorem dX6_land_31 : decode cX6_land 31 = .ok (.iconst 4, 1) := dk_7 (dk_at dksX6_land_1 7 rfl rfl)
theorem dX6_land_32 : decode cX6_land 32 = .ok (.iconst 2, 1) := dk_5 (dk_at dksX6_land_1 8 rfl rfl)
theorem dX6_land_33 : decode cX6_land 33 = .ok (.invokevirtual 83, 3) := dk_182 0 83 (dk_at dksX6_land_1 9 rfl rfl)
theorem dX6_land_36 : decode cX6_land 36 = .ok (.ireturn, 1) := dk_172 (dk_at dksX6_land_1 12 rfl rfl)
theorem dX6_land_37 : decode cX6_land 37 = .ok (.aload_n 0, 1) := dk_42 (dk_at dksX6_land_1 13 rfl rfl)
theorem dX6_land_38 : decode cX6_land 38 = .ok (.aload_n 0, 1) := dk_42 (dk_at dksX6_land_1 14 rfl rfl)
theorem dX6_land_39 : decode cX6_land 39 = .ok (.getfield 7, 3) := dk_180 0 7 (dk_at dksX6_land_1 15 rfl rfl)
theorem dX6_land_42 : decode cX6_land 42 = .ok (.invokevirtual 79, 3) := dk_182 0 79 (dk_at dksX6_land_1 18 rfl rfl)
theorem dX6_land_45 : decode cX6_land 45 = .ok (.aload_n 0, 1) := dk_42 (dk_at dksX6_land_1 21 rfl rfl)
theorem dX6_land_46 : decode cX6_land 46 = .ok (.iload_n 1, 1) := dk_27 (dk_at dksX6_land_1 22 rfl rfl)
theorem dX6_land_47 : decode cX6_land 47 = .ok (.iconst 5, 1) := dk_8 (dk_at dksX6_land_1 23 rfl rfl)
theorem dX6_land_48 : decode cX6_land 48 = .ok (.invokevirtual 68, 3) := dk_182 0 68 (dk_at dksX6_land_2 0 rfl rfl)
theorem dX6_land_51 : decode cX6_land 51 = .ok (.istore_n 2, 1) := dk_61 (dk_at dksX6_land_2 3 rfl rfl)
theorem dX6_land_52 : decode cX6_land 52 = .ok (.aload_n 0, 1) := dk_42 (dk_at dksX6_land_2 4 rfl rfl)
theorem dX6_land_53 : decode cX6_land 53 = .ok (.iload_n 1, 1) := dk_27 (dk_at dksX6_land_2 5 rfl rfl)
theorem dX6_land_54 : decode cX6_land 54 = .ok (.iload_n 2, 1) := dk_28 (dk_at dksX6_land_2 6 rfl rfl)
theorem dX6_land_55 : decode cX6_land 55 = .ok (.ineg, 1) := dk_116 (dk_at dksX6_land_2 7 rfl rfl)
theorem dX6_land_56 : decode cX6_land 56 = .ok (.invokevirtual 100, 3) := dk_182 0 100 (dk_at dksX6_land_2 8 rfl rfl)
theorem dX6_land_59 : decode cX6_land 59 = .ok (.aload_n 0, 1) := dk_42 (dk_at dksX6_land_2 11 rfl rfl)
theorem dX6_land_60 : decode cX6_land 60 = .ok (.iload_n 1, 1) := dk_27 (dk_at dksX6_land_2 12 rfl rfl)
theorem dX6_land_61 : decode cX6_land 61 = .ok (.iconst 0, 1) := dk_3 (dk_at dksX6_land_2 13 rfl rfl)
theorem dX6_land_62 : decode cX6_land 62 = .ok (.iconst 0, 1) := dk_3 (dk_at dksX6_land_2 14 rfl rfl)
theorem dX6_land_63 : decode cX6_land 63 = .ok (.invokevirtual 86, 3) := dk_182 0 86 (dk_at dksX6_land_2 15 rfl rfl)
theorem dX6_land_66 : decode cX6_land 66 = .ok (.iload_n 2, 1) := dk_28 (dk_at dksX6_land_2 18 rfl rfl)
theorem dX6_land_67 : decode cX6_land 67 = .ok (.ireturn, 1) := dk_172 (dk_at dksX6_land_2 19 rfl rfl)
abbrev cX6_tie : ByteArray := prog_21_method_27_code
def yX6_tie : MethodName := ⟨RX6, "tie", "(I)I"⟩
def dkwX6_tie_3 : List UInt8 := [182, 0, 86, 42, 27, 6, 182, 0, 68, 172]
abbrev dktX6_tie_3 : List UInt8 := dkwX6_tie_3 ++ []
def dkwX6_tie_2 : List UInt8 := [162, 0, 11, 42, 16, 8, 5, 182, 0, 83, 172, 42, 42, 180, 0, 7, 182, 0, 79, 42, 27, 3, 3]
abbrev dktX6_tie_2 : List UInt8 := dkwX6_tie_2 ++ dktX6_tie_3
def dkwX6_tie_1 : List UInt8 := [3, 182, 0, 68, 5, 159, 0, 11, 42, 16, 7, 5, 182, 0, 83, 172, 42, 27, 6, 182, 0, 68, 16, 10]
abbrev dktX6_tie_1 : List UInt8 := dkwX6_tie_1 ++ dktX6_tie_2
def dkwX6_tie_0 : List UInt8 := [42, 42, 27, 182, 0, 90, 153, 0, 7, 3, 167, 0, 4, 4, 182, 0, 76, 153, 0, 5, 3, 172, 42, 27]
abbrev dktX6_tie_0 : List UInt8 := dkwX6_tie_0 ++ dktX6_tie_1
theorem dksX6_tie_0 : cX6_tie.data.toList.drop 0 = dktX6_tie_0 := by decide +kernel
theorem dksX6_tie_1 : cX6_tie.data.toList.drop 24 = dktX6_tie_1 := dk_seg dksX6_tie_0 24 rfl rfl
theorem dksX6_tie_2 : cX6_tie.data.toList.drop 48 = dktX6_tie_2 := dk_seg dksX6_tie_1 24 rfl rfl
theorem dksX6_tie_3 : cX6_tie.data.toList.drop 71 = dktX6_tie_3 := dk_seg dksX6_tie_2 23 rfl rfl
theorem dX6_tie_0 : decode cX6_tie 0 = .ok (.aload_n 0, 1) := dk_42 (dk_at dksX6_tie_0 0 rfl rfl)
theorem dX6_tie_1 : decode cX6_tie 1 = .ok (.aload_n 0, 1) := dk_42 (dk_at dksX6_tie_0 1 rfl rfl)
theorem dX6_tie_2 : decode cX6_tie 2 = .ok (.iload_n 1, 1) := dk_27 (dk_at dksX6_tie_0 2 rfl rfl)
theorem dX6_tie_3 : decode cX6_tie 3 = .ok (.invokevirtual 90, 3) := dk_182 0 90 (dk_at dksX6_tie_0 3 rfl rfl)
theorem dX6_tie_6 : decode cX6_tie 6 = .ok (.ifCond .eq 7, 3) := dk_153 0 7 (dk_at dksX6_tie_0 6 rfl rfl)
theorem dX6_tie_9 : decode cX6_tie 9 = .ok (.iconst 0, 1) := dk_3 (dk_at dksX6_tie_0 9 rfl rfl)
theorem dX6_tie_10 : decode cX6_tie 10 = .ok (.goto 4, 3) := dk_167 0 4 (dk_at dksX6_tie_0 10 rfl rfl)
theorem dX6_tie_13 : decode cX6_tie 13 = .ok (.iconst 1, 1) := dk_4 (dk_at dksX6_tie_0 13 rfl rfl)
theorem dX6_tie_14 : decode cX6_tie 14 = .ok (.invokevirtual 76, 3) := dk_182 0 76 (dk_at dksX6_tie_0 14 rfl rfl)
theorem dX6_tie_17 : decode cX6_tie 17 = .ok (.ifCond .eq 5, 3) := dk_153 0 5 (dk_at dksX6_tie_0 17 rfl rfl)
theorem dX6_tie_20 : decode cX6_tie 20 = .ok (.iconst 0, 1) := dk_3 (dk_at dksX6_tie_0 20 rfl rfl)
theorem dX6_tie_21 : decode cX6_tie 21 = .ok (.ireturn, 1) := dk_172 (dk_at dksX6_tie_0 21 rfl rfl)
theorem dX6_tie_22 : decode cX6_tie 22 = .ok (.aload_n 0, 1) := dk_42 (dk_at dksX6_tie_0 22 rfl rfl)
theorem dX6_tie_23 : decode cX6_tie 23 = .ok (.iload_n 1, 1) := dk_27 (dk_at dksX6_tie_0 23 rfl rfl)
theorem dX6_tie_24 : decode cX6_tie 24 = .ok (.iconst 0, 1) := dk_3 (dk_at dksX6_tie_1 0 rfl rfl)
theorem dX6_tie_25 : decode cX6_tie 25 = .ok (.invokevirtual 68, 3) := dk_182 0 68 (dk_at dksX6_tie_1 1 rfl rfl)
theorem dX6_tie_28 : decode cX6_tie 28 = .ok (.iconst 2, 1) := dk_5 (dk_at dksX6_tie_1 4 rfl rfl)
theorem dX6_tie_29 : decode cX6_tie 29 = .ok (.if_icmp .eq 11, 3) := dk_159 0 11 (dk_at dksX6_tie_1 5 rfl rfl)
theorem dX6_tie_32 : decode cX6_tie 32 = .ok (.aload_n 0, 1) := dk_42 (dk_at dksX6_tie_1 8 rfl rfl)
theorem dX6_tie_33 : decode cX6_tie 33 = .ok (.bipush 7, 2) := dk_16 7 (dk_at dksX6_tie_1 9 rfl rfl)
theorem dX6_tie_35 : decode cX6_tie 35 = .ok (.iconst 2, 1) := dk_5 (dk_at dksX6_tie_1 11 rfl rfl)
theorem dX6_tie_36 : decode cX6_tie 36 = .ok (.invokevirtual 83, 3) := dk_182 0 83 (dk_at dksX6_tie_1 12 rfl rfl)
theorem dX6_tie_39 : decode cX6_tie 39 = .ok (.ireturn, 1) := dk_172 (dk_at dksX6_tie_1 15 rfl rfl)
theorem dX6_tie_40 : decode cX6_tie 40 = .ok (.aload_n 0, 1) := dk_42 (dk_at dksX6_tie_1 16 rfl rfl)
theorem dX6_tie_41 : decode cX6_tie 41 = .ok (.iload_n 1, 1) := dk_27 (dk_at dksX6_tie_1 17 rfl rfl)
theorem dX6_tie_42 : decode cX6_tie 42 = .ok (.iconst 3, 1) := dk_6 (dk_at dksX6_tie_1 18 rfl rfl)
theorem dX6_tie_43 : decode cX6_tie 43 = .ok (.invokevirtual 68, 3) := dk_182 0 68 (dk_at dksX6_tie_1 19 rfl rfl)
theorem dX6_tie_46 : decode cX6_tie 46 = .ok (.bipush 10, 2) := dk_16 10 (dk_at dksX6_tie_1 22 rfl rfl)
theorem dX6_tie_48 : decode cX6_tie 48 = .ok (.if_icmp .ge 11, 3) := dk_162 0 11 (dk_at dksX6_tie_2 0 rfl rfl)
theorem dX6_tie_51 : decode cX6_tie 51 = .ok (.aload_n 0, 1) := dk_42 (dk_at dksX6_tie_2 3 rfl rfl)
theorem dX6_tie_52 : decode cX6_tie 52 = .ok (.bipush 8, 2) := dk_16 8 (dk_at dksX6_tie_2 4 rfl rfl)
theorem dX6_tie_54 : decode cX6_tie 54 = .ok (.iconst 2, 1) := dk_5 (dk_at dksX6_tie_2 6 rfl rfl)
theorem dX6_tie_55 : decode cX6_tie 55 = .ok (.invokevirtual 83, 3) := dk_182 0 83 (dk_at dksX6_tie_2 7 rfl rfl)
theorem dX6_tie_58 : decode cX6_tie 58 = .ok (.ireturn, 1) := dk_172 (dk_at dksX6_tie_2 10 rfl rfl)
theorem dX6_tie_59 : decode cX6_tie 59 = .ok (.aload_n 0, 1) := dk_42 (dk_at dksX6_tie_2 11 rfl rfl)
theorem dX6_tie_60 : decode cX6_tie 60 = .ok (.aload_n 0, 1) := dk_42 (dk_at dksX6_tie_2 12 rfl rfl)
theorem dX6_tie_61 : decode cX6_tie 61 = .ok (.getfield 7, 3) := dk_180 0 7 (dk_at dksX6_tie_2 13 rfl rfl)
theorem dX6_tie_64 : decode cX6_tie 64 = .ok (.invokevirtual 79, 3) := dk_182 0 79 (dk_at dksX6_tie_2 16 rfl rfl)
theorem dX6_tie_67 : decode cX6_tie 67 = .ok (.aload_n 0, 1) := dk_42 (dk_at dksX6_tie_2 19 rfl rfl)
theorem dX6_tie_68 : decode cX6_tie 68 = .ok (.iload_n 1, 1) := dk_27 (dk_at dksX6_tie_2 20 rfl rfl)
theorem dX6_tie_69 : decode cX6_tie 69 = .ok (.iconst 0, 1) := dk_3 (dk_at dksX6_tie_2 21 rfl rfl)
theorem dX6_tie_70 : decode cX6_tie 70 = .ok (.iconst 0, 1) := dk_3 (dk_at dksX6_tie_2 22 rfl rfl)
theorem dX6_tie_71 : decode cX6_tie 71 = .ok (.invokevirtual 86, 3) := dk_182 0 86 (dk_at dksX6_tie_3 0 rfl rfl)
theorem dX6_tie_74 : decode cX6_tie 74 = .ok (.aload_n 0, 1) := dk_42 (dk_at dksX6_tie_3 3 rfl rfl)
theorem dX6_tie_75 : decode cX6_tie 75 = .ok (.iload_n 1, 1) := dk_27 (dk_at dksX6_tie_3 4 rfl rfl)
theorem dX6_tie_76 : decode cX6_tie 76 = .ok (.iconst 3, 1) := dk_6 (dk_at dksX6_tie_3 5 rfl rfl)
theorem dX6_tie_77 : decode cX6_tie 77 = .ok (.invokevirtual 68, 3) := dk_182 0 68 (dk_at dksX6_tie_3 6 rfl rfl)
theorem dX6_tie_80 : decode cX6_tie 80 = .ok (.ireturn, 1) := dk_172 (dk_at dksX6_tie_3 9 rfl rfl)
abbrev cX6_kiteOf : ByteArray := prog_21_method_33_code
def yX6_kiteOf : MethodName := ⟨RX6, "kiteOf", "(II)I"⟩
def dkwX6_kiteOf_7 : List UInt8 := [182, 0, 68, 172]
abbrev dktX6_kiteOf_7 : List UInt8 := dkwX6_kiteOf_7 ++ []
def dkwX6_kiteOf_6 : List UInt8 := [167, 0, 4, 3, 172, 42, 27, 16, 7, 182, 0, 68, 172, 42, 27, 16, 8, 182, 0, 68, 172, 42, 27, 28]
abbrev dktX6_kiteOf_6 : List UInt8 := dkwX6_kiteOf_6 ++ dktX6_kiteOf_7
def dkwX6_kiteOf_5 : List UInt8 := [182, 0, 97, 153, 0, 23, 42, 27, 8, 182, 0, 68, 42, 27, 42, 27, 182, 0, 113, 182, 0, 125, 100]
abbrev dktX6_kiteOf_5 : List UInt8 := dkwX6_kiteOf_5 ++ dktX6_kiteOf_6
def dkwX6_kiteOf_4 : List UInt8 := [182, 0, 113, 172, 42, 27, 182, 0, 119, 172, 42, 27, 42, 27, 182, 0, 113, 182, 0, 122, 172, 42, 27]
abbrev dktX6_kiteOf_4 : List UInt8 := dkwX6_kiteOf_4 ++ dktX6_kiteOf_5
def dkwX6_kiteOf_3 : List UInt8 := [42, 27, 182, 0, 97, 153, 0, 13, 42, 27, 16, 6, 182, 0, 68, 167, 0, 4, 3, 172, 42, 27]
abbrev dktX6_kiteOf_3 : List UInt8 := dkwX6_kiteOf_3 ++ dktX6_kiteOf_4
def dkwX6_kiteOf_2 : List UInt8 := [170, 0, 0, 0, 0, 0, 132, 0, 0, 0, 6, 0, 0, 0, 12, 0, 0, 0, 43, 0, 0, 0, 63, 0, 0, 0, 69, 0, 0, 0, 75, 0, 0, 0, 86, 0, 0, 0, 116, 0, 0, 0, 124]
abbrev dktX6_kiteOf_2 : List UInt8 := dkwX6_kiteOf_2 ++ dktX6_kiteOf_3
def dkwX6_kiteOf_1 : List UInt8 := [167, 0, 4, 5, 182, 0, 76, 153, 0, 5, 3, 172, 28]
abbrev dktX6_kiteOf_1 : List UInt8 := dkwX6_kiteOf_1 ++ dktX6_kiteOf_2
def dkwX6_kiteOf_0 : List UInt8 := [42, 42, 27, 182, 0, 90, 154, 0, 7, 4, 167, 0, 18, 28, 3, 16, 12, 184, 0, 64, 153, 0, 7, 3]
abbrev dktX6_kiteOf_0 : List UInt8 := dkwX6_kiteOf_0 ++ dktX6_kiteOf_1
theorem dksX6_kiteOf_0 : cX6_kiteOf.data.toList.drop 0 = dktX6_kiteOf_0 := by decide +kernel
theorem dksX6_kiteOf_1 : cX6_kiteOf.data.toList.drop 24 = dktX6_kiteOf_1 := dk_seg dksX6_kiteOf_0 24 rfl rfl
theorem dksX6_kiteOf_2 : cX6_kiteOf.data.toList.drop 37 = dktX6_kiteOf_2 := dk_seg dksX6_kiteOf_1 13 rfl rfl
theorem dksX6_kiteOf_3 : cX6_kiteOf.data.toList.drop 80 = dktX6_kiteOf_3 := dk_seg dksX6_kiteOf_2 43 rfl rfl
theorem dksX6_kiteOf_4 : cX6_kiteOf.data.toList.drop 102 = dktX6_kiteOf_4 := dk_seg dksX6_kiteOf_3 22 rfl rfl
theorem dksX6_kiteOf_5 : cX6_kiteOf.data.toList.drop 125 = dktX6_kiteOf_5 := dk_seg dksX6_kiteOf_4 23 rfl rfl
theorem dksX6_kiteOf_6 : cX6_kiteOf.data.toList.drop 148 = dktX6_kiteOf_6 := dk_seg dksX6_kiteOf_5 23 rfl rfl
theorem dksX6_kiteOf_7 : cX6_kiteOf.data.toList.drop 172 = dktX6_kiteOf_7 := dk_seg dksX6_kiteOf_6 24 rfl rfl
theorem dX6_kiteOf_0 : decode cX6_kiteOf 0 = .ok (.aload_n 0, 1) := dk_42 (dk_at dksX6_kiteOf_0 0 rfl rfl)
theorem dX6_kiteOf_1 : decode cX6_kiteOf 1 = .ok (.aload_n 0, 1) := dk_42 (dk_at dksX6_kiteOf_0 1 rfl rfl)
theorem dX6_kiteOf_2 : decode cX6_kiteOf 2 = .ok (.iload_n 1, 1) := dk_27 (dk_at dksX6_kiteOf_0 2 rfl rfl)
theorem dX6_kiteOf_3 : decode cX6_kiteOf 3 = .ok (.invokevirtual 90, 3) := dk_182 0 90 (dk_at dksX6_kiteOf_0 3 rfl rfl)
theorem dX6_kiteOf_6 : decode cX6_kiteOf 6 = .ok (.ifCond .ne 7, 3) := dk_154 0 7 (dk_at dksX6_kiteOf_0 6 rfl rfl)
theorem dX6_kiteOf_9 : decode cX6_kiteOf 9 = .ok (.iconst 1, 1) := dk_4 (dk_at dksX6_kiteOf_0 9 rfl rfl)
theorem dX6_kiteOf_10 : decode cX6_kiteOf 10 = .ok (.goto 18, 3) := dk_167 0 18 (dk_at dksX6_kiteOf_0 10 rfl rfl)
theorem dX6_kiteOf_13 : decode cX6_kiteOf 13 = .ok (.iload_n 2, 1) := dk_28 (dk_at dksX6_kiteOf_0 13 rfl rfl)
theorem dX6_kiteOf_14 : decode cX6_kiteOf 14 = .ok (.iconst 0, 1) := dk_3 (dk_at dksX6_kiteOf_0 14 rfl rfl)
theorem dX6_kiteOf_15 : decode cX6_kiteOf 15 = .ok (.bipush 12, 2) := dk_16 12 (dk_at dksX6_kiteOf_0 15 rfl rfl)
theorem dX6_kiteOf_17 : decode cX6_kiteOf 17 = .ok (.invokestatic 64, 3) := dk_184 0 64 (dk_at dksX6_kiteOf_0 17 rfl rfl)
theorem dX6_kiteOf_20 : decode cX6_kiteOf 20 = .ok (.ifCond .eq 7, 3) := dk_153 0 7 (dk_at dksX6_kiteOf_0 20 rfl rfl)
theorem dX6_kiteOf_23 : decode cX6_kiteOf 23 = .ok (.iconst 0, 1) := dk_3 (dk_at dksX6_kiteOf_0 23 rfl rfl)
theorem dX6_kiteOf_24 : decode cX6_kiteOf 24 = .ok (.goto 4, 3) := dk_167 0 4 (dk_at dksX6_kiteOf_1 0 rfl rfl)
theorem dX6_kiteOf_27 : decode cX6_kiteOf 27 = .ok (.iconst 2, 1) := dk_5 (dk_at dksX6_kiteOf_1 3 rfl rfl)
theorem dX6_kiteOf_28 : decode cX6_kiteOf 28 = .ok (.invokevirtual 76, 3) := dk_182 0 76 (dk_at dksX6_kiteOf_1 4 rfl rfl)
theorem dX6_kiteOf_31 : decode cX6_kiteOf 31 = .ok (.ifCond .eq 5, 3) := dk_153 0 5 (dk_at dksX6_kiteOf_1 7 rfl rfl)
theorem dX6_kiteOf_34 : decode cX6_kiteOf 34 = .ok (.iconst 0, 1) := dk_3 (dk_at dksX6_kiteOf_1 10 rfl rfl)
theorem dX6_kiteOf_35 : decode cX6_kiteOf 35 = .ok (.ireturn, 1) := dk_172 (dk_at dksX6_kiteOf_1 11 rfl rfl)
theorem dX6_kiteOf_36 : decode cX6_kiteOf 36 = .ok (.iload_n 2, 1) := dk_28 (dk_at dksX6_kiteOf_1 12 rfl rfl)
theorem dX6_kiteOf_37 : decode cX6_kiteOf 37 = .ok (.tableswitch 132 6 12 #[43, 63, 69, 75, 86, 116, 124], 43) := by decide +kernel
theorem dX6_kiteOf_80 : decode cX6_kiteOf 80 = .ok (.aload_n 0, 1) := dk_42 (dk_at dksX6_kiteOf_3 0 rfl rfl)
theorem dX6_kiteOf_81 : decode cX6_kiteOf 81 = .ok (.iload_n 1, 1) := dk_27 (dk_at dksX6_kiteOf_3 1 rfl rfl)
theorem dX6_kiteOf_82 : decode cX6_kiteOf 82 = .ok (.invokevirtual 97, 3) := dk_182 0 97 (dk_at dksX6_kiteOf_3 2 rfl rfl)
theorem dX6_kiteOf_85 : decode cX6_kiteOf 85 = .ok (.ifCond .eq 13, 3) := dk_153 0 13 (dk_at dksX6_kiteOf_3 5 rfl rfl)
theorem dX6_kiteOf_88 : decode cX6_kiteOf 88 = .ok (.aload_n 0, 1) := dk_42 (dk_at dksX6_kiteOf_3 8 rfl rfl)
theorem dX6_kiteOf_89 : decode cX6_kiteOf 89 = .ok (.iload_n 1, 1) := dk_27 (dk_at dksX6_kiteOf_3 9 rfl rfl)
theorem dX6_kiteOf_90 : decode cX6_kiteOf 90 = .ok (.bipush 6, 2) := dk_16 6 (dk_at dksX6_kiteOf_3 10 rfl rfl)
theorem dX6_kiteOf_92 : decode cX6_kiteOf 92 = .ok (.invokevirtual 68, 3) := dk_182 0 68 (dk_at dksX6_kiteOf_3 12 rfl rfl)
theorem dX6_kiteOf_95 : decode cX6_kiteOf 95 = .ok (.goto 4, 3) := dk_167 0 4 (dk_at dksX6_kiteOf_3 15 rfl rfl)
theorem dX6_kiteOf_98 : decode cX6_kiteOf 98 = .ok (.iconst 0, 1) := dk_3 (dk_at dksX6_kiteOf_3 18 rfl rfl)
theorem dX6_kiteOf_99 : decode cX6_kiteOf 99 = .ok (.ireturn, 1) := dk_172 (dk_at dksX6_kiteOf_3 19 rfl rfl)
theorem dX6_kiteOf_100 : decode cX6_kiteOf 100 = .ok (.aload_n 0, 1) := dk_42 (dk_at dksX6_kiteOf_3 20 rfl rfl)
theorem dX6_kiteOf_101 : decode cX6_kiteOf 101 = .ok (.iload_n 1, 1) := dk_27 (dk_at dksX6_kiteOf_3 21 rfl rfl)
theorem dX6_kiteOf_102 : decode cX6_kiteOf 102 = .ok (.invokevirtual 113, 3) := dk_182 0 113 (dk_at dksX6_kiteOf_4 0 rfl rfl)
theorem dX6_kiteOf_105 : decode cX6_kiteOf 105 = .ok (.ireturn, 1) := dk_172 (dk_at dksX6_kiteOf_4 3 rfl rfl)
theorem dX6_kiteOf_106 : decode cX6_kiteOf 106 = .ok (.aload_n 0, 1) := dk_42 (dk_at dksX6_kiteOf_4 4 rfl rfl)
theorem dX6_kiteOf_107 : decode cX6_kiteOf 107 = .ok (.iload_n 1, 1) := dk_27 (dk_at dksX6_kiteOf_4 5 rfl rfl)
theorem dX6_kiteOf_108 : decode cX6_kiteOf 108 = .ok (.invokevirtual 119, 3) := dk_182 0 119 (dk_at dksX6_kiteOf_4 6 rfl rfl)
theorem dX6_kiteOf_111 : decode cX6_kiteOf 111 = .ok (.ireturn, 1) := dk_172 (dk_at dksX6_kiteOf_4 9 rfl rfl)
theorem dX6_kiteOf_112 : decode cX6_kiteOf 112 = .ok (.aload_n 0, 1) := dk_42 (dk_at dksX6_kiteOf_4 10 rfl rfl)
theorem dX6_kiteOf_113 : decode cX6_kiteOf 113 = .ok (.iload_n 1, 1) := dk_27 (dk_at dksX6_kiteOf_4 11 rfl rfl)
theorem dX6_kiteOf_114 : decode cX6_kiteOf 114 = .ok (.aload_n 0, 1) := dk_42 (dk_at dksX6_kiteOf_4 12 rfl rfl)
theorem dX6_kiteOf_115 : decode cX6_kiteOf 115 = .ok (.iload_n 1, 1) := dk_27 (dk_at dksX6_kiteOf_4 13 rfl rfl)
theorem dX6_kiteOf_116 : decode cX6_kiteOf 116 = .ok (.invokevirtual 113, 3) := dk_182 0 113 (dk_at dksX6_kiteOf_4 14 rfl rfl)
theorem dX6_kiteOf_119 : decode cX6_kiteOf 119 = .ok (.invokevirtual 122, 3) := dk_182 0 122 (dk_at dksX6_kiteOf_4 17 rfl rfl)
theorem dX6_kiteOf_122 : decode cX6_kiteOf 122 = .ok (.ireturn, 1) := dk_172 (dk_at dksX6_kiteOf_4 20 rfl rfl)
theorem dX6_kiteOf_123 : decode cX6_kiteOf 123 = .ok (.aload_n 0, 1) := dk_42 (dk_at dksX6_kiteOf_4 21 rfl rfl)
theorem dX6_kiteOf_124 : decode cX6_kiteOf 124 = .ok (.iload_n 1, 1) := dk_27 (dk_at dksX6_kiteOf_4 22 rfl rfl)
theorem dX6_kiteOf_125 : decode cX6_kiteOf 125 = .ok (.invokevirtual 97, 3) := dk_182 0 97 (dk_at dksX6_kiteOf_5 0 rfl rfl)
theorem dX6_kiteOf_128 : decode cX6_kiteOf 128 = .ok (.ifCond .eq 23, 3) := dk_153 0 23 (dk_at dksX6_kiteOf_5 3 rfl rfl)
theorem dX6_kiteOf_131 : decode cX6_kiteOf 131 = .ok (.aload_n 0, 1) := dk_42 (dk_at dksX6_kiteOf_5 6 rfl rfl)
theorem dX6_kiteOf_132 : decode cX6_kiteOf 132 = .ok (.iload_n 1, 1) := dk_27 (dk_at dksX6_kiteOf_5 7 rfl rfl)
theorem dX6_kiteOf_133 : decode cX6_kiteOf 133 = .ok (.iconst 5, 1) := dk_8 (dk_at dksX6_kiteOf_5 8 rfl rfl)
theorem dX6_kiteOf_134 : decode cX6_kiteOf 134 = .ok (.invokevirtual 68, 3) := dk_182 0 68 (dk_at dksX6_kiteOf_5 9 rfl rfl)
theorem dX6_kiteOf_137 : decode cX6_kiteOf 137 = .ok (.aload_n 0, 1) := dk_42 (dk_at dksX6_kiteOf_5 12 rfl rfl)
theorem dX6_kiteOf_138 : decode cX6_kiteOf 138 = .ok (.iload_n 1, 1) := dk_27 (dk_at dksX6_kiteOf_5 13 rfl rfl)
theorem dX6_kiteOf_139 : decode cX6_kiteOf 139 = .ok (.aload_n 0, 1) := dk_42 (dk_at dksX6_kiteOf_5 14 rfl rfl)
theorem dX6_kiteOf_140 : decode cX6_kiteOf 140 = .ok (.iload_n 1, 1) := dk_27 (dk_at dksX6_kiteOf_5 15 rfl rfl)
theorem dX6_kiteOf_141 : decode cX6_kiteOf 141 = .ok (.invokevirtual 113, 3) := dk_182 0 113 (dk_at dksX6_kiteOf_5 16 rfl rfl)
theorem dX6_kiteOf_144 : decode cX6_kiteOf 144 = .ok (.invokevirtual 125, 3) := dk_182 0 125 (dk_at dksX6_kiteOf_5 19 rfl rfl)
theorem dX6_kiteOf_147 : decode cX6_kiteOf 147 = .ok (.isub, 1) := dk_100 (dk_at dksX6_kiteOf_5 22 rfl rfl)
theorem dX6_kiteOf_148 : decode cX6_kiteOf 148 = .ok (.goto 4, 3) := dk_167 0 4 (dk_at dksX6_kiteOf_6 0 rfl rfl)
theorem dX6_kiteOf_151 : decode cX6_kiteOf 151 = .ok (.iconst 0, 1) := dk_3 (dk_at dksX6_kiteOf_6 3 rfl rfl)
theorem dX6_kiteOf_152 : decode cX6_kiteOf 152 = .ok (.ireturn, 1) := dk_172 (dk_at dksX6_kiteOf_6 4 rfl rfl)
theorem dX6_kiteOf_153 : decode cX6_kiteOf 153 = .ok (.aload_n 0, 1) := dk_42 (dk_at dksX6_kiteOf_6 5 rfl rfl)
theorem dX6_kiteOf_154 : decode cX6_kiteOf 154 = .ok (.iload_n 1, 1) := dk_27 (dk_at dksX6_kiteOf_6 6 rfl rfl)
theorem dX6_kiteOf_155 : decode cX6_kiteOf 155 = .ok (.bipush 7, 2) := dk_16 7 (dk_at dksX6_kiteOf_6 7 rfl rfl)
theorem dX6_kiteOf_157 : decode cX6_kiteOf 157 = .ok (.invokevirtual 68, 3) := dk_182 0 68 (dk_at dksX6_kiteOf_6 9 rfl rfl)
theorem dX6_kiteOf_160 : decode cX6_kiteOf 160 = .ok (.ireturn, 1) := dk_172 (dk_at dksX6_kiteOf_6 12 rfl rfl)
theorem dX6_kiteOf_161 : decode cX6_kiteOf 161 = .ok (.aload_n 0, 1) := dk_42 (dk_at dksX6_kiteOf_6 13 rfl rfl)
theorem dX6_kiteOf_162 : decode cX6_kiteOf 162 = .ok (.iload_n 1, 1) := dk_27 (dk_at dksX6_kiteOf_6 14 rfl rfl)
theorem dX6_kiteOf_163 : decode cX6_kiteOf 163 = .ok (.bipush 8, 2) := dk_16 8 (dk_at dksX6_kiteOf_6 15 rfl rfl)
theorem dX6_kiteOf_165 : decode cX6_kiteOf 165 = .ok (.invokevirtual 68, 3) := dk_182 0 68 (dk_at dksX6_kiteOf_6 17 rfl rfl)
theorem dX6_kiteOf_168 : decode cX6_kiteOf 168 = .ok (.ireturn, 1) := dk_172 (dk_at dksX6_kiteOf_6 20 rfl rfl)
theorem dX6_kiteOf_169 : decode cX6_kiteOf 169 = .ok (.aload_n 0, 1) := dk_42 (dk_at dksX6_kiteOf_6 21 rfl rfl)
theorem dX6_kiteOf_170 : decode cX6_kiteOf 170 = .ok (.iload_n 1, 1) := dk_27 (dk_at dksX6_kiteOf_6 22 rfl rfl)
theorem dX6_kiteOf_171 : decode cX6_kiteOf 171 = .ok (.iload_n 2, 1) := dk_28 (dk_at dksX6_kiteOf_6 23 rfl rfl)
theorem dX6_kiteOf_172 : decode cX6_kiteOf 172 = .ok (.invokevirtual 68, 3) := dk_182 0 68 (dk_at dksX6_kiteOf_7 0 rfl rfl)
theorem dX6_kiteOf_175 : decode cX6_kiteOf 175 = .ok (.ireturn, 1) := dk_172 (dk_at dksX6_kiteOf_7 3 rfl rfl)
abbrev cX6_height : ByteArray := prog_21_method_30_code
def yX6_height : MethodName := ⟨RX6, "height", "(I)I"⟩
def dkwX6_height_2 : List UInt8 := [132, 3, 1, 167, 255, 228, 29, 172]
abbrev dktX6_height_2 : List UInt8 := dkwX6_height_2 ++ []
def dkwX6_height_1 : List UInt8 := [162, 0, 28, 42, 27, 29, 182, 0, 110, 28, 163, 0, 18, 28, 42, 27, 29, 182, 0, 110, 100, 61]
abbrev dktX6_height_1 : List UInt8 := dkwX6_height_1 ++ dktX6_height_2
def dkwX6_height_0 : List UInt8 := [42, 27, 182, 0, 97, 154, 0, 5, 3, 172, 42, 27, 8, 182, 0, 68, 61, 3, 62, 29, 16, 10]
abbrev dktX6_height_0 : List UInt8 := dkwX6_height_0 ++ dktX6_height_1
theorem dksX6_height_0 : cX6_height.data.toList.drop 0 = dktX6_height_0 := by decide +kernel
theorem dksX6_height_1 : cX6_height.data.toList.drop 22 = dktX6_height_1 := dk_seg dksX6_height_0 22 rfl rfl
theorem dksX6_height_2 : cX6_height.data.toList.drop 44 = dktX6_height_2 := dk_seg dksX6_height_1 22 rfl rfl
theorem dX6_height_0 : decode cX6_height 0 = .ok (.aload_n 0, 1) := dk_42 (dk_at dksX6_height_0 0 rfl rfl)
theorem dX6_height_1 : decode cX6_height 1 = .ok (.iload_n 1, 1) := dk_27 (dk_at dksX6_height_0 1 rfl rfl)
theorem dX6_height_2 : decode cX6_height 2 = .ok (.invokevirtual 97, 3) := dk_182 0 97 (dk_at dksX6_height_0 2 rfl rfl)
theorem dX6_height_5 : decode cX6_height 5 = .ok (.ifCond .ne 5, 3) := dk_154 0 5 (dk_at dksX6_height_0 5 rfl rfl)
theorem dX6_height_8 : decode cX6_height 8 = .ok (.iconst 0, 1) := dk_3 (dk_at dksX6_height_0 8 rfl rfl)
theorem dX6_height_9 : decode cX6_height 9 = .ok (.ireturn, 1) := dk_172 (dk_at dksX6_height_0 9 rfl rfl)
theorem dX6_height_10 : decode cX6_height 10 = .ok (.aload_n 0, 1) := dk_42 (dk_at dksX6_height_0 10 rfl rfl)
theorem dX6_height_11 : decode cX6_height 11 = .ok (.iload_n 1, 1) := dk_27 (dk_at dksX6_height_0 11 rfl rfl)
theorem dX6_height_12 : decode cX6_height 12 = .ok (.iconst 5, 1) := dk_8 (dk_at dksX6_height_0 12 rfl rfl)
theorem dX6_height_13 : decode cX6_height 13 = .ok (.invokevirtual 68, 3) := dk_182 0 68 (dk_at dksX6_height_0 13 rfl rfl)
theorem dX6_height_16 : decode cX6_height 16 = .ok (.istore_n 2, 1) := dk_61 (dk_at dksX6_height_0 16 rfl rfl)
theorem dX6_height_17 : decode cX6_height 17 = .ok (.iconst 0, 1) := dk_3 (dk_at dksX6_height_0 17 rfl rfl)
theorem dX6_height_18 : decode cX6_height 18 = .ok (.istore_n 3, 1) := dk_62 (dk_at dksX6_height_0 18 rfl rfl)
theorem dX6_height_19 : decode cX6_height 19 = .ok (.iload_n 3, 1) := dk_29 (dk_at dksX6_height_0 19 rfl rfl)
theorem dX6_height_20 : decode cX6_height 20 = .ok (.bipush 10, 2) := dk_16 10 (dk_at dksX6_height_0 20 rfl rfl)
theorem dX6_height_22 : decode cX6_height 22 = .ok (.if_icmp .ge 28, 3) := dk_162 0 28 (dk_at dksX6_height_1 0 rfl rfl)
theorem dX6_height_25 : decode cX6_height 25 = .ok (.aload_n 0, 1) := dk_42 (dk_at dksX6_height_1 3 rfl rfl)
theorem dX6_height_26 : decode cX6_height 26 = .ok (.iload_n 1, 1) := dk_27 (dk_at dksX6_height_1 4 rfl rfl)
theorem dX6_height_27 : decode cX6_height 27 = .ok (.iload_n 3, 1) := dk_29 (dk_at dksX6_height_1 5 rfl rfl)
theorem dX6_height_28 : decode cX6_height 28 = .ok (.invokevirtual 110, 3) := dk_182 0 110 (dk_at dksX6_height_1 6 rfl rfl)
theorem dX6_height_31 : decode cX6_height 31 = .ok (.iload_n 2, 1) := dk_28 (dk_at dksX6_height_1 9 rfl rfl)
theorem dX6_height_32 : decode cX6_height 32 = .ok (.if_icmp .gt 18, 3) := dk_163 0 18 (dk_at dksX6_height_1 10 rfl rfl)
theorem dX6_height_35 : decode cX6_height 35 = .ok (.iload_n 2, 1) := dk_28 (dk_at dksX6_height_1 13 rfl rfl)
theorem dX6_height_36 : decode cX6_height 36 = .ok (.aload_n 0, 1) := dk_42 (dk_at dksX6_height_1 14 rfl rfl)
theorem dX6_height_37 : decode cX6_height 37 = .ok (.iload_n 1, 1) := dk_27 (dk_at dksX6_height_1 15 rfl rfl)
theorem dX6_height_38 : decode cX6_height 38 = .ok (.iload_n 3, 1) := dk_29 (dk_at dksX6_height_1 16 rfl rfl)
theorem dX6_height_39 : decode cX6_height 39 = .ok (.invokevirtual 110, 3) := dk_182 0 110 (dk_at dksX6_height_1 17 rfl rfl)
theorem dX6_height_42 : decode cX6_height 42 = .ok (.isub, 1) := dk_100 (dk_at dksX6_height_1 20 rfl rfl)
theorem dX6_height_43 : decode cX6_height 43 = .ok (.istore_n 2, 1) := dk_61 (dk_at dksX6_height_1 21 rfl rfl)
theorem dX6_height_44 : decode cX6_height 44 = .ok (.iinc 3 1, 3) := dk_132 3 1 (dk_at dksX6_height_2 0 rfl rfl)
theorem dX6_height_47 : decode cX6_height 47 = .ok (.goto (-28), 3) := dk_167 255 228 (dk_at dksX6_height_2 3 rfl rfl)
theorem dX6_height_50 : decode cX6_height 50 = .ok (.iload_n 3, 1) := dk_29 (dk_at dksX6_height_2 6 rfl rfl)
theorem dX6_height_51 : decode cX6_height 51 = .ok (.ireturn, 1) := dk_172 (dk_at dksX6_height_2 7 rfl rfl)
abbrev cX6_takes : ByteArray := prog_21_method_28_code
def yX6_takes : MethodName := ⟨RX6, "takes", "(II)I"⟩
def dkwX6_takes_1 : List UInt8 := [180, 0, 7, 5, 28, 104, 46, 154, 0, 7, 8, 167, 0, 4, 3, 96, 172]
abbrev dktX6_takes_1 : List UInt8 := dkwX6_takes_1 ++ []
def dkwX6_takes_0 : List UInt8 := [16, 10, 42, 180, 0, 7, 5, 28, 104, 4, 96, 46, 184, 0, 104, 42, 27, 182, 0, 107, 104, 96, 42]
abbrev dktX6_takes_0 : List UInt8 := dkwX6_takes_0 ++ dktX6_takes_1
theorem dksX6_takes_0 : cX6_takes.data.toList.drop 0 = dktX6_takes_0 := by decide +kernel
theorem dksX6_takes_1 : cX6_takes.data.toList.drop 23 = dktX6_takes_1 := dk_seg dksX6_takes_0 23 rfl rfl
theorem dX6_takes_0 : decode cX6_takes 0 = .ok (.bipush 10, 2) := dk_16 10 (dk_at dksX6_takes_0 0 rfl rfl)
theorem dX6_takes_2 : decode cX6_takes 2 = .ok (.aload_n 0, 1) := dk_42 (dk_at dksX6_takes_0 2 rfl rfl)
theorem dX6_takes_3 : decode cX6_takes 3 = .ok (.getfield 7, 3) := dk_180 0 7 (dk_at dksX6_takes_0 3 rfl rfl)
theorem dX6_takes_6 : decode cX6_takes 6 = .ok (.iconst 2, 1) := dk_5 (dk_at dksX6_takes_0 6 rfl rfl)
theorem dX6_takes_7 : decode cX6_takes 7 = .ok (.iload_n 2, 1) := dk_28 (dk_at dksX6_takes_0 7 rfl rfl)
theorem dX6_takes_8 : decode cX6_takes 8 = .ok (.imul, 1) := dk_104 (dk_at dksX6_takes_0 8 rfl rfl)
theorem dX6_takes_9 : decode cX6_takes 9 = .ok (.iconst 1, 1) := dk_4 (dk_at dksX6_takes_0 9 rfl rfl)
theorem dX6_takes_10 : decode cX6_takes 10 = .ok (.iadd, 1) := dk_96 (dk_at dksX6_takes_0 10 rfl rfl)
theorem dX6_takes_11 : decode cX6_takes 11 = .ok (.iaload, 1) := dk_46 (dk_at dksX6_takes_0 11 rfl rfl)
theorem dX6_takes_12 : decode cX6_takes 12 = .ok (.invokestatic 104, 3) := dk_184 0 104 (dk_at dksX6_takes_0 12 rfl rfl)
theorem dX6_takes_15 : decode cX6_takes 15 = .ok (.aload_n 0, 1) := dk_42 (dk_at dksX6_takes_0 15 rfl rfl)
theorem dX6_takes_16 : decode cX6_takes 16 = .ok (.iload_n 1, 1) := dk_27 (dk_at dksX6_takes_0 16 rfl rfl)
theorem dX6_takes_17 : decode cX6_takes 17 = .ok (.invokevirtual 107, 3) := dk_182 0 107 (dk_at dksX6_takes_0 17 rfl rfl)
theorem dX6_takes_20 : decode cX6_takes 20 = .ok (.imul, 1) := dk_104 (dk_at dksX6_takes_0 20 rfl rfl)
theorem dX6_takes_21 : decode cX6_takes 21 = .ok (.iadd, 1) := dk_96 (dk_at dksX6_takes_0 21 rfl rfl)
theorem dX6_takes_22 : decode cX6_takes 22 = .ok (.aload_n 0, 1) := dk_42 (dk_at dksX6_takes_0 22 rfl rfl)
theorem dX6_takes_23 : decode cX6_takes 23 = .ok (.getfield 7, 3) := dk_180 0 7 (dk_at dksX6_takes_1 0 rfl rfl)
theorem dX6_takes_26 : decode cX6_takes 26 = .ok (.iconst 2, 1) := dk_5 (dk_at dksX6_takes_1 3 rfl rfl)
theorem dX6_takes_27 : decode cX6_takes 27 = .ok (.iload_n 2, 1) := dk_28 (dk_at dksX6_takes_1 4 rfl rfl)
theorem dX6_takes_28 : decode cX6_takes 28 = .ok (.imul, 1) := dk_104 (dk_at dksX6_takes_1 5 rfl rfl)
theorem dX6_takes_29 : decode cX6_takes 29 = .ok (.iaload, 1) := dk_46 (dk_at dksX6_takes_1 6 rfl rfl)
theorem dX6_takes_30 : decode cX6_takes 30 = .ok (.ifCond .ne 7, 3) := dk_154 0 7 (dk_at dksX6_takes_1 7 rfl rfl)
theorem dX6_takes_33 : decode cX6_takes 33 = .ok (.iconst 5, 1) := dk_8 (dk_at dksX6_takes_1 10 rfl rfl)
theorem dX6_takes_34 : decode cX6_takes 34 = .ok (.goto 4, 3) := dk_167 0 4 (dk_at dksX6_takes_1 11 rfl rfl)
theorem dX6_takes_37 : decode cX6_takes 37 = .ok (.iconst 0, 1) := dk_3 (dk_at dksX6_takes_1 14 rfl rfl)
theorem dX6_takes_38 : decode cX6_takes 38 = .ok (.iadd, 1) := dk_96 (dk_at dksX6_takes_1 15 rfl rfl)
theorem dX6_takes_39 : decode cX6_takes 39 = .ok (.ireturn, 1) := dk_172 (dk_at dksX6_takes_1 16 rfl rfl)
abbrev cX6_size : ByteArray := prog_21_method_6_code
def yX6_size : MethodName := ⟨RX6, "size", "(I)I"⟩
def dkwX6_size_0 : List UInt8 := [26, 156, 0, 8, 26, 116, 167, 0, 4, 26, 172]
abbrev dktX6_size_0 : List UInt8 := dkwX6_size_0 ++ []
theorem dksX6_size_0 : cX6_size.data.toList.drop 0 = dktX6_size_0 := by decide +kernel
theorem dX6_size_0 : decode cX6_size 0 = .ok (.iload_n 0, 1) := dk_26 (dk_at dksX6_size_0 0 rfl rfl)
theorem dX6_size_1 : decode cX6_size 1 = .ok (.ifCond .ge 8, 3) := dk_156 0 8 (dk_at dksX6_size_0 1 rfl rfl)
theorem dX6_size_4 : decode cX6_size 4 = .ok (.iload_n 0, 1) := dk_26 (dk_at dksX6_size_0 4 rfl rfl)
theorem dX6_size_5 : decode cX6_size 5 = .ok (.ineg, 1) := dk_116 (dk_at dksX6_size_0 5 rfl rfl)
theorem dX6_size_6 : decode cX6_size 6 = .ok (.goto 4, 3) := dk_167 0 4 (dk_at dksX6_size_0 6 rfl rfl)
theorem dX6_size_9 : decode cX6_size 9 = .ok (.iload_n 0, 1) := dk_26 (dk_at dksX6_size_0 9 rfl rfl)
theorem dX6_size_10 : decode cX6_size 10 = .ok (.ireturn, 1) := dk_172 (dk_at dksX6_size_0 10 rfl rfl)
abbrev cX6_factor : ByteArray := prog_21_method_16_code
def yX6_factor : MethodName := ⟨RX6, "factor", "(I)I"⟩
def dkwX6_factor_0 : List UInt8 := [42, 27, 4, 182, 0, 68, 5, 160, 0, 7, 5, 167, 0, 4, 4, 172]
abbrev dktX6_factor_0 : List UInt8 := dkwX6_factor_0 ++ []
theorem dksX6_factor_0 : cX6_factor.data.toList.drop 0 = dktX6_factor_0 := by decide +kernel
theorem dX6_factor_0 : decode cX6_factor 0 = .ok (.aload_n 0, 1) := dk_42 (dk_at dksX6_factor_0 0 rfl rfl)
theorem dX6_factor_1 : decode cX6_factor 1 = .ok (.iload_n 1, 1) := dk_27 (dk_at dksX6_factor_0 1 rfl rfl)
theorem dX6_factor_2 : decode cX6_factor 2 = .ok (.iconst 1, 1) := dk_4 (dk_at dksX6_factor_0 2 rfl rfl)
theorem dX6_factor_3 : decode cX6_factor 3 = .ok (.invokevirtual 68, 3) := dk_182 0 68 (dk_at dksX6_factor_0 3 rfl rfl)
theorem dX6_factor_6 : decode cX6_factor 6 = .ok (.iconst 2, 1) := dk_5 (dk_at dksX6_factor_0 6 rfl rfl)
theorem dX6_factor_7 : decode cX6_factor 7 = .ok (.if_icmp .ne 7, 3) := dk_160 0 7 (dk_at dksX6_factor_0 7 rfl rfl)
theorem dX6_factor_10 : decode cX6_factor 10 = .ok (.iconst 2, 1) := dk_5 (dk_at dksX6_factor_0 10 rfl rfl)
theorem dX6_factor_11 : decode cX6_factor 11 = .ok (.goto 4, 3) := dk_167 0 4 (dk_at dksX6_factor_0 11 rfl rfl)
theorem dX6_factor_14 : decode cX6_factor 14 = .ok (.iconst 1, 1) := dk_4 (dk_at dksX6_factor_0 14 rfl rfl)
theorem dX6_factor_15 : decode cX6_factor 15 = .ok (.ireturn, 1) := dk_172 (dk_at dksX6_factor_0 15 rfl rfl)
abbrev cX6_tension : ByteArray := prog_21_method_32_code
def yX6_tension : MethodName := ⟨RX6, "tension", "(I)I"⟩
def dkwX6_tension_1 : List UInt8 := [132, 3, 1, 167, 255, 233, 42, 27, 182, 0, 116, 28, 104, 172]
abbrev dktX6_tension_1 : List UInt8 := dkwX6_tension_1 ++ []
def dkwX6_tension_0 : List UInt8 := [3, 61, 3, 62, 29, 42, 27, 182, 0, 113, 162, 0, 20, 28, 42, 180, 0, 7, 5, 29, 104, 46, 96, 61]
abbrev dktX6_tension_0 : List UInt8 := dkwX6_tension_0 ++ dktX6_tension_1
theorem dksX6_tension_0 : cX6_tension.data.toList.drop 0 = dktX6_tension_0 := by decide +kernel
theorem dksX6_tension_1 : cX6_tension.data.toList.drop 24 = dktX6_tension_1 := dk_seg dksX6_tension_0 24 rfl rfl
theorem dX6_tension_0 : decode cX6_tension 0 = .ok (.iconst 0, 1) := dk_3 (dk_at dksX6_tension_0 0 rfl rfl)
theorem dX6_tension_1 : decode cX6_tension 1 = .ok (.istore_n 2, 1) := dk_61 (dk_at dksX6_tension_0 1 rfl rfl)
theorem dX6_tension_2 : decode cX6_tension 2 = .ok (.iconst 0, 1) := dk_3 (dk_at dksX6_tension_0 2 rfl rfl)
theorem dX6_tension_3 : decode cX6_tension 3 = .ok (.istore_n 3, 1) := dk_62 (dk_at dksX6_tension_0 3 rfl rfl)
theorem dX6_tension_4 : decode cX6_tension 4 = .ok (.iload_n 3, 1) := dk_29 (dk_at dksX6_tension_0 4 rfl rfl)
theorem dX6_tension_5 : decode cX6_tension 5 = .ok (.aload_n 0, 1) := dk_42 (dk_at dksX6_tension_0 5 rfl rfl)
theorem dX6_tension_6 : decode cX6_tension 6 = .ok (.iload_n 1, 1) := dk_27 (dk_at dksX6_tension_0 6 rfl rfl)
theorem dX6_tension_7 : decode cX6_tension 7 = .ok (.invokevirtual 113, 3) := dk_182 0 113 (dk_at dksX6_tension_0 7 rfl rfl)
theorem dX6_tension_10 : decode cX6_tension 10 = .ok (.if_icmp .ge 20, 3) := dk_162 0 20 (dk_at dksX6_tension_0 10 rfl rfl)
theorem dX6_tension_13 : decode cX6_tension 13 = .ok (.iload_n 2, 1) := dk_28 (dk_at dksX6_tension_0 13 rfl rfl)
theorem dX6_tension_14 : decode cX6_tension 14 = .ok (.aload_n 0, 1) := dk_42 (dk_at dksX6_tension_0 14 rfl rfl)
theorem dX6_tension_15 : decode cX6_tension 15 = .ok (.getfield 7, 3) := dk_180 0 7 (dk_at dksX6_tension_0 15 rfl rfl)
theorem dX6_tension_18 : decode cX6_tension 18 = .ok (.iconst 2, 1) := dk_5 (dk_at dksX6_tension_0 18 rfl rfl)
theorem dX6_tension_19 : decode cX6_tension 19 = .ok (.iload_n 3, 1) := dk_29 (dk_at dksX6_tension_0 19 rfl rfl)
theorem dX6_tension_20 : decode cX6_tension 20 = .ok (.imul, 1) := dk_104 (dk_at dksX6_tension_0 20 rfl rfl)
theorem dX6_tension_21 : decode cX6_tension 21 = .ok (.iaload, 1) := dk_46 (dk_at dksX6_tension_0 21 rfl rfl)
theorem dX6_tension_22 : decode cX6_tension 22 = .ok (.iadd, 1) := dk_96 (dk_at dksX6_tension_0 22 rfl rfl)
theorem dX6_tension_23 : decode cX6_tension 23 = .ok (.istore_n 2, 1) := dk_61 (dk_at dksX6_tension_0 23 rfl rfl)
theorem dX6_tension_24 : decode cX6_tension 24 = .ok (.iinc 3 1, 3) := dk_132 3 1 (dk_at dksX6_tension_1 0 rfl rfl)
theorem dX6_tension_27 : decode cX6_tension 27 = .ok (.goto (-23), 3) := dk_167 255 233 (dk_at dksX6_tension_1 3 rfl rfl)
theorem dX6_tension_30 : decode cX6_tension 30 = .ok (.aload_n 0, 1) := dk_42 (dk_at dksX6_tension_1 6 rfl rfl)
theorem dX6_tension_31 : decode cX6_tension 31 = .ok (.iload_n 1, 1) := dk_27 (dk_at dksX6_tension_1 7 rfl rfl)
theorem dX6_tension_32 : decode cX6_tension 32 = .ok (.invokevirtual 116, 3) := dk_182 0 116 (dk_at dksX6_tension_1 8 rfl rfl)
theorem dX6_tension_35 : decode cX6_tension 35 = .ok (.iload_n 2, 1) := dk_28 (dk_at dksX6_tension_1 11 rfl rfl)
theorem dX6_tension_36 : decode cX6_tension 36 = .ok (.imul, 1) := dk_104 (dk_at dksX6_tension_1 12 rfl rfl)
theorem dX6_tension_37 : decode cX6_tension 37 = .ok (.ireturn, 1) := dk_172 (dk_at dksX6_tension_1 13 rfl rfl)
abbrev cX6_area : ByteArray := prog_21_method_15_code
def yX6_area : MethodName := ⟨RX6, "area", "(I)I"⟩
def dkwX6_area_1 : List UInt8 := [167, 0, 4, 4, 172]
abbrev dktX6_area_1 : List UInt8 := dkwX6_area_1 ++ []
def dkwX6_area_0 : List UInt8 := [42, 27, 4, 182, 0, 68, 154, 0, 7, 5, 167, 0, 18, 42, 27, 4, 182, 0, 68, 4, 160, 0, 7, 6]
abbrev dktX6_area_0 : List UInt8 := dkwX6_area_0 ++ dktX6_area_1
theorem dksX6_area_0 : cX6_area.data.toList.drop 0 = dktX6_area_0 := by decide +kernel
theorem dksX6_area_1 : cX6_area.data.toList.drop 24 = dktX6_area_1 := dk_seg dksX6_area_0 24 rfl rfl
theorem dX6_area_0 : decode cX6_area 0 = .ok (.aload_n 0, 1) := dk_42 (dk_at dksX6_area_0 0 rfl rfl)
theorem dX6_area_1 : decode cX6_area 1 = .ok (.iload_n 1, 1) := dk_27 (dk_at dksX6_area_0 1 rfl rfl)
theorem dX6_area_2 : decode cX6_area 2 = .ok (.iconst 1, 1) := dk_4 (dk_at dksX6_area_0 2 rfl rfl)
theorem dX6_area_3 : decode cX6_area 3 = .ok (.invokevirtual 68, 3) := dk_182 0 68 (dk_at dksX6_area_0 3 rfl rfl)
theorem dX6_area_6 : decode cX6_area 6 = .ok (.ifCond .ne 7, 3) := dk_154 0 7 (dk_at dksX6_area_0 6 rfl rfl)
theorem dX6_area_9 : decode cX6_area 9 = .ok (.iconst 2, 1) := dk_5 (dk_at dksX6_area_0 9 rfl rfl)
theorem dX6_area_10 : decode cX6_area 10 = .ok (.goto 18, 3) := dk_167 0 18 (dk_at dksX6_area_0 10 rfl rfl)
theorem dX6_area_13 : decode cX6_area 13 = .ok (.aload_n 0, 1) := dk_42 (dk_at dksX6_area_0 13 rfl rfl)
theorem dX6_area_14 : decode cX6_area 14 = .ok (.iload_n 1, 1) := dk_27 (dk_at dksX6_area_0 14 rfl rfl)
theorem dX6_area_15 : decode cX6_area 15 = .ok (.iconst 1, 1) := dk_4 (dk_at dksX6_area_0 15 rfl rfl)
theorem dX6_area_16 : decode cX6_area 16 = .ok (.invokevirtual 68, 3) := dk_182 0 68 (dk_at dksX6_area_0 16 rfl rfl)
theorem dX6_area_19 : decode cX6_area 19 = .ok (.iconst 1, 1) := dk_4 (dk_at dksX6_area_0 19 rfl rfl)
theorem dX6_area_20 : decode cX6_area 20 = .ok (.if_icmp .ne 7, 3) := dk_160 0 7 (dk_at dksX6_area_0 20 rfl rfl)
theorem dX6_area_23 : decode cX6_area 23 = .ok (.iconst 3, 1) := dk_6 (dk_at dksX6_area_0 23 rfl rfl)
theorem dX6_area_24 : decode cX6_area 24 = .ok (.goto 4, 3) := dk_167 0 4 (dk_at dksX6_area_1 0 rfl rfl)
theorem dX6_area_27 : decode cX6_area 27 = .ok (.iconst 1, 1) := dk_4 (dk_at dksX6_area_1 3 rfl rfl)
theorem dX6_area_28 : decode cX6_area 28 = .ok (.ireturn, 1) := dk_172 (dk_at dksX6_area_1 4 rfl rfl)
abbrev cX6_place : ByteArray := prog_21_method_31_code
def yX6_place : MethodName := ⟨RX6, "place", "(II)I"⟩
def dkwX6_place_1 : List UInt8 := [104, 4, 96, 46, 42, 27, 182, 0, 107, 104, 96, 62, 132, 4, 1, 167, 255, 227, 29, 172]
abbrev dktX6_place_1 : List UInt8 := dkwX6_place_1 ++ []
def dkwX6_place_0 : List UInt8 := [42, 27, 5, 182, 0, 68, 62, 3, 54, 4, 21, 4, 28, 162, 0, 29, 29, 42, 180, 0, 7, 5, 21, 4]
abbrev dktX6_place_0 : List UInt8 := dkwX6_place_0 ++ dktX6_place_1
theorem dksX6_place_0 : cX6_place.data.toList.drop 0 = dktX6_place_0 := by decide +kernel
theorem dksX6_place_1 : cX6_place.data.toList.drop 24 = dktX6_place_1 := dk_seg dksX6_place_0 24 rfl rfl
theorem dX6_place_0 : decode cX6_place 0 = .ok (.aload_n 0, 1) := dk_42 (dk_at dksX6_place_0 0 rfl rfl)
theorem dX6_place_1 : decode cX6_place 1 = .ok (.iload_n 1, 1) := dk_27 (dk_at dksX6_place_0 1 rfl rfl)
theorem dX6_place_2 : decode cX6_place 2 = .ok (.iconst 2, 1) := dk_5 (dk_at dksX6_place_0 2 rfl rfl)
theorem dX6_place_3 : decode cX6_place 3 = .ok (.invokevirtual 68, 3) := dk_182 0 68 (dk_at dksX6_place_0 3 rfl rfl)
theorem dX6_place_6 : decode cX6_place 6 = .ok (.istore_n 3, 1) := dk_62 (dk_at dksX6_place_0 6 rfl rfl)
theorem dX6_place_7 : decode cX6_place 7 = .ok (.iconst 0, 1) := dk_3 (dk_at dksX6_place_0 7 rfl rfl)
theorem dX6_place_8 : decode cX6_place 8 = .ok (.istore 4, 2) := dk_54 4 (dk_at dksX6_place_0 8 rfl rfl)
theorem dX6_place_10 : decode cX6_place 10 = .ok (.iload 4, 2) := dk_21 4 (dk_at dksX6_place_0 10 rfl rfl)
theorem dX6_place_12 : decode cX6_place 12 = .ok (.iload_n 2, 1) := dk_28 (dk_at dksX6_place_0 12 rfl rfl)
theorem dX6_place_13 : decode cX6_place 13 = .ok (.if_icmp .ge 29, 3) := dk_162 0 29 (dk_at dksX6_place_0 13 rfl rfl)
theorem dX6_place_16 : decode cX6_place 16 = .ok (.iload_n 3, 1) := dk_29 (dk_at dksX6_place_0 16 rfl rfl)
theorem dX6_place_17 : decode cX6_place 17 = .ok (.aload_n 0, 1) := dk_42 (dk_at dksX6_place_0 17 rfl rfl)
theorem dX6_place_18 : decode cX6_place 18 = .ok (.getfield 7, 3) := dk_180 0 7 (dk_at dksX6_place_0 18 rfl rfl)
theorem dX6_place_21 : decode cX6_place 21 = .ok (.iconst 2, 1) := dk_5 (dk_at dksX6_place_0 21 rfl rfl)
theorem dX6_place_22 : decode cX6_place 22 = .ok (.iload 4, 2) := dk_21 4 (dk_at dksX6_place_0 22 rfl rfl)
theorem dX6_place_24 : decode cX6_place 24 = .ok (.imul, 1) := dk_104 (dk_at dksX6_place_1 0 rfl rfl)
theorem dX6_place_25 : decode cX6_place 25 = .ok (.iconst 1, 1) := dk_4 (dk_at dksX6_place_1 1 rfl rfl)
theorem dX6_place_26 : decode cX6_place 26 = .ok (.iadd, 1) := dk_96 (dk_at dksX6_place_1 2 rfl rfl)
theorem dX6_place_27 : decode cX6_place 27 = .ok (.iaload, 1) := dk_46 (dk_at dksX6_place_1 3 rfl rfl)
theorem dX6_place_28 : decode cX6_place 28 = .ok (.aload_n 0, 1) := dk_42 (dk_at dksX6_place_1 4 rfl rfl)
theorem dX6_place_29 : decode cX6_place 29 = .ok (.iload_n 1, 1) := dk_27 (dk_at dksX6_place_1 5 rfl rfl)
theorem dX6_place_30 : decode cX6_place 30 = .ok (.invokevirtual 107, 3) := dk_182 0 107 (dk_at dksX6_place_1 6 rfl rfl)
theorem dX6_place_33 : decode cX6_place 33 = .ok (.imul, 1) := dk_104 (dk_at dksX6_place_1 9 rfl rfl)
theorem dX6_place_34 : decode cX6_place 34 = .ok (.iadd, 1) := dk_96 (dk_at dksX6_place_1 10 rfl rfl)
theorem dX6_place_35 : decode cX6_place 35 = .ok (.istore_n 3, 1) := dk_62 (dk_at dksX6_place_1 11 rfl rfl)
theorem dX6_place_36 : decode cX6_place 36 = .ok (.iinc 4 1, 3) := dk_132 4 1 (dk_at dksX6_place_1 12 rfl rfl)
theorem dX6_place_39 : decode cX6_place 39 = .ok (.goto (-29), 3) := dk_167 255 227 (dk_at dksX6_place_1 15 rfl rfl)
theorem dX6_place_42 : decode cX6_place 42 = .ok (.iload_n 3, 1) := dk_29 (dk_at dksX6_place_1 18 rfl rfl)
theorem dX6_place_43 : decode cX6_place 43 = .ok (.ireturn, 1) := dk_172 (dk_at dksX6_place_1 19 rfl rfl)
abbrev cX6_takesBelow : ByteArray := prog_21_method_29_code
def yX6_takesBelow : MethodName := ⟨RX6, "takesBelow", "(II)I"⟩
def dkwX6_takesBelow_1 : List UInt8 := [167, 255, 237, 29, 172]
abbrev dktX6_takesBelow_1 : List UInt8 := dkwX6_takesBelow_1 ++ []
def dkwX6_takesBelow_0 : List UInt8 := [3, 62, 3, 54, 4, 21, 4, 28, 162, 0, 19, 29, 42, 27, 21, 4, 182, 0, 110, 96, 62, 132, 4, 1]
abbrev dktX6_takesBelow_0 : List UInt8 := dkwX6_takesBelow_0 ++ dktX6_takesBelow_1
theorem dksX6_takesBelow_0 : cX6_takesBelow.data.toList.drop 0 = dktX6_takesBelow_0 := by decide +kernel
theorem dksX6_takesBelow_1 : cX6_takesBelow.data.toList.drop 24 = dktX6_takesBelow_1 := dk_seg dksX6_takesBelow_0 24 rfl rfl
theorem dX6_takesBelow_0 : decode cX6_takesBelow 0 = .ok (.iconst 0, 1) := dk_3 (dk_at dksX6_takesBelow_0 0 rfl rfl)
theorem dX6_takesBelow_1 : decode cX6_takesBelow 1 = .ok (.istore_n 3, 1) := dk_62 (dk_at dksX6_takesBelow_0 1 rfl rfl)
theorem dX6_takesBelow_2 : decode cX6_takesBelow 2 = .ok (.iconst 0, 1) := dk_3 (dk_at dksX6_takesBelow_0 2 rfl rfl)
theorem dX6_takesBelow_3 : decode cX6_takesBelow 3 = .ok (.istore 4, 2) := dk_54 4 (dk_at dksX6_takesBelow_0 3 rfl rfl)
theorem dX6_takesBelow_5 : decode cX6_takesBelow 5 = .ok (.iload 4, 2) := dk_21 4 (dk_at dksX6_takesBelow_0 5 rfl rfl)
theorem dX6_takesBelow_7 : decode cX6_takesBelow 7 = .ok (.iload_n 2, 1) := dk_28 (dk_at dksX6_takesBelow_0 7 rfl rfl)
theorem dX6_takesBelow_8 : decode cX6_takesBelow 8 = .ok (.if_icmp .ge 19, 3) := dk_162 0 19 (dk_at dksX6_takesBelow_0 8 rfl rfl)
theorem dX6_takesBelow_11 : decode cX6_takesBelow 11 = .ok (.iload_n 3, 1) := dk_29 (dk_at dksX6_takesBelow_0 11 rfl rfl)
theorem dX6_takesBelow_12 : decode cX6_takesBelow 12 = .ok (.aload_n 0, 1) := dk_42 (dk_at dksX6_takesBelow_0 12 rfl rfl)
theorem dX6_takesBelow_13 : decode cX6_takesBelow 13 = .ok (.iload_n 1, 1) := dk_27 (dk_at dksX6_takesBelow_0 13 rfl rfl)
theorem dX6_takesBelow_14 : decode cX6_takesBelow 14 = .ok (.iload 4, 2) := dk_21 4 (dk_at dksX6_takesBelow_0 14 rfl rfl)
theorem dX6_takesBelow_16 : decode cX6_takesBelow 16 = .ok (.invokevirtual 110, 3) := dk_182 0 110 (dk_at dksX6_takesBelow_0 16 rfl rfl)
theorem dX6_takesBelow_19 : decode cX6_takesBelow 19 = .ok (.iadd, 1) := dk_96 (dk_at dksX6_takesBelow_0 19 rfl rfl)
theorem dX6_takesBelow_20 : decode cX6_takesBelow 20 = .ok (.istore_n 3, 1) := dk_62 (dk_at dksX6_takesBelow_0 20 rfl rfl)
theorem dX6_takesBelow_21 : decode cX6_takesBelow 21 = .ok (.iinc 4 1, 3) := dk_132 4 1 (dk_at dksX6_takesBelow_0 21 rfl rfl)
theorem dX6_takesBelow_24 : decode cX6_takesBelow 24 = .ok (.goto (-19), 3) := dk_167 255 237 (dk_at dksX6_takesBelow_1 0 rfl rfl)
theorem dX6_takesBelow_27 : decode cX6_takesBelow 27 = .ok (.iload_n 3, 1) := dk_29 (dk_at dksX6_takesBelow_1 3 rfl rfl)
theorem dX6_takesBelow_28 : decode cX6_takesBelow 28 = .ok (.ireturn, 1) := dk_172 (dk_at dksX6_takesBelow_1 4 rfl rfl)
abbrev cX6_state : ByteArray := prog_21_method_34_code
def yX6_state : MethodName := ⟨RX6, "state", "(I)C"⟩
def dkwX6_state_2 : List UInt8 := [153, 0, 8, 16, 117, 167, 0, 5, 16, 99, 172]
abbrev dktX6_state_2 : List UInt8 := dkwX6_state_2 ++ []
def dkwX6_state_1 : List UInt8 := [167, 0, 32, 42, 27, 3, 182, 0, 68, 154, 0, 8, 16, 114, 167, 0, 18, 42, 27, 182, 0, 97]
abbrev dktX6_state_1 : List UInt8 := dkwX6_state_1 ++ dktX6_state_2
def dkwX6_state_0 : List UInt8 := [42, 42, 27, 182, 0, 90, 153, 0, 7, 3, 167, 0, 4, 4, 182, 0, 76, 153, 0, 8, 16, 32]
abbrev dktX6_state_0 : List UInt8 := dkwX6_state_0 ++ dktX6_state_1
theorem dksX6_state_0 : cX6_state.data.toList.drop 0 = dktX6_state_0 := by decide +kernel
theorem dksX6_state_1 : cX6_state.data.toList.drop 22 = dktX6_state_1 := dk_seg dksX6_state_0 22 rfl rfl
theorem dksX6_state_2 : cX6_state.data.toList.drop 44 = dktX6_state_2 := dk_seg dksX6_state_1 22 rfl rfl
theorem dX6_state_0 : decode cX6_state 0 = .ok (.aload_n 0, 1) := dk_42 (dk_at dksX6_state_0 0 rfl rfl)
theorem dX6_state_1 : decode cX6_state 1 = .ok (.aload_n 0, 1) := dk_42 (dk_at dksX6_state_0 1 rfl rfl)
theorem dX6_state_2 : decode cX6_state 2 = .ok (.iload_n 1, 1) := dk_27 (dk_at dksX6_state_0 2 rfl rfl)
theorem dX6_state_3 : decode cX6_state 3 = .ok (.invokevirtual 90, 3) := dk_182 0 90 (dk_at dksX6_state_0 3 rfl rfl)
theorem dX6_state_6 : decode cX6_state 6 = .ok (.ifCond .eq 7, 3) := dk_153 0 7 (dk_at dksX6_state_0 6 rfl rfl)
theorem dX6_state_9 : decode cX6_state 9 = .ok (.iconst 0, 1) := dk_3 (dk_at dksX6_state_0 9 rfl rfl)
theorem dX6_state_10 : decode cX6_state 10 = .ok (.goto 4, 3) := dk_167 0 4 (dk_at dksX6_state_0 10 rfl rfl)
theorem dX6_state_13 : decode cX6_state 13 = .ok (.iconst 1, 1) := dk_4 (dk_at dksX6_state_0 13 rfl rfl)
theorem dX6_state_14 : decode cX6_state 14 = .ok (.invokevirtual 76, 3) := dk_182 0 76 (dk_at dksX6_state_0 14 rfl rfl)
theorem dX6_state_17 : decode cX6_state 17 = .ok (.ifCond .eq 8, 3) := dk_153 0 8 (dk_at dksX6_state_0 17 rfl rfl)
theorem dX6_state_20 : decode cX6_state 20 = .ok (.bipush 32, 2) := dk_16 32 (dk_at dksX6_state_0 20 rfl rfl)
theorem dX6_state_22 : decode cX6_state 22 = .ok (.goto 32, 3) := dk_167 0 32 (dk_at dksX6_state_1 0 rfl rfl)
theorem dX6_state_25 : decode cX6_state 25 = .ok (.aload_n 0, 1) := dk_42 (dk_at dksX6_state_1 3 rfl rfl)
theorem dX6_state_26 : decode cX6_state 26 = .ok (.iload_n 1, 1) := dk_27 (dk_at dksX6_state_1 4 rfl rfl)
theorem dX6_state_27 : decode cX6_state 27 = .ok (.iconst 0, 1) := dk_3 (dk_at dksX6_state_1 5 rfl rfl)
theorem dX6_state_28 : decode cX6_state 28 = .ok (.invokevirtual 68, 3) := dk_182 0 68 (dk_at dksX6_state_1 6 rfl rfl)
theorem dX6_state_31 : decode cX6_state 31 = .ok (.ifCond .ne 8, 3) := dk_154 0 8 (dk_at dksX6_state_1 9 rfl rfl)
theorem dX6_state_34 : decode cX6_state 34 = .ok (.bipush 114, 2) := dk_16 114 (dk_at dksX6_state_1 12 rfl rfl)
theorem dX6_state_36 : decode cX6_state 36 = .ok (.goto 18, 3) := dk_167 0 18 (dk_at dksX6_state_1 14 rfl rfl)
theorem dX6_state_39 : decode cX6_state 39 = .ok (.aload_n 0, 1) := dk_42 (dk_at dksX6_state_1 17 rfl rfl)
theorem dX6_state_40 : decode cX6_state 40 = .ok (.iload_n 1, 1) := dk_27 (dk_at dksX6_state_1 18 rfl rfl)
theorem dX6_state_41 : decode cX6_state 41 = .ok (.invokevirtual 97, 3) := dk_182 0 97 (dk_at dksX6_state_1 19 rfl rfl)
theorem dX6_state_44 : decode cX6_state 44 = .ok (.ifCond .eq 8, 3) := dk_153 0 8 (dk_at dksX6_state_2 0 rfl rfl)
theorem dX6_state_47 : decode cX6_state 47 = .ok (.bipush 117, 2) := dk_16 117 (dk_at dksX6_state_2 3 rfl rfl)
theorem dX6_state_49 : decode cX6_state 49 = .ok (.goto 5, 3) := dk_167 0 5 (dk_at dksX6_state_2 5 rfl rfl)
theorem dX6_state_52 : decode cX6_state 52 = .ok (.bipush 99, 2) := dk_16 99 (dk_at dksX6_state_2 8 rfl rfl)
theorem dX6_state_54 : decode cX6_state 54 = .ok (.ireturn, 1) := dk_172 (dk_at dksX6_state_2 10 rfl rfl)
abbrev cX6_heightAgain : ByteArray := prog_21_method_35_code
def yX6_heightAgain : MethodName := ⟨RX6, "heightAgain", "(I)I"⟩
def dkwX6_heightAgain_2 : List UInt8 := [164, 0, 9, 132, 2, 255, 167, 255, 238, 28, 172]
abbrev dktX6_heightAgain_2 : List UInt8 := dkwX6_heightAgain_2 ++ []
def dkwX6_heightAgain_1 : List UInt8 := [182, 0, 97, 154, 0, 5, 3, 172, 16, 10, 61, 42, 27, 28, 182, 0, 125, 42, 27, 8, 182, 0, 68]
abbrev dktX6_heightAgain_1 : List UInt8 := dkwX6_heightAgain_1 ++ dktX6_heightAgain_2
def dkwX6_heightAgain_0 : List UInt8 := [42, 42, 27, 182, 0, 90, 153, 0, 7, 3, 167, 0, 4, 4, 182, 0, 76, 153, 0, 5, 3, 172, 42, 27]
abbrev dktX6_heightAgain_0 : List UInt8 := dkwX6_heightAgain_0 ++ dktX6_heightAgain_1
theorem dksX6_heightAgain_0 : cX6_heightAgain.data.toList.drop 0 = dktX6_heightAgain_0 := by decide +kernel
theorem dksX6_heightAgain_1 : cX6_heightAgain.data.toList.drop 24 = dktX6_heightAgain_1 := dk_seg dksX6_heightAgain_0 24 rfl rfl
theorem dksX6_heightAgain_2 : cX6_heightAgain.data.toList.drop 47 = dktX6_heightAgain_2 := dk_seg dksX6_heightAgain_1 23 rfl rfl
theorem dX6_heightAgain_0 : decode cX6_heightAgain 0 = .ok (.aload_n 0, 1) := dk_42 (dk_at dksX6_heightAgain_0 0 rfl rfl)
theorem dX6_heightAgain_1 : decode cX6_heightAgain 1 = .ok (.aload_n 0, 1) := dk_42 (dk_at dksX6_heightAgain_0 1 rfl rfl)
theorem dX6_heightAgain_2 : decode cX6_heightAgain 2 = .ok (.iload_n 1, 1) := dk_27 (dk_at dksX6_heightAgain_0 2 rfl rfl)
theorem dX6_heightAgain_3 : decode cX6_heightAgain 3 = .ok (.invokevirtual 90, 3) := dk_182 0 90 (dk_at dksX6_heightAgain_0 3 rfl rfl)
theorem dX6_heightAgain_6 : decode cX6_heightAgain 6 = .ok (.ifCond .eq 7, 3) := dk_153 0 7 (dk_at dksX6_heightAgain_0 6 rfl rfl)
theorem dX6_heightAgain_9 : decode cX6_heightAgain 9 = .ok (.iconst 0, 1) := dk_3 (dk_at dksX6_heightAgain_0 9 rfl rfl)
theorem dX6_heightAgain_10 : decode cX6_heightAgain 10 = .ok (.goto 4, 3) := dk_167 0 4 (dk_at dksX6_heightAgain_0 10 rfl rfl)
theorem dX6_heightAgain_13 : decode cX6_heightAgain 13 = .ok (.iconst 1, 1) := dk_4 (dk_at dksX6_heightAgain_0 13 rfl rfl)
theorem dX6_heightAgain_14 : decode cX6_heightAgain 14 = .ok (.invokevirtual 76, 3) := dk_182 0 76 (dk_at dksX6_heightAgain_0 14 rfl rfl)
theorem dX6_heightAgain_17 : decode cX6_heightAgain 17 = .ok (.ifCond .eq 5, 3) := dk_153 0 5 (dk_at dksX6_heightAgain_0 17 rfl rfl)
theorem dX6_heightAgain_20 : decode cX6_heightAgain 20 = .ok (.iconst 0, 1) := dk_3 (dk_at dksX6_heightAgain_0 20 rfl rfl)
theorem dX6_heightAgain_21 : decode cX6_heightAgain 21 = .ok (.ireturn, 1) := dk_172 (dk_at dksX6_heightAgain_0 21 rfl rfl)
theorem dX6_heightAgain_22 : decode cX6_heightAgain 22 = .ok (.aload_n 0, 1) := dk_42 (dk_at dksX6_heightAgain_0 22 rfl rfl)
theorem dX6_heightAgain_23 : decode cX6_heightAgain 23 = .ok (.iload_n 1, 1) := dk_27 (dk_at dksX6_heightAgain_0 23 rfl rfl)
theorem dX6_heightAgain_24 : decode cX6_heightAgain 24 = .ok (.invokevirtual 97, 3) := dk_182 0 97 (dk_at dksX6_heightAgain_1 0 rfl rfl)
theorem dX6_heightAgain_27 : decode cX6_heightAgain 27 = .ok (.ifCond .ne 5, 3) := dk_154 0 5 (dk_at dksX6_heightAgain_1 3 rfl rfl)
theorem dX6_heightAgain_30 : decode cX6_heightAgain 30 = .ok (.iconst 0, 1) := dk_3 (dk_at dksX6_heightAgain_1 6 rfl rfl)
theorem dX6_heightAgain_31 : decode cX6_heightAgain 31 = .ok (.ireturn, 1) := dk_172 (dk_at dksX6_heightAgain_1 7 rfl rfl)
theorem dX6_heightAgain_32 : decode cX6_heightAgain 32 = .ok (.bipush 10, 2) := dk_16 10 (dk_at dksX6_heightAgain_1 8 rfl rfl)
theorem dX6_heightAgain_34 : decode cX6_heightAgain 34 = .ok (.istore_n 2, 1) := dk_61 (dk_at dksX6_heightAgain_1 10 rfl rfl)
theorem dX6_heightAgain_35 : decode cX6_heightAgain 35 = .ok (.aload_n 0, 1) := dk_42 (dk_at dksX6_heightAgain_1 11 rfl rfl)
theorem dX6_heightAgain_36 : decode cX6_heightAgain 36 = .ok (.iload_n 1, 1) := dk_27 (dk_at dksX6_heightAgain_1 12 rfl rfl)
theorem dX6_heightAgain_37 : decode cX6_heightAgain 37 = .ok (.iload_n 2, 1) := dk_28 (dk_at dksX6_heightAgain_1 13 rfl rfl)
theorem dX6_heightAgain_38 : decode cX6_heightAgain 38 = .ok (.invokevirtual 125, 3) := dk_182 0 125 (dk_at dksX6_heightAgain_1 14 rfl rfl)
theorem dX6_heightAgain_41 : decode cX6_heightAgain 41 = .ok (.aload_n 0, 1) := dk_42 (dk_at dksX6_heightAgain_1 17 rfl rfl)
theorem dX6_heightAgain_42 : decode cX6_heightAgain 42 = .ok (.iload_n 1, 1) := dk_27 (dk_at dksX6_heightAgain_1 18 rfl rfl)
theorem dX6_heightAgain_43 : decode cX6_heightAgain 43 = .ok (.iconst 5, 1) := dk_8 (dk_at dksX6_heightAgain_1 19 rfl rfl)
theorem dX6_heightAgain_44 : decode cX6_heightAgain 44 = .ok (.invokevirtual 68, 3) := dk_182 0 68 (dk_at dksX6_heightAgain_1 20 rfl rfl)
theorem dX6_heightAgain_47 : decode cX6_heightAgain 47 = .ok (.if_icmp .le 9, 3) := dk_164 0 9 (dk_at dksX6_heightAgain_2 0 rfl rfl)
theorem dX6_heightAgain_50 : decode cX6_heightAgain 50 = .ok (.iinc 2 (-1), 3) := dk_132 2 255 (dk_at dksX6_heightAgain_2 3 rfl rfl)
theorem dX6_heightAgain_53 : decode cX6_heightAgain 53 = .ok (.goto (-18), 3) := dk_167 255 238 (dk_at dksX6_heightAgain_2 6 rfl rfl)
theorem dX6_heightAgain_56 : decode cX6_heightAgain 56 = .ok (.iload_n 2, 1) := dk_28 (dk_at dksX6_heightAgain_2 9 rfl rfl)
theorem dX6_heightAgain_57 : decode cX6_heightAgain 57 = .ok (.ireturn, 1) := dk_172 (dk_at dksX6_heightAgain_2 10 rfl rfl)
abbrev cX6_placeAt : ByteArray := prog_21_method_36_code
def yX6_placeAt : MethodName := ⟨RX6, "placeAt", "(II)I"⟩
def dkwX6_placeAt_2 : List UInt8 := [4, 96, 182, 0, 122, 172]
abbrev dktX6_placeAt_2 : List UInt8 := dkwX6_placeAt_2 ++ []
def dkwX6_placeAt_1 : List UInt8 := [184, 0, 64, 153, 0, 7, 3, 167, 0, 4, 5, 182, 0, 76, 153, 0, 7, 3, 167, 0, 11, 42, 27, 28]
abbrev dktX6_placeAt_1 : List UInt8 := dkwX6_placeAt_1 ++ dktX6_placeAt_2
def dkwX6_placeAt_0 : List UInt8 := [42, 42, 27, 182, 0, 90, 154, 0, 7, 4, 167, 0, 23, 28, 3, 42, 27, 182, 0, 113, 4, 100]
abbrev dktX6_placeAt_0 : List UInt8 := dkwX6_placeAt_0 ++ dktX6_placeAt_1
theorem dksX6_placeAt_0 : cX6_placeAt.data.toList.drop 0 = dktX6_placeAt_0 := by decide +kernel
theorem dksX6_placeAt_1 : cX6_placeAt.data.toList.drop 22 = dktX6_placeAt_1 := dk_seg dksX6_placeAt_0 22 rfl rfl
theorem dksX6_placeAt_2 : cX6_placeAt.data.toList.drop 46 = dktX6_placeAt_2 := dk_seg dksX6_placeAt_1 24 rfl rfl
theorem dX6_placeAt_0 : decode cX6_placeAt 0 = .ok (.aload_n 0, 1) := dk_42 (dk_at dksX6_placeAt_0 0 rfl rfl)
theorem dX6_placeAt_1 : decode cX6_placeAt 1 = .ok (.aload_n 0, 1) := dk_42 (dk_at dksX6_placeAt_0 1 rfl rfl)
theorem dX6_placeAt_2 : decode cX6_placeAt 2 = .ok (.iload_n 1, 1) := dk_27 (dk_at dksX6_placeAt_0 2 rfl rfl)
theorem dX6_placeAt_3 : decode cX6_placeAt 3 = .ok (.invokevirtual 90, 3) := dk_182 0 90 (dk_at dksX6_placeAt_0 3 rfl rfl)
theorem dX6_placeAt_6 : decode cX6_placeAt 6 = .ok (.ifCond .ne 7, 3) := dk_154 0 7 (dk_at dksX6_placeAt_0 6 rfl rfl)
theorem dX6_placeAt_9 : decode cX6_placeAt 9 = .ok (.iconst 1, 1) := dk_4 (dk_at dksX6_placeAt_0 9 rfl rfl)
theorem dX6_placeAt_10 : decode cX6_placeAt 10 = .ok (.goto 23, 3) := dk_167 0 23 (dk_at dksX6_placeAt_0 10 rfl rfl)
theorem dX6_placeAt_13 : decode cX6_placeAt 13 = .ok (.iload_n 2, 1) := dk_28 (dk_at dksX6_placeAt_0 13 rfl rfl)
theorem dX6_placeAt_14 : decode cX6_placeAt 14 = .ok (.iconst 0, 1) := dk_3 (dk_at dksX6_placeAt_0 14 rfl rfl)
theorem dX6_placeAt_15 : decode cX6_placeAt 15 = .ok (.aload_n 0, 1) := dk_42 (dk_at dksX6_placeAt_0 15 rfl rfl)
theorem dX6_placeAt_16 : decode cX6_placeAt 16 = .ok (.iload_n 1, 1) := dk_27 (dk_at dksX6_placeAt_0 16 rfl rfl)
theorem dX6_placeAt_17 : decode cX6_placeAt 17 = .ok (.invokevirtual 113, 3) := dk_182 0 113 (dk_at dksX6_placeAt_0 17 rfl rfl)
theorem dX6_placeAt_20 : decode cX6_placeAt 20 = .ok (.iconst 1, 1) := dk_4 (dk_at dksX6_placeAt_0 20 rfl rfl)
theorem dX6_placeAt_21 : decode cX6_placeAt 21 = .ok (.isub, 1) := dk_100 (dk_at dksX6_placeAt_0 21 rfl rfl)
theorem dX6_placeAt_22 : decode cX6_placeAt 22 = .ok (.invokestatic 64, 3) := dk_184 0 64 (dk_at dksX6_placeAt_1 0 rfl rfl)
theorem dX6_placeAt_25 : decode cX6_placeAt 25 = .ok (.ifCond .eq 7, 3) := dk_153 0 7 (dk_at dksX6_placeAt_1 3 rfl rfl)
theorem dX6_placeAt_28 : decode cX6_placeAt 28 = .ok (.iconst 0, 1) := dk_3 (dk_at dksX6_placeAt_1 6 rfl rfl)
theorem dX6_placeAt_29 : decode cX6_placeAt 29 = .ok (.goto 4, 3) := dk_167 0 4 (dk_at dksX6_placeAt_1 7 rfl rfl)
theorem dX6_placeAt_32 : decode cX6_placeAt 32 = .ok (.iconst 2, 1) := dk_5 (dk_at dksX6_placeAt_1 10 rfl rfl)
theorem dX6_placeAt_33 : decode cX6_placeAt 33 = .ok (.invokevirtual 76, 3) := dk_182 0 76 (dk_at dksX6_placeAt_1 11 rfl rfl)
theorem dX6_placeAt_36 : decode cX6_placeAt 36 = .ok (.ifCond .eq 7, 3) := dk_153 0 7 (dk_at dksX6_placeAt_1 14 rfl rfl)
theorem dX6_placeAt_39 : decode cX6_placeAt 39 = .ok (.iconst 0, 1) := dk_3 (dk_at dksX6_placeAt_1 17 rfl rfl)
theorem dX6_placeAt_40 : decode cX6_placeAt 40 = .ok (.goto 11, 3) := dk_167 0 11 (dk_at dksX6_placeAt_1 18 rfl rfl)
theorem dX6_placeAt_43 : decode cX6_placeAt 43 = .ok (.aload_n 0, 1) := dk_42 (dk_at dksX6_placeAt_1 21 rfl rfl)
theorem dX6_placeAt_44 : decode cX6_placeAt 44 = .ok (.iload_n 1, 1) := dk_27 (dk_at dksX6_placeAt_1 22 rfl rfl)
theorem dX6_placeAt_45 : decode cX6_placeAt 45 = .ok (.iload_n 2, 1) := dk_28 (dk_at dksX6_placeAt_1 23 rfl rfl)
theorem dX6_placeAt_46 : decode cX6_placeAt 46 = .ok (.iconst 1, 1) := dk_4 (dk_at dksX6_placeAt_2 0 rfl rfl)
theorem dX6_placeAt_47 : decode cX6_placeAt 47 = .ok (.iadd, 1) := dk_96 (dk_at dksX6_placeAt_2 1 rfl rfl)
theorem dX6_placeAt_48 : decode cX6_placeAt 48 = .ok (.invokevirtual 122, 3) := dk_182 0 122 (dk_at dksX6_placeAt_2 2 rfl rfl)
theorem dX6_placeAt_51 : decode cX6_placeAt 51 = .ok (.ireturn, 1) := dk_172 (dk_at dksX6_placeAt_2 5 rfl rfl)
abbrev cX6_crossing : ByteArray := prog_21_method_38_code
def yX6_crossing : MethodName := ⟨RX6, "crossing", "(II)I"⟩
def dkwX6_crossing_1 : List UInt8 := [182, 0, 76, 153, 0, 7, 3, 167, 0, 9, 42, 27, 28, 182, 0, 131, 172]
abbrev dktX6_crossing_1 : List UInt8 := dkwX6_crossing_1 ++ []
def dkwX6_crossing_0 : List UInt8 := [42, 42, 27, 182, 0, 90, 153, 0, 15, 42, 28, 182, 0, 90, 153, 0, 7, 3, 167, 0, 4, 4]
abbrev dktX6_crossing_0 : List UInt8 := dkwX6_crossing_0 ++ dktX6_crossing_1
theorem dksX6_crossing_0 : cX6_crossing.data.toList.drop 0 = dktX6_crossing_0 := by decide +kernel
theorem dksX6_crossing_1 : cX6_crossing.data.toList.drop 22 = dktX6_crossing_1 := dk_seg dksX6_crossing_0 22 rfl rfl
theorem dX6_crossing_0 : decode cX6_crossing 0 = .ok (.aload_n 0, 1) := dk_42 (dk_at dksX6_crossing_0 0 rfl rfl)
theorem dX6_crossing_1 : decode cX6_crossing 1 = .ok (.aload_n 0, 1) := dk_42 (dk_at dksX6_crossing_0 1 rfl rfl)
theorem dX6_crossing_2 : decode cX6_crossing 2 = .ok (.iload_n 1, 1) := dk_27 (dk_at dksX6_crossing_0 2 rfl rfl)
theorem dX6_crossing_3 : decode cX6_crossing 3 = .ok (.invokevirtual 90, 3) := dk_182 0 90 (dk_at dksX6_crossing_0 3 rfl rfl)
theorem dX6_crossing_6 : decode cX6_crossing 6 = .ok (.ifCond .eq 15, 3) := dk_153 0 15 (dk_at dksX6_crossing_0 6 rfl rfl)
theorem dX6_crossing_9 : decode cX6_crossing 9 = .ok (.aload_n 0, 1) := dk_42 (dk_at dksX6_crossing_0 9 rfl rfl)
theorem dX6_crossing_10 : decode cX6_crossing 10 = .ok (.iload_n 2, 1) := dk_28 (dk_at dksX6_crossing_0 10 rfl rfl)
theorem dX6_crossing_11 : decode cX6_crossing 11 = .ok (.invokevirtual 90, 3) := dk_182 0 90 (dk_at dksX6_crossing_0 11 rfl rfl)
theorem dX6_crossing_14 : decode cX6_crossing 14 = .ok (.ifCond .eq 7, 3) := dk_153 0 7 (dk_at dksX6_crossing_0 14 rfl rfl)
theorem dX6_crossing_17 : decode cX6_crossing 17 = .ok (.iconst 0, 1) := dk_3 (dk_at dksX6_crossing_0 17 rfl rfl)
theorem dX6_crossing_18 : decode cX6_crossing 18 = .ok (.goto 4, 3) := dk_167 0 4 (dk_at dksX6_crossing_0 18 rfl rfl)
theorem dX6_crossing_21 : decode cX6_crossing 21 = .ok (.iconst 1, 1) := dk_4 (dk_at dksX6_crossing_0 21 rfl rfl)
theorem dX6_crossing_22 : decode cX6_crossing 22 = .ok (.invokevirtual 76, 3) := dk_182 0 76 (dk_at dksX6_crossing_1 0 rfl rfl)
theorem dX6_crossing_25 : decode cX6_crossing 25 = .ok (.ifCond .eq 7, 3) := dk_153 0 7 (dk_at dksX6_crossing_1 3 rfl rfl)
theorem dX6_crossing_28 : decode cX6_crossing 28 = .ok (.iconst 0, 1) := dk_3 (dk_at dksX6_crossing_1 6 rfl rfl)
theorem dX6_crossing_29 : decode cX6_crossing 29 = .ok (.goto 9, 3) := dk_167 0 9 (dk_at dksX6_crossing_1 7 rfl rfl)
theorem dX6_crossing_32 : decode cX6_crossing 32 = .ok (.aload_n 0, 1) := dk_42 (dk_at dksX6_crossing_1 10 rfl rfl)
theorem dX6_crossing_33 : decode cX6_crossing 33 = .ok (.iload_n 1, 1) := dk_27 (dk_at dksX6_crossing_1 11 rfl rfl)
theorem dX6_crossing_34 : decode cX6_crossing 34 = .ok (.iload_n 2, 1) := dk_28 (dk_at dksX6_crossing_1 12 rfl rfl)
theorem dX6_crossing_35 : decode cX6_crossing 35 = .ok (.invokevirtual 131, 3) := dk_182 0 131 (dk_at dksX6_crossing_1 13 rfl rfl)
theorem dX6_crossing_38 : decode cX6_crossing 38 = .ok (.ireturn, 1) := dk_172 (dk_at dksX6_crossing_1 16 rfl rfl)
abbrev cX6_crosses : ByteArray := prog_21_method_37_code
def yX6_crosses : MethodName := ⟨RX6, "crosses", "(II)I"⟩
def dkwX6_crosses_4 : List UInt8 := [21, 4, 172, 132, 4, 1, 167, 255, 181, 2, 172]
abbrev dktX6_crosses_4 : List UInt8 := dkwX6_crosses_4 ++ []
def dkwX6_crosses_3 : List UInt8 := [153, 0, 23, 21, 5, 156, 0, 8, 21, 6, 157, 0, 13, 21, 5, 158, 0, 11, 21, 6, 156, 0, 6]
abbrev dktX6_crosses_3 : List UInt8 := dkwX6_crosses_3 ++ dktX6_crosses_4
def dkwX6_crosses_2 : List UInt8 := [27, 21, 4, 4, 96, 182, 0, 122, 42, 28, 21, 4, 4, 96, 182, 0, 122, 100, 54, 6, 21, 6]
abbrev dktX6_crosses_2 : List UInt8 := dkwX6_crosses_2 ++ dktX6_crosses_3
def dkwX6_crosses_1 : List UInt8 := [21, 4, 29, 162, 0, 75, 42, 27, 21, 4, 182, 0, 122, 42, 28, 21, 4, 182, 0, 122, 100, 54, 5, 42]
abbrev dktX6_crosses_1 : List UInt8 := dkwX6_crosses_1 ++ dktX6_crosses_2
def dkwX6_crosses_0 : List UInt8 := [27, 28, 160, 0, 5, 2, 172, 42, 27, 182, 0, 113, 42, 28, 182, 0, 113, 184, 0, 128, 62, 3, 54, 4]
abbrev dktX6_crosses_0 : List UInt8 := dkwX6_crosses_0 ++ dktX6_crosses_1
theorem dksX6_crosses_0 : cX6_crosses.data.toList.drop 0 = dktX6_crosses_0 := by decide +kernel
theorem dksX6_crosses_1 : cX6_crosses.data.toList.drop 24 = dktX6_crosses_1 := dk_seg dksX6_crosses_0 24 rfl rfl
theorem dksX6_crosses_2 : cX6_crosses.data.toList.drop 48 = dktX6_crosses_2 := dk_seg dksX6_crosses_1 24 rfl rfl
theorem dksX6_crosses_3 : cX6_crosses.data.toList.drop 70 = dktX6_crosses_3 := dk_seg dksX6_crosses_2 22 rfl rfl
theorem dksX6_crosses_4 : cX6_crosses.data.toList.drop 93 = dktX6_crosses_4 := dk_seg dksX6_crosses_3 23 rfl rfl
theorem dX6_crosses_0 : decode cX6_crosses 0 = .ok (.iload_n 1, 1) := dk_27 (dk_at dksX6_crosses_0 0 rfl rfl)
theorem dX6_crosses_1 : decode cX6_crosses 1 = .ok (.iload_n 2, 1) := dk_28 (dk_at dksX6_crosses_0 1 rfl rfl)
theorem dX6_crosses_2 : decode cX6_crosses 2 = .ok (.if_icmp .ne 5, 3) := dk_160 0 5 (dk_at dksX6_crosses_0 2 rfl rfl)
theorem dX6_crosses_5 : decode cX6_crosses 5 = .ok (.iconst (-1), 1) := dk_2 (dk_at dksX6_crosses_0 5 rfl rfl)
theorem dX6_crosses_6 : decode cX6_crosses 6 = .ok (.ireturn, 1) := dk_172 (dk_at dksX6_crosses_0 6 rfl rfl)
theorem dX6_crosses_7 : decode cX6_crosses 7 = .ok (.aload_n 0, 1) := dk_42 (dk_at dksX6_crosses_0 7 rfl rfl)
theorem dX6_crosses_8 : decode cX6_crosses 8 = .ok (.iload_n 1, 1) := dk_27 (dk_at dksX6_crosses_0 8 rfl rfl)
theorem dX6_crosses_9 : decode cX6_crosses 9 = .ok (.invokevirtual 113, 3) := dk_182 0 113 (dk_at dksX6_crosses_0 9 rfl rfl)
theorem dX6_crosses_12 : decode cX6_crosses 12 = .ok (.aload_n 0, 1) := dk_42 (dk_at dksX6_crosses_0 12 rfl rfl)
theorem dX6_crosses_13 : decode cX6_crosses 13 = .ok (.iload_n 2, 1) := dk_28 (dk_at dksX6_crosses_0 13 rfl rfl)
theorem dX6_crosses_14 : decode cX6_crosses 14 = .ok (.invokevirtual 113, 3) := dk_182 0 113 (dk_at dksX6_crosses_0 14 rfl rfl)
theorem dX6_crosses_17 : decode cX6_crosses 17 = .ok (.invokestatic 128, 3) := dk_184 0 128 (dk_at dksX6_crosses_0 17 rfl rfl)
theorem dX6_crosses_20 : decode cX6_crosses 20 = .ok (.istore_n 3, 1) := dk_62 (dk_at dksX6_crosses_0 20 rfl rfl)
theorem dX6_crosses_21 : decode cX6_crosses 21 = .ok (.iconst 0, 1) := dk_3 (dk_at dksX6_crosses_0 21 rfl rfl)
theorem dX6_crosses_22 : decode cX6_crosses 22 = .ok (.istore 4, 2) := dk_54 4 (dk_at dksX6_crosses_0 22 rfl rfl)
theorem dX6_crosses_24 : decode cX6_crosses 24 = .ok (.iload 4, 2) := dk_21 4 (dk_at dksX6_crosses_1 0 rfl rfl)
theorem dX6_crosses_26 : decode cX6_crosses 26 = .ok (.iload_n 3, 1) := dk_29 (dk_at dksX6_crosses_1 2 rfl rfl)
theorem dX6_crosses_27 : decode cX6_crosses 27 = .ok (.if_icmp .ge 75, 3) := dk_162 0 75 (dk_at dksX6_crosses_1 3 rfl rfl)
theorem dX6_crosses_30 : decode cX6_crosses 30 = .ok (.aload_n 0, 1) := dk_42 (dk_at dksX6_crosses_1 6 rfl rfl)
theorem dX6_crosses_31 : decode cX6_crosses 31 = .ok (.iload_n 1, 1) := dk_27 (dk_at dksX6_crosses_1 7 rfl rfl)
theorem dX6_crosses_32 : decode cX6_crosses 32 = .ok (.iload 4, 2) := dk_21 4 (dk_at dksX6_crosses_1 8 rfl rfl)
theorem dX6_crosses_34 : decode cX6_crosses 34 = .ok (.invokevirtual 122, 3) := dk_182 0 122 (dk_at dksX6_crosses_1 10 rfl rfl)
theorem dX6_crosses_37 : decode cX6_crosses 37 = .ok (.aload_n 0, 1) := dk_42 (dk_at dksX6_crosses_1 13 rfl rfl)
theorem dX6_crosses_38 : decode cX6_crosses 38 = .ok (.iload_n 2, 1) := dk_28 (dk_at dksX6_crosses_1 14 rfl rfl)
theorem dX6_crosses_39 : decode cX6_crosses 39 = .ok (.iload 4, 2) := dk_21 4 (dk_at dksX6_crosses_1 15 rfl rfl)
theorem dX6_crosses_41 : decode cX6_crosses 41 = .ok (.invokevirtual 122, 3) := dk_182 0 122 (dk_at dksX6_crosses_1 17 rfl rfl)
theorem dX6_crosses_44 : decode cX6_crosses 44 = .ok (.isub, 1) := dk_100 (dk_at dksX6_crosses_1 20 rfl rfl)
theorem dX6_crosses_45 : decode cX6_crosses 45 = .ok (.istore 5, 2) := dk_54 5 (dk_at dksX6_crosses_1 21 rfl rfl)
theorem dX6_crosses_47 : decode cX6_crosses 47 = .ok (.aload_n 0, 1) := dk_42 (dk_at dksX6_crosses_1 23 rfl rfl)
theorem dX6_crosses_48 : decode cX6_crosses 48 = .ok (.iload_n 1, 1) := dk_27 (dk_at dksX6_crosses_2 0 rfl rfl)
theorem dX6_crosses_49 : decode cX6_crosses 49 = .ok (.iload 4, 2) := dk_21 4 (dk_at dksX6_crosses_2 1 rfl rfl)
theorem dX6_crosses_51 : decode cX6_crosses 51 = .ok (.iconst 1, 1) := dk_4 (dk_at dksX6_crosses_2 3 rfl rfl)
theorem dX6_crosses_52 : decode cX6_crosses 52 = .ok (.iadd, 1) := dk_96 (dk_at dksX6_crosses_2 4 rfl rfl)
theorem dX6_crosses_53 : decode cX6_crosses 53 = .ok (.invokevirtual 122, 3) := dk_182 0 122 (dk_at dksX6_crosses_2 5 rfl rfl)
theorem dX6_crosses_56 : decode cX6_crosses 56 = .ok (.aload_n 0, 1) := dk_42 (dk_at dksX6_crosses_2 8 rfl rfl)
theorem dX6_crosses_57 : decode cX6_crosses 57 = .ok (.iload_n 2, 1) := dk_28 (dk_at dksX6_crosses_2 9 rfl rfl)
theorem dX6_crosses_58 : decode cX6_crosses 58 = .ok (.iload 4, 2) := dk_21 4 (dk_at dksX6_crosses_2 10 rfl rfl)
theorem dX6_crosses_60 : decode cX6_crosses 60 = .ok (.iconst 1, 1) := dk_4 (dk_at dksX6_crosses_2 12 rfl rfl)
theorem dX6_crosses_61 : decode cX6_crosses 61 = .ok (.iadd, 1) := dk_96 (dk_at dksX6_crosses_2 13 rfl rfl)
theorem dX6_crosses_62 : decode cX6_crosses 62 = .ok (.invokevirtual 122, 3) := dk_182 0 122 (dk_at dksX6_crosses_2 14 rfl rfl)
theorem dX6_crosses_65 : decode cX6_crosses 65 = .ok (.isub, 1) := dk_100 (dk_at dksX6_crosses_2 17 rfl rfl)
theorem dX6_crosses_66 : decode cX6_crosses 66 = .ok (.istore 6, 2) := dk_54 6 (dk_at dksX6_crosses_2 18 rfl rfl)
theorem dX6_crosses_68 : decode cX6_crosses 68 = .ok (.iload 6, 2) := dk_21 6 (dk_at dksX6_crosses_2 20 rfl rfl)
theorem dX6_crosses_70 : decode cX6_crosses 70 = .ok (.ifCond .eq 23, 3) := dk_153 0 23 (dk_at dksX6_crosses_3 0 rfl rfl)
theorem dX6_crosses_73 : decode cX6_crosses 73 = .ok (.iload 5, 2) := dk_21 5 (dk_at dksX6_crosses_3 3 rfl rfl)
theorem dX6_crosses_75 : decode cX6_crosses 75 = .ok (.ifCond .ge 8, 3) := dk_156 0 8 (dk_at dksX6_crosses_3 5 rfl rfl)
theorem dX6_crosses_78 : decode cX6_crosses 78 = .ok (.iload 6, 2) := dk_21 6 (dk_at dksX6_crosses_3 8 rfl rfl)
theorem dX6_crosses_80 : decode cX6_crosses 80 = .ok (.ifCond .gt 13, 3) := dk_157 0 13 (dk_at dksX6_crosses_3 10 rfl rfl)
theorem dX6_crosses_83 : decode cX6_crosses 83 = .ok (.iload 5, 2) := dk_21 5 (dk_at dksX6_crosses_3 13 rfl rfl)
theorem dX6_crosses_85 : decode cX6_crosses 85 = .ok (.ifCond .le 11, 3) := dk_158 0 11 (dk_at dksX6_crosses_3 15 rfl rfl)
theorem dX6_crosses_88 : decode cX6_crosses 88 = .ok (.iload 6, 2) := dk_21 6 (dk_at dksX6_crosses_3 18 rfl rfl)
theorem dX6_crosses_90 : decode cX6_crosses 90 = .ok (.ifCond .ge 6, 3) := dk_156 0 6 (dk_at dksX6_crosses_3 20 rfl rfl)
theorem dX6_crosses_93 : decode cX6_crosses 93 = .ok (.iload 4, 2) := dk_21 4 (dk_at dksX6_crosses_4 0 rfl rfl)
theorem dX6_crosses_95 : decode cX6_crosses 95 = .ok (.ireturn, 1) := dk_172 (dk_at dksX6_crosses_4 2 rfl rfl)
theorem dX6_crosses_96 : decode cX6_crosses 96 = .ok (.iinc 4 1, 3) := dk_132 4 1 (dk_at dksX6_crosses_4 3 rfl rfl)
theorem dX6_crosses_99 : decode cX6_crosses 99 = .ok (.goto (-75), 3) := dk_167 255 181 (dk_at dksX6_crosses_4 6 rfl rfl)
theorem dX6_crosses_102 : decode cX6_crosses 102 = .ok (.iconst (-1), 1) := dk_2 (dk_at dksX6_crosses_4 9 rfl rfl)
theorem dX6_crosses_103 : decode cX6_crosses 103 = .ok (.ireturn, 1) := dk_172 (dk_at dksX6_crosses_4 10 rfl rfl)
abbrev cX6_less : ByteArray := prog_21_method_7_code
def yX6_less : MethodName := ⟨RX6, "less", "(II)I"⟩
def dkwX6_less_0 : List UInt8 := [26, 27, 162, 0, 7, 26, 167, 0, 4, 27, 172]
abbrev dktX6_less_0 : List UInt8 := dkwX6_less_0 ++ []
theorem dksX6_less_0 : cX6_less.data.toList.drop 0 = dktX6_less_0 := by decide +kernel
theorem dX6_less_0 : decode cX6_less 0 = .ok (.iload_n 0, 1) := dk_26 (dk_at dksX6_less_0 0 rfl rfl)
theorem dX6_less_1 : decode cX6_less 1 = .ok (.iload_n 1, 1) := dk_27 (dk_at dksX6_less_0 1 rfl rfl)
theorem dX6_less_2 : decode cX6_less 2 = .ok (.if_icmp .ge 7, 3) := dk_162 0 7 (dk_at dksX6_less_0 2 rfl rfl)
theorem dX6_less_5 : decode cX6_less 5 = .ok (.iload_n 0, 1) := dk_26 (dk_at dksX6_less_0 5 rfl rfl)
theorem dX6_less_6 : decode cX6_less 6 = .ok (.goto 4, 3) := dk_167 0 4 (dk_at dksX6_less_0 6 rfl rfl)
theorem dX6_less_9 : decode cX6_less 9 = .ok (.iload_n 1, 1) := dk_27 (dk_at dksX6_less_0 9 rfl rfl)
theorem dX6_less_10 : decode cX6_less 10 = .ok (.ireturn, 1) := dk_172 (dk_at dksX6_less_0 10 rfl rfl)
abbrev cX6_wears : ByteArray := prog_21_method_41_code
def yX6_wears : MethodName := ⟨RX6, "wears", "(I)I"⟩
def dkwX6_wears_1 : List UInt8 := [42, 27, 182, 0, 137, 172]
abbrev dktX6_wears_1 : List UInt8 := dkwX6_wears_1 ++ []
def dkwX6_wears_0 : List UInt8 := [42, 42, 27, 182, 0, 90, 153, 0, 7, 3, 167, 0, 4, 4, 182, 0, 76, 153, 0, 7, 3, 167, 0, 8]
abbrev dktX6_wears_0 : List UInt8 := dkwX6_wears_0 ++ dktX6_wears_1
theorem dksX6_wears_0 : cX6_wears.data.toList.drop 0 = dktX6_wears_0 := by decide +kernel
theorem dksX6_wears_1 : cX6_wears.data.toList.drop 24 = dktX6_wears_1 := dk_seg dksX6_wears_0 24 rfl rfl
theorem dX6_wears_0 : decode cX6_wears 0 = .ok (.aload_n 0, 1) := dk_42 (dk_at dksX6_wears_0 0 rfl rfl)
theorem dX6_wears_1 : decode cX6_wears 1 = .ok (.aload_n 0, 1) := dk_42 (dk_at dksX6_wears_0 1 rfl rfl)
theorem dX6_wears_2 : decode cX6_wears 2 = .ok (.iload_n 1, 1) := dk_27 (dk_at dksX6_wears_0 2 rfl rfl)
theorem dX6_wears_3 : decode cX6_wears 3 = .ok (.invokevirtual 90, 3) := dk_182 0 90 (dk_at dksX6_wears_0 3 rfl rfl)
theorem dX6_wears_6 : decode cX6_wears 6 = .ok (.ifCond .eq 7, 3) := dk_153 0 7 (dk_at dksX6_wears_0 6 rfl rfl)
theorem dX6_wears_9 : decode cX6_wears 9 = .ok (.iconst 0, 1) := dk_3 (dk_at dksX6_wears_0 9 rfl rfl)
theorem dX6_wears_10 : decode cX6_wears 10 = .ok (.goto 4, 3) := dk_167 0 4 (dk_at dksX6_wears_0 10 rfl rfl)
theorem dX6_wears_13 : decode cX6_wears 13 = .ok (.iconst 1, 1) := dk_4 (dk_at dksX6_wears_0 13 rfl rfl)
theorem dX6_wears_14 : decode cX6_wears 14 = .ok (.invokevirtual 76, 3) := dk_182 0 76 (dk_at dksX6_wears_0 14 rfl rfl)
theorem dX6_wears_17 : decode cX6_wears 17 = .ok (.ifCond .eq 7, 3) := dk_153 0 7 (dk_at dksX6_wears_0 17 rfl rfl)
theorem dX6_wears_20 : decode cX6_wears 20 = .ok (.iconst 0, 1) := dk_3 (dk_at dksX6_wears_0 20 rfl rfl)
theorem dX6_wears_21 : decode cX6_wears 21 = .ok (.goto 8, 3) := dk_167 0 8 (dk_at dksX6_wears_0 21 rfl rfl)
theorem dX6_wears_24 : decode cX6_wears 24 = .ok (.aload_n 0, 1) := dk_42 (dk_at dksX6_wears_1 0 rfl rfl)
theorem dX6_wears_25 : decode cX6_wears 25 = .ok (.iload_n 1, 1) := dk_27 (dk_at dksX6_wears_1 1 rfl rfl)
theorem dX6_wears_26 : decode cX6_wears 26 = .ok (.invokevirtual 137, 3) := dk_182 0 137 (dk_at dksX6_wears_1 2 rfl rfl)
theorem dX6_wears_29 : decode cX6_wears 29 = .ok (.ireturn, 1) := dk_172 (dk_at dksX6_wears_1 5 rfl rfl)
abbrev cX6_wearsNow : ByteArray := prog_21_method_40_code
def yX6_wearsNow : MethodName := ⟨RX6, "wearsNow", "(I)I"⟩
def dkwX6_wearsNow_1 : List UInt8 := [132, 3, 1, 167, 255, 233, 28, 172]
abbrev dktX6_wearsNow_1 : List UInt8 := dkwX6_wearsNow_1 ++ []
def dkwX6_wearsNow_0 : List UInt8 := [3, 61, 3, 62, 29, 42, 180, 0, 7, 16, 25, 46, 162, 0, 18, 28, 42, 27, 29, 182, 0, 134, 96, 61]
abbrev dktX6_wearsNow_0 : List UInt8 := dkwX6_wearsNow_0 ++ dktX6_wearsNow_1
theorem dksX6_wearsNow_0 : cX6_wearsNow.data.toList.drop 0 = dktX6_wearsNow_0 := by decide +kernel
theorem dksX6_wearsNow_1 : cX6_wearsNow.data.toList.drop 24 = dktX6_wearsNow_1 := dk_seg dksX6_wearsNow_0 24 rfl rfl
theorem dX6_wearsNow_0 : decode cX6_wearsNow 0 = .ok (.iconst 0, 1) := dk_3 (dk_at dksX6_wearsNow_0 0 rfl rfl)
theorem dX6_wearsNow_1 : decode cX6_wearsNow 1 = .ok (.istore_n 2, 1) := dk_61 (dk_at dksX6_wearsNow_0 1 rfl rfl)
theorem dX6_wearsNow_2 : decode cX6_wearsNow 2 = .ok (.iconst 0, 1) := dk_3 (dk_at dksX6_wearsNow_0 2 rfl rfl)
theorem dX6_wearsNow_3 : decode cX6_wearsNow 3 = .ok (.istore_n 3, 1) := dk_62 (dk_at dksX6_wearsNow_0 3 rfl rfl)
theorem dX6_wearsNow_4 : decode cX6_wearsNow 4 = .ok (.iload_n 3, 1) := dk_29 (dk_at dksX6_wearsNow_0 4 rfl rfl)
theorem dX6_wearsNow_5 : decode cX6_wearsNow 5 = .ok (.aload_n 0, 1) := dk_42 (dk_at dksX6_wearsNow_0 5 rfl rfl)
theorem dX6_wearsNow_6 : decode cX6_wearsNow 6 = .ok (.getfield 7, 3) := dk_180 0 7 (dk_at dksX6_wearsNow_0 6 rfl rfl)
theorem dX6_wearsNow_9 : decode cX6_wearsNow 9 = .ok (.bipush 25, 2) := dk_16 25 (dk_at dksX6_wearsNow_0 9 rfl rfl)
theorem dX6_wearsNow_11 : decode cX6_wearsNow 11 = .ok (.iaload, 1) := dk_46 (dk_at dksX6_wearsNow_0 11 rfl rfl)
theorem dX6_wearsNow_12 : decode cX6_wearsNow 12 = .ok (.if_icmp .ge 18, 3) := dk_162 0 18 (dk_at dksX6_wearsNow_0 12 rfl rfl)
theorem dX6_wearsNow_15 : decode cX6_wearsNow 15 = .ok (.iload_n 2, 1) := dk_28 (dk_at dksX6_wearsNow_0 15 rfl rfl)
theorem dX6_wearsNow_16 : decode cX6_wearsNow 16 = .ok (.aload_n 0, 1) := dk_42 (dk_at dksX6_wearsNow_0 16 rfl rfl)
theorem dX6_wearsNow_17 : decode cX6_wearsNow 17 = .ok (.iload_n 1, 1) := dk_27 (dk_at dksX6_wearsNow_0 17 rfl rfl)
theorem dX6_wearsNow_18 : decode cX6_wearsNow 18 = .ok (.iload_n 3, 1) := dk_29 (dk_at dksX6_wearsNow_0 18 rfl rfl)
theorem dX6_wearsNow_19 : decode cX6_wearsNow 19 = .ok (.invokevirtual 134, 3) := dk_182 0 134 (dk_at dksX6_wearsNow_0 19 rfl rfl)
theorem dX6_wearsNow_22 : decode cX6_wearsNow 22 = .ok (.iadd, 1) := dk_96 (dk_at dksX6_wearsNow_0 22 rfl rfl)
theorem dX6_wearsNow_23 : decode cX6_wearsNow 23 = .ok (.istore_n 2, 1) := dk_61 (dk_at dksX6_wearsNow_0 23 rfl rfl)
theorem dX6_wearsNow_24 : decode cX6_wearsNow 24 = .ok (.iinc 3 1, 3) := dk_132 3 1 (dk_at dksX6_wearsNow_1 0 rfl rfl)
theorem dX6_wearsNow_27 : decode cX6_wearsNow 27 = .ok (.goto (-23), 3) := dk_167 255 233 (dk_at dksX6_wearsNow_1 3 rfl rfl)
theorem dX6_wearsNow_30 : decode cX6_wearsNow 30 = .ok (.iload_n 2, 1) := dk_28 (dk_at dksX6_wearsNow_1 6 rfl rfl)
theorem dX6_wearsNow_31 : decode cX6_wearsNow 31 = .ok (.ireturn, 1) := dk_172 (dk_at dksX6_wearsNow_1 7 rfl rfl)
abbrev cX6_wearsBy : ByteArray := prog_21_method_39_code
def yX6_wearsBy : MethodName := ⟨RX6, "wearsBy", "(II)I"⟩
def dkwX6_wearsBy_1 : List UInt8 := [164, 0, 14, 5, 42, 28, 7, 182, 0, 68, 104, 167, 0, 9, 42, 28, 7, 182, 0, 68, 172]
abbrev dktX6_wearsBy_1 : List UInt8 := dkwX6_wearsBy_1 ++ []
def dkwX6_wearsBy_0 : List UInt8 := [42, 27, 28, 182, 0, 131, 156, 0, 7, 3, 167, 0, 33, 42, 28, 182, 0, 119, 42, 27, 182, 0, 119]
abbrev dktX6_wearsBy_0 : List UInt8 := dkwX6_wearsBy_0 ++ dktX6_wearsBy_1
theorem dksX6_wearsBy_0 : cX6_wearsBy.data.toList.drop 0 = dktX6_wearsBy_0 := by decide +kernel
theorem dksX6_wearsBy_1 : cX6_wearsBy.data.toList.drop 23 = dktX6_wearsBy_1 := dk_seg dksX6_wearsBy_0 23 rfl rfl
theorem dX6_wearsBy_0 : decode cX6_wearsBy 0 = .ok (.aload_n 0, 1) := dk_42 (dk_at dksX6_wearsBy_0 0 rfl rfl)
theorem dX6_wearsBy_1 : decode cX6_wearsBy 1 = .ok (.iload_n 1, 1) := dk_27 (dk_at dksX6_wearsBy_0 1 rfl rfl)
theorem dX6_wearsBy_2 : decode cX6_wearsBy 2 = .ok (.iload_n 2, 1) := dk_28 (dk_at dksX6_wearsBy_0 2 rfl rfl)
theorem dX6_wearsBy_3 : decode cX6_wearsBy 3 = .ok (.invokevirtual 131, 3) := dk_182 0 131 (dk_at dksX6_wearsBy_0 3 rfl rfl)
theorem dX6_wearsBy_6 : decode cX6_wearsBy 6 = .ok (.ifCond .ge 7, 3) := dk_156 0 7 (dk_at dksX6_wearsBy_0 6 rfl rfl)
theorem dX6_wearsBy_9 : decode cX6_wearsBy 9 = .ok (.iconst 0, 1) := dk_3 (dk_at dksX6_wearsBy_0 9 rfl rfl)
theorem dX6_wearsBy_10 : decode cX6_wearsBy 10 = .ok (.goto 33, 3) := dk_167 0 33 (dk_at dksX6_wearsBy_0 10 rfl rfl)
theorem dX6_wearsBy_13 : decode cX6_wearsBy 13 = .ok (.aload_n 0, 1) := dk_42 (dk_at dksX6_wearsBy_0 13 rfl rfl)
theorem dX6_wearsBy_14 : decode cX6_wearsBy 14 = .ok (.iload_n 2, 1) := dk_28 (dk_at dksX6_wearsBy_0 14 rfl rfl)
theorem dX6_wearsBy_15 : decode cX6_wearsBy 15 = .ok (.invokevirtual 119, 3) := dk_182 0 119 (dk_at dksX6_wearsBy_0 15 rfl rfl)
theorem dX6_wearsBy_18 : decode cX6_wearsBy 18 = .ok (.aload_n 0, 1) := dk_42 (dk_at dksX6_wearsBy_0 18 rfl rfl)
theorem dX6_wearsBy_19 : decode cX6_wearsBy 19 = .ok (.iload_n 1, 1) := dk_27 (dk_at dksX6_wearsBy_0 19 rfl rfl)
theorem dX6_wearsBy_20 : decode cX6_wearsBy 20 = .ok (.invokevirtual 119, 3) := dk_182 0 119 (dk_at dksX6_wearsBy_0 20 rfl rfl)
theorem dX6_wearsBy_23 : decode cX6_wearsBy 23 = .ok (.if_icmp .le 14, 3) := dk_164 0 14 (dk_at dksX6_wearsBy_1 0 rfl rfl)
theorem dX6_wearsBy_26 : decode cX6_wearsBy 26 = .ok (.iconst 2, 1) := dk_5 (dk_at dksX6_wearsBy_1 3 rfl rfl)
theorem dX6_wearsBy_27 : decode cX6_wearsBy 27 = .ok (.aload_n 0, 1) := dk_42 (dk_at dksX6_wearsBy_1 4 rfl rfl)
theorem dX6_wearsBy_28 : decode cX6_wearsBy 28 = .ok (.iload_n 2, 1) := dk_28 (dk_at dksX6_wearsBy_1 5 rfl rfl)
theorem dX6_wearsBy_29 : decode cX6_wearsBy 29 = .ok (.iconst 4, 1) := dk_7 (dk_at dksX6_wearsBy_1 6 rfl rfl)
theorem dX6_wearsBy_30 : decode cX6_wearsBy 30 = .ok (.invokevirtual 68, 3) := dk_182 0 68 (dk_at dksX6_wearsBy_1 7 rfl rfl)
theorem dX6_wearsBy_33 : decode cX6_wearsBy 33 = .ok (.imul, 1) := dk_104 (dk_at dksX6_wearsBy_1 10 rfl rfl)
theorem dX6_wearsBy_34 : decode cX6_wearsBy 34 = .ok (.goto 9, 3) := dk_167 0 9 (dk_at dksX6_wearsBy_1 11 rfl rfl)
theorem dX6_wearsBy_37 : decode cX6_wearsBy 37 = .ok (.aload_n 0, 1) := dk_42 (dk_at dksX6_wearsBy_1 14 rfl rfl)
theorem dX6_wearsBy_38 : decode cX6_wearsBy 38 = .ok (.iload_n 2, 1) := dk_28 (dk_at dksX6_wearsBy_1 15 rfl rfl)
theorem dX6_wearsBy_39 : decode cX6_wearsBy 39 = .ok (.iconst 4, 1) := dk_7 (dk_at dksX6_wearsBy_1 16 rfl rfl)
theorem dX6_wearsBy_40 : decode cX6_wearsBy 40 = .ok (.invokevirtual 68, 3) := dk_182 0 68 (dk_at dksX6_wearsBy_1 17 rfl rfl)
theorem dX6_wearsBy_43 : decode cX6_wearsBy 43 = .ok (.ireturn, 1) := dk_172 (dk_at dksX6_wearsBy_1 20 rfl rfl)
abbrev cX6_round : ByteArray := prog_21_method_45_code
def yX6_round : MethodName := ⟨RX6, "round", "(I)I"⟩
def dkwX6_round_2 : List UInt8 := [132, 3, 1, 167, 255, 241, 28, 172]
abbrev dktX6_round_2 : List UInt8 := dkwX6_round_2 ++ []
def dkwX6_round_1 : List UInt8 := [42, 42, 180, 0, 7, 182, 0, 79, 3, 61, 3, 62, 29, 27, 162, 0, 16, 28, 42, 182, 0, 150, 96, 61]
abbrev dktX6_round_1 : List UInt8 := dkwX6_round_1 ++ dktX6_round_2
def dkwX6_round_0 : List UInt8 := [42, 27, 4, 16, 30, 184, 0, 64, 153, 0, 7, 3, 167, 0, 4, 4, 182, 0, 76, 153, 0, 5, 3, 172]
abbrev dktX6_round_0 : List UInt8 := dkwX6_round_0 ++ dktX6_round_1
theorem dksX6_round_0 : cX6_round.data.toList.drop 0 = dktX6_round_0 := by decide +kernel
theorem dksX6_round_1 : cX6_round.data.toList.drop 24 = dktX6_round_1 := dk_seg dksX6_round_0 24 rfl rfl
theorem dksX6_round_2 : cX6_round.data.toList.drop 48 = dktX6_round_2 := dk_seg dksX6_round_1 24 rfl rfl
theorem dX6_round_0 : decode cX6_round 0 = .ok (.aload_n 0, 1) := dk_42 (dk_at dksX6_round_0 0 rfl rfl)
theorem dX6_round_1 : decode cX6_round 1 = .ok (.iload_n 1, 1) := dk_27 (dk_at dksX6_round_0 1 rfl rfl)
theorem dX6_round_2 : decode cX6_round 2 = .ok (.iconst 1, 1) := dk_4 (dk_at dksX6_round_0 2 rfl rfl)
theorem dX6_round_3 : decode cX6_round 3 = .ok (.bipush 30, 2) := dk_16 30 (dk_at dksX6_round_0 3 rfl rfl)
theorem dX6_round_5 : decode cX6_round 5 = .ok (.invokestatic 64, 3) := dk_184 0 64 (dk_at dksX6_round_0 5 rfl rfl)
theorem dX6_round_8 : decode cX6_round 8 = .ok (.ifCond .eq 7, 3) := dk_153 0 7 (dk_at dksX6_round_0 8 rfl rfl)
theorem dX6_round_11 : decode cX6_round 11 = .ok (.iconst 0, 1) := dk_3 (dk_at dksX6_round_0 11 rfl rfl)
theorem dX6_round_12 : decode cX6_round 12 = .ok (.goto 4, 3) := dk_167 0 4 (dk_at dksX6_round_0 12 rfl rfl)
theorem dX6_round_15 : decode cX6_round 15 = .ok (.iconst 1, 1) := dk_4 (dk_at dksX6_round_0 15 rfl rfl)
theorem dX6_round_16 : decode cX6_round 16 = .ok (.invokevirtual 76, 3) := dk_182 0 76 (dk_at dksX6_round_0 16 rfl rfl)
theorem dX6_round_19 : decode cX6_round 19 = .ok (.ifCond .eq 5, 3) := dk_153 0 5 (dk_at dksX6_round_0 19 rfl rfl)
theorem dX6_round_22 : decode cX6_round 22 = .ok (.iconst 0, 1) := dk_3 (dk_at dksX6_round_0 22 rfl rfl)
theorem dX6_round_23 : decode cX6_round 23 = .ok (.ireturn, 1) := dk_172 (dk_at dksX6_round_0 23 rfl rfl)
theorem dX6_round_24 : decode cX6_round 24 = .ok (.aload_n 0, 1) := dk_42 (dk_at dksX6_round_1 0 rfl rfl)
theorem dX6_round_25 : decode cX6_round 25 = .ok (.aload_n 0, 1) := dk_42 (dk_at dksX6_round_1 1 rfl rfl)
theorem dX6_round_26 : decode cX6_round 26 = .ok (.getfield 7, 3) := dk_180 0 7 (dk_at dksX6_round_1 2 rfl rfl)
theorem dX6_round_29 : decode cX6_round 29 = .ok (.invokevirtual 79, 3) := dk_182 0 79 (dk_at dksX6_round_1 5 rfl rfl)
theorem dX6_round_32 : decode cX6_round 32 = .ok (.iconst 0, 1) := dk_3 (dk_at dksX6_round_1 8 rfl rfl)
theorem dX6_round_33 : decode cX6_round 33 = .ok (.istore_n 2, 1) := dk_61 (dk_at dksX6_round_1 9 rfl rfl)
theorem dX6_round_34 : decode cX6_round 34 = .ok (.iconst 0, 1) := dk_3 (dk_at dksX6_round_1 10 rfl rfl)
theorem dX6_round_35 : decode cX6_round 35 = .ok (.istore_n 3, 1) := dk_62 (dk_at dksX6_round_1 11 rfl rfl)
theorem dX6_round_36 : decode cX6_round 36 = .ok (.iload_n 3, 1) := dk_29 (dk_at dksX6_round_1 12 rfl rfl)
theorem dX6_round_37 : decode cX6_round 37 = .ok (.iload_n 1, 1) := dk_27 (dk_at dksX6_round_1 13 rfl rfl)
theorem dX6_round_38 : decode cX6_round 38 = .ok (.if_icmp .ge 16, 3) := dk_162 0 16 (dk_at dksX6_round_1 14 rfl rfl)
theorem dX6_round_41 : decode cX6_round 41 = .ok (.iload_n 2, 1) := dk_28 (dk_at dksX6_round_1 17 rfl rfl)
theorem dX6_round_42 : decode cX6_round 42 = .ok (.aload_n 0, 1) := dk_42 (dk_at dksX6_round_1 18 rfl rfl)
theorem dX6_round_43 : decode cX6_round 43 = .ok (.invokevirtual 150, 3) := dk_182 0 150 (dk_at dksX6_round_1 19 rfl rfl)
theorem dX6_round_46 : decode cX6_round 46 = .ok (.iadd, 1) := dk_96 (dk_at dksX6_round_1 22 rfl rfl)
theorem dX6_round_47 : decode cX6_round 47 = .ok (.istore_n 2, 1) := dk_61 (dk_at dksX6_round_1 23 rfl rfl)
theorem dX6_round_48 : decode cX6_round 48 = .ok (.iinc 3 1, 3) := dk_132 3 1 (dk_at dksX6_round_2 0 rfl rfl)
theorem dX6_round_51 : decode cX6_round 51 = .ok (.goto (-15), 3) := dk_167 255 241 (dk_at dksX6_round_2 3 rfl rfl)
theorem dX6_round_54 : decode cX6_round 54 = .ok (.iload_n 2, 1) := dk_28 (dk_at dksX6_round_2 6 rfl rfl)
theorem dX6_round_55 : decode cX6_round 55 = .ok (.ireturn, 1) := dk_172 (dk_at dksX6_round_2 7 rfl rfl)
abbrev cX6_passes : ByteArray := prog_21_method_44_code
def yX6_passes : MethodName := ⟨RX6, "passes", "()I"⟩
def dkwX6_passes_13 : List UInt8 := [167, 255, 203, 132, 3, 1, 167, 255, 163, 28, 172]
abbrev dktX6_passes_13 : List UInt8 := dkwX6_passes_13 ++ []
def dkwX6_passes_12 : List UInt8 := [160, 0, 20, 42, 29, 16, 8, 42, 29, 16, 8, 182, 0, 68, 16, 10, 96, 182, 0, 86, 132, 4, 1]
abbrev dktX6_passes_12 : List UInt8 := dkwX6_passes_12 ++ dktX6_passes_13
def dkwX6_passes_11 : List UInt8 := [16, 25, 46, 162, 0, 47, 27, 21, 4, 122, 4, 126, 4, 160, 0, 31, 42, 180, 0, 38, 21, 4, 46, 29]
abbrev dktX6_passes_11 : List UInt8 := dkwX6_passes_11 ++ dktX6_passes_12
def dkwX6_passes_10 : List UInt8 := [29, 16, 8, 182, 0, 68, 42, 29, 182, 0, 113, 96, 182, 0, 86, 3, 54, 4, 21, 4, 42, 180, 0, 7]
abbrev dktX6_passes_10 : List UInt8 := dkwX6_passes_10 ++ dktX6_passes_11
def dkwX6_passes_9 : List UInt8 := [132, 3, 1, 167, 255, 223, 3, 62, 29, 42, 180, 0, 7, 16, 25, 46, 162, 0, 88, 42, 29, 16, 8, 42]
abbrev dktX6_passes_9 : List UInt8 := dkwX6_passes_9 ++ dktX6_passes_10
def dkwX6_passes_8 : List UInt8 := [162, 0, 28, 27, 29, 122, 4, 126, 154, 0, 6, 167, 0, 11, 42, 29, 182, 0, 147, 132, 2, 1]
abbrev dktX6_passes_8 : List UInt8 := dkwX6_passes_8 ++ dktX6_passes_9
def dkwX6_passes_7 : List UInt8 := [4, 28, 120, 128, 60, 132, 2, 1, 167, 255, 176, 3, 61, 3, 62, 29, 42, 180, 0, 7, 16, 25, 46]
abbrev dktX6_passes_7 : List UInt8 := dkwX6_passes_7 ++ dktX6_passes_8
def dkwX6_passes_6 : List UInt8 := [28, 16, 6, 182, 0, 68, 42, 28, 182, 0, 144, 161, 0, 18, 42, 180, 0, 35, 28, 46, 155, 0, 9, 27]
abbrev dktX6_passes_6 : List UInt8 := dkwX6_passes_6 ++ dktX6_passes_7
def dkwX6_passes_5 : List UInt8 := [16, 6, 42, 28, 16, 6, 182, 0, 68, 42, 28, 182, 0, 137, 96, 182, 0, 86, 42, 28, 182, 0, 140, 42]
abbrev dktX6_passes_5 : List UInt8 := dkwX6_passes_5 ++ dktX6_passes_6
def dkwX6_passes_4 : List UInt8 := [28, 42, 180, 0, 7, 16, 25, 46, 162, 0, 75, 42, 28, 182, 0, 97, 154, 0, 6, 167, 0, 58, 42, 28]
abbrev dktX6_passes_4 : List UInt8 := dkwX6_passes_4 ++ dktX6_passes_5
def dkwX6_passes_3 : List UInt8 := [116, 42, 27, 8, 182, 0, 68, 184, 0, 128, 116, 182, 0, 100, 132, 1, 1, 167, 255, 182, 3, 60, 3, 61]
abbrev dktX6_passes_3 : List UInt8 := dkwX6_passes_3 ++ dktX6_passes_4
def dkwX6_passes_2 : List UInt8 := [158, 0, 23, 28, 42, 27, 6, 182, 0, 68, 42, 27, 8, 182, 0, 68, 100, 184, 0, 128, 167, 0, 15, 28]
abbrev dktX6_passes_2 : List UInt8 := dkwX6_passes_2 ++ dktX6_passes_3
def dkwX6_passes_1 : List UInt8 := [42, 27, 182, 0, 97, 154, 0, 6, 167, 0, 52, 42, 27, 16, 7, 182, 0, 68, 61, 42, 27, 28]
abbrev dktX6_passes_1 : List UInt8 := dkwX6_passes_1 ++ dktX6_passes_2
def dkwX6_passes_0 : List UInt8 := [42, 180, 0, 7, 16, 20, 92, 46, 4, 96, 79, 3, 60, 27, 42, 180, 0, 7, 16, 25, 46, 162, 0, 69]
abbrev dktX6_passes_0 : List UInt8 := dkwX6_passes_0 ++ dktX6_passes_1
theorem dksX6_passes_0 : cX6_passes.data.toList.drop 0 = dktX6_passes_0 := by decide +kernel
theorem dksX6_passes_1 : cX6_passes.data.toList.drop 24 = dktX6_passes_1 := dk_seg dksX6_passes_0 24 rfl rfl
theorem dksX6_passes_2 : cX6_passes.data.toList.drop 46 = dktX6_passes_2 := dk_seg dksX6_passes_1 22 rfl rfl
theorem dksX6_passes_3 : cX6_passes.data.toList.drop 70 = dktX6_passes_3 := dk_seg dksX6_passes_2 24 rfl rfl
theorem dksX6_passes_4 : cX6_passes.data.toList.drop 94 = dktX6_passes_4 := dk_seg dksX6_passes_3 24 rfl rfl
theorem dksX6_passes_5 : cX6_passes.data.toList.drop 118 = dktX6_passes_5 := dk_seg dksX6_passes_4 24 rfl rfl
theorem dksX6_passes_6 : cX6_passes.data.toList.drop 142 = dktX6_passes_6 := dk_seg dksX6_passes_5 24 rfl rfl
theorem dksX6_passes_7 : cX6_passes.data.toList.drop 166 = dktX6_passes_7 := dk_seg dksX6_passes_6 24 rfl rfl
theorem dksX6_passes_8 : cX6_passes.data.toList.drop 189 = dktX6_passes_8 := dk_seg dksX6_passes_7 23 rfl rfl
theorem dksX6_passes_9 : cX6_passes.data.toList.drop 211 = dktX6_passes_9 := dk_seg dksX6_passes_8 22 rfl rfl
theorem dksX6_passes_10 : cX6_passes.data.toList.drop 235 = dktX6_passes_10 := dk_seg dksX6_passes_9 24 rfl rfl
theorem dksX6_passes_11 : cX6_passes.data.toList.drop 259 = dktX6_passes_11 := dk_seg dksX6_passes_10 24 rfl rfl
theorem dksX6_passes_12 : cX6_passes.data.toList.drop 283 = dktX6_passes_12 := dk_seg dksX6_passes_11 24 rfl rfl
theorem dksX6_passes_13 : cX6_passes.data.toList.drop 306 = dktX6_passes_13 := dk_seg dksX6_passes_12 23 rfl rfl
theorem dX6_passes_0 : decode cX6_passes 0 = .ok (.aload_n 0, 1) := dk_42 (dk_at dksX6_passes_0 0 rfl rfl)
theorem dX6_passes_1 : decode cX6_passes 1 = .ok (.getfield 7, 3) := dk_180 0 7 (dk_at dksX6_passes_0 1 rfl rfl)
theorem dX6_passes_4 : decode cX6_passes 4 = .ok (.bipush 20, 2) := dk_16 20 (dk_at dksX6_passes_0 4 rfl rfl)
theorem dX6_passes_6 : decode cX6_passes 6 = .ok (.dup2, 1) := dk_92 (dk_at dksX6_passes_0 6 rfl rfl)
theorem dX6_passes_7 : decode cX6_passes 7 = .ok (.iaload, 1) := dk_46 (dk_at dksX6_passes_0 7 rfl rfl)
theorem dX6_passes_8 : decode cX6_passes 8 = .ok (.iconst 1, 1) := dk_4 (dk_at dksX6_passes_0 8 rfl rfl)
theorem dX6_passes_9 : decode cX6_passes 9 = .ok (.iadd, 1) := dk_96 (dk_at dksX6_passes_0 9 rfl rfl)
theorem dX6_passes_10 : decode cX6_passes 10 = .ok (.iastore, 1) := dk_79 (dk_at dksX6_passes_0 10 rfl rfl)
theorem dX6_passes_11 : decode cX6_passes 11 = .ok (.iconst 0, 1) := dk_3 (dk_at dksX6_passes_0 11 rfl rfl)
theorem dX6_passes_12 : decode cX6_passes 12 = .ok (.istore_n 1, 1) := dk_60 (dk_at dksX6_passes_0 12 rfl rfl)
theorem dX6_passes_13 : decode cX6_passes 13 = .ok (.iload_n 1, 1) := dk_27 (dk_at dksX6_passes_0 13 rfl rfl)
theorem dX6_passes_14 : decode cX6_passes 14 = .ok (.aload_n 0, 1) := dk_42 (dk_at dksX6_passes_0 14 rfl rfl)
theorem dX6_passes_15 : decode cX6_passes 15 = .ok (.getfield 7, 3) := dk_180 0 7 (dk_at dksX6_passes_0 15 rfl rfl)
theorem dX6_passes_18 : decode cX6_passes 18 = .ok (.bipush 25, 2) := dk_16 25 (dk_at dksX6_passes_0 18 rfl rfl)
theorem dX6_passes_20 : decode cX6_passes 20 = .ok (.iaload, 1) := dk_46 (dk_at dksX6_passes_0 20 rfl rfl)
theorem dX6_passes_21 : decode cX6_passes 21 = .ok (.if_icmp .ge 69, 3) := dk_162 0 69 (dk_at dksX6_passes_0 21 rfl rfl)
theorem dX6_passes_24 : decode cX6_passes 24 = .ok (.aload_n 0, 1) := dk_42 (dk_at dksX6_passes_1 0 rfl rfl)
theorem dX6_passes_25 : decode cX6_passes 25 = .ok (.iload_n 1, 1) := dk_27 (dk_at dksX6_passes_1 1 rfl rfl)
theorem dX6_passes_26 : decode cX6_passes 26 = .ok (.invokevirtual 97, 3) := dk_182 0 97 (dk_at dksX6_passes_1 2 rfl rfl)
theorem dX6_passes_29 : decode cX6_passes 29 = .ok (.ifCond .ne 6, 3) := dk_154 0 6 (dk_at dksX6_passes_1 5 rfl rfl)
theorem dX6_passes_32 : decode cX6_passes 32 = .ok (.goto 52, 3) := dk_167 0 52 (dk_at dksX6_passes_1 8 rfl rfl)
theorem dX6_passes_35 : decode cX6_passes 35 = .ok (.aload_n 0, 1) := dk_42 (dk_at dksX6_passes_1 11 rfl rfl)
theorem dX6_passes_36 : decode cX6_passes 36 = .ok (.iload_n 1, 1) := dk_27 (dk_at dksX6_passes_1 12 rfl rfl)
theorem dX6_passes_37 : decode cX6_passes 37 = .ok (.bipush 7, 2) := dk_16 7 (dk_at dksX6_passes_1 13 rfl rfl)
theorem dX6_passes_39 : decode cX6_passes 39 = .ok (.invokevirtual 68, 3) := dk_182 0 68 (dk_at dksX6_passes_1 15 rfl rfl)
theorem dX6_passes_42 : decode cX6_passes 42 = .ok (.istore_n 2, 1) := dk_61 (dk_at dksX6_passes_1 18 rfl rfl)
theorem dX6_passes_43 : decode cX6_passes 43 = .ok (.aload_n 0, 1) := dk_42 (dk_at dksX6_passes_1 19 rfl rfl)
theorem dX6_passes_44 : decode cX6_passes 44 = .ok (.iload_n 1, 1) := dk_27 (dk_at dksX6_passes_1 20 rfl rfl)
theorem dX6_passes_45 : decode cX6_passes 45 = .ok (.iload_n 2, 1) := dk_28 (dk_at dksX6_passes_1 21 rfl rfl)
theorem dX6_passes_46 : decode cX6_passes 46 = .ok (.ifCond .le 23, 3) := dk_158 0 23 (dk_at dksX6_passes_2 0 rfl rfl)
theorem dX6_passes_49 : decode cX6_passes 49 = .ok (.iload_n 2, 1) := dk_28 (dk_at dksX6_passes_2 3 rfl rfl)
theorem dX6_passes_50 : decode cX6_passes 50 = .ok (.aload_n 0, 1) := dk_42 (dk_at dksX6_passes_2 4 rfl rfl)
theorem dX6_passes_51 : decode cX6_passes 51 = .ok (.iload_n 1, 1) := dk_27 (dk_at dksX6_passes_2 5 rfl rfl)
theorem dX6_passes_52 : decode cX6_passes 52 = .ok (.iconst 3, 1) := dk_6 (dk_at dksX6_passes_2 6 rfl rfl)
theorem dX6_passes_53 : decode cX6_passes 53 = .ok (.invokevirtual 68, 3) := dk_182 0 68 (dk_at dksX6_passes_2 7 rfl rfl)
theorem dX6_passes_56 : decode cX6_passes 56 = .ok (.aload_n 0, 1) := dk_42 (dk_at dksX6_passes_2 10 rfl rfl)
theorem dX6_passes_57 : decode cX6_passes 57 = .ok (.iload_n 1, 1) := dk_27 (dk_at dksX6_passes_2 11 rfl rfl)
theorem dX6_passes_58 : decode cX6_passes 58 = .ok (.iconst 5, 1) := dk_8 (dk_at dksX6_passes_2 12 rfl rfl)
theorem dX6_passes_59 : decode cX6_passes 59 = .ok (.invokevirtual 68, 3) := dk_182 0 68 (dk_at dksX6_passes_2 13 rfl rfl)
theorem dX6_passes_62 : decode cX6_passes 62 = .ok (.isub, 1) := dk_100 (dk_at dksX6_passes_2 16 rfl rfl)
theorem dX6_passes_63 : decode cX6_passes 63 = .ok (.invokestatic 128, 3) := dk_184 0 128 (dk_at dksX6_passes_2 17 rfl rfl)
theorem dX6_passes_66 : decode cX6_passes 66 = .ok (.goto 15, 3) := dk_167 0 15 (dk_at dksX6_passes_2 20 rfl rfl)
theorem dX6_passes_69 : decode cX6_passes 69 = .ok (.iload_n 2, 1) := dk_28 (dk_at dksX6_passes_2 23 rfl rfl)
theorem dX6_passes_70 : decode cX6_passes 70 = .ok (.ineg, 1) := dk_116 (dk_at dksX6_passes_3 0 rfl rfl)
theorem dX6_passes_71 : decode cX6_passes 71 = .ok (.aload_n 0, 1) := dk_42 (dk_at dksX6_passes_3 1 rfl rfl)
theorem dX6_passes_72 : decode cX6_passes 72 = .ok (.iload_n 1, 1) := dk_27 (dk_at dksX6_passes_3 2 rfl rfl)
theorem dX6_passes_73 : decode cX6_passes 73 = .ok (.iconst 5, 1) := dk_8 (dk_at dksX6_passes_3 3 rfl rfl)
theorem dX6_passes_74 : decode cX6_passes 74 = .ok (.invokevirtual 68, 3) := dk_182 0 68 (dk_at dksX6_passes_3 4 rfl rfl)
theorem dX6_passes_77 : decode cX6_passes 77 = .ok (.invokestatic 128, 3) := dk_184 0 128 (dk_at dksX6_passes_3 7 rfl rfl)
theorem dX6_passes_80 : decode cX6_passes 80 = .ok (.ineg, 1) := dk_116 (dk_at dksX6_passes_3 10 rfl rfl)
theorem dX6_passes_81 : decode cX6_passes 81 = .ok (.invokevirtual 100, 3) := dk_182 0 100 (dk_at dksX6_passes_3 11 rfl rfl)
theorem dX6_passes_84 : decode cX6_passes 84 = .ok (.iinc 1 1, 3) := dk_132 1 1 (dk_at dksX6_passes_3 14 rfl rfl)
theorem dX6_passes_87 : decode cX6_passes 87 = .ok (.goto (-74), 3) := dk_167 255 182 (dk_at dksX6_passes_3 17 rfl rfl)
theorem dX6_passes_90 : decode cX6_passes 90 = .ok (.iconst 0, 1) := dk_3 (dk_at dksX6_passes_3 20 rfl rfl)
theorem dX6_passes_91 : decode cX6_passes 91 = .ok (.istore_n 1, 1) := dk_60 (dk_at dksX6_passes_3 21 rfl rfl)
theorem dX6_passes_92 : decode cX6_passes 92 = .ok (.iconst 0, 1) := dk_3 (dk_at dksX6_passes_3 22 rfl rfl)
theorem dX6_passes_93 : decode cX6_passes 93 = .ok (.istore_n 2, 1) := dk_61 (dk_at dksX6_passes_3 23 rfl rfl)
theorem dX6_passes_94 : decode cX6_passes 94 = .ok (.iload_n 2, 1) := dk_28 (dk_at dksX6_passes_4 0 rfl rfl)
theorem dX6_passes_95 : decode cX6_passes 95 = .ok (.aload_n 0, 1) := dk_42 (dk_at dksX6_passes_4 1 rfl rfl)
theorem dX6_passes_96 : decode cX6_passes 96 = .ok (.getfield 7, 3) := dk_180 0 7 (dk_at dksX6_passes_4 2 rfl rfl)
theorem dX6_passes_99 : decode cX6_passes 99 = .ok (.bipush 25, 2) := dk_16 25 (dk_at dksX6_passes_4 5 rfl rfl)
theorem dX6_passes_101 : decode cX6_passes 101 = .ok (.iaload, 1) := dk_46 (dk_at dksX6_passes_4 7 rfl rfl)
theorem dX6_passes_102 : decode cX6_passes 102 = .ok (.if_icmp .ge 75, 3) := dk_162 0 75 (dk_at dksX6_passes_4 8 rfl rfl)
theorem dX6_passes_105 : decode cX6_passes 105 = .ok (.aload_n 0, 1) := dk_42 (dk_at dksX6_passes_4 11 rfl rfl)
theorem dX6_passes_106 : decode cX6_passes 106 = .ok (.iload_n 2, 1) := dk_28 (dk_at dksX6_passes_4 12 rfl rfl)
theorem dX6_passes_107 : decode cX6_passes 107 = .ok (.invokevirtual 97, 3) := dk_182 0 97 (dk_at dksX6_passes_4 13 rfl rfl)
theorem dX6_passes_110 : decode cX6_passes 110 = .ok (.ifCond .ne 6, 3) := dk_154 0 6 (dk_at dksX6_passes_4 16 rfl rfl)
theorem dX6_passes_113 : decode cX6_passes 113 = .ok (.goto 58, 3) := dk_167 0 58 (dk_at dksX6_passes_4 19 rfl rfl)
theorem dX6_passes_116 : decode cX6_passes 116 = .ok (.aload_n 0, 1) := dk_42 (dk_at dksX6_passes_4 22 rfl rfl)
theorem dX6_passes_117 : decode cX6_passes 117 = .ok (.iload_n 2, 1) := dk_28 (dk_at dksX6_passes_4 23 rfl rfl)
theorem dX6_passes_118 : decode cX6_passes 118 = .ok (.bipush 6, 2) := dk_16 6 (dk_at dksX6_passes_5 0 rfl rfl)
theorem dX6_passes_120 : decode cX6_passes 120 = .ok (.aload_n 0, 1) := dk_42 (dk_at dksX6_passes_5 2 rfl rfl)
theorem dX6_passes_121 : decode cX6_passes 121 = .ok (.iload_n 2, 1) := dk_28 (dk_at dksX6_passes_5 3 rfl rfl)
theorem dX6_passes_122 : decode cX6_passes 122 = .ok (.bipush 6, 2) := dk_16 6 (dk_at dksX6_passes_5 4 rfl rfl)
theorem dX6_passes_124 : decode cX6_passes 124 = .ok (.invokevirtual 68, 3) := dk_182 0 68 (dk_at dksX6_passes_5 6 rfl rfl)
theorem dX6_passes_127 : decode cX6_passes 127 = .ok (.aload_n 0, 1) := dk_42 (dk_at dksX6_passes_5 9 rfl rfl)
theorem dX6_passes_128 : decode cX6_passes 128 = .ok (.iload_n 2, 1) := dk_28 (dk_at dksX6_passes_5 10 rfl rfl)
theorem dX6_passes_129 : decode cX6_passes 129 = .ok (.invokevirtual 137, 3) := dk_182 0 137 (dk_at dksX6_passes_5 11 rfl rfl)
theorem dX6_passes_132 : decode cX6_passes 132 = .ok (.iadd, 1) := dk_96 (dk_at dksX6_passes_5 14 rfl rfl)
theorem dX6_passes_133 : decode cX6_passes 133 = .ok (.invokevirtual 86, 3) := dk_182 0 86 (dk_at dksX6_passes_5 15 rfl rfl)
theorem dX6_passes_136 : decode cX6_passes 136 = .ok (.aload_n 0, 1) := dk_42 (dk_at dksX6_passes_5 18 rfl rfl)
theorem dX6_passes_137 : decode cX6_passes 137 = .ok (.iload_n 2, 1) := dk_28 (dk_at dksX6_passes_5 19 rfl rfl)
theorem dX6_passes_138 : decode cX6_passes 138 = .ok (.invokevirtual 140, 3) := dk_182 0 140 (dk_at dksX6_passes_5 20 rfl rfl)
theorem dX6_passes_141 : decode cX6_passes 141 = .ok (.aload_n 0, 1) := dk_42 (dk_at dksX6_passes_5 23 rfl rfl)
theorem dX6_passes_142 : decode cX6_passes 142 = .ok (.iload_n 2, 1) := dk_28 (dk_at dksX6_passes_6 0 rfl rfl)
theorem dX6_passes_143 : decode cX6_passes 143 = .ok (.bipush 6, 2) := dk_16 6 (dk_at dksX6_passes_6 1 rfl rfl)
theorem dX6_passes_145 : decode cX6_passes 145 = .ok (.invokevirtual 68, 3) := dk_182 0 68 (dk_at dksX6_passes_6 3 rfl rfl)
theorem dX6_passes_148 : decode cX6_passes 148 = .ok (.aload_n 0, 1) := dk_42 (dk_at dksX6_passes_6 6 rfl rfl)
theorem dX6_passes_149 : decode cX6_passes 149 = .ok (.iload_n 2, 1) := dk_28 (dk_at dksX6_passes_6 7 rfl rfl)
theorem dX6_passes_150 : decode cX6_passes 150 = .ok (.invokevirtual 144, 3) := dk_182 0 144 (dk_at dksX6_passes_6 8 rfl rfl)
theorem dX6_passes_153 : decode cX6_passes 153 = .ok (.if_icmp .lt 18, 3) := dk_161 0 18 (dk_at dksX6_passes_6 11 rfl rfl)
theorem dX6_passes_156 : decode cX6_passes 156 = .ok (.aload_n 0, 1) := dk_42 (dk_at dksX6_passes_6 14 rfl rfl)
theorem dX6_passes_157 : decode cX6_passes 157 = .ok (.getfield 35, 3) := dk_180 0 35 (dk_at dksX6_passes_6 15 rfl rfl)
theorem dX6_passes_160 : decode cX6_passes 160 = .ok (.iload_n 2, 1) := dk_28 (dk_at dksX6_passes_6 18 rfl rfl)
theorem dX6_passes_161 : decode cX6_passes 161 = .ok (.iaload, 1) := dk_46 (dk_at dksX6_passes_6 19 rfl rfl)
theorem dX6_passes_162 : decode cX6_passes 162 = .ok (.ifCond .lt 9, 3) := dk_155 0 9 (dk_at dksX6_passes_6 20 rfl rfl)
theorem dX6_passes_165 : decode cX6_passes 165 = .ok (.iload_n 1, 1) := dk_27 (dk_at dksX6_passes_6 23 rfl rfl)
theorem dX6_passes_166 : decode cX6_passes 166 = .ok (.iconst 1, 1) := dk_4 (dk_at dksX6_passes_7 0 rfl rfl)
theorem dX6_passes_167 : decode cX6_passes 167 = .ok (.iload_n 2, 1) := dk_28 (dk_at dksX6_passes_7 1 rfl rfl)
theorem dX6_passes_168 : decode cX6_passes 168 = .ok (.ishl, 1) := dk_120 (dk_at dksX6_passes_7 2 rfl rfl)
theorem dX6_passes_169 : decode cX6_passes 169 = .ok (.ior, 1) := dk_128 (dk_at dksX6_passes_7 3 rfl rfl)
theorem dX6_passes_170 : decode cX6_passes 170 = .ok (.istore_n 1, 1) := dk_60 (dk_at dksX6_passes_7 4 rfl rfl)
theorem dX6_passes_171 : decode cX6_passes 171 = .ok (.iinc 2 1, 3) := dk_132 2 1 (dk_at dksX6_passes_7 5 rfl rfl)
theorem dX6_passes_174 : decode cX6_passes 174 = .ok (.goto (-80), 3) := dk_167 255 176 (dk_at dksX6_passes_7 8 rfl rfl)
theorem dX6_passes_177 : decode cX6_passes 177 = .ok (.iconst 0, 1) := dk_3 (dk_at dksX6_passes_7 11 rfl rfl)
theorem dX6_passes_178 : decode cX6_passes 178 = .ok (.istore_n 2, 1) := dk_61 (dk_at dksX6_passes_7 12 rfl rfl)
theorem dX6_passes_179 : decode cX6_passes 179 = .ok (.iconst 0, 1) := dk_3 (dk_at dksX6_passes_7 13 rfl rfl)
theorem dX6_passes_180 : decode cX6_passes 180 = .ok (.istore_n 3, 1) := dk_62 (dk_at dksX6_passes_7 14 rfl rfl)
theorem dX6_passes_181 : decode cX6_passes 181 = .ok (.iload_n 3, 1) := dk_29 (dk_at dksX6_passes_7 15 rfl rfl)
theorem dX6_passes_182 : decode cX6_passes 182 = .ok (.aload_n 0, 1) := dk_42 (dk_at dksX6_passes_7 16 rfl rfl)
theorem dX6_passes_183 : decode cX6_passes 183 = .ok (.getfield 7, 3) := dk_180 0 7 (dk_at dksX6_passes_7 17 rfl rfl)
theorem dX6_passes_186 : decode cX6_passes 186 = .ok (.bipush 25, 2) := dk_16 25 (dk_at dksX6_passes_7 20 rfl rfl)
theorem dX6_passes_188 : decode cX6_passes 188 = .ok (.iaload, 1) := dk_46 (dk_at dksX6_passes_7 22 rfl rfl)
theorem dX6_passes_189 : decode cX6_passes 189 = .ok (.if_icmp .ge 28, 3) := dk_162 0 28 (dk_at dksX6_passes_8 0 rfl rfl)
theorem dX6_passes_192 : decode cX6_passes 192 = .ok (.iload_n 1, 1) := dk_27 (dk_at dksX6_passes_8 3 rfl rfl)
theorem dX6_passes_193 : decode cX6_passes 193 = .ok (.iload_n 3, 1) := dk_29 (dk_at dksX6_passes_8 4 rfl rfl)
theorem dX6_passes_194 : decode cX6_passes 194 = .ok (.ishr, 1) := dk_122 (dk_at dksX6_passes_8 5 rfl rfl)
theorem dX6_passes_195 : decode cX6_passes 195 = .ok (.iconst 1, 1) := dk_4 (dk_at dksX6_passes_8 6 rfl rfl)
theorem dX6_passes_196 : decode cX6_passes 196 = .ok (.iand, 1) := dk_126 (dk_at dksX6_passes_8 7 rfl rfl)
theorem dX6_passes_197 : decode cX6_passes 197 = .ok (.ifCond .ne 6, 3) := dk_154 0 6 (dk_at dksX6_passes_8 8 rfl rfl)
theorem dX6_passes_200 : decode cX6_passes 200 = .ok (.goto 11, 3) := dk_167 0 11 (dk_at dksX6_passes_8 11 rfl rfl)
theorem dX6_passes_203 : decode cX6_passes 203 = .ok (.aload_n 0, 1) := dk_42 (dk_at dksX6_passes_8 14 rfl rfl)
theorem dX6_passes_204 : decode cX6_passes 204 = .ok (.iload_n 3, 1) := dk_29 (dk_at dksX6_passes_8 15 rfl rfl)
theorem dX6_passes_205 : decode cX6_passes 205 = .ok (.invokevirtual 147, 3) := dk_182 0 147 (dk_at dksX6_passes_8 16 rfl rfl)
theorem dX6_passes_208 : decode cX6_passes 208 = .ok (.iinc 2 1, 3) := dk_132 2 1 (dk_at dksX6_passes_8 19 rfl rfl)
theorem dX6_passes_211 : decode cX6_passes 211 = .ok (.iinc 3 1, 3) := dk_132 3 1 (dk_at dksX6_passes_9 0 rfl rfl)
theorem dX6_passes_214 : decode cX6_passes 214 = .ok (.goto (-33), 3) := dk_167 255 223 (dk_at dksX6_passes_9 3 rfl rfl)
theorem dX6_passes_217 : decode cX6_passes 217 = .ok (.iconst 0, 1) := dk_3 (dk_at dksX6_passes_9 6 rfl rfl)
theorem dX6_passes_218 : decode cX6_passes 218 = .ok (.istore_n 3, 1) := dk_62 (dk_at dksX6_passes_9 7 rfl rfl)
theorem dX6_passes_219 : decode cX6_passes 219 = .ok (.iload_n 3, 1) := dk_29 (dk_at dksX6_passes_9 8 rfl rfl)
theorem dX6_passes_220 : decode cX6_passes 220 = .ok (.aload_n 0, 1) := dk_42 (dk_at dksX6_passes_9 9 rfl rfl)
theorem dX6_passes_221 : decode cX6_passes 221 = .ok (.getfield 7, 3) := dk_180 0 7 (dk_at dksX6_passes_9 10 rfl rfl)
theorem dX6_passes_224 : decode cX6_passes 224 = .ok (.bipush 25, 2) := dk_16 25 (dk_at dksX6_passes_9 13 rfl rfl)
theorem dX6_passes_226 : decode cX6_passes 226 = .ok (.iaload, 1) := dk_46 (dk_at dksX6_passes_9 15 rfl rfl)
theorem dX6_passes_227 : decode cX6_passes 227 = .ok (.if_icmp .ge 88, 3) := dk_162 0 88 (dk_at dksX6_passes_9 16 rfl rfl)
theorem dX6_passes_230 : decode cX6_passes 230 = .ok (.aload_n 0, 1) := dk_42 (dk_at dksX6_passes_9 19 rfl rfl)
theorem dX6_passes_231 : decode cX6_passes 231 = .ok (.iload_n 3, 1) := dk_29 (dk_at dksX6_passes_9 20 rfl rfl)
theorem dX6_passes_232 : decode cX6_passes 232 = .ok (.bipush 8, 2) := dk_16 8 (dk_at dksX6_passes_9 21 rfl rfl)
theorem dX6_passes_234 : decode cX6_passes 234 = .ok (.aload_n 0, 1) := dk_42 (dk_at dksX6_passes_9 23 rfl rfl)
theorem dX6_passes_235 : decode cX6_passes 235 = .ok (.iload_n 3, 1) := dk_29 (dk_at dksX6_passes_10 0 rfl rfl)
theorem dX6_passes_236 : decode cX6_passes 236 = .ok (.bipush 8, 2) := dk_16 8 (dk_at dksX6_passes_10 1 rfl rfl)
theorem dX6_passes_238 : decode cX6_passes 238 = .ok (.invokevirtual 68, 3) := dk_182 0 68 (dk_at dksX6_passes_10 3 rfl rfl)
theorem dX6_passes_241 : decode cX6_passes 241 = .ok (.aload_n 0, 1) := dk_42 (dk_at dksX6_passes_10 6 rfl rfl)
theorem dX6_passes_242 : decode cX6_passes 242 = .ok (.iload_n 3, 1) := dk_29 (dk_at dksX6_passes_10 7 rfl rfl)
theorem dX6_passes_243 : decode cX6_passes 243 = .ok (.invokevirtual 113, 3) := dk_182 0 113 (dk_at dksX6_passes_10 8 rfl rfl)
theorem dX6_passes_246 : decode cX6_passes 246 = .ok (.iadd, 1) := dk_96 (dk_at dksX6_passes_10 11 rfl rfl)
theorem dX6_passes_247 : decode cX6_passes 247 = .ok (.invokevirtual 86, 3) := dk_182 0 86 (dk_at dksX6_passes_10 12 rfl rfl)
theorem dX6_passes_250 : decode cX6_passes 250 = .ok (.iconst 0, 1) := dk_3 (dk_at dksX6_passes_10 15 rfl rfl)
theorem dX6_passes_251 : decode cX6_passes 251 = .ok (.istore 4, 2) := dk_54 4 (dk_at dksX6_passes_10 16 rfl rfl)
theorem dX6_passes_253 : decode cX6_passes 253 = .ok (.iload 4, 2) := dk_21 4 (dk_at dksX6_passes_10 18 rfl rfl)
theorem dX6_passes_255 : decode cX6_passes 255 = .ok (.aload_n 0, 1) := dk_42 (dk_at dksX6_passes_10 20 rfl rfl)
theorem dX6_passes_256 : decode cX6_passes 256 = .ok (.getfield 7, 3) := dk_180 0 7 (dk_at dksX6_passes_10 21 rfl rfl)
theorem dX6_passes_259 : decode cX6_passes 259 = .ok (.bipush 25, 2) := dk_16 25 (dk_at dksX6_passes_11 0 rfl rfl)
theorem dX6_passes_261 : decode cX6_passes 261 = .ok (.iaload, 1) := dk_46 (dk_at dksX6_passes_11 2 rfl rfl)
theorem dX6_passes_262 : decode cX6_passes 262 = .ok (.if_icmp .ge 47, 3) := dk_162 0 47 (dk_at dksX6_passes_11 3 rfl rfl)
theorem dX6_passes_265 : decode cX6_passes 265 = .ok (.iload_n 1, 1) := dk_27 (dk_at dksX6_passes_11 6 rfl rfl)
theorem dX6_passes_266 : decode cX6_passes 266 = .ok (.iload 4, 2) := dk_21 4 (dk_at dksX6_passes_11 7 rfl rfl)
theorem dX6_passes_268 : decode cX6_passes 268 = .ok (.ishr, 1) := dk_122 (dk_at dksX6_passes_11 9 rfl rfl)
theorem dX6_passes_269 : decode cX6_passes 269 = .ok (.iconst 1, 1) := dk_4 (dk_at dksX6_passes_11 10 rfl rfl)
theorem dX6_passes_270 : decode cX6_passes 270 = .ok (.iand, 1) := dk_126 (dk_at dksX6_passes_11 11 rfl rfl)
theorem dX6_passes_271 : decode cX6_passes 271 = .ok (.iconst 1, 1) := dk_4 (dk_at dksX6_passes_11 12 rfl rfl)
theorem dX6_passes_272 : decode cX6_passes 272 = .ok (.if_icmp .ne 31, 3) := dk_160 0 31 (dk_at dksX6_passes_11 13 rfl rfl)
theorem dX6_passes_275 : decode cX6_passes 275 = .ok (.aload_n 0, 1) := dk_42 (dk_at dksX6_passes_11 16 rfl rfl)
theorem dX6_passes_276 : decode cX6_passes 276 = .ok (.getfield 38, 3) := dk_180 0 38 (dk_at dksX6_passes_11 17 rfl rfl)
theorem dX6_passes_279 : decode cX6_passes 279 = .ok (.iload 4, 2) := dk_21 4 (dk_at dksX6_passes_11 20 rfl rfl)
theorem dX6_passes_281 : decode cX6_passes 281 = .ok (.iaload, 1) := dk_46 (dk_at dksX6_passes_11 22 rfl rfl)
theorem dX6_passes_282 : decode cX6_passes 282 = .ok (.iload_n 3, 1) := dk_29 (dk_at dksX6_passes_11 23 rfl rfl)
theorem dX6_passes_283 : decode cX6_passes 283 = .ok (.if_icmp .ne 20, 3) := dk_160 0 20 (dk_at dksX6_passes_12 0 rfl rfl)
theorem dX6_passes_286 : decode cX6_passes 286 = .ok (.aload_n 0, 1) := dk_42 (dk_at dksX6_passes_12 3 rfl rfl)
theorem dX6_passes_287 : decode cX6_passes 287 = .ok (.iload_n 3, 1) := dk_29 (dk_at dksX6_passes_12 4 rfl rfl)
theorem dX6_passes_288 : decode cX6_passes 288 = .ok (.bipush 8, 2) := dk_16 8 (dk_at dksX6_passes_12 5 rfl rfl)
theorem dX6_passes_290 : decode cX6_passes 290 = .ok (.aload_n 0, 1) := dk_42 (dk_at dksX6_passes_12 7 rfl rfl)
theorem dX6_passes_291 : decode cX6_passes 291 = .ok (.iload_n 3, 1) := dk_29 (dk_at dksX6_passes_12 8 rfl rfl)
theorem dX6_passes_292 : decode cX6_passes 292 = .ok (.bipush 8, 2) := dk_16 8 (dk_at dksX6_passes_12 9 rfl rfl)
theorem dX6_passes_294 : decode cX6_passes 294 = .ok (.invokevirtual 68, 3) := dk_182 0 68 (dk_at dksX6_passes_12 11 rfl rfl)
theorem dX6_passes_297 : decode cX6_passes 297 = .ok (.bipush 10, 2) := dk_16 10 (dk_at dksX6_passes_12 14 rfl rfl)
theorem dX6_passes_299 : decode cX6_passes 299 = .ok (.iadd, 1) := dk_96 (dk_at dksX6_passes_12 16 rfl rfl)
theorem dX6_passes_300 : decode cX6_passes 300 = .ok (.invokevirtual 86, 3) := dk_182 0 86 (dk_at dksX6_passes_12 17 rfl rfl)
theorem dX6_passes_303 : decode cX6_passes 303 = .ok (.iinc 4 1, 3) := dk_132 4 1 (dk_at dksX6_passes_12 20 rfl rfl)
theorem dX6_passes_306 : decode cX6_passes 306 = .ok (.goto (-53), 3) := dk_167 255 203 (dk_at dksX6_passes_13 0 rfl rfl)
theorem dX6_passes_309 : decode cX6_passes 309 = .ok (.iinc 3 1, 3) := dk_132 3 1 (dk_at dksX6_passes_13 3 rfl rfl)
theorem dX6_passes_312 : decode cX6_passes 312 = .ok (.goto (-93), 3) := dk_167 255 163 (dk_at dksX6_passes_13 6 rfl rfl)
theorem dX6_passes_315 : decode cX6_passes 315 = .ok (.iload_n 2, 1) := dk_28 (dk_at dksX6_passes_13 9 rfl rfl)
theorem dX6_passes_316 : decode cX6_passes 316 = .ok (.ireturn, 1) := dk_172 (dk_at dksX6_passes_13 10 rfl rfl)
abbrev cX6_finds : ByteArray := prog_21_method_42_code
def yX6_finds : MethodName := ⟨RX6, "finds", "(I)V"⟩
def dkwX6_finds_5 : List UInt8 := [164, 0, 8, 21, 4, 167, 0, 4, 28, 61, 132, 3, 1, 167, 255, 152, 177]
abbrev dktX6_finds_5 : List UInt8 := dkwX6_finds_5 ++ []
def dkwX6_finds_4 : List UInt8 := [180, 0, 35, 27, 21, 5, 79, 21, 4, 28, 164, 0, 10, 42, 180, 0, 38, 27, 29, 79, 21, 4, 28]
abbrev dktX6_finds_4 : List UInt8 := dkwX6_finds_4 ++ dktX6_finds_5
def dkwX6_finds_3 : List UInt8 := [128, 79, 42, 180, 0, 35, 27, 46, 155, 0, 14, 21, 5, 42, 180, 0, 35, 27, 46, 162, 0, 11, 42]
abbrev dktX6_finds_3 : List UInt8 := dkwX6_finds_3 ++ dktX6_finds_4
def dkwX6_finds_2 : List UInt8 := [154, 0, 6, 167, 0, 77, 42, 27, 29, 182, 0, 131, 54, 5, 42, 180, 0, 41, 27, 92, 46, 4, 29, 120]
abbrev dktX6_finds_2 : List UInt8 := dkwX6_finds_2 ++ dktX6_finds_3
def dkwX6_finds_1 : List UInt8 := [62, 29, 42, 180, 0, 7, 16, 25, 46, 162, 0, 99, 42, 27, 29, 182, 0, 134, 54, 4, 21, 4]
abbrev dktX6_finds_1 : List UInt8 := dkwX6_finds_1 ++ dktX6_finds_2
def dkwX6_finds_0 : List UInt8 := [42, 180, 0, 35, 27, 2, 79, 42, 180, 0, 38, 27, 2, 79, 42, 180, 0, 41, 27, 3, 79, 3, 61, 3]
abbrev dktX6_finds_0 : List UInt8 := dkwX6_finds_0 ++ dktX6_finds_1
theorem dksX6_finds_0 : cX6_finds.data.toList.drop 0 = dktX6_finds_0 := by decide +kernel
theorem dksX6_finds_1 : cX6_finds.data.toList.drop 24 = dktX6_finds_1 := dk_seg dksX6_finds_0 24 rfl rfl
theorem dksX6_finds_2 : cX6_finds.data.toList.drop 46 = dktX6_finds_2 := dk_seg dksX6_finds_1 22 rfl rfl
theorem dksX6_finds_3 : cX6_finds.data.toList.drop 70 = dktX6_finds_3 := dk_seg dksX6_finds_2 24 rfl rfl
theorem dksX6_finds_4 : cX6_finds.data.toList.drop 93 = dktX6_finds_4 := dk_seg dksX6_finds_3 23 rfl rfl
theorem dksX6_finds_5 : cX6_finds.data.toList.drop 116 = dktX6_finds_5 := dk_seg dksX6_finds_4 23 rfl rfl
theorem dX6_finds_0 : decode cX6_finds 0 = .ok (.aload_n 0, 1) := dk_42 (dk_at dksX6_finds_0 0 rfl rfl)
theorem dX6_finds_1 : decode cX6_finds 1 = .ok (.getfield 35, 3) := dk_180 0 35 (dk_at dksX6_finds_0 1 rfl rfl)
theorem dX6_finds_4 : decode cX6_finds 4 = .ok (.iload_n 1, 1) := dk_27 (dk_at dksX6_finds_0 4 rfl rfl)
theorem dX6_finds_5 : decode cX6_finds 5 = .ok (.iconst (-1), 1) := dk_2 (dk_at dksX6_finds_0 5 rfl rfl)
theorem dX6_finds_6 : decode cX6_finds 6 = .ok (.iastore, 1) := dk_79 (dk_at dksX6_finds_0 6 rfl rfl)
theorem dX6_finds_7 : decode cX6_finds 7 = .ok (.aload_n 0, 1) := dk_42 (dk_at dksX6_finds_0 7 rfl rfl)
theorem dX6_finds_8 : decode cX6_finds 8 = .ok (.getfield 38, 3) := dk_180 0 38 (dk_at dksX6_finds_0 8 rfl rfl)
theorem dX6_finds_11 : decode cX6_finds 11 = .ok (.iload_n 1, 1) := dk_27 (dk_at dksX6_finds_0 11 rfl rfl)
theorem dX6_finds_12 : decode cX6_finds 12 = .ok (.iconst (-1), 1) := dk_2 (dk_at dksX6_finds_0 12 rfl rfl)
theorem dX6_finds_13 : decode cX6_finds 13 = .ok (.iastore, 1) := dk_79 (dk_at dksX6_finds_0 13 rfl rfl)
theorem dX6_finds_14 : decode cX6_finds 14 = .ok (.aload_n 0, 1) := dk_42 (dk_at dksX6_finds_0 14 rfl rfl)
theorem dX6_finds_15 : decode cX6_finds 15 = .ok (.getfield 41, 3) := dk_180 0 41 (dk_at dksX6_finds_0 15 rfl rfl)
theorem dX6_finds_18 : decode cX6_finds 18 = .ok (.iload_n 1, 1) := dk_27 (dk_at dksX6_finds_0 18 rfl rfl)
theorem dX6_finds_19 : decode cX6_finds 19 = .ok (.iconst 0, 1) := dk_3 (dk_at dksX6_finds_0 19 rfl rfl)
theorem dX6_finds_20 : decode cX6_finds 20 = .ok (.iastore, 1) := dk_79 (dk_at dksX6_finds_0 20 rfl rfl)
theorem dX6_finds_21 : decode cX6_finds 21 = .ok (.iconst 0, 1) := dk_3 (dk_at dksX6_finds_0 21 rfl rfl)
theorem dX6_finds_22 : decode cX6_finds 22 = .ok (.istore_n 2, 1) := dk_61 (dk_at dksX6_finds_0 22 rfl rfl)
theorem dX6_finds_23 : decode cX6_finds 23 = .ok (.iconst 0, 1) := dk_3 (dk_at dksX6_finds_0 23 rfl rfl)
theorem dX6_finds_24 : decode cX6_finds 24 = .ok (.istore_n 3, 1) := dk_62 (dk_at dksX6_finds_1 0 rfl rfl)
theorem dX6_finds_25 : decode cX6_finds 25 = .ok (.iload_n 3, 1) := dk_29 (dk_at dksX6_finds_1 1 rfl rfl)
theorem dX6_finds_26 : decode cX6_finds 26 = .ok (.aload_n 0, 1) := dk_42 (dk_at dksX6_finds_1 2 rfl rfl)
theorem dX6_finds_27 : decode cX6_finds 27 = .ok (.getfield 7, 3) := dk_180 0 7 (dk_at dksX6_finds_1 3 rfl rfl)
theorem dX6_finds_30 : decode cX6_finds 30 = .ok (.bipush 25, 2) := dk_16 25 (dk_at dksX6_finds_1 6 rfl rfl)
theorem dX6_finds_32 : decode cX6_finds 32 = .ok (.iaload, 1) := dk_46 (dk_at dksX6_finds_1 8 rfl rfl)
theorem dX6_finds_33 : decode cX6_finds 33 = .ok (.if_icmp .ge 99, 3) := dk_162 0 99 (dk_at dksX6_finds_1 9 rfl rfl)
theorem dX6_finds_36 : decode cX6_finds 36 = .ok (.aload_n 0, 1) := dk_42 (dk_at dksX6_finds_1 12 rfl rfl)
theorem dX6_finds_37 : decode cX6_finds 37 = .ok (.iload_n 1, 1) := dk_27 (dk_at dksX6_finds_1 13 rfl rfl)
theorem dX6_finds_38 : decode cX6_finds 38 = .ok (.iload_n 3, 1) := dk_29 (dk_at dksX6_finds_1 14 rfl rfl)
theorem dX6_finds_39 : decode cX6_finds 39 = .ok (.invokevirtual 134, 3) := dk_182 0 134 (dk_at dksX6_finds_1 15 rfl rfl)
theorem dX6_finds_42 : decode cX6_finds 42 = .ok (.istore 4, 2) := dk_54 4 (dk_at dksX6_finds_1 18 rfl rfl)
theorem dX6_finds_44 : decode cX6_finds 44 = .ok (.iload 4, 2) := dk_21 4 (dk_at dksX6_finds_1 20 rfl rfl)
theorem dX6_finds_46 : decode cX6_finds 46 = .ok (.ifCond .ne 6, 3) := dk_154 0 6 (dk_at dksX6_finds_2 0 rfl rfl)
theorem dX6_finds_49 : decode cX6_finds 49 = .ok (.goto 77, 3) := dk_167 0 77 (dk_at dksX6_finds_2 3 rfl rfl)
theorem dX6_finds_52 : decode cX6_finds 52 = .ok (.aload_n 0, 1) := dk_42 (dk_at dksX6_finds_2 6 rfl rfl)
theorem dX6_finds_53 : decode cX6_finds 53 = .ok (.iload_n 1, 1) := dk_27 (dk_at dksX6_finds_2 7 rfl rfl)
theorem dX6_finds_54 : decode cX6_finds 54 = .ok (.iload_n 3, 1) := dk_29 (dk_at dksX6_finds_2 8 rfl rfl)
theorem dX6_finds_55 : decode cX6_finds 55 = .ok (.invokevirtual 131, 3) := dk_182 0 131 (dk_at dksX6_finds_2 9 rfl rfl)
theorem dX6_finds_58 : decode cX6_finds 58 = .ok (.istore 5, 2) := dk_54 5 (dk_at dksX6_finds_2 12 rfl rfl)
theorem dX6_finds_60 : decode cX6_finds 60 = .ok (.aload_n 0, 1) := dk_42 (dk_at dksX6_finds_2 14 rfl rfl)
theorem dX6_finds_61 : decode cX6_finds 61 = .ok (.getfield 41, 3) := dk_180 0 41 (dk_at dksX6_finds_2 15 rfl rfl)
theorem dX6_finds_64 : decode cX6_finds 64 = .ok (.iload_n 1, 1) := dk_27 (dk_at dksX6_finds_2 18 rfl rfl)
theorem dX6_finds_65 : decode cX6_finds 65 = .ok (.dup2, 1) := dk_92 (dk_at dksX6_finds_2 19 rfl rfl)
theorem dX6_finds_66 : decode cX6_finds 66 = .ok (.iaload, 1) := dk_46 (dk_at dksX6_finds_2 20 rfl rfl)
theorem dX6_finds_67 : decode cX6_finds 67 = .ok (.iconst 1, 1) := dk_4 (dk_at dksX6_finds_2 21 rfl rfl)
theorem dX6_finds_68 : decode cX6_finds 68 = .ok (.iload_n 3, 1) := dk_29 (dk_at dksX6_finds_2 22 rfl rfl)
theorem dX6_finds_69 : decode cX6_finds 69 = .ok (.ishl, 1) := dk_120 (dk_at dksX6_finds_2 23 rfl rfl)
theorem dX6_finds_70 : decode cX6_finds 70 = .ok (.ior, 1) := dk_128 (dk_at dksX6_finds_3 0 rfl rfl)
theorem dX6_finds_71 : decode cX6_finds 71 = .ok (.iastore, 1) := dk_79 (dk_at dksX6_finds_3 1 rfl rfl)
theorem dX6_finds_72 : decode cX6_finds 72 = .ok (.aload_n 0, 1) := dk_42 (dk_at dksX6_finds_3 2 rfl rfl)
theorem dX6_finds_73 : decode cX6_finds 73 = .ok (.getfield 35, 3) := dk_180 0 35 (dk_at dksX6_finds_3 3 rfl rfl)
theorem dX6_finds_76 : decode cX6_finds 76 = .ok (.iload_n 1, 1) := dk_27 (dk_at dksX6_finds_3 6 rfl rfl)
theorem dX6_finds_77 : decode cX6_finds 77 = .ok (.iaload, 1) := dk_46 (dk_at dksX6_finds_3 7 rfl rfl)
theorem dX6_finds_78 : decode cX6_finds 78 = .ok (.ifCond .lt 14, 3) := dk_155 0 14 (dk_at dksX6_finds_3 8 rfl rfl)
theorem dX6_finds_81 : decode cX6_finds 81 = .ok (.iload 5, 2) := dk_21 5 (dk_at dksX6_finds_3 11 rfl rfl)
theorem dX6_finds_83 : decode cX6_finds 83 = .ok (.aload_n 0, 1) := dk_42 (dk_at dksX6_finds_3 13 rfl rfl)
theorem dX6_finds_84 : decode cX6_finds 84 = .ok (.getfield 35, 3) := dk_180 0 35 (dk_at dksX6_finds_3 14 rfl rfl)
theorem dX6_finds_87 : decode cX6_finds 87 = .ok (.iload_n 1, 1) := dk_27 (dk_at dksX6_finds_3 17 rfl rfl)
theorem dX6_finds_88 : decode cX6_finds 88 = .ok (.iaload, 1) := dk_46 (dk_at dksX6_finds_3 18 rfl rfl)
theorem dX6_finds_89 : decode cX6_finds 89 = .ok (.if_icmp .ge 11, 3) := dk_162 0 11 (dk_at dksX6_finds_3 19 rfl rfl)
theorem dX6_finds_92 : decode cX6_finds 92 = .ok (.aload_n 0, 1) := dk_42 (dk_at dksX6_finds_3 22 rfl rfl)
theorem dX6_finds_93 : decode cX6_finds 93 = .ok (.getfield 35, 3) := dk_180 0 35 (dk_at dksX6_finds_4 0 rfl rfl)
theorem dX6_finds_96 : decode cX6_finds 96 = .ok (.iload_n 1, 1) := dk_27 (dk_at dksX6_finds_4 3 rfl rfl)
theorem dX6_finds_97 : decode cX6_finds 97 = .ok (.iload 5, 2) := dk_21 5 (dk_at dksX6_finds_4 4 rfl rfl)
theorem dX6_finds_99 : decode cX6_finds 99 = .ok (.iastore, 1) := dk_79 (dk_at dksX6_finds_4 6 rfl rfl)
theorem dX6_finds_100 : decode cX6_finds 100 = .ok (.iload 4, 2) := dk_21 4 (dk_at dksX6_finds_4 7 rfl rfl)
theorem dX6_finds_102 : decode cX6_finds 102 = .ok (.iload_n 2, 1) := dk_28 (dk_at dksX6_finds_4 9 rfl rfl)
theorem dX6_finds_103 : decode cX6_finds 103 = .ok (.if_icmp .le 10, 3) := dk_164 0 10 (dk_at dksX6_finds_4 10 rfl rfl)
theorem dX6_finds_106 : decode cX6_finds 106 = .ok (.aload_n 0, 1) := dk_42 (dk_at dksX6_finds_4 13 rfl rfl)
theorem dX6_finds_107 : decode cX6_finds 107 = .ok (.getfield 38, 3) := dk_180 0 38 (dk_at dksX6_finds_4 14 rfl rfl)
theorem dX6_finds_110 : decode cX6_finds 110 = .ok (.iload_n 1, 1) := dk_27 (dk_at dksX6_finds_4 17 rfl rfl)
theorem dX6_finds_111 : decode cX6_finds 111 = .ok (.iload_n 3, 1) := dk_29 (dk_at dksX6_finds_4 18 rfl rfl)
theorem dX6_finds_112 : decode cX6_finds 112 = .ok (.iastore, 1) := dk_79 (dk_at dksX6_finds_4 19 rfl rfl)
theorem dX6_finds_113 : decode cX6_finds 113 = .ok (.iload 4, 2) := dk_21 4 (dk_at dksX6_finds_4 20 rfl rfl)
theorem dX6_finds_115 : decode cX6_finds 115 = .ok (.iload_n 2, 1) := dk_28 (dk_at dksX6_finds_4 22 rfl rfl)
theorem dX6_finds_116 : decode cX6_finds 116 = .ok (.if_icmp .le 8, 3) := dk_164 0 8 (dk_at dksX6_finds_5 0 rfl rfl)
theorem dX6_finds_119 : decode cX6_finds 119 = .ok (.iload 4, 2) := dk_21 4 (dk_at dksX6_finds_5 3 rfl rfl)
theorem dX6_finds_121 : decode cX6_finds 121 = .ok (.goto 4, 3) := dk_167 0 4 (dk_at dksX6_finds_5 5 rfl rfl)
theorem dX6_finds_124 : decode cX6_finds 124 = .ok (.iload_n 2, 1) := dk_28 (dk_at dksX6_finds_5 8 rfl rfl)
theorem dX6_finds_125 : decode cX6_finds 125 = .ok (.istore_n 2, 1) := dk_61 (dk_at dksX6_finds_5 9 rfl rfl)
theorem dX6_finds_126 : decode cX6_finds 126 = .ok (.iinc 3 1, 3) := dk_132 3 1 (dk_at dksX6_finds_5 10 rfl rfl)
theorem dX6_finds_129 : decode cX6_finds 129 = .ok (.goto (-104), 3) := dk_167 255 152 (dk_at dksX6_finds_5 13 rfl rfl)
theorem dX6_finds_132 : decode cX6_finds 132 = .ok (.return_, 1) := dk_177 (dk_at dksX6_finds_5 16 rfl rfl)
abbrev cX6_hardness : ByteArray := prog_21_method_17_code
def yX6_hardness : MethodName := ⟨RX6, "hardness", "(I)I"⟩
def dkwX6_hardness_1 : List UInt8 := [16, 50, 167, 0, 5, 16, 20, 172]
abbrev dktX6_hardness_1 : List UInt8 := dkwX6_hardness_1 ++ []
def dkwX6_hardness_0 : List UInt8 := [42, 27, 4, 182, 0, 68, 154, 0, 8, 16, 30, 167, 0, 20, 42, 27, 4, 182, 0, 68, 4, 160, 0, 8]
abbrev dktX6_hardness_0 : List UInt8 := dkwX6_hardness_0 ++ dktX6_hardness_1
theorem dksX6_hardness_0 : cX6_hardness.data.toList.drop 0 = dktX6_hardness_0 := by decide +kernel
theorem dksX6_hardness_1 : cX6_hardness.data.toList.drop 24 = dktX6_hardness_1 := dk_seg dksX6_hardness_0 24 rfl rfl
theorem dX6_hardness_0 : decode cX6_hardness 0 = .ok (.aload_n 0, 1) := dk_42 (dk_at dksX6_hardness_0 0 rfl rfl)
theorem dX6_hardness_1 : decode cX6_hardness 1 = .ok (.iload_n 1, 1) := dk_27 (dk_at dksX6_hardness_0 1 rfl rfl)
theorem dX6_hardness_2 : decode cX6_hardness 2 = .ok (.iconst 1, 1) := dk_4 (dk_at dksX6_hardness_0 2 rfl rfl)
theorem dX6_hardness_3 : decode cX6_hardness 3 = .ok (.invokevirtual 68, 3) := dk_182 0 68 (dk_at dksX6_hardness_0 3 rfl rfl)
theorem dX6_hardness_6 : decode cX6_hardness 6 = .ok (.ifCond .ne 8, 3) := dk_154 0 8 (dk_at dksX6_hardness_0 6 rfl rfl)
theorem dX6_hardness_9 : decode cX6_hardness 9 = .ok (.bipush 30, 2) := dk_16 30 (dk_at dksX6_hardness_0 9 rfl rfl)
theorem dX6_hardness_11 : decode cX6_hardness 11 = .ok (.goto 20, 3) := dk_167 0 20 (dk_at dksX6_hardness_0 11 rfl rfl)
theorem dX6_hardness_14 : decode cX6_hardness 14 = .ok (.aload_n 0, 1) := dk_42 (dk_at dksX6_hardness_0 14 rfl rfl)
theorem dX6_hardness_15 : decode cX6_hardness 15 = .ok (.iload_n 1, 1) := dk_27 (dk_at dksX6_hardness_0 15 rfl rfl)
theorem dX6_hardness_16 : decode cX6_hardness 16 = .ok (.iconst 1, 1) := dk_4 (dk_at dksX6_hardness_0 16 rfl rfl)
theorem dX6_hardness_17 : decode cX6_hardness 17 = .ok (.invokevirtual 68, 3) := dk_182 0 68 (dk_at dksX6_hardness_0 17 rfl rfl)
theorem dX6_hardness_20 : decode cX6_hardness 20 = .ok (.iconst 1, 1) := dk_4 (dk_at dksX6_hardness_0 20 rfl rfl)
theorem dX6_hardness_21 : decode cX6_hardness 21 = .ok (.if_icmp .ne 8, 3) := dk_160 0 8 (dk_at dksX6_hardness_0 21 rfl rfl)
theorem dX6_hardness_24 : decode cX6_hardness 24 = .ok (.bipush 50, 2) := dk_16 50 (dk_at dksX6_hardness_1 0 rfl rfl)
theorem dX6_hardness_26 : decode cX6_hardness 26 = .ok (.goto 5, 3) := dk_167 0 5 (dk_at dksX6_hardness_1 2 rfl rfl)
theorem dX6_hardness_29 : decode cX6_hardness 29 = .ok (.bipush 20, 2) := dk_16 20 (dk_at dksX6_hardness_1 5 rfl rfl)
theorem dX6_hardness_31 : decode cX6_hardness 31 = .ok (.ireturn, 1) := dk_172 (dk_at dksX6_hardness_1 7 rfl rfl)
abbrev cX6_cuts : ByteArray := prog_21_method_43_code
def yX6_cuts : MethodName := ⟨RX6, "cuts", "(I)V"⟩
def dkwX6_cuts_5 : List UInt8 := [42, 180, 0, 35, 27, 46, 182, 0, 86, 42, 27, 16, 11, 42, 180, 0, 41, 27, 46, 182, 0, 86, 177]
abbrev dktX6_cuts_5 : List UInt8 := dkwX6_cuts_5 ++ []
def dkwX6_cuts_4 : List UInt8 := [27, 3, 5, 182, 0, 86, 42, 27, 16, 9, 42, 180, 0, 7, 16, 20, 46, 182, 0, 86, 42, 27, 16, 10]
abbrev dktX6_cuts_4 : List UInt8 := dkwX6_cuts_4 ++ dktX6_cuts_5
def dkwX6_cuts_3 : List UInt8 := [42, 27, 16, 13, 42, 27, 16, 13, 182, 0, 68, 29, 96, 182, 0, 86, 42, 27, 8, 3, 182, 0, 86, 42]
abbrev dktX6_cuts_3 : List UInt8 := dkwX6_cuts_3 ++ dktX6_cuts_4
def dkwX6_cuts_2 : List UInt8 := [180, 0, 7, 16, 24, 92, 46, 4, 96, 79, 42, 27, 6, 42, 27, 6, 182, 0, 68, 29, 100, 182, 0, 86]
abbrev dktX6_cuts_2 : List UInt8 := dkwX6_cuts_2 ++ dktX6_cuts_3
def dkwX6_cuts_1 : List UInt8 := [180, 0, 7, 16, 23, 92, 46, 28, 96, 79, 42, 180, 0, 7, 16, 22, 92, 46, 29, 96, 79, 42]
abbrev dktX6_cuts_1 : List UInt8 := dkwX6_cuts_1 ++ dktX6_cuts_2
def dkwX6_cuts_0 : List UInt8 := [42, 27, 42, 180, 0, 35, 27, 46, 182, 0, 125, 61, 42, 27, 8, 182, 0, 68, 28, 100, 62, 42]
abbrev dktX6_cuts_0 : List UInt8 := dkwX6_cuts_0 ++ dktX6_cuts_1
theorem dksX6_cuts_0 : cX6_cuts.data.toList.drop 0 = dktX6_cuts_0 := by decide +kernel
theorem dksX6_cuts_1 : cX6_cuts.data.toList.drop 22 = dktX6_cuts_1 := dk_seg dksX6_cuts_0 22 rfl rfl
theorem dksX6_cuts_2 : cX6_cuts.data.toList.drop 44 = dktX6_cuts_2 := dk_seg dksX6_cuts_1 22 rfl rfl
theorem dksX6_cuts_3 : cX6_cuts.data.toList.drop 68 = dktX6_cuts_3 := dk_seg dksX6_cuts_2 24 rfl rfl
theorem dksX6_cuts_4 : cX6_cuts.data.toList.drop 92 = dktX6_cuts_4 := dk_seg dksX6_cuts_3 24 rfl rfl
theorem dksX6_cuts_5 : cX6_cuts.data.toList.drop 116 = dktX6_cuts_5 := dk_seg dksX6_cuts_4 24 rfl rfl
theorem dX6_cuts_0 : decode cX6_cuts 0 = .ok (.aload_n 0, 1) := dk_42 (dk_at dksX6_cuts_0 0 rfl rfl)
theorem dX6_cuts_1 : decode cX6_cuts 1 = .ok (.iload_n 1, 1) := dk_27 (dk_at dksX6_cuts_0 1 rfl rfl)
theorem dX6_cuts_2 : decode cX6_cuts 2 = .ok (.aload_n 0, 1) := dk_42 (dk_at dksX6_cuts_0 2 rfl rfl)
theorem dX6_cuts_3 : decode cX6_cuts 3 = .ok (.getfield 35, 3) := dk_180 0 35 (dk_at dksX6_cuts_0 3 rfl rfl)
theorem dX6_cuts_6 : decode cX6_cuts 6 = .ok (.iload_n 1, 1) := dk_27 (dk_at dksX6_cuts_0 6 rfl rfl)
theorem dX6_cuts_7 : decode cX6_cuts 7 = .ok (.iaload, 1) := dk_46 (dk_at dksX6_cuts_0 7 rfl rfl)
theorem dX6_cuts_8 : decode cX6_cuts 8 = .ok (.invokevirtual 125, 3) := dk_182 0 125 (dk_at dksX6_cuts_0 8 rfl rfl)
theorem dX6_cuts_11 : decode cX6_cuts 11 = .ok (.istore_n 2, 1) := dk_61 (dk_at dksX6_cuts_0 11 rfl rfl)
theorem dX6_cuts_12 : decode cX6_cuts 12 = .ok (.aload_n 0, 1) := dk_42 (dk_at dksX6_cuts_0 12 rfl rfl)
theorem dX6_cuts_13 : decode cX6_cuts 13 = .ok (.iload_n 1, 1) := dk_27 (dk_at dksX6_cuts_0 13 rfl rfl)
theorem dX6_cuts_14 : decode cX6_cuts 14 = .ok (.iconst 5, 1) := dk_8 (dk_at dksX6_cuts_0 14 rfl rfl)
theorem dX6_cuts_15 : decode cX6_cuts 15 = .ok (.invokevirtual 68, 3) := dk_182 0 68 (dk_at dksX6_cuts_0 15 rfl rfl)
theorem dX6_cuts_18 : decode cX6_cuts 18 = .ok (.iload_n 2, 1) := dk_28 (dk_at dksX6_cuts_0 18 rfl rfl)
theorem dX6_cuts_19 : decode cX6_cuts 19 = .ok (.isub, 1) := dk_100 (dk_at dksX6_cuts_0 19 rfl rfl)
theorem dX6_cuts_20 : decode cX6_cuts 20 = .ok (.istore_n 3, 1) := dk_62 (dk_at dksX6_cuts_0 20 rfl rfl)
theorem dX6_cuts_21 : decode cX6_cuts 21 = .ok (.aload_n 0, 1) := dk_42 (dk_at dksX6_cuts_0 21 rfl rfl)
theorem dX6_cuts_22 : decode cX6_cuts 22 = .ok (.getfield 7, 3) := dk_180 0 7 (dk_at dksX6_cuts_1 0 rfl rfl)
theorem dX6_cuts_25 : decode cX6_cuts 25 = .ok (.bipush 23, 2) := dk_16 23 (dk_at dksX6_cuts_1 3 rfl rfl)
theorem dX6_cuts_27 : decode cX6_cuts 27 = .ok (.dup2, 1) := dk_92 (dk_at dksX6_cuts_1 5 rfl rfl)
theorem dX6_cuts_28 : decode cX6_cuts 28 = .ok (.iaload, 1) := dk_46 (dk_at dksX6_cuts_1 6 rfl rfl)
theorem dX6_cuts_29 : decode cX6_cuts 29 = .ok (.iload_n 2, 1) := dk_28 (dk_at dksX6_cuts_1 7 rfl rfl)
theorem dX6_cuts_30 : decode cX6_cuts 30 = .ok (.iadd, 1) := dk_96 (dk_at dksX6_cuts_1 8 rfl rfl)
theorem dX6_cuts_31 : decode cX6_cuts 31 = .ok (.iastore, 1) := dk_79 (dk_at dksX6_cuts_1 9 rfl rfl)
theorem dX6_cuts_32 : decode cX6_cuts 32 = .ok (.aload_n 0, 1) := dk_42 (dk_at dksX6_cuts_1 10 rfl rfl)
theorem dX6_cuts_33 : decode cX6_cuts 33 = .ok (.getfield 7, 3) := dk_180 0 7 (dk_at dksX6_cuts_1 11 rfl rfl)
theorem dX6_cuts_36 : decode cX6_cuts 36 = .ok (.bipush 22, 2) := dk_16 22 (dk_at dksX6_cuts_1 14 rfl rfl)
theorem dX6_cuts_38 : decode cX6_cuts 38 = .ok (.dup2, 1) := dk_92 (dk_at dksX6_cuts_1 16 rfl rfl)
theorem dX6_cuts_39 : decode cX6_cuts 39 = .ok (.iaload, 1) := dk_46 (dk_at dksX6_cuts_1 17 rfl rfl)
theorem dX6_cuts_40 : decode cX6_cuts 40 = .ok (.iload_n 3, 1) := dk_29 (dk_at dksX6_cuts_1 18 rfl rfl)
theorem dX6_cuts_41 : decode cX6_cuts 41 = .ok (.iadd, 1) := dk_96 (dk_at dksX6_cuts_1 19 rfl rfl)
theorem dX6_cuts_42 : decode cX6_cuts 42 = .ok (.iastore, 1) := dk_79 (dk_at dksX6_cuts_1 20 rfl rfl)
theorem dX6_cuts_43 : decode cX6_cuts 43 = .ok (.aload_n 0, 1) := dk_42 (dk_at dksX6_cuts_1 21 rfl rfl)
theorem dX6_cuts_44 : decode cX6_cuts 44 = .ok (.getfield 7, 3) := dk_180 0 7 (dk_at dksX6_cuts_2 0 rfl rfl)
theorem dX6_cuts_47 : decode cX6_cuts 47 = .ok (.bipush 24, 2) := dk_16 24 (dk_at dksX6_cuts_2 3 rfl rfl)
theorem dX6_cuts_49 : decode cX6_cuts 49 = .ok (.dup2, 1) := dk_92 (dk_at dksX6_cuts_2 5 rfl rfl)
theorem dX6_cuts_50 : decode cX6_cuts 50 = .ok (.iaload, 1) := dk_46 (dk_at dksX6_cuts_2 6 rfl rfl)
theorem dX6_cuts_51 : decode cX6_cuts 51 = .ok (.iconst 1, 1) := dk_4 (dk_at dksX6_cuts_2 7 rfl rfl)
theorem dX6_cuts_52 : decode cX6_cuts 52 = .ok (.iadd, 1) := dk_96 (dk_at dksX6_cuts_2 8 rfl rfl)
theorem dX6_cuts_53 : decode cX6_cuts 53 = .ok (.iastore, 1) := dk_79 (dk_at dksX6_cuts_2 9 rfl rfl)
theorem dX6_cuts_54 : decode cX6_cuts 54 = .ok (.aload_n 0, 1) := dk_42 (dk_at dksX6_cuts_2 10 rfl rfl)
theorem dX6_cuts_55 : decode cX6_cuts 55 = .ok (.iload_n 1, 1) := dk_27 (dk_at dksX6_cuts_2 11 rfl rfl)
theorem dX6_cuts_56 : decode cX6_cuts 56 = .ok (.iconst 3, 1) := dk_6 (dk_at dksX6_cuts_2 12 rfl rfl)
theorem dX6_cuts_57 : decode cX6_cuts 57 = .ok (.aload_n 0, 1) := dk_42 (dk_at dksX6_cuts_2 13 rfl rfl)
theorem dX6_cuts_58 : decode cX6_cuts 58 = .ok (.iload_n 1, 1) := dk_27 (dk_at dksX6_cuts_2 14 rfl rfl)
theorem dX6_cuts_59 : decode cX6_cuts 59 = .ok (.iconst 3, 1) := dk_6 (dk_at dksX6_cuts_2 15 rfl rfl)
theorem dX6_cuts_60 : decode cX6_cuts 60 = .ok (.invokevirtual 68, 3) := dk_182 0 68 (dk_at dksX6_cuts_2 16 rfl rfl)
theorem dX6_cuts_63 : decode cX6_cuts 63 = .ok (.iload_n 3, 1) := dk_29 (dk_at dksX6_cuts_2 19 rfl rfl)
theorem dX6_cuts_64 : decode cX6_cuts 64 = .ok (.isub, 1) := dk_100 (dk_at dksX6_cuts_2 20 rfl rfl)
theorem dX6_cuts_65 : decode cX6_cuts 65 = .ok (.invokevirtual 86, 3) := dk_182 0 86 (dk_at dksX6_cuts_2 21 rfl rfl)
theorem dX6_cuts_68 : decode cX6_cuts 68 = .ok (.aload_n 0, 1) := dk_42 (dk_at dksX6_cuts_3 0 rfl rfl)
theorem dX6_cuts_69 : decode cX6_cuts 69 = .ok (.iload_n 1, 1) := dk_27 (dk_at dksX6_cuts_3 1 rfl rfl)
theorem dX6_cuts_70 : decode cX6_cuts 70 = .ok (.bipush 13, 2) := dk_16 13 (dk_at dksX6_cuts_3 2 rfl rfl)
theorem dX6_cuts_72 : decode cX6_cuts 72 = .ok (.aload_n 0, 1) := dk_42 (dk_at dksX6_cuts_3 4 rfl rfl)
theorem dX6_cuts_73 : decode cX6_cuts 73 = .ok (.iload_n 1, 1) := dk_27 (dk_at dksX6_cuts_3 5 rfl rfl)
theorem dX6_cuts_74 : decode cX6_cuts 74 = .ok (.bipush 13, 2) := dk_16 13 (dk_at dksX6_cuts_3 6 rfl rfl)
theorem dX6_cuts_76 : decode cX6_cuts 76 = .ok (.invokevirtual 68, 3) := dk_182 0 68 (dk_at dksX6_cuts_3 8 rfl rfl)
theorem dX6_cuts_79 : decode cX6_cuts 79 = .ok (.iload_n 3, 1) := dk_29 (dk_at dksX6_cuts_3 11 rfl rfl)
theorem dX6_cuts_80 : decode cX6_cuts 80 = .ok (.iadd, 1) := dk_96 (dk_at dksX6_cuts_3 12 rfl rfl)
theorem dX6_cuts_81 : decode cX6_cuts 81 = .ok (.invokevirtual 86, 3) := dk_182 0 86 (dk_at dksX6_cuts_3 13 rfl rfl)
theorem dX6_cuts_84 : decode cX6_cuts 84 = .ok (.aload_n 0, 1) := dk_42 (dk_at dksX6_cuts_3 16 rfl rfl)
theorem dX6_cuts_85 : decode cX6_cuts 85 = .ok (.iload_n 1, 1) := dk_27 (dk_at dksX6_cuts_3 17 rfl rfl)
theorem dX6_cuts_86 : decode cX6_cuts 86 = .ok (.iconst 5, 1) := dk_8 (dk_at dksX6_cuts_3 18 rfl rfl)
theorem dX6_cuts_87 : decode cX6_cuts 87 = .ok (.iconst 0, 1) := dk_3 (dk_at dksX6_cuts_3 19 rfl rfl)
theorem dX6_cuts_88 : decode cX6_cuts 88 = .ok (.invokevirtual 86, 3) := dk_182 0 86 (dk_at dksX6_cuts_3 20 rfl rfl)
theorem dX6_cuts_91 : decode cX6_cuts 91 = .ok (.aload_n 0, 1) := dk_42 (dk_at dksX6_cuts_3 23 rfl rfl)
theorem dX6_cuts_92 : decode cX6_cuts 92 = .ok (.iload_n 1, 1) := dk_27 (dk_at dksX6_cuts_4 0 rfl rfl)
theorem dX6_cuts_93 : decode cX6_cuts 93 = .ok (.iconst 0, 1) := dk_3 (dk_at dksX6_cuts_4 1 rfl rfl)
theorem dX6_cuts_94 : decode cX6_cuts 94 = .ok (.iconst 2, 1) := dk_5 (dk_at dksX6_cuts_4 2 rfl rfl)
theorem dX6_cuts_95 : decode cX6_cuts 95 = .ok (.invokevirtual 86, 3) := dk_182 0 86 (dk_at dksX6_cuts_4 3 rfl rfl)
theorem dX6_cuts_98 : decode cX6_cuts 98 = .ok (.aload_n 0, 1) := dk_42 (dk_at dksX6_cuts_4 6 rfl rfl)
theorem dX6_cuts_99 : decode cX6_cuts 99 = .ok (.iload_n 1, 1) := dk_27 (dk_at dksX6_cuts_4 7 rfl rfl)
theorem dX6_cuts_100 : decode cX6_cuts 100 = .ok (.bipush 9, 2) := dk_16 9 (dk_at dksX6_cuts_4 8 rfl rfl)
theorem dX6_cuts_102 : decode cX6_cuts 102 = .ok (.aload_n 0, 1) := dk_42 (dk_at dksX6_cuts_4 10 rfl rfl)
theorem dX6_cuts_103 : decode cX6_cuts 103 = .ok (.getfield 7, 3) := dk_180 0 7 (dk_at dksX6_cuts_4 11 rfl rfl)
theorem dX6_cuts_106 : decode cX6_cuts 106 = .ok (.bipush 20, 2) := dk_16 20 (dk_at dksX6_cuts_4 14 rfl rfl)
theorem dX6_cuts_108 : decode cX6_cuts 108 = .ok (.iaload, 1) := dk_46 (dk_at dksX6_cuts_4 16 rfl rfl)
theorem dX6_cuts_109 : decode cX6_cuts 109 = .ok (.invokevirtual 86, 3) := dk_182 0 86 (dk_at dksX6_cuts_4 17 rfl rfl)
theorem dX6_cuts_112 : decode cX6_cuts 112 = .ok (.aload_n 0, 1) := dk_42 (dk_at dksX6_cuts_4 20 rfl rfl)
theorem dX6_cuts_113 : decode cX6_cuts 113 = .ok (.iload_n 1, 1) := dk_27 (dk_at dksX6_cuts_4 21 rfl rfl)
theorem dX6_cuts_114 : decode cX6_cuts 114 = .ok (.bipush 10, 2) := dk_16 10 (dk_at dksX6_cuts_4 22 rfl rfl)
theorem dX6_cuts_116 : decode cX6_cuts 116 = .ok (.aload_n 0, 1) := dk_42 (dk_at dksX6_cuts_5 0 rfl rfl)
theorem dX6_cuts_117 : decode cX6_cuts 117 = .ok (.getfield 35, 3) := dk_180 0 35 (dk_at dksX6_cuts_5 1 rfl rfl)
theorem dX6_cuts_120 : decode cX6_cuts 120 = .ok (.iload_n 1, 1) := dk_27 (dk_at dksX6_cuts_5 4 rfl rfl)
theorem dX6_cuts_121 : decode cX6_cuts 121 = .ok (.iaload, 1) := dk_46 (dk_at dksX6_cuts_5 5 rfl rfl)
theorem dX6_cuts_122 : decode cX6_cuts 122 = .ok (.invokevirtual 86, 3) := dk_182 0 86 (dk_at dksX6_cuts_5 6 rfl rfl)
theorem dX6_cuts_125 : decode cX6_cuts 125 = .ok (.aload_n 0, 1) := dk_42 (dk_at dksX6_cuts_5 9 rfl rfl)
theorem dX6_cuts_126 : decode cX6_cuts 126 = .ok (.iload_n 1, 1) := dk_27 (dk_at dksX6_cuts_5 10 rfl rfl)
theorem dX6_cuts_127 : decode cX6_cuts 127 = .ok (.bipush 11, 2) := dk_16 11 (dk_at dksX6_cuts_5 11 rfl rfl)
theorem dX6_cuts_129 : decode cX6_cuts 129 = .ok (.aload_n 0, 1) := dk_42 (dk_at dksX6_cuts_5 13 rfl rfl)
theorem dX6_cuts_130 : decode cX6_cuts 130 = .ok (.getfield 41, 3) := dk_180 0 41 (dk_at dksX6_cuts_5 14 rfl rfl)
theorem dX6_cuts_133 : decode cX6_cuts 133 = .ok (.iload_n 1, 1) := dk_27 (dk_at dksX6_cuts_5 17 rfl rfl)
theorem dX6_cuts_134 : decode cX6_cuts 134 = .ok (.iaload, 1) := dk_46 (dk_at dksX6_cuts_5 18 rfl rfl)
theorem dX6_cuts_135 : decode cX6_cuts 135 = .ok (.invokevirtual 86, 3) := dk_182 0 86 (dk_at dksX6_cuts_5 19 rfl rfl)
theorem dX6_cuts_138 : decode cX6_cuts 138 = .ok (.return_, 1) := dk_177 (dk_at dksX6_cuts_5 22 rfl rfl)
abbrev cX6_cutIn : ByteArray := prog_21_method_46_code
def yX6_cutIn : MethodName := ⟨RX6, "cutIn", "(II)I"⟩
def dkwX6_cutIn_5 : List UInt8 := [180, 0, 7, 3, 184, 0, 60, 21, 5, 153, 0, 7, 29, 167, 0, 4, 2, 172]
abbrev dktX6_cutIn_5 : List UInt8 := dkwX6_cutIn_5 ++ []
def dkwX6_cutIn_4 : List UInt8 := [167, 255, 231, 42, 27, 182, 0, 97, 154, 0, 7, 4, 167, 0, 4, 3, 54, 5, 42, 180, 0, 22, 3, 42]
abbrev dktX6_cutIn_4 : List UInt8 := dkwX6_cutIn_4 ++ dktX6_cutIn_5
def dkwX6_cutIn_3 : List UInt8 := [162, 0, 26, 42, 27, 182, 0, 97, 153, 0, 18, 21, 4, 42, 182, 0, 150, 96, 54, 4, 132, 3, 1]
abbrev dktX6_cutIn_3 : List UInt8 := dkwX6_cutIn_3 ++ dktX6_cutIn_4
def dkwX6_cutIn_2 : List UInt8 := [182, 0, 83, 172, 42, 180, 0, 7, 3, 42, 180, 0, 22, 3, 184, 0, 60, 3, 62, 3, 54, 4, 29, 28]
abbrev dktX6_cutIn_2 : List UInt8 := dkwX6_cutIn_2 ++ dktX6_cutIn_3
def dkwX6_cutIn_1 : List UInt8 := [167, 0, 4, 5, 182, 0, 76, 153, 0, 5, 3, 172, 42, 27, 182, 0, 97, 154, 0, 10, 42, 7, 6]
abbrev dktX6_cutIn_1 : List UInt8 := dkwX6_cutIn_1 ++ dktX6_cutIn_2
def dkwX6_cutIn_0 : List UInt8 := [42, 42, 27, 182, 0, 90, 154, 0, 7, 4, 167, 0, 18, 28, 4, 16, 30, 184, 0, 64, 153, 0, 7, 3]
abbrev dktX6_cutIn_0 : List UInt8 := dkwX6_cutIn_0 ++ dktX6_cutIn_1
theorem dksX6_cutIn_0 : cX6_cutIn.data.toList.drop 0 = dktX6_cutIn_0 := by decide +kernel
theorem dksX6_cutIn_1 : cX6_cutIn.data.toList.drop 24 = dktX6_cutIn_1 := dk_seg dksX6_cutIn_0 24 rfl rfl
theorem dksX6_cutIn_2 : cX6_cutIn.data.toList.drop 47 = dktX6_cutIn_2 := dk_seg dksX6_cutIn_1 23 rfl rfl
theorem dksX6_cutIn_3 : cX6_cutIn.data.toList.drop 71 = dktX6_cutIn_3 := dk_seg dksX6_cutIn_2 24 rfl rfl
theorem dksX6_cutIn_4 : cX6_cutIn.data.toList.drop 94 = dktX6_cutIn_4 := dk_seg dksX6_cutIn_3 23 rfl rfl
theorem dksX6_cutIn_5 : cX6_cutIn.data.toList.drop 118 = dktX6_cutIn_5 := dk_seg dksX6_cutIn_4 24 rfl rfl
theorem dX6_cutIn_0 : decode cX6_cutIn 0 = .ok (.aload_n 0, 1) := dk_42 (dk_at dksX6_cutIn_0 0 rfl rfl)
theorem dX6_cutIn_1 : decode cX6_cutIn 1 = .ok (.aload_n 0, 1) := dk_42 (dk_at dksX6_cutIn_0 1 rfl rfl)
theorem dX6_cutIn_2 : decode cX6_cutIn 2 = .ok (.iload_n 1, 1) := dk_27 (dk_at dksX6_cutIn_0 2 rfl rfl)
theorem dX6_cutIn_3 : decode cX6_cutIn 3 = .ok (.invokevirtual 90, 3) := dk_182 0 90 (dk_at dksX6_cutIn_0 3 rfl rfl)
theorem dX6_cutIn_6 : decode cX6_cutIn 6 = .ok (.ifCond .ne 7, 3) := dk_154 0 7 (dk_at dksX6_cutIn_0 6 rfl rfl)
theorem dX6_cutIn_9 : decode cX6_cutIn 9 = .ok (.iconst 1, 1) := dk_4 (dk_at dksX6_cutIn_0 9 rfl rfl)
theorem dX6_cutIn_10 : decode cX6_cutIn 10 = .ok (.goto 18, 3) := dk_167 0 18 (dk_at dksX6_cutIn_0 10 rfl rfl)
theorem dX6_cutIn_13 : decode cX6_cutIn 13 = .ok (.iload_n 2, 1) := dk_28 (dk_at dksX6_cutIn_0 13 rfl rfl)
theorem dX6_cutIn_14 : decode cX6_cutIn 14 = .ok (.iconst 1, 1) := dk_4 (dk_at dksX6_cutIn_0 14 rfl rfl)
theorem dX6_cutIn_15 : decode cX6_cutIn 15 = .ok (.bipush 30, 2) := dk_16 30 (dk_at dksX6_cutIn_0 15 rfl rfl)
theorem dX6_cutIn_17 : decode cX6_cutIn 17 = .ok (.invokestatic 64, 3) := dk_184 0 64 (dk_at dksX6_cutIn_0 17 rfl rfl)
theorem dX6_cutIn_20 : decode cX6_cutIn 20 = .ok (.ifCond .eq 7, 3) := dk_153 0 7 (dk_at dksX6_cutIn_0 20 rfl rfl)
theorem dX6_cutIn_23 : decode cX6_cutIn 23 = .ok (.iconst 0, 1) := dk_3 (dk_at dksX6_cutIn_0 23 rfl rfl)
theorem dX6_cutIn_24 : decode cX6_cutIn 24 = .ok (.goto 4, 3) := dk_167 0 4 (dk_at dksX6_cutIn_1 0 rfl rfl)
theorem dX6_cutIn_27 : decode cX6_cutIn 27 = .ok (.iconst 2, 1) := dk_5 (dk_at dksX6_cutIn_1 3 rfl rfl)
theorem dX6_cutIn_28 : decode cX6_cutIn 28 = .ok (.invokevirtual 76, 3) := dk_182 0 76 (dk_at dksX6_cutIn_1 4 rfl rfl)
theorem dX6_cutIn_31 : decode cX6_cutIn 31 = .ok (.ifCond .eq 5, 3) := dk_153 0 5 (dk_at dksX6_cutIn_1 7 rfl rfl)
theorem dX6_cutIn_34 : decode cX6_cutIn 34 = .ok (.iconst 0, 1) := dk_3 (dk_at dksX6_cutIn_1 10 rfl rfl)
theorem dX6_cutIn_35 : decode cX6_cutIn 35 = .ok (.ireturn, 1) := dk_172 (dk_at dksX6_cutIn_1 11 rfl rfl)
theorem dX6_cutIn_36 : decode cX6_cutIn 36 = .ok (.aload_n 0, 1) := dk_42 (dk_at dksX6_cutIn_1 12 rfl rfl)
theorem dX6_cutIn_37 : decode cX6_cutIn 37 = .ok (.iload_n 1, 1) := dk_27 (dk_at dksX6_cutIn_1 13 rfl rfl)
theorem dX6_cutIn_38 : decode cX6_cutIn 38 = .ok (.invokevirtual 97, 3) := dk_182 0 97 (dk_at dksX6_cutIn_1 14 rfl rfl)
theorem dX6_cutIn_41 : decode cX6_cutIn 41 = .ok (.ifCond .ne 10, 3) := dk_154 0 10 (dk_at dksX6_cutIn_1 17 rfl rfl)
theorem dX6_cutIn_44 : decode cX6_cutIn 44 = .ok (.aload_n 0, 1) := dk_42 (dk_at dksX6_cutIn_1 20 rfl rfl)
theorem dX6_cutIn_45 : decode cX6_cutIn 45 = .ok (.iconst 4, 1) := dk_7 (dk_at dksX6_cutIn_1 21 rfl rfl)
theorem dX6_cutIn_46 : decode cX6_cutIn 46 = .ok (.iconst 3, 1) := dk_6 (dk_at dksX6_cutIn_1 22 rfl rfl)
theorem dX6_cutIn_47 : decode cX6_cutIn 47 = .ok (.invokevirtual 83, 3) := dk_182 0 83 (dk_at dksX6_cutIn_2 0 rfl rfl)
theorem dX6_cutIn_50 : decode cX6_cutIn 50 = .ok (.ireturn, 1) := dk_172 (dk_at dksX6_cutIn_2 3 rfl rfl)
theorem dX6_cutIn_51 : decode cX6_cutIn 51 = .ok (.aload_n 0, 1) := dk_42 (dk_at dksX6_cutIn_2 4 rfl rfl)
theorem dX6_cutIn_52 : decode cX6_cutIn 52 = .ok (.getfield 7, 3) := dk_180 0 7 (dk_at dksX6_cutIn_2 5 rfl rfl)
theorem dX6_cutIn_55 : decode cX6_cutIn 55 = .ok (.iconst 0, 1) := dk_3 (dk_at dksX6_cutIn_2 8 rfl rfl)
theorem dX6_cutIn_56 : decode cX6_cutIn 56 = .ok (.aload_n 0, 1) := dk_42 (dk_at dksX6_cutIn_2 9 rfl rfl)
theorem dX6_cutIn_57 : decode cX6_cutIn 57 = .ok (.getfield 22, 3) := dk_180 0 22 (dk_at dksX6_cutIn_2 10 rfl rfl)
theorem dX6_cutIn_60 : decode cX6_cutIn 60 = .ok (.iconst 0, 1) := dk_3 (dk_at dksX6_cutIn_2 13 rfl rfl)
theorem dX6_cutIn_61 : decode cX6_cutIn 61 = .ok (.invokestatic 60, 3) := dk_184 0 60 (dk_at dksX6_cutIn_2 14 rfl rfl)
theorem dX6_cutIn_64 : decode cX6_cutIn 64 = .ok (.iconst 0, 1) := dk_3 (dk_at dksX6_cutIn_2 17 rfl rfl)
theorem dX6_cutIn_65 : decode cX6_cutIn 65 = .ok (.istore_n 3, 1) := dk_62 (dk_at dksX6_cutIn_2 18 rfl rfl)
theorem dX6_cutIn_66 : decode cX6_cutIn 66 = .ok (.iconst 0, 1) := dk_3 (dk_at dksX6_cutIn_2 19 rfl rfl)
theorem dX6_cutIn_67 : decode cX6_cutIn 67 = .ok (.istore 4, 2) := dk_54 4 (dk_at dksX6_cutIn_2 20 rfl rfl)
theorem dX6_cutIn_69 : decode cX6_cutIn 69 = .ok (.iload_n 3, 1) := dk_29 (dk_at dksX6_cutIn_2 22 rfl rfl)
theorem dX6_cutIn_70 : decode cX6_cutIn 70 = .ok (.iload_n 2, 1) := dk_28 (dk_at dksX6_cutIn_2 23 rfl rfl)
theorem dX6_cutIn_71 : decode cX6_cutIn 71 = .ok (.if_icmp .ge 26, 3) := dk_162 0 26 (dk_at dksX6_cutIn_3 0 rfl rfl)
theorem dX6_cutIn_74 : decode cX6_cutIn 74 = .ok (.aload_n 0, 1) := dk_42 (dk_at dksX6_cutIn_3 3 rfl rfl)
theorem dX6_cutIn_75 : decode cX6_cutIn 75 = .ok (.iload_n 1, 1) := dk_27 (dk_at dksX6_cutIn_3 4 rfl rfl)
theorem dX6_cutIn_76 : decode cX6_cutIn 76 = .ok (.invokevirtual 97, 3) := dk_182 0 97 (dk_at dksX6_cutIn_3 5 rfl rfl)
theorem dX6_cutIn_79 : decode cX6_cutIn 79 = .ok (.ifCond .eq 18, 3) := dk_153 0 18 (dk_at dksX6_cutIn_3 8 rfl rfl)
theorem dX6_cutIn_82 : decode cX6_cutIn 82 = .ok (.iload 4, 2) := dk_21 4 (dk_at dksX6_cutIn_3 11 rfl rfl)
theorem dX6_cutIn_84 : decode cX6_cutIn 84 = .ok (.aload_n 0, 1) := dk_42 (dk_at dksX6_cutIn_3 13 rfl rfl)
theorem dX6_cutIn_85 : decode cX6_cutIn 85 = .ok (.invokevirtual 150, 3) := dk_182 0 150 (dk_at dksX6_cutIn_3 14 rfl rfl)
theorem dX6_cutIn_88 : decode cX6_cutIn 88 = .ok (.iadd, 1) := dk_96 (dk_at dksX6_cutIn_3 17 rfl rfl)
theorem dX6_cutIn_89 : decode cX6_cutIn 89 = .ok (.istore 4, 2) := dk_54 4 (dk_at dksX6_cutIn_3 18 rfl rfl)
theorem dX6_cutIn_91 : decode cX6_cutIn 91 = .ok (.iinc 3 1, 3) := dk_132 3 1 (dk_at dksX6_cutIn_3 20 rfl rfl)
theorem dX6_cutIn_94 : decode cX6_cutIn 94 = .ok (.goto (-25), 3) := dk_167 255 231 (dk_at dksX6_cutIn_4 0 rfl rfl)
theorem dX6_cutIn_97 : decode cX6_cutIn 97 = .ok (.aload_n 0, 1) := dk_42 (dk_at dksX6_cutIn_4 3 rfl rfl)
theorem dX6_cutIn_98 : decode cX6_cutIn 98 = .ok (.iload_n 1, 1) := dk_27 (dk_at dksX6_cutIn_4 4 rfl rfl)
theorem dX6_cutIn_99 : decode cX6_cutIn 99 = .ok (.invokevirtual 97, 3) := dk_182 0 97 (dk_at dksX6_cutIn_4 5 rfl rfl)
theorem dX6_cutIn_102 : decode cX6_cutIn 102 = .ok (.ifCond .ne 7, 3) := dk_154 0 7 (dk_at dksX6_cutIn_4 8 rfl rfl)
theorem dX6_cutIn_105 : decode cX6_cutIn 105 = .ok (.iconst 1, 1) := dk_4 (dk_at dksX6_cutIn_4 11 rfl rfl)
theorem dX6_cutIn_106 : decode cX6_cutIn 106 = .ok (.goto 4, 3) := dk_167 0 4 (dk_at dksX6_cutIn_4 12 rfl rfl)
theorem dX6_cutIn_109 : decode cX6_cutIn 109 = .ok (.iconst 0, 1) := dk_3 (dk_at dksX6_cutIn_4 15 rfl rfl)
theorem dX6_cutIn_110 : decode cX6_cutIn 110 = .ok (.istore 5, 2) := dk_54 5 (dk_at dksX6_cutIn_4 16 rfl rfl)
theorem dX6_cutIn_112 : decode cX6_cutIn 112 = .ok (.aload_n 0, 1) := dk_42 (dk_at dksX6_cutIn_4 18 rfl rfl)
theorem dX6_cutIn_113 : decode cX6_cutIn 113 = .ok (.getfield 22, 3) := dk_180 0 22 (dk_at dksX6_cutIn_4 19 rfl rfl)
theorem dX6_cutIn_116 : decode cX6_cutIn 116 = .ok (.iconst 0, 1) := dk_3 (dk_at dksX6_cutIn_4 22 rfl rfl)
theorem dX6_cutIn_117 : decode cX6_cutIn 117 = .ok (.aload_n 0, 1) := dk_42 (dk_at dksX6_cutIn_4 23 rfl rfl)
theorem dX6_cutIn_118 : decode cX6_cutIn 118 = .ok (.getfield 7, 3) := dk_180 0 7 (dk_at dksX6_cutIn_5 0 rfl rfl)
theorem dX6_cutIn_121 : decode cX6_cutIn 121 = .ok (.iconst 0, 1) := dk_3 (dk_at dksX6_cutIn_5 3 rfl rfl)
theorem dX6_cutIn_122 : decode cX6_cutIn 122 = .ok (.invokestatic 60, 3) := dk_184 0 60 (dk_at dksX6_cutIn_5 4 rfl rfl)
theorem dX6_cutIn_125 : decode cX6_cutIn 125 = .ok (.iload 5, 2) := dk_21 5 (dk_at dksX6_cutIn_5 7 rfl rfl)
theorem dX6_cutIn_127 : decode cX6_cutIn 127 = .ok (.ifCond .eq 7, 3) := dk_153 0 7 (dk_at dksX6_cutIn_5 9 rfl rfl)
theorem dX6_cutIn_130 : decode cX6_cutIn 130 = .ok (.iload_n 3, 1) := dk_29 (dk_at dksX6_cutIn_5 12 rfl rfl)
theorem dX6_cutIn_131 : decode cX6_cutIn 131 = .ok (.goto 4, 3) := dk_167 0 4 (dk_at dksX6_cutIn_5 13 rfl rfl)
theorem dX6_cutIn_134 : decode cX6_cutIn 134 = .ok (.iconst (-1), 1) := dk_2 (dk_at dksX6_cutIn_5 16 rfl rfl)
theorem dX6_cutIn_135 : decode cX6_cutIn 135 = .ok (.ireturn, 1) := dk_172 (dk_at dksX6_cutIn_5 17 rfl rfl)
abbrev cX6_bestSpeed : ByteArray := prog_21_method_47_code
def yX6_bestSpeed : MethodName := ⟨RX6, "bestSpeed", "(II)I"⟩
def dkwX6_bestSpeed_6 : List UInt8 := [180, 0, 22, 3, 42, 180, 0, 7, 3, 184, 0, 60, 132, 5, 1, 167, 255, 173, 29, 172]
abbrev dktX6_bestSpeed_6 : List UInt8 := dkwX6_bestSpeed_6 ++ []
def dkwX6_bestSpeed_5 : List UInt8 := [16, 8, 182, 0, 68, 21, 4, 164, 0, 15, 42, 27, 16, 8, 182, 0, 68, 54, 4, 21, 5, 62, 42]
abbrev dktX6_bestSpeed_5 : List UInt8 := dkwX6_bestSpeed_5 ++ dktX6_bestSpeed_6
def dkwX6_bestSpeed_4 : List UInt8 := [21, 7, 28, 162, 0, 18, 21, 6, 42, 182, 0, 150, 96, 54, 6, 132, 7, 1, 167, 255, 238, 42, 27]
abbrev dktX6_bestSpeed_4 : List UInt8 := dkwX6_bestSpeed_4 ++ dktX6_bestSpeed_5
def dkwX6_bestSpeed_3 : List UInt8 := [54, 5, 21, 5, 16, 9, 163, 0, 82, 42, 27, 16, 7, 21, 5, 182, 0, 86, 3, 54, 6, 3, 54, 7]
abbrev dktX6_bestSpeed_3 : List UInt8 := dkwX6_bestSpeed_3 ++ dktX6_bestSpeed_4
def dkwX6_bestSpeed_2 : List UInt8 := [182, 0, 83, 172, 42, 180, 0, 7, 3, 42, 180, 0, 22, 3, 184, 0, 60, 3, 62, 2, 54, 4, 16, 247]
abbrev dktX6_bestSpeed_2 : List UInt8 := dkwX6_bestSpeed_2 ++ dktX6_bestSpeed_3
def dkwX6_bestSpeed_1 : List UInt8 := [167, 0, 4, 5, 182, 0, 76, 153, 0, 5, 3, 172, 42, 27, 182, 0, 97, 154, 0, 10, 42, 7, 6]
abbrev dktX6_bestSpeed_1 : List UInt8 := dkwX6_bestSpeed_1 ++ dktX6_bestSpeed_2
def dkwX6_bestSpeed_0 : List UInt8 := [42, 42, 27, 182, 0, 90, 154, 0, 7, 4, 167, 0, 18, 28, 4, 16, 6, 184, 0, 64, 153, 0, 7, 3]
abbrev dktX6_bestSpeed_0 : List UInt8 := dkwX6_bestSpeed_0 ++ dktX6_bestSpeed_1
theorem dksX6_bestSpeed_0 : cX6_bestSpeed.data.toList.drop 0 = dktX6_bestSpeed_0 := by decide +kernel
theorem dksX6_bestSpeed_1 : cX6_bestSpeed.data.toList.drop 24 = dktX6_bestSpeed_1 := dk_seg dksX6_bestSpeed_0 24 rfl rfl
theorem dksX6_bestSpeed_2 : cX6_bestSpeed.data.toList.drop 47 = dktX6_bestSpeed_2 := dk_seg dksX6_bestSpeed_1 23 rfl rfl
theorem dksX6_bestSpeed_3 : cX6_bestSpeed.data.toList.drop 71 = dktX6_bestSpeed_3 := dk_seg dksX6_bestSpeed_2 24 rfl rfl
theorem dksX6_bestSpeed_4 : cX6_bestSpeed.data.toList.drop 95 = dktX6_bestSpeed_4 := dk_seg dksX6_bestSpeed_3 24 rfl rfl
theorem dksX6_bestSpeed_5 : cX6_bestSpeed.data.toList.drop 118 = dktX6_bestSpeed_5 := dk_seg dksX6_bestSpeed_4 23 rfl rfl
theorem dksX6_bestSpeed_6 : cX6_bestSpeed.data.toList.drop 141 = dktX6_bestSpeed_6 := dk_seg dksX6_bestSpeed_5 23 rfl rfl
theorem dX6_bestSpeed_0 : decode cX6_bestSpeed 0 = .ok (.aload_n 0, 1) := dk_42 (dk_at dksX6_bestSpeed_0 0 rfl rfl)
theorem dX6_bestSpeed_1 : decode cX6_bestSpeed 1 = .ok (.aload_n 0, 1) := dk_42 (dk_at dksX6_bestSpeed_0 1 rfl rfl)
theorem dX6_bestSpeed_2 : decode cX6_bestSpeed 2 = .ok (.iload_n 1, 1) := dk_27 (dk_at dksX6_bestSpeed_0 2 rfl rfl)
theorem dX6_bestSpeed_3 : decode cX6_bestSpeed 3 = .ok (.invokevirtual 90, 3) := dk_182 0 90 (dk_at dksX6_bestSpeed_0 3 rfl rfl)
theorem dX6_bestSpeed_6 : decode cX6_bestSpeed 6 = .ok (.ifCond .ne 7, 3) := dk_154 0 7 (dk_at dksX6_bestSpeed_0 6 rfl rfl)
theorem dX6_bestSpeed_9 : decode cX6_bestSpeed 9 = .ok (.iconst 1, 1) := dk_4 (dk_at dksX6_bestSpeed_0 9 rfl rfl)
theorem dX6_bestSpeed_10 : decode cX6_bestSpeed 10 = .ok (.goto 18, 3) := dk_167 0 18 (dk_at dksX6_bestSpeed_0 10 rfl rfl)
theorem dX6_bestSpeed_13 : decode cX6_bestSpeed 13 = .ok (.iload_n 2, 1) := dk_28 (dk_at dksX6_bestSpeed_0 13 rfl rfl)
theorem dX6_bestSpeed_14 : decode cX6_bestSpeed 14 = .ok (.iconst 1, 1) := dk_4 (dk_at dksX6_bestSpeed_0 14 rfl rfl)
theorem dX6_bestSpeed_15 : decode cX6_bestSpeed 15 = .ok (.bipush 6, 2) := dk_16 6 (dk_at dksX6_bestSpeed_0 15 rfl rfl)
theorem dX6_bestSpeed_17 : decode cX6_bestSpeed 17 = .ok (.invokestatic 64, 3) := dk_184 0 64 (dk_at dksX6_bestSpeed_0 17 rfl rfl)
theorem dX6_bestSpeed_20 : decode cX6_bestSpeed 20 = .ok (.ifCond .eq 7, 3) := dk_153 0 7 (dk_at dksX6_bestSpeed_0 20 rfl rfl)
theorem dX6_bestSpeed_23 : decode cX6_bestSpeed 23 = .ok (.iconst 0, 1) := dk_3 (dk_at dksX6_bestSpeed_0 23 rfl rfl)
theorem dX6_bestSpeed_24 : decode cX6_bestSpeed 24 = .ok (.goto 4, 3) := dk_167 0 4 (dk_at dksX6_bestSpeed_1 0 rfl rfl)
theorem dX6_bestSpeed_27 : decode cX6_bestSpeed 27 = .ok (.iconst 2, 1) := dk_5 (dk_at dksX6_bestSpeed_1 3 rfl rfl)
theorem dX6_bestSpeed_28 : decode cX6_bestSpeed 28 = .ok (.invokevirtual 76, 3) := dk_182 0 76 (dk_at dksX6_bestSpeed_1 4 rfl rfl)
theorem dX6_bestSpeed_31 : decode cX6_bestSpeed 31 = .ok (.ifCond .eq 5, 3) := dk_153 0 5 (dk_at dksX6_bestSpeed_1 7 rfl rfl)
theorem dX6_bestSpeed_34 : decode cX6_bestSpeed 34 = .ok (.iconst 0, 1) := dk_3 (dk_at dksX6_bestSpeed_1 10 rfl rfl)
theorem dX6_bestSpeed_35 : decode cX6_bestSpeed 35 = .ok (.ireturn, 1) := dk_172 (dk_at dksX6_bestSpeed_1 11 rfl rfl)
theorem dX6_bestSpeed_36 : decode cX6_bestSpeed 36 = .ok (.aload_n 0, 1) := dk_42 (dk_at dksX6_bestSpeed_1 12 rfl rfl)
theorem dX6_bestSpeed_37 : decode cX6_bestSpeed 37 = .ok (.iload_n 1, 1) := dk_27 (dk_at dksX6_bestSpeed_1 13 rfl rfl)
theorem dX6_bestSpeed_38 : decode cX6_bestSpeed 38 = .ok (.invokevirtual 97, 3) := dk_182 0 97 (dk_at dksX6_bestSpeed_1 14 rfl rfl)
theorem dX6_bestSpeed_41 : decode cX6_bestSpeed 41 = .ok (.ifCond .ne 10, 3) := dk_154 0 10 (dk_at dksX6_bestSpeed_1 17 rfl rfl)
theorem dX6_bestSpeed_44 : decode cX6_bestSpeed 44 = .ok (.aload_n 0, 1) := dk_42 (dk_at dksX6_bestSpeed_1 20 rfl rfl)
theorem dX6_bestSpeed_45 : decode cX6_bestSpeed 45 = .ok (.iconst 4, 1) := dk_7 (dk_at dksX6_bestSpeed_1 21 rfl rfl)
theorem dX6_bestSpeed_46 : decode cX6_bestSpeed 46 = .ok (.iconst 3, 1) := dk_6 (dk_at dksX6_bestSpeed_1 22 rfl rfl)
theorem dX6_bestSpeed_47 : decode cX6_bestSpeed 47 = .ok (.invokevirtual 83, 3) := dk_182 0 83 (dk_at dksX6_bestSpeed_2 0 rfl rfl)
theorem dX6_bestSpeed_50 : decode cX6_bestSpeed 50 = .ok (.ireturn, 1) := dk_172 (dk_at dksX6_bestSpeed_2 3 rfl rfl)
theorem dX6_bestSpeed_51 : decode cX6_bestSpeed 51 = .ok (.aload_n 0, 1) := dk_42 (dk_at dksX6_bestSpeed_2 4 rfl rfl)
theorem dX6_bestSpeed_52 : decode cX6_bestSpeed 52 = .ok (.getfield 7, 3) := dk_180 0 7 (dk_at dksX6_bestSpeed_2 5 rfl rfl)
theorem dX6_bestSpeed_55 : decode cX6_bestSpeed 55 = .ok (.iconst 0, 1) := dk_3 (dk_at dksX6_bestSpeed_2 8 rfl rfl)
theorem dX6_bestSpeed_56 : decode cX6_bestSpeed 56 = .ok (.aload_n 0, 1) := dk_42 (dk_at dksX6_bestSpeed_2 9 rfl rfl)
theorem dX6_bestSpeed_57 : decode cX6_bestSpeed 57 = .ok (.getfield 22, 3) := dk_180 0 22 (dk_at dksX6_bestSpeed_2 10 rfl rfl)
theorem dX6_bestSpeed_60 : decode cX6_bestSpeed 60 = .ok (.iconst 0, 1) := dk_3 (dk_at dksX6_bestSpeed_2 13 rfl rfl)
theorem dX6_bestSpeed_61 : decode cX6_bestSpeed 61 = .ok (.invokestatic 60, 3) := dk_184 0 60 (dk_at dksX6_bestSpeed_2 14 rfl rfl)
theorem dX6_bestSpeed_64 : decode cX6_bestSpeed 64 = .ok (.iconst 0, 1) := dk_3 (dk_at dksX6_bestSpeed_2 17 rfl rfl)
theorem dX6_bestSpeed_65 : decode cX6_bestSpeed 65 = .ok (.istore_n 3, 1) := dk_62 (dk_at dksX6_bestSpeed_2 18 rfl rfl)
theorem dX6_bestSpeed_66 : decode cX6_bestSpeed 66 = .ok (.iconst (-1), 1) := dk_2 (dk_at dksX6_bestSpeed_2 19 rfl rfl)
theorem dX6_bestSpeed_67 : decode cX6_bestSpeed 67 = .ok (.istore 4, 2) := dk_54 4 (dk_at dksX6_bestSpeed_2 20 rfl rfl)
theorem dX6_bestSpeed_69 : decode cX6_bestSpeed 69 = .ok (.bipush (-9), 2) := dk_16 247 (dk_at dksX6_bestSpeed_2 22 rfl rfl)
theorem dX6_bestSpeed_71 : decode cX6_bestSpeed 71 = .ok (.istore 5, 2) := dk_54 5 (dk_at dksX6_bestSpeed_3 0 rfl rfl)
theorem dX6_bestSpeed_73 : decode cX6_bestSpeed 73 = .ok (.iload 5, 2) := dk_21 5 (dk_at dksX6_bestSpeed_3 2 rfl rfl)
theorem dX6_bestSpeed_75 : decode cX6_bestSpeed 75 = .ok (.bipush 9, 2) := dk_16 9 (dk_at dksX6_bestSpeed_3 4 rfl rfl)
theorem dX6_bestSpeed_77 : decode cX6_bestSpeed 77 = .ok (.if_icmp .gt 82, 3) := dk_163 0 82 (dk_at dksX6_bestSpeed_3 6 rfl rfl)
theorem dX6_bestSpeed_80 : decode cX6_bestSpeed 80 = .ok (.aload_n 0, 1) := dk_42 (dk_at dksX6_bestSpeed_3 9 rfl rfl)
theorem dX6_bestSpeed_81 : decode cX6_bestSpeed 81 = .ok (.iload_n 1, 1) := dk_27 (dk_at dksX6_bestSpeed_3 10 rfl rfl)
theorem dX6_bestSpeed_82 : decode cX6_bestSpeed 82 = .ok (.bipush 7, 2) := dk_16 7 (dk_at dksX6_bestSpeed_3 11 rfl rfl)
theorem dX6_bestSpeed_84 : decode cX6_bestSpeed 84 = .ok (.iload 5, 2) := dk_21 5 (dk_at dksX6_bestSpeed_3 13 rfl rfl)
theorem dX6_bestSpeed_86 : decode cX6_bestSpeed 86 = .ok (.invokevirtual 86, 3) := dk_182 0 86 (dk_at dksX6_bestSpeed_3 15 rfl rfl)
theorem dX6_bestSpeed_89 : decode cX6_bestSpeed 89 = .ok (.iconst 0, 1) := dk_3 (dk_at dksX6_bestSpeed_3 18 rfl rfl)
theorem dX6_bestSpeed_90 : decode cX6_bestSpeed 90 = .ok (.istore 6, 2) := dk_54 6 (dk_at dksX6_bestSpeed_3 19 rfl rfl)
theorem dX6_bestSpeed_92 : decode cX6_bestSpeed 92 = .ok (.iconst 0, 1) := dk_3 (dk_at dksX6_bestSpeed_3 21 rfl rfl)
theorem dX6_bestSpeed_93 : decode cX6_bestSpeed 93 = .ok (.istore 7, 2) := dk_54 7 (dk_at dksX6_bestSpeed_3 22 rfl rfl)
theorem dX6_bestSpeed_95 : decode cX6_bestSpeed 95 = .ok (.iload 7, 2) := dk_21 7 (dk_at dksX6_bestSpeed_4 0 rfl rfl)
theorem dX6_bestSpeed_97 : decode cX6_bestSpeed 97 = .ok (.iload_n 2, 1) := dk_28 (dk_at dksX6_bestSpeed_4 2 rfl rfl)
theorem dX6_bestSpeed_98 : decode cX6_bestSpeed 98 = .ok (.if_icmp .ge 18, 3) := dk_162 0 18 (dk_at dksX6_bestSpeed_4 3 rfl rfl)
theorem dX6_bestSpeed_101 : decode cX6_bestSpeed 101 = .ok (.iload 6, 2) := dk_21 6 (dk_at dksX6_bestSpeed_4 6 rfl rfl)
theorem dX6_bestSpeed_103 : decode cX6_bestSpeed 103 = .ok (.aload_n 0, 1) := dk_42 (dk_at dksX6_bestSpeed_4 8 rfl rfl)
theorem dX6_bestSpeed_104 : decode cX6_bestSpeed 104 = .ok (.invokevirtual 150, 3) := dk_182 0 150 (dk_at dksX6_bestSpeed_4 9 rfl rfl)
theorem dX6_bestSpeed_107 : decode cX6_bestSpeed 107 = .ok (.iadd, 1) := dk_96 (dk_at dksX6_bestSpeed_4 12 rfl rfl)
theorem dX6_bestSpeed_108 : decode cX6_bestSpeed 108 = .ok (.istore 6, 2) := dk_54 6 (dk_at dksX6_bestSpeed_4 13 rfl rfl)
theorem dX6_bestSpeed_110 : decode cX6_bestSpeed 110 = .ok (.iinc 7 1, 3) := dk_132 7 1 (dk_at dksX6_bestSpeed_4 15 rfl rfl)
theorem dX6_bestSpeed_113 : decode cX6_bestSpeed 113 = .ok (.goto (-18), 3) := dk_167 255 238 (dk_at dksX6_bestSpeed_4 18 rfl rfl)
theorem dX6_bestSpeed_116 : decode cX6_bestSpeed 116 = .ok (.aload_n 0, 1) := dk_42 (dk_at dksX6_bestSpeed_4 21 rfl rfl)
theorem dX6_bestSpeed_117 : decode cX6_bestSpeed 117 = .ok (.iload_n 1, 1) := dk_27 (dk_at dksX6_bestSpeed_4 22 rfl rfl)
theorem dX6_bestSpeed_118 : decode cX6_bestSpeed 118 = .ok (.bipush 8, 2) := dk_16 8 (dk_at dksX6_bestSpeed_5 0 rfl rfl)
theorem dX6_bestSpeed_120 : decode cX6_bestSpeed 120 = .ok (.invokevirtual 68, 3) := dk_182 0 68 (dk_at dksX6_bestSpeed_5 2 rfl rfl)
theorem dX6_bestSpeed_123 : decode cX6_bestSpeed 123 = .ok (.iload 4, 2) := dk_21 4 (dk_at dksX6_bestSpeed_5 5 rfl rfl)
theorem dX6_bestSpeed_125 : decode cX6_bestSpeed 125 = .ok (.if_icmp .le 15, 3) := dk_164 0 15 (dk_at dksX6_bestSpeed_5 7 rfl rfl)
theorem dX6_bestSpeed_128 : decode cX6_bestSpeed 128 = .ok (.aload_n 0, 1) := dk_42 (dk_at dksX6_bestSpeed_5 10 rfl rfl)
theorem dX6_bestSpeed_129 : decode cX6_bestSpeed 129 = .ok (.iload_n 1, 1) := dk_27 (dk_at dksX6_bestSpeed_5 11 rfl rfl)
theorem dX6_bestSpeed_130 : decode cX6_bestSpeed 130 = .ok (.bipush 8, 2) := dk_16 8 (dk_at dksX6_bestSpeed_5 12 rfl rfl)
theorem dX6_bestSpeed_132 : decode cX6_bestSpeed 132 = .ok (.invokevirtual 68, 3) := dk_182 0 68 (dk_at dksX6_bestSpeed_5 14 rfl rfl)
theorem dX6_bestSpeed_135 : decode cX6_bestSpeed 135 = .ok (.istore 4, 2) := dk_54 4 (dk_at dksX6_bestSpeed_5 17 rfl rfl)
theorem dX6_bestSpeed_137 : decode cX6_bestSpeed 137 = .ok (.iload 5, 2) := dk_21 5 (dk_at dksX6_bestSpeed_5 19 rfl rfl)
theorem dX6_bestSpeed_139 : decode cX6_bestSpeed 139 = .ok (.istore_n 3, 1) := dk_62 (dk_at dksX6_bestSpeed_5 21 rfl rfl)
theorem dX6_bestSpeed_140 : decode cX6_bestSpeed 140 = .ok (.aload_n 0, 1) := dk_42 (dk_at dksX6_bestSpeed_5 22 rfl rfl)
theorem dX6_bestSpeed_141 : decode cX6_bestSpeed 141 = .ok (.getfield 22, 3) := dk_180 0 22 (dk_at dksX6_bestSpeed_6 0 rfl rfl)
theorem dX6_bestSpeed_144 : decode cX6_bestSpeed 144 = .ok (.iconst 0, 1) := dk_3 (dk_at dksX6_bestSpeed_6 3 rfl rfl)
theorem dX6_bestSpeed_145 : decode cX6_bestSpeed 145 = .ok (.aload_n 0, 1) := dk_42 (dk_at dksX6_bestSpeed_6 4 rfl rfl)
theorem dX6_bestSpeed_146 : decode cX6_bestSpeed 146 = .ok (.getfield 7, 3) := dk_180 0 7 (dk_at dksX6_bestSpeed_6 5 rfl rfl)
theorem dX6_bestSpeed_149 : decode cX6_bestSpeed 149 = .ok (.iconst 0, 1) := dk_3 (dk_at dksX6_bestSpeed_6 8 rfl rfl)
theorem dX6_bestSpeed_150 : decode cX6_bestSpeed 150 = .ok (.invokestatic 60, 3) := dk_184 0 60 (dk_at dksX6_bestSpeed_6 9 rfl rfl)
theorem dX6_bestSpeed_153 : decode cX6_bestSpeed 153 = .ok (.iinc 5 1, 3) := dk_132 5 1 (dk_at dksX6_bestSpeed_6 12 rfl rfl)
theorem dX6_bestSpeed_156 : decode cX6_bestSpeed 156 = .ok (.goto (-83), 3) := dk_167 255 173 (dk_at dksX6_bestSpeed_6 15 rfl rfl)
theorem dX6_bestSpeed_159 : decode cX6_bestSpeed 159 = .ok (.iload_n 3, 1) := dk_29 (dk_at dksX6_bestSpeed_6 18 rfl rfl)
theorem dX6_bestSpeed_160 : decode cX6_bestSpeed 160 = .ok (.ireturn, 1) := dk_172 (dk_at dksX6_bestSpeed_6 19 rfl rfl)
abbrev cX6_cause : ByteArray := prog_21_method_48_code
def yX6_cause : MethodName := ⟨RX6, "cause", "(II)I"⟩
def dkwX6_cause_5 : List UInt8 := [5, 181, 0, 47, 3, 172]
abbrev dktX6_cause_5 : List UInt8 := dkwX6_cause_5 ++ []
def dkwX6_cause_4 : List UInt8 := [154, 0, 6, 167, 0, 14, 29, 28, 160, 0, 6, 21, 4, 172, 132, 3, 1, 132, 4, 1, 167, 255, 217, 42]
abbrev dktX6_cause_4 : List UInt8 := dkwX6_cause_4 ++ dktX6_cause_5
def dkwX6_cause_3 : List UInt8 := [5, 62, 3, 54, 4, 21, 4, 16, 6, 162, 0, 38, 42, 27, 16, 11, 182, 0, 68, 21, 4, 122, 4, 126]
abbrev dktX6_cause_3 : List UInt8 := dkwX6_cause_3 ++ dktX6_cause_4
def dkwX6_cause_2 : List UInt8 := [3, 172, 28, 5, 162, 0, 20, 42, 27, 28, 154, 0, 8, 16, 9, 167, 0, 5, 16, 10, 182, 0, 68, 172]
abbrev dktX6_cause_2 : List UInt8 := dkwX6_cause_2 ++ dktX6_cause_3
def dkwX6_cause_1 : List UInt8 := [27, 3, 182, 0, 68, 5, 160, 0, 11, 28, 155, 0, 7, 3, 167, 0, 4, 5, 182, 0, 76, 153, 0, 5]
abbrev dktX6_cause_1 : List UInt8 := dkwX6_cause_1 ++ dktX6_cause_2
def dkwX6_cause_0 : List UInt8 := [42, 42, 27, 182, 0, 90, 153, 0, 7, 3, 167, 0, 4, 4, 182, 0, 76, 153, 0, 5, 3, 172, 42, 42]
abbrev dktX6_cause_0 : List UInt8 := dkwX6_cause_0 ++ dktX6_cause_1
theorem dksX6_cause_0 : cX6_cause.data.toList.drop 0 = dktX6_cause_0 := by decide +kernel
theorem dksX6_cause_1 : cX6_cause.data.toList.drop 24 = dktX6_cause_1 := dk_seg dksX6_cause_0 24 rfl rfl
theorem dksX6_cause_2 : cX6_cause.data.toList.drop 48 = dktX6_cause_2 := dk_seg dksX6_cause_1 24 rfl rfl
theorem dksX6_cause_3 : cX6_cause.data.toList.drop 72 = dktX6_cause_3 := dk_seg dksX6_cause_2 24 rfl rfl
theorem dksX6_cause_4 : cX6_cause.data.toList.drop 96 = dktX6_cause_4 := dk_seg dksX6_cause_3 24 rfl rfl
theorem dksX6_cause_5 : cX6_cause.data.toList.drop 120 = dktX6_cause_5 := dk_seg dksX6_cause_4 24 rfl rfl
theorem dX6_cause_0 : decode cX6_cause 0 = .ok (.aload_n 0, 1) := dk_42 (dk_at dksX6_cause_0 0 rfl rfl)
theorem dX6_cause_1 : decode cX6_cause 1 = .ok (.aload_n 0, 1) := dk_42 (dk_at dksX6_cause_0 1 rfl rfl)
theorem dX6_cause_2 : decode cX6_cause 2 = .ok (.iload_n 1, 1) := dk_27 (dk_at dksX6_cause_0 2 rfl rfl)
theorem dX6_cause_3 : decode cX6_cause 3 = .ok (.invokevirtual 90, 3) := dk_182 0 90 (dk_at dksX6_cause_0 3 rfl rfl)
theorem dX6_cause_6 : decode cX6_cause 6 = .ok (.ifCond .eq 7, 3) := dk_153 0 7 (dk_at dksX6_cause_0 6 rfl rfl)
theorem dX6_cause_9 : decode cX6_cause 9 = .ok (.iconst 0, 1) := dk_3 (dk_at dksX6_cause_0 9 rfl rfl)
theorem dX6_cause_10 : decode cX6_cause 10 = .ok (.goto 4, 3) := dk_167 0 4 (dk_at dksX6_cause_0 10 rfl rfl)
theorem dX6_cause_13 : decode cX6_cause 13 = .ok (.iconst 1, 1) := dk_4 (dk_at dksX6_cause_0 13 rfl rfl)
theorem dX6_cause_14 : decode cX6_cause 14 = .ok (.invokevirtual 76, 3) := dk_182 0 76 (dk_at dksX6_cause_0 14 rfl rfl)
theorem dX6_cause_17 : decode cX6_cause 17 = .ok (.ifCond .eq 5, 3) := dk_153 0 5 (dk_at dksX6_cause_0 17 rfl rfl)
theorem dX6_cause_20 : decode cX6_cause 20 = .ok (.iconst 0, 1) := dk_3 (dk_at dksX6_cause_0 20 rfl rfl)
theorem dX6_cause_21 : decode cX6_cause 21 = .ok (.ireturn, 1) := dk_172 (dk_at dksX6_cause_0 21 rfl rfl)
theorem dX6_cause_22 : decode cX6_cause 22 = .ok (.aload_n 0, 1) := dk_42 (dk_at dksX6_cause_0 22 rfl rfl)
theorem dX6_cause_23 : decode cX6_cause 23 = .ok (.aload_n 0, 1) := dk_42 (dk_at dksX6_cause_0 23 rfl rfl)
theorem dX6_cause_24 : decode cX6_cause 24 = .ok (.iload_n 1, 1) := dk_27 (dk_at dksX6_cause_1 0 rfl rfl)
theorem dX6_cause_25 : decode cX6_cause 25 = .ok (.iconst 0, 1) := dk_3 (dk_at dksX6_cause_1 1 rfl rfl)
theorem dX6_cause_26 : decode cX6_cause 26 = .ok (.invokevirtual 68, 3) := dk_182 0 68 (dk_at dksX6_cause_1 2 rfl rfl)
theorem dX6_cause_29 : decode cX6_cause 29 = .ok (.iconst 2, 1) := dk_5 (dk_at dksX6_cause_1 5 rfl rfl)
theorem dX6_cause_30 : decode cX6_cause 30 = .ok (.if_icmp .ne 11, 3) := dk_160 0 11 (dk_at dksX6_cause_1 6 rfl rfl)
theorem dX6_cause_33 : decode cX6_cause 33 = .ok (.iload_n 2, 1) := dk_28 (dk_at dksX6_cause_1 9 rfl rfl)
theorem dX6_cause_34 : decode cX6_cause 34 = .ok (.ifCond .lt 7, 3) := dk_155 0 7 (dk_at dksX6_cause_1 10 rfl rfl)
theorem dX6_cause_37 : decode cX6_cause 37 = .ok (.iconst 0, 1) := dk_3 (dk_at dksX6_cause_1 13 rfl rfl)
theorem dX6_cause_38 : decode cX6_cause 38 = .ok (.goto 4, 3) := dk_167 0 4 (dk_at dksX6_cause_1 14 rfl rfl)
theorem dX6_cause_41 : decode cX6_cause 41 = .ok (.iconst 2, 1) := dk_5 (dk_at dksX6_cause_1 17 rfl rfl)
theorem dX6_cause_42 : decode cX6_cause 42 = .ok (.invokevirtual 76, 3) := dk_182 0 76 (dk_at dksX6_cause_1 18 rfl rfl)
theorem dX6_cause_45 : decode cX6_cause 45 = .ok (.ifCond .eq 5, 3) := dk_153 0 5 (dk_at dksX6_cause_1 21 rfl rfl)
theorem dX6_cause_48 : decode cX6_cause 48 = .ok (.iconst 0, 1) := dk_3 (dk_at dksX6_cause_2 0 rfl rfl)
theorem dX6_cause_49 : decode cX6_cause 49 = .ok (.ireturn, 1) := dk_172 (dk_at dksX6_cause_2 1 rfl rfl)
theorem dX6_cause_50 : decode cX6_cause 50 = .ok (.iload_n 2, 1) := dk_28 (dk_at dksX6_cause_2 2 rfl rfl)
theorem dX6_cause_51 : decode cX6_cause 51 = .ok (.iconst 2, 1) := dk_5 (dk_at dksX6_cause_2 3 rfl rfl)
theorem dX6_cause_52 : decode cX6_cause 52 = .ok (.if_icmp .ge 20, 3) := dk_162 0 20 (dk_at dksX6_cause_2 4 rfl rfl)
theorem dX6_cause_55 : decode cX6_cause 55 = .ok (.aload_n 0, 1) := dk_42 (dk_at dksX6_cause_2 7 rfl rfl)
theorem dX6_cause_56 : decode cX6_cause 56 = .ok (.iload_n 1, 1) := dk_27 (dk_at dksX6_cause_2 8 rfl rfl)
theorem dX6_cause_57 : decode cX6_cause 57 = .ok (.iload_n 2, 1) := dk_28 (dk_at dksX6_cause_2 9 rfl rfl)
theorem dX6_cause_58 : decode cX6_cause 58 = .ok (.ifCond .ne 8, 3) := dk_154 0 8 (dk_at dksX6_cause_2 10 rfl rfl)
theorem dX6_cause_61 : decode cX6_cause 61 = .ok (.bipush 9, 2) := dk_16 9 (dk_at dksX6_cause_2 13 rfl rfl)
theorem dX6_cause_63 : decode cX6_cause 63 = .ok (.goto 5, 3) := dk_167 0 5 (dk_at dksX6_cause_2 15 rfl rfl)
theorem dX6_cause_66 : decode cX6_cause 66 = .ok (.bipush 10, 2) := dk_16 10 (dk_at dksX6_cause_2 18 rfl rfl)
theorem dX6_cause_68 : decode cX6_cause 68 = .ok (.invokevirtual 68, 3) := dk_182 0 68 (dk_at dksX6_cause_2 20 rfl rfl)
theorem dX6_cause_71 : decode cX6_cause 71 = .ok (.ireturn, 1) := dk_172 (dk_at dksX6_cause_2 23 rfl rfl)
theorem dX6_cause_72 : decode cX6_cause 72 = .ok (.iconst 2, 1) := dk_5 (dk_at dksX6_cause_3 0 rfl rfl)
theorem dX6_cause_73 : decode cX6_cause 73 = .ok (.istore_n 3, 1) := dk_62 (dk_at dksX6_cause_3 1 rfl rfl)
theorem dX6_cause_74 : decode cX6_cause 74 = .ok (.iconst 0, 1) := dk_3 (dk_at dksX6_cause_3 2 rfl rfl)
theorem dX6_cause_75 : decode cX6_cause 75 = .ok (.istore 4, 2) := dk_54 4 (dk_at dksX6_cause_3 3 rfl rfl)
theorem dX6_cause_77 : decode cX6_cause 77 = .ok (.iload 4, 2) := dk_21 4 (dk_at dksX6_cause_3 5 rfl rfl)
theorem dX6_cause_79 : decode cX6_cause 79 = .ok (.bipush 6, 2) := dk_16 6 (dk_at dksX6_cause_3 7 rfl rfl)
theorem dX6_cause_81 : decode cX6_cause 81 = .ok (.if_icmp .ge 38, 3) := dk_162 0 38 (dk_at dksX6_cause_3 9 rfl rfl)
theorem dX6_cause_84 : decode cX6_cause 84 = .ok (.aload_n 0, 1) := dk_42 (dk_at dksX6_cause_3 12 rfl rfl)
theorem dX6_cause_85 : decode cX6_cause 85 = .ok (.iload_n 1, 1) := dk_27 (dk_at dksX6_cause_3 13 rfl rfl)
theorem dX6_cause_86 : decode cX6_cause 86 = .ok (.bipush 11, 2) := dk_16 11 (dk_at dksX6_cause_3 14 rfl rfl)
theorem dX6_cause_88 : decode cX6_cause 88 = .ok (.invokevirtual 68, 3) := dk_182 0 68 (dk_at dksX6_cause_3 16 rfl rfl)
theorem dX6_cause_91 : decode cX6_cause 91 = .ok (.iload 4, 2) := dk_21 4 (dk_at dksX6_cause_3 19 rfl rfl)
theorem dX6_cause_93 : decode cX6_cause 93 = .ok (.ishr, 1) := dk_122 (dk_at dksX6_cause_3 21 rfl rfl)
theorem dX6_cause_94 : decode cX6_cause 94 = .ok (.iconst 1, 1) := dk_4 (dk_at dksX6_cause_3 22 rfl rfl)
theorem dX6_cause_95 : decode cX6_cause 95 = .ok (.iand, 1) := dk_126 (dk_at dksX6_cause_3 23 rfl rfl)
theorem dX6_cause_96 : decode cX6_cause 96 = .ok (.ifCond .ne 6, 3) := dk_154 0 6 (dk_at dksX6_cause_4 0 rfl rfl)
theorem dX6_cause_99 : decode cX6_cause 99 = .ok (.goto 14, 3) := dk_167 0 14 (dk_at dksX6_cause_4 3 rfl rfl)
theorem dX6_cause_102 : decode cX6_cause 102 = .ok (.iload_n 3, 1) := dk_29 (dk_at dksX6_cause_4 6 rfl rfl)
theorem dX6_cause_103 : decode cX6_cause 103 = .ok (.iload_n 2, 1) := dk_28 (dk_at dksX6_cause_4 7 rfl rfl)
theorem dX6_cause_104 : decode cX6_cause 104 = .ok (.if_icmp .ne 6, 3) := dk_160 0 6 (dk_at dksX6_cause_4 8 rfl rfl)
theorem dX6_cause_107 : decode cX6_cause 107 = .ok (.iload 4, 2) := dk_21 4 (dk_at dksX6_cause_4 11 rfl rfl)
theorem dX6_cause_109 : decode cX6_cause 109 = .ok (.ireturn, 1) := dk_172 (dk_at dksX6_cause_4 13 rfl rfl)
theorem dX6_cause_110 : decode cX6_cause 110 = .ok (.iinc 3 1, 3) := dk_132 3 1 (dk_at dksX6_cause_4 14 rfl rfl)
theorem dX6_cause_113 : decode cX6_cause 113 = .ok (.iinc 4 1, 3) := dk_132 4 1 (dk_at dksX6_cause_4 17 rfl rfl)
theorem dX6_cause_116 : decode cX6_cause 116 = .ok (.goto (-39), 3) := dk_167 255 217 (dk_at dksX6_cause_4 20 rfl rfl)
theorem dX6_cause_119 : decode cX6_cause 119 = .ok (.aload_n 0, 1) := dk_42 (dk_at dksX6_cause_4 23 rfl rfl)
theorem dX6_cause_120 : decode cX6_cause 120 = .ok (.iconst 2, 1) := dk_5 (dk_at dksX6_cause_5 0 rfl rfl)
theorem dX6_cause_121 : decode cX6_cause 121 = .ok (.putfield 47, 3) := dk_181 0 47 (dk_at dksX6_cause_5 1 rfl rfl)
theorem dX6_cause_124 : decode cX6_cause 124 = .ok (.iconst 0, 1) := dk_3 (dk_at dksX6_cause_5 4 rfl rfl)
theorem dX6_cause_125 : decode cX6_cause 125 = .ok (.ireturn, 1) := dk_172 (dk_at dksX6_cause_5 5 rfl rfl)
abbrev cX6_leader : ByteArray := prog_21_method_49_code
def yX6_leader : MethodName := ⟨RX6, "leader", "()I"⟩
def dkwX6_leader_2 : List UInt8 := [156, 0, 7, 4, 167, 0, 4, 3, 182, 0, 76, 153, 0, 7, 3, 167, 0, 4, 27, 172]
abbrev dktX6_leader_2 : List UInt8 := dkwX6_leader_2 ++ []
def dkwX6_leader_1 : List UInt8 := [182, 0, 68, 42, 27, 16, 8, 182, 0, 68, 164, 0, 5, 28, 60, 132, 2, 1, 167, 255, 219, 42, 27]
abbrev dktX6_leader_1 : List UInt8 := dkwX6_leader_1 ++ dktX6_leader_2
def dkwX6_leader_0 : List UInt8 := [2, 60, 3, 61, 28, 42, 180, 0, 7, 16, 25, 46, 162, 0, 32, 27, 155, 0, 20, 42, 28, 16, 8]
abbrev dktX6_leader_0 : List UInt8 := dkwX6_leader_0 ++ dktX6_leader_1
theorem dksX6_leader_0 : cX6_leader.data.toList.drop 0 = dktX6_leader_0 := by decide +kernel
theorem dksX6_leader_1 : cX6_leader.data.toList.drop 23 = dktX6_leader_1 := dk_seg dksX6_leader_0 23 rfl rfl
theorem dksX6_leader_2 : cX6_leader.data.toList.drop 46 = dktX6_leader_2 := dk_seg dksX6_leader_1 23 rfl rfl
theorem dX6_leader_0 : decode cX6_leader 0 = .ok (.iconst (-1), 1) := dk_2 (dk_at dksX6_leader_0 0 rfl rfl)
theorem dX6_leader_1 : decode cX6_leader 1 = .ok (.istore_n 1, 1) := dk_60 (dk_at dksX6_leader_0 1 rfl rfl)
theorem dX6_leader_2 : decode cX6_leader 2 = .ok (.iconst 0, 1) := dk_3 (dk_at dksX6_leader_0 2 rfl rfl)
theorem dX6_leader_3 : decode cX6_leader 3 = .ok (.istore_n 2, 1) := dk_61 (dk_at dksX6_leader_0 3 rfl rfl)
theorem dX6_leader_4 : decode cX6_leader 4 = .ok (.iload_n 2, 1) := dk_28 (dk_at dksX6_leader_0 4 rfl rfl)
theorem dX6_leader_5 : decode cX6_leader 5 = .ok (.aload_n 0, 1) := dk_42 (dk_at dksX6_leader_0 5 rfl rfl)
theorem dX6_leader_6 : decode cX6_leader 6 = .ok (.getfield 7, 3) := dk_180 0 7 (dk_at dksX6_leader_0 6 rfl rfl)
theorem dX6_leader_9 : decode cX6_leader 9 = .ok (.bipush 25, 2) := dk_16 25 (dk_at dksX6_leader_0 9 rfl rfl)
theorem dX6_leader_11 : decode cX6_leader 11 = .ok (.iaload, 1) := dk_46 (dk_at dksX6_leader_0 11 rfl rfl)
theorem dX6_leader_12 : decode cX6_leader 12 = .ok (.if_icmp .ge 32, 3) := dk_162 0 32 (dk_at dksX6_leader_0 12 rfl rfl)
theorem dX6_leader_15 : decode cX6_leader 15 = .ok (.iload_n 1, 1) := dk_27 (dk_at dksX6_leader_0 15 rfl rfl)
theorem dX6_leader_16 : decode cX6_leader 16 = .ok (.ifCond .lt 20, 3) := dk_155 0 20 (dk_at dksX6_leader_0 16 rfl rfl)
theorem dX6_leader_19 : decode cX6_leader 19 = .ok (.aload_n 0, 1) := dk_42 (dk_at dksX6_leader_0 19 rfl rfl)
theorem dX6_leader_20 : decode cX6_leader 20 = .ok (.iload_n 2, 1) := dk_28 (dk_at dksX6_leader_0 20 rfl rfl)
theorem dX6_leader_21 : decode cX6_leader 21 = .ok (.bipush 8, 2) := dk_16 8 (dk_at dksX6_leader_0 21 rfl rfl)
theorem dX6_leader_23 : decode cX6_leader 23 = .ok (.invokevirtual 68, 3) := dk_182 0 68 (dk_at dksX6_leader_1 0 rfl rfl)
theorem dX6_leader_26 : decode cX6_leader 26 = .ok (.aload_n 0, 1) := dk_42 (dk_at dksX6_leader_1 3 rfl rfl)
theorem dX6_leader_27 : decode cX6_leader 27 = .ok (.iload_n 1, 1) := dk_27 (dk_at dksX6_leader_1 4 rfl rfl)
theorem dX6_leader_28 : decode cX6_leader 28 = .ok (.bipush 8, 2) := dk_16 8 (dk_at dksX6_leader_1 5 rfl rfl)
theorem dX6_leader_30 : decode cX6_leader 30 = .ok (.invokevirtual 68, 3) := dk_182 0 68 (dk_at dksX6_leader_1 7 rfl rfl)
theorem dX6_leader_33 : decode cX6_leader 33 = .ok (.if_icmp .le 5, 3) := dk_164 0 5 (dk_at dksX6_leader_1 10 rfl rfl)
theorem dX6_leader_36 : decode cX6_leader 36 = .ok (.iload_n 2, 1) := dk_28 (dk_at dksX6_leader_1 13 rfl rfl)
theorem dX6_leader_37 : decode cX6_leader 37 = .ok (.istore_n 1, 1) := dk_60 (dk_at dksX6_leader_1 14 rfl rfl)
theorem dX6_leader_38 : decode cX6_leader 38 = .ok (.iinc 2 1, 3) := dk_132 2 1 (dk_at dksX6_leader_1 15 rfl rfl)
theorem dX6_leader_41 : decode cX6_leader 41 = .ok (.goto (-37), 3) := dk_167 255 219 (dk_at dksX6_leader_1 18 rfl rfl)
theorem dX6_leader_44 : decode cX6_leader 44 = .ok (.aload_n 0, 1) := dk_42 (dk_at dksX6_leader_1 21 rfl rfl)
theorem dX6_leader_45 : decode cX6_leader 45 = .ok (.iload_n 1, 1) := dk_27 (dk_at dksX6_leader_1 22 rfl rfl)
theorem dX6_leader_46 : decode cX6_leader 46 = .ok (.ifCond .ge 7, 3) := dk_156 0 7 (dk_at dksX6_leader_2 0 rfl rfl)
theorem dX6_leader_49 : decode cX6_leader 49 = .ok (.iconst 1, 1) := dk_4 (dk_at dksX6_leader_2 3 rfl rfl)
theorem dX6_leader_50 : decode cX6_leader 50 = .ok (.goto 4, 3) := dk_167 0 4 (dk_at dksX6_leader_2 4 rfl rfl)
theorem dX6_leader_53 : decode cX6_leader 53 = .ok (.iconst 0, 1) := dk_3 (dk_at dksX6_leader_2 7 rfl rfl)
theorem dX6_leader_54 : decode cX6_leader 54 = .ok (.invokevirtual 76, 3) := dk_182 0 76 (dk_at dksX6_leader_2 8 rfl rfl)
theorem dX6_leader_57 : decode cX6_leader 57 = .ok (.ifCond .eq 7, 3) := dk_153 0 7 (dk_at dksX6_leader_2 11 rfl rfl)
theorem dX6_leader_60 : decode cX6_leader 60 = .ok (.iconst 0, 1) := dk_3 (dk_at dksX6_leader_2 14 rfl rfl)
theorem dX6_leader_61 : decode cX6_leader 61 = .ok (.goto 4, 3) := dk_167 0 4 (dk_at dksX6_leader_2 15 rfl rfl)
theorem dX6_leader_64 : decode cX6_leader 64 = .ok (.iload_n 1, 1) := dk_27 (dk_at dksX6_leader_2 18 rfl rfl)
theorem dX6_leader_65 : decode cX6_leader 65 = .ok (.ireturn, 1) := dk_172 (dk_at dksX6_leader_2 19 rfl rfl)
abbrev cX6_append : ByteArray := prog_21_method_50_code
def yX6_append : MethodName := ⟨RX6, "append", "(C)I"⟩
def dkwX6_append_1 : List UInt8 := [180, 0, 25, 42, 180, 0, 154, 27, 79, 42, 89, 180, 0, 154, 4, 96, 181, 0, 154, 42, 180, 0, 154, 172]
abbrev dktX6_append_1 : List UInt8 := dkwX6_append_1 ++ []
def dkwX6_append_0 : List UInt8 := [42, 42, 180, 0, 154, 16, 60, 160, 0, 7, 4, 167, 0, 4, 3, 182, 0, 76, 153, 0, 5, 3, 172, 42]
abbrev dktX6_append_0 : List UInt8 := dkwX6_append_0 ++ dktX6_append_1
theorem dksX6_append_0 : cX6_append.data.toList.drop 0 = dktX6_append_0 := by decide +kernel
theorem dksX6_append_1 : cX6_append.data.toList.drop 24 = dktX6_append_1 := dk_seg dksX6_append_0 24 rfl rfl
theorem dX6_append_0 : decode cX6_append 0 = .ok (.aload_n 0, 1) := dk_42 (dk_at dksX6_append_0 0 rfl rfl)
theorem dX6_append_1 : decode cX6_append 1 = .ok (.aload_n 0, 1) := dk_42 (dk_at dksX6_append_0 1 rfl rfl)
theorem dX6_append_2 : decode cX6_append 2 = .ok (.getfield 154, 3) := dk_180 0 154 (dk_at dksX6_append_0 2 rfl rfl)
theorem dX6_append_5 : decode cX6_append 5 = .ok (.bipush 60, 2) := dk_16 60 (dk_at dksX6_append_0 5 rfl rfl)
theorem dX6_append_7 : decode cX6_append 7 = .ok (.if_icmp .ne 7, 3) := dk_160 0 7 (dk_at dksX6_append_0 7 rfl rfl)
theorem dX6_append_10 : decode cX6_append 10 = .ok (.iconst 1, 1) := dk_4 (dk_at dksX6_append_0 10 rfl rfl)
theorem dX6_append_11 : decode cX6_append 11 = .ok (.goto 4, 3) := dk_167 0 4 (dk_at dksX6_append_0 11 rfl rfl)
theorem dX6_append_14 : decode cX6_append 14 = .ok (.iconst 0, 1) := dk_3 (dk_at dksX6_append_0 14 rfl rfl)
theorem dX6_append_15 : decode cX6_append 15 = .ok (.invokevirtual 76, 3) := dk_182 0 76 (dk_at dksX6_append_0 15 rfl rfl)
theorem dX6_append_18 : decode cX6_append 18 = .ok (.ifCond .eq 5, 3) := dk_153 0 5 (dk_at dksX6_append_0 18 rfl rfl)
theorem dX6_append_21 : decode cX6_append 21 = .ok (.iconst 0, 1) := dk_3 (dk_at dksX6_append_0 21 rfl rfl)
theorem dX6_append_22 : decode cX6_append 22 = .ok (.ireturn, 1) := dk_172 (dk_at dksX6_append_0 22 rfl rfl)
theorem dX6_append_23 : decode cX6_append 23 = .ok (.aload_n 0, 1) := dk_42 (dk_at dksX6_append_0 23 rfl rfl)
theorem dX6_append_24 : decode cX6_append 24 = .ok (.getfield 25, 3) := dk_180 0 25 (dk_at dksX6_append_1 0 rfl rfl)
theorem dX6_append_27 : decode cX6_append 27 = .ok (.aload_n 0, 1) := dk_42 (dk_at dksX6_append_1 3 rfl rfl)
theorem dX6_append_28 : decode cX6_append 28 = .ok (.getfield 154, 3) := dk_180 0 154 (dk_at dksX6_append_1 4 rfl rfl)
theorem dX6_append_31 : decode cX6_append 31 = .ok (.iload_n 1, 1) := dk_27 (dk_at dksX6_append_1 7 rfl rfl)
theorem dX6_append_32 : decode cX6_append 32 = .ok (.iastore, 1) := dk_79 (dk_at dksX6_append_1 8 rfl rfl)
theorem dX6_append_33 : decode cX6_append 33 = .ok (.aload_n 0, 1) := dk_42 (dk_at dksX6_append_1 9 rfl rfl)
theorem dX6_append_34 : decode cX6_append 34 = .ok (.dup, 1) := dk_89 (dk_at dksX6_append_1 10 rfl rfl)
theorem dX6_append_35 : decode cX6_append 35 = .ok (.getfield 154, 3) := dk_180 0 154 (dk_at dksX6_append_1 11 rfl rfl)
theorem dX6_append_38 : decode cX6_append 38 = .ok (.iconst 1, 1) := dk_4 (dk_at dksX6_append_1 14 rfl rfl)
theorem dX6_append_39 : decode cX6_append 39 = .ok (.iadd, 1) := dk_96 (dk_at dksX6_append_1 15 rfl rfl)
theorem dX6_append_40 : decode cX6_append 40 = .ok (.putfield 154, 3) := dk_181 0 154 (dk_at dksX6_append_1 16 rfl rfl)
theorem dX6_append_43 : decode cX6_append 43 = .ok (.aload_n 0, 1) := dk_42 (dk_at dksX6_append_1 19 rfl rfl)
theorem dX6_append_44 : decode cX6_append 44 = .ok (.getfield 154, 3) := dk_180 0 154 (dk_at dksX6_append_1 20 rfl rfl)
theorem dX6_append_47 : decode cX6_append 47 = .ok (.ireturn, 1) := dk_172 (dk_at dksX6_append_1 23 rfl rfl)
abbrev cX6_read : ByteArray := prog_21_method_59_code
def yX6_read : MethodName := ⟨RX6, "read", "()I"⟩
def dkwX6_read_7 : List UInt8 := [167, 0, 4, 4, 181, 0, 47, 3, 172, 42, 42, 180, 0, 19, 182, 0, 79, 42, 180, 0, 172, 172]
abbrev dktX6_read_7 : List UInt8 := dkwX6_read_7 ++ []
def dkwX6_read_6 : List UInt8 := [3, 54, 4, 21, 4, 153, 0, 10, 42, 28, 4, 100, 181, 0, 32, 42, 21, 4, 153, 0, 7, 5]
abbrev dktX6_read_6 : List UInt8 := dkwX6_read_6 ++ dktX6_read_7
def dkwX6_read_5 : List UInt8 := [180, 0, 19, 3, 42, 180, 0, 7, 3, 184, 0, 60, 42, 180, 0, 47, 29, 160, 0, 7, 4, 167, 0, 4]
abbrev dktX6_read_5 : List UInt8 := dkwX6_read_5 ++ dktX6_read_6
def dkwX6_read_4 : List UInt8 := [182, 0, 203, 62, 132, 2, 1, 167, 255, 230, 42, 3, 181, 0, 53, 42, 180, 0, 47, 158, 0, 59, 42]
abbrev dktX6_read_4 : List UInt8 := dkwX6_read_4 ++ dktX6_read_5
def dkwX6_read_3 : List UInt8 := [181, 0, 47, 28, 42, 180, 0, 172, 162, 0, 24, 42, 180, 0, 47, 154, 0, 17, 42, 8, 28, 104]
abbrev dktX6_read_3 : List UInt8 := dkwX6_read_3 ++ dktX6_read_4
def dkwX6_read_2 : List UInt8 := [180, 0, 7, 3, 42, 180, 0, 19, 3, 184, 0, 60, 42, 4, 181, 0, 53, 3, 61, 3, 62, 42, 3]
abbrev dktX6_read_2 : List UInt8 := dkwX6_read_2 ++ dktX6_read_3
def dkwX6_read_1 : List UInt8 := [181, 0, 154, 42, 27, 153, 0, 7, 3, 167, 0, 4, 4, 182, 0, 76, 153, 0, 5, 3, 172, 42]
abbrev dktX6_read_1 : List UInt8 := dkwX6_read_1 ++ dktX6_read_2
def dkwX6_read_0 : List UInt8 := [42, 182, 0, 200, 60, 42, 27, 153, 0, 7, 2, 167, 0, 7, 42, 180, 0, 157, 181, 0, 28, 42, 3]
abbrev dktX6_read_0 : List UInt8 := dkwX6_read_0 ++ dktX6_read_1
theorem dksX6_read_0 : cX6_read.data.toList.drop 0 = dktX6_read_0 := by decide +kernel
theorem dksX6_read_1 : cX6_read.data.toList.drop 23 = dktX6_read_1 := dk_seg dksX6_read_0 23 rfl rfl
theorem dksX6_read_2 : cX6_read.data.toList.drop 45 = dktX6_read_2 := dk_seg dksX6_read_1 22 rfl rfl
theorem dksX6_read_3 : cX6_read.data.toList.drop 68 = dktX6_read_3 := dk_seg dksX6_read_2 23 rfl rfl
theorem dksX6_read_4 : cX6_read.data.toList.drop 90 = dktX6_read_4 := dk_seg dksX6_read_3 22 rfl rfl
theorem dksX6_read_5 : cX6_read.data.toList.drop 113 = dktX6_read_5 := dk_seg dksX6_read_4 23 rfl rfl
theorem dksX6_read_6 : cX6_read.data.toList.drop 137 = dktX6_read_6 := dk_seg dksX6_read_5 24 rfl rfl
theorem dksX6_read_7 : cX6_read.data.toList.drop 159 = dktX6_read_7 := dk_seg dksX6_read_6 22 rfl rfl
theorem dX6_read_0 : decode cX6_read 0 = .ok (.aload_n 0, 1) := dk_42 (dk_at dksX6_read_0 0 rfl rfl)
theorem dX6_read_1 : decode cX6_read 1 = .ok (.invokevirtual 200, 3) := dk_182 0 200 (dk_at dksX6_read_0 1 rfl rfl)
theorem dX6_read_4 : decode cX6_read 4 = .ok (.istore_n 1, 1) := dk_60 (dk_at dksX6_read_0 4 rfl rfl)
theorem dX6_read_5 : decode cX6_read 5 = .ok (.aload_n 0, 1) := dk_42 (dk_at dksX6_read_0 5 rfl rfl)
theorem dX6_read_6 : decode cX6_read 6 = .ok (.iload_n 1, 1) := dk_27 (dk_at dksX6_read_0 6 rfl rfl)
theorem dX6_read_7 : decode cX6_read 7 = .ok (.ifCond .eq 7, 3) := dk_153 0 7 (dk_at dksX6_read_0 7 rfl rfl)
theorem dX6_read_10 : decode cX6_read 10 = .ok (.iconst (-1), 1) := dk_2 (dk_at dksX6_read_0 10 rfl rfl)
theorem dX6_read_11 : decode cX6_read 11 = .ok (.goto 7, 3) := dk_167 0 7 (dk_at dksX6_read_0 11 rfl rfl)
theorem dX6_read_14 : decode cX6_read 14 = .ok (.aload_n 0, 1) := dk_42 (dk_at dksX6_read_0 14 rfl rfl)
theorem dX6_read_15 : decode cX6_read 15 = .ok (.getfield 157, 3) := dk_180 0 157 (dk_at dksX6_read_0 15 rfl rfl)
theorem dX6_read_18 : decode cX6_read 18 = .ok (.putfield 28, 3) := dk_181 0 28 (dk_at dksX6_read_0 18 rfl rfl)
theorem dX6_read_21 : decode cX6_read 21 = .ok (.aload_n 0, 1) := dk_42 (dk_at dksX6_read_0 21 rfl rfl)
theorem dX6_read_22 : decode cX6_read 22 = .ok (.iconst 0, 1) := dk_3 (dk_at dksX6_read_0 22 rfl rfl)
theorem dX6_read_23 : decode cX6_read 23 = .ok (.putfield 154, 3) := dk_181 0 154 (dk_at dksX6_read_1 0 rfl rfl)
theorem dX6_read_26 : decode cX6_read 26 = .ok (.aload_n 0, 1) := dk_42 (dk_at dksX6_read_1 3 rfl rfl)
theorem dX6_read_27 : decode cX6_read 27 = .ok (.iload_n 1, 1) := dk_27 (dk_at dksX6_read_1 4 rfl rfl)
theorem dX6_read_28 : decode cX6_read 28 = .ok (.ifCond .eq 7, 3) := dk_153 0 7 (dk_at dksX6_read_1 5 rfl rfl)
theorem dX6_read_31 : decode cX6_read 31 = .ok (.iconst 0, 1) := dk_3 (dk_at dksX6_read_1 8 rfl rfl)
theorem dX6_read_32 : decode cX6_read 32 = .ok (.goto 4, 3) := dk_167 0 4 (dk_at dksX6_read_1 9 rfl rfl)
theorem dX6_read_35 : decode cX6_read 35 = .ok (.iconst 1, 1) := dk_4 (dk_at dksX6_read_1 12 rfl rfl)
theorem dX6_read_36 : decode cX6_read 36 = .ok (.invokevirtual 76, 3) := dk_182 0 76 (dk_at dksX6_read_1 13 rfl rfl)
theorem dX6_read_39 : decode cX6_read 39 = .ok (.ifCond .eq 5, 3) := dk_153 0 5 (dk_at dksX6_read_1 16 rfl rfl)
theorem dX6_read_42 : decode cX6_read 42 = .ok (.iconst 0, 1) := dk_3 (dk_at dksX6_read_1 19 rfl rfl)
theorem dX6_read_43 : decode cX6_read 43 = .ok (.ireturn, 1) := dk_172 (dk_at dksX6_read_1 20 rfl rfl)
theorem dX6_read_44 : decode cX6_read 44 = .ok (.aload_n 0, 1) := dk_42 (dk_at dksX6_read_1 21 rfl rfl)
theorem dX6_read_45 : decode cX6_read 45 = .ok (.getfield 7, 3) := dk_180 0 7 (dk_at dksX6_read_2 0 rfl rfl)
theorem dX6_read_48 : decode cX6_read 48 = .ok (.iconst 0, 1) := dk_3 (dk_at dksX6_read_2 3 rfl rfl)
theorem dX6_read_49 : decode cX6_read 49 = .ok (.aload_n 0, 1) := dk_42 (dk_at dksX6_read_2 4 rfl rfl)
theorem dX6_read_50 : decode cX6_read 50 = .ok (.getfield 19, 3) := dk_180 0 19 (dk_at dksX6_read_2 5 rfl rfl)
theorem dX6_read_53 : decode cX6_read 53 = .ok (.iconst 0, 1) := dk_3 (dk_at dksX6_read_2 8 rfl rfl)
theorem dX6_read_54 : decode cX6_read 54 = .ok (.invokestatic 60, 3) := dk_184 0 60 (dk_at dksX6_read_2 9 rfl rfl)
theorem dX6_read_57 : decode cX6_read 57 = .ok (.aload_n 0, 1) := dk_42 (dk_at dksX6_read_2 12 rfl rfl)
theorem dX6_read_58 : decode cX6_read 58 = .ok (.iconst 1, 1) := dk_4 (dk_at dksX6_read_2 13 rfl rfl)
theorem dX6_read_59 : decode cX6_read 59 = .ok (.putfield 53, 3) := dk_181 0 53 (dk_at dksX6_read_2 14 rfl rfl)
theorem dX6_read_62 : decode cX6_read 62 = .ok (.iconst 0, 1) := dk_3 (dk_at dksX6_read_2 17 rfl rfl)
theorem dX6_read_63 : decode cX6_read 63 = .ok (.istore_n 2, 1) := dk_61 (dk_at dksX6_read_2 18 rfl rfl)
theorem dX6_read_64 : decode cX6_read 64 = .ok (.iconst 0, 1) := dk_3 (dk_at dksX6_read_2 19 rfl rfl)
theorem dX6_read_65 : decode cX6_read 65 = .ok (.istore_n 3, 1) := dk_62 (dk_at dksX6_read_2 20 rfl rfl)
theorem dX6_read_66 : decode cX6_read 66 = .ok (.aload_n 0, 1) := dk_42 (dk_at dksX6_read_2 21 rfl rfl)
theorem dX6_read_67 : decode cX6_read 67 = .ok (.iconst 0, 1) := dk_3 (dk_at dksX6_read_2 22 rfl rfl)
theorem dX6_read_68 : decode cX6_read 68 = .ok (.putfield 47, 3) := dk_181 0 47 (dk_at dksX6_read_3 0 rfl rfl)
theorem dX6_read_71 : decode cX6_read 71 = .ok (.iload_n 2, 1) := dk_28 (dk_at dksX6_read_3 3 rfl rfl)
theorem dX6_read_72 : decode cX6_read 72 = .ok (.aload_n 0, 1) := dk_42 (dk_at dksX6_read_3 4 rfl rfl)
theorem dX6_read_73 : decode cX6_read 73 = .ok (.getfield 172, 3) := dk_180 0 172 (dk_at dksX6_read_3 5 rfl rfl)
theorem dX6_read_76 : decode cX6_read 76 = .ok (.if_icmp .ge 24, 3) := dk_162 0 24 (dk_at dksX6_read_3 8 rfl rfl)
theorem dX6_read_79 : decode cX6_read 79 = .ok (.aload_n 0, 1) := dk_42 (dk_at dksX6_read_3 11 rfl rfl)
theorem dX6_read_80 : decode cX6_read 80 = .ok (.getfield 47, 3) := dk_180 0 47 (dk_at dksX6_read_3 12 rfl rfl)
theorem dX6_read_83 : decode cX6_read 83 = .ok (.ifCond .ne 17, 3) := dk_154 0 17 (dk_at dksX6_read_3 15 rfl rfl)
theorem dX6_read_86 : decode cX6_read 86 = .ok (.aload_n 0, 1) := dk_42 (dk_at dksX6_read_3 18 rfl rfl)
theorem dX6_read_87 : decode cX6_read 87 = .ok (.iconst 5, 1) := dk_8 (dk_at dksX6_read_3 19 rfl rfl)
theorem dX6_read_88 : decode cX6_read 88 = .ok (.iload_n 2, 1) := dk_28 (dk_at dksX6_read_3 20 rfl rfl)
theorem dX6_read_89 : decode cX6_read 89 = .ok (.imul, 1) := dk_104 (dk_at dksX6_read_3 21 rfl rfl)
theorem dX6_read_90 : decode cX6_read 90 = .ok (.invokevirtual 203, 3) := dk_182 0 203 (dk_at dksX6_read_4 0 rfl rfl)
theorem dX6_read_93 : decode cX6_read 93 = .ok (.istore_n 3, 1) := dk_62 (dk_at dksX6_read_4 3 rfl rfl)
theorem dX6_read_94 : decode cX6_read 94 = .ok (.iinc 2 1, 3) := dk_132 2 1 (dk_at dksX6_read_4 4 rfl rfl)
theorem dX6_read_97 : decode cX6_read 97 = .ok (.goto (-26), 3) := dk_167 255 230 (dk_at dksX6_read_4 7 rfl rfl)
theorem dX6_read_100 : decode cX6_read 100 = .ok (.aload_n 0, 1) := dk_42 (dk_at dksX6_read_4 10 rfl rfl)
theorem dX6_read_101 : decode cX6_read 101 = .ok (.iconst 0, 1) := dk_3 (dk_at dksX6_read_4 11 rfl rfl)
theorem dX6_read_102 : decode cX6_read 102 = .ok (.putfield 53, 3) := dk_181 0 53 (dk_at dksX6_read_4 12 rfl rfl)
theorem dX6_read_105 : decode cX6_read 105 = .ok (.aload_n 0, 1) := dk_42 (dk_at dksX6_read_4 15 rfl rfl)
theorem dX6_read_106 : decode cX6_read 106 = .ok (.getfield 47, 3) := dk_180 0 47 (dk_at dksX6_read_4 16 rfl rfl)
theorem dX6_read_109 : decode cX6_read 109 = .ok (.ifCond .le 59, 3) := dk_158 0 59 (dk_at dksX6_read_4 19 rfl rfl)
theorem dX6_read_112 : decode cX6_read 112 = .ok (.aload_n 0, 1) := dk_42 (dk_at dksX6_read_4 22 rfl rfl)
theorem dX6_read_113 : decode cX6_read 113 = .ok (.getfield 19, 3) := dk_180 0 19 (dk_at dksX6_read_5 0 rfl rfl)
theorem dX6_read_116 : decode cX6_read 116 = .ok (.iconst 0, 1) := dk_3 (dk_at dksX6_read_5 3 rfl rfl)
theorem dX6_read_117 : decode cX6_read 117 = .ok (.aload_n 0, 1) := dk_42 (dk_at dksX6_read_5 4 rfl rfl)
theorem dX6_read_118 : decode cX6_read 118 = .ok (.getfield 7, 3) := dk_180 0 7 (dk_at dksX6_read_5 5 rfl rfl)
theorem dX6_read_121 : decode cX6_read 121 = .ok (.iconst 0, 1) := dk_3 (dk_at dksX6_read_5 8 rfl rfl)
theorem dX6_read_122 : decode cX6_read 122 = .ok (.invokestatic 60, 3) := dk_184 0 60 (dk_at dksX6_read_5 9 rfl rfl)
theorem dX6_read_125 : decode cX6_read 125 = .ok (.aload_n 0, 1) := dk_42 (dk_at dksX6_read_5 12 rfl rfl)
theorem dX6_read_126 : decode cX6_read 126 = .ok (.getfield 47, 3) := dk_180 0 47 (dk_at dksX6_read_5 13 rfl rfl)
theorem dX6_read_129 : decode cX6_read 129 = .ok (.iload_n 3, 1) := dk_29 (dk_at dksX6_read_5 16 rfl rfl)
theorem dX6_read_130 : decode cX6_read 130 = .ok (.if_icmp .ne 7, 3) := dk_160 0 7 (dk_at dksX6_read_5 17 rfl rfl)
theorem dX6_read_133 : decode cX6_read 133 = .ok (.iconst 1, 1) := dk_4 (dk_at dksX6_read_5 20 rfl rfl)
theorem dX6_read_134 : decode cX6_read 134 = .ok (.goto 4, 3) := dk_167 0 4 (dk_at dksX6_read_5 21 rfl rfl)
theorem dX6_read_137 : decode cX6_read 137 = .ok (.iconst 0, 1) := dk_3 (dk_at dksX6_read_6 0 rfl rfl)
theorem dX6_read_138 : decode cX6_read 138 = .ok (.istore 4, 2) := dk_54 4 (dk_at dksX6_read_6 1 rfl rfl)
theorem dX6_read_140 : decode cX6_read 140 = .ok (.iload 4, 2) := dk_21 4 (dk_at dksX6_read_6 3 rfl rfl)
theorem dX6_read_142 : decode cX6_read 142 = .ok (.ifCond .eq 10, 3) := dk_153 0 10 (dk_at dksX6_read_6 5 rfl rfl)
theorem dX6_read_145 : decode cX6_read 145 = .ok (.aload_n 0, 1) := dk_42 (dk_at dksX6_read_6 8 rfl rfl)
theorem dX6_read_146 : decode cX6_read 146 = .ok (.iload_n 2, 1) := dk_28 (dk_at dksX6_read_6 9 rfl rfl)
theorem dX6_read_147 : decode cX6_read 147 = .ok (.iconst 1, 1) := dk_4 (dk_at dksX6_read_6 10 rfl rfl)
theorem dX6_read_148 : decode cX6_read 148 = .ok (.isub, 1) := dk_100 (dk_at dksX6_read_6 11 rfl rfl)
theorem dX6_read_149 : decode cX6_read 149 = .ok (.putfield 32, 3) := dk_181 0 32 (dk_at dksX6_read_6 12 rfl rfl)
theorem dX6_read_152 : decode cX6_read 152 = .ok (.aload_n 0, 1) := dk_42 (dk_at dksX6_read_6 15 rfl rfl)
theorem dX6_read_153 : decode cX6_read 153 = .ok (.iload 4, 2) := dk_21 4 (dk_at dksX6_read_6 16 rfl rfl)
theorem dX6_read_155 : decode cX6_read 155 = .ok (.ifCond .eq 7, 3) := dk_153 0 7 (dk_at dksX6_read_6 18 rfl rfl)
theorem dX6_read_158 : decode cX6_read 158 = .ok (.iconst 2, 1) := dk_5 (dk_at dksX6_read_6 21 rfl rfl)
theorem dX6_read_159 : decode cX6_read 159 = .ok (.goto 4, 3) := dk_167 0 4 (dk_at dksX6_read_7 0 rfl rfl)
theorem dX6_read_162 : decode cX6_read 162 = .ok (.iconst 1, 1) := dk_4 (dk_at dksX6_read_7 3 rfl rfl)
theorem dX6_read_163 : decode cX6_read 163 = .ok (.putfield 47, 3) := dk_181 0 47 (dk_at dksX6_read_7 4 rfl rfl)
theorem dX6_read_166 : decode cX6_read 166 = .ok (.iconst 0, 1) := dk_3 (dk_at dksX6_read_7 7 rfl rfl)
theorem dX6_read_167 : decode cX6_read 167 = .ok (.ireturn, 1) := dk_172 (dk_at dksX6_read_7 8 rfl rfl)
theorem dX6_read_168 : decode cX6_read 168 = .ok (.aload_n 0, 1) := dk_42 (dk_at dksX6_read_7 9 rfl rfl)
theorem dX6_read_169 : decode cX6_read 169 = .ok (.aload_n 0, 1) := dk_42 (dk_at dksX6_read_7 10 rfl rfl)
theorem dX6_read_170 : decode cX6_read 170 = .ok (.getfield 19, 3) := dk_180 0 19 (dk_at dksX6_read_7 11 rfl rfl)
theorem dX6_read_173 : decode cX6_read 173 = .ok (.invokevirtual 79, 3) := dk_182 0 79 (dk_at dksX6_read_7 14 rfl rfl)
theorem dX6_read_176 : decode cX6_read 176 = .ok (.aload_n 0, 1) := dk_42 (dk_at dksX6_read_7 17 rfl rfl)
theorem dX6_read_177 : decode cX6_read 177 = .ok (.getfield 172, 3) := dk_180 0 172 (dk_at dksX6_read_7 18 rfl rfl)
theorem dX6_read_180 : decode cX6_read 180 = .ok (.ireturn, 1) := dk_172 (dk_at dksX6_read_7 21 rfl rfl)
abbrev cX6_isText : ByteArray := prog_21_method_57_code
def yX6_isText : MethodName := ⟨RX6, "isText", "()Z"⟩
def dkwX6_isText_2 : List UInt8 := [160, 0, 7, 4, 167, 0, 4, 3, 172]
abbrev dktX6_isText_2 : List UInt8 := dkwX6_isText_2 ++ []
def dkwX6_isText_1 : List UInt8 := [4, 96, 181, 0, 172, 42, 16, 59, 182, 0, 166, 154, 255, 231, 42, 180, 0, 157, 42, 180, 0, 154]
abbrev dktX6_isText_1 : List UInt8 := dkwX6_isText_1 ++ dktX6_isText_2
def dkwX6_isText_0 : List UInt8 := [42, 3, 181, 0, 157, 42, 3, 181, 0, 172, 42, 182, 0, 179, 154, 0, 5, 3, 172, 42, 89, 180, 0, 172]
abbrev dktX6_isText_0 : List UInt8 := dkwX6_isText_0 ++ dktX6_isText_1
theorem dksX6_isText_0 : cX6_isText.data.toList.drop 0 = dktX6_isText_0 := by decide +kernel
theorem dksX6_isText_1 : cX6_isText.data.toList.drop 24 = dktX6_isText_1 := dk_seg dksX6_isText_0 24 rfl rfl
theorem dksX6_isText_2 : cX6_isText.data.toList.drop 46 = dktX6_isText_2 := dk_seg dksX6_isText_1 22 rfl rfl
theorem dX6_isText_0 : decode cX6_isText 0 = .ok (.aload_n 0, 1) := dk_42 (dk_at dksX6_isText_0 0 rfl rfl)
theorem dX6_isText_1 : decode cX6_isText 1 = .ok (.iconst 0, 1) := dk_3 (dk_at dksX6_isText_0 1 rfl rfl)
theorem dX6_isText_2 : decode cX6_isText 2 = .ok (.putfield 157, 3) := dk_181 0 157 (dk_at dksX6_isText_0 2 rfl rfl)
theorem dX6_isText_5 : decode cX6_isText 5 = .ok (.aload_n 0, 1) := dk_42 (dk_at dksX6_isText_0 5 rfl rfl)
theorem dX6_isText_6 : decode cX6_isText 6 = .ok (.iconst 0, 1) := dk_3 (dk_at dksX6_isText_0 6 rfl rfl)
theorem dX6_isText_7 : decode cX6_isText 7 = .ok (.putfield 172, 3) := dk_181 0 172 (dk_at dksX6_isText_0 7 rfl rfl)
theorem dX6_isText_10 : decode cX6_isText 10 = .ok (.aload_n 0, 1) := dk_42 (dk_at dksX6_isText_0 10 rfl rfl)
theorem dX6_isText_11 : decode cX6_isText 11 = .ok (.invokevirtual 179, 3) := dk_182 0 179 (dk_at dksX6_isText_0 11 rfl rfl)
theorem dX6_isText_14 : decode cX6_isText 14 = .ok (.ifCond .ne 5, 3) := dk_154 0 5 (dk_at dksX6_isText_0 14 rfl rfl)
theorem dX6_isText_17 : decode cX6_isText 17 = .ok (.iconst 0, 1) := dk_3 (dk_at dksX6_isText_0 17 rfl rfl)
theorem dX6_isText_18 : decode cX6_isText 18 = .ok (.ireturn, 1) := dk_172 (dk_at dksX6_isText_0 18 rfl rfl)
theorem dX6_isText_19 : decode cX6_isText 19 = .ok (.aload_n 0, 1) := dk_42 (dk_at dksX6_isText_0 19 rfl rfl)
theorem dX6_isText_20 : decode cX6_isText 20 = .ok (.dup, 1) := dk_89 (dk_at dksX6_isText_0 20 rfl rfl)
theorem dX6_isText_21 : decode cX6_isText 21 = .ok (.getfield 172, 3) := dk_180 0 172 (dk_at dksX6_isText_0 21 rfl rfl)
theorem dX6_isText_24 : decode cX6_isText 24 = .ok (.iconst 1, 1) := dk_4 (dk_at dksX6_isText_1 0 rfl rfl)
theorem dX6_isText_25 : decode cX6_isText 25 = .ok (.iadd, 1) := dk_96 (dk_at dksX6_isText_1 1 rfl rfl)
theorem dX6_isText_26 : decode cX6_isText 26 = .ok (.putfield 172, 3) := dk_181 0 172 (dk_at dksX6_isText_1 2 rfl rfl)
theorem dX6_isText_29 : decode cX6_isText 29 = .ok (.aload_n 0, 1) := dk_42 (dk_at dksX6_isText_1 5 rfl rfl)
theorem dX6_isText_30 : decode cX6_isText 30 = .ok (.bipush 59, 2) := dk_16 59 (dk_at dksX6_isText_1 6 rfl rfl)
theorem dX6_isText_32 : decode cX6_isText 32 = .ok (.invokevirtual 166, 3) := dk_182 0 166 (dk_at dksX6_isText_1 8 rfl rfl)
theorem dX6_isText_35 : decode cX6_isText 35 = .ok (.ifCond .ne (-25), 3) := dk_154 255 231 (dk_at dksX6_isText_1 11 rfl rfl)
theorem dX6_isText_38 : decode cX6_isText 38 = .ok (.aload_n 0, 1) := dk_42 (dk_at dksX6_isText_1 14 rfl rfl)
theorem dX6_isText_39 : decode cX6_isText 39 = .ok (.getfield 157, 3) := dk_180 0 157 (dk_at dksX6_isText_1 15 rfl rfl)
theorem dX6_isText_42 : decode cX6_isText 42 = .ok (.aload_n 0, 1) := dk_42 (dk_at dksX6_isText_1 18 rfl rfl)
theorem dX6_isText_43 : decode cX6_isText 43 = .ok (.getfield 154, 3) := dk_180 0 154 (dk_at dksX6_isText_1 19 rfl rfl)
theorem dX6_isText_46 : decode cX6_isText 46 = .ok (.if_icmp .ne 7, 3) := dk_160 0 7 (dk_at dksX6_isText_2 0 rfl rfl)
theorem dX6_isText_49 : decode cX6_isText 49 = .ok (.iconst 1, 1) := dk_4 (dk_at dksX6_isText_2 3 rfl rfl)
theorem dX6_isText_50 : decode cX6_isText 50 = .ok (.goto 4, 3) := dk_167 0 4 (dk_at dksX6_isText_2 4 rfl rfl)
theorem dX6_isText_53 : decode cX6_isText 53 = .ok (.iconst 0, 1) := dk_3 (dk_at dksX6_isText_2 7 rfl rfl)
theorem dX6_isText_54 : decode cX6_isText 54 = .ok (.ireturn, 1) := dk_172 (dk_at dksX6_isText_2 8 rfl rfl)
abbrev cX6_orderHere : ByteArray := prog_21_method_56_code
def yX6_orderHere : MethodName := ⟨RX6, "orderHere", "()Z"⟩
def dkwX6_orderHere_11 : List UInt8 := [167, 0, 4, 3, 172]
abbrev dktX6_orderHere_11 : List UInt8 := dkwX6_orderHere_11 ++ []
def dkwX6_orderHere_10 : List UInt8 := [3, 172, 42, 16, 116, 182, 0, 166, 153, 0, 17, 42, 27, 4, 96, 182, 0, 169, 153, 0, 7, 4]
abbrev dktX6_orderHere_10 : List UInt8 := dkwX6_orderHere_10 ++ dktX6_orderHere_11
def dkwX6_orderHere_9 : List UInt8 := [27, 4, 96, 182, 0, 163, 153, 0, 18, 42, 27, 5, 96, 3, 182, 0, 175, 153, 0, 7, 4, 167, 0, 4]
abbrev dktX6_orderHere_9 : List UInt8 := dkwX6_orderHere_9 ++ dktX6_orderHere_10
def dkwX6_orderHere_8 : List UInt8 := [182, 0, 166, 153, 0, 11, 42, 27, 4, 96, 182, 0, 163, 172, 42, 16, 114, 182, 0, 166, 153, 0, 30, 42]
abbrev dktX6_orderHere_8 : List UInt8 := dkwX6_orderHere_8 ++ dktX6_orderHere_9
def dkwX6_orderHere_7 : List UInt8 := [153, 0, 17, 42, 27, 7, 96, 182, 0, 163, 153, 0, 7, 4, 167, 0, 4, 3, 172, 42, 16, 117]
abbrev dktX6_orderHere_7 : List UInt8 := dkwX6_orderHere_7 ++ dktX6_orderHere_8
def dkwX6_orderHere_6 : List UInt8 := [182, 0, 166, 153, 0, 36, 42, 27, 6, 96, 182, 0, 169, 153, 0, 26, 42, 16, 35, 182, 0, 166]
abbrev dktX6_orderHere_6 : List UInt8 := dkwX6_orderHere_6 ++ dktX6_orderHere_7
def dkwX6_orderHere_5 : List UInt8 := [42, 16, 64, 182, 0, 166, 153, 0, 55, 42, 27, 5, 96, 182, 0, 169, 153, 0, 45, 42, 16, 42]
abbrev dktX6_orderHere_5 : List UInt8 := dkwX6_orderHere_5 ++ dktX6_orderHere_6
def dkwX6_orderHere_4 : List UInt8 := [167, 0, 4, 3, 172, 42, 16, 107, 182, 0, 166, 153, 0, 76, 42, 27, 4, 96, 182, 0, 163, 153, 0, 64]
abbrev dktX6_orderHere_4 : List UInt8 := dkwX6_orderHere_4 ++ dktX6_orderHere_5
def dkwX6_orderHere_3 : List UInt8 := [159, 0, 12, 42, 182, 0, 160, 16, 45, 160, 0, 14, 42, 27, 6, 96, 4, 182, 0, 175, 153, 0, 7, 4]
abbrev dktX6_orderHere_3 : List UInt8 := dkwX6_orderHere_3 ++ dktX6_orderHere_4
def dkwX6_orderHere_2 : List UInt8 := [182, 0, 166, 153, 0, 46, 42, 27, 5, 96, 182, 0, 163, 153, 0, 36, 42, 182, 0, 160, 16, 43]
abbrev dktX6_orderHere_2 : List UInt8 := dkwX6_orderHere_2 ++ dktX6_orderHere_3
def dkwX6_orderHere_1 : List UInt8 := [3, 79, 42, 16, 119, 182, 0, 166, 153, 0, 67, 42, 27, 4, 96, 182, 0, 163, 153, 0, 55, 42, 16, 58]
abbrev dktX6_orderHere_1 : List UInt8 := dkwX6_orderHere_1 ++ dktX6_orderHere_2
def dkwX6_orderHere_0 : List UInt8 := [8, 42, 180, 0, 172, 104, 60, 42, 180, 0, 44, 27, 42, 182, 0, 160, 79, 42, 180, 0, 44, 27, 6, 96]
abbrev dktX6_orderHere_0 : List UInt8 := dkwX6_orderHere_0 ++ dktX6_orderHere_1
theorem dksX6_orderHere_0 : cX6_orderHere.data.toList.drop 0 = dktX6_orderHere_0 := by decide +kernel
theorem dksX6_orderHere_1 : cX6_orderHere.data.toList.drop 24 = dktX6_orderHere_1 := dk_seg dksX6_orderHere_0 24 rfl rfl
theorem dksX6_orderHere_2 : cX6_orderHere.data.toList.drop 48 = dktX6_orderHere_2 := dk_seg dksX6_orderHere_1 24 rfl rfl
theorem dksX6_orderHere_3 : cX6_orderHere.data.toList.drop 70 = dktX6_orderHere_3 := dk_seg dksX6_orderHere_2 22 rfl rfl
theorem dksX6_orderHere_4 : cX6_orderHere.data.toList.drop 94 = dktX6_orderHere_4 := dk_seg dksX6_orderHere_3 24 rfl rfl
theorem dksX6_orderHere_5 : cX6_orderHere.data.toList.drop 118 = dktX6_orderHere_5 := dk_seg dksX6_orderHere_4 24 rfl rfl
theorem dksX6_orderHere_6 : cX6_orderHere.data.toList.drop 140 = dktX6_orderHere_6 := dk_seg dksX6_orderHere_5 22 rfl rfl
theorem dksX6_orderHere_7 : cX6_orderHere.data.toList.drop 162 = dktX6_orderHere_7 := dk_seg dksX6_orderHere_6 22 rfl rfl
theorem dksX6_orderHere_8 : cX6_orderHere.data.toList.drop 184 = dktX6_orderHere_8 := dk_seg dksX6_orderHere_7 22 rfl rfl
theorem dksX6_orderHere_9 : cX6_orderHere.data.toList.drop 208 = dktX6_orderHere_9 := dk_seg dksX6_orderHere_8 24 rfl rfl
theorem dksX6_orderHere_10 : cX6_orderHere.data.toList.drop 232 = dktX6_orderHere_10 := dk_seg dksX6_orderHere_9 24 rfl rfl
theorem dksX6_orderHere_11 : cX6_orderHere.data.toList.drop 254 = dktX6_orderHere_11 := dk_seg dksX6_orderHere_10 22 rfl rfl
theorem dX6_orderHere_0 : decode cX6_orderHere 0 = .ok (.iconst 5, 1) := dk_8 (dk_at dksX6_orderHere_0 0 rfl rfl)
theorem dX6_orderHere_1 : decode cX6_orderHere 1 = .ok (.aload_n 0, 1) := dk_42 (dk_at dksX6_orderHere_0 1 rfl rfl)
theorem dX6_orderHere_2 : decode cX6_orderHere 2 = .ok (.getfield 172, 3) := dk_180 0 172 (dk_at dksX6_orderHere_0 2 rfl rfl)
theorem dX6_orderHere_5 : decode cX6_orderHere 5 = .ok (.imul, 1) := dk_104 (dk_at dksX6_orderHere_0 5 rfl rfl)
theorem dX6_orderHere_6 : decode cX6_orderHere 6 = .ok (.istore_n 1, 1) := dk_60 (dk_at dksX6_orderHere_0 6 rfl rfl)
theorem dX6_orderHere_7 : decode cX6_orderHere 7 = .ok (.aload_n 0, 1) := dk_42 (dk_at dksX6_orderHere_0 7 rfl rfl)
theorem dX6_orderHere_8 : decode cX6_orderHere 8 = .ok (.getfield 44, 3) := dk_180 0 44 (dk_at dksX6_orderHere_0 8 rfl rfl)
theorem dX6_orderHere_11 : decode cX6_orderHere 11 = .ok (.iload_n 1, 1) := dk_27 (dk_at dksX6_orderHere_0 11 rfl rfl)
theorem dX6_orderHere_12 : decode cX6_orderHere 12 = .ok (.aload_n 0, 1) := dk_42 (dk_at dksX6_orderHere_0 12 rfl rfl)
theorem dX6_orderHere_13 : decode cX6_orderHere 13 = .ok (.invokevirtual 160, 3) := dk_182 0 160 (dk_at dksX6_orderHere_0 13 rfl rfl)
theorem dX6_orderHere_16 : decode cX6_orderHere 16 = .ok (.iastore, 1) := dk_79 (dk_at dksX6_orderHere_0 16 rfl rfl)
theorem dX6_orderHere_17 : decode cX6_orderHere 17 = .ok (.aload_n 0, 1) := dk_42 (dk_at dksX6_orderHere_0 17 rfl rfl)
theorem dX6_orderHere_18 : decode cX6_orderHere 18 = .ok (.getfield 44, 3) := dk_180 0 44 (dk_at dksX6_orderHere_0 18 rfl rfl)
theorem dX6_orderHere_21 : decode cX6_orderHere 21 = .ok (.iload_n 1, 1) := dk_27 (dk_at dksX6_orderHere_0 21 rfl rfl)
theorem dX6_orderHere_22 : decode cX6_orderHere 22 = .ok (.iconst 3, 1) := dk_6 (dk_at dksX6_orderHere_0 22 rfl rfl)
theorem dX6_orderHere_23 : decode cX6_orderHere 23 = .ok (.iadd, 1) := dk_96 (dk_at dksX6_orderHere_0 23 rfl rfl)
theorem dX6_orderHere_24 : decode cX6_orderHere 24 = .ok (.iconst 0, 1) := dk_3 (dk_at dksX6_orderHere_1 0 rfl rfl)
theorem dX6_orderHere_25 : decode cX6_orderHere 25 = .ok (.iastore, 1) := dk_79 (dk_at dksX6_orderHere_1 1 rfl rfl)
theorem dX6_orderHere_26 : decode cX6_orderHere 26 = .ok (.aload_n 0, 1) := dk_42 (dk_at dksX6_orderHere_1 2 rfl rfl)
theorem dX6_orderHere_27 : decode cX6_orderHere 27 = .ok (.bipush 119, 2) := dk_16 119 (dk_at dksX6_orderHere_1 3 rfl rfl)
theorem dX6_orderHere_29 : decode cX6_orderHere 29 = .ok (.invokevirtual 166, 3) := dk_182 0 166 (dk_at dksX6_orderHere_1 5 rfl rfl)
theorem dX6_orderHere_32 : decode cX6_orderHere 32 = .ok (.ifCond .eq 67, 3) := dk_153 0 67 (dk_at dksX6_orderHere_1 8 rfl rfl)
theorem dX6_orderHere_35 : decode cX6_orderHere 35 = .ok (.aload_n 0, 1) := dk_42 (dk_at dksX6_orderHere_1 11 rfl rfl)
theorem dX6_orderHere_36 : decode cX6_orderHere 36 = .ok (.iload_n 1, 1) := dk_27 (dk_at dksX6_orderHere_1 12 rfl rfl)
theorem dX6_orderHere_37 : decode cX6_orderHere 37 = .ok (.iconst 1, 1) := dk_4 (dk_at dksX6_orderHere_1 13 rfl rfl)
theorem dX6_orderHere_38 : decode cX6_orderHere 38 = .ok (.iadd, 1) := dk_96 (dk_at dksX6_orderHere_1 14 rfl rfl)
theorem dX6_orderHere_39 : decode cX6_orderHere 39 = .ok (.invokevirtual 163, 3) := dk_182 0 163 (dk_at dksX6_orderHere_1 15 rfl rfl)
theorem dX6_orderHere_42 : decode cX6_orderHere 42 = .ok (.ifCond .eq 55, 3) := dk_153 0 55 (dk_at dksX6_orderHere_1 18 rfl rfl)
theorem dX6_orderHere_45 : decode cX6_orderHere 45 = .ok (.aload_n 0, 1) := dk_42 (dk_at dksX6_orderHere_1 21 rfl rfl)
theorem dX6_orderHere_46 : decode cX6_orderHere 46 = .ok (.bipush 58, 2) := dk_16 58 (dk_at dksX6_orderHere_1 22 rfl rfl)
theorem dX6_orderHere_48 : decode cX6_orderHere 48 = .ok (.invokevirtual 166, 3) := dk_182 0 166 (dk_at dksX6_orderHere_2 0 rfl rfl)
theorem dX6_orderHere_51 : decode cX6_orderHere 51 = .ok (.ifCond .eq 46, 3) := dk_153 0 46 (dk_at dksX6_orderHere_2 3 rfl rfl)
theorem dX6_orderHere_54 : decode cX6_orderHere 54 = .ok (.aload_n 0, 1) := dk_42 (dk_at dksX6_orderHere_2 6 rfl rfl)
theorem dX6_orderHere_55 : decode cX6_orderHere 55 = .ok (.iload_n 1, 1) := dk_27 (dk_at dksX6_orderHere_2 7 rfl rfl)
theorem dX6_orderHere_56 : decode cX6_orderHere 56 = .ok (.iconst 2, 1) := dk_5 (dk_at dksX6_orderHere_2 8 rfl rfl)
theorem dX6_orderHere_57 : decode cX6_orderHere 57 = .ok (.iadd, 1) := dk_96 (dk_at dksX6_orderHere_2 9 rfl rfl)
theorem dX6_orderHere_58 : decode cX6_orderHere 58 = .ok (.invokevirtual 163, 3) := dk_182 0 163 (dk_at dksX6_orderHere_2 10 rfl rfl)
theorem dX6_orderHere_61 : decode cX6_orderHere 61 = .ok (.ifCond .eq 36, 3) := dk_153 0 36 (dk_at dksX6_orderHere_2 13 rfl rfl)
theorem dX6_orderHere_64 : decode cX6_orderHere 64 = .ok (.aload_n 0, 1) := dk_42 (dk_at dksX6_orderHere_2 16 rfl rfl)
theorem dX6_orderHere_65 : decode cX6_orderHere 65 = .ok (.invokevirtual 160, 3) := dk_182 0 160 (dk_at dksX6_orderHere_2 17 rfl rfl)
theorem dX6_orderHere_68 : decode cX6_orderHere 68 = .ok (.bipush 43, 2) := dk_16 43 (dk_at dksX6_orderHere_2 20 rfl rfl)
theorem dX6_orderHere_70 : decode cX6_orderHere 70 = .ok (.if_icmp .eq 12, 3) := dk_159 0 12 (dk_at dksX6_orderHere_3 0 rfl rfl)
theorem dX6_orderHere_73 : decode cX6_orderHere 73 = .ok (.aload_n 0, 1) := dk_42 (dk_at dksX6_orderHere_3 3 rfl rfl)
theorem dX6_orderHere_74 : decode cX6_orderHere 74 = .ok (.invokevirtual 160, 3) := dk_182 0 160 (dk_at dksX6_orderHere_3 4 rfl rfl)
theorem dX6_orderHere_77 : decode cX6_orderHere 77 = .ok (.bipush 45, 2) := dk_16 45 (dk_at dksX6_orderHere_3 7 rfl rfl)
theorem dX6_orderHere_79 : decode cX6_orderHere 79 = .ok (.if_icmp .ne 14, 3) := dk_160 0 14 (dk_at dksX6_orderHere_3 9 rfl rfl)
theorem dX6_orderHere_82 : decode cX6_orderHere 82 = .ok (.aload_n 0, 1) := dk_42 (dk_at dksX6_orderHere_3 12 rfl rfl)
theorem dX6_orderHere_83 : decode cX6_orderHere 83 = .ok (.iload_n 1, 1) := dk_27 (dk_at dksX6_orderHere_3 13 rfl rfl)
theorem dX6_orderHere_84 : decode cX6_orderHere 84 = .ok (.iconst 3, 1) := dk_6 (dk_at dksX6_orderHere_3 14 rfl rfl)
theorem dX6_orderHere_85 : decode cX6_orderHere 85 = .ok (.iadd, 1) := dk_96 (dk_at dksX6_orderHere_3 15 rfl rfl)
theorem dX6_orderHere_86 : decode cX6_orderHere 86 = .ok (.iconst 1, 1) := dk_4 (dk_at dksX6_orderHere_3 16 rfl rfl)
theorem dX6_orderHere_87 : decode cX6_orderHere 87 = .ok (.invokevirtual 175, 3) := dk_182 0 175 (dk_at dksX6_orderHere_3 17 rfl rfl)
theorem dX6_orderHere_90 : decode cX6_orderHere 90 = .ok (.ifCond .eq 7, 3) := dk_153 0 7 (dk_at dksX6_orderHere_3 20 rfl rfl)
theorem dX6_orderHere_93 : decode cX6_orderHere 93 = .ok (.iconst 1, 1) := dk_4 (dk_at dksX6_orderHere_3 23 rfl rfl)
theorem dX6_orderHere_94 : decode cX6_orderHere 94 = .ok (.goto 4, 3) := dk_167 0 4 (dk_at dksX6_orderHere_4 0 rfl rfl)
theorem dX6_orderHere_97 : decode cX6_orderHere 97 = .ok (.iconst 0, 1) := dk_3 (dk_at dksX6_orderHere_4 3 rfl rfl)
theorem dX6_orderHere_98 : decode cX6_orderHere 98 = .ok (.ireturn, 1) := dk_172 (dk_at dksX6_orderHere_4 4 rfl rfl)
theorem dX6_orderHere_99 : decode cX6_orderHere 99 = .ok (.aload_n 0, 1) := dk_42 (dk_at dksX6_orderHere_4 5 rfl rfl)
theorem dX6_orderHere_100 : decode cX6_orderHere 100 = .ok (.bipush 107, 2) := dk_16 107 (dk_at dksX6_orderHere_4 6 rfl rfl)
theorem dX6_orderHere_102 : decode cX6_orderHere 102 = .ok (.invokevirtual 166, 3) := dk_182 0 166 (dk_at dksX6_orderHere_4 8 rfl rfl)
theorem dX6_orderHere_105 : decode cX6_orderHere 105 = .ok (.ifCond .eq 76, 3) := dk_153 0 76 (dk_at dksX6_orderHere_4 11 rfl rfl)
theorem dX6_orderHere_108 : decode cX6_orderHere 108 = .ok (.aload_n 0, 1) := dk_42 (dk_at dksX6_orderHere_4 14 rfl rfl)
theorem dX6_orderHere_109 : decode cX6_orderHere 109 = .ok (.iload_n 1, 1) := dk_27 (dk_at dksX6_orderHere_4 15 rfl rfl)
theorem dX6_orderHere_110 : decode cX6_orderHere 110 = .ok (.iconst 1, 1) := dk_4 (dk_at dksX6_orderHere_4 16 rfl rfl)
theorem dX6_orderHere_111 : decode cX6_orderHere 111 = .ok (.iadd, 1) := dk_96 (dk_at dksX6_orderHere_4 17 rfl rfl)
theorem dX6_orderHere_112 : decode cX6_orderHere 112 = .ok (.invokevirtual 163, 3) := dk_182 0 163 (dk_at dksX6_orderHere_4 18 rfl rfl)
theorem dX6_orderHere_115 : decode cX6_orderHere 115 = .ok (.ifCond .eq 64, 3) := dk_153 0 64 (dk_at dksX6_orderHere_4 21 rfl rfl)
theorem dX6_orderHere_118 : decode cX6_orderHere 118 = .ok (.aload_n 0, 1) := dk_42 (dk_at dksX6_orderHere_5 0 rfl rfl)
theorem dX6_orderHere_119 : decode cX6_orderHere 119 = .ok (.bipush 64, 2) := dk_16 64 (dk_at dksX6_orderHere_5 1 rfl rfl)
theorem dX6_orderHere_121 : decode cX6_orderHere 121 = .ok (.invokevirtual 166, 3) := dk_182 0 166 (dk_at dksX6_orderHere_5 3 rfl rfl)
theorem dX6_orderHere_124 : decode cX6_orderHere 124 = .ok (.ifCond .eq 55, 3) := dk_153 0 55 (dk_at dksX6_orderHere_5 6 rfl rfl)
theorem dX6_orderHere_127 : decode cX6_orderHere 127 = .ok (.aload_n 0, 1) := dk_42 (dk_at dksX6_orderHere_5 9 rfl rfl)
theorem dX6_orderHere_128 : decode cX6_orderHere 128 = .ok (.iload_n 1, 1) := dk_27 (dk_at dksX6_orderHere_5 10 rfl rfl)
theorem dX6_orderHere_129 : decode cX6_orderHere 129 = .ok (.iconst 2, 1) := dk_5 (dk_at dksX6_orderHere_5 11 rfl rfl)
theorem dX6_orderHere_130 : decode cX6_orderHere 130 = .ok (.iadd, 1) := dk_96 (dk_at dksX6_orderHere_5 12 rfl rfl)
theorem dX6_orderHere_131 : decode cX6_orderHere 131 = .ok (.invokevirtual 169, 3) := dk_182 0 169 (dk_at dksX6_orderHere_5 13 rfl rfl)
theorem dX6_orderHere_134 : decode cX6_orderHere 134 = .ok (.ifCond .eq 45, 3) := dk_153 0 45 (dk_at dksX6_orderHere_5 16 rfl rfl)
theorem dX6_orderHere_137 : decode cX6_orderHere 137 = .ok (.aload_n 0, 1) := dk_42 (dk_at dksX6_orderHere_5 19 rfl rfl)
theorem dX6_orderHere_138 : decode cX6_orderHere 138 = .ok (.bipush 42, 2) := dk_16 42 (dk_at dksX6_orderHere_5 20 rfl rfl)
theorem dX6_orderHere_140 : decode cX6_orderHere 140 = .ok (.invokevirtual 166, 3) := dk_182 0 166 (dk_at dksX6_orderHere_6 0 rfl rfl)
theorem dX6_orderHere_143 : decode cX6_orderHere 143 = .ok (.ifCond .eq 36, 3) := dk_153 0 36 (dk_at dksX6_orderHere_6 3 rfl rfl)
theorem dX6_orderHere_146 : decode cX6_orderHere 146 = .ok (.aload_n 0, 1) := dk_42 (dk_at dksX6_orderHere_6 6 rfl rfl)
theorem dX6_orderHere_147 : decode cX6_orderHere 147 = .ok (.iload_n 1, 1) := dk_27 (dk_at dksX6_orderHere_6 7 rfl rfl)
theorem dX6_orderHere_148 : decode cX6_orderHere 148 = .ok (.iconst 3, 1) := dk_6 (dk_at dksX6_orderHere_6 8 rfl rfl)
theorem dX6_orderHere_149 : decode cX6_orderHere 149 = .ok (.iadd, 1) := dk_96 (dk_at dksX6_orderHere_6 9 rfl rfl)
theorem dX6_orderHere_150 : decode cX6_orderHere 150 = .ok (.invokevirtual 169, 3) := dk_182 0 169 (dk_at dksX6_orderHere_6 10 rfl rfl)
theorem dX6_orderHere_153 : decode cX6_orderHere 153 = .ok (.ifCond .eq 26, 3) := dk_153 0 26 (dk_at dksX6_orderHere_6 13 rfl rfl)
theorem dX6_orderHere_156 : decode cX6_orderHere 156 = .ok (.aload_n 0, 1) := dk_42 (dk_at dksX6_orderHere_6 16 rfl rfl)
theorem dX6_orderHere_157 : decode cX6_orderHere 157 = .ok (.bipush 35, 2) := dk_16 35 (dk_at dksX6_orderHere_6 17 rfl rfl)
theorem dX6_orderHere_159 : decode cX6_orderHere 159 = .ok (.invokevirtual 166, 3) := dk_182 0 166 (dk_at dksX6_orderHere_6 19 rfl rfl)
theorem dX6_orderHere_162 : decode cX6_orderHere 162 = .ok (.ifCond .eq 17, 3) := dk_153 0 17 (dk_at dksX6_orderHere_7 0 rfl rfl)
theorem dX6_orderHere_165 : decode cX6_orderHere 165 = .ok (.aload_n 0, 1) := dk_42 (dk_at dksX6_orderHere_7 3 rfl rfl)
theorem dX6_orderHere_166 : decode cX6_orderHere 166 = .ok (.iload_n 1, 1) := dk_27 (dk_at dksX6_orderHere_7 4 rfl rfl)
theorem dX6_orderHere_167 : decode cX6_orderHere 167 = .ok (.iconst 4, 1) := dk_7 (dk_at dksX6_orderHere_7 5 rfl rfl)
theorem dX6_orderHere_168 : decode cX6_orderHere 168 = .ok (.iadd, 1) := dk_96 (dk_at dksX6_orderHere_7 6 rfl rfl)
theorem dX6_orderHere_169 : decode cX6_orderHere 169 = .ok (.invokevirtual 163, 3) := dk_182 0 163 (dk_at dksX6_orderHere_7 7 rfl rfl)
theorem dX6_orderHere_172 : decode cX6_orderHere 172 = .ok (.ifCond .eq 7, 3) := dk_153 0 7 (dk_at dksX6_orderHere_7 10 rfl rfl)
theorem dX6_orderHere_175 : decode cX6_orderHere 175 = .ok (.iconst 1, 1) := dk_4 (dk_at dksX6_orderHere_7 13 rfl rfl)
theorem dX6_orderHere_176 : decode cX6_orderHere 176 = .ok (.goto 4, 3) := dk_167 0 4 (dk_at dksX6_orderHere_7 14 rfl rfl)
theorem dX6_orderHere_179 : decode cX6_orderHere 179 = .ok (.iconst 0, 1) := dk_3 (dk_at dksX6_orderHere_7 17 rfl rfl)
theorem dX6_orderHere_180 : decode cX6_orderHere 180 = .ok (.ireturn, 1) := dk_172 (dk_at dksX6_orderHere_7 18 rfl rfl)
theorem dX6_orderHere_181 : decode cX6_orderHere 181 = .ok (.aload_n 0, 1) := dk_42 (dk_at dksX6_orderHere_7 19 rfl rfl)
theorem dX6_orderHere_182 : decode cX6_orderHere 182 = .ok (.bipush 117, 2) := dk_16 117 (dk_at dksX6_orderHere_7 20 rfl rfl)
theorem dX6_orderHere_184 : decode cX6_orderHere 184 = .ok (.invokevirtual 166, 3) := dk_182 0 166 (dk_at dksX6_orderHere_8 0 rfl rfl)
theorem dX6_orderHere_187 : decode cX6_orderHere 187 = .ok (.ifCond .eq 11, 3) := dk_153 0 11 (dk_at dksX6_orderHere_8 3 rfl rfl)
theorem dX6_orderHere_190 : decode cX6_orderHere 190 = .ok (.aload_n 0, 1) := dk_42 (dk_at dksX6_orderHere_8 6 rfl rfl)
theorem dX6_orderHere_191 : decode cX6_orderHere 191 = .ok (.iload_n 1, 1) := dk_27 (dk_at dksX6_orderHere_8 7 rfl rfl)
theorem dX6_orderHere_192 : decode cX6_orderHere 192 = .ok (.iconst 1, 1) := dk_4 (dk_at dksX6_orderHere_8 8 rfl rfl)
theorem dX6_orderHere_193 : decode cX6_orderHere 193 = .ok (.iadd, 1) := dk_96 (dk_at dksX6_orderHere_8 9 rfl rfl)
theorem dX6_orderHere_194 : decode cX6_orderHere 194 = .ok (.invokevirtual 163, 3) := dk_182 0 163 (dk_at dksX6_orderHere_8 10 rfl rfl)
theorem dX6_orderHere_197 : decode cX6_orderHere 197 = .ok (.ireturn, 1) := dk_172 (dk_at dksX6_orderHere_8 13 rfl rfl)
theorem dX6_orderHere_198 : decode cX6_orderHere 198 = .ok (.aload_n 0, 1) := dk_42 (dk_at dksX6_orderHere_8 14 rfl rfl)
theorem dX6_orderHere_199 : decode cX6_orderHere 199 = .ok (.bipush 114, 2) := dk_16 114 (dk_at dksX6_orderHere_8 15 rfl rfl)
theorem dX6_orderHere_201 : decode cX6_orderHere 201 = .ok (.invokevirtual 166, 3) := dk_182 0 166 (dk_at dksX6_orderHere_8 17 rfl rfl)
theorem dX6_orderHere_204 : decode cX6_orderHere 204 = .ok (.ifCond .eq 30, 3) := dk_153 0 30 (dk_at dksX6_orderHere_8 20 rfl rfl)
theorem dX6_orderHere_207 : decode cX6_orderHere 207 = .ok (.aload_n 0, 1) := dk_42 (dk_at dksX6_orderHere_8 23 rfl rfl)
theorem dX6_orderHere_208 : decode cX6_orderHere 208 = .ok (.iload_n 1, 1) := dk_27 (dk_at dksX6_orderHere_9 0 rfl rfl)
theorem dX6_orderHere_209 : decode cX6_orderHere 209 = .ok (.iconst 1, 1) := dk_4 (dk_at dksX6_orderHere_9 1 rfl rfl)
theorem dX6_orderHere_210 : decode cX6_orderHere 210 = .ok (.iadd, 1) := dk_96 (dk_at dksX6_orderHere_9 2 rfl rfl)
theorem dX6_orderHere_211 : decode cX6_orderHere 211 = .ok (.invokevirtual 163, 3) := dk_182 0 163 (dk_at dksX6_orderHere_9 3 rfl rfl)
theorem dX6_orderHere_214 : decode cX6_orderHere 214 = .ok (.ifCond .eq 18, 3) := dk_153 0 18 (dk_at dksX6_orderHere_9 6 rfl rfl)
theorem dX6_orderHere_217 : decode cX6_orderHere 217 = .ok (.aload_n 0, 1) := dk_42 (dk_at dksX6_orderHere_9 9 rfl rfl)
theorem dX6_orderHere_218 : decode cX6_orderHere 218 = .ok (.iload_n 1, 1) := dk_27 (dk_at dksX6_orderHere_9 10 rfl rfl)
theorem dX6_orderHere_219 : decode cX6_orderHere 219 = .ok (.iconst 2, 1) := dk_5 (dk_at dksX6_orderHere_9 11 rfl rfl)
theorem dX6_orderHere_220 : decode cX6_orderHere 220 = .ok (.iadd, 1) := dk_96 (dk_at dksX6_orderHere_9 12 rfl rfl)
theorem dX6_orderHere_221 : decode cX6_orderHere 221 = .ok (.iconst 0, 1) := dk_3 (dk_at dksX6_orderHere_9 13 rfl rfl)
theorem dX6_orderHere_222 : decode cX6_orderHere 222 = .ok (.invokevirtual 175, 3) := dk_182 0 175 (dk_at dksX6_orderHere_9 14 rfl rfl)
theorem dX6_orderHere_225 : decode cX6_orderHere 225 = .ok (.ifCond .eq 7, 3) := dk_153 0 7 (dk_at dksX6_orderHere_9 17 rfl rfl)
theorem dX6_orderHere_228 : decode cX6_orderHere 228 = .ok (.iconst 1, 1) := dk_4 (dk_at dksX6_orderHere_9 20 rfl rfl)
theorem dX6_orderHere_229 : decode cX6_orderHere 229 = .ok (.goto 4, 3) := dk_167 0 4 (dk_at dksX6_orderHere_9 21 rfl rfl)
theorem dX6_orderHere_232 : decode cX6_orderHere 232 = .ok (.iconst 0, 1) := dk_3 (dk_at dksX6_orderHere_10 0 rfl rfl)
theorem dX6_orderHere_233 : decode cX6_orderHere 233 = .ok (.ireturn, 1) := dk_172 (dk_at dksX6_orderHere_10 1 rfl rfl)
theorem dX6_orderHere_234 : decode cX6_orderHere 234 = .ok (.aload_n 0, 1) := dk_42 (dk_at dksX6_orderHere_10 2 rfl rfl)
theorem dX6_orderHere_235 : decode cX6_orderHere 235 = .ok (.bipush 116, 2) := dk_16 116 (dk_at dksX6_orderHere_10 3 rfl rfl)
theorem dX6_orderHere_237 : decode cX6_orderHere 237 = .ok (.invokevirtual 166, 3) := dk_182 0 166 (dk_at dksX6_orderHere_10 5 rfl rfl)
theorem dX6_orderHere_240 : decode cX6_orderHere 240 = .ok (.ifCond .eq 17, 3) := dk_153 0 17 (dk_at dksX6_orderHere_10 8 rfl rfl)
theorem dX6_orderHere_243 : decode cX6_orderHere 243 = .ok (.aload_n 0, 1) := dk_42 (dk_at dksX6_orderHere_10 11 rfl rfl)
theorem dX6_orderHere_244 : decode cX6_orderHere 244 = .ok (.iload_n 1, 1) := dk_27 (dk_at dksX6_orderHere_10 12 rfl rfl)
theorem dX6_orderHere_245 : decode cX6_orderHere 245 = .ok (.iconst 1, 1) := dk_4 (dk_at dksX6_orderHere_10 13 rfl rfl)
theorem dX6_orderHere_246 : decode cX6_orderHere 246 = .ok (.iadd, 1) := dk_96 (dk_at dksX6_orderHere_10 14 rfl rfl)
theorem dX6_orderHere_247 : decode cX6_orderHere 247 = .ok (.invokevirtual 169, 3) := dk_182 0 169 (dk_at dksX6_orderHere_10 15 rfl rfl)
theorem dX6_orderHere_250 : decode cX6_orderHere 250 = .ok (.ifCond .eq 7, 3) := dk_153 0 7 (dk_at dksX6_orderHere_10 18 rfl rfl)
theorem dX6_orderHere_253 : decode cX6_orderHere 253 = .ok (.iconst 1, 1) := dk_4 (dk_at dksX6_orderHere_10 21 rfl rfl)
theorem dX6_orderHere_254 : decode cX6_orderHere 254 = .ok (.goto 4, 3) := dk_167 0 4 (dk_at dksX6_orderHere_11 0 rfl rfl)
theorem dX6_orderHere_257 : decode cX6_orderHere 257 = .ok (.iconst 0, 1) := dk_3 (dk_at dksX6_orderHere_11 3 rfl rfl)
theorem dX6_orderHere_258 : decode cX6_orderHere 258 = .ok (.ireturn, 1) := dk_172 (dk_at dksX6_orderHere_11 4 rfl rfl)
abbrev cX6_here : ByteArray := prog_21_method_51_code
def yX6_here : MethodName := ⟨RX6, "here", "()I"⟩
def dkwX6_here_1 : List UInt8 := [172]
abbrev dktX6_here_1 : List UInt8 := dkwX6_here_1 ++ []
def dkwX6_here_0 : List UInt8 := [42, 180, 0, 157, 42, 180, 0, 154, 162, 0, 15, 42, 180, 0, 25, 42, 180, 0, 157, 46, 167, 0, 4, 2]
abbrev dktX6_here_0 : List UInt8 := dkwX6_here_0 ++ dktX6_here_1
theorem dksX6_here_0 : cX6_here.data.toList.drop 0 = dktX6_here_0 := by decide +kernel
theorem dksX6_here_1 : cX6_here.data.toList.drop 24 = dktX6_here_1 := dk_seg dksX6_here_0 24 rfl rfl
theorem dX6_here_0 : decode cX6_here 0 = .ok (.aload_n 0, 1) := dk_42 (dk_at dksX6_here_0 0 rfl rfl)
theorem dX6_here_1 : decode cX6_here 1 = .ok (.getfield 157, 3) := dk_180 0 157 (dk_at dksX6_here_0 1 rfl rfl)
theorem dX6_here_4 : decode cX6_here 4 = .ok (.aload_n 0, 1) := dk_42 (dk_at dksX6_here_0 4 rfl rfl)
theorem dX6_here_5 : decode cX6_here 5 = .ok (.getfield 154, 3) := dk_180 0 154 (dk_at dksX6_here_0 5 rfl rfl)
theorem dX6_here_8 : decode cX6_here 8 = .ok (.if_icmp .ge 15, 3) := dk_162 0 15 (dk_at dksX6_here_0 8 rfl rfl)
theorem dX6_here_11 : decode cX6_here 11 = .ok (.aload_n 0, 1) := dk_42 (dk_at dksX6_here_0 11 rfl rfl)
theorem dX6_here_12 : decode cX6_here 12 = .ok (.getfield 25, 3) := dk_180 0 25 (dk_at dksX6_here_0 12 rfl rfl)
theorem dX6_here_15 : decode cX6_here 15 = .ok (.aload_n 0, 1) := dk_42 (dk_at dksX6_here_0 15 rfl rfl)
theorem dX6_here_16 : decode cX6_here 16 = .ok (.getfield 157, 3) := dk_180 0 157 (dk_at dksX6_here_0 16 rfl rfl)
theorem dX6_here_19 : decode cX6_here 19 = .ok (.iaload, 1) := dk_46 (dk_at dksX6_here_0 19 rfl rfl)
theorem dX6_here_20 : decode cX6_here 20 = .ok (.goto 4, 3) := dk_167 0 4 (dk_at dksX6_here_0 20 rfl rfl)
theorem dX6_here_23 : decode cX6_here 23 = .ok (.iconst (-1), 1) := dk_2 (dk_at dksX6_here_0 23 rfl rfl)
theorem dX6_here_24 : decode cX6_here 24 = .ok (.ireturn, 1) := dk_172 (dk_at dksX6_here_1 0 rfl rfl)
abbrev cX6_skips : ByteArray := prog_21_method_52_code
def yX6_skips : MethodName := ⟨RX6, "skips", "(I)Z"⟩
def dkwX6_skips_0 : List UInt8 := [42, 182, 0, 160, 27, 159, 0, 5, 3, 172, 42, 89, 180, 0, 157, 4, 96, 181, 0, 157, 4, 172]
abbrev dktX6_skips_0 : List UInt8 := dkwX6_skips_0 ++ []
theorem dksX6_skips_0 : cX6_skips.data.toList.drop 0 = dktX6_skips_0 := by decide +kernel
theorem dX6_skips_0 : decode cX6_skips 0 = .ok (.aload_n 0, 1) := dk_42 (dk_at dksX6_skips_0 0 rfl rfl)
theorem dX6_skips_1 : decode cX6_skips 1 = .ok (.invokevirtual 160, 3) := dk_182 0 160 (dk_at dksX6_skips_0 1 rfl rfl)
theorem dX6_skips_4 : decode cX6_skips 4 = .ok (.iload_n 1, 1) := dk_27 (dk_at dksX6_skips_0 4 rfl rfl)
theorem dX6_skips_5 : decode cX6_skips 5 = .ok (.if_icmp .eq 5, 3) := dk_159 0 5 (dk_at dksX6_skips_0 5 rfl rfl)
theorem dX6_skips_8 : decode cX6_skips 8 = .ok (.iconst 0, 1) := dk_3 (dk_at dksX6_skips_0 8 rfl rfl)
theorem dX6_skips_9 : decode cX6_skips 9 = .ok (.ireturn, 1) := dk_172 (dk_at dksX6_skips_0 9 rfl rfl)
theorem dX6_skips_10 : decode cX6_skips 10 = .ok (.aload_n 0, 1) := dk_42 (dk_at dksX6_skips_0 10 rfl rfl)
theorem dX6_skips_11 : decode cX6_skips 11 = .ok (.dup, 1) := dk_89 (dk_at dksX6_skips_0 11 rfl rfl)
theorem dX6_skips_12 : decode cX6_skips 12 = .ok (.getfield 157, 3) := dk_180 0 157 (dk_at dksX6_skips_0 12 rfl rfl)
theorem dX6_skips_15 : decode cX6_skips 15 = .ok (.iconst 1, 1) := dk_4 (dk_at dksX6_skips_0 15 rfl rfl)
theorem dX6_skips_16 : decode cX6_skips 16 = .ok (.iadd, 1) := dk_96 (dk_at dksX6_skips_0 16 rfl rfl)
theorem dX6_skips_17 : decode cX6_skips 17 = .ok (.putfield 157, 3) := dk_181 0 157 (dk_at dksX6_skips_0 17 rfl rfl)
theorem dX6_skips_20 : decode cX6_skips 20 = .ok (.iconst 1, 1) := dk_4 (dk_at dksX6_skips_0 20 rfl rfl)
theorem dX6_skips_21 : decode cX6_skips 21 = .ok (.ireturn, 1) := dk_172 (dk_at dksX6_skips_0 21 rfl rfl)
abbrev cX6_digit : ByteArray := prog_21_method_53_code
def yX6_digit : MethodName := ⟨RX6, "digit", "(I)Z"⟩
def dkwX6_digit_1 : List UInt8 := [182, 0, 160, 16, 48, 100, 79, 42, 89, 180, 0, 157, 4, 96, 181, 0, 157, 4, 172]
abbrev dktX6_digit_1 : List UInt8 := dkwX6_digit_1 ++ []
def dkwX6_digit_0 : List UInt8 := [42, 182, 0, 160, 16, 48, 16, 57, 184, 0, 64, 154, 0, 5, 3, 172, 42, 180, 0, 44, 27, 42]
abbrev dktX6_digit_0 : List UInt8 := dkwX6_digit_0 ++ dktX6_digit_1
theorem dksX6_digit_0 : cX6_digit.data.toList.drop 0 = dktX6_digit_0 := by decide +kernel
theorem dksX6_digit_1 : cX6_digit.data.toList.drop 22 = dktX6_digit_1 := dk_seg dksX6_digit_0 22 rfl rfl
theorem dX6_digit_0 : decode cX6_digit 0 = .ok (.aload_n 0, 1) := dk_42 (dk_at dksX6_digit_0 0 rfl rfl)
theorem dX6_digit_1 : decode cX6_digit 1 = .ok (.invokevirtual 160, 3) := dk_182 0 160 (dk_at dksX6_digit_0 1 rfl rfl)
theorem dX6_digit_4 : decode cX6_digit 4 = .ok (.bipush 48, 2) := dk_16 48 (dk_at dksX6_digit_0 4 rfl rfl)
theorem dX6_digit_6 : decode cX6_digit 6 = .ok (.bipush 57, 2) := dk_16 57 (dk_at dksX6_digit_0 6 rfl rfl)
theorem dX6_digit_8 : decode cX6_digit 8 = .ok (.invokestatic 64, 3) := dk_184 0 64 (dk_at dksX6_digit_0 8 rfl rfl)
theorem dX6_digit_11 : decode cX6_digit 11 = .ok (.ifCond .ne 5, 3) := dk_154 0 5 (dk_at dksX6_digit_0 11 rfl rfl)
theorem dX6_digit_14 : decode cX6_digit 14 = .ok (.iconst 0, 1) := dk_3 (dk_at dksX6_digit_0 14 rfl rfl)
theorem dX6_digit_15 : decode cX6_digit 15 = .ok (.ireturn, 1) := dk_172 (dk_at dksX6_digit_0 15 rfl rfl)
theorem dX6_digit_16 : decode cX6_digit 16 = .ok (.aload_n 0, 1) := dk_42 (dk_at dksX6_digit_0 16 rfl rfl)
theorem dX6_digit_17 : decode cX6_digit 17 = .ok (.getfield 44, 3) := dk_180 0 44 (dk_at dksX6_digit_0 17 rfl rfl)
theorem dX6_digit_20 : decode cX6_digit 20 = .ok (.iload_n 1, 1) := dk_27 (dk_at dksX6_digit_0 20 rfl rfl)
theorem dX6_digit_21 : decode cX6_digit 21 = .ok (.aload_n 0, 1) := dk_42 (dk_at dksX6_digit_0 21 rfl rfl)
theorem dX6_digit_22 : decode cX6_digit 22 = .ok (.invokevirtual 160, 3) := dk_182 0 160 (dk_at dksX6_digit_1 0 rfl rfl)
theorem dX6_digit_25 : decode cX6_digit 25 = .ok (.bipush 48, 2) := dk_16 48 (dk_at dksX6_digit_1 3 rfl rfl)
theorem dX6_digit_27 : decode cX6_digit 27 = .ok (.isub, 1) := dk_100 (dk_at dksX6_digit_1 5 rfl rfl)
theorem dX6_digit_28 : decode cX6_digit 28 = .ok (.iastore, 1) := dk_79 (dk_at dksX6_digit_1 6 rfl rfl)
theorem dX6_digit_29 : decode cX6_digit 29 = .ok (.aload_n 0, 1) := dk_42 (dk_at dksX6_digit_1 7 rfl rfl)
theorem dX6_digit_30 : decode cX6_digit 30 = .ok (.dup, 1) := dk_89 (dk_at dksX6_digit_1 8 rfl rfl)
theorem dX6_digit_31 : decode cX6_digit 31 = .ok (.getfield 157, 3) := dk_180 0 157 (dk_at dksX6_digit_1 9 rfl rfl)
theorem dX6_digit_34 : decode cX6_digit 34 = .ok (.iconst 1, 1) := dk_4 (dk_at dksX6_digit_1 12 rfl rfl)
theorem dX6_digit_35 : decode cX6_digit 35 = .ok (.iadd, 1) := dk_96 (dk_at dksX6_digit_1 13 rfl rfl)
theorem dX6_digit_36 : decode cX6_digit 36 = .ok (.putfield 157, 3) := dk_181 0 157 (dk_at dksX6_digit_1 14 rfl rfl)
theorem dX6_digit_39 : decode cX6_digit 39 = .ok (.iconst 1, 1) := dk_4 (dk_at dksX6_digit_1 17 rfl rfl)
theorem dX6_digit_40 : decode cX6_digit 40 = .ok (.ireturn, 1) := dk_172 (dk_at dksX6_digit_1 18 rfl rfl)
abbrev cX6_signed : ByteArray := prog_21_method_55_code
def yX6_signed : MethodName := ⟨RX6, "signed", "(IZ)Z"⟩
def dkwX6_signed_3 : List UInt8 := [180, 0, 44, 27, 46, 116, 79, 4, 172]
abbrev dktX6_signed_3 : List UInt8 := dkwX6_signed_3 ++ []
def dkwX6_signed_2 : List UInt8 := [167, 0, 13, 42, 27, 182, 0, 169, 154, 0, 5, 3, 172, 29, 153, 0, 16, 42, 180, 0, 44, 27, 42]
abbrev dktX6_signed_2 : List UInt8 := dkwX6_signed_2 ++ dktX6_signed_3
def dkwX6_signed_1 : List UInt8 := [42, 16, 45, 182, 0, 166, 154, 0, 5, 3, 172, 28, 153, 0, 14, 42, 27, 182, 0, 163, 153, 0, 14]
abbrev dktX6_signed_1 : List UInt8 := dkwX6_signed_1 ++ dktX6_signed_2
def dkwX6_signed_0 : List UInt8 := [42, 182, 0, 160, 16, 45, 160, 0, 7, 4, 167, 0, 4, 3, 62, 42, 16, 43, 182, 0, 166, 154, 0, 14]
abbrev dktX6_signed_0 : List UInt8 := dkwX6_signed_0 ++ dktX6_signed_1
theorem dksX6_signed_0 : cX6_signed.data.toList.drop 0 = dktX6_signed_0 := by decide +kernel
theorem dksX6_signed_1 : cX6_signed.data.toList.drop 24 = dktX6_signed_1 := dk_seg dksX6_signed_0 24 rfl rfl
theorem dksX6_signed_2 : cX6_signed.data.toList.drop 47 = dktX6_signed_2 := dk_seg dksX6_signed_1 23 rfl rfl
theorem dksX6_signed_3 : cX6_signed.data.toList.drop 70 = dktX6_signed_3 := dk_seg dksX6_signed_2 23 rfl rfl
theorem dX6_signed_0 : decode cX6_signed 0 = .ok (.aload_n 0, 1) := dk_42 (dk_at dksX6_signed_0 0 rfl rfl)
theorem dX6_signed_1 : decode cX6_signed 1 = .ok (.invokevirtual 160, 3) := dk_182 0 160 (dk_at dksX6_signed_0 1 rfl rfl)
theorem dX6_signed_4 : decode cX6_signed 4 = .ok (.bipush 45, 2) := dk_16 45 (dk_at dksX6_signed_0 4 rfl rfl)
theorem dX6_signed_6 : decode cX6_signed 6 = .ok (.if_icmp .ne 7, 3) := dk_160 0 7 (dk_at dksX6_signed_0 6 rfl rfl)
theorem dX6_signed_9 : decode cX6_signed 9 = .ok (.iconst 1, 1) := dk_4 (dk_at dksX6_signed_0 9 rfl rfl)
theorem dX6_signed_10 : decode cX6_signed 10 = .ok (.goto 4, 3) := dk_167 0 4 (dk_at dksX6_signed_0 10 rfl rfl)
theorem dX6_signed_13 : decode cX6_signed 13 = .ok (.iconst 0, 1) := dk_3 (dk_at dksX6_signed_0 13 rfl rfl)
theorem dX6_signed_14 : decode cX6_signed 14 = .ok (.istore_n 3, 1) := dk_62 (dk_at dksX6_signed_0 14 rfl rfl)
theorem dX6_signed_15 : decode cX6_signed 15 = .ok (.aload_n 0, 1) := dk_42 (dk_at dksX6_signed_0 15 rfl rfl)
theorem dX6_signed_16 : decode cX6_signed 16 = .ok (.bipush 43, 2) := dk_16 43 (dk_at dksX6_signed_0 16 rfl rfl)
theorem dX6_signed_18 : decode cX6_signed 18 = .ok (.invokevirtual 166, 3) := dk_182 0 166 (dk_at dksX6_signed_0 18 rfl rfl)
theorem dX6_signed_21 : decode cX6_signed 21 = .ok (.ifCond .ne 14, 3) := dk_154 0 14 (dk_at dksX6_signed_0 21 rfl rfl)
theorem dX6_signed_24 : decode cX6_signed 24 = .ok (.aload_n 0, 1) := dk_42 (dk_at dksX6_signed_1 0 rfl rfl)
theorem dX6_signed_25 : decode cX6_signed 25 = .ok (.bipush 45, 2) := dk_16 45 (dk_at dksX6_signed_1 1 rfl rfl)
theorem dX6_signed_27 : decode cX6_signed 27 = .ok (.invokevirtual 166, 3) := dk_182 0 166 (dk_at dksX6_signed_1 3 rfl rfl)
theorem dX6_signed_30 : decode cX6_signed 30 = .ok (.ifCond .ne 5, 3) := dk_154 0 5 (dk_at dksX6_signed_1 6 rfl rfl)
theorem dX6_signed_33 : decode cX6_signed 33 = .ok (.iconst 0, 1) := dk_3 (dk_at dksX6_signed_1 9 rfl rfl)
theorem dX6_signed_34 : decode cX6_signed 34 = .ok (.ireturn, 1) := dk_172 (dk_at dksX6_signed_1 10 rfl rfl)
theorem dX6_signed_35 : decode cX6_signed 35 = .ok (.iload_n 2, 1) := dk_28 (dk_at dksX6_signed_1 11 rfl rfl)
theorem dX6_signed_36 : decode cX6_signed 36 = .ok (.ifCond .eq 14, 3) := dk_153 0 14 (dk_at dksX6_signed_1 12 rfl rfl)
theorem dX6_signed_39 : decode cX6_signed 39 = .ok (.aload_n 0, 1) := dk_42 (dk_at dksX6_signed_1 15 rfl rfl)
theorem dX6_signed_40 : decode cX6_signed 40 = .ok (.iload_n 1, 1) := dk_27 (dk_at dksX6_signed_1 16 rfl rfl)
theorem dX6_signed_41 : decode cX6_signed 41 = .ok (.invokevirtual 163, 3) := dk_182 0 163 (dk_at dksX6_signed_1 17 rfl rfl)
theorem dX6_signed_44 : decode cX6_signed 44 = .ok (.ifCond .eq 14, 3) := dk_153 0 14 (dk_at dksX6_signed_1 20 rfl rfl)
theorem dX6_signed_47 : decode cX6_signed 47 = .ok (.goto 13, 3) := dk_167 0 13 (dk_at dksX6_signed_2 0 rfl rfl)
theorem dX6_signed_50 : decode cX6_signed 50 = .ok (.aload_n 0, 1) := dk_42 (dk_at dksX6_signed_2 3 rfl rfl)
theorem dX6_signed_51 : decode cX6_signed 51 = .ok (.iload_n 1, 1) := dk_27 (dk_at dksX6_signed_2 4 rfl rfl)
theorem dX6_signed_52 : decode cX6_signed 52 = .ok (.invokevirtual 169, 3) := dk_182 0 169 (dk_at dksX6_signed_2 5 rfl rfl)
theorem dX6_signed_55 : decode cX6_signed 55 = .ok (.ifCond .ne 5, 3) := dk_154 0 5 (dk_at dksX6_signed_2 8 rfl rfl)
theorem dX6_signed_58 : decode cX6_signed 58 = .ok (.iconst 0, 1) := dk_3 (dk_at dksX6_signed_2 11 rfl rfl)
theorem dX6_signed_59 : decode cX6_signed 59 = .ok (.ireturn, 1) := dk_172 (dk_at dksX6_signed_2 12 rfl rfl)
theorem dX6_signed_60 : decode cX6_signed 60 = .ok (.iload_n 3, 1) := dk_29 (dk_at dksX6_signed_2 13 rfl rfl)
theorem dX6_signed_61 : decode cX6_signed 61 = .ok (.ifCond .eq 16, 3) := dk_153 0 16 (dk_at dksX6_signed_2 14 rfl rfl)
theorem dX6_signed_64 : decode cX6_signed 64 = .ok (.aload_n 0, 1) := dk_42 (dk_at dksX6_signed_2 17 rfl rfl)
theorem dX6_signed_65 : decode cX6_signed 65 = .ok (.getfield 44, 3) := dk_180 0 44 (dk_at dksX6_signed_2 18 rfl rfl)
theorem dX6_signed_68 : decode cX6_signed 68 = .ok (.iload_n 1, 1) := dk_27 (dk_at dksX6_signed_2 21 rfl rfl)
theorem dX6_signed_69 : decode cX6_signed 69 = .ok (.aload_n 0, 1) := dk_42 (dk_at dksX6_signed_2 22 rfl rfl)
theorem dX6_signed_70 : decode cX6_signed 70 = .ok (.getfield 44, 3) := dk_180 0 44 (dk_at dksX6_signed_3 0 rfl rfl)
theorem dX6_signed_73 : decode cX6_signed 73 = .ok (.iload_n 1, 1) := dk_27 (dk_at dksX6_signed_3 3 rfl rfl)
theorem dX6_signed_74 : decode cX6_signed 74 = .ok (.iaload, 1) := dk_46 (dk_at dksX6_signed_3 4 rfl rfl)
theorem dX6_signed_75 : decode cX6_signed 75 = .ok (.ineg, 1) := dk_116 (dk_at dksX6_signed_3 5 rfl rfl)
theorem dX6_signed_76 : decode cX6_signed 76 = .ok (.iastore, 1) := dk_79 (dk_at dksX6_signed_3 6 rfl rfl)
theorem dX6_signed_77 : decode cX6_signed 77 = .ok (.iconst 1, 1) := dk_4 (dk_at dksX6_signed_3 7 rfl rfl)
theorem dX6_signed_78 : decode cX6_signed 78 = .ok (.ireturn, 1) := dk_172 (dk_at dksX6_signed_3 8 rfl rfl)
abbrev cX6_number : ByteArray := prog_21_method_54_code
def yX6_number : MethodName := ⟨RX6, "number", "(I)Z"⟩
def dkwX6_number_2 : List UInt8 := [89, 180, 0, 157, 4, 96, 181, 0, 157, 4, 172]
abbrev dktX6_number_2 : List UInt8 := dkwX6_number_2 ++ []
def dkwX6_number_1 : List UInt8 := [42, 180, 0, 44, 27, 16, 10, 42, 180, 0, 44, 27, 46, 104, 42, 182, 0, 160, 96, 16, 48, 100, 79, 42]
abbrev dktX6_number_1 : List UInt8 := dkwX6_number_1 ++ dktX6_number_2
def dkwX6_number_0 : List UInt8 := [42, 27, 182, 0, 163, 154, 0, 5, 3, 172, 42, 182, 0, 160, 16, 48, 16, 57, 184, 0, 64, 153, 0, 36]
abbrev dktX6_number_0 : List UInt8 := dkwX6_number_0 ++ dktX6_number_1
theorem dksX6_number_0 : cX6_number.data.toList.drop 0 = dktX6_number_0 := by decide +kernel
theorem dksX6_number_1 : cX6_number.data.toList.drop 24 = dktX6_number_1 := dk_seg dksX6_number_0 24 rfl rfl
theorem dksX6_number_2 : cX6_number.data.toList.drop 48 = dktX6_number_2 := dk_seg dksX6_number_1 24 rfl rfl
theorem dX6_number_0 : decode cX6_number 0 = .ok (.aload_n 0, 1) := dk_42 (dk_at dksX6_number_0 0 rfl rfl)
theorem dX6_number_1 : decode cX6_number 1 = .ok (.iload_n 1, 1) := dk_27 (dk_at dksX6_number_0 1 rfl rfl)
theorem dX6_number_2 : decode cX6_number 2 = .ok (.invokevirtual 163, 3) := dk_182 0 163 (dk_at dksX6_number_0 2 rfl rfl)
theorem dX6_number_5 : decode cX6_number 5 = .ok (.ifCond .ne 5, 3) := dk_154 0 5 (dk_at dksX6_number_0 5 rfl rfl)
theorem dX6_number_8 : decode cX6_number 8 = .ok (.iconst 0, 1) := dk_3 (dk_at dksX6_number_0 8 rfl rfl)
theorem dX6_number_9 : decode cX6_number 9 = .ok (.ireturn, 1) := dk_172 (dk_at dksX6_number_0 9 rfl rfl)
theorem dX6_number_10 : decode cX6_number 10 = .ok (.aload_n 0, 1) := dk_42 (dk_at dksX6_number_0 10 rfl rfl)
theorem dX6_number_11 : decode cX6_number 11 = .ok (.invokevirtual 160, 3) := dk_182 0 160 (dk_at dksX6_number_0 11 rfl rfl)
theorem dX6_number_14 : decode cX6_number 14 = .ok (.bipush 48, 2) := dk_16 48 (dk_at dksX6_number_0 14 rfl rfl)
theorem dX6_number_16 : decode cX6_number 16 = .ok (.bipush 57, 2) := dk_16 57 (dk_at dksX6_number_0 16 rfl rfl)
theorem dX6_number_18 : decode cX6_number 18 = .ok (.invokestatic 64, 3) := dk_184 0 64 (dk_at dksX6_number_0 18 rfl rfl)
theorem dX6_number_21 : decode cX6_number 21 = .ok (.ifCond .eq 36, 3) := dk_153 0 36 (dk_at dksX6_number_0 21 rfl rfl)
theorem dX6_number_24 : decode cX6_number 24 = .ok (.aload_n 0, 1) := dk_42 (dk_at dksX6_number_1 0 rfl rfl)
theorem dX6_number_25 : decode cX6_number 25 = .ok (.getfield 44, 3) := dk_180 0 44 (dk_at dksX6_number_1 1 rfl rfl)
theorem dX6_number_28 : decode cX6_number 28 = .ok (.iload_n 1, 1) := dk_27 (dk_at dksX6_number_1 4 rfl rfl)
theorem dX6_number_29 : decode cX6_number 29 = .ok (.bipush 10, 2) := dk_16 10 (dk_at dksX6_number_1 5 rfl rfl)
theorem dX6_number_31 : decode cX6_number 31 = .ok (.aload_n 0, 1) := dk_42 (dk_at dksX6_number_1 7 rfl rfl)
theorem dX6_number_32 : decode cX6_number 32 = .ok (.getfield 44, 3) := dk_180 0 44 (dk_at dksX6_number_1 8 rfl rfl)
theorem dX6_number_35 : decode cX6_number 35 = .ok (.iload_n 1, 1) := dk_27 (dk_at dksX6_number_1 11 rfl rfl)
theorem dX6_number_36 : decode cX6_number 36 = .ok (.iaload, 1) := dk_46 (dk_at dksX6_number_1 12 rfl rfl)
theorem dX6_number_37 : decode cX6_number 37 = .ok (.imul, 1) := dk_104 (dk_at dksX6_number_1 13 rfl rfl)
theorem dX6_number_38 : decode cX6_number 38 = .ok (.aload_n 0, 1) := dk_42 (dk_at dksX6_number_1 14 rfl rfl)
theorem dX6_number_39 : decode cX6_number 39 = .ok (.invokevirtual 160, 3) := dk_182 0 160 (dk_at dksX6_number_1 15 rfl rfl)
theorem dX6_number_42 : decode cX6_number 42 = .ok (.iadd, 1) := dk_96 (dk_at dksX6_number_1 18 rfl rfl)
theorem dX6_number_43 : decode cX6_number 43 = .ok (.bipush 48, 2) := dk_16 48 (dk_at dksX6_number_1 19 rfl rfl)
theorem dX6_number_45 : decode cX6_number 45 = .ok (.isub, 1) := dk_100 (dk_at dksX6_number_1 21 rfl rfl)
theorem dX6_number_46 : decode cX6_number 46 = .ok (.iastore, 1) := dk_79 (dk_at dksX6_number_1 22 rfl rfl)
theorem dX6_number_47 : decode cX6_number 47 = .ok (.aload_n 0, 1) := dk_42 (dk_at dksX6_number_1 23 rfl rfl)
theorem dX6_number_48 : decode cX6_number 48 = .ok (.dup, 1) := dk_89 (dk_at dksX6_number_2 0 rfl rfl)
theorem dX6_number_49 : decode cX6_number 49 = .ok (.getfield 157, 3) := dk_180 0 157 (dk_at dksX6_number_2 1 rfl rfl)
theorem dX6_number_52 : decode cX6_number 52 = .ok (.iconst 1, 1) := dk_4 (dk_at dksX6_number_2 4 rfl rfl)
theorem dX6_number_53 : decode cX6_number 53 = .ok (.iadd, 1) := dk_96 (dk_at dksX6_number_2 5 rfl rfl)
theorem dX6_number_54 : decode cX6_number 54 = .ok (.putfield 157, 3) := dk_181 0 157 (dk_at dksX6_number_2 6 rfl rfl)
theorem dX6_number_57 : decode cX6_number 57 = .ok (.iconst 1, 1) := dk_4 (dk_at dksX6_number_2 9 rfl rfl)
theorem dX6_number_58 : decode cX6_number 58 = .ok (.ireturn, 1) := dk_172 (dk_at dksX6_number_2 10 rfl rfl)
abbrev cX6_carries : ByteArray := prog_21_method_58_code
def yX6_carries : MethodName := ⟨RX6, "carries", "(I)I"⟩
def dkwX6_carries_7 : List UInt8 := [182, 0, 197, 61, 5, 172]
abbrev dktX6_carries_7 : List UInt8 := dkwX6_carries_7 ++ []
def dkwX6_carries_6 : List UInt8 := [180, 0, 44, 27, 5, 96, 46, 182, 0, 194, 61, 6, 172, 42, 42, 180, 0, 44, 27, 4, 96, 46]
abbrev dktX6_carries_6 : List UInt8 := dkwX6_carries_6 ++ dktX6_carries_7
def dkwX6_carries_5 : List UInt8 := [180, 0, 44, 27, 4, 96, 46, 182, 0, 191, 61, 5, 172, 42, 42, 180, 0, 44, 27, 4, 96, 46, 42]
abbrev dktX6_carries_5 : List UInt8 := dkwX6_carries_5 ++ dktX6_carries_6
def dkwX6_carries_4 : List UInt8 := [42, 180, 0, 44, 27, 6, 96, 46, 42, 180, 0, 44, 27, 7, 96, 46, 182, 0, 187, 61, 5, 172, 42, 42]
abbrev dktX6_carries_4 : List UInt8 := dkwX6_carries_4 ++ dktX6_carries_5
def dkwX6_carries_3 : List UInt8 := [46, 182, 0, 183, 61, 6, 172, 42, 42, 180, 0, 44, 27, 4, 96, 46, 42, 180, 0, 44, 27, 5, 96, 46]
abbrev dktX6_carries_3 : List UInt8 := dkwX6_carries_3 ++ dktX6_carries_4
def dkwX6_carries_2 : List UInt8 := [42, 42, 180, 0, 44, 27, 4, 96, 46, 42, 180, 0, 44, 27, 5, 96, 46, 42, 180, 0, 44, 27, 6, 96]
abbrev dktX6_carries_2 : List UInt8 := dkwX6_carries_2 ++ dktX6_carries_3
def dkwX6_carries_1 : List UInt8 := [171, 0, 0, 0, 0, 0, 0, 152, 0, 0, 0, 4, 0, 0, 0, 107, 0, 0, 0, 75, 0, 0, 0, 114, 0, 0, 0, 129, 0, 0, 0, 117, 0, 0, 0, 114, 0, 0, 0, 119, 0, 0, 0, 44]
abbrev dktX6_carries_1 : List UInt8 := dkwX6_carries_1 ++ dktX6_carries_2
def dkwX6_carries_0 : List UInt8 := [3, 61, 42, 180, 0, 44, 27, 46]
abbrev dktX6_carries_0 : List UInt8 := dkwX6_carries_0 ++ dktX6_carries_1
theorem dksX6_carries_0 : cX6_carries.data.toList.drop 0 = dktX6_carries_0 := by decide +kernel
theorem dksX6_carries_1 : cX6_carries.data.toList.drop 8 = dktX6_carries_1 := dk_seg dksX6_carries_0 8 rfl rfl
theorem dksX6_carries_2 : cX6_carries.data.toList.drop 52 = dktX6_carries_2 := dk_seg dksX6_carries_1 44 rfl rfl
theorem dksX6_carries_3 : cX6_carries.data.toList.drop 76 = dktX6_carries_3 := dk_seg dksX6_carries_2 24 rfl rfl
theorem dksX6_carries_4 : cX6_carries.data.toList.drop 100 = dktX6_carries_4 := dk_seg dksX6_carries_3 24 rfl rfl
theorem dksX6_carries_5 : cX6_carries.data.toList.drop 124 = dktX6_carries_5 := dk_seg dksX6_carries_4 24 rfl rfl
theorem dksX6_carries_6 : cX6_carries.data.toList.drop 147 = dktX6_carries_6 := dk_seg dksX6_carries_5 23 rfl rfl
theorem dksX6_carries_7 : cX6_carries.data.toList.drop 169 = dktX6_carries_7 := dk_seg dksX6_carries_6 22 rfl rfl
theorem dX6_carries_0 : decode cX6_carries 0 = .ok (.iconst 0, 1) := dk_3 (dk_at dksX6_carries_0 0 rfl rfl)
theorem dX6_carries_1 : decode cX6_carries 1 = .ok (.istore_n 2, 1) := dk_61 (dk_at dksX6_carries_0 1 rfl rfl)
theorem dX6_carries_2 : decode cX6_carries 2 = .ok (.aload_n 0, 1) := dk_42 (dk_at dksX6_carries_0 2 rfl rfl)
theorem dX6_carries_3 : decode cX6_carries 3 = .ok (.getfield 44, 3) := dk_180 0 44 (dk_at dksX6_carries_0 3 rfl rfl)
theorem dX6_carries_6 : decode cX6_carries 6 = .ok (.iload_n 1, 1) := dk_27 (dk_at dksX6_carries_0 6 rfl rfl)
theorem dX6_carries_7 : decode cX6_carries 7 = .ok (.iaload, 1) := dk_46 (dk_at dksX6_carries_0 7 rfl rfl)
theorem dX6_carries_8 : decode cX6_carries 8 = .ok (.lookupswitch 152 #[(107, 75), (114, 129), (117, 114), (119, 44)], 44) := by decide +kernel
theorem dX6_carries_52 : decode cX6_carries 52 = .ok (.aload_n 0, 1) := dk_42 (dk_at dksX6_carries_2 0 rfl rfl)
theorem dX6_carries_53 : decode cX6_carries 53 = .ok (.aload_n 0, 1) := dk_42 (dk_at dksX6_carries_2 1 rfl rfl)
theorem dX6_carries_54 : decode cX6_carries 54 = .ok (.getfield 44, 3) := dk_180 0 44 (dk_at dksX6_carries_2 2 rfl rfl)
theorem dX6_carries_57 : decode cX6_carries 57 = .ok (.iload_n 1, 1) := dk_27 (dk_at dksX6_carries_2 5 rfl rfl)
theorem dX6_carries_58 : decode cX6_carries 58 = .ok (.iconst 1, 1) := dk_4 (dk_at dksX6_carries_2 6 rfl rfl)
theorem dX6_carries_59 : decode cX6_carries 59 = .ok (.iadd, 1) := dk_96 (dk_at dksX6_carries_2 7 rfl rfl)
theorem dX6_carries_60 : decode cX6_carries 60 = .ok (.iaload, 1) := dk_46 (dk_at dksX6_carries_2 8 rfl rfl)
theorem dX6_carries_61 : decode cX6_carries 61 = .ok (.aload_n 0, 1) := dk_42 (dk_at dksX6_carries_2 9 rfl rfl)
theorem dX6_carries_62 : decode cX6_carries 62 = .ok (.getfield 44, 3) := dk_180 0 44 (dk_at dksX6_carries_2 10 rfl rfl)
theorem dX6_carries_65 : decode cX6_carries 65 = .ok (.iload_n 1, 1) := dk_27 (dk_at dksX6_carries_2 13 rfl rfl)
theorem dX6_carries_66 : decode cX6_carries 66 = .ok (.iconst 2, 1) := dk_5 (dk_at dksX6_carries_2 14 rfl rfl)
theorem dX6_carries_67 : decode cX6_carries 67 = .ok (.iadd, 1) := dk_96 (dk_at dksX6_carries_2 15 rfl rfl)
theorem dX6_carries_68 : decode cX6_carries 68 = .ok (.iaload, 1) := dk_46 (dk_at dksX6_carries_2 16 rfl rfl)
theorem dX6_carries_69 : decode cX6_carries 69 = .ok (.aload_n 0, 1) := dk_42 (dk_at dksX6_carries_2 17 rfl rfl)
theorem dX6_carries_70 : decode cX6_carries 70 = .ok (.getfield 44, 3) := dk_180 0 44 (dk_at dksX6_carries_2 18 rfl rfl)
theorem dX6_carries_73 : decode cX6_carries 73 = .ok (.iload_n 1, 1) := dk_27 (dk_at dksX6_carries_2 21 rfl rfl)
theorem dX6_carries_74 : decode cX6_carries 74 = .ok (.iconst 3, 1) := dk_6 (dk_at dksX6_carries_2 22 rfl rfl)
theorem dX6_carries_75 : decode cX6_carries 75 = .ok (.iadd, 1) := dk_96 (dk_at dksX6_carries_2 23 rfl rfl)
theorem dX6_carries_76 : decode cX6_carries 76 = .ok (.iaload, 1) := dk_46 (dk_at dksX6_carries_3 0 rfl rfl)
theorem dX6_carries_77 : decode cX6_carries 77 = .ok (.invokevirtual 183, 3) := dk_182 0 183 (dk_at dksX6_carries_3 1 rfl rfl)
theorem dX6_carries_80 : decode cX6_carries 80 = .ok (.istore_n 2, 1) := dk_61 (dk_at dksX6_carries_3 4 rfl rfl)
theorem dX6_carries_81 : decode cX6_carries 81 = .ok (.iconst 3, 1) := dk_6 (dk_at dksX6_carries_3 5 rfl rfl)
theorem dX6_carries_82 : decode cX6_carries 82 = .ok (.ireturn, 1) := dk_172 (dk_at dksX6_carries_3 6 rfl rfl)
theorem dX6_carries_83 : decode cX6_carries 83 = .ok (.aload_n 0, 1) := dk_42 (dk_at dksX6_carries_3 7 rfl rfl)
theorem dX6_carries_84 : decode cX6_carries 84 = .ok (.aload_n 0, 1) := dk_42 (dk_at dksX6_carries_3 8 rfl rfl)
theorem dX6_carries_85 : decode cX6_carries 85 = .ok (.getfield 44, 3) := dk_180 0 44 (dk_at dksX6_carries_3 9 rfl rfl)
theorem dX6_carries_88 : decode cX6_carries 88 = .ok (.iload_n 1, 1) := dk_27 (dk_at dksX6_carries_3 12 rfl rfl)
theorem dX6_carries_89 : decode cX6_carries 89 = .ok (.iconst 1, 1) := dk_4 (dk_at dksX6_carries_3 13 rfl rfl)
theorem dX6_carries_90 : decode cX6_carries 90 = .ok (.iadd, 1) := dk_96 (dk_at dksX6_carries_3 14 rfl rfl)
theorem dX6_carries_91 : decode cX6_carries 91 = .ok (.iaload, 1) := dk_46 (dk_at dksX6_carries_3 15 rfl rfl)
theorem dX6_carries_92 : decode cX6_carries 92 = .ok (.aload_n 0, 1) := dk_42 (dk_at dksX6_carries_3 16 rfl rfl)
theorem dX6_carries_93 : decode cX6_carries 93 = .ok (.getfield 44, 3) := dk_180 0 44 (dk_at dksX6_carries_3 17 rfl rfl)
theorem dX6_carries_96 : decode cX6_carries 96 = .ok (.iload_n 1, 1) := dk_27 (dk_at dksX6_carries_3 20 rfl rfl)
theorem dX6_carries_97 : decode cX6_carries 97 = .ok (.iconst 2, 1) := dk_5 (dk_at dksX6_carries_3 21 rfl rfl)
theorem dX6_carries_98 : decode cX6_carries 98 = .ok (.iadd, 1) := dk_96 (dk_at dksX6_carries_3 22 rfl rfl)
theorem dX6_carries_99 : decode cX6_carries 99 = .ok (.iaload, 1) := dk_46 (dk_at dksX6_carries_3 23 rfl rfl)
theorem dX6_carries_100 : decode cX6_carries 100 = .ok (.aload_n 0, 1) := dk_42 (dk_at dksX6_carries_4 0 rfl rfl)
theorem dX6_carries_101 : decode cX6_carries 101 = .ok (.getfield 44, 3) := dk_180 0 44 (dk_at dksX6_carries_4 1 rfl rfl)
theorem dX6_carries_104 : decode cX6_carries 104 = .ok (.iload_n 1, 1) := dk_27 (dk_at dksX6_carries_4 4 rfl rfl)
theorem dX6_carries_105 : decode cX6_carries 105 = .ok (.iconst 3, 1) := dk_6 (dk_at dksX6_carries_4 5 rfl rfl)
theorem dX6_carries_106 : decode cX6_carries 106 = .ok (.iadd, 1) := dk_96 (dk_at dksX6_carries_4 6 rfl rfl)
theorem dX6_carries_107 : decode cX6_carries 107 = .ok (.iaload, 1) := dk_46 (dk_at dksX6_carries_4 7 rfl rfl)
theorem dX6_carries_108 : decode cX6_carries 108 = .ok (.aload_n 0, 1) := dk_42 (dk_at dksX6_carries_4 8 rfl rfl)
theorem dX6_carries_109 : decode cX6_carries 109 = .ok (.getfield 44, 3) := dk_180 0 44 (dk_at dksX6_carries_4 9 rfl rfl)
theorem dX6_carries_112 : decode cX6_carries 112 = .ok (.iload_n 1, 1) := dk_27 (dk_at dksX6_carries_4 12 rfl rfl)
theorem dX6_carries_113 : decode cX6_carries 113 = .ok (.iconst 4, 1) := dk_7 (dk_at dksX6_carries_4 13 rfl rfl)
theorem dX6_carries_114 : decode cX6_carries 114 = .ok (.iadd, 1) := dk_96 (dk_at dksX6_carries_4 14 rfl rfl)
theorem dX6_carries_115 : decode cX6_carries 115 = .ok (.iaload, 1) := dk_46 (dk_at dksX6_carries_4 15 rfl rfl)
theorem dX6_carries_116 : decode cX6_carries 116 = .ok (.invokevirtual 187, 3) := dk_182 0 187 (dk_at dksX6_carries_4 16 rfl rfl)
theorem dX6_carries_119 : decode cX6_carries 119 = .ok (.istore_n 2, 1) := dk_61 (dk_at dksX6_carries_4 19 rfl rfl)
theorem dX6_carries_120 : decode cX6_carries 120 = .ok (.iconst 2, 1) := dk_5 (dk_at dksX6_carries_4 20 rfl rfl)
theorem dX6_carries_121 : decode cX6_carries 121 = .ok (.ireturn, 1) := dk_172 (dk_at dksX6_carries_4 21 rfl rfl)
theorem dX6_carries_122 : decode cX6_carries 122 = .ok (.aload_n 0, 1) := dk_42 (dk_at dksX6_carries_4 22 rfl rfl)
theorem dX6_carries_123 : decode cX6_carries 123 = .ok (.aload_n 0, 1) := dk_42 (dk_at dksX6_carries_4 23 rfl rfl)
theorem dX6_carries_124 : decode cX6_carries 124 = .ok (.getfield 44, 3) := dk_180 0 44 (dk_at dksX6_carries_5 0 rfl rfl)
theorem dX6_carries_127 : decode cX6_carries 127 = .ok (.iload_n 1, 1) := dk_27 (dk_at dksX6_carries_5 3 rfl rfl)
theorem dX6_carries_128 : decode cX6_carries 128 = .ok (.iconst 1, 1) := dk_4 (dk_at dksX6_carries_5 4 rfl rfl)
theorem dX6_carries_129 : decode cX6_carries 129 = .ok (.iadd, 1) := dk_96 (dk_at dksX6_carries_5 5 rfl rfl)
theorem dX6_carries_130 : decode cX6_carries 130 = .ok (.iaload, 1) := dk_46 (dk_at dksX6_carries_5 6 rfl rfl)
theorem dX6_carries_131 : decode cX6_carries 131 = .ok (.invokevirtual 191, 3) := dk_182 0 191 (dk_at dksX6_carries_5 7 rfl rfl)
theorem dX6_carries_134 : decode cX6_carries 134 = .ok (.istore_n 2, 1) := dk_61 (dk_at dksX6_carries_5 10 rfl rfl)
theorem dX6_carries_135 : decode cX6_carries 135 = .ok (.iconst 2, 1) := dk_5 (dk_at dksX6_carries_5 11 rfl rfl)
theorem dX6_carries_136 : decode cX6_carries 136 = .ok (.ireturn, 1) := dk_172 (dk_at dksX6_carries_5 12 rfl rfl)
theorem dX6_carries_137 : decode cX6_carries 137 = .ok (.aload_n 0, 1) := dk_42 (dk_at dksX6_carries_5 13 rfl rfl)
theorem dX6_carries_138 : decode cX6_carries 138 = .ok (.aload_n 0, 1) := dk_42 (dk_at dksX6_carries_5 14 rfl rfl)
theorem dX6_carries_139 : decode cX6_carries 139 = .ok (.getfield 44, 3) := dk_180 0 44 (dk_at dksX6_carries_5 15 rfl rfl)
theorem dX6_carries_142 : decode cX6_carries 142 = .ok (.iload_n 1, 1) := dk_27 (dk_at dksX6_carries_5 18 rfl rfl)
theorem dX6_carries_143 : decode cX6_carries 143 = .ok (.iconst 1, 1) := dk_4 (dk_at dksX6_carries_5 19 rfl rfl)
theorem dX6_carries_144 : decode cX6_carries 144 = .ok (.iadd, 1) := dk_96 (dk_at dksX6_carries_5 20 rfl rfl)
theorem dX6_carries_145 : decode cX6_carries 145 = .ok (.iaload, 1) := dk_46 (dk_at dksX6_carries_5 21 rfl rfl)
theorem dX6_carries_146 : decode cX6_carries 146 = .ok (.aload_n 0, 1) := dk_42 (dk_at dksX6_carries_5 22 rfl rfl)
theorem dX6_carries_147 : decode cX6_carries 147 = .ok (.getfield 44, 3) := dk_180 0 44 (dk_at dksX6_carries_6 0 rfl rfl)
theorem dX6_carries_150 : decode cX6_carries 150 = .ok (.iload_n 1, 1) := dk_27 (dk_at dksX6_carries_6 3 rfl rfl)
theorem dX6_carries_151 : decode cX6_carries 151 = .ok (.iconst 2, 1) := dk_5 (dk_at dksX6_carries_6 4 rfl rfl)
theorem dX6_carries_152 : decode cX6_carries 152 = .ok (.iadd, 1) := dk_96 (dk_at dksX6_carries_6 5 rfl rfl)
theorem dX6_carries_153 : decode cX6_carries 153 = .ok (.iaload, 1) := dk_46 (dk_at dksX6_carries_6 6 rfl rfl)
theorem dX6_carries_154 : decode cX6_carries 154 = .ok (.invokevirtual 194, 3) := dk_182 0 194 (dk_at dksX6_carries_6 7 rfl rfl)
theorem dX6_carries_157 : decode cX6_carries 157 = .ok (.istore_n 2, 1) := dk_61 (dk_at dksX6_carries_6 10 rfl rfl)
theorem dX6_carries_158 : decode cX6_carries 158 = .ok (.iconst 3, 1) := dk_6 (dk_at dksX6_carries_6 11 rfl rfl)
theorem dX6_carries_159 : decode cX6_carries 159 = .ok (.ireturn, 1) := dk_172 (dk_at dksX6_carries_6 12 rfl rfl)
theorem dX6_carries_160 : decode cX6_carries 160 = .ok (.aload_n 0, 1) := dk_42 (dk_at dksX6_carries_6 13 rfl rfl)
theorem dX6_carries_161 : decode cX6_carries 161 = .ok (.aload_n 0, 1) := dk_42 (dk_at dksX6_carries_6 14 rfl rfl)
theorem dX6_carries_162 : decode cX6_carries 162 = .ok (.getfield 44, 3) := dk_180 0 44 (dk_at dksX6_carries_6 15 rfl rfl)
theorem dX6_carries_165 : decode cX6_carries 165 = .ok (.iload_n 1, 1) := dk_27 (dk_at dksX6_carries_6 18 rfl rfl)
theorem dX6_carries_166 : decode cX6_carries 166 = .ok (.iconst 1, 1) := dk_4 (dk_at dksX6_carries_6 19 rfl rfl)
theorem dX6_carries_167 : decode cX6_carries 167 = .ok (.iadd, 1) := dk_96 (dk_at dksX6_carries_6 20 rfl rfl)
theorem dX6_carries_168 : decode cX6_carries 168 = .ok (.iaload, 1) := dk_46 (dk_at dksX6_carries_6 21 rfl rfl)
theorem dX6_carries_169 : decode cX6_carries 169 = .ok (.invokevirtual 197, 3) := dk_182 0 197 (dk_at dksX6_carries_7 0 rfl rfl)
theorem dX6_carries_172 : decode cX6_carries 172 = .ok (.istore_n 2, 1) := dk_61 (dk_at dksX6_carries_7 3 rfl rfl)
theorem dX6_carries_173 : decode cX6_carries 173 = .ok (.iconst 2, 1) := dk_5 (dk_at dksX6_carries_7 4 rfl rfl)
theorem dX6_carries_174 : decode cX6_carries 174 = .ok (.ireturn, 1) := dk_172 (dk_at dksX6_carries_7 5 rfl rfl)
abbrev cX6_faultPosition : ByteArray := prog_21_method_60_code
def yX6_faultPosition : MethodName := ⟨RX6, "faultPosition", "()I"⟩
def dkwX6_faultPosition_0 : List UInt8 := [42, 3, 181, 0, 47, 42, 180, 0, 28, 172]
abbrev dktX6_faultPosition_0 : List UInt8 := dkwX6_faultPosition_0 ++ []
theorem dksX6_faultPosition_0 : cX6_faultPosition.data.toList.drop 0 = dktX6_faultPosition_0 := by decide +kernel
theorem dX6_faultPosition_0 : decode cX6_faultPosition 0 = .ok (.aload_n 0, 1) := dk_42 (dk_at dksX6_faultPosition_0 0 rfl rfl)
theorem dX6_faultPosition_1 : decode cX6_faultPosition 1 = .ok (.iconst 0, 1) := dk_3 (dk_at dksX6_faultPosition_0 1 rfl rfl)
theorem dX6_faultPosition_2 : decode cX6_faultPosition 2 = .ok (.putfield 47, 3) := dk_181 0 47 (dk_at dksX6_faultPosition_0 2 rfl rfl)
theorem dX6_faultPosition_5 : decode cX6_faultPosition 5 = .ok (.aload_n 0, 1) := dk_42 (dk_at dksX6_faultPosition_0 5 rfl rfl)
theorem dX6_faultPosition_6 : decode cX6_faultPosition 6 = .ok (.getfield 28, 3) := dk_180 0 28 (dk_at dksX6_faultPosition_0 6 rfl rfl)
theorem dX6_faultPosition_9 : decode cX6_faultPosition 9 = .ok (.ireturn, 1) := dk_172 (dk_at dksX6_faultPosition_0 9 rfl rfl)
abbrev cX6_refusal : ByteArray := prog_21_method_61_code
def yX6_refusal : MethodName := ⟨RX6, "refusal", "(Z)I"⟩
def dkwX6_refusal_1 : List UInt8 := [153, 0, 10, 42, 180, 0, 32, 167, 0, 7, 42, 180, 0, 50, 172]
abbrev dktX6_refusal_1 : List UInt8 := dkwX6_refusal_1 ++ []
def dkwX6_refusal_0 : List UInt8 := [42, 42, 180, 0, 50, 154, 0, 7, 4, 167, 0, 4, 3, 182, 0, 76, 153, 0, 7, 3, 167, 0, 18, 27]
abbrev dktX6_refusal_0 : List UInt8 := dkwX6_refusal_0 ++ dktX6_refusal_1
theorem dksX6_refusal_0 : cX6_refusal.data.toList.drop 0 = dktX6_refusal_0 := by decide +kernel
theorem dksX6_refusal_1 : cX6_refusal.data.toList.drop 24 = dktX6_refusal_1 := dk_seg dksX6_refusal_0 24 rfl rfl
theorem dX6_refusal_0 : decode cX6_refusal 0 = .ok (.aload_n 0, 1) := dk_42 (dk_at dksX6_refusal_0 0 rfl rfl)
theorem dX6_refusal_1 : decode cX6_refusal 1 = .ok (.aload_n 0, 1) := dk_42 (dk_at dksX6_refusal_0 1 rfl rfl)
theorem dX6_refusal_2 : decode cX6_refusal 2 = .ok (.getfield 50, 3) := dk_180 0 50 (dk_at dksX6_refusal_0 2 rfl rfl)
theorem dX6_refusal_5 : decode cX6_refusal 5 = .ok (.ifCond .ne 7, 3) := dk_154 0 7 (dk_at dksX6_refusal_0 5 rfl rfl)
theorem dX6_refusal_8 : decode cX6_refusal 8 = .ok (.iconst 1, 1) := dk_4 (dk_at dksX6_refusal_0 8 rfl rfl)
theorem dX6_refusal_9 : decode cX6_refusal 9 = .ok (.goto 4, 3) := dk_167 0 4 (dk_at dksX6_refusal_0 9 rfl rfl)
theorem dX6_refusal_12 : decode cX6_refusal 12 = .ok (.iconst 0, 1) := dk_3 (dk_at dksX6_refusal_0 12 rfl rfl)
theorem dX6_refusal_13 : decode cX6_refusal 13 = .ok (.invokevirtual 76, 3) := dk_182 0 76 (dk_at dksX6_refusal_0 13 rfl rfl)
theorem dX6_refusal_16 : decode cX6_refusal 16 = .ok (.ifCond .eq 7, 3) := dk_153 0 7 (dk_at dksX6_refusal_0 16 rfl rfl)
theorem dX6_refusal_19 : decode cX6_refusal 19 = .ok (.iconst 0, 1) := dk_3 (dk_at dksX6_refusal_0 19 rfl rfl)
theorem dX6_refusal_20 : decode cX6_refusal 20 = .ok (.goto 18, 3) := dk_167 0 18 (dk_at dksX6_refusal_0 20 rfl rfl)
theorem dX6_refusal_23 : decode cX6_refusal 23 = .ok (.iload_n 1, 1) := dk_27 (dk_at dksX6_refusal_0 23 rfl rfl)
theorem dX6_refusal_24 : decode cX6_refusal 24 = .ok (.ifCond .eq 10, 3) := dk_153 0 10 (dk_at dksX6_refusal_1 0 rfl rfl)
theorem dX6_refusal_27 : decode cX6_refusal 27 = .ok (.aload_n 0, 1) := dk_42 (dk_at dksX6_refusal_1 3 rfl rfl)
theorem dX6_refusal_28 : decode cX6_refusal 28 = .ok (.getfield 32, 3) := dk_180 0 32 (dk_at dksX6_refusal_1 4 rfl rfl)
theorem dX6_refusal_31 : decode cX6_refusal 31 = .ok (.goto 7, 3) := dk_167 0 7 (dk_at dksX6_refusal_1 7 rfl rfl)
theorem dX6_refusal_34 : decode cX6_refusal 34 = .ok (.aload_n 0, 1) := dk_42 (dk_at dksX6_refusal_1 10 rfl rfl)
theorem dX6_refusal_35 : decode cX6_refusal 35 = .ok (.getfield 50, 3) := dk_180 0 50 (dk_at dksX6_refusal_1 11 rfl rfl)
theorem dX6_refusal_38 : decode cX6_refusal 38 = .ok (.ireturn, 1) := dk_172 (dk_at dksX6_refusal_1 14 rfl rfl)
abbrev cX6_account : ByteArray := prog_21_method_64_code
def yX6_account : MethodName := ⟨RX6, "account", "(I)I"⟩
def dkwX6_account_7 : List UInt8 := [180, 0, 57, 172]
abbrev dktX6_account_7 : List UInt8 := dkwX6_account_7 ++ []
def dkwX6_account_6 : List UInt8 := [16, 24, 46, 172, 42, 182, 0, 209, 172, 42, 16, 8, 182, 0, 206, 172, 42, 180, 0, 154, 172, 42]
abbrev dktX6_account_6 : List UInt8 := dkwX6_account_6 ++ dktX6_account_7
def dkwX6_account_5 : List UInt8 := [182, 0, 206, 172, 42, 180, 0, 7, 16, 22, 46, 172, 42, 180, 0, 7, 16, 23, 46, 172, 42, 180, 0, 7]
abbrev dktX6_account_5 : List UInt8 := dkwX6_account_5 ++ dktX6_account_6
def dkwX6_account_4 : List UInt8 := [182, 0, 93, 172, 42, 180, 0, 7, 16, 20, 46, 172, 42, 180, 0, 7, 16, 21, 46, 172, 42, 8]
abbrev dktX6_account_4 : List UInt8 := dkwX6_account_4 ++ dktX6_account_5
def dkwX6_account_3 : List UInt8 := [42, 180, 0, 7, 16, 25, 46, 172, 42, 3, 182, 0, 93, 172, 42, 4, 182, 0, 93, 172, 42, 5]
abbrev dktX6_account_3 : List UInt8 := dkwX6_account_3 ++ dktX6_account_4
def dkwX6_account_2 : List UInt8 := [170, 0, 0, 0, 0, 0, 156, 0, 0, 0, 0, 0, 0, 0, 12, 0, 0, 0, 67, 0, 0, 0, 75, 0, 0, 0, 81, 0, 0, 0, 87, 0, 0, 0, 93, 0, 0, 0, 101, 0, 0, 0, 109, 0, 0, 0, 115, 0, 0, 0, 123, 0, 0, 0, 131, 0, 0, 0, 139, 0, 0, 0, 144, 0, 0, 0, 151]
abbrev dktX6_account_2 : List UInt8 := dkwX6_account_2 ++ dktX6_account_3
def dkwX6_account_1 : List UInt8 := [27]
abbrev dktX6_account_1 : List UInt8 := dkwX6_account_1 ++ dktX6_account_2
def dkwX6_account_0 : List UInt8 := [42, 27, 3, 16, 13, 184, 0, 64, 153, 0, 7, 3, 167, 0, 4, 4, 182, 0, 76, 153, 0, 5, 3, 172]
abbrev dktX6_account_0 : List UInt8 := dkwX6_account_0 ++ dktX6_account_1
theorem dksX6_account_0 : cX6_account.data.toList.drop 0 = dktX6_account_0 := by decide +kernel
theorem dksX6_account_1 : cX6_account.data.toList.drop 24 = dktX6_account_1 := dk_seg dksX6_account_0 24 rfl rfl
theorem dksX6_account_2 : cX6_account.data.toList.drop 25 = dktX6_account_2 := dk_seg dksX6_account_1 1 rfl rfl
theorem dksX6_account_3 : cX6_account.data.toList.drop 92 = dktX6_account_3 := dk_seg dksX6_account_2 67 rfl rfl
theorem dksX6_account_4 : cX6_account.data.toList.drop 114 = dktX6_account_4 := dk_seg dksX6_account_3 22 rfl rfl
theorem dksX6_account_5 : cX6_account.data.toList.drop 136 = dktX6_account_5 := dk_seg dksX6_account_4 22 rfl rfl
theorem dksX6_account_6 : cX6_account.data.toList.drop 160 = dktX6_account_6 := dk_seg dksX6_account_5 24 rfl rfl
theorem dksX6_account_7 : cX6_account.data.toList.drop 182 = dktX6_account_7 := dk_seg dksX6_account_6 22 rfl rfl
theorem dX6_account_0 : decode cX6_account 0 = .ok (.aload_n 0, 1) := dk_42 (dk_at dksX6_account_0 0 rfl rfl)
theorem dX6_account_1 : decode cX6_account 1 = .ok (.iload_n 1, 1) := dk_27 (dk_at dksX6_account_0 1 rfl rfl)
theorem dX6_account_2 : decode cX6_account 2 = .ok (.iconst 0, 1) := dk_3 (dk_at dksX6_account_0 2 rfl rfl)
theorem dX6_account_3 : decode cX6_account 3 = .ok (.bipush 13, 2) := dk_16 13 (dk_at dksX6_account_0 3 rfl rfl)
theorem dX6_account_5 : decode cX6_account 5 = .ok (.invokestatic 64, 3) := dk_184 0 64 (dk_at dksX6_account_0 5 rfl rfl)
theorem dX6_account_8 : decode cX6_account 8 = .ok (.ifCond .eq 7, 3) := dk_153 0 7 (dk_at dksX6_account_0 8 rfl rfl)
theorem dX6_account_11 : decode cX6_account 11 = .ok (.iconst 0, 1) := dk_3 (dk_at dksX6_account_0 11 rfl rfl)
theorem dX6_account_12 : decode cX6_account 12 = .ok (.goto 4, 3) := dk_167 0 4 (dk_at dksX6_account_0 12 rfl rfl)
theorem dX6_account_15 : decode cX6_account 15 = .ok (.iconst 1, 1) := dk_4 (dk_at dksX6_account_0 15 rfl rfl)
theorem dX6_account_16 : decode cX6_account 16 = .ok (.invokevirtual 76, 3) := dk_182 0 76 (dk_at dksX6_account_0 16 rfl rfl)
theorem dX6_account_19 : decode cX6_account 19 = .ok (.ifCond .eq 5, 3) := dk_153 0 5 (dk_at dksX6_account_0 19 rfl rfl)
theorem dX6_account_22 : decode cX6_account 22 = .ok (.iconst 0, 1) := dk_3 (dk_at dksX6_account_0 22 rfl rfl)
theorem dX6_account_23 : decode cX6_account 23 = .ok (.ireturn, 1) := dk_172 (dk_at dksX6_account_0 23 rfl rfl)
theorem dX6_account_24 : decode cX6_account 24 = .ok (.iload_n 1, 1) := dk_27 (dk_at dksX6_account_1 0 rfl rfl)
theorem dX6_account_25 : decode cX6_account 25 = .ok (.tableswitch 156 0 12 #[67, 75, 81, 87, 93, 101, 109, 115, 123, 131, 139, 144, 151], 67) := by decide +kernel
theorem dX6_account_92 : decode cX6_account 92 = .ok (.aload_n 0, 1) := dk_42 (dk_at dksX6_account_3 0 rfl rfl)
theorem dX6_account_93 : decode cX6_account 93 = .ok (.getfield 7, 3) := dk_180 0 7 (dk_at dksX6_account_3 1 rfl rfl)
theorem dX6_account_96 : decode cX6_account 96 = .ok (.bipush 25, 2) := dk_16 25 (dk_at dksX6_account_3 4 rfl rfl)
theorem dX6_account_98 : decode cX6_account 98 = .ok (.iaload, 1) := dk_46 (dk_at dksX6_account_3 6 rfl rfl)
theorem dX6_account_99 : decode cX6_account 99 = .ok (.ireturn, 1) := dk_172 (dk_at dksX6_account_3 7 rfl rfl)
theorem dX6_account_100 : decode cX6_account 100 = .ok (.aload_n 0, 1) := dk_42 (dk_at dksX6_account_3 8 rfl rfl)
theorem dX6_account_101 : decode cX6_account 101 = .ok (.iconst 0, 1) := dk_3 (dk_at dksX6_account_3 9 rfl rfl)
theorem dX6_account_102 : decode cX6_account 102 = .ok (.invokevirtual 93, 3) := dk_182 0 93 (dk_at dksX6_account_3 10 rfl rfl)
theorem dX6_account_105 : decode cX6_account 105 = .ok (.ireturn, 1) := dk_172 (dk_at dksX6_account_3 13 rfl rfl)
theorem dX6_account_106 : decode cX6_account 106 = .ok (.aload_n 0, 1) := dk_42 (dk_at dksX6_account_3 14 rfl rfl)
theorem dX6_account_107 : decode cX6_account 107 = .ok (.iconst 1, 1) := dk_4 (dk_at dksX6_account_3 15 rfl rfl)
theorem dX6_account_108 : decode cX6_account 108 = .ok (.invokevirtual 93, 3) := dk_182 0 93 (dk_at dksX6_account_3 16 rfl rfl)
theorem dX6_account_111 : decode cX6_account 111 = .ok (.ireturn, 1) := dk_172 (dk_at dksX6_account_3 19 rfl rfl)
theorem dX6_account_112 : decode cX6_account 112 = .ok (.aload_n 0, 1) := dk_42 (dk_at dksX6_account_3 20 rfl rfl)
theorem dX6_account_113 : decode cX6_account 113 = .ok (.iconst 2, 1) := dk_5 (dk_at dksX6_account_3 21 rfl rfl)
theorem dX6_account_114 : decode cX6_account 114 = .ok (.invokevirtual 93, 3) := dk_182 0 93 (dk_at dksX6_account_4 0 rfl rfl)
theorem dX6_account_117 : decode cX6_account 117 = .ok (.ireturn, 1) := dk_172 (dk_at dksX6_account_4 3 rfl rfl)
theorem dX6_account_118 : decode cX6_account 118 = .ok (.aload_n 0, 1) := dk_42 (dk_at dksX6_account_4 4 rfl rfl)
theorem dX6_account_119 : decode cX6_account 119 = .ok (.getfield 7, 3) := dk_180 0 7 (dk_at dksX6_account_4 5 rfl rfl)
theorem dX6_account_122 : decode cX6_account 122 = .ok (.bipush 20, 2) := dk_16 20 (dk_at dksX6_account_4 8 rfl rfl)
theorem dX6_account_124 : decode cX6_account 124 = .ok (.iaload, 1) := dk_46 (dk_at dksX6_account_4 10 rfl rfl)
theorem dX6_account_125 : decode cX6_account 125 = .ok (.ireturn, 1) := dk_172 (dk_at dksX6_account_4 11 rfl rfl)
theorem dX6_account_126 : decode cX6_account 126 = .ok (.aload_n 0, 1) := dk_42 (dk_at dksX6_account_4 12 rfl rfl)
theorem dX6_account_127 : decode cX6_account 127 = .ok (.getfield 7, 3) := dk_180 0 7 (dk_at dksX6_account_4 13 rfl rfl)
theorem dX6_account_130 : decode cX6_account 130 = .ok (.bipush 21, 2) := dk_16 21 (dk_at dksX6_account_4 16 rfl rfl)
theorem dX6_account_132 : decode cX6_account 132 = .ok (.iaload, 1) := dk_46 (dk_at dksX6_account_4 18 rfl rfl)
theorem dX6_account_133 : decode cX6_account 133 = .ok (.ireturn, 1) := dk_172 (dk_at dksX6_account_4 19 rfl rfl)
theorem dX6_account_134 : decode cX6_account 134 = .ok (.aload_n 0, 1) := dk_42 (dk_at dksX6_account_4 20 rfl rfl)
theorem dX6_account_135 : decode cX6_account 135 = .ok (.iconst 5, 1) := dk_8 (dk_at dksX6_account_4 21 rfl rfl)
theorem dX6_account_136 : decode cX6_account 136 = .ok (.invokevirtual 206, 3) := dk_182 0 206 (dk_at dksX6_account_5 0 rfl rfl)
theorem dX6_account_139 : decode cX6_account 139 = .ok (.ireturn, 1) := dk_172 (dk_at dksX6_account_5 3 rfl rfl)
theorem dX6_account_140 : decode cX6_account 140 = .ok (.aload_n 0, 1) := dk_42 (dk_at dksX6_account_5 4 rfl rfl)
theorem dX6_account_141 : decode cX6_account 141 = .ok (.getfield 7, 3) := dk_180 0 7 (dk_at dksX6_account_5 5 rfl rfl)
theorem dX6_account_144 : decode cX6_account 144 = .ok (.bipush 22, 2) := dk_16 22 (dk_at dksX6_account_5 8 rfl rfl)
theorem dX6_account_146 : decode cX6_account 146 = .ok (.iaload, 1) := dk_46 (dk_at dksX6_account_5 10 rfl rfl)
theorem dX6_account_147 : decode cX6_account 147 = .ok (.ireturn, 1) := dk_172 (dk_at dksX6_account_5 11 rfl rfl)
theorem dX6_account_148 : decode cX6_account 148 = .ok (.aload_n 0, 1) := dk_42 (dk_at dksX6_account_5 12 rfl rfl)
theorem dX6_account_149 : decode cX6_account 149 = .ok (.getfield 7, 3) := dk_180 0 7 (dk_at dksX6_account_5 13 rfl rfl)
theorem dX6_account_152 : decode cX6_account 152 = .ok (.bipush 23, 2) := dk_16 23 (dk_at dksX6_account_5 16 rfl rfl)
theorem dX6_account_154 : decode cX6_account 154 = .ok (.iaload, 1) := dk_46 (dk_at dksX6_account_5 18 rfl rfl)
theorem dX6_account_155 : decode cX6_account 155 = .ok (.ireturn, 1) := dk_172 (dk_at dksX6_account_5 19 rfl rfl)
theorem dX6_account_156 : decode cX6_account 156 = .ok (.aload_n 0, 1) := dk_42 (dk_at dksX6_account_5 20 rfl rfl)
theorem dX6_account_157 : decode cX6_account 157 = .ok (.getfield 7, 3) := dk_180 0 7 (dk_at dksX6_account_5 21 rfl rfl)
theorem dX6_account_160 : decode cX6_account 160 = .ok (.bipush 24, 2) := dk_16 24 (dk_at dksX6_account_6 0 rfl rfl)
theorem dX6_account_162 : decode cX6_account 162 = .ok (.iaload, 1) := dk_46 (dk_at dksX6_account_6 2 rfl rfl)
theorem dX6_account_163 : decode cX6_account 163 = .ok (.ireturn, 1) := dk_172 (dk_at dksX6_account_6 3 rfl rfl)
theorem dX6_account_164 : decode cX6_account 164 = .ok (.aload_n 0, 1) := dk_42 (dk_at dksX6_account_6 4 rfl rfl)
theorem dX6_account_165 : decode cX6_account 165 = .ok (.invokevirtual 209, 3) := dk_182 0 209 (dk_at dksX6_account_6 5 rfl rfl)
theorem dX6_account_168 : decode cX6_account 168 = .ok (.ireturn, 1) := dk_172 (dk_at dksX6_account_6 8 rfl rfl)
theorem dX6_account_169 : decode cX6_account 169 = .ok (.aload_n 0, 1) := dk_42 (dk_at dksX6_account_6 9 rfl rfl)
theorem dX6_account_170 : decode cX6_account 170 = .ok (.bipush 8, 2) := dk_16 8 (dk_at dksX6_account_6 10 rfl rfl)
theorem dX6_account_172 : decode cX6_account 172 = .ok (.invokevirtual 206, 3) := dk_182 0 206 (dk_at dksX6_account_6 12 rfl rfl)
theorem dX6_account_175 : decode cX6_account 175 = .ok (.ireturn, 1) := dk_172 (dk_at dksX6_account_6 15 rfl rfl)
theorem dX6_account_176 : decode cX6_account 176 = .ok (.aload_n 0, 1) := dk_42 (dk_at dksX6_account_6 16 rfl rfl)
theorem dX6_account_177 : decode cX6_account 177 = .ok (.getfield 154, 3) := dk_180 0 154 (dk_at dksX6_account_6 17 rfl rfl)
theorem dX6_account_180 : decode cX6_account 180 = .ok (.ireturn, 1) := dk_172 (dk_at dksX6_account_6 20 rfl rfl)
theorem dX6_account_181 : decode cX6_account 181 = .ok (.aload_n 0, 1) := dk_42 (dk_at dksX6_account_6 21 rfl rfl)
theorem dX6_account_182 : decode cX6_account 182 = .ok (.getfield 57, 3) := dk_180 0 57 (dk_at dksX6_account_7 0 rfl rfl)
theorem dX6_account_185 : decode cX6_account 185 = .ok (.ireturn, 1) := dk_172 (dk_at dksX6_account_7 3 rfl rfl)
abbrev cX6_sum : ByteArray := prog_21_method_62_code
def yX6_sum : MethodName := ⟨RX6, "sum", "(I)I"⟩
def dkwX6_sum_1 : List UInt8 := [132, 3, 1, 167, 255, 233, 28, 172]
abbrev dktX6_sum_1 : List UInt8 := dkwX6_sum_1 ++ []
def dkwX6_sum_0 : List UInt8 := [3, 61, 3, 62, 29, 42, 180, 0, 7, 16, 25, 46, 162, 0, 18, 28, 42, 29, 27, 182, 0, 68, 96, 61]
abbrev dktX6_sum_0 : List UInt8 := dkwX6_sum_0 ++ dktX6_sum_1
theorem dksX6_sum_0 : cX6_sum.data.toList.drop 0 = dktX6_sum_0 := by decide +kernel
theorem dksX6_sum_1 : cX6_sum.data.toList.drop 24 = dktX6_sum_1 := dk_seg dksX6_sum_0 24 rfl rfl
theorem dX6_sum_0 : decode cX6_sum 0 = .ok (.iconst 0, 1) := dk_3 (dk_at dksX6_sum_0 0 rfl rfl)
theorem dX6_sum_1 : decode cX6_sum 1 = .ok (.istore_n 2, 1) := dk_61 (dk_at dksX6_sum_0 1 rfl rfl)
theorem dX6_sum_2 : decode cX6_sum 2 = .ok (.iconst 0, 1) := dk_3 (dk_at dksX6_sum_0 2 rfl rfl)
theorem dX6_sum_3 : decode cX6_sum 3 = .ok (.istore_n 3, 1) := dk_62 (dk_at dksX6_sum_0 3 rfl rfl)
theorem dX6_sum_4 : decode cX6_sum 4 = .ok (.iload_n 3, 1) := dk_29 (dk_at dksX6_sum_0 4 rfl rfl)
theorem dX6_sum_5 : decode cX6_sum 5 = .ok (.aload_n 0, 1) := dk_42 (dk_at dksX6_sum_0 5 rfl rfl)
theorem dX6_sum_6 : decode cX6_sum 6 = .ok (.getfield 7, 3) := dk_180 0 7 (dk_at dksX6_sum_0 6 rfl rfl)
theorem dX6_sum_9 : decode cX6_sum 9 = .ok (.bipush 25, 2) := dk_16 25 (dk_at dksX6_sum_0 9 rfl rfl)
theorem dX6_sum_11 : decode cX6_sum 11 = .ok (.iaload, 1) := dk_46 (dk_at dksX6_sum_0 11 rfl rfl)
theorem dX6_sum_12 : decode cX6_sum 12 = .ok (.if_icmp .ge 18, 3) := dk_162 0 18 (dk_at dksX6_sum_0 12 rfl rfl)
theorem dX6_sum_15 : decode cX6_sum 15 = .ok (.iload_n 2, 1) := dk_28 (dk_at dksX6_sum_0 15 rfl rfl)
theorem dX6_sum_16 : decode cX6_sum 16 = .ok (.aload_n 0, 1) := dk_42 (dk_at dksX6_sum_0 16 rfl rfl)
theorem dX6_sum_17 : decode cX6_sum 17 = .ok (.iload_n 3, 1) := dk_29 (dk_at dksX6_sum_0 17 rfl rfl)
theorem dX6_sum_18 : decode cX6_sum 18 = .ok (.iload_n 1, 1) := dk_27 (dk_at dksX6_sum_0 18 rfl rfl)
theorem dX6_sum_19 : decode cX6_sum 19 = .ok (.invokevirtual 68, 3) := dk_182 0 68 (dk_at dksX6_sum_0 19 rfl rfl)
theorem dX6_sum_22 : decode cX6_sum 22 = .ok (.iadd, 1) := dk_96 (dk_at dksX6_sum_0 22 rfl rfl)
theorem dX6_sum_23 : decode cX6_sum 23 = .ok (.istore_n 2, 1) := dk_61 (dk_at dksX6_sum_0 23 rfl rfl)
theorem dX6_sum_24 : decode cX6_sum 24 = .ok (.iinc 3 1, 3) := dk_132 3 1 (dk_at dksX6_sum_1 0 rfl rfl)
theorem dX6_sum_27 : decode cX6_sum 27 = .ok (.goto (-23), 3) := dk_167 255 233 (dk_at dksX6_sum_1 3 rfl rfl)
theorem dX6_sum_30 : decode cX6_sum 30 = .ok (.iload_n 2, 1) := dk_28 (dk_at dksX6_sum_1 6 rfl rfl)
theorem dX6_sum_31 : decode cX6_sum 31 = .ok (.ireturn, 1) := dk_172 (dk_at dksX6_sum_1 7 rfl rfl)
abbrev cX6_pairs : ByteArray := prog_21_method_63_code
def yX6_pairs : MethodName := ⟨RX6, "pairs", "()I"⟩
def dkwX6_pairs_2 : List UInt8 := [167, 255, 212, 27, 172]
abbrev dktX6_pairs_2 : List UInt8 := dkwX6_pairs_2 ++ []
def dkwX6_pairs_1 : List UInt8 := [28, 29, 182, 0, 131, 156, 0, 7, 3, 167, 0, 4, 4, 96, 60, 132, 3, 1, 167, 255, 231, 132, 2, 1]
abbrev dktX6_pairs_1 : List UInt8 := dkwX6_pairs_1 ++ dktX6_pairs_2
def dkwX6_pairs_0 : List UInt8 := [3, 60, 3, 61, 28, 42, 180, 0, 7, 16, 25, 46, 162, 0, 39, 3, 62, 29, 28, 162, 0, 26, 27, 42]
abbrev dktX6_pairs_0 : List UInt8 := dkwX6_pairs_0 ++ dktX6_pairs_1
theorem dksX6_pairs_0 : cX6_pairs.data.toList.drop 0 = dktX6_pairs_0 := by decide +kernel
theorem dksX6_pairs_1 : cX6_pairs.data.toList.drop 24 = dktX6_pairs_1 := dk_seg dksX6_pairs_0 24 rfl rfl
theorem dksX6_pairs_2 : cX6_pairs.data.toList.drop 48 = dktX6_pairs_2 := dk_seg dksX6_pairs_1 24 rfl rfl
theorem dX6_pairs_0 : decode cX6_pairs 0 = .ok (.iconst 0, 1) := dk_3 (dk_at dksX6_pairs_0 0 rfl rfl)
theorem dX6_pairs_1 : decode cX6_pairs 1 = .ok (.istore_n 1, 1) := dk_60 (dk_at dksX6_pairs_0 1 rfl rfl)
theorem dX6_pairs_2 : decode cX6_pairs 2 = .ok (.iconst 0, 1) := dk_3 (dk_at dksX6_pairs_0 2 rfl rfl)
theorem dX6_pairs_3 : decode cX6_pairs 3 = .ok (.istore_n 2, 1) := dk_61 (dk_at dksX6_pairs_0 3 rfl rfl)
theorem dX6_pairs_4 : decode cX6_pairs 4 = .ok (.iload_n 2, 1) := dk_28 (dk_at dksX6_pairs_0 4 rfl rfl)
theorem dX6_pairs_5 : decode cX6_pairs 5 = .ok (.aload_n 0, 1) := dk_42 (dk_at dksX6_pairs_0 5 rfl rfl)
theorem dX6_pairs_6 : decode cX6_pairs 6 = .ok (.getfield 7, 3) := dk_180 0 7 (dk_at dksX6_pairs_0 6 rfl rfl)
theorem dX6_pairs_9 : decode cX6_pairs 9 = .ok (.bipush 25, 2) := dk_16 25 (dk_at dksX6_pairs_0 9 rfl rfl)
theorem dX6_pairs_11 : decode cX6_pairs 11 = .ok (.iaload, 1) := dk_46 (dk_at dksX6_pairs_0 11 rfl rfl)
theorem dX6_pairs_12 : decode cX6_pairs 12 = .ok (.if_icmp .ge 39, 3) := dk_162 0 39 (dk_at dksX6_pairs_0 12 rfl rfl)
theorem dX6_pairs_15 : decode cX6_pairs 15 = .ok (.iconst 0, 1) := dk_3 (dk_at dksX6_pairs_0 15 rfl rfl)
theorem dX6_pairs_16 : decode cX6_pairs 16 = .ok (.istore_n 3, 1) := dk_62 (dk_at dksX6_pairs_0 16 rfl rfl)
theorem dX6_pairs_17 : decode cX6_pairs 17 = .ok (.iload_n 3, 1) := dk_29 (dk_at dksX6_pairs_0 17 rfl rfl)
theorem dX6_pairs_18 : decode cX6_pairs 18 = .ok (.iload_n 2, 1) := dk_28 (dk_at dksX6_pairs_0 18 rfl rfl)
theorem dX6_pairs_19 : decode cX6_pairs 19 = .ok (.if_icmp .ge 26, 3) := dk_162 0 26 (dk_at dksX6_pairs_0 19 rfl rfl)
theorem dX6_pairs_22 : decode cX6_pairs 22 = .ok (.iload_n 1, 1) := dk_27 (dk_at dksX6_pairs_0 22 rfl rfl)
theorem dX6_pairs_23 : decode cX6_pairs 23 = .ok (.aload_n 0, 1) := dk_42 (dk_at dksX6_pairs_0 23 rfl rfl)
theorem dX6_pairs_24 : decode cX6_pairs 24 = .ok (.iload_n 2, 1) := dk_28 (dk_at dksX6_pairs_1 0 rfl rfl)
theorem dX6_pairs_25 : decode cX6_pairs 25 = .ok (.iload_n 3, 1) := dk_29 (dk_at dksX6_pairs_1 1 rfl rfl)
theorem dX6_pairs_26 : decode cX6_pairs 26 = .ok (.invokevirtual 131, 3) := dk_182 0 131 (dk_at dksX6_pairs_1 2 rfl rfl)
theorem dX6_pairs_29 : decode cX6_pairs 29 = .ok (.ifCond .ge 7, 3) := dk_156 0 7 (dk_at dksX6_pairs_1 5 rfl rfl)
theorem dX6_pairs_32 : decode cX6_pairs 32 = .ok (.iconst 0, 1) := dk_3 (dk_at dksX6_pairs_1 8 rfl rfl)
theorem dX6_pairs_33 : decode cX6_pairs 33 = .ok (.goto 4, 3) := dk_167 0 4 (dk_at dksX6_pairs_1 9 rfl rfl)
theorem dX6_pairs_36 : decode cX6_pairs 36 = .ok (.iconst 1, 1) := dk_4 (dk_at dksX6_pairs_1 12 rfl rfl)
theorem dX6_pairs_37 : decode cX6_pairs 37 = .ok (.iadd, 1) := dk_96 (dk_at dksX6_pairs_1 13 rfl rfl)
theorem dX6_pairs_38 : decode cX6_pairs 38 = .ok (.istore_n 1, 1) := dk_60 (dk_at dksX6_pairs_1 14 rfl rfl)
theorem dX6_pairs_39 : decode cX6_pairs 39 = .ok (.iinc 3 1, 3) := dk_132 3 1 (dk_at dksX6_pairs_1 15 rfl rfl)
theorem dX6_pairs_42 : decode cX6_pairs 42 = .ok (.goto (-25), 3) := dk_167 255 231 (dk_at dksX6_pairs_1 18 rfl rfl)
theorem dX6_pairs_45 : decode cX6_pairs 45 = .ok (.iinc 2 1, 3) := dk_132 2 1 (dk_at dksX6_pairs_1 21 rfl rfl)
theorem dX6_pairs_48 : decode cX6_pairs 48 = .ok (.goto (-44), 3) := dk_167 255 212 (dk_at dksX6_pairs_2 0 rfl rfl)
theorem dX6_pairs_51 : decode cX6_pairs 51 = .ok (.iload_n 1, 1) := dk_27 (dk_at dksX6_pairs_2 3 rfl rfl)
theorem dX6_pairs_52 : decode cX6_pairs 52 = .ok (.ireturn, 1) := dk_172 (dk_at dksX6_pairs_2 4 rfl rfl)
abbrev cX6_isBalanced : ByteArray := prog_21_method_65_code
def yX6_isBalanced : MethodName := ⟨RX6, "isBalanced", "()Z"⟩
def dkwX6_isBalanced_4 : List UInt8 := [160, 0, 7, 4, 167, 0, 4, 3, 172]
abbrev dktX6_isBalanced_4 : List UInt8 := dkwX6_isBalanced_4 ++ []
def dkwX6_isBalanced_3 : List UInt8 := [159, 0, 5, 3, 172, 132, 1, 1, 167, 255, 216, 42, 16, 13, 182, 0, 206, 42, 180, 0, 7, 16, 22, 46]
abbrev dktX6_isBalanced_3 : List UInt8 := dkwX6_isBalanced_3 ++ dktX6_isBalanced_4
def dkwX6_isBalanced_2 : List UInt8 := [162, 0, 35, 42, 27, 6, 182, 0, 68, 42, 27, 16, 12, 182, 0, 68, 42, 27, 16, 13, 182, 0, 68, 100]
abbrev dktX6_isBalanced_2 : List UInt8 := dkwX6_isBalanced_2 ++ dktX6_isBalanced_3
def dkwX6_isBalanced_1 : List UInt8 := [96, 42, 180, 0, 7, 16, 23, 46, 96, 159, 0, 5, 3, 172, 3, 60, 27, 42, 180, 0, 7, 16, 25, 46]
abbrev dktX6_isBalanced_1 : List UInt8 := dkwX6_isBalanced_1 ++ dktX6_isBalanced_2
def dkwX6_isBalanced_0 : List UInt8 := [42, 3, 181, 0, 47, 42, 180, 0, 7, 16, 21, 46, 42, 8, 182, 0, 206, 42, 180, 0, 7, 16, 22, 46]
abbrev dktX6_isBalanced_0 : List UInt8 := dkwX6_isBalanced_0 ++ dktX6_isBalanced_1
theorem dksX6_isBalanced_0 : cX6_isBalanced.data.toList.drop 0 = dktX6_isBalanced_0 := by decide +kernel
theorem dksX6_isBalanced_1 : cX6_isBalanced.data.toList.drop 24 = dktX6_isBalanced_1 := dk_seg dksX6_isBalanced_0 24 rfl rfl
theorem dksX6_isBalanced_2 : cX6_isBalanced.data.toList.drop 48 = dktX6_isBalanced_2 := dk_seg dksX6_isBalanced_1 24 rfl rfl
theorem dksX6_isBalanced_3 : cX6_isBalanced.data.toList.drop 72 = dktX6_isBalanced_3 := dk_seg dksX6_isBalanced_2 24 rfl rfl
theorem dksX6_isBalanced_4 : cX6_isBalanced.data.toList.drop 96 = dktX6_isBalanced_4 := dk_seg dksX6_isBalanced_3 24 rfl rfl
theorem dX6_isBalanced_0 : decode cX6_isBalanced 0 = .ok (.aload_n 0, 1) := dk_42 (dk_at dksX6_isBalanced_0 0 rfl rfl)
theorem dX6_isBalanced_1 : decode cX6_isBalanced 1 = .ok (.iconst 0, 1) := dk_3 (dk_at dksX6_isBalanced_0 1 rfl rfl)
theorem dX6_isBalanced_2 : decode cX6_isBalanced 2 = .ok (.putfield 47, 3) := dk_181 0 47 (dk_at dksX6_isBalanced_0 2 rfl rfl)
theorem dX6_isBalanced_5 : decode cX6_isBalanced 5 = .ok (.aload_n 0, 1) := dk_42 (dk_at dksX6_isBalanced_0 5 rfl rfl)
theorem dX6_isBalanced_6 : decode cX6_isBalanced 6 = .ok (.getfield 7, 3) := dk_180 0 7 (dk_at dksX6_isBalanced_0 6 rfl rfl)
theorem dX6_isBalanced_9 : decode cX6_isBalanced 9 = .ok (.bipush 21, 2) := dk_16 21 (dk_at dksX6_isBalanced_0 9 rfl rfl)
theorem dX6_isBalanced_11 : decode cX6_isBalanced 11 = .ok (.iaload, 1) := dk_46 (dk_at dksX6_isBalanced_0 11 rfl rfl)
theorem dX6_isBalanced_12 : decode cX6_isBalanced 12 = .ok (.aload_n 0, 1) := dk_42 (dk_at dksX6_isBalanced_0 12 rfl rfl)
theorem dX6_isBalanced_13 : decode cX6_isBalanced 13 = .ok (.iconst 5, 1) := dk_8 (dk_at dksX6_isBalanced_0 13 rfl rfl)
theorem dX6_isBalanced_14 : decode cX6_isBalanced 14 = .ok (.invokevirtual 206, 3) := dk_182 0 206 (dk_at dksX6_isBalanced_0 14 rfl rfl)
theorem dX6_isBalanced_17 : decode cX6_isBalanced 17 = .ok (.aload_n 0, 1) := dk_42 (dk_at dksX6_isBalanced_0 17 rfl rfl)
theorem dX6_isBalanced_18 : decode cX6_isBalanced 18 = .ok (.getfield 7, 3) := dk_180 0 7 (dk_at dksX6_isBalanced_0 18 rfl rfl)
theorem dX6_isBalanced_21 : decode cX6_isBalanced 21 = .ok (.bipush 22, 2) := dk_16 22 (dk_at dksX6_isBalanced_0 21 rfl rfl)
theorem dX6_isBalanced_23 : decode cX6_isBalanced 23 = .ok (.iaload, 1) := dk_46 (dk_at dksX6_isBalanced_0 23 rfl rfl)
theorem dX6_isBalanced_24 : decode cX6_isBalanced 24 = .ok (.iadd, 1) := dk_96 (dk_at dksX6_isBalanced_1 0 rfl rfl)
theorem dX6_isBalanced_25 : decode cX6_isBalanced 25 = .ok (.aload_n 0, 1) := dk_42 (dk_at dksX6_isBalanced_1 1 rfl rfl)
theorem dX6_isBalanced_26 : decode cX6_isBalanced 26 = .ok (.getfield 7, 3) := dk_180 0 7 (dk_at dksX6_isBalanced_1 2 rfl rfl)
theorem dX6_isBalanced_29 : decode cX6_isBalanced 29 = .ok (.bipush 23, 2) := dk_16 23 (dk_at dksX6_isBalanced_1 5 rfl rfl)
theorem dX6_isBalanced_31 : decode cX6_isBalanced 31 = .ok (.iaload, 1) := dk_46 (dk_at dksX6_isBalanced_1 7 rfl rfl)
theorem dX6_isBalanced_32 : decode cX6_isBalanced 32 = .ok (.iadd, 1) := dk_96 (dk_at dksX6_isBalanced_1 8 rfl rfl)
theorem dX6_isBalanced_33 : decode cX6_isBalanced 33 = .ok (.if_icmp .eq 5, 3) := dk_159 0 5 (dk_at dksX6_isBalanced_1 9 rfl rfl)
theorem dX6_isBalanced_36 : decode cX6_isBalanced 36 = .ok (.iconst 0, 1) := dk_3 (dk_at dksX6_isBalanced_1 12 rfl rfl)
theorem dX6_isBalanced_37 : decode cX6_isBalanced 37 = .ok (.ireturn, 1) := dk_172 (dk_at dksX6_isBalanced_1 13 rfl rfl)
theorem dX6_isBalanced_38 : decode cX6_isBalanced 38 = .ok (.iconst 0, 1) := dk_3 (dk_at dksX6_isBalanced_1 14 rfl rfl)
theorem dX6_isBalanced_39 : decode cX6_isBalanced 39 = .ok (.istore_n 1, 1) := dk_60 (dk_at dksX6_isBalanced_1 15 rfl rfl)
theorem dX6_isBalanced_40 : decode cX6_isBalanced 40 = .ok (.iload_n 1, 1) := dk_27 (dk_at dksX6_isBalanced_1 16 rfl rfl)
theorem dX6_isBalanced_41 : decode cX6_isBalanced 41 = .ok (.aload_n 0, 1) := dk_42 (dk_at dksX6_isBalanced_1 17 rfl rfl)
theorem dX6_isBalanced_42 : decode cX6_isBalanced 42 = .ok (.getfield 7, 3) := dk_180 0 7 (dk_at dksX6_isBalanced_1 18 rfl rfl)
theorem dX6_isBalanced_45 : decode cX6_isBalanced 45 = .ok (.bipush 25, 2) := dk_16 25 (dk_at dksX6_isBalanced_1 21 rfl rfl)
theorem dX6_isBalanced_47 : decode cX6_isBalanced 47 = .ok (.iaload, 1) := dk_46 (dk_at dksX6_isBalanced_1 23 rfl rfl)
theorem dX6_isBalanced_48 : decode cX6_isBalanced 48 = .ok (.if_icmp .ge 35, 3) := dk_162 0 35 (dk_at dksX6_isBalanced_2 0 rfl rfl)
theorem dX6_isBalanced_51 : decode cX6_isBalanced 51 = .ok (.aload_n 0, 1) := dk_42 (dk_at dksX6_isBalanced_2 3 rfl rfl)
theorem dX6_isBalanced_52 : decode cX6_isBalanced 52 = .ok (.iload_n 1, 1) := dk_27 (dk_at dksX6_isBalanced_2 4 rfl rfl)
theorem dX6_isBalanced_53 : decode cX6_isBalanced 53 = .ok (.iconst 3, 1) := dk_6 (dk_at dksX6_isBalanced_2 5 rfl rfl)
theorem dX6_isBalanced_54 : decode cX6_isBalanced 54 = .ok (.invokevirtual 68, 3) := dk_182 0 68 (dk_at dksX6_isBalanced_2 6 rfl rfl)
theorem dX6_isBalanced_57 : decode cX6_isBalanced 57 = .ok (.aload_n 0, 1) := dk_42 (dk_at dksX6_isBalanced_2 9 rfl rfl)
theorem dX6_isBalanced_58 : decode cX6_isBalanced 58 = .ok (.iload_n 1, 1) := dk_27 (dk_at dksX6_isBalanced_2 10 rfl rfl)
theorem dX6_isBalanced_59 : decode cX6_isBalanced 59 = .ok (.bipush 12, 2) := dk_16 12 (dk_at dksX6_isBalanced_2 11 rfl rfl)
theorem dX6_isBalanced_61 : decode cX6_isBalanced 61 = .ok (.invokevirtual 68, 3) := dk_182 0 68 (dk_at dksX6_isBalanced_2 13 rfl rfl)
theorem dX6_isBalanced_64 : decode cX6_isBalanced 64 = .ok (.aload_n 0, 1) := dk_42 (dk_at dksX6_isBalanced_2 16 rfl rfl)
theorem dX6_isBalanced_65 : decode cX6_isBalanced 65 = .ok (.iload_n 1, 1) := dk_27 (dk_at dksX6_isBalanced_2 17 rfl rfl)
theorem dX6_isBalanced_66 : decode cX6_isBalanced 66 = .ok (.bipush 13, 2) := dk_16 13 (dk_at dksX6_isBalanced_2 18 rfl rfl)
theorem dX6_isBalanced_68 : decode cX6_isBalanced 68 = .ok (.invokevirtual 68, 3) := dk_182 0 68 (dk_at dksX6_isBalanced_2 20 rfl rfl)
theorem dX6_isBalanced_71 : decode cX6_isBalanced 71 = .ok (.isub, 1) := dk_100 (dk_at dksX6_isBalanced_2 23 rfl rfl)
theorem dX6_isBalanced_72 : decode cX6_isBalanced 72 = .ok (.if_icmp .eq 5, 3) := dk_159 0 5 (dk_at dksX6_isBalanced_3 0 rfl rfl)
theorem dX6_isBalanced_75 : decode cX6_isBalanced 75 = .ok (.iconst 0, 1) := dk_3 (dk_at dksX6_isBalanced_3 3 rfl rfl)
theorem dX6_isBalanced_76 : decode cX6_isBalanced 76 = .ok (.ireturn, 1) := dk_172 (dk_at dksX6_isBalanced_3 4 rfl rfl)
theorem dX6_isBalanced_77 : decode cX6_isBalanced 77 = .ok (.iinc 1 1, 3) := dk_132 1 1 (dk_at dksX6_isBalanced_3 5 rfl rfl)
theorem dX6_isBalanced_80 : decode cX6_isBalanced 80 = .ok (.goto (-40), 3) := dk_167 255 216 (dk_at dksX6_isBalanced_3 8 rfl rfl)
theorem dX6_isBalanced_83 : decode cX6_isBalanced 83 = .ok (.aload_n 0, 1) := dk_42 (dk_at dksX6_isBalanced_3 11 rfl rfl)
theorem dX6_isBalanced_84 : decode cX6_isBalanced 84 = .ok (.bipush 13, 2) := dk_16 13 (dk_at dksX6_isBalanced_3 12 rfl rfl)
theorem dX6_isBalanced_86 : decode cX6_isBalanced 86 = .ok (.invokevirtual 206, 3) := dk_182 0 206 (dk_at dksX6_isBalanced_3 14 rfl rfl)
theorem dX6_isBalanced_89 : decode cX6_isBalanced 89 = .ok (.aload_n 0, 1) := dk_42 (dk_at dksX6_isBalanced_3 17 rfl rfl)
theorem dX6_isBalanced_90 : decode cX6_isBalanced 90 = .ok (.getfield 7, 3) := dk_180 0 7 (dk_at dksX6_isBalanced_3 18 rfl rfl)
theorem dX6_isBalanced_93 : decode cX6_isBalanced 93 = .ok (.bipush 22, 2) := dk_16 22 (dk_at dksX6_isBalanced_3 21 rfl rfl)
theorem dX6_isBalanced_95 : decode cX6_isBalanced 95 = .ok (.iaload, 1) := dk_46 (dk_at dksX6_isBalanced_3 23 rfl rfl)
theorem dX6_isBalanced_96 : decode cX6_isBalanced 96 = .ok (.if_icmp .ne 7, 3) := dk_160 0 7 (dk_at dksX6_isBalanced_4 0 rfl rfl)
theorem dX6_isBalanced_99 : decode cX6_isBalanced 99 = .ok (.iconst 1, 1) := dk_4 (dk_at dksX6_isBalanced_4 3 rfl rfl)
theorem dX6_isBalanced_100 : decode cX6_isBalanced 100 = .ok (.goto 4, 3) := dk_167 0 4 (dk_at dksX6_isBalanced_4 4 rfl rfl)
theorem dX6_isBalanced_103 : decode cX6_isBalanced 103 = .ok (.iconst 0, 1) := dk_3 (dk_at dksX6_isBalanced_4 7 rfl rfl)
theorem dX6_isBalanced_104 : decode cX6_isBalanced 104 = .ok (.ireturn, 1) := dk_172 (dk_at dksX6_isBalanced_4 8 rfl rfl)
abbrev cX6_meanTension : ByteArray := prog_21_method_66_code
def yX6_meanTension : MethodName := ⟨RX6, "meanTension", "()D"⟩
def dkwX6_meanTension_2 : List UInt8 := [132, 3, 1, 167, 255, 234, 28, 135, 27, 135, 111, 175]
abbrev dktX6_meanTension_2 : List UInt8 := dkwX6_meanTension_2 ++ []
def dkwX6_meanTension_1 : List UInt8 := [3, 61, 3, 62, 29, 42, 180, 0, 7, 16, 25, 46, 162, 0, 17, 28, 42, 29, 182, 0, 119, 96, 61]
abbrev dktX6_meanTension_1 : List UInt8 := dkwX6_meanTension_1 ++ dktX6_meanTension_2
def dkwX6_meanTension_0 : List UInt8 := [42, 4, 182, 0, 93, 60, 42, 27, 154, 0, 7, 4, 167, 0, 4, 3, 182, 0, 76, 153, 0, 5, 14, 175]
abbrev dktX6_meanTension_0 : List UInt8 := dkwX6_meanTension_0 ++ dktX6_meanTension_1
theorem dksX6_meanTension_0 : cX6_meanTension.data.toList.drop 0 = dktX6_meanTension_0 := by decide +kernel
theorem dksX6_meanTension_1 : cX6_meanTension.data.toList.drop 24 = dktX6_meanTension_1 := dk_seg dksX6_meanTension_0 24 rfl rfl
theorem dksX6_meanTension_2 : cX6_meanTension.data.toList.drop 47 = dktX6_meanTension_2 := dk_seg dksX6_meanTension_1 23 rfl rfl
theorem dX6_meanTension_0 : decode cX6_meanTension 0 = .ok (.aload_n 0, 1) := dk_42 (dk_at dksX6_meanTension_0 0 rfl rfl)
theorem dX6_meanTension_1 : decode cX6_meanTension 1 = .ok (.iconst 1, 1) := dk_4 (dk_at dksX6_meanTension_0 1 rfl rfl)
theorem dX6_meanTension_2 : decode cX6_meanTension 2 = .ok (.invokevirtual 93, 3) := dk_182 0 93 (dk_at dksX6_meanTension_0 2 rfl rfl)
theorem dX6_meanTension_5 : decode cX6_meanTension 5 = .ok (.istore_n 1, 1) := dk_60 (dk_at dksX6_meanTension_0 5 rfl rfl)
theorem dX6_meanTension_6 : decode cX6_meanTension 6 = .ok (.aload_n 0, 1) := dk_42 (dk_at dksX6_meanTension_0 6 rfl rfl)
theorem dX6_meanTension_7 : decode cX6_meanTension 7 = .ok (.iload_n 1, 1) := dk_27 (dk_at dksX6_meanTension_0 7 rfl rfl)
theorem dX6_meanTension_8 : decode cX6_meanTension 8 = .ok (.ifCond .ne 7, 3) := dk_154 0 7 (dk_at dksX6_meanTension_0 8 rfl rfl)
theorem dX6_meanTension_11 : decode cX6_meanTension 11 = .ok (.iconst 1, 1) := dk_4 (dk_at dksX6_meanTension_0 11 rfl rfl)
theorem dX6_meanTension_12 : decode cX6_meanTension 12 = .ok (.goto 4, 3) := dk_167 0 4 (dk_at dksX6_meanTension_0 12 rfl rfl)
theorem dX6_meanTension_15 : decode cX6_meanTension 15 = .ok (.iconst 0, 1) := dk_3 (dk_at dksX6_meanTension_0 15 rfl rfl)
theorem dX6_meanTension_16 : decode cX6_meanTension 16 = .ok (.invokevirtual 76, 3) := dk_182 0 76 (dk_at dksX6_meanTension_0 16 rfl rfl)
theorem dX6_meanTension_19 : decode cX6_meanTension 19 = .ok (.ifCond .eq 5, 3) := dk_153 0 5 (dk_at dksX6_meanTension_0 19 rfl rfl)
theorem dX6_meanTension_22 : decode cX6_meanTension 22 = .ok (.dconst 0, 1) := dk_14 (dk_at dksX6_meanTension_0 22 rfl rfl)
theorem dX6_meanTension_23 : decode cX6_meanTension 23 = .ok (.dreturn, 1) := dk_175 (dk_at dksX6_meanTension_0 23 rfl rfl)
theorem dX6_meanTension_24 : decode cX6_meanTension 24 = .ok (.iconst 0, 1) := dk_3 (dk_at dksX6_meanTension_1 0 rfl rfl)
theorem dX6_meanTension_25 : decode cX6_meanTension 25 = .ok (.istore_n 2, 1) := dk_61 (dk_at dksX6_meanTension_1 1 rfl rfl)
theorem dX6_meanTension_26 : decode cX6_meanTension 26 = .ok (.iconst 0, 1) := dk_3 (dk_at dksX6_meanTension_1 2 rfl rfl)
theorem dX6_meanTension_27 : decode cX6_meanTension 27 = .ok (.istore_n 3, 1) := dk_62 (dk_at dksX6_meanTension_1 3 rfl rfl)
theorem dX6_meanTension_28 : decode cX6_meanTension 28 = .ok (.iload_n 3, 1) := dk_29 (dk_at dksX6_meanTension_1 4 rfl rfl)
theorem dX6_meanTension_29 : decode cX6_meanTension 29 = .ok (.aload_n 0, 1) := dk_42 (dk_at dksX6_meanTension_1 5 rfl rfl)
theorem dX6_meanTension_30 : decode cX6_meanTension 30 = .ok (.getfield 7, 3) := dk_180 0 7 (dk_at dksX6_meanTension_1 6 rfl rfl)
theorem dX6_meanTension_33 : decode cX6_meanTension 33 = .ok (.bipush 25, 2) := dk_16 25 (dk_at dksX6_meanTension_1 9 rfl rfl)
theorem dX6_meanTension_35 : decode cX6_meanTension 35 = .ok (.iaload, 1) := dk_46 (dk_at dksX6_meanTension_1 11 rfl rfl)
theorem dX6_meanTension_36 : decode cX6_meanTension 36 = .ok (.if_icmp .ge 17, 3) := dk_162 0 17 (dk_at dksX6_meanTension_1 12 rfl rfl)
theorem dX6_meanTension_39 : decode cX6_meanTension 39 = .ok (.iload_n 2, 1) := dk_28 (dk_at dksX6_meanTension_1 15 rfl rfl)
theorem dX6_meanTension_40 : decode cX6_meanTension 40 = .ok (.aload_n 0, 1) := dk_42 (dk_at dksX6_meanTension_1 16 rfl rfl)
theorem dX6_meanTension_41 : decode cX6_meanTension 41 = .ok (.iload_n 3, 1) := dk_29 (dk_at dksX6_meanTension_1 17 rfl rfl)
theorem dX6_meanTension_42 : decode cX6_meanTension 42 = .ok (.invokevirtual 119, 3) := dk_182 0 119 (dk_at dksX6_meanTension_1 18 rfl rfl)
theorem dX6_meanTension_45 : decode cX6_meanTension 45 = .ok (.iadd, 1) := dk_96 (dk_at dksX6_meanTension_1 21 rfl rfl)
theorem dX6_meanTension_46 : decode cX6_meanTension 46 = .ok (.istore_n 2, 1) := dk_61 (dk_at dksX6_meanTension_1 22 rfl rfl)
theorem dX6_meanTension_47 : decode cX6_meanTension 47 = .ok (.iinc 3 1, 3) := dk_132 3 1 (dk_at dksX6_meanTension_2 0 rfl rfl)
theorem dX6_meanTension_50 : decode cX6_meanTension 50 = .ok (.goto (-22), 3) := dk_167 255 234 (dk_at dksX6_meanTension_2 3 rfl rfl)
theorem dX6_meanTension_53 : decode cX6_meanTension 53 = .ok (.iload_n 2, 1) := dk_28 (dk_at dksX6_meanTension_2 6 rfl rfl)
theorem dX6_meanTension_54 : decode cX6_meanTension 54 = .ok (.i2d, 1) := dk_135 (dk_at dksX6_meanTension_2 7 rfl rfl)
theorem dX6_meanTension_55 : decode cX6_meanTension 55 = .ok (.iload_n 1, 1) := dk_27 (dk_at dksX6_meanTension_2 8 rfl rfl)
theorem dX6_meanTension_56 : decode cX6_meanTension 56 = .ok (.i2d, 1) := dk_135 (dk_at dksX6_meanTension_2 9 rfl rfl)
theorem dX6_meanTension_57 : decode cX6_meanTension 57 = .ok (.ddiv, 1) := dk_111 (dk_at dksX6_meanTension_2 10 rfl rfl)
theorem dX6_meanTension_58 : decode cX6_meanTension 58 = .ok (.dreturn, 1) := dk_175 (dk_at dksX6_meanTension_2 11 rfl rfl)
abbrev cX6_outShare : ByteArray := prog_21_method_67_code
def yX6_outShare : MethodName := ⟨RX6, "outShare", "()F"⟩
def dkwX6_outShare_1 : List UInt8 := [42, 8, 182, 0, 206, 134, 42, 6, 182, 0, 206, 134, 110, 174]
abbrev dktX6_outShare_1 : List UInt8 := dkwX6_outShare_1 ++ []
def dkwX6_outShare_0 : List UInt8 := [42, 42, 6, 182, 0, 206, 154, 0, 7, 4, 167, 0, 4, 3, 182, 0, 76, 153, 0, 7, 11, 167, 0, 16]
abbrev dktX6_outShare_0 : List UInt8 := dkwX6_outShare_0 ++ dktX6_outShare_1
theorem dksX6_outShare_0 : cX6_outShare.data.toList.drop 0 = dktX6_outShare_0 := by decide +kernel
theorem dksX6_outShare_1 : cX6_outShare.data.toList.drop 24 = dktX6_outShare_1 := dk_seg dksX6_outShare_0 24 rfl rfl
theorem dX6_outShare_0 : decode cX6_outShare 0 = .ok (.aload_n 0, 1) := dk_42 (dk_at dksX6_outShare_0 0 rfl rfl)
theorem dX6_outShare_1 : decode cX6_outShare 1 = .ok (.aload_n 0, 1) := dk_42 (dk_at dksX6_outShare_0 1 rfl rfl)
theorem dX6_outShare_2 : decode cX6_outShare 2 = .ok (.iconst 3, 1) := dk_6 (dk_at dksX6_outShare_0 2 rfl rfl)
theorem dX6_outShare_3 : decode cX6_outShare 3 = .ok (.invokevirtual 206, 3) := dk_182 0 206 (dk_at dksX6_outShare_0 3 rfl rfl)
theorem dX6_outShare_6 : decode cX6_outShare 6 = .ok (.ifCond .ne 7, 3) := dk_154 0 7 (dk_at dksX6_outShare_0 6 rfl rfl)
theorem dX6_outShare_9 : decode cX6_outShare 9 = .ok (.iconst 1, 1) := dk_4 (dk_at dksX6_outShare_0 9 rfl rfl)
theorem dX6_outShare_10 : decode cX6_outShare 10 = .ok (.goto 4, 3) := dk_167 0 4 (dk_at dksX6_outShare_0 10 rfl rfl)
theorem dX6_outShare_13 : decode cX6_outShare 13 = .ok (.iconst 0, 1) := dk_3 (dk_at dksX6_outShare_0 13 rfl rfl)
theorem dX6_outShare_14 : decode cX6_outShare 14 = .ok (.invokevirtual 76, 3) := dk_182 0 76 (dk_at dksX6_outShare_0 14 rfl rfl)
theorem dX6_outShare_17 : decode cX6_outShare 17 = .ok (.ifCond .eq 7, 3) := dk_153 0 7 (dk_at dksX6_outShare_0 17 rfl rfl)
theorem dX6_outShare_20 : decode cX6_outShare 20 = .ok (.fconst 0, 1) := dk_11 (dk_at dksX6_outShare_0 20 rfl rfl)
theorem dX6_outShare_21 : decode cX6_outShare 21 = .ok (.goto 16, 3) := dk_167 0 16 (dk_at dksX6_outShare_0 21 rfl rfl)
theorem dX6_outShare_24 : decode cX6_outShare 24 = .ok (.aload_n 0, 1) := dk_42 (dk_at dksX6_outShare_1 0 rfl rfl)
theorem dX6_outShare_25 : decode cX6_outShare 25 = .ok (.iconst 5, 1) := dk_8 (dk_at dksX6_outShare_1 1 rfl rfl)
theorem dX6_outShare_26 : decode cX6_outShare 26 = .ok (.invokevirtual 206, 3) := dk_182 0 206 (dk_at dksX6_outShare_1 2 rfl rfl)
theorem dX6_outShare_29 : decode cX6_outShare 29 = .ok (.i2f, 1) := dk_134 (dk_at dksX6_outShare_1 5 rfl rfl)
theorem dX6_outShare_30 : decode cX6_outShare 30 = .ok (.aload_n 0, 1) := dk_42 (dk_at dksX6_outShare_1 6 rfl rfl)
theorem dX6_outShare_31 : decode cX6_outShare 31 = .ok (.iconst 3, 1) := dk_6 (dk_at dksX6_outShare_1 7 rfl rfl)
theorem dX6_outShare_32 : decode cX6_outShare 32 = .ok (.invokevirtual 206, 3) := dk_182 0 206 (dk_at dksX6_outShare_1 8 rfl rfl)
theorem dX6_outShare_35 : decode cX6_outShare 35 = .ok (.i2f, 1) := dk_134 (dk_at dksX6_outShare_1 11 rfl rfl)
theorem dX6_outShare_36 : decode cX6_outShare 36 = .ok (.fdiv, 1) := dk_110 (dk_at dksX6_outShare_1 12 rfl rfl)
theorem dX6_outShare_37 : decode cX6_outShare 37 = .ok (.freturn, 1) := dk_174 (dk_at dksX6_outShare_1 13 rfl rfl)
abbrev cX6_undo : ByteArray := prog_21_method_68_code
def yX6_undo : MethodName := ⟨RX6, "undo", "()I"⟩
def dkwX6_undo_2 : List UInt8 := [184, 0, 60, 42, 180, 0, 57, 172]
abbrev dktX6_undo_2 : List UInt8 := dkwX6_undo_2 ++ []
def dkwX6_undo_1 : List UInt8 := [180, 0, 57, 4, 100, 181, 0, 57, 42, 180, 0, 13, 16, 116, 42, 180, 0, 57, 104, 42, 180, 0, 7, 3]
abbrev dktX6_undo_1 : List UInt8 := dkwX6_undo_1 ++ dktX6_undo_2
def dkwX6_undo_0 : List UInt8 := [42, 42, 180, 0, 57, 154, 0, 7, 4, 167, 0, 4, 3, 182, 0, 76, 153, 0, 5, 3, 172, 42, 89]
abbrev dktX6_undo_0 : List UInt8 := dkwX6_undo_0 ++ dktX6_undo_1
theorem dksX6_undo_0 : cX6_undo.data.toList.drop 0 = dktX6_undo_0 := by decide +kernel
theorem dksX6_undo_1 : cX6_undo.data.toList.drop 23 = dktX6_undo_1 := dk_seg dksX6_undo_0 23 rfl rfl
theorem dksX6_undo_2 : cX6_undo.data.toList.drop 47 = dktX6_undo_2 := dk_seg dksX6_undo_1 24 rfl rfl
theorem dX6_undo_0 : decode cX6_undo 0 = .ok (.aload_n 0, 1) := dk_42 (dk_at dksX6_undo_0 0 rfl rfl)
theorem dX6_undo_1 : decode cX6_undo 1 = .ok (.aload_n 0, 1) := dk_42 (dk_at dksX6_undo_0 1 rfl rfl)
theorem dX6_undo_2 : decode cX6_undo 2 = .ok (.getfield 57, 3) := dk_180 0 57 (dk_at dksX6_undo_0 2 rfl rfl)
theorem dX6_undo_5 : decode cX6_undo 5 = .ok (.ifCond .ne 7, 3) := dk_154 0 7 (dk_at dksX6_undo_0 5 rfl rfl)
theorem dX6_undo_8 : decode cX6_undo 8 = .ok (.iconst 1, 1) := dk_4 (dk_at dksX6_undo_0 8 rfl rfl)
theorem dX6_undo_9 : decode cX6_undo 9 = .ok (.goto 4, 3) := dk_167 0 4 (dk_at dksX6_undo_0 9 rfl rfl)
theorem dX6_undo_12 : decode cX6_undo 12 = .ok (.iconst 0, 1) := dk_3 (dk_at dksX6_undo_0 12 rfl rfl)
theorem dX6_undo_13 : decode cX6_undo 13 = .ok (.invokevirtual 76, 3) := dk_182 0 76 (dk_at dksX6_undo_0 13 rfl rfl)
theorem dX6_undo_16 : decode cX6_undo 16 = .ok (.ifCond .eq 5, 3) := dk_153 0 5 (dk_at dksX6_undo_0 16 rfl rfl)
theorem dX6_undo_19 : decode cX6_undo 19 = .ok (.iconst 0, 1) := dk_3 (dk_at dksX6_undo_0 19 rfl rfl)
theorem dX6_undo_20 : decode cX6_undo 20 = .ok (.ireturn, 1) := dk_172 (dk_at dksX6_undo_0 20 rfl rfl)
theorem dX6_undo_21 : decode cX6_undo 21 = .ok (.aload_n 0, 1) := dk_42 (dk_at dksX6_undo_0 21 rfl rfl)
theorem dX6_undo_22 : decode cX6_undo 22 = .ok (.dup, 1) := dk_89 (dk_at dksX6_undo_0 22 rfl rfl)
theorem dX6_undo_23 : decode cX6_undo 23 = .ok (.getfield 57, 3) := dk_180 0 57 (dk_at dksX6_undo_1 0 rfl rfl)
theorem dX6_undo_26 : decode cX6_undo 26 = .ok (.iconst 1, 1) := dk_4 (dk_at dksX6_undo_1 3 rfl rfl)
theorem dX6_undo_27 : decode cX6_undo 27 = .ok (.isub, 1) := dk_100 (dk_at dksX6_undo_1 4 rfl rfl)
theorem dX6_undo_28 : decode cX6_undo 28 = .ok (.putfield 57, 3) := dk_181 0 57 (dk_at dksX6_undo_1 5 rfl rfl)
theorem dX6_undo_31 : decode cX6_undo 31 = .ok (.aload_n 0, 1) := dk_42 (dk_at dksX6_undo_1 8 rfl rfl)
theorem dX6_undo_32 : decode cX6_undo 32 = .ok (.getfield 13, 3) := dk_180 0 13 (dk_at dksX6_undo_1 9 rfl rfl)
theorem dX6_undo_35 : decode cX6_undo 35 = .ok (.bipush 116, 2) := dk_16 116 (dk_at dksX6_undo_1 12 rfl rfl)
theorem dX6_undo_37 : decode cX6_undo 37 = .ok (.aload_n 0, 1) := dk_42 (dk_at dksX6_undo_1 14 rfl rfl)
theorem dX6_undo_38 : decode cX6_undo 38 = .ok (.getfield 57, 3) := dk_180 0 57 (dk_at dksX6_undo_1 15 rfl rfl)
theorem dX6_undo_41 : decode cX6_undo 41 = .ok (.imul, 1) := dk_104 (dk_at dksX6_undo_1 18 rfl rfl)
theorem dX6_undo_42 : decode cX6_undo 42 = .ok (.aload_n 0, 1) := dk_42 (dk_at dksX6_undo_1 19 rfl rfl)
theorem dX6_undo_43 : decode cX6_undo 43 = .ok (.getfield 7, 3) := dk_180 0 7 (dk_at dksX6_undo_1 20 rfl rfl)
theorem dX6_undo_46 : decode cX6_undo 46 = .ok (.iconst 0, 1) := dk_3 (dk_at dksX6_undo_1 23 rfl rfl)
theorem dX6_undo_47 : decode cX6_undo 47 = .ok (.invokestatic 60, 3) := dk_184 0 60 (dk_at dksX6_undo_2 0 rfl rfl)
theorem dX6_undo_50 : decode cX6_undo 50 = .ok (.aload_n 0, 1) := dk_42 (dk_at dksX6_undo_2 3 rfl rfl)
theorem dX6_undo_51 : decode cX6_undo 51 = .ok (.getfield 57, 3) := dk_180 0 57 (dk_at dksX6_undo_2 4 rfl rfl)
theorem dX6_undo_54 : decode cX6_undo 54 = .ok (.ireturn, 1) := dk_172 (dk_at dksX6_undo_2 7 rfl rfl)
abbrev cX6_save : ByteArray := prog_21_method_69_code
def yX6_save : MethodName := ⟨RX6, "save", "()I"⟩
def dkwX6_save_1 : List UInt8 := [180, 0, 7, 16, 20, 46, 172]
abbrev dktX6_save_1 : List UInt8 := dkwX6_save_1 ++ []
def dkwX6_save_0 : List UInt8 := [42, 3, 181, 0, 47, 42, 4, 181, 0, 212, 42, 180, 0, 7, 3, 42, 180, 0, 16, 3, 184, 0, 60, 42]
abbrev dktX6_save_0 : List UInt8 := dkwX6_save_0 ++ dktX6_save_1
theorem dksX6_save_0 : cX6_save.data.toList.drop 0 = dktX6_save_0 := by decide +kernel
theorem dksX6_save_1 : cX6_save.data.toList.drop 24 = dktX6_save_1 := dk_seg dksX6_save_0 24 rfl rfl
theorem dX6_save_0 : decode cX6_save 0 = .ok (.aload_n 0, 1) := dk_42 (dk_at dksX6_save_0 0 rfl rfl)
theorem dX6_save_1 : decode cX6_save 1 = .ok (.iconst 0, 1) := dk_3 (dk_at dksX6_save_0 1 rfl rfl)
theorem dX6_save_2 : decode cX6_save 2 = .ok (.putfield 47, 3) := dk_181 0 47 (dk_at dksX6_save_0 2 rfl rfl)
theorem dX6_save_5 : decode cX6_save 5 = .ok (.aload_n 0, 1) := dk_42 (dk_at dksX6_save_0 5 rfl rfl)
theorem dX6_save_6 : decode cX6_save 6 = .ok (.iconst 1, 1) := dk_4 (dk_at dksX6_save_0 6 rfl rfl)
theorem dX6_save_7 : decode cX6_save 7 = .ok (.putfield 212, 3) := dk_181 0 212 (dk_at dksX6_save_0 7 rfl rfl)
theorem dX6_save_10 : decode cX6_save 10 = .ok (.aload_n 0, 1) := dk_42 (dk_at dksX6_save_0 10 rfl rfl)
theorem dX6_save_11 : decode cX6_save 11 = .ok (.getfield 7, 3) := dk_180 0 7 (dk_at dksX6_save_0 11 rfl rfl)
theorem dX6_save_14 : decode cX6_save 14 = .ok (.iconst 0, 1) := dk_3 (dk_at dksX6_save_0 14 rfl rfl)
theorem dX6_save_15 : decode cX6_save 15 = .ok (.aload_n 0, 1) := dk_42 (dk_at dksX6_save_0 15 rfl rfl)
theorem dX6_save_16 : decode cX6_save 16 = .ok (.getfield 16, 3) := dk_180 0 16 (dk_at dksX6_save_0 16 rfl rfl)
theorem dX6_save_19 : decode cX6_save 19 = .ok (.iconst 0, 1) := dk_3 (dk_at dksX6_save_0 19 rfl rfl)
theorem dX6_save_20 : decode cX6_save 20 = .ok (.invokestatic 60, 3) := dk_184 0 60 (dk_at dksX6_save_0 20 rfl rfl)
theorem dX6_save_23 : decode cX6_save 23 = .ok (.aload_n 0, 1) := dk_42 (dk_at dksX6_save_0 23 rfl rfl)
theorem dX6_save_24 : decode cX6_save 24 = .ok (.getfield 7, 3) := dk_180 0 7 (dk_at dksX6_save_1 0 rfl rfl)
theorem dX6_save_27 : decode cX6_save 27 = .ok (.bipush 20, 2) := dk_16 20 (dk_at dksX6_save_1 3 rfl rfl)
theorem dX6_save_29 : decode cX6_save 29 = .ok (.iaload, 1) := dk_46 (dk_at dksX6_save_1 5 rfl rfl)
theorem dX6_save_30 : decode cX6_save 30 = .ok (.ireturn, 1) := dk_172 (dk_at dksX6_save_1 6 rfl rfl)
abbrev cX6_restore : ByteArray := prog_21_method_70_code
def yX6_restore : MethodName := ⟨RX6, "restore", "()I"⟩
def dkwX6_restore_2 : List UInt8 := [172]
abbrev dktX6_restore_2 : List UInt8 := dkwX6_restore_2 ++ []
def dkwX6_restore_1 : List UInt8 := [180, 0, 16, 3, 42, 180, 0, 7, 3, 184, 0, 60, 42, 3, 181, 0, 57, 42, 180, 0, 7, 16, 20, 46]
abbrev dktX6_restore_1 : List UInt8 := dkwX6_restore_1 ++ dktX6_restore_2
def dkwX6_restore_0 : List UInt8 := [42, 42, 180, 0, 212, 153, 0, 7, 3, 167, 0, 4, 4, 182, 0, 76, 153, 0, 5, 3, 172, 42]
abbrev dktX6_restore_0 : List UInt8 := dkwX6_restore_0 ++ dktX6_restore_1
theorem dksX6_restore_0 : cX6_restore.data.toList.drop 0 = dktX6_restore_0 := by decide +kernel
theorem dksX6_restore_1 : cX6_restore.data.toList.drop 22 = dktX6_restore_1 := dk_seg dksX6_restore_0 22 rfl rfl
theorem dksX6_restore_2 : cX6_restore.data.toList.drop 46 = dktX6_restore_2 := dk_seg dksX6_restore_1 24 rfl rfl
theorem dX6_restore_0 : decode cX6_restore 0 = .ok (.aload_n 0, 1) := dk_42 (dk_at dksX6_restore_0 0 rfl rfl)
theorem dX6_restore_1 : decode cX6_restore 1 = .ok (.aload_n 0, 1) := dk_42 (dk_at dksX6_restore_0 1 rfl rfl)
theorem dX6_restore_2 : decode cX6_restore 2 = .ok (.getfield 212, 3) := dk_180 0 212 (dk_at dksX6_restore_0 2 rfl rfl)
theorem dX6_restore_5 : decode cX6_restore 5 = .ok (.ifCond .eq 7, 3) := dk_153 0 7 (dk_at dksX6_restore_0 5 rfl rfl)
theorem dX6_restore_8 : decode cX6_restore 8 = .ok (.iconst 0, 1) := dk_3 (dk_at dksX6_restore_0 8 rfl rfl)
theorem dX6_restore_9 : decode cX6_restore 9 = .ok (.goto 4, 3) := dk_167 0 4 (dk_at dksX6_restore_0 9 rfl rfl)
theorem dX6_restore_12 : decode cX6_restore 12 = .ok (.iconst 1, 1) := dk_4 (dk_at dksX6_restore_0 12 rfl rfl)
theorem dX6_restore_13 : decode cX6_restore 13 = .ok (.invokevirtual 76, 3) := dk_182 0 76 (dk_at dksX6_restore_0 13 rfl rfl)
theorem dX6_restore_16 : decode cX6_restore 16 = .ok (.ifCond .eq 5, 3) := dk_153 0 5 (dk_at dksX6_restore_0 16 rfl rfl)
theorem dX6_restore_19 : decode cX6_restore 19 = .ok (.iconst 0, 1) := dk_3 (dk_at dksX6_restore_0 19 rfl rfl)
theorem dX6_restore_20 : decode cX6_restore 20 = .ok (.ireturn, 1) := dk_172 (dk_at dksX6_restore_0 20 rfl rfl)
theorem dX6_restore_21 : decode cX6_restore 21 = .ok (.aload_n 0, 1) := dk_42 (dk_at dksX6_restore_0 21 rfl rfl)
theorem dX6_restore_22 : decode cX6_restore 22 = .ok (.getfield 16, 3) := dk_180 0 16 (dk_at dksX6_restore_1 0 rfl rfl)
theorem dX6_restore_25 : decode cX6_restore 25 = .ok (.iconst 0, 1) := dk_3 (dk_at dksX6_restore_1 3 rfl rfl)
theorem dX6_restore_26 : decode cX6_restore 26 = .ok (.aload_n 0, 1) := dk_42 (dk_at dksX6_restore_1 4 rfl rfl)
theorem dX6_restore_27 : decode cX6_restore 27 = .ok (.getfield 7, 3) := dk_180 0 7 (dk_at dksX6_restore_1 5 rfl rfl)
theorem dX6_restore_30 : decode cX6_restore 30 = .ok (.iconst 0, 1) := dk_3 (dk_at dksX6_restore_1 8 rfl rfl)
theorem dX6_restore_31 : decode cX6_restore 31 = .ok (.invokestatic 60, 3) := dk_184 0 60 (dk_at dksX6_restore_1 9 rfl rfl)
theorem dX6_restore_34 : decode cX6_restore 34 = .ok (.aload_n 0, 1) := dk_42 (dk_at dksX6_restore_1 12 rfl rfl)
theorem dX6_restore_35 : decode cX6_restore 35 = .ok (.iconst 0, 1) := dk_3 (dk_at dksX6_restore_1 13 rfl rfl)
theorem dX6_restore_36 : decode cX6_restore 36 = .ok (.putfield 57, 3) := dk_181 0 57 (dk_at dksX6_restore_1 14 rfl rfl)
theorem dX6_restore_39 : decode cX6_restore 39 = .ok (.aload_n 0, 1) := dk_42 (dk_at dksX6_restore_1 17 rfl rfl)
theorem dX6_restore_40 : decode cX6_restore 40 = .ok (.getfield 7, 3) := dk_180 0 7 (dk_at dksX6_restore_1 18 rfl rfl)
theorem dX6_restore_43 : decode cX6_restore 43 = .ok (.bipush 20, 2) := dk_16 20 (dk_at dksX6_restore_1 21 rfl rfl)
theorem dX6_restore_45 : decode cX6_restore 45 = .ok (.iaload, 1) := dk_46 (dk_at dksX6_restore_1 23 rfl rfl)
theorem dX6_restore_46 : decode cX6_restore 46 = .ok (.ireturn, 1) := dk_172 (dk_at dksX6_restore_2 0 rfl rfl)
theorem q81 : (Jvm.Cond.initialized "KiteRoofsModel") ∈ lw_all := lw_g (lw_at lw_m1 13 rfl) rfl
theorem q574 : (Jvm.Cond.selects "KiteRoofsModel" ({ cls := "java/lang/Object", name := "getClass", desc := "()Ljava/lang/Class;" } : Jvm.MethodName) ({ cls := "java/lang/Object", name := "getClass", desc := "()Ljava/lang/Class;" } : Jvm.MethodName)) ∈ lw_all := lw_g (lw_at lw_m3 26 rfl) rfl
theorem q1615 : (Jvm.Cond.instantiable "KiteRoofsModel" (20 : Nat)) ∈ lw_all := lw_g (lw_at lw_m7 107 rfl) rfl
theorem q1617 : (Jvm.Cond.instanceMethod ({ cls := "KiteRoofsModel", name := "<init>", desc := "()V" } : Jvm.MethodName)) ∈ lw_all := lw_g (lw_at lw_m7 109 rfl) rfl
theorem q1618 : (Jvm.Cond.code ({ cls := "KiteRoofsModel", name := "<init>", desc := "()V" } : Jvm.MethodName) prog_21_method_1_code (2 : Nat) (Option.none : Option Jvm.ClassFile.FieldType)) ∈ lw_all := lw_g (lw_at lw_m7 110 rfl) rfl
theorem q1619 : (Jvm.Cond.methodLink "KiteRoofsModel" (1 : Nat) ({ cls := "java/lang/Object", name := "<init>", desc := "()V" } : Jvm.MethodName)) ∈ lw_all := lw_g (lw_at lw_m7 111 rfl) rfl
theorem q1620 : (Jvm.Cond.fieldLink "KiteRoofsModel" (7 : Nat) "KiteRoofsModel" "g" "[I") ∈ lw_all := lw_g (lw_at lw_m7 112 rfl) rfl
theorem q1621 : (Jvm.Cond.fieldLink "KiteRoofsModel" (13 : Nat) "KiteRoofsModel" "kept" "[I") ∈ lw_all := lw_g (lw_at lw_m7 113 rfl) rfl
theorem q1622 : (Jvm.Cond.fieldLink "KiteRoofsModel" (16 : Nat) "KiteRoofsModel" "saved" "[I") ∈ lw_all := lw_g (lw_at lw_m7 114 rfl) rfl
theorem q1623 : (Jvm.Cond.fieldLink "KiteRoofsModel" (19 : Nat) "KiteRoofsModel" "ahead" "[I") ∈ lw_all := lw_g (lw_at lw_m7 115 rfl) rfl
theorem q1624 : (Jvm.Cond.fieldLink "KiteRoofsModel" (22 : Nat) "KiteRoofsModel" "thought" "[I") ∈ lw_all := lw_g (lw_at lw_m7 116 rfl) rfl
theorem q1625 : (Jvm.Cond.fieldLink "KiteRoofsModel" (212 : Nat) "KiteRoofsModel" "isSaved" "Z") ∈ lw_all := lw_g (lw_at lw_m7 117 rfl) rfl
theorem q1626 : (Jvm.Cond.fieldLink "KiteRoofsModel" (57 : Nat) "KiteRoofsModel" "changes" "I") ∈ lw_all := lw_g (lw_at lw_m7 118 rfl) rfl
theorem q1627 : (Jvm.Cond.fieldLink "KiteRoofsModel" (53 : Nat) "KiteRoofsModel" "isWithin" "Z") ∈ lw_all := lw_g (lw_at lw_m7 119 rfl) rfl
theorem q1628 : (Jvm.Cond.fieldLink "KiteRoofsModel" (25 : Nat) "KiteRoofsModel" "buffer" "[I") ∈ lw_all := lw_g (lw_at lw_m7 120 rfl) rfl
theorem q1629 : (Jvm.Cond.fieldLink "KiteRoofsModel" (154 : Nat) "KiteRoofsModel" "length" "I") ∈ lw_all := lw_g (lw_at lw_m7 121 rfl) rfl
theorem q1630 : (Jvm.Cond.fieldLink "KiteRoofsModel" (28 : Nat) "KiteRoofsModel" "fault" "I") ∈ lw_all := lw_g (lw_at lw_m7 122 rfl) rfl
theorem q1631 : (Jvm.Cond.fieldLink "KiteRoofsModel" (50 : Nat) "KiteRoofsModel" "reason" "I") ∈ lw_all := lw_g (lw_at lw_m7 123 rfl) rfl
theorem q1632 : (Jvm.Cond.fieldLink "KiteRoofsModel" (32 : Nat) "KiteRoofsModel" "order" "I") ∈ lw_all := lw_g (lw_at lw_m7 124 rfl) rfl
theorem q1633 : (Jvm.Cond.fieldLink "KiteRoofsModel" (47 : Nat) "KiteRoofsModel" "code" "I") ∈ lw_all := lw_g (lw_at lw_m7 125 rfl) rfl
theorem q1634 : (Jvm.Cond.fieldLink "KiteRoofsModel" (35 : Nat) "KiteRoofsModel" "cutAt" "[I") ∈ lw_all := lw_g (lw_at lw_m7 126 rfl) rfl
theorem q1635 : (Jvm.Cond.fieldLink "KiteRoofsModel" (38 : Nat) "KiteRoofsModel" "cutter" "[I") ∈ lw_all := lw_g (lw_at lw_m7 127 rfl) rfl
theorem q1636 : (Jvm.Cond.fieldLink "KiteRoofsModel" (41 : Nat) "KiteRoofsModel" "sawers" "[I") ∈ lw_all := lw_g (lw_at lw_m7 128 rfl) rfl
theorem q1637 : (Jvm.Cond.fieldLink "KiteRoofsModel" (157 : Nat) "KiteRoofsModel" "at" "I") ∈ lw_all := lw_g (lw_at lw_m7 129 rfl) rfl
theorem q1638 : (Jvm.Cond.fieldLink "KiteRoofsModel" (44 : Nat) "KiteRoofsModel" "orders" "[I") ∈ lw_all := lw_g (lw_at lw_m7 130 rfl) rfl
theorem q1639 : (Jvm.Cond.fieldLink "KiteRoofsModel" (172 : Nat) "KiteRoofsModel" "many" "I") ∈ lw_all := lw_g (lw_at lw_m7 131 rfl) rfl
theorem q1640 : (Jvm.Cond.laysFinal "KiteRoofsModel" "KiteRoofsModel" "g" "[I") ∈ lw_all := lw_g (lw_at lw_m7 132 rfl) rfl
theorem q1641 : (Jvm.Cond.soleField "KiteRoofsModel" "g") ∈ lw_all := lw_g (lw_at lw_m7 133 rfl) rfl
theorem q1642 : (Jvm.Cond.laysFinal "KiteRoofsModel" "KiteRoofsModel" "kept" "[I") ∈ lw_all := lw_g (lw_at lw_m7 134 rfl) rfl
theorem q1643 : (Jvm.Cond.soleField "KiteRoofsModel" "kept") ∈ lw_all := lw_g (lw_at lw_m7 135 rfl) rfl
theorem q1644 : (Jvm.Cond.laysFinal "KiteRoofsModel" "KiteRoofsModel" "saved" "[I") ∈ lw_all := lw_g (lw_at lw_m7 136 rfl) rfl
theorem q1645 : (Jvm.Cond.soleField "KiteRoofsModel" "saved") ∈ lw_all := lw_g (lw_at lw_m7 137 rfl) rfl
theorem q1646 : (Jvm.Cond.laysFinal "KiteRoofsModel" "KiteRoofsModel" "ahead" "[I") ∈ lw_all := lw_g (lw_at lw_m7 138 rfl) rfl
theorem q1647 : (Jvm.Cond.soleField "KiteRoofsModel" "ahead") ∈ lw_all := lw_g (lw_at lw_m7 139 rfl) rfl
theorem q1648 : (Jvm.Cond.laysFinal "KiteRoofsModel" "KiteRoofsModel" "thought" "[I") ∈ lw_all := lw_g (lw_at lw_m7 140 rfl) rfl
theorem q1649 : (Jvm.Cond.soleField "KiteRoofsModel" "thought") ∈ lw_all := lw_g (lw_at lw_m7 141 rfl) rfl
theorem q1650 : (Jvm.Cond.lays "KiteRoofsModel" "KiteRoofsModel" "isSaved" "Z") ∈ lw_all := lw_g (lw_at lw_m7 142 rfl) rfl
theorem q1651 : (Jvm.Cond.soleField "KiteRoofsModel" "isSaved") ∈ lw_all := lw_g (lw_at lw_m7 143 rfl) rfl
theorem q1652 : (Jvm.Cond.lays "KiteRoofsModel" "KiteRoofsModel" "changes" "I") ∈ lw_all := lw_g (lw_at lw_m7 144 rfl) rfl
theorem q1653 : (Jvm.Cond.soleField "KiteRoofsModel" "changes") ∈ lw_all := lw_g (lw_at lw_m7 145 rfl) rfl
theorem q1654 : (Jvm.Cond.lays "KiteRoofsModel" "KiteRoofsModel" "isWithin" "Z") ∈ lw_all := lw_g (lw_at lw_m7 146 rfl) rfl
theorem q1655 : (Jvm.Cond.soleField "KiteRoofsModel" "isWithin") ∈ lw_all := lw_g (lw_at lw_m7 147 rfl) rfl
theorem q1656 : (Jvm.Cond.laysFinal "KiteRoofsModel" "KiteRoofsModel" "buffer" "[I") ∈ lw_all := lw_g (lw_at lw_m7 148 rfl) rfl
theorem q1657 : (Jvm.Cond.soleField "KiteRoofsModel" "buffer") ∈ lw_all := lw_g (lw_at lw_m7 149 rfl) rfl
theorem q1658 : (Jvm.Cond.lays "KiteRoofsModel" "KiteRoofsModel" "length" "I") ∈ lw_all := lw_g (lw_at lw_m7 150 rfl) rfl
theorem q1659 : (Jvm.Cond.soleField "KiteRoofsModel" "length") ∈ lw_all := lw_g (lw_at lw_m7 151 rfl) rfl
theorem q1660 : (Jvm.Cond.lays "KiteRoofsModel" "KiteRoofsModel" "fault" "I") ∈ lw_all := lw_g (lw_at lw_m7 152 rfl) rfl
theorem q1661 : (Jvm.Cond.soleField "KiteRoofsModel" "fault") ∈ lw_all := lw_g (lw_at lw_m7 153 rfl) rfl
theorem q1662 : (Jvm.Cond.lays "KiteRoofsModel" "KiteRoofsModel" "reason" "I") ∈ lw_all := lw_g (lw_at lw_m7 154 rfl) rfl
theorem q1663 : (Jvm.Cond.soleField "KiteRoofsModel" "reason") ∈ lw_all := lw_g (lw_at lw_m7 155 rfl) rfl
theorem q1664 : (Jvm.Cond.lays "KiteRoofsModel" "KiteRoofsModel" "order" "I") ∈ lw_all := lw_g (lw_at lw_m7 156 rfl) rfl
theorem q1665 : (Jvm.Cond.soleField "KiteRoofsModel" "order") ∈ lw_all := lw_g (lw_at lw_m7 157 rfl) rfl
theorem q1666 : (Jvm.Cond.lays "KiteRoofsModel" "KiteRoofsModel" "code" "I") ∈ lw_all := lw_g (lw_at lw_m7 158 rfl) rfl
theorem q1667 : (Jvm.Cond.soleField "KiteRoofsModel" "code") ∈ lw_all := lw_g (lw_at lw_m7 159 rfl) rfl
theorem q1668 : (Jvm.Cond.laysFinal "KiteRoofsModel" "KiteRoofsModel" "cutAt" "[I") ∈ lw_all := lw_g (lw_at lw_m7 160 rfl) rfl
theorem q1669 : (Jvm.Cond.soleField "KiteRoofsModel" "cutAt") ∈ lw_all := lw_g (lw_at lw_m7 161 rfl) rfl
theorem q1670 : (Jvm.Cond.laysFinal "KiteRoofsModel" "KiteRoofsModel" "cutter" "[I") ∈ lw_all := lw_g (lw_at lw_m7 162 rfl) rfl
theorem q1671 : (Jvm.Cond.soleField "KiteRoofsModel" "cutter") ∈ lw_all := lw_g (lw_at lw_m7 163 rfl) rfl
theorem q1672 : (Jvm.Cond.laysFinal "KiteRoofsModel" "KiteRoofsModel" "sawers" "[I") ∈ lw_all := lw_g (lw_at lw_m7 164 rfl) rfl
theorem q1673 : (Jvm.Cond.soleField "KiteRoofsModel" "sawers") ∈ lw_all := lw_g (lw_at lw_m7 165 rfl) rfl
theorem q1674 : (Jvm.Cond.lays "KiteRoofsModel" "KiteRoofsModel" "at" "I") ∈ lw_all := lw_g (lw_at lw_m7 166 rfl) rfl
theorem q1675 : (Jvm.Cond.soleField "KiteRoofsModel" "at") ∈ lw_all := lw_g (lw_at lw_m7 167 rfl) rfl
theorem q1676 : (Jvm.Cond.laysFinal "KiteRoofsModel" "KiteRoofsModel" "orders" "[I") ∈ lw_all := lw_g (lw_at lw_m7 168 rfl) rfl
theorem q1677 : (Jvm.Cond.soleField "KiteRoofsModel" "orders") ∈ lw_all := lw_g (lw_at lw_m7 169 rfl) rfl
theorem q1678 : (Jvm.Cond.lays "KiteRoofsModel" "KiteRoofsModel" "many" "I") ∈ lw_all := lw_g (lw_at lw_m7 170 rfl) rfl
theorem q1679 : (Jvm.Cond.soleField "KiteRoofsModel" "many") ∈ lw_all := lw_g (lw_at lw_m7 171 rfl) rfl
theorem q1680 : (Jvm.Cond.superclass "KiteRoofsModel" "java/lang/Object") ∈ lw_all := lw_g (lw_at lw_m7 172 rfl) rfl
theorem q1682 : (Jvm.Cond.instanceMethod ({ cls := "KiteRoofsModel", name := "thrown", desc := "()I" } : Jvm.MethodName)) ∈ lw_all := lw_g (lw_at lw_m7 174 rfl) rfl
theorem q1683 : (Jvm.Cond.selects "KiteRoofsModel" ({ cls := "KiteRoofsModel", name := "thrown", desc := "()I" } : Jvm.MethodName) ({ cls := "KiteRoofsModel", name := "thrown", desc := "()I" } : Jvm.MethodName)) ∈ lw_all := lw_g (lw_at lw_m7 175 rfl) rfl
theorem q1684 : (Jvm.Cond.code ({ cls := "KiteRoofsModel", name := "thrown", desc := "()I" } : Jvm.MethodName) prog_21_method_2_code (1 : Nat) (Option.some Jvm.ClassFile.FieldType.int)) ∈ lw_all := lw_g (lw_at lw_m7 176 rfl) rfl
theorem q1686 : (Jvm.Cond.instanceMethod ({ cls := "KiteRoofsModel", name := "wind", desc := "(III)I" } : Jvm.MethodName)) ∈ lw_all := lw_g (lw_at lw_m7 178 rfl) rfl
theorem q1687 : (Jvm.Cond.selects "KiteRoofsModel" ({ cls := "KiteRoofsModel", name := "wind", desc := "(III)I" } : Jvm.MethodName) ({ cls := "KiteRoofsModel", name := "wind", desc := "(III)I" } : Jvm.MethodName)) ∈ lw_all := lw_g (lw_at lw_m7 179 rfl) rfl
theorem q1688 : (Jvm.Cond.code ({ cls := "KiteRoofsModel", name := "wind", desc := "(III)I" } : Jvm.MethodName) prog_21_method_18_code (5 : Nat) (Option.some Jvm.ClassFile.FieldType.int)) ∈ lw_all := lw_g (lw_at lw_m7 180 rfl) rfl
theorem q1689 : (Jvm.Cond.methodLink "KiteRoofsModel" (72 : Nat) ({ cls := "KiteRoofsModel", name := "isLayer", desc := "(I)Z" } : Jvm.MethodName)) ∈ lw_all := lw_g (lw_at lw_m7 181 rfl) rfl
theorem q1690 : (Jvm.Cond.static ({ cls := "KiteRoofsModel", name := "isLayer", desc := "(I)Z" } : Jvm.MethodName)) ∈ lw_all := lw_g (lw_at lw_m7 182 rfl) rfl
theorem q1691 : (Jvm.Cond.code ({ cls := "KiteRoofsModel", name := "isLayer", desc := "(I)Z" } : Jvm.MethodName) prog_21_method_11_code (1 : Nat) (Option.some Jvm.ClassFile.FieldType.boolean)) ∈ lw_all := lw_g (lw_at lw_m7 183 rfl) rfl
theorem q1692 : (Jvm.Cond.methodLink "KiteRoofsModel" (64 : Nat) ({ cls := "KiteRoofsModel", name := "in", desc := "(III)Z" } : Jvm.MethodName)) ∈ lw_all := lw_g (lw_at lw_m7 184 rfl) rfl
theorem q1693 : (Jvm.Cond.static ({ cls := "KiteRoofsModel", name := "in", desc := "(III)Z" } : Jvm.MethodName)) ∈ lw_all := lw_g (lw_at lw_m7 185 rfl) rfl
theorem q1694 : (Jvm.Cond.code ({ cls := "KiteRoofsModel", name := "in", desc := "(III)Z" } : Jvm.MethodName) prog_21_method_5_code (3 : Nat) (Option.some Jvm.ClassFile.FieldType.boolean)) ∈ lw_all := lw_g (lw_at lw_m7 186 rfl) rfl
theorem q1695 : (Jvm.Cond.methodLink "KiteRoofsModel" (76 : Nat) ({ cls := "KiteRoofsModel", name := "fails", desc := "(I)Z" } : Jvm.MethodName)) ∈ lw_all := lw_g (lw_at lw_m7 187 rfl) rfl
theorem q1696 : (Jvm.Cond.privateMethod ({ cls := "KiteRoofsModel", name := "fails", desc := "(I)Z" } : Jvm.MethodName)) ∈ lw_tbl := lw_at lw_m7 188 rfl
theorem q1697 : (Jvm.Cond.instanceMethod ({ cls := "KiteRoofsModel", name := "fails", desc := "(I)Z" } : Jvm.MethodName)) ∈ lw_all := lw_g (lw_at lw_m7 189 rfl) rfl
theorem q1698 : (Jvm.Cond.code ({ cls := "KiteRoofsModel", name := "fails", desc := "(I)Z" } : Jvm.MethodName) prog_21_method_3_code (2 : Nat) (Option.some Jvm.ClassFile.FieldType.boolean)) ∈ lw_all := lw_g (lw_at lw_m7 190 rfl) rfl
theorem q1699 : (Jvm.Cond.methodLink "KiteRoofsModel" (79 : Nat) ({ cls := "KiteRoofsModel", name := "keeps", desc := "([I)V" } : Jvm.MethodName)) ∈ lw_all := lw_g (lw_at lw_m7 191 rfl) rfl
theorem q1700 : (Jvm.Cond.privateMethod ({ cls := "KiteRoofsModel", name := "keeps", desc := "([I)V" } : Jvm.MethodName)) ∈ lw_tbl := lw_at lw_m7 192 rfl
theorem q1701 : (Jvm.Cond.instanceMethod ({ cls := "KiteRoofsModel", name := "keeps", desc := "([I)V" } : Jvm.MethodName)) ∈ lw_all := lw_g (lw_at lw_m7 193 rfl) rfl
theorem q1702 : (Jvm.Cond.code ({ cls := "KiteRoofsModel", name := "keeps", desc := "([I)V" } : Jvm.MethodName) prog_21_method_9_code (3 : Nat) (Option.none : Option Jvm.ClassFile.FieldType)) ∈ lw_all := lw_g (lw_at lw_m7 194 rfl) rfl
theorem q1703 : (Jvm.Cond.methodLink "KiteRoofsModel" (60 : Nat) ({ cls := "KiteRoofsModel", name := "copies", desc := "([II[II)V" } : Jvm.MethodName)) ∈ lw_all := lw_g (lw_at lw_m7 195 rfl) rfl
theorem q1704 : (Jvm.Cond.static ({ cls := "KiteRoofsModel", name := "copies", desc := "([II[II)V" } : Jvm.MethodName)) ∈ lw_all := lw_g (lw_at lw_m7 196 rfl) rfl
theorem q1705 : (Jvm.Cond.code ({ cls := "KiteRoofsModel", name := "copies", desc := "([II[II)V" } : Jvm.MethodName) prog_21_method_8_code (5 : Nat) (Option.none : Option Jvm.ClassFile.FieldType)) ∈ lw_all := lw_g (lw_at lw_m7 197 rfl) rfl
theorem q1707 : (Jvm.Cond.instanceMethod ({ cls := "KiteRoofsModel", name := "windOf", desc := "(IZ)I" } : Jvm.MethodName)) ∈ lw_all := lw_g (lw_at lw_m7 199 rfl) rfl
theorem q1708 : (Jvm.Cond.selects "KiteRoofsModel" ({ cls := "KiteRoofsModel", name := "windOf", desc := "(IZ)I" } : Jvm.MethodName) ({ cls := "KiteRoofsModel", name := "windOf", desc := "(IZ)I" } : Jvm.MethodName)) ∈ lw_all := lw_g (lw_at lw_m7 200 rfl) rfl
theorem q1709 : (Jvm.Cond.code ({ cls := "KiteRoofsModel", name := "windOf", desc := "(IZ)I" } : Jvm.MethodName) prog_21_method_19_code (3 : Nat) (Option.some Jvm.ClassFile.FieldType.int)) ∈ lw_all := lw_g (lw_at lw_m7 201 rfl) rfl
theorem q1711 : (Jvm.Cond.instanceMethod ({ cls := "KiteRoofsModel", name := "kite", desc := "(IIII)I" } : Jvm.MethodName)) ∈ lw_all := lw_g (lw_at lw_m7 203 rfl) rfl
theorem q1712 : (Jvm.Cond.selects "KiteRoofsModel" ({ cls := "KiteRoofsModel", name := "kite", desc := "(IIII)I" } : Jvm.MethodName) ({ cls := "KiteRoofsModel", name := "kite", desc := "(IIII)I" } : Jvm.MethodName)) ∈ lw_all := lw_g (lw_at lw_m7 204 rfl) rfl
theorem q1713 : (Jvm.Cond.code ({ cls := "KiteRoofsModel", name := "kite", desc := "(IIII)I" } : Jvm.MethodName) prog_21_method_20_code (7 : Nat) (Option.some Jvm.ClassFile.FieldType.int)) ∈ lw_all := lw_g (lw_at lw_m7 205 rfl) rfl
theorem q1714 : (Jvm.Cond.methodLink "KiteRoofsModel" (83 : Nat) ({ cls := "KiteRoofsModel", name := "refuses", desc := "(II)I" } : Jvm.MethodName)) ∈ lw_all := lw_g (lw_at lw_m7 206 rfl) rfl
theorem q1715 : (Jvm.Cond.privateMethod ({ cls := "KiteRoofsModel", name := "refuses", desc := "(II)I" } : Jvm.MethodName)) ∈ lw_tbl := lw_at lw_m7 207 rfl
theorem q1716 : (Jvm.Cond.instanceMethod ({ cls := "KiteRoofsModel", name := "refuses", desc := "(II)I" } : Jvm.MethodName)) ∈ lw_all := lw_g (lw_at lw_m7 208 rfl) rfl
theorem q1717 : (Jvm.Cond.code ({ cls := "KiteRoofsModel", name := "refuses", desc := "(II)I" } : Jvm.MethodName) prog_21_method_4_code (3 : Nat) (Option.some Jvm.ClassFile.FieldType.int)) ∈ lw_all := lw_g (lw_at lw_m7 209 rfl) rfl
theorem q1718 : (Jvm.Cond.methodLink "KiteRoofsModel" (86 : Nat) ({ cls := "KiteRoofsModel", name := "lays", desc := "(III)V" } : Jvm.MethodName)) ∈ lw_all := lw_g (lw_at lw_m7 210 rfl) rfl
theorem q1719 : (Jvm.Cond.privateMethod ({ cls := "KiteRoofsModel", name := "lays", desc := "(III)V" } : Jvm.MethodName)) ∈ lw_tbl := lw_at lw_m7 211 rfl
theorem q1720 : (Jvm.Cond.instanceMethod ({ cls := "KiteRoofsModel", name := "lays", desc := "(III)V" } : Jvm.MethodName)) ∈ lw_all := lw_g (lw_at lw_m7 212 rfl) rfl
theorem q1721 : (Jvm.Cond.code ({ cls := "KiteRoofsModel", name := "lays", desc := "(III)V" } : Jvm.MethodName) prog_21_method_13_code (4 : Nat) (Option.none : Option Jvm.ClassFile.FieldType)) ∈ lw_all := lw_g (lw_at lw_m7 213 rfl) rfl
theorem q1723 : (Jvm.Cond.instanceMethod ({ cls := "KiteRoofsModel", name := "launch", desc := "(I)I" } : Jvm.MethodName)) ∈ lw_all := lw_g (lw_at lw_m7 215 rfl) rfl
theorem q1724 : (Jvm.Cond.selects "KiteRoofsModel" ({ cls := "KiteRoofsModel", name := "launch", desc := "(I)I" } : Jvm.MethodName) ({ cls := "KiteRoofsModel", name := "launch", desc := "(I)I" } : Jvm.MethodName)) ∈ lw_all := lw_g (lw_at lw_m7 216 rfl) rfl
theorem q1725 : (Jvm.Cond.code ({ cls := "KiteRoofsModel", name := "launch", desc := "(I)I" } : Jvm.MethodName) prog_21_method_22_code (2 : Nat) (Option.some Jvm.ClassFile.FieldType.int)) ∈ lw_all := lw_g (lw_at lw_m7 217 rfl) rfl
theorem q1726 : (Jvm.Cond.methodLink "KiteRoofsModel" (90 : Nat) ({ cls := "KiteRoofsModel", name := "isKite", desc := "(I)Z" } : Jvm.MethodName)) ∈ lw_all := lw_g (lw_at lw_m7 218 rfl) rfl
theorem q1727 : (Jvm.Cond.privateMethod ({ cls := "KiteRoofsModel", name := "isKite", desc := "(I)Z" } : Jvm.MethodName)) ∈ lw_tbl := lw_at lw_m7 219 rfl
theorem q1728 : (Jvm.Cond.instanceMethod ({ cls := "KiteRoofsModel", name := "isKite", desc := "(I)Z" } : Jvm.MethodName)) ∈ lw_all := lw_g (lw_at lw_m7 220 rfl) rfl
theorem q1729 : (Jvm.Cond.code ({ cls := "KiteRoofsModel", name := "isKite", desc := "(I)Z" } : Jvm.MethodName) prog_21_method_10_code (2 : Nat) (Option.some Jvm.ClassFile.FieldType.boolean)) ∈ lw_all := lw_g (lw_at lw_m7 221 rfl) rfl
theorem q1730 : (Jvm.Cond.methodLink "KiteRoofsModel" (68 : Nat) ({ cls := "KiteRoofsModel", name := "of", desc := "(II)I" } : Jvm.MethodName)) ∈ lw_all := lw_g (lw_at lw_m7 222 rfl) rfl
theorem q1731 : (Jvm.Cond.privateMethod ({ cls := "KiteRoofsModel", name := "of", desc := "(II)I" } : Jvm.MethodName)) ∈ lw_tbl := lw_at lw_m7 223 rfl
theorem q1732 : (Jvm.Cond.instanceMethod ({ cls := "KiteRoofsModel", name := "of", desc := "(II)I" } : Jvm.MethodName)) ∈ lw_all := lw_g (lw_at lw_m7 224 rfl) rfl
theorem q1733 : (Jvm.Cond.code ({ cls := "KiteRoofsModel", name := "of", desc := "(II)I" } : Jvm.MethodName) prog_21_method_12_code (3 : Nat) (Option.some Jvm.ClassFile.FieldType.int)) ∈ lw_all := lw_g (lw_at lw_m7 225 rfl) rfl
theorem q1734 : (Jvm.Cond.methodLink "KiteRoofsModel" (93 : Nat) ({ cls := "KiteRoofsModel", name := "inState", desc := "(I)I" } : Jvm.MethodName)) ∈ lw_all := lw_g (lw_at lw_m7 226 rfl) rfl
theorem q1735 : (Jvm.Cond.privateMethod ({ cls := "KiteRoofsModel", name := "inState", desc := "(I)I" } : Jvm.MethodName)) ∈ lw_tbl := lw_at lw_m7 227 rfl
theorem q1736 : (Jvm.Cond.instanceMethod ({ cls := "KiteRoofsModel", name := "inState", desc := "(I)I" } : Jvm.MethodName)) ∈ lw_all := lw_g (lw_at lw_m7 228 rfl) rfl
theorem q1737 : (Jvm.Cond.code ({ cls := "KiteRoofsModel", name := "inState", desc := "(I)I" } : Jvm.MethodName) prog_21_method_21_code (4 : Nat) (Option.some Jvm.ClassFile.FieldType.int)) ∈ lw_all := lw_g (lw_at lw_m7 229 rfl) rfl
theorem q1739 : (Jvm.Cond.instanceMethod ({ cls := "KiteRoofsModel", name := "reel", desc := "(II)I" } : Jvm.MethodName)) ∈ lw_all := lw_g (lw_at lw_m7 231 rfl) rfl
theorem q1740 : (Jvm.Cond.selects "KiteRoofsModel" ({ cls := "KiteRoofsModel", name := "reel", desc := "(II)I" } : Jvm.MethodName) ({ cls := "KiteRoofsModel", name := "reel", desc := "(II)I" } : Jvm.MethodName)) ∈ lw_all := lw_g (lw_at lw_m7 232 rfl) rfl
theorem q1741 : (Jvm.Cond.code ({ cls := "KiteRoofsModel", name := "reel", desc := "(II)I" } : Jvm.MethodName) prog_21_method_24_code (3 : Nat) (Option.some Jvm.ClassFile.FieldType.int)) ∈ lw_all := lw_g (lw_at lw_m7 233 rfl) rfl
theorem q1742 : (Jvm.Cond.methodLink "KiteRoofsModel" (97 : Nat) ({ cls := "KiteRoofsModel", name := "isUp", desc := "(I)Z" } : Jvm.MethodName)) ∈ lw_all := lw_g (lw_at lw_m7 234 rfl) rfl
theorem q1743 : (Jvm.Cond.privateMethod ({ cls := "KiteRoofsModel", name := "isUp", desc := "(I)Z" } : Jvm.MethodName)) ∈ lw_tbl := lw_at lw_m7 235 rfl
theorem q1744 : (Jvm.Cond.instanceMethod ({ cls := "KiteRoofsModel", name := "isUp", desc := "(I)Z" } : Jvm.MethodName)) ∈ lw_all := lw_g (lw_at lw_m7 236 rfl) rfl
theorem q1745 : (Jvm.Cond.code ({ cls := "KiteRoofsModel", name := "isUp", desc := "(I)Z" } : Jvm.MethodName) prog_21_method_14_code (2 : Nat) (Option.some Jvm.ClassFile.FieldType.boolean)) ∈ lw_all := lw_g (lw_at lw_m7 237 rfl) rfl
theorem q1746 : (Jvm.Cond.methodLink "KiteRoofsModel" (100 : Nat) ({ cls := "KiteRoofsModel", name := "lets", desc := "(II)V" } : Jvm.MethodName)) ∈ lw_all := lw_g (lw_at lw_m7 238 rfl) rfl
theorem q1747 : (Jvm.Cond.privateMethod ({ cls := "KiteRoofsModel", name := "lets", desc := "(II)V" } : Jvm.MethodName)) ∈ lw_tbl := lw_at lw_m7 239 rfl
theorem q1748 : (Jvm.Cond.instanceMethod ({ cls := "KiteRoofsModel", name := "lets", desc := "(II)V" } : Jvm.MethodName)) ∈ lw_all := lw_g (lw_at lw_m8 0 rfl) rfl
theorem q1749 : (Jvm.Cond.code ({ cls := "KiteRoofsModel", name := "lets", desc := "(II)V" } : Jvm.MethodName) prog_21_method_23_code (3 : Nat) (Option.none : Option Jvm.ClassFile.FieldType)) ∈ lw_all := lw_g (lw_at lw_m8 1 rfl) rfl
theorem q1751 : (Jvm.Cond.instanceMethod ({ cls := "KiteRoofsModel", name := "setSpeed", desc := "(II)I" } : Jvm.MethodName)) ∈ lw_all := lw_g (lw_at lw_m8 3 rfl) rfl
theorem q1752 : (Jvm.Cond.selects "KiteRoofsModel" ({ cls := "KiteRoofsModel", name := "setSpeed", desc := "(II)I" } : Jvm.MethodName) ({ cls := "KiteRoofsModel", name := "setSpeed", desc := "(II)I" } : Jvm.MethodName)) ∈ lw_all := lw_g (lw_at lw_m8 4 rfl) rfl
theorem q1753 : (Jvm.Cond.code ({ cls := "KiteRoofsModel", name := "setSpeed", desc := "(II)I" } : Jvm.MethodName) prog_21_method_25_code (4 : Nat) (Option.some Jvm.ClassFile.FieldType.int)) ∈ lw_all := lw_g (lw_at lw_m8 5 rfl) rfl
theorem q1755 : (Jvm.Cond.instanceMethod ({ cls := "KiteRoofsModel", name := "land", desc := "(I)I" } : Jvm.MethodName)) ∈ lw_all := lw_g (lw_at lw_m8 7 rfl) rfl
theorem q1756 : (Jvm.Cond.selects "KiteRoofsModel" ({ cls := "KiteRoofsModel", name := "land", desc := "(I)I" } : Jvm.MethodName) ({ cls := "KiteRoofsModel", name := "land", desc := "(I)I" } : Jvm.MethodName)) ∈ lw_all := lw_g (lw_at lw_m8 8 rfl) rfl
theorem q1757 : (Jvm.Cond.code ({ cls := "KiteRoofsModel", name := "land", desc := "(I)I" } : Jvm.MethodName) prog_21_method_26_code (3 : Nat) (Option.some Jvm.ClassFile.FieldType.int)) ∈ lw_all := lw_g (lw_at lw_m8 9 rfl) rfl
theorem q1759 : (Jvm.Cond.instanceMethod ({ cls := "KiteRoofsModel", name := "tie", desc := "(I)I" } : Jvm.MethodName)) ∈ lw_all := lw_g (lw_at lw_m8 11 rfl) rfl
theorem q1760 : (Jvm.Cond.selects "KiteRoofsModel" ({ cls := "KiteRoofsModel", name := "tie", desc := "(I)I" } : Jvm.MethodName) ({ cls := "KiteRoofsModel", name := "tie", desc := "(I)I" } : Jvm.MethodName)) ∈ lw_all := lw_g (lw_at lw_m8 12 rfl) rfl
theorem q1761 : (Jvm.Cond.code ({ cls := "KiteRoofsModel", name := "tie", desc := "(I)I" } : Jvm.MethodName) prog_21_method_27_code (2 : Nat) (Option.some Jvm.ClassFile.FieldType.int)) ∈ lw_all := lw_g (lw_at lw_m8 13 rfl) rfl
theorem q1763 : (Jvm.Cond.instanceMethod ({ cls := "KiteRoofsModel", name := "kiteOf", desc := "(II)I" } : Jvm.MethodName)) ∈ lw_all := lw_g (lw_at lw_m8 15 rfl) rfl
theorem q1764 : (Jvm.Cond.selects "KiteRoofsModel" ({ cls := "KiteRoofsModel", name := "kiteOf", desc := "(II)I" } : Jvm.MethodName) ({ cls := "KiteRoofsModel", name := "kiteOf", desc := "(II)I" } : Jvm.MethodName)) ∈ lw_all := lw_g (lw_at lw_m8 16 rfl) rfl
theorem q1765 : (Jvm.Cond.code ({ cls := "KiteRoofsModel", name := "kiteOf", desc := "(II)I" } : Jvm.MethodName) prog_21_method_33_code (3 : Nat) (Option.some Jvm.ClassFile.FieldType.int)) ∈ lw_all := lw_g (lw_at lw_m8 17 rfl) rfl
theorem q1766 : (Jvm.Cond.methodLink "KiteRoofsModel" (113 : Nat) ({ cls := "KiteRoofsModel", name := "height", desc := "(I)I" } : Jvm.MethodName)) ∈ lw_all := lw_g (lw_at lw_m8 18 rfl) rfl
theorem q1767 : (Jvm.Cond.privateMethod ({ cls := "KiteRoofsModel", name := "height", desc := "(I)I" } : Jvm.MethodName)) ∈ lw_tbl := lw_at lw_m8 19 rfl
theorem q1768 : (Jvm.Cond.instanceMethod ({ cls := "KiteRoofsModel", name := "height", desc := "(I)I" } : Jvm.MethodName)) ∈ lw_all := lw_g (lw_at lw_m8 20 rfl) rfl
theorem q1769 : (Jvm.Cond.code ({ cls := "KiteRoofsModel", name := "height", desc := "(I)I" } : Jvm.MethodName) prog_21_method_30_code (4 : Nat) (Option.some Jvm.ClassFile.FieldType.int)) ∈ lw_all := lw_g (lw_at lw_m8 21 rfl) rfl
theorem q1770 : (Jvm.Cond.methodLink "KiteRoofsModel" (110 : Nat) ({ cls := "KiteRoofsModel", name := "takes", desc := "(II)I" } : Jvm.MethodName)) ∈ lw_all := lw_g (lw_at lw_m8 22 rfl) rfl
theorem q1771 : (Jvm.Cond.privateMethod ({ cls := "KiteRoofsModel", name := "takes", desc := "(II)I" } : Jvm.MethodName)) ∈ lw_tbl := lw_at lw_m8 23 rfl
theorem q1772 : (Jvm.Cond.instanceMethod ({ cls := "KiteRoofsModel", name := "takes", desc := "(II)I" } : Jvm.MethodName)) ∈ lw_all := lw_g (lw_at lw_m8 24 rfl) rfl
theorem q1773 : (Jvm.Cond.code ({ cls := "KiteRoofsModel", name := "takes", desc := "(II)I" } : Jvm.MethodName) prog_21_method_28_code (3 : Nat) (Option.some Jvm.ClassFile.FieldType.int)) ∈ lw_all := lw_g (lw_at lw_m8 25 rfl) rfl
theorem q1774 : (Jvm.Cond.methodLink "KiteRoofsModel" (104 : Nat) ({ cls := "KiteRoofsModel", name := "size", desc := "(I)I" } : Jvm.MethodName)) ∈ lw_all := lw_g (lw_at lw_m8 26 rfl) rfl
theorem q1775 : (Jvm.Cond.static ({ cls := "KiteRoofsModel", name := "size", desc := "(I)I" } : Jvm.MethodName)) ∈ lw_all := lw_g (lw_at lw_m8 27 rfl) rfl
theorem q1776 : (Jvm.Cond.code ({ cls := "KiteRoofsModel", name := "size", desc := "(I)I" } : Jvm.MethodName) prog_21_method_6_code (1 : Nat) (Option.some Jvm.ClassFile.FieldType.int)) ∈ lw_all := lw_g (lw_at lw_m8 28 rfl) rfl
theorem q1777 : (Jvm.Cond.methodLink "KiteRoofsModel" (107 : Nat) ({ cls := "KiteRoofsModel", name := "factor", desc := "(I)I" } : Jvm.MethodName)) ∈ lw_all := lw_g (lw_at lw_m8 29 rfl) rfl
theorem q1778 : (Jvm.Cond.privateMethod ({ cls := "KiteRoofsModel", name := "factor", desc := "(I)I" } : Jvm.MethodName)) ∈ lw_tbl := lw_at lw_m8 30 rfl
theorem q1779 : (Jvm.Cond.instanceMethod ({ cls := "KiteRoofsModel", name := "factor", desc := "(I)I" } : Jvm.MethodName)) ∈ lw_all := lw_g (lw_at lw_m8 31 rfl) rfl
theorem q1780 : (Jvm.Cond.code ({ cls := "KiteRoofsModel", name := "factor", desc := "(I)I" } : Jvm.MethodName) prog_21_method_16_code (2 : Nat) (Option.some Jvm.ClassFile.FieldType.int)) ∈ lw_all := lw_g (lw_at lw_m8 32 rfl) rfl
theorem q1781 : (Jvm.Cond.methodLink "KiteRoofsModel" (119 : Nat) ({ cls := "KiteRoofsModel", name := "tension", desc := "(I)I" } : Jvm.MethodName)) ∈ lw_all := lw_g (lw_at lw_m8 33 rfl) rfl
theorem q1782 : (Jvm.Cond.privateMethod ({ cls := "KiteRoofsModel", name := "tension", desc := "(I)I" } : Jvm.MethodName)) ∈ lw_tbl := lw_at lw_m8 34 rfl
theorem q1783 : (Jvm.Cond.instanceMethod ({ cls := "KiteRoofsModel", name := "tension", desc := "(I)I" } : Jvm.MethodName)) ∈ lw_all := lw_g (lw_at lw_m8 35 rfl) rfl
theorem q1784 : (Jvm.Cond.code ({ cls := "KiteRoofsModel", name := "tension", desc := "(I)I" } : Jvm.MethodName) prog_21_method_32_code (4 : Nat) (Option.some Jvm.ClassFile.FieldType.int)) ∈ lw_all := lw_g (lw_at lw_m8 36 rfl) rfl
theorem q1785 : (Jvm.Cond.methodLink "KiteRoofsModel" (116 : Nat) ({ cls := "KiteRoofsModel", name := "area", desc := "(I)I" } : Jvm.MethodName)) ∈ lw_all := lw_g (lw_at lw_m8 37 rfl) rfl
theorem q1786 : (Jvm.Cond.privateMethod ({ cls := "KiteRoofsModel", name := "area", desc := "(I)I" } : Jvm.MethodName)) ∈ lw_tbl := lw_at lw_m8 38 rfl
theorem q1787 : (Jvm.Cond.instanceMethod ({ cls := "KiteRoofsModel", name := "area", desc := "(I)I" } : Jvm.MethodName)) ∈ lw_all := lw_g (lw_at lw_m8 39 rfl) rfl
theorem q1788 : (Jvm.Cond.code ({ cls := "KiteRoofsModel", name := "area", desc := "(I)I" } : Jvm.MethodName) prog_21_method_15_code (2 : Nat) (Option.some Jvm.ClassFile.FieldType.int)) ∈ lw_all := lw_g (lw_at lw_m8 40 rfl) rfl
theorem q1789 : (Jvm.Cond.methodLink "KiteRoofsModel" (122 : Nat) ({ cls := "KiteRoofsModel", name := "place", desc := "(II)I" } : Jvm.MethodName)) ∈ lw_all := lw_g (lw_at lw_m8 41 rfl) rfl
theorem q1790 : (Jvm.Cond.privateMethod ({ cls := "KiteRoofsModel", name := "place", desc := "(II)I" } : Jvm.MethodName)) ∈ lw_tbl := lw_at lw_m8 42 rfl
theorem q1791 : (Jvm.Cond.instanceMethod ({ cls := "KiteRoofsModel", name := "place", desc := "(II)I" } : Jvm.MethodName)) ∈ lw_all := lw_g (lw_at lw_m8 43 rfl) rfl
theorem q1792 : (Jvm.Cond.code ({ cls := "KiteRoofsModel", name := "place", desc := "(II)I" } : Jvm.MethodName) prog_21_method_31_code (5 : Nat) (Option.some Jvm.ClassFile.FieldType.int)) ∈ lw_all := lw_g (lw_at lw_m8 44 rfl) rfl
theorem q1793 : (Jvm.Cond.methodLink "KiteRoofsModel" (125 : Nat) ({ cls := "KiteRoofsModel", name := "takesBelow", desc := "(II)I" } : Jvm.MethodName)) ∈ lw_all := lw_g (lw_at lw_m8 45 rfl) rfl
theorem q1794 : (Jvm.Cond.privateMethod ({ cls := "KiteRoofsModel", name := "takesBelow", desc := "(II)I" } : Jvm.MethodName)) ∈ lw_tbl := lw_at lw_m8 46 rfl
theorem q1795 : (Jvm.Cond.instanceMethod ({ cls := "KiteRoofsModel", name := "takesBelow", desc := "(II)I" } : Jvm.MethodName)) ∈ lw_all := lw_g (lw_at lw_m8 47 rfl) rfl
theorem q1796 : (Jvm.Cond.code ({ cls := "KiteRoofsModel", name := "takesBelow", desc := "(II)I" } : Jvm.MethodName) prog_21_method_29_code (5 : Nat) (Option.some Jvm.ClassFile.FieldType.int)) ∈ lw_all := lw_g (lw_at lw_m8 48 rfl) rfl
theorem q1798 : (Jvm.Cond.instanceMethod ({ cls := "KiteRoofsModel", name := "state", desc := "(I)C" } : Jvm.MethodName)) ∈ lw_all := lw_g (lw_at lw_m8 50 rfl) rfl
theorem q1799 : (Jvm.Cond.selects "KiteRoofsModel" ({ cls := "KiteRoofsModel", name := "state", desc := "(I)C" } : Jvm.MethodName) ({ cls := "KiteRoofsModel", name := "state", desc := "(I)C" } : Jvm.MethodName)) ∈ lw_all := lw_g (lw_at lw_m8 51 rfl) rfl
theorem q1800 : (Jvm.Cond.code ({ cls := "KiteRoofsModel", name := "state", desc := "(I)C" } : Jvm.MethodName) prog_21_method_34_code (2 : Nat) (Option.some Jvm.ClassFile.FieldType.char)) ∈ lw_all := lw_g (lw_at lw_m8 52 rfl) rfl
theorem q1802 : (Jvm.Cond.instanceMethod ({ cls := "KiteRoofsModel", name := "heightAgain", desc := "(I)I" } : Jvm.MethodName)) ∈ lw_all := lw_g (lw_at lw_m8 54 rfl) rfl
theorem q1803 : (Jvm.Cond.selects "KiteRoofsModel" ({ cls := "KiteRoofsModel", name := "heightAgain", desc := "(I)I" } : Jvm.MethodName) ({ cls := "KiteRoofsModel", name := "heightAgain", desc := "(I)I" } : Jvm.MethodName)) ∈ lw_all := lw_g (lw_at lw_m8 55 rfl) rfl
theorem q1804 : (Jvm.Cond.code ({ cls := "KiteRoofsModel", name := "heightAgain", desc := "(I)I" } : Jvm.MethodName) prog_21_method_35_code (3 : Nat) (Option.some Jvm.ClassFile.FieldType.int)) ∈ lw_all := lw_g (lw_at lw_m8 56 rfl) rfl
theorem q1806 : (Jvm.Cond.instanceMethod ({ cls := "KiteRoofsModel", name := "placeAt", desc := "(II)I" } : Jvm.MethodName)) ∈ lw_all := lw_g (lw_at lw_m8 58 rfl) rfl
theorem q1807 : (Jvm.Cond.selects "KiteRoofsModel" ({ cls := "KiteRoofsModel", name := "placeAt", desc := "(II)I" } : Jvm.MethodName) ({ cls := "KiteRoofsModel", name := "placeAt", desc := "(II)I" } : Jvm.MethodName)) ∈ lw_all := lw_g (lw_at lw_m8 59 rfl) rfl
theorem q1808 : (Jvm.Cond.code ({ cls := "KiteRoofsModel", name := "placeAt", desc := "(II)I" } : Jvm.MethodName) prog_21_method_36_code (3 : Nat) (Option.some Jvm.ClassFile.FieldType.int)) ∈ lw_all := lw_g (lw_at lw_m8 60 rfl) rfl
theorem q1810 : (Jvm.Cond.instanceMethod ({ cls := "KiteRoofsModel", name := "crossing", desc := "(II)I" } : Jvm.MethodName)) ∈ lw_all := lw_g (lw_at lw_m8 62 rfl) rfl
theorem q1811 : (Jvm.Cond.selects "KiteRoofsModel" ({ cls := "KiteRoofsModel", name := "crossing", desc := "(II)I" } : Jvm.MethodName) ({ cls := "KiteRoofsModel", name := "crossing", desc := "(II)I" } : Jvm.MethodName)) ∈ lw_all := lw_g (lw_at lw_m8 63 rfl) rfl
theorem q1812 : (Jvm.Cond.code ({ cls := "KiteRoofsModel", name := "crossing", desc := "(II)I" } : Jvm.MethodName) prog_21_method_38_code (3 : Nat) (Option.some Jvm.ClassFile.FieldType.int)) ∈ lw_all := lw_g (lw_at lw_m8 64 rfl) rfl
theorem q1813 : (Jvm.Cond.methodLink "KiteRoofsModel" (131 : Nat) ({ cls := "KiteRoofsModel", name := "crosses", desc := "(II)I" } : Jvm.MethodName)) ∈ lw_all := lw_g (lw_at lw_m8 65 rfl) rfl
theorem q1814 : (Jvm.Cond.privateMethod ({ cls := "KiteRoofsModel", name := "crosses", desc := "(II)I" } : Jvm.MethodName)) ∈ lw_tbl := lw_at lw_m8 66 rfl
theorem q1815 : (Jvm.Cond.instanceMethod ({ cls := "KiteRoofsModel", name := "crosses", desc := "(II)I" } : Jvm.MethodName)) ∈ lw_all := lw_g (lw_at lw_m8 67 rfl) rfl
theorem q1816 : (Jvm.Cond.code ({ cls := "KiteRoofsModel", name := "crosses", desc := "(II)I" } : Jvm.MethodName) prog_21_method_37_code (7 : Nat) (Option.some Jvm.ClassFile.FieldType.int)) ∈ lw_all := lw_g (lw_at lw_m8 68 rfl) rfl
theorem q1817 : (Jvm.Cond.methodLink "KiteRoofsModel" (128 : Nat) ({ cls := "KiteRoofsModel", name := "less", desc := "(II)I" } : Jvm.MethodName)) ∈ lw_all := lw_g (lw_at lw_m8 69 rfl) rfl
theorem q1818 : (Jvm.Cond.static ({ cls := "KiteRoofsModel", name := "less", desc := "(II)I" } : Jvm.MethodName)) ∈ lw_all := lw_g (lw_at lw_m8 70 rfl) rfl
theorem q1819 : (Jvm.Cond.code ({ cls := "KiteRoofsModel", name := "less", desc := "(II)I" } : Jvm.MethodName) prog_21_method_7_code (2 : Nat) (Option.some Jvm.ClassFile.FieldType.int)) ∈ lw_all := lw_g (lw_at lw_m8 71 rfl) rfl
theorem q1821 : (Jvm.Cond.instanceMethod ({ cls := "KiteRoofsModel", name := "wears", desc := "(I)I" } : Jvm.MethodName)) ∈ lw_all := lw_g (lw_at lw_m8 73 rfl) rfl
theorem q1822 : (Jvm.Cond.selects "KiteRoofsModel" ({ cls := "KiteRoofsModel", name := "wears", desc := "(I)I" } : Jvm.MethodName) ({ cls := "KiteRoofsModel", name := "wears", desc := "(I)I" } : Jvm.MethodName)) ∈ lw_all := lw_g (lw_at lw_m8 74 rfl) rfl
theorem q1823 : (Jvm.Cond.code ({ cls := "KiteRoofsModel", name := "wears", desc := "(I)I" } : Jvm.MethodName) prog_21_method_41_code (2 : Nat) (Option.some Jvm.ClassFile.FieldType.int)) ∈ lw_all := lw_g (lw_at lw_m8 75 rfl) rfl
theorem q1824 : (Jvm.Cond.methodLink "KiteRoofsModel" (137 : Nat) ({ cls := "KiteRoofsModel", name := "wearsNow", desc := "(I)I" } : Jvm.MethodName)) ∈ lw_all := lw_g (lw_at lw_m8 76 rfl) rfl
theorem q1825 : (Jvm.Cond.privateMethod ({ cls := "KiteRoofsModel", name := "wearsNow", desc := "(I)I" } : Jvm.MethodName)) ∈ lw_tbl := lw_at lw_m8 77 rfl
theorem q1826 : (Jvm.Cond.instanceMethod ({ cls := "KiteRoofsModel", name := "wearsNow", desc := "(I)I" } : Jvm.MethodName)) ∈ lw_all := lw_g (lw_at lw_m8 78 rfl) rfl
theorem q1827 : (Jvm.Cond.code ({ cls := "KiteRoofsModel", name := "wearsNow", desc := "(I)I" } : Jvm.MethodName) prog_21_method_40_code (4 : Nat) (Option.some Jvm.ClassFile.FieldType.int)) ∈ lw_all := lw_g (lw_at lw_m8 79 rfl) rfl
theorem q1828 : (Jvm.Cond.methodLink "KiteRoofsModel" (134 : Nat) ({ cls := "KiteRoofsModel", name := "wearsBy", desc := "(II)I" } : Jvm.MethodName)) ∈ lw_all := lw_g (lw_at lw_m8 80 rfl) rfl
theorem q1829 : (Jvm.Cond.privateMethod ({ cls := "KiteRoofsModel", name := "wearsBy", desc := "(II)I" } : Jvm.MethodName)) ∈ lw_tbl := lw_at lw_m8 81 rfl
theorem q1830 : (Jvm.Cond.instanceMethod ({ cls := "KiteRoofsModel", name := "wearsBy", desc := "(II)I" } : Jvm.MethodName)) ∈ lw_all := lw_g (lw_at lw_m8 82 rfl) rfl
theorem q1831 : (Jvm.Cond.code ({ cls := "KiteRoofsModel", name := "wearsBy", desc := "(II)I" } : Jvm.MethodName) prog_21_method_39_code (3 : Nat) (Option.some Jvm.ClassFile.FieldType.int)) ∈ lw_all := lw_g (lw_at lw_m8 83 rfl) rfl
theorem q1833 : (Jvm.Cond.instanceMethod ({ cls := "KiteRoofsModel", name := "round", desc := "(I)I" } : Jvm.MethodName)) ∈ lw_all := lw_g (lw_at lw_m8 85 rfl) rfl
theorem q1834 : (Jvm.Cond.selects "KiteRoofsModel" ({ cls := "KiteRoofsModel", name := "round", desc := "(I)I" } : Jvm.MethodName) ({ cls := "KiteRoofsModel", name := "round", desc := "(I)I" } : Jvm.MethodName)) ∈ lw_all := lw_g (lw_at lw_m8 86 rfl) rfl
theorem q1835 : (Jvm.Cond.code ({ cls := "KiteRoofsModel", name := "round", desc := "(I)I" } : Jvm.MethodName) prog_21_method_45_code (4 : Nat) (Option.some Jvm.ClassFile.FieldType.int)) ∈ lw_all := lw_g (lw_at lw_m8 87 rfl) rfl
theorem q1836 : (Jvm.Cond.methodLink "KiteRoofsModel" (150 : Nat) ({ cls := "KiteRoofsModel", name := "passes", desc := "()I" } : Jvm.MethodName)) ∈ lw_all := lw_g (lw_at lw_m8 88 rfl) rfl
theorem q1837 : (Jvm.Cond.privateMethod ({ cls := "KiteRoofsModel", name := "passes", desc := "()I" } : Jvm.MethodName)) ∈ lw_tbl := lw_at lw_m8 89 rfl
theorem q1838 : (Jvm.Cond.instanceMethod ({ cls := "KiteRoofsModel", name := "passes", desc := "()I" } : Jvm.MethodName)) ∈ lw_all := lw_g (lw_at lw_m8 90 rfl) rfl
theorem q1839 : (Jvm.Cond.code ({ cls := "KiteRoofsModel", name := "passes", desc := "()I" } : Jvm.MethodName) prog_21_method_44_code (5 : Nat) (Option.some Jvm.ClassFile.FieldType.int)) ∈ lw_all := lw_g (lw_at lw_m8 91 rfl) rfl
theorem q1840 : (Jvm.Cond.methodLink "KiteRoofsModel" (140 : Nat) ({ cls := "KiteRoofsModel", name := "finds", desc := "(I)V" } : Jvm.MethodName)) ∈ lw_all := lw_g (lw_at lw_m8 92 rfl) rfl
theorem q1841 : (Jvm.Cond.privateMethod ({ cls := "KiteRoofsModel", name := "finds", desc := "(I)V" } : Jvm.MethodName)) ∈ lw_tbl := lw_at lw_m8 93 rfl
theorem q1842 : (Jvm.Cond.instanceMethod ({ cls := "KiteRoofsModel", name := "finds", desc := "(I)V" } : Jvm.MethodName)) ∈ lw_all := lw_g (lw_at lw_m8 94 rfl) rfl
theorem q1843 : (Jvm.Cond.code ({ cls := "KiteRoofsModel", name := "finds", desc := "(I)V" } : Jvm.MethodName) prog_21_method_42_code (6 : Nat) (Option.none : Option Jvm.ClassFile.FieldType)) ∈ lw_all := lw_g (lw_at lw_m8 95 rfl) rfl
theorem q1844 : (Jvm.Cond.methodLink "KiteRoofsModel" (144 : Nat) ({ cls := "KiteRoofsModel", name := "hardness", desc := "(I)I" } : Jvm.MethodName)) ∈ lw_all := lw_g (lw_at lw_m8 96 rfl) rfl
theorem q1845 : (Jvm.Cond.privateMethod ({ cls := "KiteRoofsModel", name := "hardness", desc := "(I)I" } : Jvm.MethodName)) ∈ lw_tbl := lw_at lw_m8 97 rfl
theorem q1846 : (Jvm.Cond.instanceMethod ({ cls := "KiteRoofsModel", name := "hardness", desc := "(I)I" } : Jvm.MethodName)) ∈ lw_all := lw_g (lw_at lw_m8 98 rfl) rfl
theorem q1847 : (Jvm.Cond.code ({ cls := "KiteRoofsModel", name := "hardness", desc := "(I)I" } : Jvm.MethodName) prog_21_method_17_code (2 : Nat) (Option.some Jvm.ClassFile.FieldType.int)) ∈ lw_all := lw_g (lw_at lw_m8 99 rfl) rfl
theorem q1848 : (Jvm.Cond.methodLink "KiteRoofsModel" (147 : Nat) ({ cls := "KiteRoofsModel", name := "cuts", desc := "(I)V" } : Jvm.MethodName)) ∈ lw_all := lw_g (lw_at lw_m8 100 rfl) rfl
theorem q1849 : (Jvm.Cond.privateMethod ({ cls := "KiteRoofsModel", name := "cuts", desc := "(I)V" } : Jvm.MethodName)) ∈ lw_tbl := lw_at lw_m8 101 rfl
theorem q1850 : (Jvm.Cond.instanceMethod ({ cls := "KiteRoofsModel", name := "cuts", desc := "(I)V" } : Jvm.MethodName)) ∈ lw_all := lw_g (lw_at lw_m8 102 rfl) rfl
theorem q1851 : (Jvm.Cond.code ({ cls := "KiteRoofsModel", name := "cuts", desc := "(I)V" } : Jvm.MethodName) prog_21_method_43_code (4 : Nat) (Option.none : Option Jvm.ClassFile.FieldType)) ∈ lw_all := lw_g (lw_at lw_m8 103 rfl) rfl
theorem q1853 : (Jvm.Cond.instanceMethod ({ cls := "KiteRoofsModel", name := "cutIn", desc := "(II)I" } : Jvm.MethodName)) ∈ lw_all := lw_g (lw_at lw_m8 105 rfl) rfl
theorem q1854 : (Jvm.Cond.selects "KiteRoofsModel" ({ cls := "KiteRoofsModel", name := "cutIn", desc := "(II)I" } : Jvm.MethodName) ({ cls := "KiteRoofsModel", name := "cutIn", desc := "(II)I" } : Jvm.MethodName)) ∈ lw_all := lw_g (lw_at lw_m8 106 rfl) rfl
theorem q1855 : (Jvm.Cond.code ({ cls := "KiteRoofsModel", name := "cutIn", desc := "(II)I" } : Jvm.MethodName) prog_21_method_46_code (6 : Nat) (Option.some Jvm.ClassFile.FieldType.int)) ∈ lw_all := lw_g (lw_at lw_m8 107 rfl) rfl
theorem q1857 : (Jvm.Cond.instanceMethod ({ cls := "KiteRoofsModel", name := "bestSpeed", desc := "(II)I" } : Jvm.MethodName)) ∈ lw_all := lw_g (lw_at lw_m8 109 rfl) rfl
theorem q1858 : (Jvm.Cond.selects "KiteRoofsModel" ({ cls := "KiteRoofsModel", name := "bestSpeed", desc := "(II)I" } : Jvm.MethodName) ({ cls := "KiteRoofsModel", name := "bestSpeed", desc := "(II)I" } : Jvm.MethodName)) ∈ lw_all := lw_g (lw_at lw_m8 110 rfl) rfl
theorem q1859 : (Jvm.Cond.code ({ cls := "KiteRoofsModel", name := "bestSpeed", desc := "(II)I" } : Jvm.MethodName) prog_21_method_47_code (8 : Nat) (Option.some Jvm.ClassFile.FieldType.int)) ∈ lw_all := lw_g (lw_at lw_m8 111 rfl) rfl
theorem q1861 : (Jvm.Cond.instanceMethod ({ cls := "KiteRoofsModel", name := "cause", desc := "(II)I" } : Jvm.MethodName)) ∈ lw_all := lw_g (lw_at lw_m8 113 rfl) rfl
theorem q1862 : (Jvm.Cond.selects "KiteRoofsModel" ({ cls := "KiteRoofsModel", name := "cause", desc := "(II)I" } : Jvm.MethodName) ({ cls := "KiteRoofsModel", name := "cause", desc := "(II)I" } : Jvm.MethodName)) ∈ lw_all := lw_g (lw_at lw_m8 114 rfl) rfl
theorem q1863 : (Jvm.Cond.code ({ cls := "KiteRoofsModel", name := "cause", desc := "(II)I" } : Jvm.MethodName) prog_21_method_48_code (5 : Nat) (Option.some Jvm.ClassFile.FieldType.int)) ∈ lw_all := lw_g (lw_at lw_m8 115 rfl) rfl
theorem q1865 : (Jvm.Cond.instanceMethod ({ cls := "KiteRoofsModel", name := "leader", desc := "()I" } : Jvm.MethodName)) ∈ lw_all := lw_g (lw_at lw_m8 117 rfl) rfl
theorem q1866 : (Jvm.Cond.selects "KiteRoofsModel" ({ cls := "KiteRoofsModel", name := "leader", desc := "()I" } : Jvm.MethodName) ({ cls := "KiteRoofsModel", name := "leader", desc := "()I" } : Jvm.MethodName)) ∈ lw_all := lw_g (lw_at lw_m8 118 rfl) rfl
theorem q1867 : (Jvm.Cond.code ({ cls := "KiteRoofsModel", name := "leader", desc := "()I" } : Jvm.MethodName) prog_21_method_49_code (3 : Nat) (Option.some Jvm.ClassFile.FieldType.int)) ∈ lw_all := lw_g (lw_at lw_m8 119 rfl) rfl
theorem q1869 : (Jvm.Cond.instanceMethod ({ cls := "KiteRoofsModel", name := "append", desc := "(C)I" } : Jvm.MethodName)) ∈ lw_all := lw_g (lw_at lw_m8 121 rfl) rfl
theorem q1870 : (Jvm.Cond.selects "KiteRoofsModel" ({ cls := "KiteRoofsModel", name := "append", desc := "(C)I" } : Jvm.MethodName) ({ cls := "KiteRoofsModel", name := "append", desc := "(C)I" } : Jvm.MethodName)) ∈ lw_all := lw_g (lw_at lw_m8 122 rfl) rfl
theorem q1871 : (Jvm.Cond.code ({ cls := "KiteRoofsModel", name := "append", desc := "(C)I" } : Jvm.MethodName) prog_21_method_50_code (2 : Nat) (Option.some Jvm.ClassFile.FieldType.int)) ∈ lw_all := lw_g (lw_at lw_m8 123 rfl) rfl
theorem q1873 : (Jvm.Cond.instanceMethod ({ cls := "KiteRoofsModel", name := "read", desc := "()I" } : Jvm.MethodName)) ∈ lw_all := lw_g (lw_at lw_m8 125 rfl) rfl
theorem q1874 : (Jvm.Cond.selects "KiteRoofsModel" ({ cls := "KiteRoofsModel", name := "read", desc := "()I" } : Jvm.MethodName) ({ cls := "KiteRoofsModel", name := "read", desc := "()I" } : Jvm.MethodName)) ∈ lw_all := lw_g (lw_at lw_m8 126 rfl) rfl
theorem q1875 : (Jvm.Cond.code ({ cls := "KiteRoofsModel", name := "read", desc := "()I" } : Jvm.MethodName) prog_21_method_59_code (5 : Nat) (Option.some Jvm.ClassFile.FieldType.int)) ∈ lw_all := lw_g (lw_at lw_m8 127 rfl) rfl
theorem q1876 : (Jvm.Cond.methodLink "KiteRoofsModel" (200 : Nat) ({ cls := "KiteRoofsModel", name := "isText", desc := "()Z" } : Jvm.MethodName)) ∈ lw_all := lw_g (lw_at lw_m8 128 rfl) rfl
theorem q1877 : (Jvm.Cond.privateMethod ({ cls := "KiteRoofsModel", name := "isText", desc := "()Z" } : Jvm.MethodName)) ∈ lw_tbl := lw_at lw_m8 129 rfl
theorem q1878 : (Jvm.Cond.instanceMethod ({ cls := "KiteRoofsModel", name := "isText", desc := "()Z" } : Jvm.MethodName)) ∈ lw_all := lw_g (lw_at lw_m8 130 rfl) rfl
theorem q1879 : (Jvm.Cond.code ({ cls := "KiteRoofsModel", name := "isText", desc := "()Z" } : Jvm.MethodName) prog_21_method_57_code (1 : Nat) (Option.some Jvm.ClassFile.FieldType.boolean)) ∈ lw_all := lw_g (lw_at lw_m8 131 rfl) rfl
theorem q1880 : (Jvm.Cond.methodLink "KiteRoofsModel" (179 : Nat) ({ cls := "KiteRoofsModel", name := "orderHere", desc := "()Z" } : Jvm.MethodName)) ∈ lw_all := lw_g (lw_at lw_m8 132 rfl) rfl
theorem q1881 : (Jvm.Cond.privateMethod ({ cls := "KiteRoofsModel", name := "orderHere", desc := "()Z" } : Jvm.MethodName)) ∈ lw_tbl := lw_at lw_m8 133 rfl
theorem q1882 : (Jvm.Cond.instanceMethod ({ cls := "KiteRoofsModel", name := "orderHere", desc := "()Z" } : Jvm.MethodName)) ∈ lw_all := lw_g (lw_at lw_m8 134 rfl) rfl
theorem q1883 : (Jvm.Cond.code ({ cls := "KiteRoofsModel", name := "orderHere", desc := "()Z" } : Jvm.MethodName) prog_21_method_56_code (2 : Nat) (Option.some Jvm.ClassFile.FieldType.boolean)) ∈ lw_all := lw_g (lw_at lw_m8 135 rfl) rfl
theorem q1884 : (Jvm.Cond.methodLink "KiteRoofsModel" (160 : Nat) ({ cls := "KiteRoofsModel", name := "here", desc := "()I" } : Jvm.MethodName)) ∈ lw_all := lw_g (lw_at lw_m8 136 rfl) rfl
theorem q1885 : (Jvm.Cond.privateMethod ({ cls := "KiteRoofsModel", name := "here", desc := "()I" } : Jvm.MethodName)) ∈ lw_tbl := lw_at lw_m8 137 rfl
theorem q1886 : (Jvm.Cond.instanceMethod ({ cls := "KiteRoofsModel", name := "here", desc := "()I" } : Jvm.MethodName)) ∈ lw_all := lw_g (lw_at lw_m8 138 rfl) rfl
theorem q1887 : (Jvm.Cond.code ({ cls := "KiteRoofsModel", name := "here", desc := "()I" } : Jvm.MethodName) prog_21_method_51_code (1 : Nat) (Option.some Jvm.ClassFile.FieldType.int)) ∈ lw_all := lw_g (lw_at lw_m8 139 rfl) rfl
theorem q1888 : (Jvm.Cond.methodLink "KiteRoofsModel" (166 : Nat) ({ cls := "KiteRoofsModel", name := "skips", desc := "(I)Z" } : Jvm.MethodName)) ∈ lw_all := lw_g (lw_at lw_m8 140 rfl) rfl
theorem q1889 : (Jvm.Cond.privateMethod ({ cls := "KiteRoofsModel", name := "skips", desc := "(I)Z" } : Jvm.MethodName)) ∈ lw_tbl := lw_at lw_m8 141 rfl
theorem q1890 : (Jvm.Cond.instanceMethod ({ cls := "KiteRoofsModel", name := "skips", desc := "(I)Z" } : Jvm.MethodName)) ∈ lw_all := lw_g (lw_at lw_m8 142 rfl) rfl
theorem q1891 : (Jvm.Cond.code ({ cls := "KiteRoofsModel", name := "skips", desc := "(I)Z" } : Jvm.MethodName) prog_21_method_52_code (2 : Nat) (Option.some Jvm.ClassFile.FieldType.boolean)) ∈ lw_all := lw_g (lw_at lw_m8 143 rfl) rfl
theorem q1892 : (Jvm.Cond.methodLink "KiteRoofsModel" (163 : Nat) ({ cls := "KiteRoofsModel", name := "digit", desc := "(I)Z" } : Jvm.MethodName)) ∈ lw_all := lw_g (lw_at lw_m8 144 rfl) rfl
theorem q1893 : (Jvm.Cond.privateMethod ({ cls := "KiteRoofsModel", name := "digit", desc := "(I)Z" } : Jvm.MethodName)) ∈ lw_tbl := lw_at lw_m8 145 rfl
theorem q1894 : (Jvm.Cond.instanceMethod ({ cls := "KiteRoofsModel", name := "digit", desc := "(I)Z" } : Jvm.MethodName)) ∈ lw_all := lw_g (lw_at lw_m8 146 rfl) rfl
theorem q1895 : (Jvm.Cond.code ({ cls := "KiteRoofsModel", name := "digit", desc := "(I)Z" } : Jvm.MethodName) prog_21_method_53_code (2 : Nat) (Option.some Jvm.ClassFile.FieldType.boolean)) ∈ lw_all := lw_g (lw_at lw_m8 147 rfl) rfl
theorem q1896 : (Jvm.Cond.methodLink "KiteRoofsModel" (175 : Nat) ({ cls := "KiteRoofsModel", name := "signed", desc := "(IZ)Z" } : Jvm.MethodName)) ∈ lw_all := lw_g (lw_at lw_m8 148 rfl) rfl
theorem q1897 : (Jvm.Cond.privateMethod ({ cls := "KiteRoofsModel", name := "signed", desc := "(IZ)Z" } : Jvm.MethodName)) ∈ lw_tbl := lw_at lw_m8 149 rfl
theorem q1898 : (Jvm.Cond.instanceMethod ({ cls := "KiteRoofsModel", name := "signed", desc := "(IZ)Z" } : Jvm.MethodName)) ∈ lw_all := lw_g (lw_at lw_m8 150 rfl) rfl
theorem q1899 : (Jvm.Cond.code ({ cls := "KiteRoofsModel", name := "signed", desc := "(IZ)Z" } : Jvm.MethodName) prog_21_method_55_code (4 : Nat) (Option.some Jvm.ClassFile.FieldType.boolean)) ∈ lw_all := lw_g (lw_at lw_m8 151 rfl) rfl
theorem q1900 : (Jvm.Cond.methodLink "KiteRoofsModel" (169 : Nat) ({ cls := "KiteRoofsModel", name := "number", desc := "(I)Z" } : Jvm.MethodName)) ∈ lw_all := lw_g (lw_at lw_m8 152 rfl) rfl
theorem q1901 : (Jvm.Cond.privateMethod ({ cls := "KiteRoofsModel", name := "number", desc := "(I)Z" } : Jvm.MethodName)) ∈ lw_tbl := lw_at lw_m8 153 rfl
theorem q1902 : (Jvm.Cond.instanceMethod ({ cls := "KiteRoofsModel", name := "number", desc := "(I)Z" } : Jvm.MethodName)) ∈ lw_all := lw_g (lw_at lw_m8 154 rfl) rfl
theorem q1903 : (Jvm.Cond.code ({ cls := "KiteRoofsModel", name := "number", desc := "(I)Z" } : Jvm.MethodName) prog_21_method_54_code (2 : Nat) (Option.some Jvm.ClassFile.FieldType.boolean)) ∈ lw_all := lw_g (lw_at lw_m8 155 rfl) rfl
theorem q1904 : (Jvm.Cond.methodLink "KiteRoofsModel" (203 : Nat) ({ cls := "KiteRoofsModel", name := "carries", desc := "(I)I" } : Jvm.MethodName)) ∈ lw_all := lw_g (lw_at lw_m8 156 rfl) rfl
theorem q1905 : (Jvm.Cond.privateMethod ({ cls := "KiteRoofsModel", name := "carries", desc := "(I)I" } : Jvm.MethodName)) ∈ lw_tbl := lw_at lw_m8 157 rfl
theorem q1906 : (Jvm.Cond.instanceMethod ({ cls := "KiteRoofsModel", name := "carries", desc := "(I)I" } : Jvm.MethodName)) ∈ lw_all := lw_g (lw_at lw_m8 158 rfl) rfl
theorem q1907 : (Jvm.Cond.code ({ cls := "KiteRoofsModel", name := "carries", desc := "(I)I" } : Jvm.MethodName) prog_21_method_58_code (3 : Nat) (Option.some Jvm.ClassFile.FieldType.int)) ∈ lw_all := lw_g (lw_at lw_m8 159 rfl) rfl
theorem q1908 : (Jvm.Cond.methodLink "KiteRoofsModel" (183 : Nat) ({ cls := "KiteRoofsModel", name := "wind", desc := "(III)I" } : Jvm.MethodName)) ∈ lw_all := lw_g (lw_at lw_m8 160 rfl) rfl
theorem q1909 : (Jvm.Cond.methodLink "KiteRoofsModel" (187 : Nat) ({ cls := "KiteRoofsModel", name := "kite", desc := "(IIII)I" } : Jvm.MethodName)) ∈ lw_all := lw_g (lw_at lw_m8 161 rfl) rfl
theorem q1910 : (Jvm.Cond.methodLink "KiteRoofsModel" (191 : Nat) ({ cls := "KiteRoofsModel", name := "launch", desc := "(I)I" } : Jvm.MethodName)) ∈ lw_all := lw_g (lw_at lw_m8 162 rfl) rfl
theorem q1911 : (Jvm.Cond.methodLink "KiteRoofsModel" (194 : Nat) ({ cls := "KiteRoofsModel", name := "reel", desc := "(II)I" } : Jvm.MethodName)) ∈ lw_all := lw_g (lw_at lw_m8 163 rfl) rfl
theorem q1912 : (Jvm.Cond.methodLink "KiteRoofsModel" (197 : Nat) ({ cls := "KiteRoofsModel", name := "round", desc := "(I)I" } : Jvm.MethodName)) ∈ lw_all := lw_g (lw_at lw_m8 164 rfl) rfl
theorem q1914 : (Jvm.Cond.instanceMethod ({ cls := "KiteRoofsModel", name := "faultPosition", desc := "()I" } : Jvm.MethodName)) ∈ lw_all := lw_g (lw_at lw_m8 166 rfl) rfl
theorem q1915 : (Jvm.Cond.selects "KiteRoofsModel" ({ cls := "KiteRoofsModel", name := "faultPosition", desc := "()I" } : Jvm.MethodName) ({ cls := "KiteRoofsModel", name := "faultPosition", desc := "()I" } : Jvm.MethodName)) ∈ lw_all := lw_g (lw_at lw_m8 167 rfl) rfl
theorem q1916 : (Jvm.Cond.code ({ cls := "KiteRoofsModel", name := "faultPosition", desc := "()I" } : Jvm.MethodName) prog_21_method_60_code (1 : Nat) (Option.some Jvm.ClassFile.FieldType.int)) ∈ lw_all := lw_g (lw_at lw_m8 168 rfl) rfl
theorem q1918 : (Jvm.Cond.instanceMethod ({ cls := "KiteRoofsModel", name := "refusal", desc := "(Z)I" } : Jvm.MethodName)) ∈ lw_all := lw_g (lw_at lw_m8 170 rfl) rfl
theorem q1919 : (Jvm.Cond.selects "KiteRoofsModel" ({ cls := "KiteRoofsModel", name := "refusal", desc := "(Z)I" } : Jvm.MethodName) ({ cls := "KiteRoofsModel", name := "refusal", desc := "(Z)I" } : Jvm.MethodName)) ∈ lw_all := lw_g (lw_at lw_m8 171 rfl) rfl
theorem q1920 : (Jvm.Cond.code ({ cls := "KiteRoofsModel", name := "refusal", desc := "(Z)I" } : Jvm.MethodName) prog_21_method_61_code (2 : Nat) (Option.some Jvm.ClassFile.FieldType.int)) ∈ lw_all := lw_g (lw_at lw_m8 172 rfl) rfl
theorem q1922 : (Jvm.Cond.instanceMethod ({ cls := "KiteRoofsModel", name := "account", desc := "(I)I" } : Jvm.MethodName)) ∈ lw_all := lw_g (lw_at lw_m8 174 rfl) rfl
theorem q1923 : (Jvm.Cond.selects "KiteRoofsModel" ({ cls := "KiteRoofsModel", name := "account", desc := "(I)I" } : Jvm.MethodName) ({ cls := "KiteRoofsModel", name := "account", desc := "(I)I" } : Jvm.MethodName)) ∈ lw_all := lw_g (lw_at lw_m8 175 rfl) rfl
theorem q1924 : (Jvm.Cond.code ({ cls := "KiteRoofsModel", name := "account", desc := "(I)I" } : Jvm.MethodName) prog_21_method_64_code (2 : Nat) (Option.some Jvm.ClassFile.FieldType.int)) ∈ lw_all := lw_g (lw_at lw_m8 176 rfl) rfl
theorem q1925 : (Jvm.Cond.methodLink "KiteRoofsModel" (206 : Nat) ({ cls := "KiteRoofsModel", name := "sum", desc := "(I)I" } : Jvm.MethodName)) ∈ lw_all := lw_g (lw_at lw_m8 177 rfl) rfl
theorem q1926 : (Jvm.Cond.privateMethod ({ cls := "KiteRoofsModel", name := "sum", desc := "(I)I" } : Jvm.MethodName)) ∈ lw_tbl := lw_at lw_m8 178 rfl
theorem q1927 : (Jvm.Cond.instanceMethod ({ cls := "KiteRoofsModel", name := "sum", desc := "(I)I" } : Jvm.MethodName)) ∈ lw_all := lw_g (lw_at lw_m8 179 rfl) rfl
theorem q1928 : (Jvm.Cond.code ({ cls := "KiteRoofsModel", name := "sum", desc := "(I)I" } : Jvm.MethodName) prog_21_method_62_code (4 : Nat) (Option.some Jvm.ClassFile.FieldType.int)) ∈ lw_all := lw_g (lw_at lw_m8 180 rfl) rfl
theorem q1929 : (Jvm.Cond.methodLink "KiteRoofsModel" (209 : Nat) ({ cls := "KiteRoofsModel", name := "pairs", desc := "()I" } : Jvm.MethodName)) ∈ lw_all := lw_g (lw_at lw_m8 181 rfl) rfl
theorem q1930 : (Jvm.Cond.privateMethod ({ cls := "KiteRoofsModel", name := "pairs", desc := "()I" } : Jvm.MethodName)) ∈ lw_tbl := lw_at lw_m8 182 rfl
theorem q1931 : (Jvm.Cond.instanceMethod ({ cls := "KiteRoofsModel", name := "pairs", desc := "()I" } : Jvm.MethodName)) ∈ lw_all := lw_g (lw_at lw_m8 183 rfl) rfl
theorem q1932 : (Jvm.Cond.code ({ cls := "KiteRoofsModel", name := "pairs", desc := "()I" } : Jvm.MethodName) prog_21_method_63_code (4 : Nat) (Option.some Jvm.ClassFile.FieldType.int)) ∈ lw_all := lw_g (lw_at lw_m8 184 rfl) rfl
theorem q1934 : (Jvm.Cond.instanceMethod ({ cls := "KiteRoofsModel", name := "isBalanced", desc := "()Z" } : Jvm.MethodName)) ∈ lw_all := lw_g (lw_at lw_m8 186 rfl) rfl
theorem q1935 : (Jvm.Cond.selects "KiteRoofsModel" ({ cls := "KiteRoofsModel", name := "isBalanced", desc := "()Z" } : Jvm.MethodName) ({ cls := "KiteRoofsModel", name := "isBalanced", desc := "()Z" } : Jvm.MethodName)) ∈ lw_all := lw_g (lw_at lw_m8 187 rfl) rfl
theorem q1936 : (Jvm.Cond.code ({ cls := "KiteRoofsModel", name := "isBalanced", desc := "()Z" } : Jvm.MethodName) prog_21_method_65_code (2 : Nat) (Option.some Jvm.ClassFile.FieldType.boolean)) ∈ lw_all := lw_g (lw_at lw_m8 188 rfl) rfl
theorem q1938 : (Jvm.Cond.instanceMethod ({ cls := "KiteRoofsModel", name := "meanTension", desc := "()D" } : Jvm.MethodName)) ∈ lw_all := lw_g (lw_at lw_m8 190 rfl) rfl
theorem q1939 : (Jvm.Cond.selects "KiteRoofsModel" ({ cls := "KiteRoofsModel", name := "meanTension", desc := "()D" } : Jvm.MethodName) ({ cls := "KiteRoofsModel", name := "meanTension", desc := "()D" } : Jvm.MethodName)) ∈ lw_all := lw_g (lw_at lw_m8 191 rfl) rfl
theorem q1940 : (Jvm.Cond.code ({ cls := "KiteRoofsModel", name := "meanTension", desc := "()D" } : Jvm.MethodName) prog_21_method_66_code (4 : Nat) (Option.some Jvm.ClassFile.FieldType.double)) ∈ lw_all := lw_g (lw_at lw_m8 192 rfl) rfl
theorem q1942 : (Jvm.Cond.instanceMethod ({ cls := "KiteRoofsModel", name := "outShare", desc := "()F" } : Jvm.MethodName)) ∈ lw_all := lw_g (lw_at lw_m8 194 rfl) rfl
theorem q1943 : (Jvm.Cond.selects "KiteRoofsModel" ({ cls := "KiteRoofsModel", name := "outShare", desc := "()F" } : Jvm.MethodName) ({ cls := "KiteRoofsModel", name := "outShare", desc := "()F" } : Jvm.MethodName)) ∈ lw_all := lw_g (lw_at lw_m8 195 rfl) rfl
theorem q1944 : (Jvm.Cond.code ({ cls := "KiteRoofsModel", name := "outShare", desc := "()F" } : Jvm.MethodName) prog_21_method_67_code (1 : Nat) (Option.some Jvm.ClassFile.FieldType.float)) ∈ lw_all := lw_g (lw_at lw_m8 196 rfl) rfl
theorem q1946 : (Jvm.Cond.instanceMethod ({ cls := "KiteRoofsModel", name := "undo", desc := "()I" } : Jvm.MethodName)) ∈ lw_all := lw_g (lw_at lw_m8 198 rfl) rfl
theorem q1947 : (Jvm.Cond.selects "KiteRoofsModel" ({ cls := "KiteRoofsModel", name := "undo", desc := "()I" } : Jvm.MethodName) ({ cls := "KiteRoofsModel", name := "undo", desc := "()I" } : Jvm.MethodName)) ∈ lw_all := lw_g (lw_at lw_m8 199 rfl) rfl
theorem q1948 : (Jvm.Cond.code ({ cls := "KiteRoofsModel", name := "undo", desc := "()I" } : Jvm.MethodName) prog_21_method_68_code (1 : Nat) (Option.some Jvm.ClassFile.FieldType.int)) ∈ lw_all := lw_g (lw_at lw_m8 200 rfl) rfl
theorem q1950 : (Jvm.Cond.instanceMethod ({ cls := "KiteRoofsModel", name := "save", desc := "()I" } : Jvm.MethodName)) ∈ lw_all := lw_g (lw_at lw_m8 202 rfl) rfl
theorem q1951 : (Jvm.Cond.selects "KiteRoofsModel" ({ cls := "KiteRoofsModel", name := "save", desc := "()I" } : Jvm.MethodName) ({ cls := "KiteRoofsModel", name := "save", desc := "()I" } : Jvm.MethodName)) ∈ lw_all := lw_g (lw_at lw_m8 203 rfl) rfl
theorem q1952 : (Jvm.Cond.code ({ cls := "KiteRoofsModel", name := "save", desc := "()I" } : Jvm.MethodName) prog_21_method_69_code (1 : Nat) (Option.some Jvm.ClassFile.FieldType.int)) ∈ lw_all := lw_g (lw_at lw_m8 204 rfl) rfl
theorem q1954 : (Jvm.Cond.instanceMethod ({ cls := "KiteRoofsModel", name := "restore", desc := "()I" } : Jvm.MethodName)) ∈ lw_all := lw_g (lw_at lw_m8 206 rfl) rfl
theorem q1955 : (Jvm.Cond.selects "KiteRoofsModel" ({ cls := "KiteRoofsModel", name := "restore", desc := "()I" } : Jvm.MethodName) ({ cls := "KiteRoofsModel", name := "restore", desc := "()I" } : Jvm.MethodName)) ∈ lw_all := lw_g (lw_at lw_m8 207 rfl) rfl
theorem q1956 : (Jvm.Cond.code ({ cls := "KiteRoofsModel", name := "restore", desc := "()I" } : Jvm.MethodName) prog_21_method_70_code (1 : Nat) (Option.some Jvm.ClassFile.FieldType.int)) ∈ lw_all := lw_g (lw_at lw_m8 208 rfl) rfl
theorem q1981 : (Jvm.Cond.castable "KiteRoofsModel" "java/lang/Object") ∈ lw_tbl := lw_at lw_m8 233 rfl
theorem in_X6 : ∀ w ∈ wsX60, w ∈ lw_all := lw_in wsX60 [1640, 1642, 1644, 1646, 1648, 1650, 1652, 1654, 1656, 1658, 1660, 1662, 1664, 1666, 1668, 1670, 1672, 1674, 1676, 1678] (by decide +kernel) (by decide +kernel)
