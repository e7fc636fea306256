/-! KiteRoofs$Town -/
set_option maxRecDepth 100000
def RX2 : String := "KiteRoofs$Town"
def TX2 : u_T := fun k => match k with
  | 0 => ("KiteRoofs$Town", "strengths", "[I", true)
  | 1 => ("KiteRoofs$Town", "drifts", "[I", true)
  | 2 => ("KiteRoofs$Town", "kites", "[LKiteRoofs$Kite;", true)
  | 3 => ("KiteRoofs$Town", "many", "I", false)
  | 4 => ("KiteRoofs$Town", "rounds", "I", false)
  | 5 => ("KiteRoofs$Town", "letOut", "I", false)
  | 6 => ("KiteRoofs$Town", "woundIn", "I", false)
  | 7 => ("KiteRoofs$Town", "cutOff", "I", false)
  | 8 => ("KiteRoofs$Town", "cuts", "I", false)
  | 9 => ("KiteRoofs$Town", "worn", "[I", true)
  | _ => ("KiteRoofs$Town", "layers", "[I", true)
def tyX2 : Nat → FieldType := fun k => match k with
  | 0 => .array .int
  | 1 => .array .int
  | 2 => .array (.object "KiteRoofs$Kite")
  | 3 => .int
  | 4 => .int
  | 5 => .int
  | 6 => .int
  | 7 => .int
  | 8 => .int
  | 9 => .array .int
  | _ => .array .int
abbrev wsX20 : List Cond := u_ws RX2 TX2 11
theorem nmX2 : ∀ a, a < 11 → ∀ b, b < 11 → a ≠ b → (TX2 a).2.1 ≠ (TX2 b).2.1 := by decide +kernel
theorem tyX2_ok : ∀ k, k < 11 → parseFieldDescriptor (TX2 k).2.2.1 = some (tyX2 k) := by decide +kernel
abbrev cX2_init : ByteArray := prog_17_method_1_code
def yX2_init : MethodName := ⟨RX2, "<init>", "()V"⟩
def dkwX2_init_3 : List UInt8 := [162, 0, 22, 42, 180, 0, 20, 27, 187, 0, 18, 89, 183, 0, 30, 83, 132, 1, 1, 167, 255, 234, 177]
abbrev dktX2_init_3 : List UInt8 := dkwX2_init_3 ++ []
def dkwX2_init_2 : List UInt8 := [27, 16, 10, 162, 0, 16, 42, 180, 0, 9, 27, 6, 79, 132, 1, 1, 167, 255, 240, 3, 60, 27, 16, 6]
abbrev dktX2_init_2 : List UInt8 := dkwX2_init_2 ++ dktX2_init_3
def dkwX2_init_1 : List UInt8 := [189, 0, 18, 181, 0, 20, 42, 16, 36, 188, 10, 181, 0, 24, 42, 16, 6, 188, 10, 181, 0, 27, 3, 60]
abbrev dktX2_init_1 : List UInt8 := dkwX2_init_1 ++ dktX2_init_2
def dkwX2_init_0 : List UInt8 := [42, 183, 0, 3, 42, 16, 10, 188, 10, 181, 0, 9, 42, 16, 10, 188, 10, 181, 0, 15, 42, 16, 6]
abbrev dktX2_init_0 : List UInt8 := dkwX2_init_0 ++ dktX2_init_1
theorem dksX2_init_0 : cX2_init.data.toList.drop 0 = dktX2_init_0 := by decide +kernel
theorem dksX2_init_1 : cX2_init.data.toList.drop 23 = dktX2_init_1 := dk_seg dksX2_init_0 23 rfl rfl
theorem dksX2_init_2 : cX2_init.data.toList.drop 47 = dktX2_init_2 := dk_seg dksX2_init_1 24 rfl rfl
theorem dksX2_init_3 : cX2_init.data.toList.drop 71 = dktX2_init_3 := dk_seg dksX2_init_2 24 rfl rfl
theorem dX2_init_0 : decode cX2_init 0 = .ok (.aload_n 0, 1) := dk_42 (dk_at dksX2_init_0 0 rfl rfl)
theorem dX2_init_1 : decode cX2_init 1 = .ok (.invokespecial 3, 3) := dk_183 0 3 (dk_at dksX2_init_0 1 rfl rfl)
theorem dX2_init_4 : decode cX2_init 4 = .ok (.aload_n 0, 1) := dk_42 (dk_at dksX2_init_0 4 rfl rfl)
theorem dX2_init_5 : decode cX2_init 5 = .ok (.bipush 10, 2) := dk_16 10 (dk_at dksX2_init_0 5 rfl rfl)
theorem dX2_init_7 : decode cX2_init 7 = .ok (.newarray .int, 2) := dk_188_10 (dk_at dksX2_init_0 7 rfl rfl)
theorem dX2_init_9 : decode cX2_init 9 = .ok (.putfield 9, 3) := dk_181 0 9 (dk_at dksX2_init_0 9 rfl rfl)
theorem dX2_init_12 : decode cX2_init 12 = .ok (.aload_n 0, 1) := dk_42 (dk_at dksX2_init_0 12 rfl rfl)
theorem dX2_init_13 : decode cX2_init 13 = .ok (.bipush 10, 2) := dk_16 10 (dk_at dksX2_init_0 13 rfl rfl)
theorem dX2_init_15 : decode cX2_init 15 = .ok (.newarray .int, 2) := dk_188_10 (dk_at dksX2_init_0 15 rfl rfl)
theorem dX2_init_17 : decode cX2_init 17 = .ok (.putfield 15, 3) := dk_181 0 15 (dk_at dksX2_init_0 17 rfl rfl)
theorem dX2_init_20 : decode cX2_init 20 = .ok (.aload_n 0, 1) := dk_42 (dk_at dksX2_init_0 20 rfl rfl)
theorem dX2_init_21 : decode cX2_init 21 = .ok (.bipush 6, 2) := dk_16 6 (dk_at dksX2_init_0 21 rfl rfl)
theorem dX2_init_23 : decode cX2_init 23 = .ok (.anewarray 18, 3) := dk_189 0 18 (dk_at dksX2_init_1 0 rfl rfl)
theorem dX2_init_26 : decode cX2_init 26 = .ok (.putfield 20, 3) := dk_181 0 20 (dk_at dksX2_init_1 3 rfl rfl)
theorem dX2_init_29 : decode cX2_init 29 = .ok (.aload_n 0, 1) := dk_42 (dk_at dksX2_init_1 6 rfl rfl)
theorem dX2_init_30 : decode cX2_init 30 = .ok (.bipush 36, 2) := dk_16 36 (dk_at dksX2_init_1 7 rfl rfl)
theorem dX2_init_32 : decode cX2_init 32 = .ok (.newarray .int, 2) := dk_188_10 (dk_at dksX2_init_1 9 rfl rfl)
theorem dX2_init_34 : decode cX2_init 34 = .ok (.putfield 24, 3) := dk_181 0 24 (dk_at dksX2_init_1 11 rfl rfl)
theorem dX2_init_37 : decode cX2_init 37 = .ok (.aload_n 0, 1) := dk_42 (dk_at dksX2_init_1 14 rfl rfl)
theorem dX2_init_38 : decode cX2_init 38 = .ok (.bipush 6, 2) := dk_16 6 (dk_at dksX2_init_1 15 rfl rfl)
theorem dX2_init_40 : decode cX2_init 40 = .ok (.newarray .int, 2) := dk_188_10 (dk_at dksX2_init_1 17 rfl rfl)
theorem dX2_init_42 : decode cX2_init 42 = .ok (.putfield 27, 3) := dk_181 0 27 (dk_at dksX2_init_1 19 rfl rfl)
theorem dX2_init_45 : decode cX2_init 45 = .ok (.iconst 0, 1) := dk_3 (dk_at dksX2_init_1 22 rfl rfl)
theorem dX2_init_46 : decode cX2_init 46 = .ok (.istore_n 1, 1) := dk_60 (dk_at dksX2_init_1 23 rfl rfl)
theorem dX2_init_47 : decode cX2_init 47 = .ok (.iload_n 1, 1) := dk_27 (dk_at dksX2_init_2 0 rfl rfl)
theorem dX2_init_48 : decode cX2_init 48 = .ok (.bipush 10, 2) := dk_16 10 (dk_at dksX2_init_2 1 rfl rfl)
theorem dX2_init_50 : decode cX2_init 50 = .ok (.if_icmp .ge 16, 3) := dk_162 0 16 (dk_at dksX2_init_2 3 rfl rfl)
theorem dX2_init_53 : decode cX2_init 53 = .ok (.aload_n 0, 1) := dk_42 (dk_at dksX2_init_2 6 rfl rfl)
theorem dX2_init_54 : decode cX2_init 54 = .ok (.getfield 9, 3) := dk_180 0 9 (dk_at dksX2_init_2 7 rfl rfl)
theorem dX2_init_57 : decode cX2_init 57 = .ok (.iload_n 1, 1) := dk_27 (dk_at dksX2_init_2 10 rfl rfl)
theorem dX2_init_58 : decode cX2_init 58 = .ok (.iconst 3, 1) := dk_6 (dk_at dksX2_init_2 11 rfl rfl)
theorem dX2_init_59 : decode cX2_init 59 = .ok (.iastore, 1) := dk_79 (dk_at dksX2_init_2 12 rfl rfl)
theorem dX2_init_60 : decode cX2_init 60 = .ok (.iinc 1 1, 3) := dk_132 1 1 (dk_at dksX2_init_2 13 rfl rfl)
theorem dX2_init_63 : decode cX2_init 63 = .ok (.goto (-16), 3) := dk_167 255 240 (dk_at dksX2_init_2 16 rfl rfl)
theorem dX2_init_66 : decode cX2_init 66 = .ok (.iconst 0, 1) := dk_3 (dk_at dksX2_init_2 19 rfl rfl)
theorem dX2_init_67 : decode cX2_init 67 = .ok (.istore_n 1, 1) := dk_60 (dk_at dksX2_init_2 20 rfl rfl)
theorem dX2_init_68 : decode cX2_init 68 = .ok (.iload_n 1, 1) := dk_27 (dk_at dksX2_init_2 21 rfl rfl)
theorem dX2_init_69 : decode cX2_init 69 = .ok (.bipush 6, 2) := dk_16 6 (dk_at dksX2_init_2 22 rfl rfl)
theorem dX2_init_71 : decode cX2_init 71 = .ok (.if_icmp .ge 22, 3) := dk_162 0 22 (dk_at dksX2_init_3 0 rfl rfl)
theorem dX2_init_74 : decode cX2_init 74 = .ok (.aload_n 0, 1) := dk_42 (dk_at dksX2_init_3 3 rfl rfl)
theorem dX2_init_75 : decode cX2_init 75 = .ok (.getfield 20, 3) := dk_180 0 20 (dk_at dksX2_init_3 4 rfl rfl)
theorem dX2_init_78 : decode cX2_init 78 = .ok (.iload_n 1, 1) := dk_27 (dk_at dksX2_init_3 7 rfl rfl)
theorem dX2_init_79 : decode cX2_init 79 = .ok (.new 18, 3) := dk_187 0 18 (dk_at dksX2_init_3 8 rfl rfl)
theorem dX2_init_82 : decode cX2_init 82 = .ok (.dup, 1) := dk_89 (dk_at dksX2_init_3 11 rfl rfl)
theorem dX2_init_83 : decode cX2_init 83 = .ok (.invokespecial 30, 3) := dk_183 0 30 (dk_at dksX2_init_3 12 rfl rfl)
theorem dX2_init_86 : decode cX2_init 86 = .ok (.aastore, 1) := dk_83 (dk_at dksX2_init_3 15 rfl rfl)
theorem dX2_init_87 : decode cX2_init 87 = .ok (.iinc 1 1, 3) := dk_132 1 1 (dk_at dksX2_init_3 16 rfl rfl)
theorem dX2_init_90 : decode cX2_init 90 = .ok (.goto (-22), 3) := dk_167 255 234 (dk_at dksX2_init_3 19 rfl rfl)
theorem dX2_init_93 : decode cX2_init 93 = .ok (.return_, 1) := dk_177 (dk_at dksX2_init_3 22 rfl rfl)
abbrev cX2_isBalanced : ByteArray := prog_17_method_40_code
def yX2_isBalanced : MethodName := ⟨RX2, "isBalanced", "()Z"⟩
def dkwX2_isBalanced_3 : List UInt8 := [4, 167, 0, 4, 3, 172]
abbrev dktX2_isBalanced_3 : List UInt8 := dkwX2_isBalanced_3 ++ []
def dkwX2_isBalanced_2 : List UInt8 := [182, 0, 208, 42, 180, 0, 54, 96, 42, 180, 0, 51, 96, 160, 0, 15, 27, 42, 180, 0, 54, 160, 0, 7]
abbrev dktX2_isBalanced_2 : List UInt8 := dkwX2_isBalanced_2 ++ dktX2_isBalanced_3
def dkwX2_isBalanced_1 : List UInt8 := [180, 0, 20, 28, 50, 180, 0, 140, 100, 96, 60, 132, 2, 1, 167, 255, 223, 42, 180, 0, 48, 42]
abbrev dktX2_isBalanced_1 : List UInt8 := dkwX2_isBalanced_1 ++ dktX2_isBalanced_2
def dkwX2_isBalanced_0 : List UInt8 := [3, 60, 3, 61, 28, 42, 180, 0, 37, 162, 0, 31, 27, 42, 180, 0, 20, 28, 50, 180, 0, 205, 42]
abbrev dktX2_isBalanced_0 : List UInt8 := dkwX2_isBalanced_0 ++ dktX2_isBalanced_1
theorem dksX2_isBalanced_0 : cX2_isBalanced.data.toList.drop 0 = dktX2_isBalanced_0 := by decide +kernel
theorem dksX2_isBalanced_1 : cX2_isBalanced.data.toList.drop 23 = dktX2_isBalanced_1 := dk_seg dksX2_isBalanced_0 23 rfl rfl
theorem dksX2_isBalanced_2 : cX2_isBalanced.data.toList.drop 45 = dktX2_isBalanced_2 := dk_seg dksX2_isBalanced_1 22 rfl rfl
theorem dksX2_isBalanced_3 : cX2_isBalanced.data.toList.drop 69 = dktX2_isBalanced_3 := dk_seg dksX2_isBalanced_2 24 rfl rfl
theorem dX2_isBalanced_0 : decode cX2_isBalanced 0 = .ok (.iconst 0, 1) := dk_3 (dk_at dksX2_isBalanced_0 0 rfl rfl)
theorem dX2_isBalanced_1 : decode cX2_isBalanced 1 = .ok (.istore_n 1, 1) := dk_60 (dk_at dksX2_isBalanced_0 1 rfl rfl)
theorem dX2_isBalanced_2 : decode cX2_isBalanced 2 = .ok (.iconst 0, 1) := dk_3 (dk_at dksX2_isBalanced_0 2 rfl rfl)
theorem dX2_isBalanced_3 : decode cX2_isBalanced 3 = .ok (.istore_n 2, 1) := dk_61 (dk_at dksX2_isBalanced_0 3 rfl rfl)
theorem dX2_isBalanced_4 : decode cX2_isBalanced 4 = .ok (.iload_n 2, 1) := dk_28 (dk_at dksX2_isBalanced_0 4 rfl rfl)
theorem dX2_isBalanced_5 : decode cX2_isBalanced 5 = .ok (.aload_n 0, 1) := dk_42 (dk_at dksX2_isBalanced_0 5 rfl rfl)
theorem dX2_isBalanced_6 : decode cX2_isBalanced 6 = .ok (.getfield 37, 3) := dk_180 0 37 (dk_at dksX2_isBalanced_0 6 rfl rfl)
theorem dX2_isBalanced_9 : decode cX2_isBalanced 9 = .ok (.if_icmp .ge 31, 3) := dk_162 0 31 (dk_at dksX2_isBalanced_0 9 rfl rfl)
theorem dX2_isBalanced_12 : decode cX2_isBalanced 12 = .ok (.iload_n 1, 1) := dk_27 (dk_at dksX2_isBalanced_0 12 rfl rfl)
theorem dX2_isBalanced_13 : decode cX2_isBalanced 13 = .ok (.aload_n 0, 1) := dk_42 (dk_at dksX2_isBalanced_0 13 rfl rfl)
theorem dX2_isBalanced_14 : decode cX2_isBalanced 14 = .ok (.getfield 20, 3) := dk_180 0 20 (dk_at dksX2_isBalanced_0 14 rfl rfl)
theorem dX2_isBalanced_17 : decode cX2_isBalanced 17 = .ok (.iload_n 2, 1) := dk_28 (dk_at dksX2_isBalanced_0 17 rfl rfl)
theorem dX2_isBalanced_18 : decode cX2_isBalanced 18 = .ok (.aaload, 1) := dk_50 (dk_at dksX2_isBalanced_0 18 rfl rfl)
theorem dX2_isBalanced_19 : decode cX2_isBalanced 19 = .ok (.getfield 205, 3) := dk_180 0 205 (dk_at dksX2_isBalanced_0 19 rfl rfl)
theorem dX2_isBalanced_22 : decode cX2_isBalanced 22 = .ok (.aload_n 0, 1) := dk_42 (dk_at dksX2_isBalanced_0 22 rfl rfl)
theorem dX2_isBalanced_23 : decode cX2_isBalanced 23 = .ok (.getfield 20, 3) := dk_180 0 20 (dk_at dksX2_isBalanced_1 0 rfl rfl)
theorem dX2_isBalanced_26 : decode cX2_isBalanced 26 = .ok (.iload_n 2, 1) := dk_28 (dk_at dksX2_isBalanced_1 3 rfl rfl)
theorem dX2_isBalanced_27 : decode cX2_isBalanced 27 = .ok (.aaload, 1) := dk_50 (dk_at dksX2_isBalanced_1 4 rfl rfl)
theorem dX2_isBalanced_28 : decode cX2_isBalanced 28 = .ok (.getfield 140, 3) := dk_180 0 140 (dk_at dksX2_isBalanced_1 5 rfl rfl)
theorem dX2_isBalanced_31 : decode cX2_isBalanced 31 = .ok (.isub, 1) := dk_100 (dk_at dksX2_isBalanced_1 8 rfl rfl)
theorem dX2_isBalanced_32 : decode cX2_isBalanced 32 = .ok (.iadd, 1) := dk_96 (dk_at dksX2_isBalanced_1 9 rfl rfl)
theorem dX2_isBalanced_33 : decode cX2_isBalanced 33 = .ok (.istore_n 1, 1) := dk_60 (dk_at dksX2_isBalanced_1 10 rfl rfl)
theorem dX2_isBalanced_34 : decode cX2_isBalanced 34 = .ok (.iinc 2 1, 3) := dk_132 2 1 (dk_at dksX2_isBalanced_1 11 rfl rfl)
theorem dX2_isBalanced_37 : decode cX2_isBalanced 37 = .ok (.goto (-33), 3) := dk_167 255 223 (dk_at dksX2_isBalanced_1 14 rfl rfl)
theorem dX2_isBalanced_40 : decode cX2_isBalanced 40 = .ok (.aload_n 0, 1) := dk_42 (dk_at dksX2_isBalanced_1 17 rfl rfl)
theorem dX2_isBalanced_41 : decode cX2_isBalanced 41 = .ok (.getfield 48, 3) := dk_180 0 48 (dk_at dksX2_isBalanced_1 18 rfl rfl)
theorem dX2_isBalanced_44 : decode cX2_isBalanced 44 = .ok (.aload_n 0, 1) := dk_42 (dk_at dksX2_isBalanced_1 21 rfl rfl)
theorem dX2_isBalanced_45 : decode cX2_isBalanced 45 = .ok (.invokevirtual 208, 3) := dk_182 0 208 (dk_at dksX2_isBalanced_2 0 rfl rfl)
theorem dX2_isBalanced_48 : decode cX2_isBalanced 48 = .ok (.aload_n 0, 1) := dk_42 (dk_at dksX2_isBalanced_2 3 rfl rfl)
theorem dX2_isBalanced_49 : decode cX2_isBalanced 49 = .ok (.getfield 54, 3) := dk_180 0 54 (dk_at dksX2_isBalanced_2 4 rfl rfl)
theorem dX2_isBalanced_52 : decode cX2_isBalanced 52 = .ok (.iadd, 1) := dk_96 (dk_at dksX2_isBalanced_2 7 rfl rfl)
theorem dX2_isBalanced_53 : decode cX2_isBalanced 53 = .ok (.aload_n 0, 1) := dk_42 (dk_at dksX2_isBalanced_2 8 rfl rfl)
theorem dX2_isBalanced_54 : decode cX2_isBalanced 54 = .ok (.getfield 51, 3) := dk_180 0 51 (dk_at dksX2_isBalanced_2 9 rfl rfl)
theorem dX2_isBalanced_57 : decode cX2_isBalanced 57 = .ok (.iadd, 1) := dk_96 (dk_at dksX2_isBalanced_2 12 rfl rfl)
theorem dX2_isBalanced_58 : decode cX2_isBalanced 58 = .ok (.if_icmp .ne 15, 3) := dk_160 0 15 (dk_at dksX2_isBalanced_2 13 rfl rfl)
theorem dX2_isBalanced_61 : decode cX2_isBalanced 61 = .ok (.iload_n 1, 1) := dk_27 (dk_at dksX2_isBalanced_2 16 rfl rfl)
theorem dX2_isBalanced_62 : decode cX2_isBalanced 62 = .ok (.aload_n 0, 1) := dk_42 (dk_at dksX2_isBalanced_2 17 rfl rfl)
theorem dX2_isBalanced_63 : decode cX2_isBalanced 63 = .ok (.getfield 54, 3) := dk_180 0 54 (dk_at dksX2_isBalanced_2 18 rfl rfl)
theorem dX2_isBalanced_66 : decode cX2_isBalanced 66 = .ok (.if_icmp .ne 7, 3) := dk_160 0 7 (dk_at dksX2_isBalanced_2 21 rfl rfl)
theorem dX2_isBalanced_69 : decode cX2_isBalanced 69 = .ok (.iconst 1, 1) := dk_4 (dk_at dksX2_isBalanced_3 0 rfl rfl)
theorem dX2_isBalanced_70 : decode cX2_isBalanced 70 = .ok (.goto 4, 3) := dk_167 0 4 (dk_at dksX2_isBalanced_3 1 rfl rfl)
theorem dX2_isBalanced_73 : decode cX2_isBalanced 73 = .ok (.iconst 0, 1) := dk_3 (dk_at dksX2_isBalanced_3 4 rfl rfl)
theorem dX2_isBalanced_74 : decode cX2_isBalanced 74 = .ok (.ireturn, 1) := dk_172 (dk_at dksX2_isBalanced_3 5 rfl rfl)
abbrev cX2_out : ByteArray := prog_17_method_36_code
def yX2_out : MethodName := ⟨RX2, "out", "()I"⟩
def dkwX2_out_1 : List UInt8 := [132, 2, 1, 167, 255, 233, 27, 172]
abbrev dktX2_out_1 : List UInt8 := dkwX2_out_1 ++ []
def dkwX2_out_0 : List UInt8 := [3, 60, 3, 61, 28, 42, 180, 0, 37, 162, 0, 21, 27, 42, 180, 0, 20, 28, 50, 182, 0, 84, 96, 60]
abbrev dktX2_out_0 : List UInt8 := dkwX2_out_0 ++ dktX2_out_1
theorem dksX2_out_0 : cX2_out.data.toList.drop 0 = dktX2_out_0 := by decide +kernel
theorem dksX2_out_1 : cX2_out.data.toList.drop 24 = dktX2_out_1 := dk_seg dksX2_out_0 24 rfl rfl
theorem dX2_out_0 : decode cX2_out 0 = .ok (.iconst 0, 1) := dk_3 (dk_at dksX2_out_0 0 rfl rfl)
theorem dX2_out_1 : decode cX2_out 1 = .ok (.istore_n 1, 1) := dk_60 (dk_at dksX2_out_0 1 rfl rfl)
theorem dX2_out_2 : decode cX2_out 2 = .ok (.iconst 0, 1) := dk_3 (dk_at dksX2_out_0 2 rfl rfl)
theorem dX2_out_3 : decode cX2_out 3 = .ok (.istore_n 2, 1) := dk_61 (dk_at dksX2_out_0 3 rfl rfl)
theorem dX2_out_4 : decode cX2_out 4 = .ok (.iload_n 2, 1) := dk_28 (dk_at dksX2_out_0 4 rfl rfl)
theorem dX2_out_5 : decode cX2_out 5 = .ok (.aload_n 0, 1) := dk_42 (dk_at dksX2_out_0 5 rfl rfl)
theorem dX2_out_6 : decode cX2_out 6 = .ok (.getfield 37, 3) := dk_180 0 37 (dk_at dksX2_out_0 6 rfl rfl)
theorem dX2_out_9 : decode cX2_out 9 = .ok (.if_icmp .ge 21, 3) := dk_162 0 21 (dk_at dksX2_out_0 9 rfl rfl)
theorem dX2_out_12 : decode cX2_out 12 = .ok (.iload_n 1, 1) := dk_27 (dk_at dksX2_out_0 12 rfl rfl)
theorem dX2_out_13 : decode cX2_out 13 = .ok (.aload_n 0, 1) := dk_42 (dk_at dksX2_out_0 13 rfl rfl)
theorem dX2_out_14 : decode cX2_out 14 = .ok (.getfield 20, 3) := dk_180 0 20 (dk_at dksX2_out_0 14 rfl rfl)
theorem dX2_out_17 : decode cX2_out 17 = .ok (.iload_n 2, 1) := dk_28 (dk_at dksX2_out_0 17 rfl rfl)
theorem dX2_out_18 : decode cX2_out 18 = .ok (.aaload, 1) := dk_50 (dk_at dksX2_out_0 18 rfl rfl)
theorem dX2_out_19 : decode cX2_out 19 = .ok (.invokevirtual 84, 3) := dk_182 0 84 (dk_at dksX2_out_0 19 rfl rfl)
theorem dX2_out_22 : decode cX2_out 22 = .ok (.iadd, 1) := dk_96 (dk_at dksX2_out_0 22 rfl rfl)
theorem dX2_out_23 : decode cX2_out 23 = .ok (.istore_n 1, 1) := dk_60 (dk_at dksX2_out_0 23 rfl rfl)
theorem dX2_out_24 : decode cX2_out 24 = .ok (.iinc 2 1, 3) := dk_132 2 1 (dk_at dksX2_out_1 0 rfl rfl)
theorem dX2_out_27 : decode cX2_out 27 = .ok (.goto (-23), 3) := dk_167 255 233 (dk_at dksX2_out_1 3 rfl rfl)
theorem dX2_out_30 : decode cX2_out 30 = .ok (.iload_n 1, 1) := dk_27 (dk_at dksX2_out_1 6 rfl rfl)
theorem dX2_out_31 : decode cX2_out 31 = .ok (.ireturn, 1) := dk_172 (dk_at dksX2_out_1 7 rfl rfl)
abbrev cX2_take : ByteArray := prog_17_method_2_code
def yX2_take : MethodName := ⟨RX2, "take", "(LKiteRoofs$Town;)V"⟩
def dkwX2_take_4 : List UInt8 := [180, 0, 54, 181, 0, 54, 42, 43, 180, 0, 57, 181, 0, 57, 177]
abbrev dktX2_take_4 : List UInt8 := dkwX2_take_4 ++ []
def dkwX2_take_3 : List UInt8 := [180, 0, 45, 181, 0, 45, 42, 43, 180, 0, 48, 181, 0, 48, 42, 43, 180, 0, 51, 181, 0, 51, 42, 43]
abbrev dktX2_take_3 : List UInt8 := dkwX2_take_3 ++ dktX2_take_4
def dkwX2_take_2 : List UInt8 := [180, 0, 20, 28, 50, 182, 0, 41, 132, 2, 1, 167, 255, 230, 42, 43, 180, 0, 37, 181, 0, 37, 42, 43]
abbrev dktX2_take_2 : List UInt8 := dkwX2_take_2 ++ dktX2_take_3
def dkwX2_take_1 : List UInt8 := [3, 16, 10, 184, 0, 31, 3, 61, 28, 43, 180, 0, 37, 162, 0, 24, 42, 180, 0, 20, 28, 50, 43]
abbrev dktX2_take_1 : List UInt8 := dkwX2_take_1 ++ dktX2_take_2
def dkwX2_take_0 : List UInt8 := [43, 180, 0, 9, 3, 42, 180, 0, 9, 3, 16, 10, 184, 0, 31, 43, 180, 0, 15, 3, 42, 180, 0, 15]
abbrev dktX2_take_0 : List UInt8 := dkwX2_take_0 ++ dktX2_take_1
theorem dksX2_take_0 : cX2_take.data.toList.drop 0 = dktX2_take_0 := by decide +kernel
theorem dksX2_take_1 : cX2_take.data.toList.drop 24 = dktX2_take_1 := dk_seg dksX2_take_0 24 rfl rfl
theorem dksX2_take_2 : cX2_take.data.toList.drop 47 = dktX2_take_2 := dk_seg dksX2_take_1 23 rfl rfl
theorem dksX2_take_3 : cX2_take.data.toList.drop 71 = dktX2_take_3 := dk_seg dksX2_take_2 24 rfl rfl
theorem dksX2_take_4 : cX2_take.data.toList.drop 95 = dktX2_take_4 := dk_seg dksX2_take_3 24 rfl rfl
theorem dX2_take_0 : decode cX2_take 0 = .ok (.aload_n 1, 1) := dk_43 (dk_at dksX2_take_0 0 rfl rfl)
theorem dX2_take_1 : decode cX2_take 1 = .ok (.getfield 9, 3) := dk_180 0 9 (dk_at dksX2_take_0 1 rfl rfl)
theorem dX2_take_4 : decode cX2_take 4 = .ok (.iconst 0, 1) := dk_3 (dk_at dksX2_take_0 4 rfl rfl)
theorem dX2_take_5 : decode cX2_take 5 = .ok (.aload_n 0, 1) := dk_42 (dk_at dksX2_take_0 5 rfl rfl)
theorem dX2_take_6 : decode cX2_take 6 = .ok (.getfield 9, 3) := dk_180 0 9 (dk_at dksX2_take_0 6 rfl rfl)
theorem dX2_take_9 : decode cX2_take 9 = .ok (.iconst 0, 1) := dk_3 (dk_at dksX2_take_0 9 rfl rfl)
theorem dX2_take_10 : decode cX2_take 10 = .ok (.bipush 10, 2) := dk_16 10 (dk_at dksX2_take_0 10 rfl rfl)
theorem dX2_take_12 : decode cX2_take 12 = .ok (.invokestatic 31, 3) := dk_184 0 31 (dk_at dksX2_take_0 12 rfl rfl)
theorem dX2_take_15 : decode cX2_take 15 = .ok (.aload_n 1, 1) := dk_43 (dk_at dksX2_take_0 15 rfl rfl)
theorem dX2_take_16 : decode cX2_take 16 = .ok (.getfield 15, 3) := dk_180 0 15 (dk_at dksX2_take_0 16 rfl rfl)
theorem dX2_take_19 : decode cX2_take 19 = .ok (.iconst 0, 1) := dk_3 (dk_at dksX2_take_0 19 rfl rfl)
theorem dX2_take_20 : decode cX2_take 20 = .ok (.aload_n 0, 1) := dk_42 (dk_at dksX2_take_0 20 rfl rfl)
theorem dX2_take_21 : decode cX2_take 21 = .ok (.getfield 15, 3) := dk_180 0 15 (dk_at dksX2_take_0 21 rfl rfl)
theorem dX2_take_24 : decode cX2_take 24 = .ok (.iconst 0, 1) := dk_3 (dk_at dksX2_take_1 0 rfl rfl)
theorem dX2_take_25 : decode cX2_take 25 = .ok (.bipush 10, 2) := dk_16 10 (dk_at dksX2_take_1 1 rfl rfl)
theorem dX2_take_27 : decode cX2_take 27 = .ok (.invokestatic 31, 3) := dk_184 0 31 (dk_at dksX2_take_1 3 rfl rfl)
theorem dX2_take_30 : decode cX2_take 30 = .ok (.iconst 0, 1) := dk_3 (dk_at dksX2_take_1 6 rfl rfl)
theorem dX2_take_31 : decode cX2_take 31 = .ok (.istore_n 2, 1) := dk_61 (dk_at dksX2_take_1 7 rfl rfl)
theorem dX2_take_32 : decode cX2_take 32 = .ok (.iload_n 2, 1) := dk_28 (dk_at dksX2_take_1 8 rfl rfl)
theorem dX2_take_33 : decode cX2_take 33 = .ok (.aload_n 1, 1) := dk_43 (dk_at dksX2_take_1 9 rfl rfl)
theorem dX2_take_34 : decode cX2_take 34 = .ok (.getfield 37, 3) := dk_180 0 37 (dk_at dksX2_take_1 10 rfl rfl)
theorem dX2_take_37 : decode cX2_take 37 = .ok (.if_icmp .ge 24, 3) := dk_162 0 24 (dk_at dksX2_take_1 13 rfl rfl)
theorem dX2_take_40 : decode cX2_take 40 = .ok (.aload_n 0, 1) := dk_42 (dk_at dksX2_take_1 16 rfl rfl)
theorem dX2_take_41 : decode cX2_take 41 = .ok (.getfield 20, 3) := dk_180 0 20 (dk_at dksX2_take_1 17 rfl rfl)
theorem dX2_take_44 : decode cX2_take 44 = .ok (.iload_n 2, 1) := dk_28 (dk_at dksX2_take_1 20 rfl rfl)
theorem dX2_take_45 : decode cX2_take 45 = .ok (.aaload, 1) := dk_50 (dk_at dksX2_take_1 21 rfl rfl)
theorem dX2_take_46 : decode cX2_take 46 = .ok (.aload_n 1, 1) := dk_43 (dk_at dksX2_take_1 22 rfl rfl)
theorem dX2_take_47 : decode cX2_take 47 = .ok (.getfield 20, 3) := dk_180 0 20 (dk_at dksX2_take_2 0 rfl rfl)
theorem dX2_take_50 : decode cX2_take 50 = .ok (.iload_n 2, 1) := dk_28 (dk_at dksX2_take_2 3 rfl rfl)
theorem dX2_take_51 : decode cX2_take 51 = .ok (.aaload, 1) := dk_50 (dk_at dksX2_take_2 4 rfl rfl)
theorem dX2_take_52 : decode cX2_take 52 = .ok (.invokevirtual 41, 3) := dk_182 0 41 (dk_at dksX2_take_2 5 rfl rfl)
theorem dX2_take_55 : decode cX2_take 55 = .ok (.iinc 2 1, 3) := dk_132 2 1 (dk_at dksX2_take_2 8 rfl rfl)
theorem dX2_take_58 : decode cX2_take 58 = .ok (.goto (-26), 3) := dk_167 255 230 (dk_at dksX2_take_2 11 rfl rfl)
theorem dX2_take_61 : decode cX2_take 61 = .ok (.aload_n 0, 1) := dk_42 (dk_at dksX2_take_2 14 rfl rfl)
theorem dX2_take_62 : decode cX2_take 62 = .ok (.aload_n 1, 1) := dk_43 (dk_at dksX2_take_2 15 rfl rfl)
theorem dX2_take_63 : decode cX2_take 63 = .ok (.getfield 37, 3) := dk_180 0 37 (dk_at dksX2_take_2 16 rfl rfl)
theorem dX2_take_66 : decode cX2_take 66 = .ok (.putfield 37, 3) := dk_181 0 37 (dk_at dksX2_take_2 19 rfl rfl)
theorem dX2_take_69 : decode cX2_take 69 = .ok (.aload_n 0, 1) := dk_42 (dk_at dksX2_take_2 22 rfl rfl)
theorem dX2_take_70 : decode cX2_take 70 = .ok (.aload_n 1, 1) := dk_43 (dk_at dksX2_take_2 23 rfl rfl)
theorem dX2_take_71 : decode cX2_take 71 = .ok (.getfield 45, 3) := dk_180 0 45 (dk_at dksX2_take_3 0 rfl rfl)
theorem dX2_take_74 : decode cX2_take 74 = .ok (.putfield 45, 3) := dk_181 0 45 (dk_at dksX2_take_3 3 rfl rfl)
theorem dX2_take_77 : decode cX2_take 77 = .ok (.aload_n 0, 1) := dk_42 (dk_at dksX2_take_3 6 rfl rfl)
theorem dX2_take_78 : decode cX2_take 78 = .ok (.aload_n 1, 1) := dk_43 (dk_at dksX2_take_3 7 rfl rfl)
theorem dX2_take_79 : decode cX2_take 79 = .ok (.getfield 48, 3) := dk_180 0 48 (dk_at dksX2_take_3 8 rfl rfl)
theorem dX2_take_82 : decode cX2_take 82 = .ok (.putfield 48, 3) := dk_181 0 48 (dk_at dksX2_take_3 11 rfl rfl)
theorem dX2_take_85 : decode cX2_take 85 = .ok (.aload_n 0, 1) := dk_42 (dk_at dksX2_take_3 14 rfl rfl)
theorem dX2_take_86 : decode cX2_take 86 = .ok (.aload_n 1, 1) := dk_43 (dk_at dksX2_take_3 15 rfl rfl)
theorem dX2_take_87 : decode cX2_take 87 = .ok (.getfield 51, 3) := dk_180 0 51 (dk_at dksX2_take_3 16 rfl rfl)
theorem dX2_take_90 : decode cX2_take 90 = .ok (.putfield 51, 3) := dk_181 0 51 (dk_at dksX2_take_3 19 rfl rfl)
theorem dX2_take_93 : decode cX2_take 93 = .ok (.aload_n 0, 1) := dk_42 (dk_at dksX2_take_3 22 rfl rfl)
theorem dX2_take_94 : decode cX2_take 94 = .ok (.aload_n 1, 1) := dk_43 (dk_at dksX2_take_3 23 rfl rfl)
theorem dX2_take_95 : decode cX2_take 95 = .ok (.getfield 54, 3) := dk_180 0 54 (dk_at dksX2_take_4 0 rfl rfl)
theorem dX2_take_98 : decode cX2_take 98 = .ok (.putfield 54, 3) := dk_181 0 54 (dk_at dksX2_take_4 3 rfl rfl)
theorem dX2_take_101 : decode cX2_take 101 = .ok (.aload_n 0, 1) := dk_42 (dk_at dksX2_take_4 6 rfl rfl)
theorem dX2_take_102 : decode cX2_take 102 = .ok (.aload_n 1, 1) := dk_43 (dk_at dksX2_take_4 7 rfl rfl)
theorem dX2_take_103 : decode cX2_take 103 = .ok (.getfield 57, 3) := dk_180 0 57 (dk_at dksX2_take_4 8 rfl rfl)
theorem dX2_take_106 : decode cX2_take 106 = .ok (.putfield 57, 3) := dk_181 0 57 (dk_at dksX2_take_4 11 rfl rfl)
theorem dX2_take_109 : decode cX2_take 109 = .ok (.return_, 1) := dk_177 (dk_at dksX2_take_4 14 rfl rfl)
abbrev cX2_add : ByteArray := prog_17_method_32_code
def yX2_add : MethodName := ⟨RX2, "add", "(LKiteRoofs$Make;III)I"⟩
def dkwX2_add_1 : List UInt8 := [181, 0, 37, 42, 180, 0, 37, 4, 100, 172]
abbrev dktX2_add_1 : List UInt8 := dkwX2_add_1 ++ []
def dkwX2_add_0 : List UInt8 := [42, 180, 0, 20, 42, 180, 0, 37, 50, 43, 28, 29, 21, 4, 182, 0, 198, 42, 89, 180, 0, 37, 4, 96]
abbrev dktX2_add_0 : List UInt8 := dkwX2_add_0 ++ dktX2_add_1
theorem dksX2_add_0 : cX2_add.data.toList.drop 0 = dktX2_add_0 := by decide +kernel
theorem dksX2_add_1 : cX2_add.data.toList.drop 24 = dktX2_add_1 := dk_seg dksX2_add_0 24 rfl rfl
theorem dX2_add_0 : decode cX2_add 0 = .ok (.aload_n 0, 1) := dk_42 (dk_at dksX2_add_0 0 rfl rfl)
theorem dX2_add_1 : decode cX2_add 1 = .ok (.getfield 20, 3) := dk_180 0 20 (dk_at dksX2_add_0 1 rfl rfl)
theorem dX2_add_4 : decode cX2_add 4 = .ok (.aload_n 0, 1) := dk_42 (dk_at dksX2_add_0 4 rfl rfl)
theorem dX2_add_5 : decode cX2_add 5 = .ok (.getfield 37, 3) := dk_180 0 37 (dk_at dksX2_add_0 5 rfl rfl)
theorem dX2_add_8 : decode cX2_add 8 = .ok (.aaload, 1) := dk_50 (dk_at dksX2_add_0 8 rfl rfl)
theorem dX2_add_9 : decode cX2_add 9 = .ok (.aload_n 1, 1) := dk_43 (dk_at dksX2_add_0 9 rfl rfl)
theorem dX2_add_10 : decode cX2_add 10 = .ok (.iload_n 2, 1) := dk_28 (dk_at dksX2_add_0 10 rfl rfl)
theorem dX2_add_11 : decode cX2_add 11 = .ok (.iload_n 3, 1) := dk_29 (dk_at dksX2_add_0 11 rfl rfl)
theorem dX2_add_12 : decode cX2_add 12 = .ok (.iload 4, 2) := dk_21 4 (dk_at dksX2_add_0 12 rfl rfl)
theorem dX2_add_14 : decode cX2_add 14 = .ok (.invokevirtual 198, 3) := dk_182 0 198 (dk_at dksX2_add_0 14 rfl rfl)
theorem dX2_add_17 : decode cX2_add 17 = .ok (.aload_n 0, 1) := dk_42 (dk_at dksX2_add_0 17 rfl rfl)
theorem dX2_add_18 : decode cX2_add 18 = .ok (.dup, 1) := dk_89 (dk_at dksX2_add_0 18 rfl rfl)
theorem dX2_add_19 : decode cX2_add 19 = .ok (.getfield 37, 3) := dk_180 0 37 (dk_at dksX2_add_0 19 rfl rfl)
theorem dX2_add_22 : decode cX2_add 22 = .ok (.iconst 1, 1) := dk_4 (dk_at dksX2_add_0 22 rfl rfl)
theorem dX2_add_23 : decode cX2_add 23 = .ok (.iadd, 1) := dk_96 (dk_at dksX2_add_0 23 rfl rfl)
theorem dX2_add_24 : decode cX2_add 24 = .ok (.putfield 37, 3) := dk_181 0 37 (dk_at dksX2_add_1 0 rfl rfl)
theorem dX2_add_27 : decode cX2_add 27 = .ok (.aload_n 0, 1) := dk_42 (dk_at dksX2_add_1 3 rfl rfl)
theorem dX2_add_28 : decode cX2_add 28 = .ok (.getfield 37, 3) := dk_180 0 37 (dk_at dksX2_add_1 4 rfl rfl)
theorem dX2_add_31 : decode cX2_add 31 = .ok (.iconst 1, 1) := dk_4 (dk_at dksX2_add_1 7 rfl rfl)
theorem dX2_add_32 : decode cX2_add 32 = .ok (.isub, 1) := dk_100 (dk_at dksX2_add_1 8 rfl rfl)
theorem dX2_add_33 : decode cX2_add 33 = .ok (.ireturn, 1) := dk_172 (dk_at dksX2_add_1 9 rfl rfl)
abbrev cX2_isKite : ByteArray := prog_17_method_3_code
def yX2_isKite : MethodName := ⟨RX2, "isKite", "(I)Z"⟩
def dkwX2_isKite_0 : List UInt8 := [27, 3, 42, 180, 0, 37, 4, 100, 184, 0, 60, 172]
abbrev dktX2_isKite_0 : List UInt8 := dkwX2_isKite_0 ++ []
theorem dksX2_isKite_0 : cX2_isKite.data.toList.drop 0 = dktX2_isKite_0 := by decide +kernel
theorem dX2_isKite_0 : decode cX2_isKite 0 = .ok (.iload_n 1, 1) := dk_27 (dk_at dksX2_isKite_0 0 rfl rfl)
theorem dX2_isKite_1 : decode cX2_isKite 1 = .ok (.iconst 0, 1) := dk_3 (dk_at dksX2_isKite_0 1 rfl rfl)
theorem dX2_isKite_2 : decode cX2_isKite 2 = .ok (.aload_n 0, 1) := dk_42 (dk_at dksX2_isKite_0 2 rfl rfl)
theorem dX2_isKite_3 : decode cX2_isKite 3 = .ok (.getfield 37, 3) := dk_180 0 37 (dk_at dksX2_isKite_0 3 rfl rfl)
theorem dX2_isKite_6 : decode cX2_isKite 6 = .ok (.iconst 1, 1) := dk_4 (dk_at dksX2_isKite_0 6 rfl rfl)
theorem dX2_isKite_7 : decode cX2_isKite 7 = .ok (.isub, 1) := dk_100 (dk_at dksX2_isKite_0 7 rfl rfl)
theorem dX2_isKite_8 : decode cX2_isKite 8 = .ok (.invokestatic 60, 3) := dk_184 0 60 (dk_at dksX2_isKite_0 8 rfl rfl)
theorem dX2_isKite_11 : decode cX2_isKite 11 = .ok (.ireturn, 1) := dk_172 (dk_at dksX2_isKite_0 11 rfl rfl)
abbrev cX2_reasonToLaunch : ByteArray := prog_17_method_33_code
def yX2_reasonToLaunch : MethodName := ⟨RX2, "reasonToLaunch", "(I)I"⟩
def dkwX2_reasonToLaunch_1 : List UInt8 := [154, 0, 7, 6, 167, 0, 4, 3, 172]
abbrev dktX2_reasonToLaunch_1 : List UInt8 := dkwX2_reasonToLaunch_1 ++ []
def dkwX2_reasonToLaunch_0 : List UInt8 := [42, 180, 0, 20, 27, 50, 182, 0, 202, 154, 0, 7, 5, 167, 0, 17, 42, 180, 0, 9, 3, 46]
abbrev dktX2_reasonToLaunch_0 : List UInt8 := dkwX2_reasonToLaunch_0 ++ dktX2_reasonToLaunch_1
theorem dksX2_reasonToLaunch_0 : cX2_reasonToLaunch.data.toList.drop 0 = dktX2_reasonToLaunch_0 := by decide +kernel
theorem dksX2_reasonToLaunch_1 : cX2_reasonToLaunch.data.toList.drop 22 = dktX2_reasonToLaunch_1 := dk_seg dksX2_reasonToLaunch_0 22 rfl rfl
theorem dX2_reasonToLaunch_0 : decode cX2_reasonToLaunch 0 = .ok (.aload_n 0, 1) := dk_42 (dk_at dksX2_reasonToLaunch_0 0 rfl rfl)
theorem dX2_reasonToLaunch_1 : decode cX2_reasonToLaunch 1 = .ok (.getfield 20, 3) := dk_180 0 20 (dk_at dksX2_reasonToLaunch_0 1 rfl rfl)
theorem dX2_reasonToLaunch_4 : decode cX2_reasonToLaunch 4 = .ok (.iload_n 1, 1) := dk_27 (dk_at dksX2_reasonToLaunch_0 4 rfl rfl)
theorem dX2_reasonToLaunch_5 : decode cX2_reasonToLaunch 5 = .ok (.aaload, 1) := dk_50 (dk_at dksX2_reasonToLaunch_0 5 rfl rfl)
theorem dX2_reasonToLaunch_6 : decode cX2_reasonToLaunch 6 = .ok (.invokevirtual 202, 3) := dk_182 0 202 (dk_at dksX2_reasonToLaunch_0 6 rfl rfl)
theorem dX2_reasonToLaunch_9 : decode cX2_reasonToLaunch 9 = .ok (.ifCond .ne 7, 3) := dk_154 0 7 (dk_at dksX2_reasonToLaunch_0 9 rfl rfl)
theorem dX2_reasonToLaunch_12 : decode cX2_reasonToLaunch 12 = .ok (.iconst 2, 1) := dk_5 (dk_at dksX2_reasonToLaunch_0 12 rfl rfl)
theorem dX2_reasonToLaunch_13 : decode cX2_reasonToLaunch 13 = .ok (.goto 17, 3) := dk_167 0 17 (dk_at dksX2_reasonToLaunch_0 13 rfl rfl)
theorem dX2_reasonToLaunch_16 : decode cX2_reasonToLaunch 16 = .ok (.aload_n 0, 1) := dk_42 (dk_at dksX2_reasonToLaunch_0 16 rfl rfl)
theorem dX2_reasonToLaunch_17 : decode cX2_reasonToLaunch 17 = .ok (.getfield 9, 3) := dk_180 0 9 (dk_at dksX2_reasonToLaunch_0 17 rfl rfl)
theorem dX2_reasonToLaunch_20 : decode cX2_reasonToLaunch 20 = .ok (.iconst 0, 1) := dk_3 (dk_at dksX2_reasonToLaunch_0 20 rfl rfl)
theorem dX2_reasonToLaunch_21 : decode cX2_reasonToLaunch 21 = .ok (.iaload, 1) := dk_46 (dk_at dksX2_reasonToLaunch_0 21 rfl rfl)
theorem dX2_reasonToLaunch_22 : decode cX2_reasonToLaunch 22 = .ok (.ifCond .ne 7, 3) := dk_154 0 7 (dk_at dksX2_reasonToLaunch_1 0 rfl rfl)
theorem dX2_reasonToLaunch_25 : decode cX2_reasonToLaunch 25 = .ok (.iconst 3, 1) := dk_6 (dk_at dksX2_reasonToLaunch_1 3 rfl rfl)
theorem dX2_reasonToLaunch_26 : decode cX2_reasonToLaunch 26 = .ok (.goto 4, 3) := dk_167 0 4 (dk_at dksX2_reasonToLaunch_1 4 rfl rfl)
theorem dX2_reasonToLaunch_29 : decode cX2_reasonToLaunch 29 = .ok (.iconst 0, 1) := dk_3 (dk_at dksX2_reasonToLaunch_1 7 rfl rfl)
theorem dX2_reasonToLaunch_30 : decode cX2_reasonToLaunch 30 = .ok (.ireturn, 1) := dk_172 (dk_at dksX2_reasonToLaunch_1 8 rfl rfl)
abbrev cX2_launch : ByteArray := prog_17_method_27_code
def yX2_launch : MethodName := ⟨RX2, "launch", "(I)I"⟩
def dkwX2_launch_0 : List UInt8 := [42, 180, 0, 20, 27, 50, 187, 0, 184, 89, 183, 0, 186, 181, 0, 151, 42, 4, 182, 0, 187, 172]
abbrev dktX2_launch_0 : List UInt8 := dkwX2_launch_0 ++ []
theorem dksX2_launch_0 : cX2_launch.data.toList.drop 0 = dktX2_launch_0 := by decide +kernel
theorem dX2_launch_0 : decode cX2_launch 0 = .ok (.aload_n 0, 1) := dk_42 (dk_at dksX2_launch_0 0 rfl rfl)
theorem dX2_launch_1 : decode cX2_launch 1 = .ok (.getfield 20, 3) := dk_180 0 20 (dk_at dksX2_launch_0 1 rfl rfl)
theorem dX2_launch_4 : decode cX2_launch 4 = .ok (.iload_n 1, 1) := dk_27 (dk_at dksX2_launch_0 4 rfl rfl)
theorem dX2_launch_5 : decode cX2_launch 5 = .ok (.aaload, 1) := dk_50 (dk_at dksX2_launch_0 5 rfl rfl)
theorem dX2_launch_6 : decode cX2_launch 6 = .ok (.new 184, 3) := dk_187 0 184 (dk_at dksX2_launch_0 6 rfl rfl)
theorem dX2_launch_9 : decode cX2_launch 9 = .ok (.dup, 1) := dk_89 (dk_at dksX2_launch_0 9 rfl rfl)
theorem dX2_launch_10 : decode cX2_launch 10 = .ok (.invokespecial 186, 3) := dk_183 0 186 (dk_at dksX2_launch_0 10 rfl rfl)
theorem dX2_launch_13 : decode cX2_launch 13 = .ok (.putfield 151, 3) := dk_181 0 151 (dk_at dksX2_launch_0 13 rfl rfl)
theorem dX2_launch_16 : decode cX2_launch 16 = .ok (.aload_n 0, 1) := dk_42 (dk_at dksX2_launch_0 16 rfl rfl)
theorem dX2_launch_17 : decode cX2_launch 17 = .ok (.iconst 1, 1) := dk_4 (dk_at dksX2_launch_0 17 rfl rfl)
theorem dX2_launch_18 : decode cX2_launch 18 = .ok (.invokevirtual 187, 3) := dk_182 0 187 (dk_at dksX2_launch_0 18 rfl rfl)
theorem dX2_launch_21 : decode cX2_launch 21 = .ok (.ireturn, 1) := dk_172 (dk_at dksX2_launch_0 21 rfl rfl)
abbrev cX2_inState : ByteArray := prog_17_method_28_code
def yX2_inState : MethodName := ⟨RX2, "inState", "(I)I"⟩
def dkwX2_inState_1 : List UInt8 := [185, 0, 190, 1, 0, 27, 160, 0, 7, 4, 167, 0, 4, 3, 96, 61, 132, 3, 1, 167, 255, 219, 28, 172]
abbrev dktX2_inState_1 : List UInt8 := dkwX2_inState_1 ++ []
def dkwX2_inState_0 : List UInt8 := [3, 61, 3, 62, 29, 42, 180, 0, 37, 162, 0, 35, 28, 42, 180, 0, 20, 29, 50, 180, 0, 151]
abbrev dktX2_inState_0 : List UInt8 := dkwX2_inState_0 ++ dktX2_inState_1
theorem dksX2_inState_0 : cX2_inState.data.toList.drop 0 = dktX2_inState_0 := by decide +kernel
theorem dksX2_inState_1 : cX2_inState.data.toList.drop 22 = dktX2_inState_1 := dk_seg dksX2_inState_0 22 rfl rfl
theorem dX2_inState_0 : decode cX2_inState 0 = .ok (.iconst 0, 1) := dk_3 (dk_at dksX2_inState_0 0 rfl rfl)
theorem dX2_inState_1 : decode cX2_inState 1 = .ok (.istore_n 2, 1) := dk_61 (dk_at dksX2_inState_0 1 rfl rfl)
theorem dX2_inState_2 : decode cX2_inState 2 = .ok (.iconst 0, 1) := dk_3 (dk_at dksX2_inState_0 2 rfl rfl)
theorem dX2_inState_3 : decode cX2_inState 3 = .ok (.istore_n 3, 1) := dk_62 (dk_at dksX2_inState_0 3 rfl rfl)
theorem dX2_inState_4 : decode cX2_inState 4 = .ok (.iload_n 3, 1) := dk_29 (dk_at dksX2_inState_0 4 rfl rfl)
theorem dX2_inState_5 : decode cX2_inState 5 = .ok (.aload_n 0, 1) := dk_42 (dk_at dksX2_inState_0 5 rfl rfl)
theorem dX2_inState_6 : decode cX2_inState 6 = .ok (.getfield 37, 3) := dk_180 0 37 (dk_at dksX2_inState_0 6 rfl rfl)
theorem dX2_inState_9 : decode cX2_inState 9 = .ok (.if_icmp .ge 35, 3) := dk_162 0 35 (dk_at dksX2_inState_0 9 rfl rfl)
theorem dX2_inState_12 : decode cX2_inState 12 = .ok (.iload_n 2, 1) := dk_28 (dk_at dksX2_inState_0 12 rfl rfl)
theorem dX2_inState_13 : decode cX2_inState 13 = .ok (.aload_n 0, 1) := dk_42 (dk_at dksX2_inState_0 13 rfl rfl)
theorem dX2_inState_14 : decode cX2_inState 14 = .ok (.getfield 20, 3) := dk_180 0 20 (dk_at dksX2_inState_0 14 rfl rfl)
theorem dX2_inState_17 : decode cX2_inState 17 = .ok (.iload_n 3, 1) := dk_29 (dk_at dksX2_inState_0 17 rfl rfl)
theorem dX2_inState_18 : decode cX2_inState 18 = .ok (.aaload, 1) := dk_50 (dk_at dksX2_inState_0 18 rfl rfl)
theorem dX2_inState_19 : decode cX2_inState 19 = .ok (.getfield 151, 3) := dk_180 0 151 (dk_at dksX2_inState_0 19 rfl rfl)
theorem dX2_inState_22 : decode cX2_inState 22 = .ok (.invokeinterface 190 1, 5) := by decide +kernel
theorem dX2_inState_27 : decode cX2_inState 27 = .ok (.iload_n 1, 1) := dk_27 (dk_at dksX2_inState_1 5 rfl rfl)
theorem dX2_inState_28 : decode cX2_inState 28 = .ok (.if_icmp .ne 7, 3) := dk_160 0 7 (dk_at dksX2_inState_1 6 rfl rfl)
theorem dX2_inState_31 : decode cX2_inState 31 = .ok (.iconst 1, 1) := dk_4 (dk_at dksX2_inState_1 9 rfl rfl)
theorem dX2_inState_32 : decode cX2_inState 32 = .ok (.goto 4, 3) := dk_167 0 4 (dk_at dksX2_inState_1 10 rfl rfl)
theorem dX2_inState_35 : decode cX2_inState 35 = .ok (.iconst 0, 1) := dk_3 (dk_at dksX2_inState_1 13 rfl rfl)
theorem dX2_inState_36 : decode cX2_inState 36 = .ok (.iadd, 1) := dk_96 (dk_at dksX2_inState_1 14 rfl rfl)
theorem dX2_inState_37 : decode cX2_inState 37 = .ok (.istore_n 2, 1) := dk_61 (dk_at dksX2_inState_1 15 rfl rfl)
theorem dX2_inState_38 : decode cX2_inState 38 = .ok (.iinc 3 1, 3) := dk_132 3 1 (dk_at dksX2_inState_1 16 rfl rfl)
theorem dX2_inState_41 : decode cX2_inState 41 = .ok (.goto (-37), 3) := dk_167 255 219 (dk_at dksX2_inState_1 19 rfl rfl)
theorem dX2_inState_44 : decode cX2_inState 44 = .ok (.iload_n 2, 1) := dk_28 (dk_at dksX2_inState_1 22 rfl rfl)
theorem dX2_inState_45 : decode cX2_inState 45 = .ok (.ireturn, 1) := dk_172 (dk_at dksX2_inState_1 23 rfl rfl)
abbrev cX2_reasonToReel : ByteArray := prog_17_method_34_code
def yX2_reasonToReel : MethodName := ⟨RX2, "reasonToReel", "(II)I"⟩
def dkwX2_reasonToReel_2 : List UInt8 := [3, 172]
abbrev dktX2_reasonToReel_2 : List UInt8 := dkwX2_reasonToReel_2 ++ []
def dkwX2_reasonToReel_1 : List UInt8 := [180, 0, 140, 164, 0, 7, 8, 167, 0, 18, 45, 182, 0, 84, 28, 96, 156, 0, 8, 16, 6, 167, 0, 4]
abbrev dktX2_reasonToReel_1 : List UInt8 := dkwX2_reasonToReel_1 ++ dktX2_reasonToReel_2
def dkwX2_reasonToReel_0 : List UInt8 := [42, 180, 0, 20, 27, 50, 78, 45, 182, 0, 90, 154, 0, 5, 7, 172, 45, 182, 0, 84, 28, 96, 45]
abbrev dktX2_reasonToReel_0 : List UInt8 := dkwX2_reasonToReel_0 ++ dktX2_reasonToReel_1
theorem dksX2_reasonToReel_0 : cX2_reasonToReel.data.toList.drop 0 = dktX2_reasonToReel_0 := by decide +kernel
theorem dksX2_reasonToReel_1 : cX2_reasonToReel.data.toList.drop 23 = dktX2_reasonToReel_1 := dk_seg dksX2_reasonToReel_0 23 rfl rfl
theorem dksX2_reasonToReel_2 : cX2_reasonToReel.data.toList.drop 47 = dktX2_reasonToReel_2 := dk_seg dksX2_reasonToReel_1 24 rfl rfl
theorem dX2_reasonToReel_0 : decode cX2_reasonToReel 0 = .ok (.aload_n 0, 1) := dk_42 (dk_at dksX2_reasonToReel_0 0 rfl rfl)
theorem dX2_reasonToReel_1 : decode cX2_reasonToReel 1 = .ok (.getfield 20, 3) := dk_180 0 20 (dk_at dksX2_reasonToReel_0 1 rfl rfl)
theorem dX2_reasonToReel_4 : decode cX2_reasonToReel 4 = .ok (.iload_n 1, 1) := dk_27 (dk_at dksX2_reasonToReel_0 4 rfl rfl)
theorem dX2_reasonToReel_5 : decode cX2_reasonToReel 5 = .ok (.aaload, 1) := dk_50 (dk_at dksX2_reasonToReel_0 5 rfl rfl)
theorem dX2_reasonToReel_6 : decode cX2_reasonToReel 6 = .ok (.astore_n 3, 1) := dk_78 (dk_at dksX2_reasonToReel_0 6 rfl rfl)
theorem dX2_reasonToReel_7 : decode cX2_reasonToReel 7 = .ok (.aload_n 3, 1) := dk_45 (dk_at dksX2_reasonToReel_0 7 rfl rfl)
theorem dX2_reasonToReel_8 : decode cX2_reasonToReel 8 = .ok (.invokevirtual 90, 3) := dk_182 0 90 (dk_at dksX2_reasonToReel_0 8 rfl rfl)
theorem dX2_reasonToReel_11 : decode cX2_reasonToReel 11 = .ok (.ifCond .ne 5, 3) := dk_154 0 5 (dk_at dksX2_reasonToReel_0 11 rfl rfl)
theorem dX2_reasonToReel_14 : decode cX2_reasonToReel 14 = .ok (.iconst 4, 1) := dk_7 (dk_at dksX2_reasonToReel_0 14 rfl rfl)
theorem dX2_reasonToReel_15 : decode cX2_reasonToReel 15 = .ok (.ireturn, 1) := dk_172 (dk_at dksX2_reasonToReel_0 15 rfl rfl)
theorem dX2_reasonToReel_16 : decode cX2_reasonToReel 16 = .ok (.aload_n 3, 1) := dk_45 (dk_at dksX2_reasonToReel_0 16 rfl rfl)
theorem dX2_reasonToReel_17 : decode cX2_reasonToReel 17 = .ok (.invokevirtual 84, 3) := dk_182 0 84 (dk_at dksX2_reasonToReel_0 17 rfl rfl)
theorem dX2_reasonToReel_20 : decode cX2_reasonToReel 20 = .ok (.iload_n 2, 1) := dk_28 (dk_at dksX2_reasonToReel_0 20 rfl rfl)
theorem dX2_reasonToReel_21 : decode cX2_reasonToReel 21 = .ok (.iadd, 1) := dk_96 (dk_at dksX2_reasonToReel_0 21 rfl rfl)
theorem dX2_reasonToReel_22 : decode cX2_reasonToReel 22 = .ok (.aload_n 3, 1) := dk_45 (dk_at dksX2_reasonToReel_0 22 rfl rfl)
theorem dX2_reasonToReel_23 : decode cX2_reasonToReel 23 = .ok (.getfield 140, 3) := dk_180 0 140 (dk_at dksX2_reasonToReel_1 0 rfl rfl)
theorem dX2_reasonToReel_26 : decode cX2_reasonToReel 26 = .ok (.if_icmp .le 7, 3) := dk_164 0 7 (dk_at dksX2_reasonToReel_1 3 rfl rfl)
theorem dX2_reasonToReel_29 : decode cX2_reasonToReel 29 = .ok (.iconst 5, 1) := dk_8 (dk_at dksX2_reasonToReel_1 6 rfl rfl)
theorem dX2_reasonToReel_30 : decode cX2_reasonToReel 30 = .ok (.goto 18, 3) := dk_167 0 18 (dk_at dksX2_reasonToReel_1 7 rfl rfl)
theorem dX2_reasonToReel_33 : decode cX2_reasonToReel 33 = .ok (.aload_n 3, 1) := dk_45 (dk_at dksX2_reasonToReel_1 10 rfl rfl)
theorem dX2_reasonToReel_34 : decode cX2_reasonToReel 34 = .ok (.invokevirtual 84, 3) := dk_182 0 84 (dk_at dksX2_reasonToReel_1 11 rfl rfl)
theorem dX2_reasonToReel_37 : decode cX2_reasonToReel 37 = .ok (.iload_n 2, 1) := dk_28 (dk_at dksX2_reasonToReel_1 14 rfl rfl)
theorem dX2_reasonToReel_38 : decode cX2_reasonToReel 38 = .ok (.iadd, 1) := dk_96 (dk_at dksX2_reasonToReel_1 15 rfl rfl)
theorem dX2_reasonToReel_39 : decode cX2_reasonToReel 39 = .ok (.ifCond .ge 8, 3) := dk_156 0 8 (dk_at dksX2_reasonToReel_1 16 rfl rfl)
theorem dX2_reasonToReel_42 : decode cX2_reasonToReel 42 = .ok (.bipush 6, 2) := dk_16 6 (dk_at dksX2_reasonToReel_1 19 rfl rfl)
theorem dX2_reasonToReel_44 : decode cX2_reasonToReel 44 = .ok (.goto 4, 3) := dk_167 0 4 (dk_at dksX2_reasonToReel_1 21 rfl rfl)
theorem dX2_reasonToReel_47 : decode cX2_reasonToReel 47 = .ok (.iconst 0, 1) := dk_3 (dk_at dksX2_reasonToReel_2 0 rfl rfl)
theorem dX2_reasonToReel_48 : decode cX2_reasonToReel 48 = .ok (.ireturn, 1) := dk_172 (dk_at dksX2_reasonToReel_2 1 rfl rfl)
abbrev cX2_reel : ByteArray := prog_17_method_29_code
def yX2_reel : MethodName := ⟨RX2, "reel", "(II)I"⟩
def dkwX2_reel_0 : List UInt8 := [42, 42, 180, 0, 20, 27, 50, 28, 182, 0, 164, 182, 0, 167, 42, 180, 0, 20, 27, 50, 182, 0, 84, 172]
abbrev dktX2_reel_0 : List UInt8 := dkwX2_reel_0 ++ []
theorem dksX2_reel_0 : cX2_reel.data.toList.drop 0 = dktX2_reel_0 := by decide +kernel
theorem dX2_reel_0 : decode cX2_reel 0 = .ok (.aload_n 0, 1) := dk_42 (dk_at dksX2_reel_0 0 rfl rfl)
theorem dX2_reel_1 : decode cX2_reel 1 = .ok (.aload_n 0, 1) := dk_42 (dk_at dksX2_reel_0 1 rfl rfl)
theorem dX2_reel_2 : decode cX2_reel 2 = .ok (.getfield 20, 3) := dk_180 0 20 (dk_at dksX2_reel_0 2 rfl rfl)
theorem dX2_reel_5 : decode cX2_reel 5 = .ok (.iload_n 1, 1) := dk_27 (dk_at dksX2_reel_0 5 rfl rfl)
theorem dX2_reel_6 : decode cX2_reel 6 = .ok (.aaload, 1) := dk_50 (dk_at dksX2_reel_0 6 rfl rfl)
theorem dX2_reel_7 : decode cX2_reel 7 = .ok (.iload_n 2, 1) := dk_28 (dk_at dksX2_reel_0 7 rfl rfl)
theorem dX2_reel_8 : decode cX2_reel 8 = .ok (.invokevirtual 164, 3) := dk_182 0 164 (dk_at dksX2_reel_0 8 rfl rfl)
theorem dX2_reel_11 : decode cX2_reel 11 = .ok (.invokevirtual 167, 3) := dk_182 0 167 (dk_at dksX2_reel_0 11 rfl rfl)
theorem dX2_reel_14 : decode cX2_reel 14 = .ok (.aload_n 0, 1) := dk_42 (dk_at dksX2_reel_0 14 rfl rfl)
theorem dX2_reel_15 : decode cX2_reel 15 = .ok (.getfield 20, 3) := dk_180 0 20 (dk_at dksX2_reel_0 15 rfl rfl)
theorem dX2_reel_18 : decode cX2_reel 18 = .ok (.iload_n 1, 1) := dk_27 (dk_at dksX2_reel_0 18 rfl rfl)
theorem dX2_reel_19 : decode cX2_reel 19 = .ok (.aaload, 1) := dk_50 (dk_at dksX2_reel_0 19 rfl rfl)
theorem dX2_reel_20 : decode cX2_reel 20 = .ok (.invokevirtual 84, 3) := dk_182 0 84 (dk_at dksX2_reel_0 20 rfl rfl)
theorem dX2_reel_23 : decode cX2_reel 23 = .ok (.ireturn, 1) := dk_172 (dk_at dksX2_reel_0 23 rfl rfl)
abbrev cX2_counts : ByteArray := prog_17_method_25_code
def yX2_counts : MethodName := ⟨RX2, "counts", "(I)V"⟩
def dkwX2_counts_1 : List UInt8 := [181, 0, 51, 177]
abbrev dktX2_counts_1 : List UInt8 := dkwX2_counts_1 ++ []
def dkwX2_counts_0 : List UInt8 := [27, 158, 0, 16, 42, 89, 180, 0, 48, 27, 96, 181, 0, 48, 167, 0, 13, 42, 89, 180, 0, 51, 27, 100]
abbrev dktX2_counts_0 : List UInt8 := dkwX2_counts_0 ++ dktX2_counts_1
theorem dksX2_counts_0 : cX2_counts.data.toList.drop 0 = dktX2_counts_0 := by decide +kernel
theorem dksX2_counts_1 : cX2_counts.data.toList.drop 24 = dktX2_counts_1 := dk_seg dksX2_counts_0 24 rfl rfl
theorem dX2_counts_0 : decode cX2_counts 0 = .ok (.iload_n 1, 1) := dk_27 (dk_at dksX2_counts_0 0 rfl rfl)
theorem dX2_counts_1 : decode cX2_counts 1 = .ok (.ifCond .le 16, 3) := dk_158 0 16 (dk_at dksX2_counts_0 1 rfl rfl)
theorem dX2_counts_4 : decode cX2_counts 4 = .ok (.aload_n 0, 1) := dk_42 (dk_at dksX2_counts_0 4 rfl rfl)
theorem dX2_counts_5 : decode cX2_counts 5 = .ok (.dup, 1) := dk_89 (dk_at dksX2_counts_0 5 rfl rfl)
theorem dX2_counts_6 : decode cX2_counts 6 = .ok (.getfield 48, 3) := dk_180 0 48 (dk_at dksX2_counts_0 6 rfl rfl)
theorem dX2_counts_9 : decode cX2_counts 9 = .ok (.iload_n 1, 1) := dk_27 (dk_at dksX2_counts_0 9 rfl rfl)
theorem dX2_counts_10 : decode cX2_counts 10 = .ok (.iadd, 1) := dk_96 (dk_at dksX2_counts_0 10 rfl rfl)
theorem dX2_counts_11 : decode cX2_counts 11 = .ok (.putfield 48, 3) := dk_181 0 48 (dk_at dksX2_counts_0 11 rfl rfl)
theorem dX2_counts_14 : decode cX2_counts 14 = .ok (.goto 13, 3) := dk_167 0 13 (dk_at dksX2_counts_0 14 rfl rfl)
theorem dX2_counts_17 : decode cX2_counts 17 = .ok (.aload_n 0, 1) := dk_42 (dk_at dksX2_counts_0 17 rfl rfl)
theorem dX2_counts_18 : decode cX2_counts 18 = .ok (.dup, 1) := dk_89 (dk_at dksX2_counts_0 18 rfl rfl)
theorem dX2_counts_19 : decode cX2_counts 19 = .ok (.getfield 51, 3) := dk_180 0 51 (dk_at dksX2_counts_0 19 rfl rfl)
theorem dX2_counts_22 : decode cX2_counts 22 = .ok (.iload_n 1, 1) := dk_27 (dk_at dksX2_counts_0 22 rfl rfl)
theorem dX2_counts_23 : decode cX2_counts 23 = .ok (.isub, 1) := dk_100 (dk_at dksX2_counts_0 23 rfl rfl)
theorem dX2_counts_24 : decode cX2_counts 24 = .ok (.putfield 51, 3) := dk_181 0 51 (dk_at dksX2_counts_1 0 rfl rfl)
theorem dX2_counts_27 : decode cX2_counts 27 = .ok (.return_, 1) := dk_177 (dk_at dksX2_counts_1 3 rfl rfl)
abbrev cX2_land : ByteArray := prog_17_method_30_code
def yX2_land : MethodName := ⟨RX2, "land", "(I)I"⟩
def dkwX2_land_1 : List UInt8 := [27, 50, 187, 0, 195, 89, 183, 0, 197, 181, 0, 151, 28, 172]
abbrev dktX2_land_1 : List UInt8 := dkwX2_land_1 ++ []
def dkwX2_land_0 : List UInt8 := [42, 180, 0, 20, 27, 50, 182, 0, 84, 61, 42, 89, 180, 0, 51, 28, 96, 181, 0, 51, 42, 180, 0, 20]
abbrev dktX2_land_0 : List UInt8 := dkwX2_land_0 ++ dktX2_land_1
theorem dksX2_land_0 : cX2_land.data.toList.drop 0 = dktX2_land_0 := by decide +kernel
theorem dksX2_land_1 : cX2_land.data.toList.drop 24 = dktX2_land_1 := dk_seg dksX2_land_0 24 rfl rfl
theorem dX2_land_0 : decode cX2_land 0 = .ok (.aload_n 0, 1) := dk_42 (dk_at dksX2_land_0 0 rfl rfl)
theorem dX2_land_1 : decode cX2_land 1 = .ok (.getfield 20, 3) := dk_180 0 20 (dk_at dksX2_land_0 1 rfl rfl)
theorem dX2_land_4 : decode cX2_land 4 = .ok (.iload_n 1, 1) := dk_27 (dk_at dksX2_land_0 4 rfl rfl)
theorem dX2_land_5 : decode cX2_land 5 = .ok (.aaload, 1) := dk_50 (dk_at dksX2_land_0 5 rfl rfl)
theorem dX2_land_6 : decode cX2_land 6 = .ok (.invokevirtual 84, 3) := dk_182 0 84 (dk_at dksX2_land_0 6 rfl rfl)
theorem dX2_land_9 : decode cX2_land 9 = .ok (.istore_n 2, 1) := dk_61 (dk_at dksX2_land_0 9 rfl rfl)
theorem dX2_land_10 : decode cX2_land 10 = .ok (.aload_n 0, 1) := dk_42 (dk_at dksX2_land_0 10 rfl rfl)
theorem dX2_land_11 : decode cX2_land 11 = .ok (.dup, 1) := dk_89 (dk_at dksX2_land_0 11 rfl rfl)
theorem dX2_land_12 : decode cX2_land 12 = .ok (.getfield 51, 3) := dk_180 0 51 (dk_at dksX2_land_0 12 rfl rfl)
theorem dX2_land_15 : decode cX2_land 15 = .ok (.iload_n 2, 1) := dk_28 (dk_at dksX2_land_0 15 rfl rfl)
theorem dX2_land_16 : decode cX2_land 16 = .ok (.iadd, 1) := dk_96 (dk_at dksX2_land_0 16 rfl rfl)
theorem dX2_land_17 : decode cX2_land 17 = .ok (.putfield 51, 3) := dk_181 0 51 (dk_at dksX2_land_0 17 rfl rfl)
theorem dX2_land_20 : decode cX2_land 20 = .ok (.aload_n 0, 1) := dk_42 (dk_at dksX2_land_0 20 rfl rfl)
theorem dX2_land_21 : decode cX2_land 21 = .ok (.getfield 20, 3) := dk_180 0 20 (dk_at dksX2_land_0 21 rfl rfl)
theorem dX2_land_24 : decode cX2_land 24 = .ok (.iload_n 1, 1) := dk_27 (dk_at dksX2_land_1 0 rfl rfl)
theorem dX2_land_25 : decode cX2_land 25 = .ok (.aaload, 1) := dk_50 (dk_at dksX2_land_1 1 rfl rfl)
theorem dX2_land_26 : decode cX2_land 26 = .ok (.new 195, 3) := dk_187 0 195 (dk_at dksX2_land_1 2 rfl rfl)
theorem dX2_land_29 : decode cX2_land 29 = .ok (.dup, 1) := dk_89 (dk_at dksX2_land_1 5 rfl rfl)
theorem dX2_land_30 : decode cX2_land 30 = .ok (.invokespecial 197, 3) := dk_183 0 197 (dk_at dksX2_land_1 6 rfl rfl)
theorem dX2_land_33 : decode cX2_land 33 = .ok (.putfield 151, 3) := dk_181 0 151 (dk_at dksX2_land_1 9 rfl rfl)
theorem dX2_land_36 : decode cX2_land 36 = .ok (.iload_n 2, 1) := dk_28 (dk_at dksX2_land_1 12 rfl rfl)
theorem dX2_land_37 : decode cX2_land 37 = .ok (.ireturn, 1) := dk_172 (dk_at dksX2_land_1 13 rfl rfl)
abbrev cX2_reasonToTie : ByteArray := prog_17_method_35_code
def yX2_reasonToTie : MethodName := ⟨RX2, "reasonToTie", "(I)I"⟩
def dkwX2_reasonToTie_1 : List UInt8 := [27, 50, 180, 0, 140, 16, 10, 162, 0, 8, 16, 8, 167, 0, 4, 3, 172]
abbrev dktX2_reasonToTie_1 : List UInt8 := dkwX2_reasonToTie_1 ++ []
def dkwX2_reasonToTie_0 : List UInt8 := [42, 180, 0, 20, 27, 50, 180, 0, 151, 193, 0, 143, 154, 0, 8, 16, 7, 167, 0, 23, 42, 180, 0, 20]
abbrev dktX2_reasonToTie_0 : List UInt8 := dkwX2_reasonToTie_0 ++ dktX2_reasonToTie_1
theorem dksX2_reasonToTie_0 : cX2_reasonToTie.data.toList.drop 0 = dktX2_reasonToTie_0 := by decide +kernel
theorem dksX2_reasonToTie_1 : cX2_reasonToTie.data.toList.drop 24 = dktX2_reasonToTie_1 := dk_seg dksX2_reasonToTie_0 24 rfl rfl
theorem dX2_reasonToTie_0 : decode cX2_reasonToTie 0 = .ok (.aload_n 0, 1) := dk_42 (dk_at dksX2_reasonToTie_0 0 rfl rfl)
theorem dX2_reasonToTie_1 : decode cX2_reasonToTie 1 = .ok (.getfield 20, 3) := dk_180 0 20 (dk_at dksX2_reasonToTie_0 1 rfl rfl)
theorem dX2_reasonToTie_4 : decode cX2_reasonToTie 4 = .ok (.iload_n 1, 1) := dk_27 (dk_at dksX2_reasonToTie_0 4 rfl rfl)
theorem dX2_reasonToTie_5 : decode cX2_reasonToTie 5 = .ok (.aaload, 1) := dk_50 (dk_at dksX2_reasonToTie_0 5 rfl rfl)
theorem dX2_reasonToTie_6 : decode cX2_reasonToTie 6 = .ok (.getfield 151, 3) := dk_180 0 151 (dk_at dksX2_reasonToTie_0 6 rfl rfl)
theorem dX2_reasonToTie_9 : decode cX2_reasonToTie 9 = .ok (.instanceof 143, 3) := dk_193 0 143 (dk_at dksX2_reasonToTie_0 9 rfl rfl)
theorem dX2_reasonToTie_12 : decode cX2_reasonToTie 12 = .ok (.ifCond .ne 8, 3) := dk_154 0 8 (dk_at dksX2_reasonToTie_0 12 rfl rfl)
theorem dX2_reasonToTie_15 : decode cX2_reasonToTie 15 = .ok (.bipush 7, 2) := dk_16 7 (dk_at dksX2_reasonToTie_0 15 rfl rfl)
theorem dX2_reasonToTie_17 : decode cX2_reasonToTie 17 = .ok (.goto 23, 3) := dk_167 0 23 (dk_at dksX2_reasonToTie_0 17 rfl rfl)
theorem dX2_reasonToTie_20 : decode cX2_reasonToTie 20 = .ok (.aload_n 0, 1) := dk_42 (dk_at dksX2_reasonToTie_0 20 rfl rfl)
theorem dX2_reasonToTie_21 : decode cX2_reasonToTie 21 = .ok (.getfield 20, 3) := dk_180 0 20 (dk_at dksX2_reasonToTie_0 21 rfl rfl)
theorem dX2_reasonToTie_24 : decode cX2_reasonToTie 24 = .ok (.iload_n 1, 1) := dk_27 (dk_at dksX2_reasonToTie_1 0 rfl rfl)
theorem dX2_reasonToTie_25 : decode cX2_reasonToTie 25 = .ok (.aaload, 1) := dk_50 (dk_at dksX2_reasonToTie_1 1 rfl rfl)
theorem dX2_reasonToTie_26 : decode cX2_reasonToTie 26 = .ok (.getfield 140, 3) := dk_180 0 140 (dk_at dksX2_reasonToTie_1 2 rfl rfl)
theorem dX2_reasonToTie_29 : decode cX2_reasonToTie 29 = .ok (.bipush 10, 2) := dk_16 10 (dk_at dksX2_reasonToTie_1 5 rfl rfl)
theorem dX2_reasonToTie_31 : decode cX2_reasonToTie 31 = .ok (.if_icmp .ge 8, 3) := dk_162 0 8 (dk_at dksX2_reasonToTie_1 7 rfl rfl)
theorem dX2_reasonToTie_34 : decode cX2_reasonToTie 34 = .ok (.bipush 8, 2) := dk_16 8 (dk_at dksX2_reasonToTie_1 10 rfl rfl)
theorem dX2_reasonToTie_36 : decode cX2_reasonToTie 36 = .ok (.goto 4, 3) := dk_167 0 4 (dk_at dksX2_reasonToTie_1 12 rfl rfl)
theorem dX2_reasonToTie_39 : decode cX2_reasonToTie 39 = .ok (.iconst 0, 1) := dk_3 (dk_at dksX2_reasonToTie_1 15 rfl rfl)
theorem dX2_reasonToTie_40 : decode cX2_reasonToTie 40 = .ok (.ireturn, 1) := dk_172 (dk_at dksX2_reasonToTie_1 16 rfl rfl)
abbrev cX2_tie : ByteArray := prog_17_method_31_code
def yX2_tie : MethodName := ⟨RX2, "tie", "(I)I"⟩
def dkwX2_tie_1 : List UInt8 := [180, 0, 140, 172]
abbrev dktX2_tie_1 : List UInt8 := dkwX2_tie_1 ++ []
def dkwX2_tie_0 : List UInt8 := [42, 180, 0, 20, 27, 50, 187, 0, 195, 89, 183, 0, 197, 181, 0, 151, 42, 180, 0, 20, 27, 50]
abbrev dktX2_tie_0 : List UInt8 := dkwX2_tie_0 ++ dktX2_tie_1
theorem dksX2_tie_0 : cX2_tie.data.toList.drop 0 = dktX2_tie_0 := by decide +kernel
theorem dksX2_tie_1 : cX2_tie.data.toList.drop 22 = dktX2_tie_1 := dk_seg dksX2_tie_0 22 rfl rfl
theorem dX2_tie_0 : decode cX2_tie 0 = .ok (.aload_n 0, 1) := dk_42 (dk_at dksX2_tie_0 0 rfl rfl)
theorem dX2_tie_1 : decode cX2_tie 1 = .ok (.getfield 20, 3) := dk_180 0 20 (dk_at dksX2_tie_0 1 rfl rfl)
theorem dX2_tie_4 : decode cX2_tie 4 = .ok (.iload_n 1, 1) := dk_27 (dk_at dksX2_tie_0 4 rfl rfl)
theorem dX2_tie_5 : decode cX2_tie 5 = .ok (.aaload, 1) := dk_50 (dk_at dksX2_tie_0 5 rfl rfl)
theorem dX2_tie_6 : decode cX2_tie 6 = .ok (.new 195, 3) := dk_187 0 195 (dk_at dksX2_tie_0 6 rfl rfl)
theorem dX2_tie_9 : decode cX2_tie 9 = .ok (.dup, 1) := dk_89 (dk_at dksX2_tie_0 9 rfl rfl)
theorem dX2_tie_10 : decode cX2_tie 10 = .ok (.invokespecial 197, 3) := dk_183 0 197 (dk_at dksX2_tie_0 10 rfl rfl)
theorem dX2_tie_13 : decode cX2_tie 13 = .ok (.putfield 151, 3) := dk_181 0 151 (dk_at dksX2_tie_0 13 rfl rfl)
theorem dX2_tie_16 : decode cX2_tie 16 = .ok (.aload_n 0, 1) := dk_42 (dk_at dksX2_tie_0 16 rfl rfl)
theorem dX2_tie_17 : decode cX2_tie 17 = .ok (.getfield 20, 3) := dk_180 0 20 (dk_at dksX2_tie_0 17 rfl rfl)
theorem dX2_tie_20 : decode cX2_tie 20 = .ok (.iload_n 1, 1) := dk_27 (dk_at dksX2_tie_0 20 rfl rfl)
theorem dX2_tie_21 : decode cX2_tie 21 = .ok (.aaload, 1) := dk_50 (dk_at dksX2_tie_0 21 rfl rfl)
theorem dX2_tie_22 : decode cX2_tie 22 = .ok (.getfield 140, 3) := dk_180 0 140 (dk_at dksX2_tie_1 0 rfl rfl)
theorem dX2_tie_25 : decode cX2_tie 25 = .ok (.ireturn, 1) := dk_172 (dk_at dksX2_tie_1 3 rfl rfl)
abbrev cX2_height : ByteArray := prog_17_method_6_code
def yX2_height : MethodName := ⟨RX2, "height", "(LKiteRoofs$Kite;)I"⟩
def dkwX2_height_1 : List UInt8 := [42, 43, 29, 182, 0, 80, 100, 61, 132, 3, 1, 167, 255, 228, 29, 172]
abbrev dktX2_height_1 : List UInt8 := dkwX2_height_1 ++ []
def dkwX2_height_0 : List UInt8 := [43, 182, 0, 84, 61, 3, 62, 29, 16, 10, 162, 0, 28, 28, 42, 43, 29, 182, 0, 80, 161, 0, 18, 28]
abbrev dktX2_height_0 : List UInt8 := dkwX2_height_0 ++ dktX2_height_1
theorem dksX2_height_0 : cX2_height.data.toList.drop 0 = dktX2_height_0 := by decide +kernel
theorem dksX2_height_1 : cX2_height.data.toList.drop 24 = dktX2_height_1 := dk_seg dksX2_height_0 24 rfl rfl
theorem dX2_height_0 : decode cX2_height 0 = .ok (.aload_n 1, 1) := dk_43 (dk_at dksX2_height_0 0 rfl rfl)
theorem dX2_height_1 : decode cX2_height 1 = .ok (.invokevirtual 84, 3) := dk_182 0 84 (dk_at dksX2_height_0 1 rfl rfl)
theorem dX2_height_4 : decode cX2_height 4 = .ok (.istore_n 2, 1) := dk_61 (dk_at dksX2_height_0 4 rfl rfl)
theorem dX2_height_5 : decode cX2_height 5 = .ok (.iconst 0, 1) := dk_3 (dk_at dksX2_height_0 5 rfl rfl)
theorem dX2_height_6 : decode cX2_height 6 = .ok (.istore_n 3, 1) := dk_62 (dk_at dksX2_height_0 6 rfl rfl)
theorem dX2_height_7 : decode cX2_height 7 = .ok (.iload_n 3, 1) := dk_29 (dk_at dksX2_height_0 7 rfl rfl)
theorem dX2_height_8 : decode cX2_height 8 = .ok (.bipush 10, 2) := dk_16 10 (dk_at dksX2_height_0 8 rfl rfl)
theorem dX2_height_10 : decode cX2_height 10 = .ok (.if_icmp .ge 28, 3) := dk_162 0 28 (dk_at dksX2_height_0 10 rfl rfl)
theorem dX2_height_13 : decode cX2_height 13 = .ok (.iload_n 2, 1) := dk_28 (dk_at dksX2_height_0 13 rfl rfl)
theorem dX2_height_14 : decode cX2_height 14 = .ok (.aload_n 0, 1) := dk_42 (dk_at dksX2_height_0 14 rfl rfl)
theorem dX2_height_15 : decode cX2_height 15 = .ok (.aload_n 1, 1) := dk_43 (dk_at dksX2_height_0 15 rfl rfl)
theorem dX2_height_16 : decode cX2_height 16 = .ok (.iload_n 3, 1) := dk_29 (dk_at dksX2_height_0 16 rfl rfl)
theorem dX2_height_17 : decode cX2_height 17 = .ok (.invokevirtual 80, 3) := dk_182 0 80 (dk_at dksX2_height_0 17 rfl rfl)
theorem dX2_height_20 : decode cX2_height 20 = .ok (.if_icmp .lt 18, 3) := dk_161 0 18 (dk_at dksX2_height_0 20 rfl rfl)
theorem dX2_height_23 : decode cX2_height 23 = .ok (.iload_n 2, 1) := dk_28 (dk_at dksX2_height_0 23 rfl rfl)
theorem dX2_height_24 : decode cX2_height 24 = .ok (.aload_n 0, 1) := dk_42 (dk_at dksX2_height_1 0 rfl rfl)
theorem dX2_height_25 : decode cX2_height 25 = .ok (.aload_n 1, 1) := dk_43 (dk_at dksX2_height_1 1 rfl rfl)
theorem dX2_height_26 : decode cX2_height 26 = .ok (.iload_n 3, 1) := dk_29 (dk_at dksX2_height_1 2 rfl rfl)
theorem dX2_height_27 : decode cX2_height 27 = .ok (.invokevirtual 80, 3) := dk_182 0 80 (dk_at dksX2_height_1 3 rfl rfl)
theorem dX2_height_30 : decode cX2_height 30 = .ok (.isub, 1) := dk_100 (dk_at dksX2_height_1 6 rfl rfl)
theorem dX2_height_31 : decode cX2_height 31 = .ok (.istore_n 2, 1) := dk_61 (dk_at dksX2_height_1 7 rfl rfl)
theorem dX2_height_32 : decode cX2_height 32 = .ok (.iinc 3 1, 3) := dk_132 3 1 (dk_at dksX2_height_1 8 rfl rfl)
theorem dX2_height_35 : decode cX2_height 35 = .ok (.goto (-28), 3) := dk_167 255 228 (dk_at dksX2_height_1 11 rfl rfl)
theorem dX2_height_38 : decode cX2_height 38 = .ok (.iload_n 3, 1) := dk_29 (dk_at dksX2_height_1 14 rfl rfl)
theorem dX2_height_39 : decode cX2_height 39 = .ok (.ireturn, 1) := dk_172 (dk_at dksX2_height_1 15 rfl rfl)
abbrev cX2_thickness : ByteArray := prog_17_method_4_code
def yX2_thickness : MethodName := ⟨RX2, "thickness", "(LKiteRoofs$Kite;I)I"⟩
def dkwX2_thickness_1 : List UInt8 := [180, 0, 9, 28, 46, 154, 0, 7, 8, 167, 0, 4, 3, 96, 172]
abbrev dktX2_thickness_1 : List UInt8 := dkwX2_thickness_1 ++ []
def dkwX2_thickness_0 : List UInt8 := [42, 180, 0, 15, 28, 46, 184, 0, 64, 43, 180, 0, 70, 182, 0, 74, 104, 62, 16, 10, 29, 96, 42]
abbrev dktX2_thickness_0 : List UInt8 := dkwX2_thickness_0 ++ dktX2_thickness_1
theorem dksX2_thickness_0 : cX2_thickness.data.toList.drop 0 = dktX2_thickness_0 := by decide +kernel
theorem dksX2_thickness_1 : cX2_thickness.data.toList.drop 23 = dktX2_thickness_1 := dk_seg dksX2_thickness_0 23 rfl rfl
theorem dX2_thickness_0 : decode cX2_thickness 0 = .ok (.aload_n 0, 1) := dk_42 (dk_at dksX2_thickness_0 0 rfl rfl)
theorem dX2_thickness_1 : decode cX2_thickness 1 = .ok (.getfield 15, 3) := dk_180 0 15 (dk_at dksX2_thickness_0 1 rfl rfl)
theorem dX2_thickness_4 : decode cX2_thickness 4 = .ok (.iload_n 2, 1) := dk_28 (dk_at dksX2_thickness_0 4 rfl rfl)
theorem dX2_thickness_5 : decode cX2_thickness 5 = .ok (.iaload, 1) := dk_46 (dk_at dksX2_thickness_0 5 rfl rfl)
theorem dX2_thickness_6 : decode cX2_thickness 6 = .ok (.invokestatic 64, 3) := dk_184 0 64 (dk_at dksX2_thickness_0 6 rfl rfl)
theorem dX2_thickness_9 : decode cX2_thickness 9 = .ok (.aload_n 1, 1) := dk_43 (dk_at dksX2_thickness_0 9 rfl rfl)
theorem dX2_thickness_10 : decode cX2_thickness 10 = .ok (.getfield 70, 3) := dk_180 0 70 (dk_at dksX2_thickness_0 10 rfl rfl)
theorem dX2_thickness_13 : decode cX2_thickness 13 = .ok (.invokevirtual 74, 3) := dk_182 0 74 (dk_at dksX2_thickness_0 13 rfl rfl)
theorem dX2_thickness_16 : decode cX2_thickness 16 = .ok (.imul, 1) := dk_104 (dk_at dksX2_thickness_0 16 rfl rfl)
theorem dX2_thickness_17 : decode cX2_thickness 17 = .ok (.istore_n 3, 1) := dk_62 (dk_at dksX2_thickness_0 17 rfl rfl)
theorem dX2_thickness_18 : decode cX2_thickness 18 = .ok (.bipush 10, 2) := dk_16 10 (dk_at dksX2_thickness_0 18 rfl rfl)
theorem dX2_thickness_20 : decode cX2_thickness 20 = .ok (.iload_n 3, 1) := dk_29 (dk_at dksX2_thickness_0 20 rfl rfl)
theorem dX2_thickness_21 : decode cX2_thickness 21 = .ok (.iadd, 1) := dk_96 (dk_at dksX2_thickness_0 21 rfl rfl)
theorem dX2_thickness_22 : decode cX2_thickness 22 = .ok (.aload_n 0, 1) := dk_42 (dk_at dksX2_thickness_0 22 rfl rfl)
theorem dX2_thickness_23 : decode cX2_thickness 23 = .ok (.getfield 9, 3) := dk_180 0 9 (dk_at dksX2_thickness_1 0 rfl rfl)
theorem dX2_thickness_26 : decode cX2_thickness 26 = .ok (.iload_n 2, 1) := dk_28 (dk_at dksX2_thickness_1 3 rfl rfl)
theorem dX2_thickness_27 : decode cX2_thickness 27 = .ok (.iaload, 1) := dk_46 (dk_at dksX2_thickness_1 4 rfl rfl)
theorem dX2_thickness_28 : decode cX2_thickness 28 = .ok (.ifCond .ne 7, 3) := dk_154 0 7 (dk_at dksX2_thickness_1 5 rfl rfl)
theorem dX2_thickness_31 : decode cX2_thickness 31 = .ok (.iconst 5, 1) := dk_8 (dk_at dksX2_thickness_1 8 rfl rfl)
theorem dX2_thickness_32 : decode cX2_thickness 32 = .ok (.goto 4, 3) := dk_167 0 4 (dk_at dksX2_thickness_1 9 rfl rfl)
theorem dX2_thickness_35 : decode cX2_thickness 35 = .ok (.iconst 0, 1) := dk_3 (dk_at dksX2_thickness_1 12 rfl rfl)
theorem dX2_thickness_36 : decode cX2_thickness 36 = .ok (.iadd, 1) := dk_96 (dk_at dksX2_thickness_1 13 rfl rfl)
theorem dX2_thickness_37 : decode cX2_thickness 37 = .ok (.ireturn, 1) := dk_172 (dk_at dksX2_thickness_1 14 rfl rfl)
abbrev cX2_tension : ByteArray := prog_17_method_11_code
def yX2_tension : MethodName := ⟨RX2, "tension", "(LKiteRoofs$Kite;)I"⟩
def dkwX2_tension_1 : List UInt8 := [132, 3, 1, 167, 255, 235, 28, 43, 180, 0, 70, 182, 0, 104, 104, 172]
abbrev dktX2_tension_1 : List UInt8 := dkwX2_tension_1 ++ []
def dkwX2_tension_0 : List UInt8 := [3, 61, 3, 62, 29, 42, 43, 182, 0, 94, 162, 0, 18, 28, 42, 180, 0, 9, 29, 46, 96, 61]
abbrev dktX2_tension_0 : List UInt8 := dkwX2_tension_0 ++ dktX2_tension_1
theorem dksX2_tension_0 : cX2_tension.data.toList.drop 0 = dktX2_tension_0 := by decide +kernel
theorem dksX2_tension_1 : cX2_tension.data.toList.drop 22 = dktX2_tension_1 := dk_seg dksX2_tension_0 22 rfl rfl
theorem dX2_tension_0 : decode cX2_tension 0 = .ok (.iconst 0, 1) := dk_3 (dk_at dksX2_tension_0 0 rfl rfl)
theorem dX2_tension_1 : decode cX2_tension 1 = .ok (.istore_n 2, 1) := dk_61 (dk_at dksX2_tension_0 1 rfl rfl)
theorem dX2_tension_2 : decode cX2_tension 2 = .ok (.iconst 0, 1) := dk_3 (dk_at dksX2_tension_0 2 rfl rfl)
theorem dX2_tension_3 : decode cX2_tension 3 = .ok (.istore_n 3, 1) := dk_62 (dk_at dksX2_tension_0 3 rfl rfl)
theorem dX2_tension_4 : decode cX2_tension 4 = .ok (.iload_n 3, 1) := dk_29 (dk_at dksX2_tension_0 4 rfl rfl)
theorem dX2_tension_5 : decode cX2_tension 5 = .ok (.aload_n 0, 1) := dk_42 (dk_at dksX2_tension_0 5 rfl rfl)
theorem dX2_tension_6 : decode cX2_tension 6 = .ok (.aload_n 1, 1) := dk_43 (dk_at dksX2_tension_0 6 rfl rfl)
theorem dX2_tension_7 : decode cX2_tension 7 = .ok (.invokevirtual 94, 3) := dk_182 0 94 (dk_at dksX2_tension_0 7 rfl rfl)
theorem dX2_tension_10 : decode cX2_tension 10 = .ok (.if_icmp .ge 18, 3) := dk_162 0 18 (dk_at dksX2_tension_0 10 rfl rfl)
theorem dX2_tension_13 : decode cX2_tension 13 = .ok (.iload_n 2, 1) := dk_28 (dk_at dksX2_tension_0 13 rfl rfl)
theorem dX2_tension_14 : decode cX2_tension 14 = .ok (.aload_n 0, 1) := dk_42 (dk_at dksX2_tension_0 14 rfl rfl)
theorem dX2_tension_15 : decode cX2_tension 15 = .ok (.getfield 9, 3) := dk_180 0 9 (dk_at dksX2_tension_0 15 rfl rfl)
theorem dX2_tension_18 : decode cX2_tension 18 = .ok (.iload_n 3, 1) := dk_29 (dk_at dksX2_tension_0 18 rfl rfl)
theorem dX2_tension_19 : decode cX2_tension 19 = .ok (.iaload, 1) := dk_46 (dk_at dksX2_tension_0 19 rfl rfl)
theorem dX2_tension_20 : decode cX2_tension 20 = .ok (.iadd, 1) := dk_96 (dk_at dksX2_tension_0 20 rfl rfl)
theorem dX2_tension_21 : decode cX2_tension 21 = .ok (.istore_n 2, 1) := dk_61 (dk_at dksX2_tension_0 21 rfl rfl)
theorem dX2_tension_22 : decode cX2_tension 22 = .ok (.iinc 3 1, 3) := dk_132 3 1 (dk_at dksX2_tension_1 0 rfl rfl)
theorem dX2_tension_25 : decode cX2_tension 25 = .ok (.goto (-21), 3) := dk_167 255 235 (dk_at dksX2_tension_1 3 rfl rfl)
theorem dX2_tension_28 : decode cX2_tension 28 = .ok (.iload_n 2, 1) := dk_28 (dk_at dksX2_tension_1 6 rfl rfl)
theorem dX2_tension_29 : decode cX2_tension 29 = .ok (.aload_n 1, 1) := dk_43 (dk_at dksX2_tension_1 7 rfl rfl)
theorem dX2_tension_30 : decode cX2_tension 30 = .ok (.getfield 70, 3) := dk_180 0 70 (dk_at dksX2_tension_1 8 rfl rfl)
theorem dX2_tension_33 : decode cX2_tension 33 = .ok (.invokevirtual 104, 3) := dk_182 0 104 (dk_at dksX2_tension_1 11 rfl rfl)
theorem dX2_tension_36 : decode cX2_tension 36 = .ok (.imul, 1) := dk_104 (dk_at dksX2_tension_1 14 rfl rfl)
theorem dX2_tension_37 : decode cX2_tension 37 = .ok (.ireturn, 1) := dk_172 (dk_at dksX2_tension_1 15 rfl rfl)
abbrev cX2_placeNow : ByteArray := prog_17_method_10_code
def yX2_placeNow : MethodName := ⟨RX2, "placeNow", "(LKiteRoofs$Kite;)I"⟩
def dkwX2_placeNow_0 : List UInt8 := [42, 43, 42, 43, 182, 0, 94, 182, 0, 101, 172]
abbrev dktX2_placeNow_0 : List UInt8 := dkwX2_placeNow_0 ++ []
theorem dksX2_placeNow_0 : cX2_placeNow.data.toList.drop 0 = dktX2_placeNow_0 := by decide +kernel
theorem dX2_placeNow_0 : decode cX2_placeNow 0 = .ok (.aload_n 0, 1) := dk_42 (dk_at dksX2_placeNow_0 0 rfl rfl)
theorem dX2_placeNow_1 : decode cX2_placeNow 1 = .ok (.aload_n 1, 1) := dk_43 (dk_at dksX2_placeNow_0 1 rfl rfl)
theorem dX2_placeNow_2 : decode cX2_placeNow 2 = .ok (.aload_n 0, 1) := dk_42 (dk_at dksX2_placeNow_0 2 rfl rfl)
theorem dX2_placeNow_3 : decode cX2_placeNow 3 = .ok (.aload_n 1, 1) := dk_43 (dk_at dksX2_placeNow_0 3 rfl rfl)
theorem dX2_placeNow_4 : decode cX2_placeNow 4 = .ok (.invokevirtual 94, 3) := dk_182 0 94 (dk_at dksX2_placeNow_0 4 rfl rfl)
theorem dX2_placeNow_7 : decode cX2_placeNow 7 = .ok (.invokevirtual 101, 3) := dk_182 0 101 (dk_at dksX2_placeNow_0 7 rfl rfl)
theorem dX2_placeNow_10 : decode cX2_placeNow 10 = .ok (.ireturn, 1) := dk_172 (dk_at dksX2_placeNow_0 10 rfl rfl)
abbrev cX2_place : ByteArray := prog_17_method_9_code
def yX2_place : MethodName := ⟨RX2, "place", "(LKiteRoofs$Kite;I)I"⟩
def dkwX2_place_1 : List UInt8 := [180, 0, 70, 182, 0, 74, 104, 96, 62, 132, 4, 1, 167, 255, 229, 29, 172]
abbrev dktX2_place_1 : List UInt8 := dkwX2_place_1 ++ []
def dkwX2_place_0 : List UInt8 := [43, 180, 0, 98, 62, 3, 54, 4, 21, 4, 28, 162, 0, 27, 29, 42, 180, 0, 15, 21, 4, 46, 43]
abbrev dktX2_place_0 : List UInt8 := dkwX2_place_0 ++ dktX2_place_1
theorem dksX2_place_0 : cX2_place.data.toList.drop 0 = dktX2_place_0 := by decide +kernel
theorem dksX2_place_1 : cX2_place.data.toList.drop 23 = dktX2_place_1 := dk_seg dksX2_place_0 23 rfl rfl
theorem dX2_place_0 : decode cX2_place 0 = .ok (.aload_n 1, 1) := dk_43 (dk_at dksX2_place_0 0 rfl rfl)
theorem dX2_place_1 : decode cX2_place 1 = .ok (.getfield 98, 3) := dk_180 0 98 (dk_at dksX2_place_0 1 rfl rfl)
theorem dX2_place_4 : decode cX2_place 4 = .ok (.istore_n 3, 1) := dk_62 (dk_at dksX2_place_0 4 rfl rfl)
theorem dX2_place_5 : decode cX2_place 5 = .ok (.iconst 0, 1) := dk_3 (dk_at dksX2_place_0 5 rfl rfl)
theorem dX2_place_6 : decode cX2_place 6 = .ok (.istore 4, 2) := dk_54 4 (dk_at dksX2_place_0 6 rfl rfl)
theorem dX2_place_8 : decode cX2_place 8 = .ok (.iload 4, 2) := dk_21 4 (dk_at dksX2_place_0 8 rfl rfl)
theorem dX2_place_10 : decode cX2_place 10 = .ok (.iload_n 2, 1) := dk_28 (dk_at dksX2_place_0 10 rfl rfl)
theorem dX2_place_11 : decode cX2_place 11 = .ok (.if_icmp .ge 27, 3) := dk_162 0 27 (dk_at dksX2_place_0 11 rfl rfl)
theorem dX2_place_14 : decode cX2_place 14 = .ok (.iload_n 3, 1) := dk_29 (dk_at dksX2_place_0 14 rfl rfl)
theorem dX2_place_15 : decode cX2_place 15 = .ok (.aload_n 0, 1) := dk_42 (dk_at dksX2_place_0 15 rfl rfl)
theorem dX2_place_16 : decode cX2_place 16 = .ok (.getfield 15, 3) := dk_180 0 15 (dk_at dksX2_place_0 16 rfl rfl)
theorem dX2_place_19 : decode cX2_place 19 = .ok (.iload 4, 2) := dk_21 4 (dk_at dksX2_place_0 19 rfl rfl)
theorem dX2_place_21 : decode cX2_place 21 = .ok (.iaload, 1) := dk_46 (dk_at dksX2_place_0 21 rfl rfl)
theorem dX2_place_22 : decode cX2_place 22 = .ok (.aload_n 1, 1) := dk_43 (dk_at dksX2_place_0 22 rfl rfl)
theorem dX2_place_23 : decode cX2_place 23 = .ok (.getfield 70, 3) := dk_180 0 70 (dk_at dksX2_place_1 0 rfl rfl)
theorem dX2_place_26 : decode cX2_place 26 = .ok (.invokevirtual 74, 3) := dk_182 0 74 (dk_at dksX2_place_1 3 rfl rfl)
theorem dX2_place_29 : decode cX2_place 29 = .ok (.imul, 1) := dk_104 (dk_at dksX2_place_1 6 rfl rfl)
theorem dX2_place_30 : decode cX2_place 30 = .ok (.iadd, 1) := dk_96 (dk_at dksX2_place_1 7 rfl rfl)
theorem dX2_place_31 : decode cX2_place 31 = .ok (.istore_n 3, 1) := dk_62 (dk_at dksX2_place_1 8 rfl rfl)
theorem dX2_place_32 : decode cX2_place 32 = .ok (.iinc 4 1, 3) := dk_132 4 1 (dk_at dksX2_place_1 9 rfl rfl)
theorem dX2_place_35 : decode cX2_place 35 = .ok (.goto (-27), 3) := dk_167 255 229 (dk_at dksX2_place_1 12 rfl rfl)
theorem dX2_place_38 : decode cX2_place 38 = .ok (.iload_n 3, 1) := dk_29 (dk_at dksX2_place_1 15 rfl rfl)
theorem dX2_place_39 : decode cX2_place 39 = .ok (.ireturn, 1) := dk_172 (dk_at dksX2_place_1 16 rfl rfl)
abbrev cX2_slack : ByteArray := prog_17_method_8_code
def yX2_slack : MethodName := ⟨RX2, "slack", "(LKiteRoofs$Kite;)I"⟩
def dkwX2_slack_1 : List UInt8 := [167, 0, 4, 3, 172]
abbrev dktX2_slack_1 : List UInt8 := dkwX2_slack_1 ++ []
def dkwX2_slack_0 : List UInt8 := [43, 182, 0, 90, 153, 0, 21, 43, 182, 0, 84, 42, 43, 42, 43, 182, 0, 94, 182, 0, 87, 100]
abbrev dktX2_slack_0 : List UInt8 := dkwX2_slack_0 ++ dktX2_slack_1
theorem dksX2_slack_0 : cX2_slack.data.toList.drop 0 = dktX2_slack_0 := by decide +kernel
theorem dksX2_slack_1 : cX2_slack.data.toList.drop 22 = dktX2_slack_1 := dk_seg dksX2_slack_0 22 rfl rfl
theorem dX2_slack_0 : decode cX2_slack 0 = .ok (.aload_n 1, 1) := dk_43 (dk_at dksX2_slack_0 0 rfl rfl)
theorem dX2_slack_1 : decode cX2_slack 1 = .ok (.invokevirtual 90, 3) := dk_182 0 90 (dk_at dksX2_slack_0 1 rfl rfl)
theorem dX2_slack_4 : decode cX2_slack 4 = .ok (.ifCond .eq 21, 3) := dk_153 0 21 (dk_at dksX2_slack_0 4 rfl rfl)
theorem dX2_slack_7 : decode cX2_slack 7 = .ok (.aload_n 1, 1) := dk_43 (dk_at dksX2_slack_0 7 rfl rfl)
theorem dX2_slack_8 : decode cX2_slack 8 = .ok (.invokevirtual 84, 3) := dk_182 0 84 (dk_at dksX2_slack_0 8 rfl rfl)
theorem dX2_slack_11 : decode cX2_slack 11 = .ok (.aload_n 0, 1) := dk_42 (dk_at dksX2_slack_0 11 rfl rfl)
theorem dX2_slack_12 : decode cX2_slack 12 = .ok (.aload_n 1, 1) := dk_43 (dk_at dksX2_slack_0 12 rfl rfl)
theorem dX2_slack_13 : decode cX2_slack 13 = .ok (.aload_n 0, 1) := dk_42 (dk_at dksX2_slack_0 13 rfl rfl)
theorem dX2_slack_14 : decode cX2_slack 14 = .ok (.aload_n 1, 1) := dk_43 (dk_at dksX2_slack_0 14 rfl rfl)
theorem dX2_slack_15 : decode cX2_slack 15 = .ok (.invokevirtual 94, 3) := dk_182 0 94 (dk_at dksX2_slack_0 15 rfl rfl)
theorem dX2_slack_18 : decode cX2_slack 18 = .ok (.invokevirtual 87, 3) := dk_182 0 87 (dk_at dksX2_slack_0 18 rfl rfl)
theorem dX2_slack_21 : decode cX2_slack 21 = .ok (.isub, 1) := dk_100 (dk_at dksX2_slack_0 21 rfl rfl)
theorem dX2_slack_22 : decode cX2_slack 22 = .ok (.goto 4, 3) := dk_167 0 4 (dk_at dksX2_slack_1 0 rfl rfl)
theorem dX2_slack_25 : decode cX2_slack 25 = .ok (.iconst 0, 1) := dk_3 (dk_at dksX2_slack_1 3 rfl rfl)
theorem dX2_slack_26 : decode cX2_slack 26 = .ok (.ireturn, 1) := dk_172 (dk_at dksX2_slack_1 4 rfl rfl)
abbrev cX2_lineUpTo : ByteArray := prog_17_method_5_code
def yX2_lineUpTo : MethodName := ⟨RX2, "lineUpTo", "(LKiteRoofs$Kite;I)I"⟩
def dkwX2_lineUpTo_1 : List UInt8 := [167, 255, 237, 29, 172]
abbrev dktX2_lineUpTo_1 : List UInt8 := dkwX2_lineUpTo_1 ++ []
def dkwX2_lineUpTo_0 : List UInt8 := [3, 62, 3, 54, 4, 21, 4, 28, 162, 0, 19, 29, 42, 43, 21, 4, 182, 0, 80, 96, 62, 132, 4, 1]
abbrev dktX2_lineUpTo_0 : List UInt8 := dkwX2_lineUpTo_0 ++ dktX2_lineUpTo_1
theorem dksX2_lineUpTo_0 : cX2_lineUpTo.data.toList.drop 0 = dktX2_lineUpTo_0 := by decide +kernel
theorem dksX2_lineUpTo_1 : cX2_lineUpTo.data.toList.drop 24 = dktX2_lineUpTo_1 := dk_seg dksX2_lineUpTo_0 24 rfl rfl
theorem dX2_lineUpTo_0 : decode cX2_lineUpTo 0 = .ok (.iconst 0, 1) := dk_3 (dk_at dksX2_lineUpTo_0 0 rfl rfl)
theorem dX2_lineUpTo_1 : decode cX2_lineUpTo 1 = .ok (.istore_n 3, 1) := dk_62 (dk_at dksX2_lineUpTo_0 1 rfl rfl)
theorem dX2_lineUpTo_2 : decode cX2_lineUpTo 2 = .ok (.iconst 0, 1) := dk_3 (dk_at dksX2_lineUpTo_0 2 rfl rfl)
theorem dX2_lineUpTo_3 : decode cX2_lineUpTo 3 = .ok (.istore 4, 2) := dk_54 4 (dk_at dksX2_lineUpTo_0 3 rfl rfl)
theorem dX2_lineUpTo_5 : decode cX2_lineUpTo 5 = .ok (.iload 4, 2) := dk_21 4 (dk_at dksX2_lineUpTo_0 5 rfl rfl)
theorem dX2_lineUpTo_7 : decode cX2_lineUpTo 7 = .ok (.iload_n 2, 1) := dk_28 (dk_at dksX2_lineUpTo_0 7 rfl rfl)
theorem dX2_lineUpTo_8 : decode cX2_lineUpTo 8 = .ok (.if_icmp .ge 19, 3) := dk_162 0 19 (dk_at dksX2_lineUpTo_0 8 rfl rfl)
theorem dX2_lineUpTo_11 : decode cX2_lineUpTo 11 = .ok (.iload_n 3, 1) := dk_29 (dk_at dksX2_lineUpTo_0 11 rfl rfl)
theorem dX2_lineUpTo_12 : decode cX2_lineUpTo 12 = .ok (.aload_n 0, 1) := dk_42 (dk_at dksX2_lineUpTo_0 12 rfl rfl)
theorem dX2_lineUpTo_13 : decode cX2_lineUpTo 13 = .ok (.aload_n 1, 1) := dk_43 (dk_at dksX2_lineUpTo_0 13 rfl rfl)
theorem dX2_lineUpTo_14 : decode cX2_lineUpTo 14 = .ok (.iload 4, 2) := dk_21 4 (dk_at dksX2_lineUpTo_0 14 rfl rfl)
theorem dX2_lineUpTo_16 : decode cX2_lineUpTo 16 = .ok (.invokevirtual 80, 3) := dk_182 0 80 (dk_at dksX2_lineUpTo_0 16 rfl rfl)
theorem dX2_lineUpTo_19 : decode cX2_lineUpTo 19 = .ok (.iadd, 1) := dk_96 (dk_at dksX2_lineUpTo_0 19 rfl rfl)
theorem dX2_lineUpTo_20 : decode cX2_lineUpTo 20 = .ok (.istore_n 3, 1) := dk_62 (dk_at dksX2_lineUpTo_0 20 rfl rfl)
theorem dX2_lineUpTo_21 : decode cX2_lineUpTo 21 = .ok (.iinc 4 1, 3) := dk_132 4 1 (dk_at dksX2_lineUpTo_0 21 rfl rfl)
theorem dX2_lineUpTo_24 : decode cX2_lineUpTo 24 = .ok (.goto (-19), 3) := dk_167 255 237 (dk_at dksX2_lineUpTo_1 0 rfl rfl)
theorem dX2_lineUpTo_27 : decode cX2_lineUpTo 27 = .ok (.iload_n 3, 1) := dk_29 (dk_at dksX2_lineUpTo_1 3 rfl rfl)
theorem dX2_lineUpTo_28 : decode cX2_lineUpTo 28 = .ok (.ireturn, 1) := dk_172 (dk_at dksX2_lineUpTo_1 4 rfl rfl)
abbrev cX2_heightAgain : ByteArray := prog_17_method_7_code
def yX2_heightAgain : MethodName := ⟨RX2, "heightAgain", "(LKiteRoofs$Kite;)I"⟩
def dkwX2_heightAgain_0 : List UInt8 := [16, 10, 61, 42, 43, 28, 182, 0, 87, 43, 182, 0, 84, 164, 0, 9, 132, 2, 255, 167, 255, 240, 28, 172]
abbrev dktX2_heightAgain_0 : List UInt8 := dkwX2_heightAgain_0 ++ []
theorem dksX2_heightAgain_0 : cX2_heightAgain.data.toList.drop 0 = dktX2_heightAgain_0 := by decide +kernel
theorem dX2_heightAgain_0 : decode cX2_heightAgain 0 = .ok (.bipush 10, 2) := dk_16 10 (dk_at dksX2_heightAgain_0 0 rfl rfl)
theorem dX2_heightAgain_2 : decode cX2_heightAgain 2 = .ok (.istore_n 2, 1) := dk_61 (dk_at dksX2_heightAgain_0 2 rfl rfl)
theorem dX2_heightAgain_3 : decode cX2_heightAgain 3 = .ok (.aload_n 0, 1) := dk_42 (dk_at dksX2_heightAgain_0 3 rfl rfl)
theorem dX2_heightAgain_4 : decode cX2_heightAgain 4 = .ok (.aload_n 1, 1) := dk_43 (dk_at dksX2_heightAgain_0 4 rfl rfl)
theorem dX2_heightAgain_5 : decode cX2_heightAgain 5 = .ok (.iload_n 2, 1) := dk_28 (dk_at dksX2_heightAgain_0 5 rfl rfl)
theorem dX2_heightAgain_6 : decode cX2_heightAgain 6 = .ok (.invokevirtual 87, 3) := dk_182 0 87 (dk_at dksX2_heightAgain_0 6 rfl rfl)
theorem dX2_heightAgain_9 : decode cX2_heightAgain 9 = .ok (.aload_n 1, 1) := dk_43 (dk_at dksX2_heightAgain_0 9 rfl rfl)
theorem dX2_heightAgain_10 : decode cX2_heightAgain 10 = .ok (.invokevirtual 84, 3) := dk_182 0 84 (dk_at dksX2_heightAgain_0 10 rfl rfl)
theorem dX2_heightAgain_13 : decode cX2_heightAgain 13 = .ok (.if_icmp .le 9, 3) := dk_164 0 9 (dk_at dksX2_heightAgain_0 13 rfl rfl)
theorem dX2_heightAgain_16 : decode cX2_heightAgain 16 = .ok (.iinc 2 (-1), 3) := dk_132 2 255 (dk_at dksX2_heightAgain_0 16 rfl rfl)
theorem dX2_heightAgain_19 : decode cX2_heightAgain 19 = .ok (.goto (-16), 3) := dk_167 255 240 (dk_at dksX2_heightAgain_0 19 rfl rfl)
theorem dX2_heightAgain_22 : decode cX2_heightAgain 22 = .ok (.iload_n 2, 1) := dk_28 (dk_at dksX2_heightAgain_0 22 rfl rfl)
theorem dX2_heightAgain_23 : decode cX2_heightAgain 23 = .ok (.ireturn, 1) := dk_172 (dk_at dksX2_heightAgain_0 23 rfl rfl)
abbrev cX2_crossing : ByteArray := prog_17_method_13_code
def yX2_crossing : MethodName := ⟨RX2, "crossing", "(II)I"⟩
def dkwX2_crossing_3 : List UInt8 := [153, 0, 6, 21, 6, 172, 132, 6, 1, 167, 255, 231, 2, 172]
abbrev dktX2_crossing_3 : List UInt8 := dkwX2_crossing_3 ++ []
def dkwX2_crossing_2 : List UInt8 := [184, 0, 107, 54, 5, 3, 54, 6, 21, 6, 21, 5, 162, 0, 24, 42, 45, 25, 4, 21, 6, 182, 0, 111]
abbrev dktX2_crossing_2 : List UInt8 := dkwX2_crossing_2 ++ dktX2_crossing_3
def dkwX2_crossing_1 : List UInt8 := [153, 0, 11, 25, 4, 182, 0, 90, 154, 0, 5, 2, 172, 42, 45, 182, 0, 94, 42, 25, 4, 182, 0, 94]
abbrev dktX2_crossing_1 : List UInt8 := dkwX2_crossing_1 ++ dktX2_crossing_2
def dkwX2_crossing_0 : List UInt8 := [42, 180, 0, 20, 27, 50, 78, 42, 180, 0, 20, 28, 50, 58, 4, 27, 28, 159, 0, 18, 45, 182, 0, 90]
abbrev dktX2_crossing_0 : List UInt8 := dkwX2_crossing_0 ++ dktX2_crossing_1
theorem dksX2_crossing_0 : cX2_crossing.data.toList.drop 0 = dktX2_crossing_0 := by decide +kernel
theorem dksX2_crossing_1 : cX2_crossing.data.toList.drop 24 = dktX2_crossing_1 := dk_seg dksX2_crossing_0 24 rfl rfl
theorem dksX2_crossing_2 : cX2_crossing.data.toList.drop 48 = dktX2_crossing_2 := dk_seg dksX2_crossing_1 24 rfl rfl
theorem dksX2_crossing_3 : cX2_crossing.data.toList.drop 72 = dktX2_crossing_3 := dk_seg dksX2_crossing_2 24 rfl rfl
theorem dX2_crossing_0 : decode cX2_crossing 0 = .ok (.aload_n 0, 1) := dk_42 (dk_at dksX2_crossing_0 0 rfl rfl)
theorem dX2_crossing_1 : decode cX2_crossing 1 = .ok (.getfield 20, 3) := dk_180 0 20 (dk_at dksX2_crossing_0 1 rfl rfl)
theorem dX2_crossing_4 : decode cX2_crossing 4 = .ok (.iload_n 1, 1) := dk_27 (dk_at dksX2_crossing_0 4 rfl rfl)
theorem dX2_crossing_5 : decode cX2_crossing 5 = .ok (.aaload, 1) := dk_50 (dk_at dksX2_crossing_0 5 rfl rfl)
theorem dX2_crossing_6 : decode cX2_crossing 6 = .ok (.astore_n 3, 1) := dk_78 (dk_at dksX2_crossing_0 6 rfl rfl)
theorem dX2_crossing_7 : decode cX2_crossing 7 = .ok (.aload_n 0, 1) := dk_42 (dk_at dksX2_crossing_0 7 rfl rfl)
theorem dX2_crossing_8 : decode cX2_crossing 8 = .ok (.getfield 20, 3) := dk_180 0 20 (dk_at dksX2_crossing_0 8 rfl rfl)
theorem dX2_crossing_11 : decode cX2_crossing 11 = .ok (.iload_n 2, 1) := dk_28 (dk_at dksX2_crossing_0 11 rfl rfl)
theorem dX2_crossing_12 : decode cX2_crossing 12 = .ok (.aaload, 1) := dk_50 (dk_at dksX2_crossing_0 12 rfl rfl)
theorem dX2_crossing_13 : decode cX2_crossing 13 = .ok (.astore 4, 2) := dk_58 4 (dk_at dksX2_crossing_0 13 rfl rfl)
theorem dX2_crossing_15 : decode cX2_crossing 15 = .ok (.iload_n 1, 1) := dk_27 (dk_at dksX2_crossing_0 15 rfl rfl)
theorem dX2_crossing_16 : decode cX2_crossing 16 = .ok (.iload_n 2, 1) := dk_28 (dk_at dksX2_crossing_0 16 rfl rfl)
theorem dX2_crossing_17 : decode cX2_crossing 17 = .ok (.if_icmp .eq 18, 3) := dk_159 0 18 (dk_at dksX2_crossing_0 17 rfl rfl)
theorem dX2_crossing_20 : decode cX2_crossing 20 = .ok (.aload_n 3, 1) := dk_45 (dk_at dksX2_crossing_0 20 rfl rfl)
theorem dX2_crossing_21 : decode cX2_crossing 21 = .ok (.invokevirtual 90, 3) := dk_182 0 90 (dk_at dksX2_crossing_0 21 rfl rfl)
theorem dX2_crossing_24 : decode cX2_crossing 24 = .ok (.ifCond .eq 11, 3) := dk_153 0 11 (dk_at dksX2_crossing_1 0 rfl rfl)
theorem dX2_crossing_27 : decode cX2_crossing 27 = .ok (.aload 4, 2) := dk_25 4 (dk_at dksX2_crossing_1 3 rfl rfl)
theorem dX2_crossing_29 : decode cX2_crossing 29 = .ok (.invokevirtual 90, 3) := dk_182 0 90 (dk_at dksX2_crossing_1 5 rfl rfl)
theorem dX2_crossing_32 : decode cX2_crossing 32 = .ok (.ifCond .ne 5, 3) := dk_154 0 5 (dk_at dksX2_crossing_1 8 rfl rfl)
theorem dX2_crossing_35 : decode cX2_crossing 35 = .ok (.iconst (-1), 1) := dk_2 (dk_at dksX2_crossing_1 11 rfl rfl)
theorem dX2_crossing_36 : decode cX2_crossing 36 = .ok (.ireturn, 1) := dk_172 (dk_at dksX2_crossing_1 12 rfl rfl)
theorem dX2_crossing_37 : decode cX2_crossing 37 = .ok (.aload_n 0, 1) := dk_42 (dk_at dksX2_crossing_1 13 rfl rfl)
theorem dX2_crossing_38 : decode cX2_crossing 38 = .ok (.aload_n 3, 1) := dk_45 (dk_at dksX2_crossing_1 14 rfl rfl)
theorem dX2_crossing_39 : decode cX2_crossing 39 = .ok (.invokevirtual 94, 3) := dk_182 0 94 (dk_at dksX2_crossing_1 15 rfl rfl)
theorem dX2_crossing_42 : decode cX2_crossing 42 = .ok (.aload_n 0, 1) := dk_42 (dk_at dksX2_crossing_1 18 rfl rfl)
theorem dX2_crossing_43 : decode cX2_crossing 43 = .ok (.aload 4, 2) := dk_25 4 (dk_at dksX2_crossing_1 19 rfl rfl)
theorem dX2_crossing_45 : decode cX2_crossing 45 = .ok (.invokevirtual 94, 3) := dk_182 0 94 (dk_at dksX2_crossing_1 21 rfl rfl)
theorem dX2_crossing_48 : decode cX2_crossing 48 = .ok (.invokestatic 107, 3) := dk_184 0 107 (dk_at dksX2_crossing_2 0 rfl rfl)
theorem dX2_crossing_51 : decode cX2_crossing 51 = .ok (.istore 5, 2) := dk_54 5 (dk_at dksX2_crossing_2 3 rfl rfl)
theorem dX2_crossing_53 : decode cX2_crossing 53 = .ok (.iconst 0, 1) := dk_3 (dk_at dksX2_crossing_2 5 rfl rfl)
theorem dX2_crossing_54 : decode cX2_crossing 54 = .ok (.istore 6, 2) := dk_54 6 (dk_at dksX2_crossing_2 6 rfl rfl)
theorem dX2_crossing_56 : decode cX2_crossing 56 = .ok (.iload 6, 2) := dk_21 6 (dk_at dksX2_crossing_2 8 rfl rfl)
theorem dX2_crossing_58 : decode cX2_crossing 58 = .ok (.iload 5, 2) := dk_21 5 (dk_at dksX2_crossing_2 10 rfl rfl)
theorem dX2_crossing_60 : decode cX2_crossing 60 = .ok (.if_icmp .ge 24, 3) := dk_162 0 24 (dk_at dksX2_crossing_2 12 rfl rfl)
theorem dX2_crossing_63 : decode cX2_crossing 63 = .ok (.aload_n 0, 1) := dk_42 (dk_at dksX2_crossing_2 15 rfl rfl)
theorem dX2_crossing_64 : decode cX2_crossing 64 = .ok (.aload_n 3, 1) := dk_45 (dk_at dksX2_crossing_2 16 rfl rfl)
theorem dX2_crossing_65 : decode cX2_crossing 65 = .ok (.aload 4, 2) := dk_25 4 (dk_at dksX2_crossing_2 17 rfl rfl)
theorem dX2_crossing_67 : decode cX2_crossing 67 = .ok (.iload 6, 2) := dk_21 6 (dk_at dksX2_crossing_2 19 rfl rfl)
theorem dX2_crossing_69 : decode cX2_crossing 69 = .ok (.invokevirtual 111, 3) := dk_182 0 111 (dk_at dksX2_crossing_2 21 rfl rfl)
theorem dX2_crossing_72 : decode cX2_crossing 72 = .ok (.ifCond .eq 6, 3) := dk_153 0 6 (dk_at dksX2_crossing_3 0 rfl rfl)
theorem dX2_crossing_75 : decode cX2_crossing 75 = .ok (.iload 6, 2) := dk_21 6 (dk_at dksX2_crossing_3 3 rfl rfl)
theorem dX2_crossing_77 : decode cX2_crossing 77 = .ok (.ireturn, 1) := dk_172 (dk_at dksX2_crossing_3 5 rfl rfl)
theorem dX2_crossing_78 : decode cX2_crossing 78 = .ok (.iinc 6 1, 3) := dk_132 6 1 (dk_at dksX2_crossing_3 6 rfl rfl)
theorem dX2_crossing_81 : decode cX2_crossing 81 = .ok (.goto (-25), 3) := dk_167 255 231 (dk_at dksX2_crossing_3 9 rfl rfl)
theorem dX2_crossing_84 : decode cX2_crossing 84 = .ok (.iconst (-1), 1) := dk_2 (dk_at dksX2_crossing_3 12 rfl rfl)
theorem dX2_crossing_85 : decode cX2_crossing 85 = .ok (.ireturn, 1) := dk_172 (dk_at dksX2_crossing_3 13 rfl rfl)
abbrev cX2_doCross : ByteArray := prog_17_method_12_code
def yX2_doCross : MethodName := ⟨RX2, "doCross", "(LKiteRoofs$Kite;LKiteRoofs$Kite;I)Z"⟩
def dkwX2_doCross_2 : List UInt8 := [157, 0, 13, 21, 4, 158, 0, 12, 21, 5, 156, 0, 7, 4, 167, 0, 4, 3, 172]
abbrev dktX2_doCross_2 : List UInt8 := dkwX2_doCross_2 ++ []
def dkwX2_doCross_1 : List UInt8 := [44, 29, 4, 96, 182, 0, 101, 100, 54, 5, 21, 5, 153, 0, 23, 21, 4, 156, 0, 8, 21, 5]
abbrev dktX2_doCross_1 : List UInt8 := dkwX2_doCross_1 ++ dktX2_doCross_2
def dkwX2_doCross_0 : List UInt8 := [42, 43, 29, 182, 0, 101, 42, 44, 29, 182, 0, 101, 100, 54, 4, 42, 43, 29, 4, 96, 182, 0, 101, 42]
abbrev dktX2_doCross_0 : List UInt8 := dkwX2_doCross_0 ++ dktX2_doCross_1
theorem dksX2_doCross_0 : cX2_doCross.data.toList.drop 0 = dktX2_doCross_0 := by decide +kernel
theorem dksX2_doCross_1 : cX2_doCross.data.toList.drop 24 = dktX2_doCross_1 := dk_seg dksX2_doCross_0 24 rfl rfl
theorem dksX2_doCross_2 : cX2_doCross.data.toList.drop 46 = dktX2_doCross_2 := dk_seg dksX2_doCross_1 22 rfl rfl
theorem dX2_doCross_0 : decode cX2_doCross 0 = .ok (.aload_n 0, 1) := dk_42 (dk_at dksX2_doCross_0 0 rfl rfl)
theorem dX2_doCross_1 : decode cX2_doCross 1 = .ok (.aload_n 1, 1) := dk_43 (dk_at dksX2_doCross_0 1 rfl rfl)
theorem dX2_doCross_2 : decode cX2_doCross 2 = .ok (.iload_n 3, 1) := dk_29 (dk_at dksX2_doCross_0 2 rfl rfl)
theorem dX2_doCross_3 : decode cX2_doCross 3 = .ok (.invokevirtual 101, 3) := dk_182 0 101 (dk_at dksX2_doCross_0 3 rfl rfl)
theorem dX2_doCross_6 : decode cX2_doCross 6 = .ok (.aload_n 0, 1) := dk_42 (dk_at dksX2_doCross_0 6 rfl rfl)
theorem dX2_doCross_7 : decode cX2_doCross 7 = .ok (.aload_n 2, 1) := dk_44 (dk_at dksX2_doCross_0 7 rfl rfl)
theorem dX2_doCross_8 : decode cX2_doCross 8 = .ok (.iload_n 3, 1) := dk_29 (dk_at dksX2_doCross_0 8 rfl rfl)
theorem dX2_doCross_9 : decode cX2_doCross 9 = .ok (.invokevirtual 101, 3) := dk_182 0 101 (dk_at dksX2_doCross_0 9 rfl rfl)
theorem dX2_doCross_12 : decode cX2_doCross 12 = .ok (.isub, 1) := dk_100 (dk_at dksX2_doCross_0 12 rfl rfl)
theorem dX2_doCross_13 : decode cX2_doCross 13 = .ok (.istore 4, 2) := dk_54 4 (dk_at dksX2_doCross_0 13 rfl rfl)
theorem dX2_doCross_15 : decode cX2_doCross 15 = .ok (.aload_n 0, 1) := dk_42 (dk_at dksX2_doCross_0 15 rfl rfl)
theorem dX2_doCross_16 : decode cX2_doCross 16 = .ok (.aload_n 1, 1) := dk_43 (dk_at dksX2_doCross_0 16 rfl rfl)
theorem dX2_doCross_17 : decode cX2_doCross 17 = .ok (.iload_n 3, 1) := dk_29 (dk_at dksX2_doCross_0 17 rfl rfl)
theorem dX2_doCross_18 : decode cX2_doCross 18 = .ok (.iconst 1, 1) := dk_4 (dk_at dksX2_doCross_0 18 rfl rfl)
theorem dX2_doCross_19 : decode cX2_doCross 19 = .ok (.iadd, 1) := dk_96 (dk_at dksX2_doCross_0 19 rfl rfl)
theorem dX2_doCross_20 : decode cX2_doCross 20 = .ok (.invokevirtual 101, 3) := dk_182 0 101 (dk_at dksX2_doCross_0 20 rfl rfl)
theorem dX2_doCross_23 : decode cX2_doCross 23 = .ok (.aload_n 0, 1) := dk_42 (dk_at dksX2_doCross_0 23 rfl rfl)
theorem dX2_doCross_24 : decode cX2_doCross 24 = .ok (.aload_n 2, 1) := dk_44 (dk_at dksX2_doCross_1 0 rfl rfl)
theorem dX2_doCross_25 : decode cX2_doCross 25 = .ok (.iload_n 3, 1) := dk_29 (dk_at dksX2_doCross_1 1 rfl rfl)
theorem dX2_doCross_26 : decode cX2_doCross 26 = .ok (.iconst 1, 1) := dk_4 (dk_at dksX2_doCross_1 2 rfl rfl)
theorem dX2_doCross_27 : decode cX2_doCross 27 = .ok (.iadd, 1) := dk_96 (dk_at dksX2_doCross_1 3 rfl rfl)
theorem dX2_doCross_28 : decode cX2_doCross 28 = .ok (.invokevirtual 101, 3) := dk_182 0 101 (dk_at dksX2_doCross_1 4 rfl rfl)
theorem dX2_doCross_31 : decode cX2_doCross 31 = .ok (.isub, 1) := dk_100 (dk_at dksX2_doCross_1 7 rfl rfl)
theorem dX2_doCross_32 : decode cX2_doCross 32 = .ok (.istore 5, 2) := dk_54 5 (dk_at dksX2_doCross_1 8 rfl rfl)
theorem dX2_doCross_34 : decode cX2_doCross 34 = .ok (.iload 5, 2) := dk_21 5 (dk_at dksX2_doCross_1 10 rfl rfl)
theorem dX2_doCross_36 : decode cX2_doCross 36 = .ok (.ifCond .eq 23, 3) := dk_153 0 23 (dk_at dksX2_doCross_1 12 rfl rfl)
theorem dX2_doCross_39 : decode cX2_doCross 39 = .ok (.iload 4, 2) := dk_21 4 (dk_at dksX2_doCross_1 15 rfl rfl)
theorem dX2_doCross_41 : decode cX2_doCross 41 = .ok (.ifCond .ge 8, 3) := dk_156 0 8 (dk_at dksX2_doCross_1 17 rfl rfl)
theorem dX2_doCross_44 : decode cX2_doCross 44 = .ok (.iload 5, 2) := dk_21 5 (dk_at dksX2_doCross_1 20 rfl rfl)
theorem dX2_doCross_46 : decode cX2_doCross 46 = .ok (.ifCond .gt 13, 3) := dk_157 0 13 (dk_at dksX2_doCross_2 0 rfl rfl)
theorem dX2_doCross_49 : decode cX2_doCross 49 = .ok (.iload 4, 2) := dk_21 4 (dk_at dksX2_doCross_2 3 rfl rfl)
theorem dX2_doCross_51 : decode cX2_doCross 51 = .ok (.ifCond .le 12, 3) := dk_158 0 12 (dk_at dksX2_doCross_2 5 rfl rfl)
theorem dX2_doCross_54 : decode cX2_doCross 54 = .ok (.iload 5, 2) := dk_21 5 (dk_at dksX2_doCross_2 8 rfl rfl)
theorem dX2_doCross_56 : decode cX2_doCross 56 = .ok (.ifCond .ge 7, 3) := dk_156 0 7 (dk_at dksX2_doCross_2 10 rfl rfl)
theorem dX2_doCross_59 : decode cX2_doCross 59 = .ok (.iconst 1, 1) := dk_4 (dk_at dksX2_doCross_2 13 rfl rfl)
theorem dX2_doCross_60 : decode cX2_doCross 60 = .ok (.goto 4, 3) := dk_167 0 4 (dk_at dksX2_doCross_2 14 rfl rfl)
theorem dX2_doCross_63 : decode cX2_doCross 63 = .ok (.iconst 0, 1) := dk_3 (dk_at dksX2_doCross_2 17 rfl rfl)
theorem dX2_doCross_64 : decode cX2_doCross 64 = .ok (.ireturn, 1) := dk_172 (dk_at dksX2_doCross_2 18 rfl rfl)
abbrev cX2_wears : ByteArray := prog_17_method_16_code
def yX2_wears : MethodName := ⟨RX2, "wears", "(I)I"⟩
def dkwX2_wears_1 : List UInt8 := [167, 255, 236, 28, 172]
abbrev dktX2_wears_1 : List UInt8 := dkwX2_wears_1 ++ []
def dkwX2_wears_0 : List UInt8 := [3, 61, 3, 62, 29, 42, 180, 0, 37, 162, 0, 18, 28, 42, 27, 29, 182, 0, 124, 96, 61, 132, 3, 1]
abbrev dktX2_wears_0 : List UInt8 := dkwX2_wears_0 ++ dktX2_wears_1
theorem dksX2_wears_0 : cX2_wears.data.toList.drop 0 = dktX2_wears_0 := by decide +kernel
theorem dksX2_wears_1 : cX2_wears.data.toList.drop 24 = dktX2_wears_1 := dk_seg dksX2_wears_0 24 rfl rfl
theorem dX2_wears_0 : decode cX2_wears 0 = .ok (.iconst 0, 1) := dk_3 (dk_at dksX2_wears_0 0 rfl rfl)
theorem dX2_wears_1 : decode cX2_wears 1 = .ok (.istore_n 2, 1) := dk_61 (dk_at dksX2_wears_0 1 rfl rfl)
theorem dX2_wears_2 : decode cX2_wears 2 = .ok (.iconst 0, 1) := dk_3 (dk_at dksX2_wears_0 2 rfl rfl)
theorem dX2_wears_3 : decode cX2_wears 3 = .ok (.istore_n 3, 1) := dk_62 (dk_at dksX2_wears_0 3 rfl rfl)
theorem dX2_wears_4 : decode cX2_wears 4 = .ok (.iload_n 3, 1) := dk_29 (dk_at dksX2_wears_0 4 rfl rfl)
theorem dX2_wears_5 : decode cX2_wears 5 = .ok (.aload_n 0, 1) := dk_42 (dk_at dksX2_wears_0 5 rfl rfl)
theorem dX2_wears_6 : decode cX2_wears 6 = .ok (.getfield 37, 3) := dk_180 0 37 (dk_at dksX2_wears_0 6 rfl rfl)
theorem dX2_wears_9 : decode cX2_wears 9 = .ok (.if_icmp .ge 18, 3) := dk_162 0 18 (dk_at dksX2_wears_0 9 rfl rfl)
theorem dX2_wears_12 : decode cX2_wears 12 = .ok (.iload_n 2, 1) := dk_28 (dk_at dksX2_wears_0 12 rfl rfl)
theorem dX2_wears_13 : decode cX2_wears 13 = .ok (.aload_n 0, 1) := dk_42 (dk_at dksX2_wears_0 13 rfl rfl)
theorem dX2_wears_14 : decode cX2_wears 14 = .ok (.iload_n 1, 1) := dk_27 (dk_at dksX2_wears_0 14 rfl rfl)
theorem dX2_wears_15 : decode cX2_wears 15 = .ok (.iload_n 3, 1) := dk_29 (dk_at dksX2_wears_0 15 rfl rfl)
theorem dX2_wears_16 : decode cX2_wears 16 = .ok (.invokevirtual 124, 3) := dk_182 0 124 (dk_at dksX2_wears_0 16 rfl rfl)
theorem dX2_wears_19 : decode cX2_wears 19 = .ok (.iadd, 1) := dk_96 (dk_at dksX2_wears_0 19 rfl rfl)
theorem dX2_wears_20 : decode cX2_wears 20 = .ok (.istore_n 2, 1) := dk_61 (dk_at dksX2_wears_0 20 rfl rfl)
theorem dX2_wears_21 : decode cX2_wears 21 = .ok (.iinc 3 1, 3) := dk_132 3 1 (dk_at dksX2_wears_0 21 rfl rfl)
theorem dX2_wears_24 : decode cX2_wears 24 = .ok (.goto (-20), 3) := dk_167 255 236 (dk_at dksX2_wears_1 0 rfl rfl)
theorem dX2_wears_27 : decode cX2_wears 27 = .ok (.iload_n 2, 1) := dk_28 (dk_at dksX2_wears_1 3 rfl rfl)
theorem dX2_wears_28 : decode cX2_wears 28 = .ok (.ireturn, 1) := dk_172 (dk_at dksX2_wears_1 4 rfl rfl)
abbrev cX2_wearsBy : ByteArray := prog_17_method_15_code
def yX2_wearsBy : MethodName := ⟨RX2, "wearsBy", "(II)I"⟩
def dkwX2_wearsBy_2 : List UInt8 := [180, 0, 121, 172]
abbrev dktX2_wearsBy_2 : List UInt8 := dkwX2_wearsBy_2 ++ []
def dkwX2_wearsBy_1 : List UInt8 := [42, 42, 180, 0, 20, 27, 50, 182, 0, 118, 164, 0, 12, 5, 45, 180, 0, 121, 104, 167, 0, 7, 45]
abbrev dktX2_wearsBy_1 : List UInt8 := dkwX2_wearsBy_1 ++ dktX2_wearsBy_2
def dkwX2_wearsBy_0 : List UInt8 := [42, 27, 28, 182, 0, 115, 2, 160, 0, 5, 3, 172, 42, 180, 0, 20, 28, 50, 78, 42, 45, 182, 0, 118]
abbrev dktX2_wearsBy_0 : List UInt8 := dkwX2_wearsBy_0 ++ dktX2_wearsBy_1
theorem dksX2_wearsBy_0 : cX2_wearsBy.data.toList.drop 0 = dktX2_wearsBy_0 := by decide +kernel
theorem dksX2_wearsBy_1 : cX2_wearsBy.data.toList.drop 24 = dktX2_wearsBy_1 := dk_seg dksX2_wearsBy_0 24 rfl rfl
theorem dksX2_wearsBy_2 : cX2_wearsBy.data.toList.drop 47 = dktX2_wearsBy_2 := dk_seg dksX2_wearsBy_1 23 rfl rfl
theorem dX2_wearsBy_0 : decode cX2_wearsBy 0 = .ok (.aload_n 0, 1) := dk_42 (dk_at dksX2_wearsBy_0 0 rfl rfl)
theorem dX2_wearsBy_1 : decode cX2_wearsBy 1 = .ok (.iload_n 1, 1) := dk_27 (dk_at dksX2_wearsBy_0 1 rfl rfl)
theorem dX2_wearsBy_2 : decode cX2_wearsBy 2 = .ok (.iload_n 2, 1) := dk_28 (dk_at dksX2_wearsBy_0 2 rfl rfl)
theorem dX2_wearsBy_3 : decode cX2_wearsBy 3 = .ok (.invokevirtual 115, 3) := dk_182 0 115 (dk_at dksX2_wearsBy_0 3 rfl rfl)
theorem dX2_wearsBy_6 : decode cX2_wearsBy 6 = .ok (.iconst (-1), 1) := dk_2 (dk_at dksX2_wearsBy_0 6 rfl rfl)
theorem dX2_wearsBy_7 : decode cX2_wearsBy 7 = .ok (.if_icmp .ne 5, 3) := dk_160 0 5 (dk_at dksX2_wearsBy_0 7 rfl rfl)
theorem dX2_wearsBy_10 : decode cX2_wearsBy 10 = .ok (.iconst 0, 1) := dk_3 (dk_at dksX2_wearsBy_0 10 rfl rfl)
theorem dX2_wearsBy_11 : decode cX2_wearsBy 11 = .ok (.ireturn, 1) := dk_172 (dk_at dksX2_wearsBy_0 11 rfl rfl)
theorem dX2_wearsBy_12 : decode cX2_wearsBy 12 = .ok (.aload_n 0, 1) := dk_42 (dk_at dksX2_wearsBy_0 12 rfl rfl)
theorem dX2_wearsBy_13 : decode cX2_wearsBy 13 = .ok (.getfield 20, 3) := dk_180 0 20 (dk_at dksX2_wearsBy_0 13 rfl rfl)
theorem dX2_wearsBy_16 : decode cX2_wearsBy 16 = .ok (.iload_n 2, 1) := dk_28 (dk_at dksX2_wearsBy_0 16 rfl rfl)
theorem dX2_wearsBy_17 : decode cX2_wearsBy 17 = .ok (.aaload, 1) := dk_50 (dk_at dksX2_wearsBy_0 17 rfl rfl)
theorem dX2_wearsBy_18 : decode cX2_wearsBy 18 = .ok (.astore_n 3, 1) := dk_78 (dk_at dksX2_wearsBy_0 18 rfl rfl)
theorem dX2_wearsBy_19 : decode cX2_wearsBy 19 = .ok (.aload_n 0, 1) := dk_42 (dk_at dksX2_wearsBy_0 19 rfl rfl)
theorem dX2_wearsBy_20 : decode cX2_wearsBy 20 = .ok (.aload_n 3, 1) := dk_45 (dk_at dksX2_wearsBy_0 20 rfl rfl)
theorem dX2_wearsBy_21 : decode cX2_wearsBy 21 = .ok (.invokevirtual 118, 3) := dk_182 0 118 (dk_at dksX2_wearsBy_0 21 rfl rfl)
theorem dX2_wearsBy_24 : decode cX2_wearsBy 24 = .ok (.aload_n 0, 1) := dk_42 (dk_at dksX2_wearsBy_1 0 rfl rfl)
theorem dX2_wearsBy_25 : decode cX2_wearsBy 25 = .ok (.aload_n 0, 1) := dk_42 (dk_at dksX2_wearsBy_1 1 rfl rfl)
theorem dX2_wearsBy_26 : decode cX2_wearsBy 26 = .ok (.getfield 20, 3) := dk_180 0 20 (dk_at dksX2_wearsBy_1 2 rfl rfl)
theorem dX2_wearsBy_29 : decode cX2_wearsBy 29 = .ok (.iload_n 1, 1) := dk_27 (dk_at dksX2_wearsBy_1 5 rfl rfl)
theorem dX2_wearsBy_30 : decode cX2_wearsBy 30 = .ok (.aaload, 1) := dk_50 (dk_at dksX2_wearsBy_1 6 rfl rfl)
theorem dX2_wearsBy_31 : decode cX2_wearsBy 31 = .ok (.invokevirtual 118, 3) := dk_182 0 118 (dk_at dksX2_wearsBy_1 7 rfl rfl)
theorem dX2_wearsBy_34 : decode cX2_wearsBy 34 = .ok (.if_icmp .le 12, 3) := dk_164 0 12 (dk_at dksX2_wearsBy_1 10 rfl rfl)
theorem dX2_wearsBy_37 : decode cX2_wearsBy 37 = .ok (.iconst 2, 1) := dk_5 (dk_at dksX2_wearsBy_1 13 rfl rfl)
theorem dX2_wearsBy_38 : decode cX2_wearsBy 38 = .ok (.aload_n 3, 1) := dk_45 (dk_at dksX2_wearsBy_1 14 rfl rfl)
theorem dX2_wearsBy_39 : decode cX2_wearsBy 39 = .ok (.getfield 121, 3) := dk_180 0 121 (dk_at dksX2_wearsBy_1 15 rfl rfl)
theorem dX2_wearsBy_42 : decode cX2_wearsBy 42 = .ok (.imul, 1) := dk_104 (dk_at dksX2_wearsBy_1 18 rfl rfl)
theorem dX2_wearsBy_43 : decode cX2_wearsBy 43 = .ok (.goto 7, 3) := dk_167 0 7 (dk_at dksX2_wearsBy_1 19 rfl rfl)
theorem dX2_wearsBy_46 : decode cX2_wearsBy 46 = .ok (.aload_n 3, 1) := dk_45 (dk_at dksX2_wearsBy_1 22 rfl rfl)
theorem dX2_wearsBy_47 : decode cX2_wearsBy 47 = .ok (.getfield 121, 3) := dk_180 0 121 (dk_at dksX2_wearsBy_2 0 rfl rfl)
theorem dX2_wearsBy_50 : decode cX2_wearsBy 50 = .ok (.ireturn, 1) := dk_172 (dk_at dksX2_wearsBy_2 3 rfl rfl)
abbrev cX2_round : ByteArray := prog_17_method_26_code
def yX2_round : MethodName := ⟨RX2, "round", "()I"⟩
def dkwX2_round_5 : List UInt8 := [180, 0, 57, 27, 100, 172]
abbrev dktX2_round_5 : List UInt8 := dkwX2_round_5 ++ []
def dkwX2_round_4 : List UInt8 := [180, 0, 20, 28, 50, 182, 0, 94, 167, 0, 4, 3, 96, 181, 0, 158, 132, 2, 1, 167, 255, 205, 42]
abbrev dktX2_round_4 : List UInt8 := dkwX2_round_4 ++ dktX2_round_5
def dkwX2_round_3 : List UInt8 := [42, 180, 0, 20, 28, 50, 89, 180, 0, 158, 42, 180, 0, 20, 28, 50, 182, 0, 90, 153, 0, 16, 42, 42]
abbrev dktX2_round_3 : List UInt8 := dkwX2_round_3 ++ dktX2_round_4
def dkwX2_round_2 : List UInt8 := [159, 0, 8, 42, 28, 182, 0, 181, 132, 2, 1, 167, 255, 230, 3, 61, 28, 42, 180, 0, 37, 162, 0, 49]
abbrev dktX2_round_2 : List UInt8 := dkwX2_round_2 ++ dktX2_round_3
def dkwX2_round_1 : List UInt8 := [182, 0, 175, 42, 182, 0, 178, 3, 61, 28, 42, 180, 0, 37, 162, 0, 24, 42, 180, 0, 27, 28, 46, 2]
abbrev dktX2_round_1 : List UInt8 := dkwX2_round_1 ++ dktX2_round_2
def dkwX2_round_0 : List UInt8 := [42, 180, 0, 57, 60, 42, 89, 180, 0, 45, 4, 96, 181, 0, 45, 42, 182, 0, 170, 42, 182, 0, 172, 42]
abbrev dktX2_round_0 : List UInt8 := dkwX2_round_0 ++ dktX2_round_1
theorem dksX2_round_0 : cX2_round.data.toList.drop 0 = dktX2_round_0 := by decide +kernel
theorem dksX2_round_1 : cX2_round.data.toList.drop 24 = dktX2_round_1 := dk_seg dksX2_round_0 24 rfl rfl
theorem dksX2_round_2 : cX2_round.data.toList.drop 48 = dktX2_round_2 := dk_seg dksX2_round_1 24 rfl rfl
theorem dksX2_round_3 : cX2_round.data.toList.drop 72 = dktX2_round_3 := dk_seg dksX2_round_2 24 rfl rfl
theorem dksX2_round_4 : cX2_round.data.toList.drop 96 = dktX2_round_4 := dk_seg dksX2_round_3 24 rfl rfl
theorem dksX2_round_5 : cX2_round.data.toList.drop 119 = dktX2_round_5 := dk_seg dksX2_round_4 23 rfl rfl
theorem dX2_round_0 : decode cX2_round 0 = .ok (.aload_n 0, 1) := dk_42 (dk_at dksX2_round_0 0 rfl rfl)
theorem dX2_round_1 : decode cX2_round 1 = .ok (.getfield 57, 3) := dk_180 0 57 (dk_at dksX2_round_0 1 rfl rfl)
theorem dX2_round_4 : decode cX2_round 4 = .ok (.istore_n 1, 1) := dk_60 (dk_at dksX2_round_0 4 rfl rfl)
theorem dX2_round_5 : decode cX2_round 5 = .ok (.aload_n 0, 1) := dk_42 (dk_at dksX2_round_0 5 rfl rfl)
theorem dX2_round_6 : decode cX2_round 6 = .ok (.dup, 1) := dk_89 (dk_at dksX2_round_0 6 rfl rfl)
theorem dX2_round_7 : decode cX2_round 7 = .ok (.getfield 45, 3) := dk_180 0 45 (dk_at dksX2_round_0 7 rfl rfl)
theorem dX2_round_10 : decode cX2_round 10 = .ok (.iconst 1, 1) := dk_4 (dk_at dksX2_round_0 10 rfl rfl)
theorem dX2_round_11 : decode cX2_round 11 = .ok (.iadd, 1) := dk_96 (dk_at dksX2_round_0 11 rfl rfl)
theorem dX2_round_12 : decode cX2_round 12 = .ok (.putfield 45, 3) := dk_181 0 45 (dk_at dksX2_round_0 12 rfl rfl)
theorem dX2_round_15 : decode cX2_round 15 = .ok (.aload_n 0, 1) := dk_42 (dk_at dksX2_round_0 15 rfl rfl)
theorem dX2_round_16 : decode cX2_round 16 = .ok (.invokevirtual 170, 3) := dk_182 0 170 (dk_at dksX2_round_0 16 rfl rfl)
theorem dX2_round_19 : decode cX2_round 19 = .ok (.aload_n 0, 1) := dk_42 (dk_at dksX2_round_0 19 rfl rfl)
theorem dX2_round_20 : decode cX2_round 20 = .ok (.invokevirtual 172, 3) := dk_182 0 172 (dk_at dksX2_round_0 20 rfl rfl)
theorem dX2_round_23 : decode cX2_round 23 = .ok (.aload_n 0, 1) := dk_42 (dk_at dksX2_round_0 23 rfl rfl)
theorem dX2_round_24 : decode cX2_round 24 = .ok (.invokevirtual 175, 3) := dk_182 0 175 (dk_at dksX2_round_1 0 rfl rfl)
theorem dX2_round_27 : decode cX2_round 27 = .ok (.aload_n 0, 1) := dk_42 (dk_at dksX2_round_1 3 rfl rfl)
theorem dX2_round_28 : decode cX2_round 28 = .ok (.invokevirtual 178, 3) := dk_182 0 178 (dk_at dksX2_round_1 4 rfl rfl)
theorem dX2_round_31 : decode cX2_round 31 = .ok (.iconst 0, 1) := dk_3 (dk_at dksX2_round_1 7 rfl rfl)
theorem dX2_round_32 : decode cX2_round 32 = .ok (.istore_n 2, 1) := dk_61 (dk_at dksX2_round_1 8 rfl rfl)
theorem dX2_round_33 : decode cX2_round 33 = .ok (.iload_n 2, 1) := dk_28 (dk_at dksX2_round_1 9 rfl rfl)
theorem dX2_round_34 : decode cX2_round 34 = .ok (.aload_n 0, 1) := dk_42 (dk_at dksX2_round_1 10 rfl rfl)
theorem dX2_round_35 : decode cX2_round 35 = .ok (.getfield 37, 3) := dk_180 0 37 (dk_at dksX2_round_1 11 rfl rfl)
theorem dX2_round_38 : decode cX2_round 38 = .ok (.if_icmp .ge 24, 3) := dk_162 0 24 (dk_at dksX2_round_1 14 rfl rfl)
theorem dX2_round_41 : decode cX2_round 41 = .ok (.aload_n 0, 1) := dk_42 (dk_at dksX2_round_1 17 rfl rfl)
theorem dX2_round_42 : decode cX2_round 42 = .ok (.getfield 27, 3) := dk_180 0 27 (dk_at dksX2_round_1 18 rfl rfl)
theorem dX2_round_45 : decode cX2_round 45 = .ok (.iload_n 2, 1) := dk_28 (dk_at dksX2_round_1 21 rfl rfl)
theorem dX2_round_46 : decode cX2_round 46 = .ok (.iaload, 1) := dk_46 (dk_at dksX2_round_1 22 rfl rfl)
theorem dX2_round_47 : decode cX2_round 47 = .ok (.iconst (-1), 1) := dk_2 (dk_at dksX2_round_1 23 rfl rfl)
theorem dX2_round_48 : decode cX2_round 48 = .ok (.if_icmp .eq 8, 3) := dk_159 0 8 (dk_at dksX2_round_2 0 rfl rfl)
theorem dX2_round_51 : decode cX2_round 51 = .ok (.aload_n 0, 1) := dk_42 (dk_at dksX2_round_2 3 rfl rfl)
theorem dX2_round_52 : decode cX2_round 52 = .ok (.iload_n 2, 1) := dk_28 (dk_at dksX2_round_2 4 rfl rfl)
theorem dX2_round_53 : decode cX2_round 53 = .ok (.invokevirtual 181, 3) := dk_182 0 181 (dk_at dksX2_round_2 5 rfl rfl)
theorem dX2_round_56 : decode cX2_round 56 = .ok (.iinc 2 1, 3) := dk_132 2 1 (dk_at dksX2_round_2 8 rfl rfl)
theorem dX2_round_59 : decode cX2_round 59 = .ok (.goto (-26), 3) := dk_167 255 230 (dk_at dksX2_round_2 11 rfl rfl)
theorem dX2_round_62 : decode cX2_round 62 = .ok (.iconst 0, 1) := dk_3 (dk_at dksX2_round_2 14 rfl rfl)
theorem dX2_round_63 : decode cX2_round 63 = .ok (.istore_n 2, 1) := dk_61 (dk_at dksX2_round_2 15 rfl rfl)
theorem dX2_round_64 : decode cX2_round 64 = .ok (.iload_n 2, 1) := dk_28 (dk_at dksX2_round_2 16 rfl rfl)
theorem dX2_round_65 : decode cX2_round 65 = .ok (.aload_n 0, 1) := dk_42 (dk_at dksX2_round_2 17 rfl rfl)
theorem dX2_round_66 : decode cX2_round 66 = .ok (.getfield 37, 3) := dk_180 0 37 (dk_at dksX2_round_2 18 rfl rfl)
theorem dX2_round_69 : decode cX2_round 69 = .ok (.if_icmp .ge 49, 3) := dk_162 0 49 (dk_at dksX2_round_2 21 rfl rfl)
theorem dX2_round_72 : decode cX2_round 72 = .ok (.aload_n 0, 1) := dk_42 (dk_at dksX2_round_3 0 rfl rfl)
theorem dX2_round_73 : decode cX2_round 73 = .ok (.getfield 20, 3) := dk_180 0 20 (dk_at dksX2_round_3 1 rfl rfl)
theorem dX2_round_76 : decode cX2_round 76 = .ok (.iload_n 2, 1) := dk_28 (dk_at dksX2_round_3 4 rfl rfl)
theorem dX2_round_77 : decode cX2_round 77 = .ok (.aaload, 1) := dk_50 (dk_at dksX2_round_3 5 rfl rfl)
theorem dX2_round_78 : decode cX2_round 78 = .ok (.dup, 1) := dk_89 (dk_at dksX2_round_3 6 rfl rfl)
theorem dX2_round_79 : decode cX2_round 79 = .ok (.getfield 158, 3) := dk_180 0 158 (dk_at dksX2_round_3 7 rfl rfl)
theorem dX2_round_82 : decode cX2_round 82 = .ok (.aload_n 0, 1) := dk_42 (dk_at dksX2_round_3 10 rfl rfl)
theorem dX2_round_83 : decode cX2_round 83 = .ok (.getfield 20, 3) := dk_180 0 20 (dk_at dksX2_round_3 11 rfl rfl)
theorem dX2_round_86 : decode cX2_round 86 = .ok (.iload_n 2, 1) := dk_28 (dk_at dksX2_round_3 14 rfl rfl)
theorem dX2_round_87 : decode cX2_round 87 = .ok (.aaload, 1) := dk_50 (dk_at dksX2_round_3 15 rfl rfl)
theorem dX2_round_88 : decode cX2_round 88 = .ok (.invokevirtual 90, 3) := dk_182 0 90 (dk_at dksX2_round_3 16 rfl rfl)
theorem dX2_round_91 : decode cX2_round 91 = .ok (.ifCond .eq 16, 3) := dk_153 0 16 (dk_at dksX2_round_3 19 rfl rfl)
theorem dX2_round_94 : decode cX2_round 94 = .ok (.aload_n 0, 1) := dk_42 (dk_at dksX2_round_3 22 rfl rfl)
theorem dX2_round_95 : decode cX2_round 95 = .ok (.aload_n 0, 1) := dk_42 (dk_at dksX2_round_3 23 rfl rfl)
theorem dX2_round_96 : decode cX2_round 96 = .ok (.getfield 20, 3) := dk_180 0 20 (dk_at dksX2_round_4 0 rfl rfl)
theorem dX2_round_99 : decode cX2_round 99 = .ok (.iload_n 2, 1) := dk_28 (dk_at dksX2_round_4 3 rfl rfl)
theorem dX2_round_100 : decode cX2_round 100 = .ok (.aaload, 1) := dk_50 (dk_at dksX2_round_4 4 rfl rfl)
theorem dX2_round_101 : decode cX2_round 101 = .ok (.invokevirtual 94, 3) := dk_182 0 94 (dk_at dksX2_round_4 5 rfl rfl)
theorem dX2_round_104 : decode cX2_round 104 = .ok (.goto 4, 3) := dk_167 0 4 (dk_at dksX2_round_4 8 rfl rfl)
theorem dX2_round_107 : decode cX2_round 107 = .ok (.iconst 0, 1) := dk_3 (dk_at dksX2_round_4 11 rfl rfl)
theorem dX2_round_108 : decode cX2_round 108 = .ok (.iadd, 1) := dk_96 (dk_at dksX2_round_4 12 rfl rfl)
theorem dX2_round_109 : decode cX2_round 109 = .ok (.putfield 158, 3) := dk_181 0 158 (dk_at dksX2_round_4 13 rfl rfl)
theorem dX2_round_112 : decode cX2_round 112 = .ok (.iinc 2 1, 3) := dk_132 2 1 (dk_at dksX2_round_4 16 rfl rfl)
theorem dX2_round_115 : decode cX2_round 115 = .ok (.goto (-51), 3) := dk_167 255 205 (dk_at dksX2_round_4 19 rfl rfl)
theorem dX2_round_118 : decode cX2_round 118 = .ok (.aload_n 0, 1) := dk_42 (dk_at dksX2_round_4 22 rfl rfl)
theorem dX2_round_119 : decode cX2_round 119 = .ok (.getfield 57, 3) := dk_180 0 57 (dk_at dksX2_round_5 0 rfl rfl)
theorem dX2_round_122 : decode cX2_round 122 = .ok (.iload_n 1, 1) := dk_27 (dk_at dksX2_round_5 3 rfl rfl)
theorem dX2_round_123 : decode cX2_round 123 = .ok (.isub, 1) := dk_100 (dk_at dksX2_round_5 4 rfl rfl)
theorem dX2_round_124 : decode cX2_round 124 = .ok (.ireturn, 1) := dk_172 (dk_at dksX2_round_5 5 rfl rfl)
abbrev cX2_reels : ByteArray := prog_17_method_24_code
def yX2_reels : MethodName := ⟨RX2, "reels", "()V"⟩
def dkwX2_reels_1 : List UInt8 := [180, 0, 161, 182, 0, 164, 182, 0, 167, 132, 1, 1, 167, 255, 223, 177]
abbrev dktX2_reels_1 : List UInt8 := dkwX2_reels_1 ++ []
def dkwX2_reels_0 : List UInt8 := [3, 60, 27, 42, 180, 0, 37, 162, 0, 31, 42, 42, 180, 0, 20, 27, 50, 42, 180, 0, 20, 27, 50]
abbrev dktX2_reels_0 : List UInt8 := dkwX2_reels_0 ++ dktX2_reels_1
theorem dksX2_reels_0 : cX2_reels.data.toList.drop 0 = dktX2_reels_0 := by decide +kernel
theorem dksX2_reels_1 : cX2_reels.data.toList.drop 23 = dktX2_reels_1 := dk_seg dksX2_reels_0 23 rfl rfl
theorem dX2_reels_0 : decode cX2_reels 0 = .ok (.iconst 0, 1) := dk_3 (dk_at dksX2_reels_0 0 rfl rfl)
theorem dX2_reels_1 : decode cX2_reels 1 = .ok (.istore_n 1, 1) := dk_60 (dk_at dksX2_reels_0 1 rfl rfl)
theorem dX2_reels_2 : decode cX2_reels 2 = .ok (.iload_n 1, 1) := dk_27 (dk_at dksX2_reels_0 2 rfl rfl)
theorem dX2_reels_3 : decode cX2_reels 3 = .ok (.aload_n 0, 1) := dk_42 (dk_at dksX2_reels_0 3 rfl rfl)
theorem dX2_reels_4 : decode cX2_reels 4 = .ok (.getfield 37, 3) := dk_180 0 37 (dk_at dksX2_reels_0 4 rfl rfl)
theorem dX2_reels_7 : decode cX2_reels 7 = .ok (.if_icmp .ge 31, 3) := dk_162 0 31 (dk_at dksX2_reels_0 7 rfl rfl)
theorem dX2_reels_10 : decode cX2_reels 10 = .ok (.aload_n 0, 1) := dk_42 (dk_at dksX2_reels_0 10 rfl rfl)
theorem dX2_reels_11 : decode cX2_reels 11 = .ok (.aload_n 0, 1) := dk_42 (dk_at dksX2_reels_0 11 rfl rfl)
theorem dX2_reels_12 : decode cX2_reels 12 = .ok (.getfield 20, 3) := dk_180 0 20 (dk_at dksX2_reels_0 12 rfl rfl)
theorem dX2_reels_15 : decode cX2_reels 15 = .ok (.iload_n 1, 1) := dk_27 (dk_at dksX2_reels_0 15 rfl rfl)
theorem dX2_reels_16 : decode cX2_reels 16 = .ok (.aaload, 1) := dk_50 (dk_at dksX2_reels_0 16 rfl rfl)
theorem dX2_reels_17 : decode cX2_reels 17 = .ok (.aload_n 0, 1) := dk_42 (dk_at dksX2_reels_0 17 rfl rfl)
theorem dX2_reels_18 : decode cX2_reels 18 = .ok (.getfield 20, 3) := dk_180 0 20 (dk_at dksX2_reels_0 18 rfl rfl)
theorem dX2_reels_21 : decode cX2_reels 21 = .ok (.iload_n 1, 1) := dk_27 (dk_at dksX2_reels_0 21 rfl rfl)
theorem dX2_reels_22 : decode cX2_reels 22 = .ok (.aaload, 1) := dk_50 (dk_at dksX2_reels_0 22 rfl rfl)
theorem dX2_reels_23 : decode cX2_reels 23 = .ok (.getfield 161, 3) := dk_180 0 161 (dk_at dksX2_reels_1 0 rfl rfl)
theorem dX2_reels_26 : decode cX2_reels 26 = .ok (.invokevirtual 164, 3) := dk_182 0 164 (dk_at dksX2_reels_1 3 rfl rfl)
theorem dX2_reels_29 : decode cX2_reels 29 = .ok (.invokevirtual 167, 3) := dk_182 0 167 (dk_at dksX2_reels_1 6 rfl rfl)
theorem dX2_reels_32 : decode cX2_reels 32 = .ok (.iinc 1 1, 3) := dk_132 1 1 (dk_at dksX2_reels_1 9 rfl rfl)
theorem dX2_reels_35 : decode cX2_reels 35 = .ok (.goto (-33), 3) := dk_167 255 223 (dk_at dksX2_reels_1 12 rfl rfl)
theorem dX2_reels_38 : decode cX2_reels 38 = .ok (.return_, 1) := dk_177 (dk_at dksX2_reels_1 15 rfl rfl)
abbrev cX2_saws : ByteArray := prog_17_method_17_code
def yX2_saws : MethodName := ⟨RX2, "saws", "()V"⟩
def dkwX2_saws_2 : List UInt8 := [167, 255, 212, 177]
abbrev dktX2_saws_2 : List UInt8 := dkwX2_saws_2 ++ []
def dkwX2_saws_1 : List UInt8 := [16, 6, 27, 104, 28, 96, 42, 27, 28, 182, 0, 124, 79, 132, 2, 1, 167, 255, 228, 132, 1, 1]
abbrev dktX2_saws_1 : List UInt8 := dkwX2_saws_1 ++ dktX2_saws_2
def dkwX2_saws_0 : List UInt8 := [3, 60, 27, 42, 180, 0, 37, 162, 0, 42, 3, 61, 28, 42, 180, 0, 37, 162, 0, 26, 42, 180, 0, 24]
abbrev dktX2_saws_0 : List UInt8 := dkwX2_saws_0 ++ dktX2_saws_1
theorem dksX2_saws_0 : cX2_saws.data.toList.drop 0 = dktX2_saws_0 := by decide +kernel
theorem dksX2_saws_1 : cX2_saws.data.toList.drop 24 = dktX2_saws_1 := dk_seg dksX2_saws_0 24 rfl rfl
theorem dksX2_saws_2 : cX2_saws.data.toList.drop 46 = dktX2_saws_2 := dk_seg dksX2_saws_1 22 rfl rfl
theorem dX2_saws_0 : decode cX2_saws 0 = .ok (.iconst 0, 1) := dk_3 (dk_at dksX2_saws_0 0 rfl rfl)
theorem dX2_saws_1 : decode cX2_saws 1 = .ok (.istore_n 1, 1) := dk_60 (dk_at dksX2_saws_0 1 rfl rfl)
theorem dX2_saws_2 : decode cX2_saws 2 = .ok (.iload_n 1, 1) := dk_27 (dk_at dksX2_saws_0 2 rfl rfl)
theorem dX2_saws_3 : decode cX2_saws 3 = .ok (.aload_n 0, 1) := dk_42 (dk_at dksX2_saws_0 3 rfl rfl)
theorem dX2_saws_4 : decode cX2_saws 4 = .ok (.getfield 37, 3) := dk_180 0 37 (dk_at dksX2_saws_0 4 rfl rfl)
theorem dX2_saws_7 : decode cX2_saws 7 = .ok (.if_icmp .ge 42, 3) := dk_162 0 42 (dk_at dksX2_saws_0 7 rfl rfl)
theorem dX2_saws_10 : decode cX2_saws 10 = .ok (.iconst 0, 1) := dk_3 (dk_at dksX2_saws_0 10 rfl rfl)
theorem dX2_saws_11 : decode cX2_saws 11 = .ok (.istore_n 2, 1) := dk_61 (dk_at dksX2_saws_0 11 rfl rfl)
theorem dX2_saws_12 : decode cX2_saws 12 = .ok (.iload_n 2, 1) := dk_28 (dk_at dksX2_saws_0 12 rfl rfl)
theorem dX2_saws_13 : decode cX2_saws 13 = .ok (.aload_n 0, 1) := dk_42 (dk_at dksX2_saws_0 13 rfl rfl)
theorem dX2_saws_14 : decode cX2_saws 14 = .ok (.getfield 37, 3) := dk_180 0 37 (dk_at dksX2_saws_0 14 rfl rfl)
theorem dX2_saws_17 : decode cX2_saws 17 = .ok (.if_icmp .ge 26, 3) := dk_162 0 26 (dk_at dksX2_saws_0 17 rfl rfl)
theorem dX2_saws_20 : decode cX2_saws 20 = .ok (.aload_n 0, 1) := dk_42 (dk_at dksX2_saws_0 20 rfl rfl)
theorem dX2_saws_21 : decode cX2_saws 21 = .ok (.getfield 24, 3) := dk_180 0 24 (dk_at dksX2_saws_0 21 rfl rfl)
theorem dX2_saws_24 : decode cX2_saws 24 = .ok (.bipush 6, 2) := dk_16 6 (dk_at dksX2_saws_1 0 rfl rfl)
theorem dX2_saws_26 : decode cX2_saws 26 = .ok (.iload_n 1, 1) := dk_27 (dk_at dksX2_saws_1 2 rfl rfl)
theorem dX2_saws_27 : decode cX2_saws 27 = .ok (.imul, 1) := dk_104 (dk_at dksX2_saws_1 3 rfl rfl)
theorem dX2_saws_28 : decode cX2_saws 28 = .ok (.iload_n 2, 1) := dk_28 (dk_at dksX2_saws_1 4 rfl rfl)
theorem dX2_saws_29 : decode cX2_saws 29 = .ok (.iadd, 1) := dk_96 (dk_at dksX2_saws_1 5 rfl rfl)
theorem dX2_saws_30 : decode cX2_saws 30 = .ok (.aload_n 0, 1) := dk_42 (dk_at dksX2_saws_1 6 rfl rfl)
theorem dX2_saws_31 : decode cX2_saws 31 = .ok (.iload_n 1, 1) := dk_27 (dk_at dksX2_saws_1 7 rfl rfl)
theorem dX2_saws_32 : decode cX2_saws 32 = .ok (.iload_n 2, 1) := dk_28 (dk_at dksX2_saws_1 8 rfl rfl)
theorem dX2_saws_33 : decode cX2_saws 33 = .ok (.invokevirtual 124, 3) := dk_182 0 124 (dk_at dksX2_saws_1 9 rfl rfl)
theorem dX2_saws_36 : decode cX2_saws 36 = .ok (.iastore, 1) := dk_79 (dk_at dksX2_saws_1 12 rfl rfl)
theorem dX2_saws_37 : decode cX2_saws 37 = .ok (.iinc 2 1, 3) := dk_132 2 1 (dk_at dksX2_saws_1 13 rfl rfl)
theorem dX2_saws_40 : decode cX2_saws 40 = .ok (.goto (-28), 3) := dk_167 255 228 (dk_at dksX2_saws_1 16 rfl rfl)
theorem dX2_saws_43 : decode cX2_saws 43 = .ok (.iinc 1 1, 3) := dk_132 1 1 (dk_at dksX2_saws_1 19 rfl rfl)
theorem dX2_saws_46 : decode cX2_saws 46 = .ok (.goto (-44), 3) := dk_167 255 212 (dk_at dksX2_saws_2 0 rfl rfl)
theorem dX2_saws_49 : decode cX2_saws 49 = .ok (.return_, 1) := dk_177 (dk_at dksX2_saws_2 3 rfl rfl)
abbrev cX2_wearsAll : ByteArray := prog_17_method_21_code
def yX2_wearsAll : MethodName := ⟨RX2, "wearsAll", "()V"⟩
def dkwX2_wearsAll_2 : List UInt8 := [132, 1, 1, 167, 255, 209, 177]
abbrev dktX2_wearsAll_2 : List UInt8 := dkwX2_wearsAll_2 ++ []
def dkwX2_wearsAll_1 : List UInt8 := [27, 50, 42, 180, 0, 24, 16, 6, 27, 104, 28, 96, 46, 182, 0, 127, 132, 2, 1, 167, 255, 225]
abbrev dktX2_wearsAll_1 : List UInt8 := dkwX2_wearsAll_1 ++ dktX2_wearsAll_2
def dkwX2_wearsAll_0 : List UInt8 := [3, 60, 27, 42, 180, 0, 37, 162, 0, 45, 3, 61, 28, 42, 180, 0, 37, 162, 0, 29, 42, 180, 0, 20]
abbrev dktX2_wearsAll_0 : List UInt8 := dkwX2_wearsAll_0 ++ dktX2_wearsAll_1
theorem dksX2_wearsAll_0 : cX2_wearsAll.data.toList.drop 0 = dktX2_wearsAll_0 := by decide +kernel
theorem dksX2_wearsAll_1 : cX2_wearsAll.data.toList.drop 24 = dktX2_wearsAll_1 := dk_seg dksX2_wearsAll_0 24 rfl rfl
theorem dksX2_wearsAll_2 : cX2_wearsAll.data.toList.drop 46 = dktX2_wearsAll_2 := dk_seg dksX2_wearsAll_1 22 rfl rfl
theorem dX2_wearsAll_0 : decode cX2_wearsAll 0 = .ok (.iconst 0, 1) := dk_3 (dk_at dksX2_wearsAll_0 0 rfl rfl)
theorem dX2_wearsAll_1 : decode cX2_wearsAll 1 = .ok (.istore_n 1, 1) := dk_60 (dk_at dksX2_wearsAll_0 1 rfl rfl)
theorem dX2_wearsAll_2 : decode cX2_wearsAll 2 = .ok (.iload_n 1, 1) := dk_27 (dk_at dksX2_wearsAll_0 2 rfl rfl)
theorem dX2_wearsAll_3 : decode cX2_wearsAll 3 = .ok (.aload_n 0, 1) := dk_42 (dk_at dksX2_wearsAll_0 3 rfl rfl)
theorem dX2_wearsAll_4 : decode cX2_wearsAll 4 = .ok (.getfield 37, 3) := dk_180 0 37 (dk_at dksX2_wearsAll_0 4 rfl rfl)
theorem dX2_wearsAll_7 : decode cX2_wearsAll 7 = .ok (.if_icmp .ge 45, 3) := dk_162 0 45 (dk_at dksX2_wearsAll_0 7 rfl rfl)
theorem dX2_wearsAll_10 : decode cX2_wearsAll 10 = .ok (.iconst 0, 1) := dk_3 (dk_at dksX2_wearsAll_0 10 rfl rfl)
theorem dX2_wearsAll_11 : decode cX2_wearsAll 11 = .ok (.istore_n 2, 1) := dk_61 (dk_at dksX2_wearsAll_0 11 rfl rfl)
theorem dX2_wearsAll_12 : decode cX2_wearsAll 12 = .ok (.iload_n 2, 1) := dk_28 (dk_at dksX2_wearsAll_0 12 rfl rfl)
theorem dX2_wearsAll_13 : decode cX2_wearsAll 13 = .ok (.aload_n 0, 1) := dk_42 (dk_at dksX2_wearsAll_0 13 rfl rfl)
theorem dX2_wearsAll_14 : decode cX2_wearsAll 14 = .ok (.getfield 37, 3) := dk_180 0 37 (dk_at dksX2_wearsAll_0 14 rfl rfl)
theorem dX2_wearsAll_17 : decode cX2_wearsAll 17 = .ok (.if_icmp .ge 29, 3) := dk_162 0 29 (dk_at dksX2_wearsAll_0 17 rfl rfl)
theorem dX2_wearsAll_20 : decode cX2_wearsAll 20 = .ok (.aload_n 0, 1) := dk_42 (dk_at dksX2_wearsAll_0 20 rfl rfl)
theorem dX2_wearsAll_21 : decode cX2_wearsAll 21 = .ok (.getfield 20, 3) := dk_180 0 20 (dk_at dksX2_wearsAll_0 21 rfl rfl)
theorem dX2_wearsAll_24 : decode cX2_wearsAll 24 = .ok (.iload_n 1, 1) := dk_27 (dk_at dksX2_wearsAll_1 0 rfl rfl)
theorem dX2_wearsAll_25 : decode cX2_wearsAll 25 = .ok (.aaload, 1) := dk_50 (dk_at dksX2_wearsAll_1 1 rfl rfl)
theorem dX2_wearsAll_26 : decode cX2_wearsAll 26 = .ok (.aload_n 0, 1) := dk_42 (dk_at dksX2_wearsAll_1 2 rfl rfl)
theorem dX2_wearsAll_27 : decode cX2_wearsAll 27 = .ok (.getfield 24, 3) := dk_180 0 24 (dk_at dksX2_wearsAll_1 3 rfl rfl)
theorem dX2_wearsAll_30 : decode cX2_wearsAll 30 = .ok (.bipush 6, 2) := dk_16 6 (dk_at dksX2_wearsAll_1 6 rfl rfl)
theorem dX2_wearsAll_32 : decode cX2_wearsAll 32 = .ok (.iload_n 1, 1) := dk_27 (dk_at dksX2_wearsAll_1 8 rfl rfl)
theorem dX2_wearsAll_33 : decode cX2_wearsAll 33 = .ok (.imul, 1) := dk_104 (dk_at dksX2_wearsAll_1 9 rfl rfl)
theorem dX2_wearsAll_34 : decode cX2_wearsAll 34 = .ok (.iload_n 2, 1) := dk_28 (dk_at dksX2_wearsAll_1 10 rfl rfl)
theorem dX2_wearsAll_35 : decode cX2_wearsAll 35 = .ok (.iadd, 1) := dk_96 (dk_at dksX2_wearsAll_1 11 rfl rfl)
theorem dX2_wearsAll_36 : decode cX2_wearsAll 36 = .ok (.iaload, 1) := dk_46 (dk_at dksX2_wearsAll_1 12 rfl rfl)
theorem dX2_wearsAll_37 : decode cX2_wearsAll 37 = .ok (.invokevirtual 127, 3) := dk_182 0 127 (dk_at dksX2_wearsAll_1 13 rfl rfl)
theorem dX2_wearsAll_40 : decode cX2_wearsAll 40 = .ok (.iinc 2 1, 3) := dk_132 2 1 (dk_at dksX2_wearsAll_1 16 rfl rfl)
theorem dX2_wearsAll_43 : decode cX2_wearsAll 43 = .ok (.goto (-31), 3) := dk_167 255 225 (dk_at dksX2_wearsAll_1 19 rfl rfl)
theorem dX2_wearsAll_46 : decode cX2_wearsAll 46 = .ok (.iinc 1 1, 3) := dk_132 1 1 (dk_at dksX2_wearsAll_2 0 rfl rfl)
theorem dX2_wearsAll_49 : decode cX2_wearsAll 49 = .ok (.goto (-47), 3) := dk_167 255 209 (dk_at dksX2_wearsAll_2 3 rfl rfl)
theorem dX2_wearsAll_52 : decode cX2_wearsAll 52 = .ok (.return_, 1) := dk_177 (dk_at dksX2_wearsAll_2 6 rfl rfl)
abbrev cX2_marks : ByteArray := prog_17_method_22_code
def yX2_marks : MethodName := ⟨RX2, "marks", "()V"⟩
def dkwX2_marks_2 : List UInt8 := [182, 0, 137, 167, 0, 4, 2, 79, 132, 1, 1, 167, 255, 202, 177]
abbrev dktX2_marks_2 : List UInt8 := dkwX2_marks_2 ++ []
def dkwX2_marks_1 : List UInt8 := [182, 0, 90, 153, 0, 25, 44, 182, 0, 131, 44, 180, 0, 70, 182, 0, 134, 161, 0, 11, 42, 27]
abbrev dktX2_marks_1 : List UInt8 := dkwX2_marks_1 ++ dktX2_marks_2
def dkwX2_marks_0 : List UInt8 := [3, 60, 27, 42, 180, 0, 37, 162, 0, 52, 42, 180, 0, 20, 27, 50, 77, 42, 180, 0, 27, 27, 44]
abbrev dktX2_marks_0 : List UInt8 := dkwX2_marks_0 ++ dktX2_marks_1
theorem dksX2_marks_0 : cX2_marks.data.toList.drop 0 = dktX2_marks_0 := by decide +kernel
theorem dksX2_marks_1 : cX2_marks.data.toList.drop 23 = dktX2_marks_1 := dk_seg dksX2_marks_0 23 rfl rfl
theorem dksX2_marks_2 : cX2_marks.data.toList.drop 45 = dktX2_marks_2 := dk_seg dksX2_marks_1 22 rfl rfl
theorem dX2_marks_0 : decode cX2_marks 0 = .ok (.iconst 0, 1) := dk_3 (dk_at dksX2_marks_0 0 rfl rfl)
theorem dX2_marks_1 : decode cX2_marks 1 = .ok (.istore_n 1, 1) := dk_60 (dk_at dksX2_marks_0 1 rfl rfl)
theorem dX2_marks_2 : decode cX2_marks 2 = .ok (.iload_n 1, 1) := dk_27 (dk_at dksX2_marks_0 2 rfl rfl)
theorem dX2_marks_3 : decode cX2_marks 3 = .ok (.aload_n 0, 1) := dk_42 (dk_at dksX2_marks_0 3 rfl rfl)
theorem dX2_marks_4 : decode cX2_marks 4 = .ok (.getfield 37, 3) := dk_180 0 37 (dk_at dksX2_marks_0 4 rfl rfl)
theorem dX2_marks_7 : decode cX2_marks 7 = .ok (.if_icmp .ge 52, 3) := dk_162 0 52 (dk_at dksX2_marks_0 7 rfl rfl)
theorem dX2_marks_10 : decode cX2_marks 10 = .ok (.aload_n 0, 1) := dk_42 (dk_at dksX2_marks_0 10 rfl rfl)
theorem dX2_marks_11 : decode cX2_marks 11 = .ok (.getfield 20, 3) := dk_180 0 20 (dk_at dksX2_marks_0 11 rfl rfl)
theorem dX2_marks_14 : decode cX2_marks 14 = .ok (.iload_n 1, 1) := dk_27 (dk_at dksX2_marks_0 14 rfl rfl)
theorem dX2_marks_15 : decode cX2_marks 15 = .ok (.aaload, 1) := dk_50 (dk_at dksX2_marks_0 15 rfl rfl)
theorem dX2_marks_16 : decode cX2_marks 16 = .ok (.astore_n 2, 1) := dk_77 (dk_at dksX2_marks_0 16 rfl rfl)
theorem dX2_marks_17 : decode cX2_marks 17 = .ok (.aload_n 0, 1) := dk_42 (dk_at dksX2_marks_0 17 rfl rfl)
theorem dX2_marks_18 : decode cX2_marks 18 = .ok (.getfield 27, 3) := dk_180 0 27 (dk_at dksX2_marks_0 18 rfl rfl)
theorem dX2_marks_21 : decode cX2_marks 21 = .ok (.iload_n 1, 1) := dk_27 (dk_at dksX2_marks_0 21 rfl rfl)
theorem dX2_marks_22 : decode cX2_marks 22 = .ok (.aload_n 2, 1) := dk_44 (dk_at dksX2_marks_0 22 rfl rfl)
theorem dX2_marks_23 : decode cX2_marks 23 = .ok (.invokevirtual 90, 3) := dk_182 0 90 (dk_at dksX2_marks_1 0 rfl rfl)
theorem dX2_marks_26 : decode cX2_marks 26 = .ok (.ifCond .eq 25, 3) := dk_153 0 25 (dk_at dksX2_marks_1 3 rfl rfl)
theorem dX2_marks_29 : decode cX2_marks 29 = .ok (.aload_n 2, 1) := dk_44 (dk_at dksX2_marks_1 6 rfl rfl)
theorem dX2_marks_30 : decode cX2_marks 30 = .ok (.invokevirtual 131, 3) := dk_182 0 131 (dk_at dksX2_marks_1 7 rfl rfl)
theorem dX2_marks_33 : decode cX2_marks 33 = .ok (.aload_n 2, 1) := dk_44 (dk_at dksX2_marks_1 10 rfl rfl)
theorem dX2_marks_34 : decode cX2_marks 34 = .ok (.getfield 70, 3) := dk_180 0 70 (dk_at dksX2_marks_1 11 rfl rfl)
theorem dX2_marks_37 : decode cX2_marks 37 = .ok (.invokevirtual 134, 3) := dk_182 0 134 (dk_at dksX2_marks_1 14 rfl rfl)
theorem dX2_marks_40 : decode cX2_marks 40 = .ok (.if_icmp .lt 11, 3) := dk_161 0 11 (dk_at dksX2_marks_1 17 rfl rfl)
theorem dX2_marks_43 : decode cX2_marks 43 = .ok (.aload_n 0, 1) := dk_42 (dk_at dksX2_marks_1 20 rfl rfl)
theorem dX2_marks_44 : decode cX2_marks 44 = .ok (.iload_n 1, 1) := dk_27 (dk_at dksX2_marks_1 21 rfl rfl)
theorem dX2_marks_45 : decode cX2_marks 45 = .ok (.invokevirtual 137, 3) := dk_182 0 137 (dk_at dksX2_marks_2 0 rfl rfl)
theorem dX2_marks_48 : decode cX2_marks 48 = .ok (.goto 4, 3) := dk_167 0 4 (dk_at dksX2_marks_2 3 rfl rfl)
theorem dX2_marks_51 : decode cX2_marks 51 = .ok (.iconst (-1), 1) := dk_2 (dk_at dksX2_marks_2 6 rfl rfl)
theorem dX2_marks_52 : decode cX2_marks 52 = .ok (.iastore, 1) := dk_79 (dk_at dksX2_marks_2 7 rfl rfl)
theorem dX2_marks_53 : decode cX2_marks 53 = .ok (.iinc 1 1, 3) := dk_132 1 1 (dk_at dksX2_marks_2 8 rfl rfl)
theorem dX2_marks_56 : decode cX2_marks 56 = .ok (.goto (-54), 3) := dk_167 255 202 (dk_at dksX2_marks_2 11 rfl rfl)
theorem dX2_marks_59 : decode cX2_marks 59 = .ok (.return_, 1) := dk_177 (dk_at dksX2_marks_2 14 rfl rfl)
abbrev cX2_lowestSawn : ByteArray := prog_17_method_18_code
def yX2_lowestSawn : MethodName := ⟨RX2, "lowestSawn", "(I)I"⟩
def dkwX2_lowestSawn_2 : List UInt8 := [159, 0, 9, 21, 4, 28, 162, 0, 6, 21, 4, 61, 132, 3, 1, 167, 255, 199, 28, 172]
abbrev dktX2_lowestSawn_2 : List UInt8 := dkwX2_lowestSawn_2 ++ []
def dkwX2_lowestSawn_1 : List UInt8 := [158, 0, 12, 42, 27, 29, 182, 0, 115, 167, 0, 4, 2, 54, 4, 21, 4, 2, 159, 0, 17, 28, 2]
abbrev dktX2_lowestSawn_1 : List UInt8 := dkwX2_lowestSawn_1 ++ dktX2_lowestSawn_2
def dkwX2_lowestSawn_0 : List UInt8 := [2, 61, 3, 62, 29, 42, 180, 0, 37, 162, 0, 55, 42, 180, 0, 24, 16, 6, 27, 104, 29, 96, 46]
abbrev dktX2_lowestSawn_0 : List UInt8 := dkwX2_lowestSawn_0 ++ dktX2_lowestSawn_1
theorem dksX2_lowestSawn_0 : cX2_lowestSawn.data.toList.drop 0 = dktX2_lowestSawn_0 := by decide +kernel
theorem dksX2_lowestSawn_1 : cX2_lowestSawn.data.toList.drop 23 = dktX2_lowestSawn_1 := dk_seg dksX2_lowestSawn_0 23 rfl rfl
theorem dksX2_lowestSawn_2 : cX2_lowestSawn.data.toList.drop 46 = dktX2_lowestSawn_2 := dk_seg dksX2_lowestSawn_1 23 rfl rfl
theorem dX2_lowestSawn_0 : decode cX2_lowestSawn 0 = .ok (.iconst (-1), 1) := dk_2 (dk_at dksX2_lowestSawn_0 0 rfl rfl)
theorem dX2_lowestSawn_1 : decode cX2_lowestSawn 1 = .ok (.istore_n 2, 1) := dk_61 (dk_at dksX2_lowestSawn_0 1 rfl rfl)
theorem dX2_lowestSawn_2 : decode cX2_lowestSawn 2 = .ok (.iconst 0, 1) := dk_3 (dk_at dksX2_lowestSawn_0 2 rfl rfl)
theorem dX2_lowestSawn_3 : decode cX2_lowestSawn 3 = .ok (.istore_n 3, 1) := dk_62 (dk_at dksX2_lowestSawn_0 3 rfl rfl)
theorem dX2_lowestSawn_4 : decode cX2_lowestSawn 4 = .ok (.iload_n 3, 1) := dk_29 (dk_at dksX2_lowestSawn_0 4 rfl rfl)
theorem dX2_lowestSawn_5 : decode cX2_lowestSawn 5 = .ok (.aload_n 0, 1) := dk_42 (dk_at dksX2_lowestSawn_0 5 rfl rfl)
theorem dX2_lowestSawn_6 : decode cX2_lowestSawn 6 = .ok (.getfield 37, 3) := dk_180 0 37 (dk_at dksX2_lowestSawn_0 6 rfl rfl)
theorem dX2_lowestSawn_9 : decode cX2_lowestSawn 9 = .ok (.if_icmp .ge 55, 3) := dk_162 0 55 (dk_at dksX2_lowestSawn_0 9 rfl rfl)
theorem dX2_lowestSawn_12 : decode cX2_lowestSawn 12 = .ok (.aload_n 0, 1) := dk_42 (dk_at dksX2_lowestSawn_0 12 rfl rfl)
theorem dX2_lowestSawn_13 : decode cX2_lowestSawn 13 = .ok (.getfield 24, 3) := dk_180 0 24 (dk_at dksX2_lowestSawn_0 13 rfl rfl)
theorem dX2_lowestSawn_16 : decode cX2_lowestSawn 16 = .ok (.bipush 6, 2) := dk_16 6 (dk_at dksX2_lowestSawn_0 16 rfl rfl)
theorem dX2_lowestSawn_18 : decode cX2_lowestSawn 18 = .ok (.iload_n 1, 1) := dk_27 (dk_at dksX2_lowestSawn_0 18 rfl rfl)
theorem dX2_lowestSawn_19 : decode cX2_lowestSawn 19 = .ok (.imul, 1) := dk_104 (dk_at dksX2_lowestSawn_0 19 rfl rfl)
theorem dX2_lowestSawn_20 : decode cX2_lowestSawn 20 = .ok (.iload_n 3, 1) := dk_29 (dk_at dksX2_lowestSawn_0 20 rfl rfl)
theorem dX2_lowestSawn_21 : decode cX2_lowestSawn 21 = .ok (.iadd, 1) := dk_96 (dk_at dksX2_lowestSawn_0 21 rfl rfl)
theorem dX2_lowestSawn_22 : decode cX2_lowestSawn 22 = .ok (.iaload, 1) := dk_46 (dk_at dksX2_lowestSawn_0 22 rfl rfl)
theorem dX2_lowestSawn_23 : decode cX2_lowestSawn 23 = .ok (.ifCond .le 12, 3) := dk_158 0 12 (dk_at dksX2_lowestSawn_1 0 rfl rfl)
theorem dX2_lowestSawn_26 : decode cX2_lowestSawn 26 = .ok (.aload_n 0, 1) := dk_42 (dk_at dksX2_lowestSawn_1 3 rfl rfl)
theorem dX2_lowestSawn_27 : decode cX2_lowestSawn 27 = .ok (.iload_n 1, 1) := dk_27 (dk_at dksX2_lowestSawn_1 4 rfl rfl)
theorem dX2_lowestSawn_28 : decode cX2_lowestSawn 28 = .ok (.iload_n 3, 1) := dk_29 (dk_at dksX2_lowestSawn_1 5 rfl rfl)
theorem dX2_lowestSawn_29 : decode cX2_lowestSawn 29 = .ok (.invokevirtual 115, 3) := dk_182 0 115 (dk_at dksX2_lowestSawn_1 6 rfl rfl)
theorem dX2_lowestSawn_32 : decode cX2_lowestSawn 32 = .ok (.goto 4, 3) := dk_167 0 4 (dk_at dksX2_lowestSawn_1 9 rfl rfl)
theorem dX2_lowestSawn_35 : decode cX2_lowestSawn 35 = .ok (.iconst (-1), 1) := dk_2 (dk_at dksX2_lowestSawn_1 12 rfl rfl)
theorem dX2_lowestSawn_36 : decode cX2_lowestSawn 36 = .ok (.istore 4, 2) := dk_54 4 (dk_at dksX2_lowestSawn_1 13 rfl rfl)
theorem dX2_lowestSawn_38 : decode cX2_lowestSawn 38 = .ok (.iload 4, 2) := dk_21 4 (dk_at dksX2_lowestSawn_1 15 rfl rfl)
theorem dX2_lowestSawn_40 : decode cX2_lowestSawn 40 = .ok (.iconst (-1), 1) := dk_2 (dk_at dksX2_lowestSawn_1 17 rfl rfl)
theorem dX2_lowestSawn_41 : decode cX2_lowestSawn 41 = .ok (.if_icmp .eq 17, 3) := dk_159 0 17 (dk_at dksX2_lowestSawn_1 18 rfl rfl)
theorem dX2_lowestSawn_44 : decode cX2_lowestSawn 44 = .ok (.iload_n 2, 1) := dk_28 (dk_at dksX2_lowestSawn_1 21 rfl rfl)
theorem dX2_lowestSawn_45 : decode cX2_lowestSawn 45 = .ok (.iconst (-1), 1) := dk_2 (dk_at dksX2_lowestSawn_1 22 rfl rfl)
theorem dX2_lowestSawn_46 : decode cX2_lowestSawn 46 = .ok (.if_icmp .eq 9, 3) := dk_159 0 9 (dk_at dksX2_lowestSawn_2 0 rfl rfl)
theorem dX2_lowestSawn_49 : decode cX2_lowestSawn 49 = .ok (.iload 4, 2) := dk_21 4 (dk_at dksX2_lowestSawn_2 3 rfl rfl)
theorem dX2_lowestSawn_51 : decode cX2_lowestSawn 51 = .ok (.iload_n 2, 1) := dk_28 (dk_at dksX2_lowestSawn_2 5 rfl rfl)
theorem dX2_lowestSawn_52 : decode cX2_lowestSawn 52 = .ok (.if_icmp .ge 6, 3) := dk_162 0 6 (dk_at dksX2_lowestSawn_2 6 rfl rfl)
theorem dX2_lowestSawn_55 : decode cX2_lowestSawn 55 = .ok (.iload 4, 2) := dk_21 4 (dk_at dksX2_lowestSawn_2 9 rfl rfl)
theorem dX2_lowestSawn_57 : decode cX2_lowestSawn 57 = .ok (.istore_n 2, 1) := dk_61 (dk_at dksX2_lowestSawn_2 11 rfl rfl)
theorem dX2_lowestSawn_58 : decode cX2_lowestSawn 58 = .ok (.iinc 3 1, 3) := dk_132 3 1 (dk_at dksX2_lowestSawn_2 12 rfl rfl)
theorem dX2_lowestSawn_61 : decode cX2_lowestSawn 61 = .ok (.goto (-57), 3) := dk_167 255 199 (dk_at dksX2_lowestSawn_2 15 rfl rfl)
theorem dX2_lowestSawn_64 : decode cX2_lowestSawn 64 = .ok (.iload_n 2, 1) := dk_28 (dk_at dksX2_lowestSawn_2 18 rfl rfl)
theorem dX2_lowestSawn_65 : decode cX2_lowestSawn 65 = .ok (.ireturn, 1) := dk_172 (dk_at dksX2_lowestSawn_2 19 rfl rfl)
abbrev cX2_cut : ByteArray := prog_17_method_23_code
def yX2_cut : MethodName := ⟨RX2, "cut", "(I)V"⟩
def dkwX2_cut_4 : List UInt8 := [180, 0, 158, 16, 10, 96, 181, 0, 158, 42, 89, 180, 0, 57, 4, 96, 181, 0, 57, 177]
abbrev dktX2_cut_4 : List UInt8 := dkwX2_cut_4 ++ []
def dkwX2_cut_3 : List UInt8 := [27, 46, 42, 27, 182, 0, 145, 183, 0, 148, 181, 0, 151, 42, 180, 0, 20, 42, 27, 182, 0, 155, 50, 89]
abbrev dktX2_cut_3 : List UInt8 := dkwX2_cut_3 ++ dktX2_cut_4
def dkwX2_cut_2 : List UInt8 := [44, 89, 180, 0, 140, 21, 4, 100, 181, 0, 140, 44, 187, 0, 143, 89, 42, 180, 0, 45, 42, 180, 0, 27]
abbrev dktX2_cut_2 : List UInt8 := dkwX2_cut_2 ++ dktX2_cut_3
def dkwX2_cut_1 : List UInt8 := [100, 54, 4, 42, 89, 180, 0, 51, 29, 96, 181, 0, 51, 42, 89, 180, 0, 54, 21, 4, 96, 181, 0, 54]
abbrev dktX2_cut_1 : List UInt8 := dkwX2_cut_1 ++ dktX2_cut_2
def dkwX2_cut_0 : List UInt8 := [42, 180, 0, 20, 27, 50, 77, 42, 44, 42, 180, 0, 27, 27, 46, 182, 0, 87, 62, 44, 182, 0, 84, 29]
abbrev dktX2_cut_0 : List UInt8 := dkwX2_cut_0 ++ dktX2_cut_1
theorem dksX2_cut_0 : cX2_cut.data.toList.drop 0 = dktX2_cut_0 := by decide +kernel
theorem dksX2_cut_1 : cX2_cut.data.toList.drop 24 = dktX2_cut_1 := dk_seg dksX2_cut_0 24 rfl rfl
theorem dksX2_cut_2 : cX2_cut.data.toList.drop 48 = dktX2_cut_2 := dk_seg dksX2_cut_1 24 rfl rfl
theorem dksX2_cut_3 : cX2_cut.data.toList.drop 72 = dktX2_cut_3 := dk_seg dksX2_cut_2 24 rfl rfl
theorem dksX2_cut_4 : cX2_cut.data.toList.drop 96 = dktX2_cut_4 := dk_seg dksX2_cut_3 24 rfl rfl
theorem dX2_cut_0 : decode cX2_cut 0 = .ok (.aload_n 0, 1) := dk_42 (dk_at dksX2_cut_0 0 rfl rfl)
theorem dX2_cut_1 : decode cX2_cut 1 = .ok (.getfield 20, 3) := dk_180 0 20 (dk_at dksX2_cut_0 1 rfl rfl)
theorem dX2_cut_4 : decode cX2_cut 4 = .ok (.iload_n 1, 1) := dk_27 (dk_at dksX2_cut_0 4 rfl rfl)
theorem dX2_cut_5 : decode cX2_cut 5 = .ok (.aaload, 1) := dk_50 (dk_at dksX2_cut_0 5 rfl rfl)
theorem dX2_cut_6 : decode cX2_cut 6 = .ok (.astore_n 2, 1) := dk_77 (dk_at dksX2_cut_0 6 rfl rfl)
theorem dX2_cut_7 : decode cX2_cut 7 = .ok (.aload_n 0, 1) := dk_42 (dk_at dksX2_cut_0 7 rfl rfl)
theorem dX2_cut_8 : decode cX2_cut 8 = .ok (.aload_n 2, 1) := dk_44 (dk_at dksX2_cut_0 8 rfl rfl)
theorem dX2_cut_9 : decode cX2_cut 9 = .ok (.aload_n 0, 1) := dk_42 (dk_at dksX2_cut_0 9 rfl rfl)
theorem dX2_cut_10 : decode cX2_cut 10 = .ok (.getfield 27, 3) := dk_180 0 27 (dk_at dksX2_cut_0 10 rfl rfl)
theorem dX2_cut_13 : decode cX2_cut 13 = .ok (.iload_n 1, 1) := dk_27 (dk_at dksX2_cut_0 13 rfl rfl)
theorem dX2_cut_14 : decode cX2_cut 14 = .ok (.iaload, 1) := dk_46 (dk_at dksX2_cut_0 14 rfl rfl)
theorem dX2_cut_15 : decode cX2_cut 15 = .ok (.invokevirtual 87, 3) := dk_182 0 87 (dk_at dksX2_cut_0 15 rfl rfl)
theorem dX2_cut_18 : decode cX2_cut 18 = .ok (.istore_n 3, 1) := dk_62 (dk_at dksX2_cut_0 18 rfl rfl)
theorem dX2_cut_19 : decode cX2_cut 19 = .ok (.aload_n 2, 1) := dk_44 (dk_at dksX2_cut_0 19 rfl rfl)
theorem dX2_cut_20 : decode cX2_cut 20 = .ok (.invokevirtual 84, 3) := dk_182 0 84 (dk_at dksX2_cut_0 20 rfl rfl)
theorem dX2_cut_23 : decode cX2_cut 23 = .ok (.iload_n 3, 1) := dk_29 (dk_at dksX2_cut_0 23 rfl rfl)
theorem dX2_cut_24 : decode cX2_cut 24 = .ok (.isub, 1) := dk_100 (dk_at dksX2_cut_1 0 rfl rfl)
theorem dX2_cut_25 : decode cX2_cut 25 = .ok (.istore 4, 2) := dk_54 4 (dk_at dksX2_cut_1 1 rfl rfl)
theorem dX2_cut_27 : decode cX2_cut 27 = .ok (.aload_n 0, 1) := dk_42 (dk_at dksX2_cut_1 3 rfl rfl)
theorem dX2_cut_28 : decode cX2_cut 28 = .ok (.dup, 1) := dk_89 (dk_at dksX2_cut_1 4 rfl rfl)
theorem dX2_cut_29 : decode cX2_cut 29 = .ok (.getfield 51, 3) := dk_180 0 51 (dk_at dksX2_cut_1 5 rfl rfl)
theorem dX2_cut_32 : decode cX2_cut 32 = .ok (.iload_n 3, 1) := dk_29 (dk_at dksX2_cut_1 8 rfl rfl)
theorem dX2_cut_33 : decode cX2_cut 33 = .ok (.iadd, 1) := dk_96 (dk_at dksX2_cut_1 9 rfl rfl)
theorem dX2_cut_34 : decode cX2_cut 34 = .ok (.putfield 51, 3) := dk_181 0 51 (dk_at dksX2_cut_1 10 rfl rfl)
theorem dX2_cut_37 : decode cX2_cut 37 = .ok (.aload_n 0, 1) := dk_42 (dk_at dksX2_cut_1 13 rfl rfl)
theorem dX2_cut_38 : decode cX2_cut 38 = .ok (.dup, 1) := dk_89 (dk_at dksX2_cut_1 14 rfl rfl)
theorem dX2_cut_39 : decode cX2_cut 39 = .ok (.getfield 54, 3) := dk_180 0 54 (dk_at dksX2_cut_1 15 rfl rfl)
theorem dX2_cut_42 : decode cX2_cut 42 = .ok (.iload 4, 2) := dk_21 4 (dk_at dksX2_cut_1 18 rfl rfl)
theorem dX2_cut_44 : decode cX2_cut 44 = .ok (.iadd, 1) := dk_96 (dk_at dksX2_cut_1 20 rfl rfl)
theorem dX2_cut_45 : decode cX2_cut 45 = .ok (.putfield 54, 3) := dk_181 0 54 (dk_at dksX2_cut_1 21 rfl rfl)
theorem dX2_cut_48 : decode cX2_cut 48 = .ok (.aload_n 2, 1) := dk_44 (dk_at dksX2_cut_2 0 rfl rfl)
theorem dX2_cut_49 : decode cX2_cut 49 = .ok (.dup, 1) := dk_89 (dk_at dksX2_cut_2 1 rfl rfl)
theorem dX2_cut_50 : decode cX2_cut 50 = .ok (.getfield 140, 3) := dk_180 0 140 (dk_at dksX2_cut_2 2 rfl rfl)
theorem dX2_cut_53 : decode cX2_cut 53 = .ok (.iload 4, 2) := dk_21 4 (dk_at dksX2_cut_2 5 rfl rfl)
theorem dX2_cut_55 : decode cX2_cut 55 = .ok (.isub, 1) := dk_100 (dk_at dksX2_cut_2 7 rfl rfl)
theorem dX2_cut_56 : decode cX2_cut 56 = .ok (.putfield 140, 3) := dk_181 0 140 (dk_at dksX2_cut_2 8 rfl rfl)
theorem dX2_cut_59 : decode cX2_cut 59 = .ok (.aload_n 2, 1) := dk_44 (dk_at dksX2_cut_2 11 rfl rfl)
theorem dX2_cut_60 : decode cX2_cut 60 = .ok (.new 143, 3) := dk_187 0 143 (dk_at dksX2_cut_2 12 rfl rfl)
theorem dX2_cut_63 : decode cX2_cut 63 = .ok (.dup, 1) := dk_89 (dk_at dksX2_cut_2 15 rfl rfl)
theorem dX2_cut_64 : decode cX2_cut 64 = .ok (.aload_n 0, 1) := dk_42 (dk_at dksX2_cut_2 16 rfl rfl)
theorem dX2_cut_65 : decode cX2_cut 65 = .ok (.getfield 45, 3) := dk_180 0 45 (dk_at dksX2_cut_2 17 rfl rfl)
theorem dX2_cut_68 : decode cX2_cut 68 = .ok (.aload_n 0, 1) := dk_42 (dk_at dksX2_cut_2 20 rfl rfl)
theorem dX2_cut_69 : decode cX2_cut 69 = .ok (.getfield 27, 3) := dk_180 0 27 (dk_at dksX2_cut_2 21 rfl rfl)
theorem dX2_cut_72 : decode cX2_cut 72 = .ok (.iload_n 1, 1) := dk_27 (dk_at dksX2_cut_3 0 rfl rfl)
theorem dX2_cut_73 : decode cX2_cut 73 = .ok (.iaload, 1) := dk_46 (dk_at dksX2_cut_3 1 rfl rfl)
theorem dX2_cut_74 : decode cX2_cut 74 = .ok (.aload_n 0, 1) := dk_42 (dk_at dksX2_cut_3 2 rfl rfl)
theorem dX2_cut_75 : decode cX2_cut 75 = .ok (.iload_n 1, 1) := dk_27 (dk_at dksX2_cut_3 3 rfl rfl)
theorem dX2_cut_76 : decode cX2_cut 76 = .ok (.invokevirtual 145, 3) := dk_182 0 145 (dk_at dksX2_cut_3 4 rfl rfl)
theorem dX2_cut_79 : decode cX2_cut 79 = .ok (.invokespecial 148, 3) := dk_183 0 148 (dk_at dksX2_cut_3 7 rfl rfl)
theorem dX2_cut_82 : decode cX2_cut 82 = .ok (.putfield 151, 3) := dk_181 0 151 (dk_at dksX2_cut_3 10 rfl rfl)
theorem dX2_cut_85 : decode cX2_cut 85 = .ok (.aload_n 0, 1) := dk_42 (dk_at dksX2_cut_3 13 rfl rfl)
theorem dX2_cut_86 : decode cX2_cut 86 = .ok (.getfield 20, 3) := dk_180 0 20 (dk_at dksX2_cut_3 14 rfl rfl)
theorem dX2_cut_89 : decode cX2_cut 89 = .ok (.aload_n 0, 1) := dk_42 (dk_at dksX2_cut_3 17 rfl rfl)
theorem dX2_cut_90 : decode cX2_cut 90 = .ok (.iload_n 1, 1) := dk_27 (dk_at dksX2_cut_3 18 rfl rfl)
theorem dX2_cut_91 : decode cX2_cut 91 = .ok (.invokevirtual 155, 3) := dk_182 0 155 (dk_at dksX2_cut_3 19 rfl rfl)
theorem dX2_cut_94 : decode cX2_cut 94 = .ok (.aaload, 1) := dk_50 (dk_at dksX2_cut_3 22 rfl rfl)
theorem dX2_cut_95 : decode cX2_cut 95 = .ok (.dup, 1) := dk_89 (dk_at dksX2_cut_3 23 rfl rfl)
theorem dX2_cut_96 : decode cX2_cut 96 = .ok (.getfield 158, 3) := dk_180 0 158 (dk_at dksX2_cut_4 0 rfl rfl)
theorem dX2_cut_99 : decode cX2_cut 99 = .ok (.bipush 10, 2) := dk_16 10 (dk_at dksX2_cut_4 3 rfl rfl)
theorem dX2_cut_101 : decode cX2_cut 101 = .ok (.iadd, 1) := dk_96 (dk_at dksX2_cut_4 5 rfl rfl)
theorem dX2_cut_102 : decode cX2_cut 102 = .ok (.putfield 158, 3) := dk_181 0 158 (dk_at dksX2_cut_4 6 rfl rfl)
theorem dX2_cut_105 : decode cX2_cut 105 = .ok (.aload_n 0, 1) := dk_42 (dk_at dksX2_cut_4 9 rfl rfl)
theorem dX2_cut_106 : decode cX2_cut 106 = .ok (.dup, 1) := dk_89 (dk_at dksX2_cut_4 10 rfl rfl)
theorem dX2_cut_107 : decode cX2_cut 107 = .ok (.getfield 57, 3) := dk_180 0 57 (dk_at dksX2_cut_4 11 rfl rfl)
theorem dX2_cut_110 : decode cX2_cut 110 = .ok (.iconst 1, 1) := dk_4 (dk_at dksX2_cut_4 14 rfl rfl)
theorem dX2_cut_111 : decode cX2_cut 111 = .ok (.iadd, 1) := dk_96 (dk_at dksX2_cut_4 15 rfl rfl)
theorem dX2_cut_112 : decode cX2_cut 112 = .ok (.putfield 57, 3) := dk_181 0 57 (dk_at dksX2_cut_4 16 rfl rfl)
theorem dX2_cut_115 : decode cX2_cut 115 = .ok (.return_, 1) := dk_177 (dk_at dksX2_cut_4 19 rfl rfl)
abbrev cX2_sawers : ByteArray := prog_17_method_19_code
def yX2_sawers : MethodName := ⟨RX2, "sawers", "(I)I"⟩
def dkwX2_sawers_1 : List UInt8 := [158, 0, 9, 4, 29, 120, 167, 0, 4, 3, 128, 61, 132, 3, 1, 167, 255, 221, 28, 172]
abbrev dktX2_sawers_1 : List UInt8 := dkwX2_sawers_1 ++ []
def dkwX2_sawers_0 : List UInt8 := [3, 61, 3, 62, 29, 42, 180, 0, 37, 162, 0, 33, 28, 42, 180, 0, 24, 16, 6, 27, 104, 29, 96, 46]
abbrev dktX2_sawers_0 : List UInt8 := dkwX2_sawers_0 ++ dktX2_sawers_1
theorem dksX2_sawers_0 : cX2_sawers.data.toList.drop 0 = dktX2_sawers_0 := by decide +kernel
theorem dksX2_sawers_1 : cX2_sawers.data.toList.drop 24 = dktX2_sawers_1 := dk_seg dksX2_sawers_0 24 rfl rfl
theorem dX2_sawers_0 : decode cX2_sawers 0 = .ok (.iconst 0, 1) := dk_3 (dk_at dksX2_sawers_0 0 rfl rfl)
theorem dX2_sawers_1 : decode cX2_sawers 1 = .ok (.istore_n 2, 1) := dk_61 (dk_at dksX2_sawers_0 1 rfl rfl)
theorem dX2_sawers_2 : decode cX2_sawers 2 = .ok (.iconst 0, 1) := dk_3 (dk_at dksX2_sawers_0 2 rfl rfl)
theorem dX2_sawers_3 : decode cX2_sawers 3 = .ok (.istore_n 3, 1) := dk_62 (dk_at dksX2_sawers_0 3 rfl rfl)
theorem dX2_sawers_4 : decode cX2_sawers 4 = .ok (.iload_n 3, 1) := dk_29 (dk_at dksX2_sawers_0 4 rfl rfl)
theorem dX2_sawers_5 : decode cX2_sawers 5 = .ok (.aload_n 0, 1) := dk_42 (dk_at dksX2_sawers_0 5 rfl rfl)
theorem dX2_sawers_6 : decode cX2_sawers 6 = .ok (.getfield 37, 3) := dk_180 0 37 (dk_at dksX2_sawers_0 6 rfl rfl)
theorem dX2_sawers_9 : decode cX2_sawers 9 = .ok (.if_icmp .ge 33, 3) := dk_162 0 33 (dk_at dksX2_sawers_0 9 rfl rfl)
theorem dX2_sawers_12 : decode cX2_sawers 12 = .ok (.iload_n 2, 1) := dk_28 (dk_at dksX2_sawers_0 12 rfl rfl)
theorem dX2_sawers_13 : decode cX2_sawers 13 = .ok (.aload_n 0, 1) := dk_42 (dk_at dksX2_sawers_0 13 rfl rfl)
theorem dX2_sawers_14 : decode cX2_sawers 14 = .ok (.getfield 24, 3) := dk_180 0 24 (dk_at dksX2_sawers_0 14 rfl rfl)
theorem dX2_sawers_17 : decode cX2_sawers 17 = .ok (.bipush 6, 2) := dk_16 6 (dk_at dksX2_sawers_0 17 rfl rfl)
theorem dX2_sawers_19 : decode cX2_sawers 19 = .ok (.iload_n 1, 1) := dk_27 (dk_at dksX2_sawers_0 19 rfl rfl)
theorem dX2_sawers_20 : decode cX2_sawers 20 = .ok (.imul, 1) := dk_104 (dk_at dksX2_sawers_0 20 rfl rfl)
theorem dX2_sawers_21 : decode cX2_sawers 21 = .ok (.iload_n 3, 1) := dk_29 (dk_at dksX2_sawers_0 21 rfl rfl)
theorem dX2_sawers_22 : decode cX2_sawers 22 = .ok (.iadd, 1) := dk_96 (dk_at dksX2_sawers_0 22 rfl rfl)
theorem dX2_sawers_23 : decode cX2_sawers 23 = .ok (.iaload, 1) := dk_46 (dk_at dksX2_sawers_0 23 rfl rfl)
theorem dX2_sawers_24 : decode cX2_sawers 24 = .ok (.ifCond .le 9, 3) := dk_158 0 9 (dk_at dksX2_sawers_1 0 rfl rfl)
theorem dX2_sawers_27 : decode cX2_sawers 27 = .ok (.iconst 1, 1) := dk_4 (dk_at dksX2_sawers_1 3 rfl rfl)
theorem dX2_sawers_28 : decode cX2_sawers 28 = .ok (.iload_n 3, 1) := dk_29 (dk_at dksX2_sawers_1 4 rfl rfl)
theorem dX2_sawers_29 : decode cX2_sawers 29 = .ok (.ishl, 1) := dk_120 (dk_at dksX2_sawers_1 5 rfl rfl)
theorem dX2_sawers_30 : decode cX2_sawers 30 = .ok (.goto 4, 3) := dk_167 0 4 (dk_at dksX2_sawers_1 6 rfl rfl)
theorem dX2_sawers_33 : decode cX2_sawers 33 = .ok (.iconst 0, 1) := dk_3 (dk_at dksX2_sawers_1 9 rfl rfl)
theorem dX2_sawers_34 : decode cX2_sawers 34 = .ok (.ior, 1) := dk_128 (dk_at dksX2_sawers_1 10 rfl rfl)
theorem dX2_sawers_35 : decode cX2_sawers 35 = .ok (.istore_n 2, 1) := dk_61 (dk_at dksX2_sawers_1 11 rfl rfl)
theorem dX2_sawers_36 : decode cX2_sawers 36 = .ok (.iinc 3 1, 3) := dk_132 3 1 (dk_at dksX2_sawers_1 12 rfl rfl)
theorem dX2_sawers_39 : decode cX2_sawers 39 = .ok (.goto (-35), 3) := dk_167 255 221 (dk_at dksX2_sawers_1 15 rfl rfl)
theorem dX2_sawers_42 : decode cX2_sawers 42 = .ok (.iload_n 2, 1) := dk_28 (dk_at dksX2_sawers_1 18 rfl rfl)
theorem dX2_sawers_43 : decode cX2_sawers 43 = .ok (.ireturn, 1) := dk_172 (dk_at dksX2_sawers_1 19 rfl rfl)
abbrev cX2_cutter : ByteArray := prog_17_method_20_code
def yX2_cutter : MethodName := ⟨RX2, "cutter", "(I)I"⟩
def dkwX2_cutter_1 : List UInt8 := [180, 0, 24, 16, 6, 27, 104, 28, 96, 46, 164, 0, 5, 29, 61, 132, 3, 1, 167, 255, 218, 28, 172]
abbrev dktX2_cutter_1 : List UInt8 := dkwX2_cutter_1 ++ []
def dkwX2_cutter_0 : List UInt8 := [3, 61, 4, 62, 29, 42, 180, 0, 37, 162, 0, 36, 42, 180, 0, 24, 16, 6, 27, 104, 29, 96, 46, 42]
abbrev dktX2_cutter_0 : List UInt8 := dkwX2_cutter_0 ++ dktX2_cutter_1
theorem dksX2_cutter_0 : cX2_cutter.data.toList.drop 0 = dktX2_cutter_0 := by decide +kernel
theorem dksX2_cutter_1 : cX2_cutter.data.toList.drop 24 = dktX2_cutter_1 := dk_seg dksX2_cutter_0 24 rfl rfl
theorem dX2_cutter_0 : decode cX2_cutter 0 = .ok (.iconst 0, 1) := dk_3 (dk_at dksX2_cutter_0 0 rfl rfl)
theorem dX2_cutter_1 : decode cX2_cutter 1 = .ok (.istore_n 2, 1) := dk_61 (dk_at dksX2_cutter_0 1 rfl rfl)
theorem dX2_cutter_2 : decode cX2_cutter 2 = .ok (.iconst 1, 1) := dk_4 (dk_at dksX2_cutter_0 2 rfl rfl)
theorem dX2_cutter_3 : decode cX2_cutter 3 = .ok (.istore_n 3, 1) := dk_62 (dk_at dksX2_cutter_0 3 rfl rfl)
theorem dX2_cutter_4 : decode cX2_cutter 4 = .ok (.iload_n 3, 1) := dk_29 (dk_at dksX2_cutter_0 4 rfl rfl)
theorem dX2_cutter_5 : decode cX2_cutter 5 = .ok (.aload_n 0, 1) := dk_42 (dk_at dksX2_cutter_0 5 rfl rfl)
theorem dX2_cutter_6 : decode cX2_cutter 6 = .ok (.getfield 37, 3) := dk_180 0 37 (dk_at dksX2_cutter_0 6 rfl rfl)
theorem dX2_cutter_9 : decode cX2_cutter 9 = .ok (.if_icmp .ge 36, 3) := dk_162 0 36 (dk_at dksX2_cutter_0 9 rfl rfl)
theorem dX2_cutter_12 : decode cX2_cutter 12 = .ok (.aload_n 0, 1) := dk_42 (dk_at dksX2_cutter_0 12 rfl rfl)
theorem dX2_cutter_13 : decode cX2_cutter 13 = .ok (.getfield 24, 3) := dk_180 0 24 (dk_at dksX2_cutter_0 13 rfl rfl)
theorem dX2_cutter_16 : decode cX2_cutter 16 = .ok (.bipush 6, 2) := dk_16 6 (dk_at dksX2_cutter_0 16 rfl rfl)
theorem dX2_cutter_18 : decode cX2_cutter 18 = .ok (.iload_n 1, 1) := dk_27 (dk_at dksX2_cutter_0 18 rfl rfl)
theorem dX2_cutter_19 : decode cX2_cutter 19 = .ok (.imul, 1) := dk_104 (dk_at dksX2_cutter_0 19 rfl rfl)
theorem dX2_cutter_20 : decode cX2_cutter 20 = .ok (.iload_n 3, 1) := dk_29 (dk_at dksX2_cutter_0 20 rfl rfl)
theorem dX2_cutter_21 : decode cX2_cutter 21 = .ok (.iadd, 1) := dk_96 (dk_at dksX2_cutter_0 21 rfl rfl)
theorem dX2_cutter_22 : decode cX2_cutter 22 = .ok (.iaload, 1) := dk_46 (dk_at dksX2_cutter_0 22 rfl rfl)
theorem dX2_cutter_23 : decode cX2_cutter 23 = .ok (.aload_n 0, 1) := dk_42 (dk_at dksX2_cutter_0 23 rfl rfl)
theorem dX2_cutter_24 : decode cX2_cutter 24 = .ok (.getfield 24, 3) := dk_180 0 24 (dk_at dksX2_cutter_1 0 rfl rfl)
theorem dX2_cutter_27 : decode cX2_cutter 27 = .ok (.bipush 6, 2) := dk_16 6 (dk_at dksX2_cutter_1 3 rfl rfl)
theorem dX2_cutter_29 : decode cX2_cutter 29 = .ok (.iload_n 1, 1) := dk_27 (dk_at dksX2_cutter_1 5 rfl rfl)
theorem dX2_cutter_30 : decode cX2_cutter 30 = .ok (.imul, 1) := dk_104 (dk_at dksX2_cutter_1 6 rfl rfl)
theorem dX2_cutter_31 : decode cX2_cutter 31 = .ok (.iload_n 2, 1) := dk_28 (dk_at dksX2_cutter_1 7 rfl rfl)
theorem dX2_cutter_32 : decode cX2_cutter 32 = .ok (.iadd, 1) := dk_96 (dk_at dksX2_cutter_1 8 rfl rfl)
theorem dX2_cutter_33 : decode cX2_cutter 33 = .ok (.iaload, 1) := dk_46 (dk_at dksX2_cutter_1 9 rfl rfl)
theorem dX2_cutter_34 : decode cX2_cutter 34 = .ok (.if_icmp .le 5, 3) := dk_164 0 5 (dk_at dksX2_cutter_1 10 rfl rfl)
theorem dX2_cutter_37 : decode cX2_cutter 37 = .ok (.iload_n 3, 1) := dk_29 (dk_at dksX2_cutter_1 13 rfl rfl)
theorem dX2_cutter_38 : decode cX2_cutter 38 = .ok (.istore_n 2, 1) := dk_61 (dk_at dksX2_cutter_1 14 rfl rfl)
theorem dX2_cutter_39 : decode cX2_cutter 39 = .ok (.iinc 3 1, 3) := dk_132 3 1 (dk_at dksX2_cutter_1 15 rfl rfl)
theorem dX2_cutter_42 : decode cX2_cutter 42 = .ok (.goto (-38), 3) := dk_167 255 218 (dk_at dksX2_cutter_1 18 rfl rfl)
theorem dX2_cutter_45 : decode cX2_cutter 45 = .ok (.iload_n 2, 1) := dk_28 (dk_at dksX2_cutter_1 21 rfl rfl)
theorem dX2_cutter_46 : decode cX2_cutter 46 = .ok (.ireturn, 1) := dk_172 (dk_at dksX2_cutter_1 22 rfl rfl)
abbrev cX2_crossings : ByteArray := prog_17_method_14_code
def yX2_crossings : MethodName := ⟨RX2, "crossings", "()I"⟩
def dkwX2_crossings_2 : List UInt8 := [167, 255, 214, 27, 172]
abbrev dktX2_crossings_2 : List UInt8 := dkwX2_crossings_2 ++ []
def dkwX2_crossings_1 : List UInt8 := [182, 0, 115, 2, 159, 0, 7, 4, 167, 0, 4, 3, 96, 60, 132, 3, 1, 167, 255, 230, 132, 2, 1]
abbrev dktX2_crossings_1 : List UInt8 := dkwX2_crossings_1 ++ dktX2_crossings_2
def dkwX2_crossings_0 : List UInt8 := [3, 60, 3, 61, 28, 42, 180, 0, 37, 162, 0, 40, 3, 62, 29, 28, 162, 0, 27, 27, 42, 28, 29]
abbrev dktX2_crossings_0 : List UInt8 := dkwX2_crossings_0 ++ dktX2_crossings_1
theorem dksX2_crossings_0 : cX2_crossings.data.toList.drop 0 = dktX2_crossings_0 := by decide +kernel
theorem dksX2_crossings_1 : cX2_crossings.data.toList.drop 23 = dktX2_crossings_1 := dk_seg dksX2_crossings_0 23 rfl rfl
theorem dksX2_crossings_2 : cX2_crossings.data.toList.drop 46 = dktX2_crossings_2 := dk_seg dksX2_crossings_1 23 rfl rfl
theorem dX2_crossings_0 : decode cX2_crossings 0 = .ok (.iconst 0, 1) := dk_3 (dk_at dksX2_crossings_0 0 rfl rfl)
theorem dX2_crossings_1 : decode cX2_crossings 1 = .ok (.istore_n 1, 1) := dk_60 (dk_at dksX2_crossings_0 1 rfl rfl)
theorem dX2_crossings_2 : decode cX2_crossings 2 = .ok (.iconst 0, 1) := dk_3 (dk_at dksX2_crossings_0 2 rfl rfl)
theorem dX2_crossings_3 : decode cX2_crossings 3 = .ok (.istore_n 2, 1) := dk_61 (dk_at dksX2_crossings_0 3 rfl rfl)
theorem dX2_crossings_4 : decode cX2_crossings 4 = .ok (.iload_n 2, 1) := dk_28 (dk_at dksX2_crossings_0 4 rfl rfl)
theorem dX2_crossings_5 : decode cX2_crossings 5 = .ok (.aload_n 0, 1) := dk_42 (dk_at dksX2_crossings_0 5 rfl rfl)
theorem dX2_crossings_6 : decode cX2_crossings 6 = .ok (.getfield 37, 3) := dk_180 0 37 (dk_at dksX2_crossings_0 6 rfl rfl)
theorem dX2_crossings_9 : decode cX2_crossings 9 = .ok (.if_icmp .ge 40, 3) := dk_162 0 40 (dk_at dksX2_crossings_0 9 rfl rfl)
theorem dX2_crossings_12 : decode cX2_crossings 12 = .ok (.iconst 0, 1) := dk_3 (dk_at dksX2_crossings_0 12 rfl rfl)
theorem dX2_crossings_13 : decode cX2_crossings 13 = .ok (.istore_n 3, 1) := dk_62 (dk_at dksX2_crossings_0 13 rfl rfl)
theorem dX2_crossings_14 : decode cX2_crossings 14 = .ok (.iload_n 3, 1) := dk_29 (dk_at dksX2_crossings_0 14 rfl rfl)
theorem dX2_crossings_15 : decode cX2_crossings 15 = .ok (.iload_n 2, 1) := dk_28 (dk_at dksX2_crossings_0 15 rfl rfl)
theorem dX2_crossings_16 : decode cX2_crossings 16 = .ok (.if_icmp .ge 27, 3) := dk_162 0 27 (dk_at dksX2_crossings_0 16 rfl rfl)
theorem dX2_crossings_19 : decode cX2_crossings 19 = .ok (.iload_n 1, 1) := dk_27 (dk_at dksX2_crossings_0 19 rfl rfl)
theorem dX2_crossings_20 : decode cX2_crossings 20 = .ok (.aload_n 0, 1) := dk_42 (dk_at dksX2_crossings_0 20 rfl rfl)
theorem dX2_crossings_21 : decode cX2_crossings 21 = .ok (.iload_n 2, 1) := dk_28 (dk_at dksX2_crossings_0 21 rfl rfl)
theorem dX2_crossings_22 : decode cX2_crossings 22 = .ok (.iload_n 3, 1) := dk_29 (dk_at dksX2_crossings_0 22 rfl rfl)
theorem dX2_crossings_23 : decode cX2_crossings 23 = .ok (.invokevirtual 115, 3) := dk_182 0 115 (dk_at dksX2_crossings_1 0 rfl rfl)
theorem dX2_crossings_26 : decode cX2_crossings 26 = .ok (.iconst (-1), 1) := dk_2 (dk_at dksX2_crossings_1 3 rfl rfl)
theorem dX2_crossings_27 : decode cX2_crossings 27 = .ok (.if_icmp .eq 7, 3) := dk_159 0 7 (dk_at dksX2_crossings_1 4 rfl rfl)
theorem dX2_crossings_30 : decode cX2_crossings 30 = .ok (.iconst 1, 1) := dk_4 (dk_at dksX2_crossings_1 7 rfl rfl)
theorem dX2_crossings_31 : decode cX2_crossings 31 = .ok (.goto 4, 3) := dk_167 0 4 (dk_at dksX2_crossings_1 8 rfl rfl)
theorem dX2_crossings_34 : decode cX2_crossings 34 = .ok (.iconst 0, 1) := dk_3 (dk_at dksX2_crossings_1 11 rfl rfl)
theorem dX2_crossings_35 : decode cX2_crossings 35 = .ok (.iadd, 1) := dk_96 (dk_at dksX2_crossings_1 12 rfl rfl)
theorem dX2_crossings_36 : decode cX2_crossings 36 = .ok (.istore_n 1, 1) := dk_60 (dk_at dksX2_crossings_1 13 rfl rfl)
theorem dX2_crossings_37 : decode cX2_crossings 37 = .ok (.iinc 3 1, 3) := dk_132 3 1 (dk_at dksX2_crossings_1 14 rfl rfl)
theorem dX2_crossings_40 : decode cX2_crossings 40 = .ok (.goto (-26), 3) := dk_167 255 230 (dk_at dksX2_crossings_1 17 rfl rfl)
theorem dX2_crossings_43 : decode cX2_crossings 43 = .ok (.iinc 2 1, 3) := dk_132 2 1 (dk_at dksX2_crossings_1 20 rfl rfl)
theorem dX2_crossings_46 : decode cX2_crossings 46 = .ok (.goto (-42), 3) := dk_167 255 214 (dk_at dksX2_crossings_2 0 rfl rfl)
theorem dX2_crossings_49 : decode cX2_crossings 49 = .ok (.iload_n 1, 1) := dk_27 (dk_at dksX2_crossings_2 3 rfl rfl)
theorem dX2_crossings_50 : decode cX2_crossings 50 = .ok (.ireturn, 1) := dk_172 (dk_at dksX2_crossings_2 4 rfl rfl)
abbrev cX2_points : ByteArray := prog_17_method_38_code
def yX2_points : MethodName := ⟨RX2, "points", "()I"⟩
def dkwX2_points_1 : List UInt8 := [132, 2, 1, 167, 255, 233, 27, 172]
abbrev dktX2_points_1 : List UInt8 := dkwX2_points_1 ++ []
def dkwX2_points_0 : List UInt8 := [3, 60, 3, 61, 28, 42, 180, 0, 37, 162, 0, 21, 27, 42, 180, 0, 20, 28, 50, 180, 0, 158, 96, 60]
abbrev dktX2_points_0 : List UInt8 := dkwX2_points_0 ++ dktX2_points_1
theorem dksX2_points_0 : cX2_points.data.toList.drop 0 = dktX2_points_0 := by decide +kernel
theorem dksX2_points_1 : cX2_points.data.toList.drop 24 = dktX2_points_1 := dk_seg dksX2_points_0 24 rfl rfl
theorem dX2_points_0 : decode cX2_points 0 = .ok (.iconst 0, 1) := dk_3 (dk_at dksX2_points_0 0 rfl rfl)
theorem dX2_points_1 : decode cX2_points 1 = .ok (.istore_n 1, 1) := dk_60 (dk_at dksX2_points_0 1 rfl rfl)
theorem dX2_points_2 : decode cX2_points 2 = .ok (.iconst 0, 1) := dk_3 (dk_at dksX2_points_0 2 rfl rfl)
theorem dX2_points_3 : decode cX2_points 3 = .ok (.istore_n 2, 1) := dk_61 (dk_at dksX2_points_0 3 rfl rfl)
theorem dX2_points_4 : decode cX2_points 4 = .ok (.iload_n 2, 1) := dk_28 (dk_at dksX2_points_0 4 rfl rfl)
theorem dX2_points_5 : decode cX2_points 5 = .ok (.aload_n 0, 1) := dk_42 (dk_at dksX2_points_0 5 rfl rfl)
theorem dX2_points_6 : decode cX2_points 6 = .ok (.getfield 37, 3) := dk_180 0 37 (dk_at dksX2_points_0 6 rfl rfl)
theorem dX2_points_9 : decode cX2_points 9 = .ok (.if_icmp .ge 21, 3) := dk_162 0 21 (dk_at dksX2_points_0 9 rfl rfl)
theorem dX2_points_12 : decode cX2_points 12 = .ok (.iload_n 1, 1) := dk_27 (dk_at dksX2_points_0 12 rfl rfl)
theorem dX2_points_13 : decode cX2_points 13 = .ok (.aload_n 0, 1) := dk_42 (dk_at dksX2_points_0 13 rfl rfl)
theorem dX2_points_14 : decode cX2_points 14 = .ok (.getfield 20, 3) := dk_180 0 20 (dk_at dksX2_points_0 14 rfl rfl)
theorem dX2_points_17 : decode cX2_points 17 = .ok (.iload_n 2, 1) := dk_28 (dk_at dksX2_points_0 17 rfl rfl)
theorem dX2_points_18 : decode cX2_points 18 = .ok (.aaload, 1) := dk_50 (dk_at dksX2_points_0 18 rfl rfl)
theorem dX2_points_19 : decode cX2_points 19 = .ok (.getfield 158, 3) := dk_180 0 158 (dk_at dksX2_points_0 19 rfl rfl)
theorem dX2_points_22 : decode cX2_points 22 = .ok (.iadd, 1) := dk_96 (dk_at dksX2_points_0 22 rfl rfl)
theorem dX2_points_23 : decode cX2_points 23 = .ok (.istore_n 1, 1) := dk_60 (dk_at dksX2_points_0 23 rfl rfl)
theorem dX2_points_24 : decode cX2_points 24 = .ok (.iinc 2 1, 3) := dk_132 2 1 (dk_at dksX2_points_1 0 rfl rfl)
theorem dX2_points_27 : decode cX2_points 27 = .ok (.goto (-23), 3) := dk_167 255 233 (dk_at dksX2_points_1 3 rfl rfl)
theorem dX2_points_30 : decode cX2_points 30 = .ok (.iload_n 1, 1) := dk_27 (dk_at dksX2_points_1 6 rfl rfl)
theorem dX2_points_31 : decode cX2_points 31 = .ok (.ireturn, 1) := dk_172 (dk_at dksX2_points_1 7 rfl rfl)
abbrev cX2_tensions : ByteArray := prog_17_method_39_code
def yX2_tensions : MethodName := ⟨RX2, "tensions", "()I"⟩
def dkwX2_tensions_1 : List UInt8 := [60, 132, 2, 1, 167, 255, 232, 27, 172]
abbrev dktX2_tensions_1 : List UInt8 := dkwX2_tensions_1 ++ []
def dkwX2_tensions_0 : List UInt8 := [3, 60, 3, 61, 28, 42, 180, 0, 37, 162, 0, 22, 27, 42, 42, 180, 0, 20, 28, 50, 182, 0, 118, 96]
abbrev dktX2_tensions_0 : List UInt8 := dkwX2_tensions_0 ++ dktX2_tensions_1
theorem dksX2_tensions_0 : cX2_tensions.data.toList.drop 0 = dktX2_tensions_0 := by decide +kernel
theorem dksX2_tensions_1 : cX2_tensions.data.toList.drop 24 = dktX2_tensions_1 := dk_seg dksX2_tensions_0 24 rfl rfl
theorem dX2_tensions_0 : decode cX2_tensions 0 = .ok (.iconst 0, 1) := dk_3 (dk_at dksX2_tensions_0 0 rfl rfl)
theorem dX2_tensions_1 : decode cX2_tensions 1 = .ok (.istore_n 1, 1) := dk_60 (dk_at dksX2_tensions_0 1 rfl rfl)
theorem dX2_tensions_2 : decode cX2_tensions 2 = .ok (.iconst 0, 1) := dk_3 (dk_at dksX2_tensions_0 2 rfl rfl)
theorem dX2_tensions_3 : decode cX2_tensions 3 = .ok (.istore_n 2, 1) := dk_61 (dk_at dksX2_tensions_0 3 rfl rfl)
theorem dX2_tensions_4 : decode cX2_tensions 4 = .ok (.iload_n 2, 1) := dk_28 (dk_at dksX2_tensions_0 4 rfl rfl)
theorem dX2_tensions_5 : decode cX2_tensions 5 = .ok (.aload_n 0, 1) := dk_42 (dk_at dksX2_tensions_0 5 rfl rfl)
theorem dX2_tensions_6 : decode cX2_tensions 6 = .ok (.getfield 37, 3) := dk_180 0 37 (dk_at dksX2_tensions_0 6 rfl rfl)
theorem dX2_tensions_9 : decode cX2_tensions 9 = .ok (.if_icmp .ge 22, 3) := dk_162 0 22 (dk_at dksX2_tensions_0 9 rfl rfl)
theorem dX2_tensions_12 : decode cX2_tensions 12 = .ok (.iload_n 1, 1) := dk_27 (dk_at dksX2_tensions_0 12 rfl rfl)
theorem dX2_tensions_13 : decode cX2_tensions 13 = .ok (.aload_n 0, 1) := dk_42 (dk_at dksX2_tensions_0 13 rfl rfl)
theorem dX2_tensions_14 : decode cX2_tensions 14 = .ok (.aload_n 0, 1) := dk_42 (dk_at dksX2_tensions_0 14 rfl rfl)
theorem dX2_tensions_15 : decode cX2_tensions 15 = .ok (.getfield 20, 3) := dk_180 0 20 (dk_at dksX2_tensions_0 15 rfl rfl)
theorem dX2_tensions_18 : decode cX2_tensions 18 = .ok (.iload_n 2, 1) := dk_28 (dk_at dksX2_tensions_0 18 rfl rfl)
theorem dX2_tensions_19 : decode cX2_tensions 19 = .ok (.aaload, 1) := dk_50 (dk_at dksX2_tensions_0 19 rfl rfl)
theorem dX2_tensions_20 : decode cX2_tensions 20 = .ok (.invokevirtual 118, 3) := dk_182 0 118 (dk_at dksX2_tensions_0 20 rfl rfl)
theorem dX2_tensions_23 : decode cX2_tensions 23 = .ok (.iadd, 1) := dk_96 (dk_at dksX2_tensions_0 23 rfl rfl)
theorem dX2_tensions_24 : decode cX2_tensions 24 = .ok (.istore_n 1, 1) := dk_60 (dk_at dksX2_tensions_1 0 rfl rfl)
theorem dX2_tensions_25 : decode cX2_tensions 25 = .ok (.iinc 2 1, 3) := dk_132 2 1 (dk_at dksX2_tensions_1 1 rfl rfl)
theorem dX2_tensions_28 : decode cX2_tensions 28 = .ok (.goto (-24), 3) := dk_167 255 232 (dk_at dksX2_tensions_1 4 rfl rfl)
theorem dX2_tensions_31 : decode cX2_tensions 31 = .ok (.iload_n 1, 1) := dk_27 (dk_at dksX2_tensions_1 7 rfl rfl)
theorem dX2_tensions_32 : decode cX2_tensions 32 = .ok (.ireturn, 1) := dk_172 (dk_at dksX2_tensions_1 8 rfl rfl)
abbrev cX2_spools : ByteArray := prog_17_method_37_code
def yX2_spools : MethodName := ⟨RX2, "spools", "()I"⟩
def dkwX2_spools_1 : List UInt8 := [132, 2, 1, 167, 255, 233, 27, 172]
abbrev dktX2_spools_1 : List UInt8 := dkwX2_spools_1 ++ []
def dkwX2_spools_0 : List UInt8 := [3, 60, 3, 61, 28, 42, 180, 0, 37, 162, 0, 21, 27, 42, 180, 0, 20, 28, 50, 180, 0, 140, 96, 60]
abbrev dktX2_spools_0 : List UInt8 := dkwX2_spools_0 ++ dktX2_spools_1
theorem dksX2_spools_0 : cX2_spools.data.toList.drop 0 = dktX2_spools_0 := by decide +kernel
theorem dksX2_spools_1 : cX2_spools.data.toList.drop 24 = dktX2_spools_1 := dk_seg dksX2_spools_0 24 rfl rfl
theorem dX2_spools_0 : decode cX2_spools 0 = .ok (.iconst 0, 1) := dk_3 (dk_at dksX2_spools_0 0 rfl rfl)
theorem dX2_spools_1 : decode cX2_spools 1 = .ok (.istore_n 1, 1) := dk_60 (dk_at dksX2_spools_0 1 rfl rfl)
theorem dX2_spools_2 : decode cX2_spools 2 = .ok (.iconst 0, 1) := dk_3 (dk_at dksX2_spools_0 2 rfl rfl)
theorem dX2_spools_3 : decode cX2_spools 3 = .ok (.istore_n 2, 1) := dk_61 (dk_at dksX2_spools_0 3 rfl rfl)
theorem dX2_spools_4 : decode cX2_spools 4 = .ok (.iload_n 2, 1) := dk_28 (dk_at dksX2_spools_0 4 rfl rfl)
theorem dX2_spools_5 : decode cX2_spools 5 = .ok (.aload_n 0, 1) := dk_42 (dk_at dksX2_spools_0 5 rfl rfl)
theorem dX2_spools_6 : decode cX2_spools 6 = .ok (.getfield 37, 3) := dk_180 0 37 (dk_at dksX2_spools_0 6 rfl rfl)
theorem dX2_spools_9 : decode cX2_spools 9 = .ok (.if_icmp .ge 21, 3) := dk_162 0 21 (dk_at dksX2_spools_0 9 rfl rfl)
theorem dX2_spools_12 : decode cX2_spools 12 = .ok (.iload_n 1, 1) := dk_27 (dk_at dksX2_spools_0 12 rfl rfl)
theorem dX2_spools_13 : decode cX2_spools 13 = .ok (.aload_n 0, 1) := dk_42 (dk_at dksX2_spools_0 13 rfl rfl)
theorem dX2_spools_14 : decode cX2_spools 14 = .ok (.getfield 20, 3) := dk_180 0 20 (dk_at dksX2_spools_0 14 rfl rfl)
theorem dX2_spools_17 : decode cX2_spools 17 = .ok (.iload_n 2, 1) := dk_28 (dk_at dksX2_spools_0 17 rfl rfl)
theorem dX2_spools_18 : decode cX2_spools 18 = .ok (.aaload, 1) := dk_50 (dk_at dksX2_spools_0 18 rfl rfl)
theorem dX2_spools_19 : decode cX2_spools 19 = .ok (.getfield 140, 3) := dk_180 0 140 (dk_at dksX2_spools_0 19 rfl rfl)
theorem dX2_spools_22 : decode cX2_spools 22 = .ok (.iadd, 1) := dk_96 (dk_at dksX2_spools_0 22 rfl rfl)
theorem dX2_spools_23 : decode cX2_spools 23 = .ok (.istore_n 1, 1) := dk_60 (dk_at dksX2_spools_0 23 rfl rfl)
theorem dX2_spools_24 : decode cX2_spools 24 = .ok (.iinc 2 1, 3) := dk_132 2 1 (dk_at dksX2_spools_1 0 rfl rfl)
theorem dX2_spools_27 : decode cX2_spools 27 = .ok (.goto (-23), 3) := dk_167 255 233 (dk_at dksX2_spools_1 3 rfl rfl)
theorem dX2_spools_30 : decode cX2_spools 30 = .ok (.iload_n 1, 1) := dk_27 (dk_at dksX2_spools_1 6 rfl rfl)
theorem dX2_spools_31 : decode cX2_spools 31 = .ok (.ireturn, 1) := dk_172 (dk_at dksX2_spools_1 7 rfl rfl)
theorem q70 : (Jvm.Cond.initialized "KiteRoofs$Town") ∈ lw_all := lw_g (lw_at lw_m1 2 rfl) rfl
theorem q118 : (Jvm.Cond.instantiable "KiteRoofs$Town" (11 : Nat)) ∈ lw_all := lw_g (lw_at lw_m1 50 rfl) rfl
theorem q120 : (Jvm.Cond.instanceMethod ({ cls := "KiteRoofs$Town", name := "<init>", desc := "()V" } : Jvm.MethodName)) ∈ lw_all := lw_g (lw_at lw_m1 52 rfl) rfl
theorem q121 : (Jvm.Cond.code ({ cls := "KiteRoofs$Town", name := "<init>", desc := "()V" } : Jvm.MethodName) prog_17_method_1_code (2 : Nat) (Option.none : Option Jvm.ClassFile.FieldType)) ∈ lw_all := lw_g (lw_at lw_m1 53 rfl) rfl
theorem q122 : (Jvm.Cond.methodLink "KiteRoofs$Town" (3 : Nat) ({ cls := "java/lang/Object", name := "<init>", desc := "()V" } : Jvm.MethodName)) ∈ lw_all := lw_g (lw_at lw_m1 54 rfl) rfl
theorem q123 : (Jvm.Cond.classLink "KiteRoofs$Town" (18 : Nat) "KiteRoofs$Kite") ∈ lw_all := lw_g (lw_at lw_m1 55 rfl) rfl
theorem q126 : (Jvm.Cond.methodLinkNest "KiteRoofs$Town" (30 : Nat) ({ cls := "KiteRoofs$Kite", name := "<init>", desc := "()V" } : Jvm.MethodName) "KiteRoofs") ∈ lw_tbl := lw_at lw_m1 58 rfl
theorem q141 : (Jvm.Cond.fieldLinkNest "KiteRoofs$Town" (70 : Nat) "KiteRoofs$Kite" "make" "LKiteRoofs$Make;" "KiteRoofs") ∈ lw_tbl := lw_at lw_m1 73 rfl
theorem q144 : (Jvm.Cond.fieldLinkNest "KiteRoofs$Town" (98 : Nat) "KiteRoofs$Kite" "roof" "I" "KiteRoofs") ∈ lw_tbl := lw_at lw_m1 76 rfl
theorem q147 : (Jvm.Cond.fieldLinkNest "KiteRoofs$Town" (140 : Nat) "KiteRoofs$Kite" "spool" "I" "KiteRoofs") ∈ lw_tbl := lw_at lw_m1 79 rfl
theorem q150 : (Jvm.Cond.fieldLinkNest "KiteRoofs$Town" (205 : Nat) "KiteRoofs$Kite" "atFirst" "I" "KiteRoofs") ∈ lw_tbl := lw_at lw_m1 82 rfl
theorem q152 : (Jvm.Cond.fieldLinkNest "KiteRoofs$Town" (121 : Nat) "KiteRoofs$Kite" "glass" "I" "KiteRoofs") ∈ lw_tbl := lw_at lw_m1 84 rfl
theorem q156 : (Jvm.Cond.fieldLinkNest "KiteRoofs$Town" (161 : Nat) "KiteRoofs$Kite" "speed" "I" "KiteRoofs") ∈ lw_tbl := lw_at lw_m1 88 rfl
theorem q158 : (Jvm.Cond.fieldLinkNest "KiteRoofs$Town" (158 : Nat) "KiteRoofs$Kite" "points" "I" "KiteRoofs") ∈ lw_tbl := lw_at lw_m1 90 rfl
theorem q161 : (Jvm.Cond.fieldLinkNest "KiteRoofs$Town" (151 : Nat) "KiteRoofs$Kite" "state" "LKiteRoofs$State;" "KiteRoofs") ∈ lw_tbl := lw_at lw_m1 93 rfl
theorem q180 : (Jvm.Cond.fieldLink "KiteRoofs$Town" (9 : Nat) "KiteRoofs$Town" "strengths" "[I") ∈ lw_all := lw_g (lw_at lw_m1 112 rfl) rfl
theorem q182 : (Jvm.Cond.fieldLink "KiteRoofs$Town" (15 : Nat) "KiteRoofs$Town" "drifts" "[I") ∈ lw_all := lw_g (lw_at lw_m1 114 rfl) rfl
theorem q184 : (Jvm.Cond.fieldLink "KiteRoofs$Town" (20 : Nat) "KiteRoofs$Town" "kites" "[LKiteRoofs$Kite;") ∈ lw_all := lw_g (lw_at lw_m1 116 rfl) rfl
theorem q186 : (Jvm.Cond.fieldLink "KiteRoofs$Town" (37 : Nat) "KiteRoofs$Town" "many" "I") ∈ lw_all := lw_g (lw_at lw_m1 118 rfl) rfl
theorem q188 : (Jvm.Cond.fieldLink "KiteRoofs$Town" (45 : Nat) "KiteRoofs$Town" "rounds" "I") ∈ lw_all := lw_g (lw_at lw_m1 120 rfl) rfl
theorem q190 : (Jvm.Cond.fieldLink "KiteRoofs$Town" (48 : Nat) "KiteRoofs$Town" "letOut" "I") ∈ lw_all := lw_g (lw_at lw_m1 122 rfl) rfl
theorem q192 : (Jvm.Cond.fieldLink "KiteRoofs$Town" (51 : Nat) "KiteRoofs$Town" "woundIn" "I") ∈ lw_all := lw_g (lw_at lw_m1 124 rfl) rfl
theorem q194 : (Jvm.Cond.fieldLink "KiteRoofs$Town" (54 : Nat) "KiteRoofs$Town" "cutOff" "I") ∈ lw_all := lw_g (lw_at lw_m1 126 rfl) rfl
theorem q196 : (Jvm.Cond.fieldLink "KiteRoofs$Town" (57 : Nat) "KiteRoofs$Town" "cuts" "I") ∈ lw_all := lw_g (lw_at lw_m1 128 rfl) rfl
theorem q198 : (Jvm.Cond.fieldLink "KiteRoofs$Town" (24 : Nat) "KiteRoofs$Town" "worn" "[I") ∈ lw_all := lw_g (lw_at lw_m1 130 rfl) rfl
theorem q199 : (Jvm.Cond.fieldLink "KiteRoofs$Town" (27 : Nat) "KiteRoofs$Town" "layers" "[I") ∈ lw_all := lw_g (lw_at lw_m1 131 rfl) rfl
theorem q200 : (Jvm.Cond.laysFinal "KiteRoofs$Town" "KiteRoofs$Town" "strengths" "[I") ∈ lw_all := lw_g (lw_at lw_m1 132 rfl) rfl
theorem q201 : (Jvm.Cond.soleField "KiteRoofs$Town" "strengths") ∈ lw_all := lw_g (lw_at lw_m1 133 rfl) rfl
theorem q202 : (Jvm.Cond.laysFinal "KiteRoofs$Town" "KiteRoofs$Town" "drifts" "[I") ∈ lw_all := lw_g (lw_at lw_m1 134 rfl) rfl
theorem q203 : (Jvm.Cond.soleField "KiteRoofs$Town" "drifts") ∈ lw_all := lw_g (lw_at lw_m1 135 rfl) rfl
theorem q204 : (Jvm.Cond.laysFinal "KiteRoofs$Town" "KiteRoofs$Town" "kites" "[LKiteRoofs$Kite;") ∈ lw_all := lw_g (lw_at lw_m1 136 rfl) rfl
theorem q205 : (Jvm.Cond.soleField "KiteRoofs$Town" "kites") ∈ lw_all := lw_g (lw_at lw_m1 137 rfl) rfl
theorem q206 : (Jvm.Cond.lays "KiteRoofs$Town" "KiteRoofs$Town" "many" "I") ∈ lw_all := lw_g (lw_at lw_m1 138 rfl) rfl
theorem q207 : (Jvm.Cond.soleField "KiteRoofs$Town" "many") ∈ lw_all := lw_g (lw_at lw_m1 139 rfl) rfl
theorem q208 : (Jvm.Cond.lays "KiteRoofs$Town" "KiteRoofs$Town" "rounds" "I") ∈ lw_all := lw_g (lw_at lw_m1 140 rfl) rfl
theorem q209 : (Jvm.Cond.soleField "KiteRoofs$Town" "rounds") ∈ lw_all := lw_g (lw_at lw_m1 141 rfl) rfl
theorem q210 : (Jvm.Cond.lays "KiteRoofs$Town" "KiteRoofs$Town" "letOut" "I") ∈ lw_all := lw_g (lw_at lw_m1 142 rfl) rfl
theorem q211 : (Jvm.Cond.soleField "KiteRoofs$Town" "letOut") ∈ lw_all := lw_g (lw_at lw_m1 143 rfl) rfl
theorem q212 : (Jvm.Cond.lays "KiteRoofs$Town" "KiteRoofs$Town" "woundIn" "I") ∈ lw_all := lw_g (lw_at lw_m1 144 rfl) rfl
theorem q213 : (Jvm.Cond.soleField "KiteRoofs$Town" "woundIn") ∈ lw_all := lw_g (lw_at lw_m1 145 rfl) rfl
theorem q214 : (Jvm.Cond.lays "KiteRoofs$Town" "KiteRoofs$Town" "cutOff" "I") ∈ lw_all := lw_g (lw_at lw_m1 146 rfl) rfl
theorem q215 : (Jvm.Cond.soleField "KiteRoofs$Town" "cutOff") ∈ lw_all := lw_g (lw_at lw_m1 147 rfl) rfl
theorem q216 : (Jvm.Cond.lays "KiteRoofs$Town" "KiteRoofs$Town" "cuts" "I") ∈ lw_all := lw_g (lw_at lw_m1 148 rfl) rfl
theorem q217 : (Jvm.Cond.soleField "KiteRoofs$Town" "cuts") ∈ lw_all := lw_g (lw_at lw_m1 149 rfl) rfl
theorem q218 : (Jvm.Cond.laysFinal "KiteRoofs$Town" "KiteRoofs$Town" "worn" "[I") ∈ lw_all := lw_g (lw_at lw_m1 150 rfl) rfl
theorem q219 : (Jvm.Cond.soleField "KiteRoofs$Town" "worn") ∈ lw_all := lw_g (lw_at lw_m1 151 rfl) rfl
theorem q220 : (Jvm.Cond.laysFinal "KiteRoofs$Town" "KiteRoofs$Town" "layers" "[I") ∈ lw_all := lw_g (lw_at lw_m1 152 rfl) rfl
theorem q221 : (Jvm.Cond.soleField "KiteRoofs$Town" "layers") ∈ lw_all := lw_g (lw_at lw_m1 153 rfl) rfl
theorem q222 : (Jvm.Cond.superclass "KiteRoofs$Town" "java/lang/Object") ∈ lw_all := lw_g (lw_at lw_m1 154 rfl) rfl
theorem q313 : (Jvm.Cond.instanceMethod ({ cls := "KiteRoofs$Town", name := "isBalanced", desc := "()Z" } : Jvm.MethodName)) ∈ lw_all := lw_g (lw_at lw_m2 5 rfl) rfl
theorem q314 : (Jvm.Cond.selects "KiteRoofs$Town" ({ cls := "KiteRoofs$Town", name := "isBalanced", desc := "()Z" } : Jvm.MethodName) ({ cls := "KiteRoofs$Town", name := "isBalanced", desc := "()Z" } : Jvm.MethodName)) ∈ lw_all := lw_g (lw_at lw_m2 6 rfl) rfl
theorem q315 : (Jvm.Cond.code ({ cls := "KiteRoofs$Town", name := "isBalanced", desc := "()Z" } : Jvm.MethodName) prog_17_method_40_code (3 : Nat) (Option.some Jvm.ClassFile.FieldType.boolean)) ∈ lw_all := lw_g (lw_at lw_m2 7 rfl) rfl
theorem q316 : (Jvm.Cond.methodLink "KiteRoofs$Town" (208 : Nat) ({ cls := "KiteRoofs$Town", name := "out", desc := "()I" } : Jvm.MethodName)) ∈ lw_all := lw_g (lw_at lw_m2 8 rfl) rfl
theorem q317 : (Jvm.Cond.instanceMethod ({ cls := "KiteRoofs$Town", name := "out", desc := "()I" } : Jvm.MethodName)) ∈ lw_all := lw_g (lw_at lw_m2 9 rfl) rfl
theorem q318 : (Jvm.Cond.selects "KiteRoofs$Town" ({ cls := "KiteRoofs$Town", name := "out", desc := "()I" } : Jvm.MethodName) ({ cls := "KiteRoofs$Town", name := "out", desc := "()I" } : Jvm.MethodName)) ∈ lw_all := lw_g (lw_at lw_m2 10 rfl) rfl
theorem q319 : (Jvm.Cond.code ({ cls := "KiteRoofs$Town", name := "out", desc := "()I" } : Jvm.MethodName) prog_17_method_36_code (3 : Nat) (Option.some Jvm.ClassFile.FieldType.int)) ∈ lw_all := lw_g (lw_at lw_m2 11 rfl) rfl
theorem q320 : (Jvm.Cond.methodLink "KiteRoofs$Town" (84 : Nat) ({ cls := "KiteRoofs$Kite", name := "out", desc := "()I" } : Jvm.MethodName)) ∈ lw_all := lw_g (lw_at lw_m2 12 rfl) rfl
theorem q330 : (Jvm.Cond.instanceMethod ({ cls := "KiteRoofs$Town", name := "take", desc := "(LKiteRoofs$Town;)V" } : Jvm.MethodName)) ∈ lw_all := lw_g (lw_at lw_m2 22 rfl) rfl
theorem q331 : (Jvm.Cond.selects "KiteRoofs$Town" ({ cls := "KiteRoofs$Town", name := "take", desc := "(LKiteRoofs$Town;)V" } : Jvm.MethodName) ({ cls := "KiteRoofs$Town", name := "take", desc := "(LKiteRoofs$Town;)V" } : Jvm.MethodName)) ∈ lw_all := lw_g (lw_at lw_m2 23 rfl) rfl
theorem q332 : (Jvm.Cond.code ({ cls := "KiteRoofs$Town", name := "take", desc := "(LKiteRoofs$Town;)V" } : Jvm.MethodName) prog_17_method_2_code (3 : Nat) (Option.none : Option Jvm.ClassFile.FieldType)) ∈ lw_all := lw_g (lw_at lw_m2 24 rfl) rfl
theorem q333 : (Jvm.Cond.methodLink "KiteRoofs$Town" (31 : Nat) ({ cls := "java/lang/System", name := "arraycopy", desc := "(Ljava/lang/Object;ILjava/lang/Object;II)V" } : Jvm.MethodName)) ∈ lw_all := lw_g (lw_at lw_m2 25 rfl) rfl
theorem q336 : (Jvm.Cond.methodLink "KiteRoofs$Town" (41 : Nat) ({ cls := "KiteRoofs$Kite", name := "take", desc := "(LKiteRoofs$Kite;)V" } : Jvm.MethodName)) ∈ lw_all := lw_g (lw_at lw_m2 28 rfl) rfl
theorem q571 : (Jvm.Cond.selects "KiteRoofs$Town" ({ cls := "java/lang/Object", name := "getClass", desc := "()Ljava/lang/Class;" } : Jvm.MethodName) ({ cls := "java/lang/Object", name := "getClass", desc := "()Ljava/lang/Class;" } : Jvm.MethodName)) ∈ lw_all := lw_g (lw_at lw_m3 23 rfl) rfl
theorem q642 : (Jvm.Cond.instanceMethod ({ cls := "KiteRoofs$Town", name := "add", desc := "(LKiteRoofs$Make;III)I" } : Jvm.MethodName)) ∈ lw_all := lw_g (lw_at lw_m3 94 rfl) rfl
theorem q643 : (Jvm.Cond.selects "KiteRoofs$Town" ({ cls := "KiteRoofs$Town", name := "add", desc := "(LKiteRoofs$Make;III)I" } : Jvm.MethodName) ({ cls := "KiteRoofs$Town", name := "add", desc := "(LKiteRoofs$Make;III)I" } : Jvm.MethodName)) ∈ lw_all := lw_g (lw_at lw_m3 95 rfl) rfl
theorem q644 : (Jvm.Cond.code ({ cls := "KiteRoofs$Town", name := "add", desc := "(LKiteRoofs$Make;III)I" } : Jvm.MethodName) prog_17_method_32_code (5 : Nat) (Option.some Jvm.ClassFile.FieldType.int)) ∈ lw_all := lw_g (lw_at lw_m3 96 rfl) rfl
theorem q645 : (Jvm.Cond.methodLink "KiteRoofs$Town" (198 : Nat) ({ cls := "KiteRoofs$Kite", name := "begins", desc := "(LKiteRoofs$Make;III)V" } : Jvm.MethodName)) ∈ lw_all := lw_g (lw_at lw_m3 97 rfl) rfl
theorem q657 : (Jvm.Cond.instanceMethod ({ cls := "KiteRoofs$Town", name := "isKite", desc := "(I)Z" } : Jvm.MethodName)) ∈ lw_all := lw_g (lw_at lw_m3 109 rfl) rfl
theorem q658 : (Jvm.Cond.selects "KiteRoofs$Town" ({ cls := "KiteRoofs$Town", name := "isKite", desc := "(I)Z" } : Jvm.MethodName) ({ cls := "KiteRoofs$Town", name := "isKite", desc := "(I)Z" } : Jvm.MethodName)) ∈ lw_all := lw_g (lw_at lw_m3 110 rfl) rfl
theorem q659 : (Jvm.Cond.code ({ cls := "KiteRoofs$Town", name := "isKite", desc := "(I)Z" } : Jvm.MethodName) prog_17_method_3_code (2 : Nat) (Option.some Jvm.ClassFile.FieldType.boolean)) ∈ lw_all := lw_g (lw_at lw_m3 111 rfl) rfl
theorem q660 : (Jvm.Cond.methodLinkNest "KiteRoofs$Town" (60 : Nat) ({ cls := "KiteRoofs", name := "in", desc := "(III)Z" } : Jvm.MethodName) "KiteRoofs") ∈ lw_tbl := lw_at lw_m3 112 rfl
theorem q662 : (Jvm.Cond.instanceMethod ({ cls := "KiteRoofs$Town", name := "reasonToLaunch", desc := "(I)I" } : Jvm.MethodName)) ∈ lw_all := lw_g (lw_at lw_m3 114 rfl) rfl
theorem q663 : (Jvm.Cond.selects "KiteRoofs$Town" ({ cls := "KiteRoofs$Town", name := "reasonToLaunch", desc := "(I)I" } : Jvm.MethodName) ({ cls := "KiteRoofs$Town", name := "reasonToLaunch", desc := "(I)I" } : Jvm.MethodName)) ∈ lw_all := lw_g (lw_at lw_m3 115 rfl) rfl
theorem q664 : (Jvm.Cond.code ({ cls := "KiteRoofs$Town", name := "reasonToLaunch", desc := "(I)I" } : Jvm.MethodName) prog_17_method_33_code (2 : Nat) (Option.some Jvm.ClassFile.FieldType.int)) ∈ lw_all := lw_g (lw_at lw_m3 116 rfl) rfl
theorem q665 : (Jvm.Cond.methodLink "KiteRoofs$Town" (202 : Nat) ({ cls := "KiteRoofs$Kite", name := "isOnRoof", desc := "()Z" } : Jvm.MethodName)) ∈ lw_all := lw_g (lw_at lw_m3 117 rfl) rfl
theorem q670 : (Jvm.Cond.instanceMethod ({ cls := "KiteRoofs$Town", name := "launch", desc := "(I)I" } : Jvm.MethodName)) ∈ lw_all := lw_g (lw_at lw_m3 122 rfl) rfl
theorem q671 : (Jvm.Cond.selects "KiteRoofs$Town" ({ cls := "KiteRoofs$Town", name := "launch", desc := "(I)I" } : Jvm.MethodName) ({ cls := "KiteRoofs$Town", name := "launch", desc := "(I)I" } : Jvm.MethodName)) ∈ lw_all := lw_g (lw_at lw_m3 123 rfl) rfl
theorem q672 : (Jvm.Cond.code ({ cls := "KiteRoofs$Town", name := "launch", desc := "(I)I" } : Jvm.MethodName) prog_17_method_27_code (2 : Nat) (Option.some Jvm.ClassFile.FieldType.int)) ∈ lw_all := lw_g (lw_at lw_m3 124 rfl) rfl
theorem q673 : (Jvm.Cond.classLink "KiteRoofs$Town" (184 : Nat) "KiteRoofs$Up") ∈ lw_all := lw_g (lw_at lw_m3 125 rfl) rfl
theorem q674 : (Jvm.Cond.methodLinkNest "KiteRoofs$Town" (186 : Nat) ({ cls := "KiteRoofs$Up", name := "<init>", desc := "()V" } : Jvm.MethodName) "KiteRoofs") ∈ lw_tbl := lw_at lw_m3 126 rfl
theorem q675 : (Jvm.Cond.methodLink "KiteRoofs$Town" (187 : Nat) ({ cls := "KiteRoofs$Town", name := "inState", desc := "(I)I" } : Jvm.MethodName)) ∈ lw_all := lw_g (lw_at lw_m3 127 rfl) rfl
theorem q676 : (Jvm.Cond.instanceMethod ({ cls := "KiteRoofs$Town", name := "inState", desc := "(I)I" } : Jvm.MethodName)) ∈ lw_all := lw_g (lw_at lw_m3 128 rfl) rfl
theorem q677 : (Jvm.Cond.selects "KiteRoofs$Town" ({ cls := "KiteRoofs$Town", name := "inState", desc := "(I)I" } : Jvm.MethodName) ({ cls := "KiteRoofs$Town", name := "inState", desc := "(I)I" } : Jvm.MethodName)) ∈ lw_all := lw_g (lw_at lw_m3 129 rfl) rfl
theorem q678 : (Jvm.Cond.code ({ cls := "KiteRoofs$Town", name := "inState", desc := "(I)I" } : Jvm.MethodName) prog_17_method_28_code (4 : Nat) (Option.some Jvm.ClassFile.FieldType.int)) ∈ lw_all := lw_g (lw_at lw_m3 130 rfl) rfl
theorem q679 : (Jvm.Cond.interfaceEntry "KiteRoofs$Town" (190 : Nat)) ∈ lw_tbl := lw_at lw_m3 131 rfl
theorem q680 : (Jvm.Cond.methodLink "KiteRoofs$Town" (190 : Nat) ({ cls := "KiteRoofs$State", name := "number", desc := "()I" } : Jvm.MethodName)) ∈ lw_all := lw_g (lw_at lw_m3 132 rfl) rfl
theorem q709 : (Jvm.Cond.instanceMethod ({ cls := "KiteRoofs$Town", name := "reasonToReel", desc := "(II)I" } : Jvm.MethodName)) ∈ lw_all := lw_g (lw_at lw_m3 161 rfl) rfl
theorem q710 : (Jvm.Cond.selects "KiteRoofs$Town" ({ cls := "KiteRoofs$Town", name := "reasonToReel", desc := "(II)I" } : Jvm.MethodName) ({ cls := "KiteRoofs$Town", name := "reasonToReel", desc := "(II)I" } : Jvm.MethodName)) ∈ lw_all := lw_g (lw_at lw_m3 162 rfl) rfl
theorem q711 : (Jvm.Cond.code ({ cls := "KiteRoofs$Town", name := "reasonToReel", desc := "(II)I" } : Jvm.MethodName) prog_17_method_34_code (4 : Nat) (Option.some Jvm.ClassFile.FieldType.int)) ∈ lw_all := lw_g (lw_at lw_m3 163 rfl) rfl
theorem q712 : (Jvm.Cond.methodLink "KiteRoofs$Town" (90 : Nat) ({ cls := "KiteRoofs$Kite", name := "isUp", desc := "()Z" } : Jvm.MethodName)) ∈ lw_all := lw_g (lw_at lw_m3 164 rfl) rfl
theorem q717 : (Jvm.Cond.instanceMethod ({ cls := "KiteRoofs$Town", name := "reel", desc := "(II)I" } : Jvm.MethodName)) ∈ lw_all := lw_g (lw_at lw_m3 169 rfl) rfl
theorem q718 : (Jvm.Cond.selects "KiteRoofs$Town" ({ cls := "KiteRoofs$Town", name := "reel", desc := "(II)I" } : Jvm.MethodName) ({ cls := "KiteRoofs$Town", name := "reel", desc := "(II)I" } : Jvm.MethodName)) ∈ lw_all := lw_g (lw_at lw_m3 170 rfl) rfl
theorem q719 : (Jvm.Cond.code ({ cls := "KiteRoofs$Town", name := "reel", desc := "(II)I" } : Jvm.MethodName) prog_17_method_29_code (3 : Nat) (Option.some Jvm.ClassFile.FieldType.int)) ∈ lw_all := lw_g (lw_at lw_m3 171 rfl) rfl
theorem q720 : (Jvm.Cond.methodLink "KiteRoofs$Town" (164 : Nat) ({ cls := "KiteRoofs$Kite", name := "reels", desc := "(I)I" } : Jvm.MethodName)) ∈ lw_all := lw_g (lw_at lw_m3 172 rfl) rfl
theorem q732 : (Jvm.Cond.methodLink "KiteRoofs$Town" (167 : Nat) ({ cls := "KiteRoofs$Town", name := "counts", desc := "(I)V" } : Jvm.MethodName)) ∈ lw_all := lw_g (lw_at lw_m3 184 rfl) rfl
theorem q733 : (Jvm.Cond.privateMethod ({ cls := "KiteRoofs$Town", name := "counts", desc := "(I)V" } : Jvm.MethodName)) ∈ lw_tbl := lw_at lw_m3 185 rfl
theorem q734 : (Jvm.Cond.instanceMethod ({ cls := "KiteRoofs$Town", name := "counts", desc := "(I)V" } : Jvm.MethodName)) ∈ lw_all := lw_g (lw_at lw_m3 186 rfl) rfl
theorem q735 : (Jvm.Cond.code ({ cls := "KiteRoofs$Town", name := "counts", desc := "(I)V" } : Jvm.MethodName) prog_17_method_25_code (2 : Nat) (Option.none : Option Jvm.ClassFile.FieldType)) ∈ lw_all := lw_g (lw_at lw_m3 187 rfl) rfl
theorem q756 : (Jvm.Cond.instanceMethod ({ cls := "KiteRoofs$Town", name := "land", desc := "(I)I" } : Jvm.MethodName)) ∈ lw_all := lw_g (lw_at lw_m3 208 rfl) rfl
theorem q757 : (Jvm.Cond.selects "KiteRoofs$Town" ({ cls := "KiteRoofs$Town", name := "land", desc := "(I)I" } : Jvm.MethodName) ({ cls := "KiteRoofs$Town", name := "land", desc := "(I)I" } : Jvm.MethodName)) ∈ lw_all := lw_g (lw_at lw_m3 209 rfl) rfl
theorem q758 : (Jvm.Cond.code ({ cls := "KiteRoofs$Town", name := "land", desc := "(I)I" } : Jvm.MethodName) prog_17_method_30_code (3 : Nat) (Option.some Jvm.ClassFile.FieldType.int)) ∈ lw_all := lw_g (lw_at lw_m3 210 rfl) rfl
theorem q759 : (Jvm.Cond.classLink "KiteRoofs$Town" (195 : Nat) "KiteRoofs$OnRoof") ∈ lw_all := lw_g (lw_at lw_m3 211 rfl) rfl
theorem q760 : (Jvm.Cond.methodLinkNest "KiteRoofs$Town" (197 : Nat) ({ cls := "KiteRoofs$OnRoof", name := "<init>", desc := "()V" } : Jvm.MethodName) "KiteRoofs") ∈ lw_tbl := lw_at lw_m3 212 rfl
theorem q769 : (Jvm.Cond.instanceMethod ({ cls := "KiteRoofs$Town", name := "reasonToTie", desc := "(I)I" } : Jvm.MethodName)) ∈ lw_all := lw_g (lw_at lw_m3 221 rfl) rfl
theorem q770 : (Jvm.Cond.selects "KiteRoofs$Town" ({ cls := "KiteRoofs$Town", name := "reasonToTie", desc := "(I)I" } : Jvm.MethodName) ({ cls := "KiteRoofs$Town", name := "reasonToTie", desc := "(I)I" } : Jvm.MethodName)) ∈ lw_all := lw_g (lw_at lw_m3 222 rfl) rfl
theorem q771 : (Jvm.Cond.code ({ cls := "KiteRoofs$Town", name := "reasonToTie", desc := "(I)I" } : Jvm.MethodName) prog_17_method_35_code (2 : Nat) (Option.some Jvm.ClassFile.FieldType.int)) ∈ lw_all := lw_g (lw_at lw_m3 223 rfl) rfl
theorem q772 : (Jvm.Cond.classLink "KiteRoofs$Town" (143 : Nat) "KiteRoofs$Cut") ∈ lw_all := lw_g (lw_at lw_m3 224 rfl) rfl
theorem q774 : (Jvm.Cond.instanceMethod ({ cls := "KiteRoofs$Town", name := "tie", desc := "(I)I" } : Jvm.MethodName)) ∈ lw_all := lw_g (lw_at lw_m3 226 rfl) rfl
theorem q775 : (Jvm.Cond.selects "KiteRoofs$Town" ({ cls := "KiteRoofs$Town", name := "tie", desc := "(I)I" } : Jvm.MethodName) ({ cls := "KiteRoofs$Town", name := "tie", desc := "(I)I" } : Jvm.MethodName)) ∈ lw_all := lw_g (lw_at lw_m3 227 rfl) rfl
theorem q776 : (Jvm.Cond.code ({ cls := "KiteRoofs$Town", name := "tie", desc := "(I)I" } : Jvm.MethodName) prog_17_method_31_code (2 : Nat) (Option.some Jvm.ClassFile.FieldType.int)) ∈ lw_all := lw_g (lw_at lw_m3 228 rfl) rfl
theorem q804 : (Jvm.Cond.instanceMethod ({ cls := "KiteRoofs$Town", name := "height", desc := "(LKiteRoofs$Kite;)I" } : Jvm.MethodName)) ∈ lw_all := lw_g (lw_at lw_m4 16 rfl) rfl
theorem q805 : (Jvm.Cond.selects "KiteRoofs$Town" ({ cls := "KiteRoofs$Town", name := "height", desc := "(LKiteRoofs$Kite;)I" } : Jvm.MethodName) ({ cls := "KiteRoofs$Town", name := "height", desc := "(LKiteRoofs$Kite;)I" } : Jvm.MethodName)) ∈ lw_all := lw_g (lw_at lw_m4 17 rfl) rfl
theorem q806 : (Jvm.Cond.code ({ cls := "KiteRoofs$Town", name := "height", desc := "(LKiteRoofs$Kite;)I" } : Jvm.MethodName) prog_17_method_6_code (4 : Nat) (Option.some Jvm.ClassFile.FieldType.int)) ∈ lw_all := lw_g (lw_at lw_m4 18 rfl) rfl
theorem q807 : (Jvm.Cond.methodLink "KiteRoofs$Town" (80 : Nat) ({ cls := "KiteRoofs$Town", name := "thickness", desc := "(LKiteRoofs$Kite;I)I" } : Jvm.MethodName)) ∈ lw_all := lw_g (lw_at lw_m4 19 rfl) rfl
theorem q808 : (Jvm.Cond.privateMethod ({ cls := "KiteRoofs$Town", name := "thickness", desc := "(LKiteRoofs$Kite;I)I" } : Jvm.MethodName)) ∈ lw_tbl := lw_at lw_m4 20 rfl
theorem q809 : (Jvm.Cond.instanceMethod ({ cls := "KiteRoofs$Town", name := "thickness", desc := "(LKiteRoofs$Kite;I)I" } : Jvm.MethodName)) ∈ lw_all := lw_g (lw_at lw_m4 21 rfl) rfl
theorem q810 : (Jvm.Cond.code ({ cls := "KiteRoofs$Town", name := "thickness", desc := "(LKiteRoofs$Kite;I)I" } : Jvm.MethodName) prog_17_method_4_code (4 : Nat) (Option.some Jvm.ClassFile.FieldType.int)) ∈ lw_all := lw_g (lw_at lw_m4 22 rfl) rfl
theorem q811 : (Jvm.Cond.methodLink "KiteRoofs$Town" (64 : Nat) ({ cls := "java/lang/Math", name := "abs", desc := "(I)I" } : Jvm.MethodName)) ∈ lw_all := lw_g (lw_at lw_m4 23 rfl) rfl
theorem q814 : (Jvm.Cond.methodLink "KiteRoofs$Town" (74 : Nat) ({ cls := "KiteRoofs$Make", name := "factor", desc := "()I" } : Jvm.MethodName)) ∈ lw_all := lw_g (lw_at lw_m4 26 rfl) rfl
theorem q824 : (Jvm.Cond.instanceMethod ({ cls := "KiteRoofs$Town", name := "tension", desc := "(LKiteRoofs$Kite;)I" } : Jvm.MethodName)) ∈ lw_all := lw_g (lw_at lw_m4 36 rfl) rfl
theorem q825 : (Jvm.Cond.selects "KiteRoofs$Town" ({ cls := "KiteRoofs$Town", name := "tension", desc := "(LKiteRoofs$Kite;)I" } : Jvm.MethodName) ({ cls := "KiteRoofs$Town", name := "tension", desc := "(LKiteRoofs$Kite;)I" } : Jvm.MethodName)) ∈ lw_all := lw_g (lw_at lw_m4 37 rfl) rfl
theorem q826 : (Jvm.Cond.code ({ cls := "KiteRoofs$Town", name := "tension", desc := "(LKiteRoofs$Kite;)I" } : Jvm.MethodName) prog_17_method_11_code (4 : Nat) (Option.some Jvm.ClassFile.FieldType.int)) ∈ lw_all := lw_g (lw_at lw_m4 38 rfl) rfl
theorem q827 : (Jvm.Cond.methodLink "KiteRoofs$Town" (94 : Nat) ({ cls := "KiteRoofs$Town", name := "height", desc := "(LKiteRoofs$Kite;)I" } : Jvm.MethodName)) ∈ lw_all := lw_g (lw_at lw_m4 39 rfl) rfl
theorem q828 : (Jvm.Cond.methodLink "KiteRoofs$Town" (104 : Nat) ({ cls := "KiteRoofs$Make", name := "area", desc := "()I" } : Jvm.MethodName)) ∈ lw_all := lw_g (lw_at lw_m4 40 rfl) rfl
theorem q841 : (Jvm.Cond.instanceMethod ({ cls := "KiteRoofs$Town", name := "placeNow", desc := "(LKiteRoofs$Kite;)I" } : Jvm.MethodName)) ∈ lw_all := lw_g (lw_at lw_m4 53 rfl) rfl
theorem q842 : (Jvm.Cond.selects "KiteRoofs$Town" ({ cls := "KiteRoofs$Town", name := "placeNow", desc := "(LKiteRoofs$Kite;)I" } : Jvm.MethodName) ({ cls := "KiteRoofs$Town", name := "placeNow", desc := "(LKiteRoofs$Kite;)I" } : Jvm.MethodName)) ∈ lw_all := lw_g (lw_at lw_m4 54 rfl) rfl
theorem q843 : (Jvm.Cond.code ({ cls := "KiteRoofs$Town", name := "placeNow", desc := "(LKiteRoofs$Kite;)I" } : Jvm.MethodName) prog_17_method_10_code (2 : Nat) (Option.some Jvm.ClassFile.FieldType.int)) ∈ lw_all := lw_g (lw_at lw_m4 55 rfl) rfl
theorem q844 : (Jvm.Cond.methodLink "KiteRoofs$Town" (101 : Nat) ({ cls := "KiteRoofs$Town", name := "place", desc := "(LKiteRoofs$Kite;I)I" } : Jvm.MethodName)) ∈ lw_all := lw_g (lw_at lw_m4 56 rfl) rfl
theorem q845 : (Jvm.Cond.privateMethod ({ cls := "KiteRoofs$Town", name := "place", desc := "(LKiteRoofs$Kite;I)I" } : Jvm.MethodName)) ∈ lw_tbl := lw_at lw_m4 57 rfl
theorem q846 : (Jvm.Cond.instanceMethod ({ cls := "KiteRoofs$Town", name := "place", desc := "(LKiteRoofs$Kite;I)I" } : Jvm.MethodName)) ∈ lw_all := lw_g (lw_at lw_m4 58 rfl) rfl
theorem q847 : (Jvm.Cond.code ({ cls := "KiteRoofs$Town", name := "place", desc := "(LKiteRoofs$Kite;I)I" } : Jvm.MethodName) prog_17_method_9_code (5 : Nat) (Option.some Jvm.ClassFile.FieldType.int)) ∈ lw_all := lw_g (lw_at lw_m4 59 rfl) rfl
theorem q849 : (Jvm.Cond.instanceMethod ({ cls := "KiteRoofs$Town", name := "slack", desc := "(LKiteRoofs$Kite;)I" } : Jvm.MethodName)) ∈ lw_all := lw_g (lw_at lw_m4 61 rfl) rfl
theorem q850 : (Jvm.Cond.selects "KiteRoofs$Town" ({ cls := "KiteRoofs$Town", name := "slack", desc := "(LKiteRoofs$Kite;)I" } : Jvm.MethodName) ({ cls := "KiteRoofs$Town", name := "slack", desc := "(LKiteRoofs$Kite;)I" } : Jvm.MethodName)) ∈ lw_all := lw_g (lw_at lw_m4 62 rfl) rfl
theorem q851 : (Jvm.Cond.code ({ cls := "KiteRoofs$Town", name := "slack", desc := "(LKiteRoofs$Kite;)I" } : Jvm.MethodName) prog_17_method_8_code (2 : Nat) (Option.some Jvm.ClassFile.FieldType.int)) ∈ lw_all := lw_g (lw_at lw_m4 63 rfl) rfl
theorem q852 : (Jvm.Cond.methodLink "KiteRoofs$Town" (87 : Nat) ({ cls := "KiteRoofs$Town", name := "lineUpTo", desc := "(LKiteRoofs$Kite;I)I" } : Jvm.MethodName)) ∈ lw_all := lw_g (lw_at lw_m4 64 rfl) rfl
theorem q853 : (Jvm.Cond.privateMethod ({ cls := "KiteRoofs$Town", name := "lineUpTo", desc := "(LKiteRoofs$Kite;I)I" } : Jvm.MethodName)) ∈ lw_tbl := lw_at lw_m4 65 rfl
theorem q854 : (Jvm.Cond.instanceMethod ({ cls := "KiteRoofs$Town", name := "lineUpTo", desc := "(LKiteRoofs$Kite;I)I" } : Jvm.MethodName)) ∈ lw_all := lw_g (lw_at lw_m4 66 rfl) rfl
theorem q855 : (Jvm.Cond.code ({ cls := "KiteRoofs$Town", name := "lineUpTo", desc := "(LKiteRoofs$Kite;I)I" } : Jvm.MethodName) prog_17_method_5_code (5 : Nat) (Option.some Jvm.ClassFile.FieldType.int)) ∈ lw_all := lw_g (lw_at lw_m4 67 rfl) rfl
theorem q890 : (Jvm.Cond.instanceMethod ({ cls := "KiteRoofs$Town", name := "heightAgain", desc := "(LKiteRoofs$Kite;)I" } : Jvm.MethodName)) ∈ lw_all := lw_g (lw_at lw_m4 102 rfl) rfl
theorem q891 : (Jvm.Cond.selects "KiteRoofs$Town" ({ cls := "KiteRoofs$Town", name := "heightAgain", desc := "(LKiteRoofs$Kite;)I" } : Jvm.MethodName) ({ cls := "KiteRoofs$Town", name := "heightAgain", desc := "(LKiteRoofs$Kite;)I" } : Jvm.MethodName)) ∈ lw_all := lw_g (lw_at lw_m4 103 rfl) rfl
theorem q892 : (Jvm.Cond.code ({ cls := "KiteRoofs$Town", name := "heightAgain", desc := "(LKiteRoofs$Kite;)I" } : Jvm.MethodName) prog_17_method_7_code (3 : Nat) (Option.some Jvm.ClassFile.FieldType.int)) ∈ lw_all := lw_g (lw_at lw_m4 104 rfl) rfl
theorem q928 : (Jvm.Cond.instanceMethod ({ cls := "KiteRoofs$Town", name := "crossing", desc := "(II)I" } : Jvm.MethodName)) ∈ lw_all := lw_g (lw_at lw_m4 140 rfl) rfl
theorem q929 : (Jvm.Cond.selects "KiteRoofs$Town" ({ cls := "KiteRoofs$Town", name := "crossing", desc := "(II)I" } : Jvm.MethodName) ({ cls := "KiteRoofs$Town", name := "crossing", desc := "(II)I" } : Jvm.MethodName)) ∈ lw_all := lw_g (lw_at lw_m4 141 rfl) rfl
theorem q930 : (Jvm.Cond.code ({ cls := "KiteRoofs$Town", name := "crossing", desc := "(II)I" } : Jvm.MethodName) prog_17_method_13_code (7 : Nat) (Option.some Jvm.ClassFile.FieldType.int)) ∈ lw_all := lw_g (lw_at lw_m4 142 rfl) rfl
theorem q931 : (Jvm.Cond.methodLink "KiteRoofs$Town" (107 : Nat) ({ cls := "java/lang/Math", name := "min", desc := "(II)I" } : Jvm.MethodName)) ∈ lw_all := lw_g (lw_at lw_m4 143 rfl) rfl
theorem q932 : (Jvm.Cond.methodLink "KiteRoofs$Town" (111 : Nat) ({ cls := "KiteRoofs$Town", name := "doCross", desc := "(LKiteRoofs$Kite;LKiteRoofs$Kite;I)Z" } : Jvm.MethodName)) ∈ lw_all := lw_g (lw_at lw_m4 144 rfl) rfl
theorem q933 : (Jvm.Cond.privateMethod ({ cls := "KiteRoofs$Town", name := "doCross", desc := "(LKiteRoofs$Kite;LKiteRoofs$Kite;I)Z" } : Jvm.MethodName)) ∈ lw_tbl := lw_at lw_m4 145 rfl
theorem q934 : (Jvm.Cond.instanceMethod ({ cls := "KiteRoofs$Town", name := "doCross", desc := "(LKiteRoofs$Kite;LKiteRoofs$Kite;I)Z" } : Jvm.MethodName)) ∈ lw_all := lw_g (lw_at lw_m4 146 rfl) rfl
theorem q935 : (Jvm.Cond.code ({ cls := "KiteRoofs$Town", name := "doCross", desc := "(LKiteRoofs$Kite;LKiteRoofs$Kite;I)Z" } : Jvm.MethodName) prog_17_method_12_code (6 : Nat) (Option.some Jvm.ClassFile.FieldType.boolean)) ∈ lw_all := lw_g (lw_at lw_m4 147 rfl) rfl
theorem q944 : (Jvm.Cond.instanceMethod ({ cls := "KiteRoofs$Town", name := "wears", desc := "(I)I" } : Jvm.MethodName)) ∈ lw_all := lw_g (lw_at lw_m4 156 rfl) rfl
theorem q945 : (Jvm.Cond.selects "KiteRoofs$Town" ({ cls := "KiteRoofs$Town", name := "wears", desc := "(I)I" } : Jvm.MethodName) ({ cls := "KiteRoofs$Town", name := "wears", desc := "(I)I" } : Jvm.MethodName)) ∈ lw_all := lw_g (lw_at lw_m4 157 rfl) rfl
theorem q946 : (Jvm.Cond.code ({ cls := "KiteRoofs$Town", name := "wears", desc := "(I)I" } : Jvm.MethodName) prog_17_method_16_code (4 : Nat) (Option.some Jvm.ClassFile.FieldType.int)) ∈ lw_all := lw_g (lw_at lw_m4 158 rfl) rfl
theorem q947 : (Jvm.Cond.methodLink "KiteRoofs$Town" (124 : Nat) ({ cls := "KiteRoofs$Town", name := "wearsBy", desc := "(II)I" } : Jvm.MethodName)) ∈ lw_all := lw_g (lw_at lw_m4 159 rfl) rfl
theorem q948 : (Jvm.Cond.privateMethod ({ cls := "KiteRoofs$Town", name := "wearsBy", desc := "(II)I" } : Jvm.MethodName)) ∈ lw_tbl := lw_at lw_m4 160 rfl
theorem q949 : (Jvm.Cond.instanceMethod ({ cls := "KiteRoofs$Town", name := "wearsBy", desc := "(II)I" } : Jvm.MethodName)) ∈ lw_all := lw_g (lw_at lw_m4 161 rfl) rfl
theorem q950 : (Jvm.Cond.code ({ cls := "KiteRoofs$Town", name := "wearsBy", desc := "(II)I" } : Jvm.MethodName) prog_17_method_15_code (4 : Nat) (Option.some Jvm.ClassFile.FieldType.int)) ∈ lw_all := lw_g (lw_at lw_m4 162 rfl) rfl
theorem q951 : (Jvm.Cond.methodLink "KiteRoofs$Town" (115 : Nat) ({ cls := "KiteRoofs$Town", name := "crossing", desc := "(II)I" } : Jvm.MethodName)) ∈ lw_all := lw_g (lw_at lw_m4 163 rfl) rfl
theorem q952 : (Jvm.Cond.methodLink "KiteRoofs$Town" (118 : Nat) ({ cls := "KiteRoofs$Town", name := "tension", desc := "(LKiteRoofs$Kite;)I" } : Jvm.MethodName)) ∈ lw_all := lw_g (lw_at lw_m4 164 rfl) rfl
theorem q961 : (Jvm.Cond.instanceMethod ({ cls := "KiteRoofs$Town", name := "round", desc := "()I" } : Jvm.MethodName)) ∈ lw_all := lw_g (lw_at lw_m4 173 rfl) rfl
theorem q962 : (Jvm.Cond.selects "KiteRoofs$Town" ({ cls := "KiteRoofs$Town", name := "round", desc := "()I" } : Jvm.MethodName) ({ cls := "KiteRoofs$Town", name := "round", desc := "()I" } : Jvm.MethodName)) ∈ lw_all := lw_g (lw_at lw_m4 174 rfl) rfl
theorem q963 : (Jvm.Cond.code ({ cls := "KiteRoofs$Town", name := "round", desc := "()I" } : Jvm.MethodName) prog_17_method_26_code (3 : Nat) (Option.some Jvm.ClassFile.FieldType.int)) ∈ lw_all := lw_g (lw_at lw_m4 175 rfl) rfl
theorem q964 : (Jvm.Cond.methodLink "KiteRoofs$Town" (170 : Nat) ({ cls := "KiteRoofs$Town", name := "reels", desc := "()V" } : Jvm.MethodName)) ∈ lw_all := lw_g (lw_at lw_m4 176 rfl) rfl
theorem q965 : (Jvm.Cond.privateMethod ({ cls := "KiteRoofs$Town", name := "reels", desc := "()V" } : Jvm.MethodName)) ∈ lw_tbl := lw_at lw_m4 177 rfl
theorem q966 : (Jvm.Cond.instanceMethod ({ cls := "KiteRoofs$Town", name := "reels", desc := "()V" } : Jvm.MethodName)) ∈ lw_all := lw_g (lw_at lw_m4 178 rfl) rfl
theorem q967 : (Jvm.Cond.code ({ cls := "KiteRoofs$Town", name := "reels", desc := "()V" } : Jvm.MethodName) prog_17_method_24_code (2 : Nat) (Option.none : Option Jvm.ClassFile.FieldType)) ∈ lw_all := lw_g (lw_at lw_m4 179 rfl) rfl
theorem q968 : (Jvm.Cond.methodLink "KiteRoofs$Town" (172 : Nat) ({ cls := "KiteRoofs$Town", name := "saws", desc := "()V" } : Jvm.MethodName)) ∈ lw_all := lw_g (lw_at lw_m4 180 rfl) rfl
theorem q969 : (Jvm.Cond.privateMethod ({ cls := "KiteRoofs$Town", name := "saws", desc := "()V" } : Jvm.MethodName)) ∈ lw_tbl := lw_at lw_m4 181 rfl
theorem q970 : (Jvm.Cond.instanceMethod ({ cls := "KiteRoofs$Town", name := "saws", desc := "()V" } : Jvm.MethodName)) ∈ lw_all := lw_g (lw_at lw_m4 182 rfl) rfl
theorem q971 : (Jvm.Cond.code ({ cls := "KiteRoofs$Town", name := "saws", desc := "()V" } : Jvm.MethodName) prog_17_method_17_code (3 : Nat) (Option.none : Option Jvm.ClassFile.FieldType)) ∈ lw_all := lw_g (lw_at lw_m4 183 rfl) rfl
theorem q972 : (Jvm.Cond.methodLink "KiteRoofs$Town" (175 : Nat) ({ cls := "KiteRoofs$Town", name := "wearsAll", desc := "()V" } : Jvm.MethodName)) ∈ lw_all := lw_g (lw_at lw_m4 184 rfl) rfl
theorem q973 : (Jvm.Cond.privateMethod ({ cls := "KiteRoofs$Town", name := "wearsAll", desc := "()V" } : Jvm.MethodName)) ∈ lw_tbl := lw_at lw_m4 185 rfl
theorem q974 : (Jvm.Cond.instanceMethod ({ cls := "KiteRoofs$Town", name := "wearsAll", desc := "()V" } : Jvm.MethodName)) ∈ lw_all := lw_g (lw_at lw_m4 186 rfl) rfl
theorem q975 : (Jvm.Cond.code ({ cls := "KiteRoofs$Town", name := "wearsAll", desc := "()V" } : Jvm.MethodName) prog_17_method_21_code (3 : Nat) (Option.none : Option Jvm.ClassFile.FieldType)) ∈ lw_all := lw_g (lw_at lw_m4 187 rfl) rfl
theorem q976 : (Jvm.Cond.methodLink "KiteRoofs$Town" (127 : Nat) ({ cls := "KiteRoofs$Kite", name := "wears", desc := "(I)V" } : Jvm.MethodName)) ∈ lw_all := lw_g (lw_at lw_m4 188 rfl) rfl
theorem q984 : (Jvm.Cond.methodLink "KiteRoofs$Town" (178 : Nat) ({ cls := "KiteRoofs$Town", name := "marks", desc := "()V" } : Jvm.MethodName)) ∈ lw_all := lw_g (lw_at lw_m4 196 rfl) rfl
theorem q985 : (Jvm.Cond.privateMethod ({ cls := "KiteRoofs$Town", name := "marks", desc := "()V" } : Jvm.MethodName)) ∈ lw_tbl := lw_at lw_m4 197 rfl
theorem q986 : (Jvm.Cond.instanceMethod ({ cls := "KiteRoofs$Town", name := "marks", desc := "()V" } : Jvm.MethodName)) ∈ lw_all := lw_g (lw_at lw_m4 198 rfl) rfl
theorem q987 : (Jvm.Cond.code ({ cls := "KiteRoofs$Town", name := "marks", desc := "()V" } : Jvm.MethodName) prog_17_method_22_code (3 : Nat) (Option.none : Option Jvm.ClassFile.FieldType)) ∈ lw_all := lw_g (lw_at lw_m4 199 rfl) rfl
theorem q988 : (Jvm.Cond.methodLink "KiteRoofs$Town" (131 : Nat) ({ cls := "KiteRoofs$Kite", name := "wear", desc := "()I" } : Jvm.MethodName)) ∈ lw_all := lw_g (lw_at lw_m4 200 rfl) rfl
theorem q989 : (Jvm.Cond.methodLink "KiteRoofs$Town" (134 : Nat) ({ cls := "KiteRoofs$Make", name := "hardness", desc := "()I" } : Jvm.MethodName)) ∈ lw_all := lw_g (lw_at lw_m4 201 rfl) rfl
theorem q1001 : (Jvm.Cond.methodLink "KiteRoofs$Town" (137 : Nat) ({ cls := "KiteRoofs$Town", name := "lowestSawn", desc := "(I)I" } : Jvm.MethodName)) ∈ lw_all := lw_g (lw_at lw_m4 213 rfl) rfl
theorem q1002 : (Jvm.Cond.privateMethod ({ cls := "KiteRoofs$Town", name := "lowestSawn", desc := "(I)I" } : Jvm.MethodName)) ∈ lw_tbl := lw_at lw_m4 214 rfl
theorem q1003 : (Jvm.Cond.instanceMethod ({ cls := "KiteRoofs$Town", name := "lowestSawn", desc := "(I)I" } : Jvm.MethodName)) ∈ lw_all := lw_g (lw_at lw_m4 215 rfl) rfl
theorem q1004 : (Jvm.Cond.code ({ cls := "KiteRoofs$Town", name := "lowestSawn", desc := "(I)I" } : Jvm.MethodName) prog_17_method_18_code (5 : Nat) (Option.some Jvm.ClassFile.FieldType.int)) ∈ lw_all := lw_g (lw_at lw_m4 216 rfl) rfl
theorem q1005 : (Jvm.Cond.methodLink "KiteRoofs$Town" (181 : Nat) ({ cls := "KiteRoofs$Town", name := "cut", desc := "(I)V" } : Jvm.MethodName)) ∈ lw_all := lw_g (lw_at lw_m4 217 rfl) rfl
theorem q1006 : (Jvm.Cond.privateMethod ({ cls := "KiteRoofs$Town", name := "cut", desc := "(I)V" } : Jvm.MethodName)) ∈ lw_tbl := lw_at lw_m4 218 rfl
theorem q1007 : (Jvm.Cond.instanceMethod ({ cls := "KiteRoofs$Town", name := "cut", desc := "(I)V" } : Jvm.MethodName)) ∈ lw_all := lw_g (lw_at lw_m4 219 rfl) rfl
theorem q1008 : (Jvm.Cond.code ({ cls := "KiteRoofs$Town", name := "cut", desc := "(I)V" } : Jvm.MethodName) prog_17_method_23_code (5 : Nat) (Option.none : Option Jvm.ClassFile.FieldType)) ∈ lw_all := lw_g (lw_at lw_m4 220 rfl) rfl
theorem q1010 : (Jvm.Cond.methodLink "KiteRoofs$Town" (145 : Nat) ({ cls := "KiteRoofs$Town", name := "sawers", desc := "(I)I" } : Jvm.MethodName)) ∈ lw_all := lw_g (lw_at lw_m4 222 rfl) rfl
theorem q1011 : (Jvm.Cond.privateMethod ({ cls := "KiteRoofs$Town", name := "sawers", desc := "(I)I" } : Jvm.MethodName)) ∈ lw_tbl := lw_at lw_m4 223 rfl
theorem q1012 : (Jvm.Cond.instanceMethod ({ cls := "KiteRoofs$Town", name := "sawers", desc := "(I)I" } : Jvm.MethodName)) ∈ lw_all := lw_g (lw_at lw_m4 224 rfl) rfl
theorem q1013 : (Jvm.Cond.code ({ cls := "KiteRoofs$Town", name := "sawers", desc := "(I)I" } : Jvm.MethodName) prog_17_method_19_code (4 : Nat) (Option.some Jvm.ClassFile.FieldType.int)) ∈ lw_all := lw_g (lw_at lw_m4 225 rfl) rfl
theorem q1014 : (Jvm.Cond.methodLink "KiteRoofs$Town" (148 : Nat) ({ cls := "KiteRoofs$Cut", name := "<init>", desc := "(III)V" } : Jvm.MethodName)) ∈ lw_all := lw_g (lw_at lw_m4 226 rfl) rfl
theorem q1028 : (Jvm.Cond.methodLink "KiteRoofs$Town" (155 : Nat) ({ cls := "KiteRoofs$Town", name := "cutter", desc := "(I)I" } : Jvm.MethodName)) ∈ lw_all := lw_g (lw_at lw_m5 0 rfl) rfl
theorem q1029 : (Jvm.Cond.privateMethod ({ cls := "KiteRoofs$Town", name := "cutter", desc := "(I)I" } : Jvm.MethodName)) ∈ lw_tbl := lw_at lw_m5 1 rfl
theorem q1030 : (Jvm.Cond.instanceMethod ({ cls := "KiteRoofs$Town", name := "cutter", desc := "(I)I" } : Jvm.MethodName)) ∈ lw_all := lw_g (lw_at lw_m5 2 rfl) rfl
theorem q1031 : (Jvm.Cond.code ({ cls := "KiteRoofs$Town", name := "cutter", desc := "(I)I" } : Jvm.MethodName) prog_17_method_20_code (4 : Nat) (Option.some Jvm.ClassFile.FieldType.int)) ∈ lw_all := lw_g (lw_at lw_m5 3 rfl) rfl
theorem q1531 : (Jvm.Cond.instanceMethod ({ cls := "KiteRoofs$Town", name := "crossings", desc := "()I" } : Jvm.MethodName)) ∈ lw_all := lw_g (lw_at lw_m7 23 rfl) rfl
theorem q1532 : (Jvm.Cond.selects "KiteRoofs$Town" ({ cls := "KiteRoofs$Town", name := "crossings", desc := "()I" } : Jvm.MethodName) ({ cls := "KiteRoofs$Town", name := "crossings", desc := "()I" } : Jvm.MethodName)) ∈ lw_all := lw_g (lw_at lw_m7 24 rfl) rfl
theorem q1533 : (Jvm.Cond.code ({ cls := "KiteRoofs$Town", name := "crossings", desc := "()I" } : Jvm.MethodName) prog_17_method_14_code (4 : Nat) (Option.some Jvm.ClassFile.FieldType.int)) ∈ lw_all := lw_g (lw_at lw_m7 25 rfl) rfl
theorem q1535 : (Jvm.Cond.instanceMethod ({ cls := "KiteRoofs$Town", name := "points", desc := "()I" } : Jvm.MethodName)) ∈ lw_all := lw_g (lw_at lw_m7 27 rfl) rfl
theorem q1536 : (Jvm.Cond.selects "KiteRoofs$Town" ({ cls := "KiteRoofs$Town", name := "points", desc := "()I" } : Jvm.MethodName) ({ cls := "KiteRoofs$Town", name := "points", desc := "()I" } : Jvm.MethodName)) ∈ lw_all := lw_g (lw_at lw_m7 28 rfl) rfl
theorem q1537 : (Jvm.Cond.code ({ cls := "KiteRoofs$Town", name := "points", desc := "()I" } : Jvm.MethodName) prog_17_method_38_code (3 : Nat) (Option.some Jvm.ClassFile.FieldType.int)) ∈ lw_all := lw_g (lw_at lw_m7 29 rfl) rfl
theorem q1568 : (Jvm.Cond.instanceMethod ({ cls := "KiteRoofs$Town", name := "tensions", desc := "()I" } : Jvm.MethodName)) ∈ lw_all := lw_g (lw_at lw_m7 60 rfl) rfl
theorem q1569 : (Jvm.Cond.selects "KiteRoofs$Town" ({ cls := "KiteRoofs$Town", name := "tensions", desc := "()I" } : Jvm.MethodName) ({ cls := "KiteRoofs$Town", name := "tensions", desc := "()I" } : Jvm.MethodName)) ∈ lw_all := lw_g (lw_at lw_m7 61 rfl) rfl
theorem q1570 : (Jvm.Cond.code ({ cls := "KiteRoofs$Town", name := "tensions", desc := "()I" } : Jvm.MethodName) prog_17_method_39_code (3 : Nat) (Option.some Jvm.ClassFile.FieldType.int)) ∈ lw_all := lw_g (lw_at lw_m7 62 rfl) rfl
theorem q1579 : (Jvm.Cond.instanceMethod ({ cls := "KiteRoofs$Town", name := "spools", desc := "()I" } : Jvm.MethodName)) ∈ lw_all := lw_g (lw_at lw_m7 71 rfl) rfl
theorem q1580 : (Jvm.Cond.selects "KiteRoofs$Town" ({ cls := "KiteRoofs$Town", name := "spools", desc := "()I" } : Jvm.MethodName) ({ cls := "KiteRoofs$Town", name := "spools", desc := "()I" } : Jvm.MethodName)) ∈ lw_all := lw_g (lw_at lw_m7 72 rfl) rfl
theorem q1581 : (Jvm.Cond.code ({ cls := "KiteRoofs$Town", name := "spools", desc := "()I" } : Jvm.MethodName) prog_17_method_37_code (3 : Nat) (Option.some Jvm.ClassFile.FieldType.int)) ∈ lw_all := lw_g (lw_at lw_m7 73 rfl) rfl
theorem q1976 : (Jvm.Cond.castable "KiteRoofs$Town" "java/lang/Object") ∈ lw_tbl := lw_at lw_m8 228 rfl
theorem in_X2 : ∀ w ∈ wsX20, w ∈ lw_all := lw_in wsX20 [200, 202, 204, 206, 208, 210, 212, 214, 216, 218, 220] (by decide +kernel) (by decide +kernel)

/-! KiteRoofs$Kite -/
set_option maxRecDepth 100000
def RX3 : String := "KiteRoofs$Kite"
def TX3 : u_T := fun k => match k with
  | 0 => ("KiteRoofs$Kite", "make", "LKiteRoofs$Make;", false)
  | 1 => ("KiteRoofs$Kite", "roof", "I", false)
  | 2 => ("KiteRoofs$Kite", "spool", "I", false)
  | 3 => ("KiteRoofs$Kite", "atFirst", "I", false)
  | 4 => ("KiteRoofs$Kite", "glass", "I", false)
  | 5 => ("KiteRoofs$Kite", "speed", "I", false)
  | 6 => ("KiteRoofs$Kite", "points", "I", false)
  | _ => ("KiteRoofs$Kite", "state", "LKiteRoofs$State;", false)
def tyX3 : Nat → FieldType := fun k => match k with
  | 0 => .object "KiteRoofs$Make"
  | 1 => .int
  | 2 => .int
  | 3 => .int
  | 4 => .int
  | 5 => .int
  | 6 => .int
  | _ => .object "KiteRoofs$State"
abbrev wsX30 : List Cond := u_ws RX3 TX3 8
theorem nmX3 : ∀ a, a < 8 → ∀ b, b < 8 → a ≠ b → (TX3 a).2.1 ≠ (TX3 b).2.1 := by decide +kernel
theorem tyX3_ok : ∀ k, k < 8 → parseFieldDescriptor (TX3 k).2.2.1 = some (tyX3 k) := by decide +kernel
abbrev cX3_init : ByteArray := prog_4_method_1_code
def yX3_init : MethodName := ⟨RX3, "<init>", "()V"⟩
def dkwX3_init_0 : List UInt8 := [42, 183, 0, 1, 42, 178, 0, 7, 181, 0, 13, 42, 187, 0, 18, 89, 183, 0, 20, 181, 0, 21, 177]
abbrev dktX3_init_0 : List UInt8 := dkwX3_init_0 ++ []
theorem dksX3_init_0 : cX3_init.data.toList.drop 0 = dktX3_init_0 := by decide +kernel
theorem dX3_init_0 : decode cX3_init 0 = .ok (.aload_n 0, 1) := dk_42 (dk_at dksX3_init_0 0 rfl rfl)
theorem dX3_init_1 : decode cX3_init 1 = .ok (.invokespecial 1, 3) := dk_183 0 1 (dk_at dksX3_init_0 1 rfl rfl)
theorem dX3_init_4 : decode cX3_init 4 = .ok (.aload_n 0, 1) := dk_42 (dk_at dksX3_init_0 4 rfl rfl)
theorem dX3_init_5 : decode cX3_init 5 = .ok (.getstatic 7, 3) := dk_178 0 7 (dk_at dksX3_init_0 5 rfl rfl)
theorem dX3_init_8 : decode cX3_init 8 = .ok (.putfield 13, 3) := dk_181 0 13 (dk_at dksX3_init_0 8 rfl rfl)
theorem dX3_init_11 : decode cX3_init 11 = .ok (.aload_n 0, 1) := dk_42 (dk_at dksX3_init_0 11 rfl rfl)
theorem dX3_init_12 : decode cX3_init 12 = .ok (.new 18, 3) := dk_187 0 18 (dk_at dksX3_init_0 12 rfl rfl)
theorem dX3_init_15 : decode cX3_init 15 = .ok (.dup, 1) := dk_89 (dk_at dksX3_init_0 15 rfl rfl)
theorem dX3_init_16 : decode cX3_init 16 = .ok (.invokespecial 20, 3) := dk_183 0 20 (dk_at dksX3_init_0 16 rfl rfl)
theorem dX3_init_19 : decode cX3_init 19 = .ok (.putfield 21, 3) := dk_181 0 21 (dk_at dksX3_init_0 19 rfl rfl)
theorem dX3_init_22 : decode cX3_init 22 = .ok (.return_, 1) := dk_177 (dk_at dksX3_init_0 22 rfl rfl)
abbrev cX3_out : ByteArray := prog_4_method_7_code
def yX3_out : MethodName := ⟨RX3, "out", "()I"⟩
def dkwX3_out_1 : List UInt8 := [3, 172]
abbrev dktX3_out_1 : List UInt8 := dkwX3_out_1 ++ []
def dkwX3_out_0 : List UInt8 := [42, 180, 0, 21, 77, 44, 193, 0, 48, 153, 0, 15, 44, 192, 0, 48, 76, 43, 180, 0, 55, 167, 0, 4]
abbrev dktX3_out_0 : List UInt8 := dkwX3_out_0 ++ dktX3_out_1
theorem dksX3_out_0 : cX3_out.data.toList.drop 0 = dktX3_out_0 := by decide +kernel
theorem dksX3_out_1 : cX3_out.data.toList.drop 24 = dktX3_out_1 := dk_seg dksX3_out_0 24 rfl rfl
theorem dX3_out_0 : decode cX3_out 0 = .ok (.aload_n 0, 1) := dk_42 (dk_at dksX3_out_0 0 rfl rfl)
theorem dX3_out_1 : decode cX3_out 1 = .ok (.getfield 21, 3) := dk_180 0 21 (dk_at dksX3_out_0 1 rfl rfl)
theorem dX3_out_4 : decode cX3_out 4 = .ok (.astore_n 2, 1) := dk_77 (dk_at dksX3_out_0 4 rfl rfl)
theorem dX3_out_5 : decode cX3_out 5 = .ok (.aload_n 2, 1) := dk_44 (dk_at dksX3_out_0 5 rfl rfl)
theorem dX3_out_6 : decode cX3_out 6 = .ok (.instanceof 48, 3) := dk_193 0 48 (dk_at dksX3_out_0 6 rfl rfl)
theorem dX3_out_9 : decode cX3_out 9 = .ok (.ifCond .eq 15, 3) := dk_153 0 15 (dk_at dksX3_out_0 9 rfl rfl)
theorem dX3_out_12 : decode cX3_out 12 = .ok (.aload_n 2, 1) := dk_44 (dk_at dksX3_out_0 12 rfl rfl)
theorem dX3_out_13 : decode cX3_out 13 = .ok (.checkcast 48, 3) := dk_192 0 48 (dk_at dksX3_out_0 13 rfl rfl)
theorem dX3_out_16 : decode cX3_out 16 = .ok (.astore_n 1, 1) := dk_76 (dk_at dksX3_out_0 16 rfl rfl)
theorem dX3_out_17 : decode cX3_out 17 = .ok (.aload_n 1, 1) := dk_43 (dk_at dksX3_out_0 17 rfl rfl)
theorem dX3_out_18 : decode cX3_out 18 = .ok (.getfield 55, 3) := dk_180 0 55 (dk_at dksX3_out_0 18 rfl rfl)
theorem dX3_out_21 : decode cX3_out 21 = .ok (.goto 4, 3) := dk_167 0 4 (dk_at dksX3_out_0 21 rfl rfl)
theorem dX3_out_24 : decode cX3_out 24 = .ok (.iconst 0, 1) := dk_3 (dk_at dksX3_out_1 0 rfl rfl)
theorem dX3_out_25 : decode cX3_out 25 = .ok (.ireturn, 1) := dk_172 (dk_at dksX3_out_1 1 rfl rfl)
abbrev cX3_take : ByteArray := prog_4_method_3_code
def yX3_take : MethodName := ⟨RX3, "take", "(LKiteRoofs$Kite;)V"⟩
def dkwX3_take_2 : List UInt8 := [42, 43, 180, 0, 41, 181, 0, 41, 42, 43, 180, 0, 21, 182, 0, 44, 177]
abbrev dktX3_take_2 : List UInt8 := dkwX3_take_2 ++ []
def dkwX3_take_1 : List UInt8 := [42, 43, 180, 0, 32, 181, 0, 32, 42, 43, 180, 0, 35, 181, 0, 35, 42, 43, 180, 0, 38, 181, 0, 38]
abbrev dktX3_take_1 : List UInt8 := dkwX3_take_1 ++ dktX3_take_2
def dkwX3_take_0 : List UInt8 := [42, 43, 180, 0, 13, 181, 0, 13, 42, 43, 180, 0, 25, 181, 0, 25, 42, 43, 180, 0, 29, 181, 0, 29]
abbrev dktX3_take_0 : List UInt8 := dkwX3_take_0 ++ dktX3_take_1
theorem dksX3_take_0 : cX3_take.data.toList.drop 0 = dktX3_take_0 := by decide +kernel
theorem dksX3_take_1 : cX3_take.data.toList.drop 24 = dktX3_take_1 := dk_seg dksX3_take_0 24 rfl rfl
theorem dksX3_take_2 : cX3_take.data.toList.drop 48 = dktX3_take_2 := dk_seg dksX3_take_1 24 rfl rfl
theorem dX3_take_0 : decode cX3_take 0 = .ok (.aload_n 0, 1) := dk_42 (dk_at dksX3_take_0 0 rfl rfl)
theorem dX3_take_1 : decode cX3_take 1 = .ok (.aload_n 1, 1) := dk_43 (dk_at dksX3_take_0 1 rfl rfl)
theorem dX3_take_2 : decode cX3_take 2 = .ok (.getfield 13, 3) := dk_180 0 13 (dk_at dksX3_take_0 2 rfl rfl)
theorem dX3_take_5 : decode cX3_take 5 = .ok (.putfield 13, 3) := dk_181 0 13 (dk_at dksX3_take_0 5 rfl rfl)
theorem dX3_take_8 : decode cX3_take 8 = .ok (.aload_n 0, 1) := dk_42 (dk_at dksX3_take_0 8 rfl rfl)
theorem dX3_take_9 : decode cX3_take 9 = .ok (.aload_n 1, 1) := dk_43 (dk_at dksX3_take_0 9 rfl rfl)
theorem dX3_take_10 : decode cX3_take 10 = .ok (.getfield 25, 3) := dk_180 0 25 (dk_at dksX3_take_0 10 rfl rfl)
theorem dX3_take_13 : decode cX3_take 13 = .ok (.putfield 25, 3) := dk_181 0 25 (dk_at dksX3_take_0 13 rfl rfl)
theorem dX3_take_16 : decode cX3_take 16 = .ok (.aload_n 0, 1) := dk_42 (dk_at dksX3_take_0 16 rfl rfl)
theorem dX3_take_17 : decode cX3_take 17 = .ok (.aload_n 1, 1) := dk_43 (dk_at dksX3_take_0 17 rfl rfl)
theorem dX3_take_18 : decode cX3_take 18 = .ok (.getfield 29, 3) := dk_180 0 29 (dk_at dksX3_take_0 18 rfl rfl)
theorem dX3_take_21 : decode cX3_take 21 = .ok (.putfield 29, 3) := dk_181 0 29 (dk_at dksX3_take_0 21 rfl rfl)
theorem dX3_take_24 : decode cX3_take 24 = .ok (.aload_n 0, 1) := dk_42 (dk_at dksX3_take_1 0 rfl rfl)
theorem dX3_take_25 : decode cX3_take 25 = .ok (.aload_n 1, 1) := dk_43 (dk_at dksX3_take_1 1 rfl rfl)
theorem dX3_take_26 : decode cX3_take 26 = .ok (.getfield 32, 3) := dk_180 0 32 (dk_at dksX3_take_1 2 rfl rfl)
theorem dX3_take_29 : decode cX3_take 29 = .ok (.putfield 32, 3) := dk_181 0 32 (dk_at dksX3_take_1 5 rfl rfl)
theorem dX3_take_32 : decode cX3_take 32 = .ok (.aload_n 0, 1) := dk_42 (dk_at dksX3_take_1 8 rfl rfl)
theorem dX3_take_33 : decode cX3_take 33 = .ok (.aload_n 1, 1) := dk_43 (dk_at dksX3_take_1 9 rfl rfl)
theorem dX3_take_34 : decode cX3_take 34 = .ok (.getfield 35, 3) := dk_180 0 35 (dk_at dksX3_take_1 10 rfl rfl)
theorem dX3_take_37 : decode cX3_take 37 = .ok (.putfield 35, 3) := dk_181 0 35 (dk_at dksX3_take_1 13 rfl rfl)
theorem dX3_take_40 : decode cX3_take 40 = .ok (.aload_n 0, 1) := dk_42 (dk_at dksX3_take_1 16 rfl rfl)
theorem dX3_take_41 : decode cX3_take 41 = .ok (.aload_n 1, 1) := dk_43 (dk_at dksX3_take_1 17 rfl rfl)
theorem dX3_take_42 : decode cX3_take 42 = .ok (.getfield 38, 3) := dk_180 0 38 (dk_at dksX3_take_1 18 rfl rfl)
theorem dX3_take_45 : decode cX3_take 45 = .ok (.putfield 38, 3) := dk_181 0 38 (dk_at dksX3_take_1 21 rfl rfl)
theorem dX3_take_48 : decode cX3_take 48 = .ok (.aload_n 0, 1) := dk_42 (dk_at dksX3_take_2 0 rfl rfl)
theorem dX3_take_49 : decode cX3_take 49 = .ok (.aload_n 1, 1) := dk_43 (dk_at dksX3_take_2 1 rfl rfl)
theorem dX3_take_50 : decode cX3_take 50 = .ok (.getfield 41, 3) := dk_180 0 41 (dk_at dksX3_take_2 2 rfl rfl)
theorem dX3_take_53 : decode cX3_take 53 = .ok (.putfield 41, 3) := dk_181 0 41 (dk_at dksX3_take_2 5 rfl rfl)
theorem dX3_take_56 : decode cX3_take 56 = .ok (.aload_n 0, 1) := dk_42 (dk_at dksX3_take_2 8 rfl rfl)
theorem dX3_take_57 : decode cX3_take 57 = .ok (.aload_n 1, 1) := dk_43 (dk_at dksX3_take_2 9 rfl rfl)
theorem dX3_take_58 : decode cX3_take 58 = .ok (.getfield 21, 3) := dk_180 0 21 (dk_at dksX3_take_2 10 rfl rfl)
theorem dX3_take_61 : decode cX3_take 61 = .ok (.invokevirtual 44, 3) := dk_182 0 44 (dk_at dksX3_take_2 13 rfl rfl)
theorem dX3_take_64 : decode cX3_take 64 = .ok (.return_, 1) := dk_177 (dk_at dksX3_take_2 16 rfl rfl)
abbrev cX3_takeState : ByteArray := prog_4_method_4_code
def yX3_takeState : MethodName := ⟨RX3, "takeState", "(LKiteRoofs$State;)V"⟩
def dkwX3_takeState_2 : List UInt8 := [87, 167, 0, 18, 42, 187, 0, 48, 89, 183, 0, 54, 44, 182, 0, 50, 181, 0, 21, 177]
abbrev dktX3_takeState_2 : List UInt8 := dkwX3_takeState_2 ++ []
def dkwX3_takeState_1 : List UInt8 := [180, 0, 21, 58, 4, 25, 4, 193, 0, 48, 153, 0, 18, 25, 4, 192, 0, 48, 78, 45, 44, 182, 0, 50]
abbrev dktX3_takeState_1 : List UInt8 := dkwX3_takeState_1 ++ dktX3_takeState_2
def dkwX3_takeState_0 : List UInt8 := [43, 193, 0, 48, 153, 0, 11, 43, 192, 0, 48, 77, 167, 0, 11, 42, 43, 181, 0, 21, 167, 0, 47, 42]
abbrev dktX3_takeState_0 : List UInt8 := dkwX3_takeState_0 ++ dktX3_takeState_1
theorem dksX3_takeState_0 : cX3_takeState.data.toList.drop 0 = dktX3_takeState_0 := by decide +kernel
theorem dksX3_takeState_1 : cX3_takeState.data.toList.drop 24 = dktX3_takeState_1 := dk_seg dksX3_takeState_0 24 rfl rfl
theorem dksX3_takeState_2 : cX3_takeState.data.toList.drop 48 = dktX3_takeState_2 := dk_seg dksX3_takeState_1 24 rfl rfl
theorem dX3_takeState_0 : decode cX3_takeState 0 = .ok (.aload_n 1, 1) := dk_43 (dk_at dksX3_takeState_0 0 rfl rfl)
theorem dX3_takeState_1 : decode cX3_takeState 1 = .ok (.instanceof 48, 3) := dk_193 0 48 (dk_at dksX3_takeState_0 1 rfl rfl)
theorem dX3_takeState_4 : decode cX3_takeState 4 = .ok (.ifCond .eq 11, 3) := dk_153 0 11 (dk_at dksX3_takeState_0 4 rfl rfl)
theorem dX3_takeState_7 : decode cX3_takeState 7 = .ok (.aload_n 1, 1) := dk_43 (dk_at dksX3_takeState_0 7 rfl rfl)
theorem dX3_takeState_8 : decode cX3_takeState 8 = .ok (.checkcast 48, 3) := dk_192 0 48 (dk_at dksX3_takeState_0 8 rfl rfl)
theorem dX3_takeState_11 : decode cX3_takeState 11 = .ok (.astore_n 2, 1) := dk_77 (dk_at dksX3_takeState_0 11 rfl rfl)
theorem dX3_takeState_12 : decode cX3_takeState 12 = .ok (.goto 11, 3) := dk_167 0 11 (dk_at dksX3_takeState_0 12 rfl rfl)
theorem dX3_takeState_15 : decode cX3_takeState 15 = .ok (.aload_n 0, 1) := dk_42 (dk_at dksX3_takeState_0 15 rfl rfl)
theorem dX3_takeState_16 : decode cX3_takeState 16 = .ok (.aload_n 1, 1) := dk_43 (dk_at dksX3_takeState_0 16 rfl rfl)
theorem dX3_takeState_17 : decode cX3_takeState 17 = .ok (.putfield 21, 3) := dk_181 0 21 (dk_at dksX3_takeState_0 17 rfl rfl)
theorem dX3_takeState_20 : decode cX3_takeState 20 = .ok (.goto 47, 3) := dk_167 0 47 (dk_at dksX3_takeState_0 20 rfl rfl)
theorem dX3_takeState_23 : decode cX3_takeState 23 = .ok (.aload_n 0, 1) := dk_42 (dk_at dksX3_takeState_0 23 rfl rfl)
theorem dX3_takeState_24 : decode cX3_takeState 24 = .ok (.getfield 21, 3) := dk_180 0 21 (dk_at dksX3_takeState_1 0 rfl rfl)
theorem dX3_takeState_27 : decode cX3_takeState 27 = .ok (.astore 4, 2) := dk_58 4 (dk_at dksX3_takeState_1 3 rfl rfl)
theorem dX3_takeState_29 : decode cX3_takeState 29 = .ok (.aload 4, 2) := dk_25 4 (dk_at dksX3_takeState_1 5 rfl rfl)
theorem dX3_takeState_31 : decode cX3_takeState 31 = .ok (.instanceof 48, 3) := dk_193 0 48 (dk_at dksX3_takeState_1 7 rfl rfl)
theorem dX3_takeState_34 : decode cX3_takeState 34 = .ok (.ifCond .eq 18, 3) := dk_153 0 18 (dk_at dksX3_takeState_1 10 rfl rfl)
theorem dX3_takeState_37 : decode cX3_takeState 37 = .ok (.aload 4, 2) := dk_25 4 (dk_at dksX3_takeState_1 13 rfl rfl)
theorem dX3_takeState_39 : decode cX3_takeState 39 = .ok (.checkcast 48, 3) := dk_192 0 48 (dk_at dksX3_takeState_1 15 rfl rfl)
theorem dX3_takeState_42 : decode cX3_takeState 42 = .ok (.astore_n 3, 1) := dk_78 (dk_at dksX3_takeState_1 18 rfl rfl)
theorem dX3_takeState_43 : decode cX3_takeState 43 = .ok (.aload_n 3, 1) := dk_45 (dk_at dksX3_takeState_1 19 rfl rfl)
theorem dX3_takeState_44 : decode cX3_takeState 44 = .ok (.aload_n 2, 1) := dk_44 (dk_at dksX3_takeState_1 20 rfl rfl)
theorem dX3_takeState_45 : decode cX3_takeState 45 = .ok (.invokevirtual 50, 3) := dk_182 0 50 (dk_at dksX3_takeState_1 21 rfl rfl)
theorem dX3_takeState_48 : decode cX3_takeState 48 = .ok (.pop, 1) := dk_87 (dk_at dksX3_takeState_2 0 rfl rfl)
theorem dX3_takeState_49 : decode cX3_takeState 49 = .ok (.goto 18, 3) := dk_167 0 18 (dk_at dksX3_takeState_2 1 rfl rfl)
theorem dX3_takeState_52 : decode cX3_takeState 52 = .ok (.aload_n 0, 1) := dk_42 (dk_at dksX3_takeState_2 4 rfl rfl)
theorem dX3_takeState_53 : decode cX3_takeState 53 = .ok (.new 48, 3) := dk_187 0 48 (dk_at dksX3_takeState_2 5 rfl rfl)
theorem dX3_takeState_56 : decode cX3_takeState 56 = .ok (.dup, 1) := dk_89 (dk_at dksX3_takeState_2 8 rfl rfl)
theorem dX3_takeState_57 : decode cX3_takeState 57 = .ok (.invokespecial 54, 3) := dk_183 0 54 (dk_at dksX3_takeState_2 9 rfl rfl)
theorem dX3_takeState_60 : decode cX3_takeState 60 = .ok (.aload_n 2, 1) := dk_44 (dk_at dksX3_takeState_2 12 rfl rfl)
theorem dX3_takeState_61 : decode cX3_takeState 61 = .ok (.invokevirtual 50, 3) := dk_182 0 50 (dk_at dksX3_takeState_2 13 rfl rfl)
theorem dX3_takeState_64 : decode cX3_takeState 64 = .ok (.putfield 21, 3) := dk_181 0 21 (dk_at dksX3_takeState_2 16 rfl rfl)
theorem dX3_takeState_67 : decode cX3_takeState 67 = .ok (.return_, 1) := dk_177 (dk_at dksX3_takeState_2 19 rfl rfl)
abbrev cX3_begins : ByteArray := prog_4_method_2_code
def yX3_begins : MethodName := ⟨RX3, "begins", "(LKiteRoofs$Make;III)V"⟩
def dkwX3_begins_2 : List UInt8 := [177]
abbrev dktX3_begins_2 : List UInt8 := dkwX3_begins_2 ++ []
def dkwX3_begins_1 : List UInt8 := [181, 0, 35, 42, 3, 181, 0, 38, 42, 3, 181, 0, 41, 42, 187, 0, 18, 89, 183, 0, 20, 181, 0, 21]
abbrev dktX3_begins_1 : List UInt8 := dkwX3_begins_1 ++ dktX3_begins_2
def dkwX3_begins_0 : List UInt8 := [42, 43, 181, 0, 13, 42, 28, 181, 0, 25, 42, 29, 181, 0, 29, 42, 29, 181, 0, 32, 42, 21, 4]
abbrev dktX3_begins_0 : List UInt8 := dkwX3_begins_0 ++ dktX3_begins_1
theorem dksX3_begins_0 : cX3_begins.data.toList.drop 0 = dktX3_begins_0 := by decide +kernel
theorem dksX3_begins_1 : cX3_begins.data.toList.drop 23 = dktX3_begins_1 := dk_seg dksX3_begins_0 23 rfl rfl
theorem dksX3_begins_2 : cX3_begins.data.toList.drop 47 = dktX3_begins_2 := dk_seg dksX3_begins_1 24 rfl rfl
theorem dX3_begins_0 : decode cX3_begins 0 = .ok (.aload_n 0, 1) := dk_42 (dk_at dksX3_begins_0 0 rfl rfl)
theorem dX3_begins_1 : decode cX3_begins 1 = .ok (.aload_n 1, 1) := dk_43 (dk_at dksX3_begins_0 1 rfl rfl)
theorem dX3_begins_2 : decode cX3_begins 2 = .ok (.putfield 13, 3) := dk_181 0 13 (dk_at dksX3_begins_0 2 rfl rfl)
theorem dX3_begins_5 : decode cX3_begins 5 = .ok (.aload_n 0, 1) := dk_42 (dk_at dksX3_begins_0 5 rfl rfl)
theorem dX3_begins_6 : decode cX3_begins 6 = .ok (.iload_n 2, 1) := dk_28 (dk_at dksX3_begins_0 6 rfl rfl)
theorem dX3_begins_7 : decode cX3_begins 7 = .ok (.putfield 25, 3) := dk_181 0 25 (dk_at dksX3_begins_0 7 rfl rfl)
theorem dX3_begins_10 : decode cX3_begins 10 = .ok (.aload_n 0, 1) := dk_42 (dk_at dksX3_begins_0 10 rfl rfl)
theorem dX3_begins_11 : decode cX3_begins 11 = .ok (.iload_n 3, 1) := dk_29 (dk_at dksX3_begins_0 11 rfl rfl)
theorem dX3_begins_12 : decode cX3_begins 12 = .ok (.putfield 29, 3) := dk_181 0 29 (dk_at dksX3_begins_0 12 rfl rfl)
theorem dX3_begins_15 : decode cX3_begins 15 = .ok (.aload_n 0, 1) := dk_42 (dk_at dksX3_begins_0 15 rfl rfl)
theorem dX3_begins_16 : decode cX3_begins 16 = .ok (.iload_n 3, 1) := dk_29 (dk_at dksX3_begins_0 16 rfl rfl)
theorem dX3_begins_17 : decode cX3_begins 17 = .ok (.putfield 32, 3) := dk_181 0 32 (dk_at dksX3_begins_0 17 rfl rfl)
theorem dX3_begins_20 : decode cX3_begins 20 = .ok (.aload_n 0, 1) := dk_42 (dk_at dksX3_begins_0 20 rfl rfl)
theorem dX3_begins_21 : decode cX3_begins 21 = .ok (.iload 4, 2) := dk_21 4 (dk_at dksX3_begins_0 21 rfl rfl)
theorem dX3_begins_23 : decode cX3_begins 23 = .ok (.putfield 35, 3) := dk_181 0 35 (dk_at dksX3_begins_1 0 rfl rfl)
theorem dX3_begins_26 : decode cX3_begins 26 = .ok (.aload_n 0, 1) := dk_42 (dk_at dksX3_begins_1 3 rfl rfl)
theorem dX3_begins_27 : decode cX3_begins 27 = .ok (.iconst 0, 1) := dk_3 (dk_at dksX3_begins_1 4 rfl rfl)
theorem dX3_begins_28 : decode cX3_begins 28 = .ok (.putfield 38, 3) := dk_181 0 38 (dk_at dksX3_begins_1 5 rfl rfl)
theorem dX3_begins_31 : decode cX3_begins 31 = .ok (.aload_n 0, 1) := dk_42 (dk_at dksX3_begins_1 8 rfl rfl)
theorem dX3_begins_32 : decode cX3_begins 32 = .ok (.iconst 0, 1) := dk_3 (dk_at dksX3_begins_1 9 rfl rfl)
theorem dX3_begins_33 : decode cX3_begins 33 = .ok (.putfield 41, 3) := dk_181 0 41 (dk_at dksX3_begins_1 10 rfl rfl)
theorem dX3_begins_36 : decode cX3_begins 36 = .ok (.aload_n 0, 1) := dk_42 (dk_at dksX3_begins_1 13 rfl rfl)
theorem dX3_begins_37 : decode cX3_begins 37 = .ok (.new 18, 3) := dk_187 0 18 (dk_at dksX3_begins_1 14 rfl rfl)
theorem dX3_begins_40 : decode cX3_begins 40 = .ok (.dup, 1) := dk_89 (dk_at dksX3_begins_1 17 rfl rfl)
theorem dX3_begins_41 : decode cX3_begins 41 = .ok (.invokespecial 20, 3) := dk_183 0 20 (dk_at dksX3_begins_1 18 rfl rfl)
theorem dX3_begins_44 : decode cX3_begins 44 = .ok (.putfield 21, 3) := dk_181 0 21 (dk_at dksX3_begins_1 21 rfl rfl)
theorem dX3_begins_47 : decode cX3_begins 47 = .ok (.return_, 1) := dk_177 (dk_at dksX3_begins_2 0 rfl rfl)
abbrev cX3_isOnRoof : ByteArray := prog_4_method_6_code
def yX3_isOnRoof : MethodName := ⟨RX3, "isOnRoof", "()Z"⟩
def dkwX3_isOnRoof_0 : List UInt8 := [42, 180, 0, 21, 193, 0, 18, 172]
abbrev dktX3_isOnRoof_0 : List UInt8 := dkwX3_isOnRoof_0 ++ []
theorem dksX3_isOnRoof_0 : cX3_isOnRoof.data.toList.drop 0 = dktX3_isOnRoof_0 := by decide +kernel
theorem dX3_isOnRoof_0 : decode cX3_isOnRoof 0 = .ok (.aload_n 0, 1) := dk_42 (dk_at dksX3_isOnRoof_0 0 rfl rfl)
theorem dX3_isOnRoof_1 : decode cX3_isOnRoof 1 = .ok (.getfield 21, 3) := dk_180 0 21 (dk_at dksX3_isOnRoof_0 1 rfl rfl)
theorem dX3_isOnRoof_4 : decode cX3_isOnRoof 4 = .ok (.instanceof 18, 3) := dk_193 0 18 (dk_at dksX3_isOnRoof_0 4 rfl rfl)
theorem dX3_isOnRoof_7 : decode cX3_isOnRoof 7 = .ok (.ireturn, 1) := dk_172 (dk_at dksX3_isOnRoof_0 7 rfl rfl)
abbrev cX3_isUp : ByteArray := prog_4_method_5_code
def yX3_isUp : MethodName := ⟨RX3, "isUp", "()Z"⟩
def dkwX3_isUp_0 : List UInt8 := [42, 180, 0, 21, 193, 0, 48, 172]
abbrev dktX3_isUp_0 : List UInt8 := dkwX3_isUp_0 ++ []
theorem dksX3_isUp_0 : cX3_isUp.data.toList.drop 0 = dktX3_isUp_0 := by decide +kernel
theorem dX3_isUp_0 : decode cX3_isUp 0 = .ok (.aload_n 0, 1) := dk_42 (dk_at dksX3_isUp_0 0 rfl rfl)
theorem dX3_isUp_1 : decode cX3_isUp 1 = .ok (.getfield 21, 3) := dk_180 0 21 (dk_at dksX3_isUp_0 1 rfl rfl)
theorem dX3_isUp_4 : decode cX3_isUp 4 = .ok (.instanceof 48, 3) := dk_193 0 48 (dk_at dksX3_isUp_0 4 rfl rfl)
theorem dX3_isUp_7 : decode cX3_isUp 7 = .ok (.ireturn, 1) := dk_172 (dk_at dksX3_isUp_0 7 rfl rfl)
abbrev cX3_reels : ByteArray := prog_4_method_9_code
def yX3_reels : MethodName := ⟨RX3, "reels", "(I)I"⟩
def dkwX3_reels_1 : List UInt8 := [182, 0, 61, 167, 0, 4, 3, 172]
abbrev dktX3_reels_1 : List UInt8 := dkwX3_reels_1 ++ []
def dkwX3_reels_0 : List UInt8 := [42, 180, 0, 21, 78, 45, 193, 0, 48, 153, 0, 20, 45, 192, 0, 48, 77, 44, 27, 42, 180, 0, 29]
abbrev dktX3_reels_0 : List UInt8 := dkwX3_reels_0 ++ dktX3_reels_1
theorem dksX3_reels_0 : cX3_reels.data.toList.drop 0 = dktX3_reels_0 := by decide +kernel
theorem dksX3_reels_1 : cX3_reels.data.toList.drop 23 = dktX3_reels_1 := dk_seg dksX3_reels_0 23 rfl rfl
theorem dX3_reels_0 : decode cX3_reels 0 = .ok (.aload_n 0, 1) := dk_42 (dk_at dksX3_reels_0 0 rfl rfl)
theorem dX3_reels_1 : decode cX3_reels 1 = .ok (.getfield 21, 3) := dk_180 0 21 (dk_at dksX3_reels_0 1 rfl rfl)
theorem dX3_reels_4 : decode cX3_reels 4 = .ok (.astore_n 3, 1) := dk_78 (dk_at dksX3_reels_0 4 rfl rfl)
theorem dX3_reels_5 : decode cX3_reels 5 = .ok (.aload_n 3, 1) := dk_45 (dk_at dksX3_reels_0 5 rfl rfl)
theorem dX3_reels_6 : decode cX3_reels 6 = .ok (.instanceof 48, 3) := dk_193 0 48 (dk_at dksX3_reels_0 6 rfl rfl)
theorem dX3_reels_9 : decode cX3_reels 9 = .ok (.ifCond .eq 20, 3) := dk_153 0 20 (dk_at dksX3_reels_0 9 rfl rfl)
theorem dX3_reels_12 : decode cX3_reels 12 = .ok (.aload_n 3, 1) := dk_45 (dk_at dksX3_reels_0 12 rfl rfl)
theorem dX3_reels_13 : decode cX3_reels 13 = .ok (.checkcast 48, 3) := dk_192 0 48 (dk_at dksX3_reels_0 13 rfl rfl)
theorem dX3_reels_16 : decode cX3_reels 16 = .ok (.astore_n 2, 1) := dk_77 (dk_at dksX3_reels_0 16 rfl rfl)
theorem dX3_reels_17 : decode cX3_reels 17 = .ok (.aload_n 2, 1) := dk_44 (dk_at dksX3_reels_0 17 rfl rfl)
theorem dX3_reels_18 : decode cX3_reels 18 = .ok (.iload_n 1, 1) := dk_27 (dk_at dksX3_reels_0 18 rfl rfl)
theorem dX3_reels_19 : decode cX3_reels 19 = .ok (.aload_n 0, 1) := dk_42 (dk_at dksX3_reels_0 19 rfl rfl)
theorem dX3_reels_20 : decode cX3_reels 20 = .ok (.getfield 29, 3) := dk_180 0 29 (dk_at dksX3_reels_0 20 rfl rfl)
theorem dX3_reels_23 : decode cX3_reels 23 = .ok (.invokevirtual 61, 3) := dk_182 0 61 (dk_at dksX3_reels_1 0 rfl rfl)
theorem dX3_reels_26 : decode cX3_reels 26 = .ok (.goto 4, 3) := dk_167 0 4 (dk_at dksX3_reels_1 3 rfl rfl)
theorem dX3_reels_29 : decode cX3_reels 29 = .ok (.iconst 0, 1) := dk_3 (dk_at dksX3_reels_1 6 rfl rfl)
theorem dX3_reels_30 : decode cX3_reels 30 = .ok (.ireturn, 1) := dk_172 (dk_at dksX3_reels_1 7 rfl rfl)
abbrev cX3_wear : ByteArray := prog_4_method_8_code
def yX3_wear : MethodName := ⟨RX3, "wear", "()I"⟩
def dkwX3_wear_1 : List UInt8 := [3, 172]
abbrev dktX3_wear_1 : List UInt8 := dkwX3_wear_1 ++ []
def dkwX3_wear_0 : List UInt8 := [42, 180, 0, 21, 77, 44, 193, 0, 48, 153, 0, 15, 44, 192, 0, 48, 76, 43, 180, 0, 58, 167, 0, 4]
abbrev dktX3_wear_0 : List UInt8 := dkwX3_wear_0 ++ dktX3_wear_1
theorem dksX3_wear_0 : cX3_wear.data.toList.drop 0 = dktX3_wear_0 := by decide +kernel
theorem dksX3_wear_1 : cX3_wear.data.toList.drop 24 = dktX3_wear_1 := dk_seg dksX3_wear_0 24 rfl rfl
theorem dX3_wear_0 : decode cX3_wear 0 = .ok (.aload_n 0, 1) := dk_42 (dk_at dksX3_wear_0 0 rfl rfl)
theorem dX3_wear_1 : decode cX3_wear 1 = .ok (.getfield 21, 3) := dk_180 0 21 (dk_at dksX3_wear_0 1 rfl rfl)
theorem dX3_wear_4 : decode cX3_wear 4 = .ok (.astore_n 2, 1) := dk_77 (dk_at dksX3_wear_0 4 rfl rfl)
theorem dX3_wear_5 : decode cX3_wear 5 = .ok (.aload_n 2, 1) := dk_44 (dk_at dksX3_wear_0 5 rfl rfl)
theorem dX3_wear_6 : decode cX3_wear 6 = .ok (.instanceof 48, 3) := dk_193 0 48 (dk_at dksX3_wear_0 6 rfl rfl)
theorem dX3_wear_9 : decode cX3_wear 9 = .ok (.ifCond .eq 15, 3) := dk_153 0 15 (dk_at dksX3_wear_0 9 rfl rfl)
theorem dX3_wear_12 : decode cX3_wear 12 = .ok (.aload_n 2, 1) := dk_44 (dk_at dksX3_wear_0 12 rfl rfl)
theorem dX3_wear_13 : decode cX3_wear 13 = .ok (.checkcast 48, 3) := dk_192 0 48 (dk_at dksX3_wear_0 13 rfl rfl)
theorem dX3_wear_16 : decode cX3_wear 16 = .ok (.astore_n 1, 1) := dk_76 (dk_at dksX3_wear_0 16 rfl rfl)
theorem dX3_wear_17 : decode cX3_wear 17 = .ok (.aload_n 1, 1) := dk_43 (dk_at dksX3_wear_0 17 rfl rfl)
theorem dX3_wear_18 : decode cX3_wear 18 = .ok (.getfield 58, 3) := dk_180 0 58 (dk_at dksX3_wear_0 18 rfl rfl)
theorem dX3_wear_21 : decode cX3_wear 21 = .ok (.goto 4, 3) := dk_167 0 4 (dk_at dksX3_wear_0 21 rfl rfl)
theorem dX3_wear_24 : decode cX3_wear 24 = .ok (.iconst 0, 1) := dk_3 (dk_at dksX3_wear_1 0 rfl rfl)
theorem dX3_wear_25 : decode cX3_wear 25 = .ok (.ireturn, 1) := dk_172 (dk_at dksX3_wear_1 1 rfl rfl)
abbrev cX3_wears : ByteArray := prog_4_method_10_code
def yX3_wears : MethodName := ⟨RX3, "wears", "(I)V"⟩
def dkwX3_wears_0 : List UInt8 := [42, 180, 0, 21, 78, 45, 193, 0, 48, 153, 0, 13, 45, 192, 0, 48, 77, 44, 27, 182, 0, 65, 177]
abbrev dktX3_wears_0 : List UInt8 := dkwX3_wears_0 ++ []
theorem dksX3_wears_0 : cX3_wears.data.toList.drop 0 = dktX3_wears_0 := by decide +kernel
theorem dX3_wears_0 : decode cX3_wears 0 = .ok (.aload_n 0, 1) := dk_42 (dk_at dksX3_wears_0 0 rfl rfl)
theorem dX3_wears_1 : decode cX3_wears 1 = .ok (.getfield 21, 3) := dk_180 0 21 (dk_at dksX3_wears_0 1 rfl rfl)
theorem dX3_wears_4 : decode cX3_wears 4 = .ok (.astore_n 3, 1) := dk_78 (dk_at dksX3_wears_0 4 rfl rfl)
theorem dX3_wears_5 : decode cX3_wears 5 = .ok (.aload_n 3, 1) := dk_45 (dk_at dksX3_wears_0 5 rfl rfl)
theorem dX3_wears_6 : decode cX3_wears 6 = .ok (.instanceof 48, 3) := dk_193 0 48 (dk_at dksX3_wears_0 6 rfl rfl)
theorem dX3_wears_9 : decode cX3_wears 9 = .ok (.ifCond .eq 13, 3) := dk_153 0 13 (dk_at dksX3_wears_0 9 rfl rfl)
theorem dX3_wears_12 : decode cX3_wears 12 = .ok (.aload_n 3, 1) := dk_45 (dk_at dksX3_wears_0 12 rfl rfl)
theorem dX3_wears_13 : decode cX3_wears 13 = .ok (.checkcast 48, 3) := dk_192 0 48 (dk_at dksX3_wears_0 13 rfl rfl)
theorem dX3_wears_16 : decode cX3_wears 16 = .ok (.astore_n 2, 1) := dk_77 (dk_at dksX3_wears_0 16 rfl rfl)
theorem dX3_wears_17 : decode cX3_wears 17 = .ok (.aload_n 2, 1) := dk_44 (dk_at dksX3_wears_0 17 rfl rfl)
theorem dX3_wears_18 : decode cX3_wears 18 = .ok (.iload_n 1, 1) := dk_27 (dk_at dksX3_wears_0 18 rfl rfl)
theorem dX3_wears_19 : decode cX3_wears 19 = .ok (.invokevirtual 65, 3) := dk_182 0 65 (dk_at dksX3_wears_0 19 rfl rfl)
theorem dX3_wears_22 : decode cX3_wears 22 = .ok (.return_, 1) := dk_177 (dk_at dksX3_wears_0 22 rfl rfl)
theorem q71 : (Jvm.Cond.initialized "KiteRoofs$Kite") ∈ lw_all := lw_g (lw_at lw_m1 3 rfl) rfl
theorem q125 : (Jvm.Cond.instantiable "KiteRoofs$Kite" (8 : Nat)) ∈ lw_all := lw_g (lw_at lw_m1 57 rfl) rfl
theorem q127 : (Jvm.Cond.instanceMethod ({ cls := "KiteRoofs$Kite", name := "<init>", desc := "()V" } : Jvm.MethodName)) ∈ lw_all := lw_g (lw_at lw_m1 59 rfl) rfl
theorem q128 : (Jvm.Cond.code ({ cls := "KiteRoofs$Kite", name := "<init>", desc := "()V" } : Jvm.MethodName) prog_4_method_1_code (1 : Nat) (Option.none : Option Jvm.ClassFile.FieldType)) ∈ lw_all := lw_g (lw_at lw_m1 60 rfl) rfl
theorem q129 : (Jvm.Cond.methodLink "KiteRoofs$Kite" (1 : Nat) ({ cls := "java/lang/Object", name := "<init>", desc := "()V" } : Jvm.MethodName)) ∈ lw_all := lw_g (lw_at lw_m1 61 rfl) rfl
theorem q130 : (Jvm.Cond.fieldLink "KiteRoofs$Kite" (7 : Nat) "KiteRoofs$Make" "PLAIN" "LKiteRoofs$Make;") ∈ lw_all := lw_g (lw_at lw_m1 62 rfl) rfl
theorem q132 : (Jvm.Cond.classLink "KiteRoofs$Kite" (18 : Nat) "KiteRoofs$OnRoof") ∈ lw_all := lw_g (lw_at lw_m1 64 rfl) rfl
theorem q134 : (Jvm.Cond.methodLinkNest "KiteRoofs$Kite" (20 : Nat) ({ cls := "KiteRoofs$OnRoof", name := "<init>", desc := "()V" } : Jvm.MethodName) "KiteRoofs") ∈ lw_tbl := lw_at lw_m1 66 rfl
theorem q140 : (Jvm.Cond.fieldLink "KiteRoofs$Kite" (13 : Nat) "KiteRoofs$Kite" "make" "LKiteRoofs$Make;") ∈ lw_all := lw_g (lw_at lw_m1 72 rfl) rfl
theorem q143 : (Jvm.Cond.fieldLink "KiteRoofs$Kite" (25 : Nat) "KiteRoofs$Kite" "roof" "I") ∈ lw_all := lw_g (lw_at lw_m1 75 rfl) rfl
theorem q146 : (Jvm.Cond.fieldLink "KiteRoofs$Kite" (29 : Nat) "KiteRoofs$Kite" "spool" "I") ∈ lw_all := lw_g (lw_at lw_m1 78 rfl) rfl
theorem q149 : (Jvm.Cond.fieldLink "KiteRoofs$Kite" (32 : Nat) "KiteRoofs$Kite" "atFirst" "I") ∈ lw_all := lw_g (lw_at lw_m1 81 rfl) rfl
theorem q151 : (Jvm.Cond.fieldLink "KiteRoofs$Kite" (35 : Nat) "KiteRoofs$Kite" "glass" "I") ∈ lw_all := lw_g (lw_at lw_m1 83 rfl) rfl
theorem q154 : (Jvm.Cond.fieldLink "KiteRoofs$Kite" (38 : Nat) "KiteRoofs$Kite" "speed" "I") ∈ lw_all := lw_g (lw_at lw_m1 86 rfl) rfl
theorem q157 : (Jvm.Cond.fieldLink "KiteRoofs$Kite" (41 : Nat) "KiteRoofs$Kite" "points" "I") ∈ lw_all := lw_g (lw_at lw_m1 89 rfl) rfl
theorem q160 : (Jvm.Cond.fieldLink "KiteRoofs$Kite" (21 : Nat) "KiteRoofs$Kite" "state" "LKiteRoofs$State;") ∈ lw_all := lw_g (lw_at lw_m1 92 rfl) rfl
theorem q163 : (Jvm.Cond.lays "KiteRoofs$Kite" "KiteRoofs$Kite" "make" "LKiteRoofs$Make;") ∈ lw_all := lw_g (lw_at lw_m1 95 rfl) rfl
theorem q164 : (Jvm.Cond.soleField "KiteRoofs$Kite" "make") ∈ lw_all := lw_g (lw_at lw_m1 96 rfl) rfl
theorem q165 : (Jvm.Cond.lays "KiteRoofs$Kite" "KiteRoofs$Kite" "roof" "I") ∈ lw_all := lw_g (lw_at lw_m1 97 rfl) rfl
theorem q166 : (Jvm.Cond.soleField "KiteRoofs$Kite" "roof") ∈ lw_all := lw_g (lw_at lw_m1 98 rfl) rfl
theorem q167 : (Jvm.Cond.lays "KiteRoofs$Kite" "KiteRoofs$Kite" "spool" "I") ∈ lw_all := lw_g (lw_at lw_m1 99 rfl) rfl
theorem q168 : (Jvm.Cond.soleField "KiteRoofs$Kite" "spool") ∈ lw_all := lw_g (lw_at lw_m1 100 rfl) rfl
theorem q169 : (Jvm.Cond.lays "KiteRoofs$Kite" "KiteRoofs$Kite" "atFirst" "I") ∈ lw_all := lw_g (lw_at lw_m1 101 rfl) rfl
theorem q170 : (Jvm.Cond.soleField "KiteRoofs$Kite" "atFirst") ∈ lw_all := lw_g (lw_at lw_m1 102 rfl) rfl
theorem q171 : (Jvm.Cond.lays "KiteRoofs$Kite" "KiteRoofs$Kite" "glass" "I") ∈ lw_all := lw_g (lw_at lw_m1 103 rfl) rfl
theorem q172 : (Jvm.Cond.soleField "KiteRoofs$Kite" "glass") ∈ lw_all := lw_g (lw_at lw_m1 104 rfl) rfl
theorem q173 : (Jvm.Cond.lays "KiteRoofs$Kite" "KiteRoofs$Kite" "speed" "I") ∈ lw_all := lw_g (lw_at lw_m1 105 rfl) rfl
theorem q174 : (Jvm.Cond.soleField "KiteRoofs$Kite" "speed") ∈ lw_all := lw_g (lw_at lw_m1 106 rfl) rfl
theorem q175 : (Jvm.Cond.lays "KiteRoofs$Kite" "KiteRoofs$Kite" "points" "I") ∈ lw_all := lw_g (lw_at lw_m1 107 rfl) rfl
theorem q176 : (Jvm.Cond.soleField "KiteRoofs$Kite" "points") ∈ lw_all := lw_g (lw_at lw_m1 108 rfl) rfl
theorem q177 : (Jvm.Cond.lays "KiteRoofs$Kite" "KiteRoofs$Kite" "state" "LKiteRoofs$State;") ∈ lw_all := lw_g (lw_at lw_m1 109 rfl) rfl
theorem q178 : (Jvm.Cond.soleField "KiteRoofs$Kite" "state") ∈ lw_all := lw_g (lw_at lw_m1 110 rfl) rfl
theorem q179 : (Jvm.Cond.superclass "KiteRoofs$Kite" "java/lang/Object") ∈ lw_all := lw_g (lw_at lw_m1 111 rfl) rfl
theorem q321 : (Jvm.Cond.instanceMethod ({ cls := "KiteRoofs$Kite", name := "out", desc := "()I" } : Jvm.MethodName)) ∈ lw_all := lw_g (lw_at lw_m2 13 rfl) rfl
theorem q322 : (Jvm.Cond.selects "KiteRoofs$Kite" ({ cls := "KiteRoofs$Kite", name := "out", desc := "()I" } : Jvm.MethodName) ({ cls := "KiteRoofs$Kite", name := "out", desc := "()I" } : Jvm.MethodName)) ∈ lw_all := lw_g (lw_at lw_m2 14 rfl) rfl
theorem q323 : (Jvm.Cond.code ({ cls := "KiteRoofs$Kite", name := "out", desc := "()I" } : Jvm.MethodName) prog_4_method_7_code (3 : Nat) (Option.some Jvm.ClassFile.FieldType.int)) ∈ lw_all := lw_g (lw_at lw_m2 15 rfl) rfl
theorem q324 : (Jvm.Cond.classLink "KiteRoofs$Kite" (48 : Nat) "KiteRoofs$Up") ∈ lw_all := lw_g (lw_at lw_m2 16 rfl) rfl
theorem q337 : (Jvm.Cond.instanceMethod ({ cls := "KiteRoofs$Kite", name := "take", desc := "(LKiteRoofs$Kite;)V" } : Jvm.MethodName)) ∈ lw_all := lw_g (lw_at lw_m2 29 rfl) rfl
theorem q338 : (Jvm.Cond.selects "KiteRoofs$Kite" ({ cls := "KiteRoofs$Kite", name := "take", desc := "(LKiteRoofs$Kite;)V" } : Jvm.MethodName) ({ cls := "KiteRoofs$Kite", name := "take", desc := "(LKiteRoofs$Kite;)V" } : Jvm.MethodName)) ∈ lw_all := lw_g (lw_at lw_m2 30 rfl) rfl
theorem q339 : (Jvm.Cond.code ({ cls := "KiteRoofs$Kite", name := "take", desc := "(LKiteRoofs$Kite;)V" } : Jvm.MethodName) prog_4_method_3_code (2 : Nat) (Option.none : Option Jvm.ClassFile.FieldType)) ∈ lw_all := lw_g (lw_at lw_m2 31 rfl) rfl
theorem q340 : (Jvm.Cond.methodLink "KiteRoofs$Kite" (44 : Nat) ({ cls := "KiteRoofs$Kite", name := "takeState", desc := "(LKiteRoofs$State;)V" } : Jvm.MethodName)) ∈ lw_all := lw_g (lw_at lw_m2 32 rfl) rfl
theorem q341 : (Jvm.Cond.privateMethod ({ cls := "KiteRoofs$Kite", name := "takeState", desc := "(LKiteRoofs$State;)V" } : Jvm.MethodName)) ∈ lw_tbl := lw_at lw_m2 33 rfl
theorem q342 : (Jvm.Cond.instanceMethod ({ cls := "KiteRoofs$Kite", name := "takeState", desc := "(LKiteRoofs$State;)V" } : Jvm.MethodName)) ∈ lw_all := lw_g (lw_at lw_m2 34 rfl) rfl
theorem q343 : (Jvm.Cond.code ({ cls := "KiteRoofs$Kite", name := "takeState", desc := "(LKiteRoofs$State;)V" } : Jvm.MethodName) prog_4_method_4_code (5 : Nat) (Option.none : Option Jvm.ClassFile.FieldType)) ∈ lw_all := lw_g (lw_at lw_m2 35 rfl) rfl
theorem q344 : (Jvm.Cond.methodLink "KiteRoofs$Kite" (50 : Nat) ({ cls := "KiteRoofs$Up", name := "like", desc := "(LKiteRoofs$Up;)LKiteRoofs$Up;" } : Jvm.MethodName)) ∈ lw_all := lw_g (lw_at lw_m2 36 rfl) rfl
theorem q349 : (Jvm.Cond.methodLinkNest "KiteRoofs$Kite" (54 : Nat) ({ cls := "KiteRoofs$Up", name := "<init>", desc := "()V" } : Jvm.MethodName) "KiteRoofs") ∈ lw_tbl := lw_at lw_m2 41 rfl
theorem q354 : (Jvm.Cond.fieldLinkNest "KiteRoofs$Kite" (55 : Nat) "KiteRoofs$Up" "out" "I" "KiteRoofs") ∈ lw_tbl := lw_at lw_m2 46 rfl
theorem q356 : (Jvm.Cond.fieldLinkNest "KiteRoofs$Kite" (58 : Nat) "KiteRoofs$Up" "wear" "I" "KiteRoofs") ∈ lw_tbl := lw_at lw_m2 48 rfl
theorem q561 : (Jvm.Cond.selects "KiteRoofs$Kite" ({ cls := "java/lang/Object", name := "getClass", desc := "()Ljava/lang/Class;" } : Jvm.MethodName) ({ cls := "java/lang/Object", name := "getClass", desc := "()Ljava/lang/Class;" } : Jvm.MethodName)) ∈ lw_all := lw_g (lw_at lw_m3 13 rfl) rfl
theorem q646 : (Jvm.Cond.instanceMethod ({ cls := "KiteRoofs$Kite", name := "begins", desc := "(LKiteRoofs$Make;III)V" } : Jvm.MethodName)) ∈ lw_all := lw_g (lw_at lw_m3 98 rfl) rfl
theorem q647 : (Jvm.Cond.selects "KiteRoofs$Kite" ({ cls := "KiteRoofs$Kite", name := "begins", desc := "(LKiteRoofs$Make;III)V" } : Jvm.MethodName) ({ cls := "KiteRoofs$Kite", name := "begins", desc := "(LKiteRoofs$Make;III)V" } : Jvm.MethodName)) ∈ lw_all := lw_g (lw_at lw_m3 99 rfl) rfl
theorem q648 : (Jvm.Cond.code ({ cls := "KiteRoofs$Kite", name := "begins", desc := "(LKiteRoofs$Make;III)V" } : Jvm.MethodName) prog_4_method_2_code (5 : Nat) (Option.none : Option Jvm.ClassFile.FieldType)) ∈ lw_all := lw_g (lw_at lw_m3 100 rfl) rfl
theorem q666 : (Jvm.Cond.instanceMethod ({ cls := "KiteRoofs$Kite", name := "isOnRoof", desc := "()Z" } : Jvm.MethodName)) ∈ lw_all := lw_g (lw_at lw_m3 118 rfl) rfl
theorem q667 : (Jvm.Cond.selects "KiteRoofs$Kite" ({ cls := "KiteRoofs$Kite", name := "isOnRoof", desc := "()Z" } : Jvm.MethodName) ({ cls := "KiteRoofs$Kite", name := "isOnRoof", desc := "()Z" } : Jvm.MethodName)) ∈ lw_all := lw_g (lw_at lw_m3 119 rfl) rfl
theorem q668 : (Jvm.Cond.code ({ cls := "KiteRoofs$Kite", name := "isOnRoof", desc := "()Z" } : Jvm.MethodName) prog_4_method_6_code (1 : Nat) (Option.some Jvm.ClassFile.FieldType.boolean)) ∈ lw_all := lw_g (lw_at lw_m3 120 rfl) rfl
theorem q713 : (Jvm.Cond.instanceMethod ({ cls := "KiteRoofs$Kite", name := "isUp", desc := "()Z" } : Jvm.MethodName)) ∈ lw_all := lw_g (lw_at lw_m3 165 rfl) rfl
theorem q714 : (Jvm.Cond.selects "KiteRoofs$Kite" ({ cls := "KiteRoofs$Kite", name := "isUp", desc := "()Z" } : Jvm.MethodName) ({ cls := "KiteRoofs$Kite", name := "isUp", desc := "()Z" } : Jvm.MethodName)) ∈ lw_all := lw_g (lw_at lw_m3 166 rfl) rfl
theorem q715 : (Jvm.Cond.code ({ cls := "KiteRoofs$Kite", name := "isUp", desc := "()Z" } : Jvm.MethodName) prog_4_method_5_code (1 : Nat) (Option.some Jvm.ClassFile.FieldType.boolean)) ∈ lw_all := lw_g (lw_at lw_m3 167 rfl) rfl
theorem q721 : (Jvm.Cond.instanceMethod ({ cls := "KiteRoofs$Kite", name := "reels", desc := "(I)I" } : Jvm.MethodName)) ∈ lw_all := lw_g (lw_at lw_m3 173 rfl) rfl
theorem q722 : (Jvm.Cond.selects "KiteRoofs$Kite" ({ cls := "KiteRoofs$Kite", name := "reels", desc := "(I)I" } : Jvm.MethodName) ({ cls := "KiteRoofs$Kite", name := "reels", desc := "(I)I" } : Jvm.MethodName)) ∈ lw_all := lw_g (lw_at lw_m3 174 rfl) rfl
theorem q723 : (Jvm.Cond.code ({ cls := "KiteRoofs$Kite", name := "reels", desc := "(I)I" } : Jvm.MethodName) prog_4_method_9_code (4 : Nat) (Option.some Jvm.ClassFile.FieldType.int)) ∈ lw_all := lw_g (lw_at lw_m3 175 rfl) rfl
theorem q724 : (Jvm.Cond.methodLink "KiteRoofs$Kite" (61 : Nat) ({ cls := "KiteRoofs$Up", name := "reels", desc := "(II)I" } : Jvm.MethodName)) ∈ lw_all := lw_g (lw_at lw_m3 176 rfl) rfl
theorem q800 : (Jvm.Cond.instanceMethod ({ cls := "KiteRoofs$Kite", name := "wear", desc := "()I" } : Jvm.MethodName)) ∈ lw_all := lw_g (lw_at lw_m4 12 rfl) rfl
theorem q801 : (Jvm.Cond.selects "KiteRoofs$Kite" ({ cls := "KiteRoofs$Kite", name := "wear", desc := "()I" } : Jvm.MethodName) ({ cls := "KiteRoofs$Kite", name := "wear", desc := "()I" } : Jvm.MethodName)) ∈ lw_all := lw_g (lw_at lw_m4 13 rfl) rfl
theorem q802 : (Jvm.Cond.code ({ cls := "KiteRoofs$Kite", name := "wear", desc := "()I" } : Jvm.MethodName) prog_4_method_8_code (3 : Nat) (Option.some Jvm.ClassFile.FieldType.int)) ∈ lw_all := lw_g (lw_at lw_m4 14 rfl) rfl
theorem q977 : (Jvm.Cond.instanceMethod ({ cls := "KiteRoofs$Kite", name := "wears", desc := "(I)V" } : Jvm.MethodName)) ∈ lw_all := lw_g (lw_at lw_m4 189 rfl) rfl
theorem q978 : (Jvm.Cond.selects "KiteRoofs$Kite" ({ cls := "KiteRoofs$Kite", name := "wears", desc := "(I)V" } : Jvm.MethodName) ({ cls := "KiteRoofs$Kite", name := "wears", desc := "(I)V" } : Jvm.MethodName)) ∈ lw_all := lw_g (lw_at lw_m4 190 rfl) rfl
theorem q979 : (Jvm.Cond.code ({ cls := "KiteRoofs$Kite", name := "wears", desc := "(I)V" } : Jvm.MethodName) prog_4_method_10_code (4 : Nat) (Option.none : Option Jvm.ClassFile.FieldType)) ∈ lw_all := lw_g (lw_at lw_m4 191 rfl) rfl
theorem q980 : (Jvm.Cond.methodLink "KiteRoofs$Kite" (65 : Nat) ({ cls := "KiteRoofs$Up", name := "wears", desc := "(I)V" } : Jvm.MethodName)) ∈ lw_all := lw_g (lw_at lw_m4 192 rfl) rfl
theorem q1973 : (Jvm.Cond.castable "KiteRoofs$Kite" "java/lang/Object") ∈ lw_tbl := lw_at lw_m8 225 rfl
theorem in_X3 : ∀ w ∈ wsX30, w ∈ lw_all := lw_in wsX30 [163, 165, 167, 169, 171, 173, 175, 177] (by decide +kernel) (by decide +kernel)

/-! KiteRoofs$Make -/
set_option maxRecDepth 100000
def RX4 : String := "KiteRoofs$Make"
abbrev cX4_of : ByteArray := prog_6_method_7_code
def yX4_of : MethodName := ⟨RX4, "of", "(I)LKiteRoofs$Make;"⟩
def dkwX4_of_2 : List UInt8 := [178, 0, 3, 176, 178, 0, 7, 176, 178, 0, 10, 176]
abbrev dktX4_of_2 : List UInt8 := dkwX4_of_2 ++ []
def dkwX4_of_1 : List UInt8 := [171, 0, 0, 0, 0, 0, 35, 0, 0, 0, 2, 0, 0, 0, 0, 0, 0, 0, 27, 0, 0, 0, 1, 0, 0, 0, 31]
abbrev dktX4_of_1 : List UInt8 := dkwX4_of_1 ++ dktX4_of_2
def dkwX4_of_0 : List UInt8 := [26]
abbrev dktX4_of_0 : List UInt8 := dkwX4_of_0 ++ dktX4_of_1
theorem dksX4_of_0 : cX4_of.data.toList.drop 0 = dktX4_of_0 := by decide +kernel
theorem dksX4_of_1 : cX4_of.data.toList.drop 1 = dktX4_of_1 := dk_seg dksX4_of_0 1 rfl rfl
theorem dksX4_of_2 : cX4_of.data.toList.drop 28 = dktX4_of_2 := dk_seg dksX4_of_1 27 rfl rfl
theorem dX4_of_0 : decode cX4_of 0 = .ok (.iload_n 0, 1) := dk_26 (dk_at dksX4_of_0 0 rfl rfl)
theorem dX4_of_1 : decode cX4_of 1 = .ok (.lookupswitch 35 #[(0, 27), (1, 31)], 27) := by decide +kernel
theorem dX4_of_28 : decode cX4_of 28 = .ok (.getstatic 3, 3) := dk_178 0 3 (dk_at dksX4_of_2 0 rfl rfl)
theorem dX4_of_31 : decode cX4_of 31 = .ok (.areturn, 1) := dk_176 (dk_at dksX4_of_2 3 rfl rfl)
theorem dX4_of_32 : decode cX4_of 32 = .ok (.getstatic 7, 3) := dk_178 0 7 (dk_at dksX4_of_2 4 rfl rfl)
theorem dX4_of_35 : decode cX4_of 35 = .ok (.areturn, 1) := dk_176 (dk_at dksX4_of_2 7 rfl rfl)
theorem dX4_of_36 : decode cX4_of 36 = .ok (.getstatic 10, 3) := dk_178 0 10 (dk_at dksX4_of_2 8 rfl rfl)
theorem dX4_of_39 : decode cX4_of 39 = .ok (.areturn, 1) := dk_176 (dk_at dksX4_of_2 11 rfl rfl)
abbrev cX4_factor : ByteArray := prog_6_method_6_code
def yX4_factor : MethodName := ⟨RX4, "factor", "()I"⟩
theorem dX4_factor_0 : decode cX4_factor 0 = .ok (.iconst 1, 1) := by decide +kernel
theorem dX4_factor_1 : decode cX4_factor 1 = .ok (.ireturn, 1) := by decide +kernel
theorem q73 : (Jvm.Cond.initialized "KiteRoofs$Make") ∈ lw_all := lw_g (lw_at lw_m1 5 rfl) rfl
theorem q131 : (Jvm.Cond.laysStatic "KiteRoofs$Make" "PLAIN" "LKiteRoofs$Make;") ∈ lw_tbl := lw_at lw_m1 63 rfl
theorem q634 : (Jvm.Cond.static ({ cls := "KiteRoofs$Make", name := "of", desc := "(I)LKiteRoofs$Make;" } : Jvm.MethodName)) ∈ lw_all := lw_g (lw_at lw_m3 86 rfl) rfl
theorem q635 : (Jvm.Cond.code ({ cls := "KiteRoofs$Make", name := "of", desc := "(I)LKiteRoofs$Make;" } : Jvm.MethodName) prog_6_method_7_code (1 : Nat) (Option.some (Jvm.ClassFile.FieldType.object "KiteRoofs$Make"))) ∈ lw_all := lw_g (lw_at lw_m3 87 rfl) rfl
theorem q636 : (Jvm.Cond.fieldLink "KiteRoofs$Make" (3 : Nat) "KiteRoofs$Make" "PLAIN" "LKiteRoofs$Make;") ∈ lw_all := lw_g (lw_at lw_m3 88 rfl) rfl
theorem q637 : (Jvm.Cond.fieldLink "KiteRoofs$Make" (7 : Nat) "KiteRoofs$Make" "BOX" "LKiteRoofs$Make;") ∈ lw_all := lw_g (lw_at lw_m3 89 rfl) rfl
theorem q638 : (Jvm.Cond.laysStatic "KiteRoofs$Make" "BOX" "LKiteRoofs$Make;") ∈ lw_tbl := lw_at lw_m3 90 rfl
theorem q639 : (Jvm.Cond.fieldLink "KiteRoofs$Make" (10 : Nat) "KiteRoofs$Make" "FIGHTER" "LKiteRoofs$Make;") ∈ lw_all := lw_g (lw_at lw_m3 91 rfl) rfl
theorem q640 : (Jvm.Cond.laysStatic "KiteRoofs$Make" "FIGHTER" "LKiteRoofs$Make;") ∈ lw_tbl := lw_at lw_m3 92 rfl
theorem q787 : (Jvm.Cond.sameMethod "KiteRoofs$Make" "java/lang/Enum" "ordinal" "()I") ∈ lw_all := lw_g (lw_at lw_m3 239 rfl) rfl
theorem q815 : (Jvm.Cond.instanceMethod ({ cls := "KiteRoofs$Make", name := "factor", desc := "()I" } : Jvm.MethodName)) ∈ lw_all := lw_g (lw_at lw_m4 27 rfl) rfl
theorem q816 : (Jvm.Cond.sameMethod "KiteRoofs$Make" "KiteRoofs$Make" "factor" "()I") ∈ lw_all := lw_g (lw_at lw_m4 28 rfl) rfl
theorem q822 : (Jvm.Cond.code ({ cls := "KiteRoofs$Make", name := "factor", desc := "()I" } : Jvm.MethodName) prog_6_method_6_code (1 : Nat) (Option.some Jvm.ClassFile.FieldType.int)) ∈ lw_all := lw_g (lw_at lw_m4 34 rfl) rfl
theorem q829 : (Jvm.Cond.declares ({ cls := "KiteRoofs$Make", name := "area", desc := "()I" } : Jvm.MethodName)) ∈ lw_tbl := lw_at lw_m4 41 rfl
theorem q830 : (Jvm.Cond.sameMethod "KiteRoofs$Make" "KiteRoofs$Make" "area" "()I") ∈ lw_all := lw_g (lw_at lw_m4 42 rfl) rfl
theorem q990 : (Jvm.Cond.declares ({ cls := "KiteRoofs$Make", name := "hardness", desc := "()I" } : Jvm.MethodName)) ∈ lw_tbl := lw_at lw_m4 202 rfl
theorem q991 : (Jvm.Cond.sameMethod "KiteRoofs$Make" "KiteRoofs$Make" "hardness" "()I") ∈ lw_all := lw_g (lw_at lw_m4 203 rfl) rfl
theorem q2010 : (Jvm.Cond.castable "KiteRoofs$Make" "java/lang/Object") ∈ lw_tbl := lw_at lw_m9 22 rfl

/-! KiteRoofs$OnRoof -/
set_option maxRecDepth 100000
def RX5 : String := "KiteRoofs$OnRoof"
abbrev cX5_init : ByteArray := prog_11_method_1_code
def yX5_init : MethodName := ⟨RX5, "<init>", "()V"⟩
theorem dX5_init_0 : decode cX5_init 0 = .ok (.aload_n 0, 1) := by decide +kernel
theorem dX5_init_1 : decode cX5_init 1 = .ok (.invokespecial 1, 3) := by decide +kernel
theorem dX5_init_4 : decode cX5_init 4 = .ok (.return_, 1) := by decide +kernel
abbrev cX5_number : ByteArray := prog_11_method_2_code
def yX5_number : MethodName := ⟨RX5, "number", "()I"⟩
theorem dX5_number_0 : decode cX5_number 0 = .ok (.iconst 0, 1) := by decide +kernel
theorem dX5_number_1 : decode cX5_number 1 = .ok (.ireturn, 1) := by decide +kernel
abbrev cX5_sign : ByteArray := prog_11_method_3_code
def yX5_sign : MethodName := ⟨RX5, "sign", "()C"⟩
theorem dX5_sign_0 : decode cX5_sign 0 = .ok (.bipush 114, 2) := by decide +kernel
theorem dX5_sign_2 : decode cX5_sign 2 = .ok (.ireturn, 1) := by decide +kernel
theorem q74 : (Jvm.Cond.initialized "KiteRoofs$OnRoof") ∈ lw_all := lw_g (lw_at lw_m1 6 rfl) rfl
theorem q133 : (Jvm.Cond.instantiable "KiteRoofs$OnRoof" (0 : Nat)) ∈ lw_all := lw_g (lw_at lw_m1 65 rfl) rfl
theorem q135 : (Jvm.Cond.instanceMethod ({ cls := "KiteRoofs$OnRoof", name := "<init>", desc := "()V" } : Jvm.MethodName)) ∈ lw_all := lw_g (lw_at lw_m1 67 rfl) rfl
theorem q136 : (Jvm.Cond.code ({ cls := "KiteRoofs$OnRoof", name := "<init>", desc := "()V" } : Jvm.MethodName) prog_11_method_1_code (1 : Nat) (Option.none : Option Jvm.ClassFile.FieldType)) ∈ lw_all := lw_g (lw_at lw_m1 68 rfl) rfl
theorem q137 : (Jvm.Cond.methodLink "KiteRoofs$OnRoof" (1 : Nat) ({ cls := "java/lang/Object", name := "<init>", desc := "()V" } : Jvm.MethodName)) ∈ lw_all := lw_g (lw_at lw_m1 69 rfl) rfl
theorem q138 : (Jvm.Cond.superclass "KiteRoofs$OnRoof" "java/lang/Object") ∈ lw_all := lw_g (lw_at lw_m1 70 rfl) rfl
theorem q567 : (Jvm.Cond.selects "KiteRoofs$OnRoof" ({ cls := "java/lang/Object", name := "getClass", desc := "()Ljava/lang/Class;" } : Jvm.MethodName) ({ cls := "java/lang/Object", name := "getClass", desc := "()Ljava/lang/Class;" } : Jvm.MethodName)) ∈ lw_all := lw_g (lw_at lw_m3 19 rfl) rfl
theorem q689 : (Jvm.Cond.castable "KiteRoofs$OnRoof" "KiteRoofs$State") ∈ lw_tbl := lw_at lw_m3 141 rfl
theorem q690 : (Jvm.Cond.selects "KiteRoofs$OnRoof" ({ cls := "KiteRoofs$State", name := "number", desc := "()I" } : Jvm.MethodName) ({ cls := "KiteRoofs$OnRoof", name := "number", desc := "()I" } : Jvm.MethodName)) ∈ lw_all := lw_g (lw_at lw_m3 142 rfl) rfl
theorem q691 : (Jvm.Cond.unhidden "KiteRoofs$OnRoof" "number" "()I") ∈ lw_tbl := lw_at lw_m3 143 rfl
theorem q692 : (Jvm.Cond.instanceMethod ({ cls := "KiteRoofs$OnRoof", name := "number", desc := "()I" } : Jvm.MethodName)) ∈ lw_all := lw_g (lw_at lw_m3 144 rfl) rfl
theorem q693 : (Jvm.Cond.publicMethod ({ cls := "KiteRoofs$OnRoof", name := "number", desc := "()I" } : Jvm.MethodName)) ∈ lw_tbl := lw_at lw_m3 145 rfl
theorem q694 : (Jvm.Cond.code ({ cls := "KiteRoofs$OnRoof", name := "number", desc := "()I" } : Jvm.MethodName) prog_11_method_2_code (1 : Nat) (Option.some Jvm.ClassFile.FieldType.int)) ∈ lw_all := lw_g (lw_at lw_m3 146 rfl) rfl
theorem q872 : (Jvm.Cond.selects "KiteRoofs$OnRoof" ({ cls := "KiteRoofs$State", name := "sign", desc := "()C" } : Jvm.MethodName) ({ cls := "KiteRoofs$OnRoof", name := "sign", desc := "()C" } : Jvm.MethodName)) ∈ lw_all := lw_g (lw_at lw_m4 84 rfl) rfl
theorem q873 : (Jvm.Cond.unhidden "KiteRoofs$OnRoof" "sign" "()C") ∈ lw_tbl := lw_at lw_m4 85 rfl
theorem q874 : (Jvm.Cond.instanceMethod ({ cls := "KiteRoofs$OnRoof", name := "sign", desc := "()C" } : Jvm.MethodName)) ∈ lw_all := lw_g (lw_at lw_m4 86 rfl) rfl
theorem q875 : (Jvm.Cond.publicMethod ({ cls := "KiteRoofs$OnRoof", name := "sign", desc := "()C" } : Jvm.MethodName)) ∈ lw_tbl := lw_at lw_m4 87 rfl
theorem q876 : (Jvm.Cond.code ({ cls := "KiteRoofs$OnRoof", name := "sign", desc := "()C" } : Jvm.MethodName) prog_11_method_3_code (1 : Nat) (Option.some Jvm.ClassFile.FieldType.char)) ∈ lw_all := lw_g (lw_at lw_m4 88 rfl) rfl
theorem q1978 : (Jvm.Cond.castable "KiteRoofs$OnRoof" "java/lang/Object") ∈ lw_tbl := lw_at lw_m8 230 rfl

/-! KiteRoofs$Up -/
set_option maxRecDepth 100000
def RX7 : String := "KiteRoofs$Up"
def TX7 : u_T := fun k => match k with
  | 0 => ("KiteRoofs$Up", "out", "I", false)
  | _ => ("KiteRoofs$Up", "wear", "I", false)
def tyX7 : Nat → FieldType := fun k => match k with
  | 0 => .int
  | _ => .int
abbrev wsX70 : List Cond := u_ws RX7 TX7 2
theorem nmX7 : ∀ a, a < 2 → ∀ b, b < 2 → a ≠ b → (TX7 a).2.1 ≠ (TX7 b).2.1 := by decide +kernel
theorem tyX7_ok : ∀ k, k < 2 → parseFieldDescriptor (TX7 k).2.2.1 = some (tyX7 k) := by decide +kernel
abbrev cX7_like : ByteArray := prog_18_method_2_code
def yX7_like : MethodName := ⟨RX7, "like", "(LKiteRoofs$Up;)LKiteRoofs$Up;"⟩
def dkwX7_like_0 : List UInt8 := [42, 43, 180, 0, 7, 181, 0, 7, 42, 43, 180, 0, 13, 181, 0, 13, 42, 176]
abbrev dktX7_like_0 : List UInt8 := dkwX7_like_0 ++ []
theorem dksX7_like_0 : cX7_like.data.toList.drop 0 = dktX7_like_0 := by decide +kernel
theorem dX7_like_0 : decode cX7_like 0 = .ok (.aload_n 0, 1) := dk_42 (dk_at dksX7_like_0 0 rfl rfl)
theorem dX7_like_1 : decode cX7_like 1 = .ok (.aload_n 1, 1) := dk_43 (dk_at dksX7_like_0 1 rfl rfl)
theorem dX7_like_2 : decode cX7_like 2 = .ok (.getfield 7, 3) := dk_180 0 7 (dk_at dksX7_like_0 2 rfl rfl)
theorem dX7_like_5 : decode cX7_like 5 = .ok (.putfield 7, 3) := dk_181 0 7 (dk_at dksX7_like_0 5 rfl rfl)
theorem dX7_like_8 : decode cX7_like 8 = .ok (.aload_n 0, 1) := dk_42 (dk_at dksX7_like_0 8 rfl rfl)
theorem dX7_like_9 : decode cX7_like 9 = .ok (.aload_n 1, 1) := dk_43 (dk_at dksX7_like_0 9 rfl rfl)
theorem dX7_like_10 : decode cX7_like 10 = .ok (.getfield 13, 3) := dk_180 0 13 (dk_at dksX7_like_0 10 rfl rfl)
theorem dX7_like_13 : decode cX7_like 13 = .ok (.putfield 13, 3) := dk_181 0 13 (dk_at dksX7_like_0 13 rfl rfl)
theorem dX7_like_16 : decode cX7_like 16 = .ok (.aload_n 0, 1) := dk_42 (dk_at dksX7_like_0 16 rfl rfl)
theorem dX7_like_17 : decode cX7_like 17 = .ok (.areturn, 1) := dk_176 (dk_at dksX7_like_0 17 rfl rfl)
abbrev cX7_init : ByteArray := prog_18_method_1_code
def yX7_init : MethodName := ⟨RX7, "<init>", "()V"⟩
theorem dX7_init_0 : decode cX7_init 0 = .ok (.aload_n 0, 1) := by decide +kernel
theorem dX7_init_1 : decode cX7_init 1 = .ok (.invokespecial 1, 3) := by decide +kernel
theorem dX7_init_4 : decode cX7_init 4 = .ok (.return_, 1) := by decide +kernel
abbrev cX7_number : ByteArray := prog_18_method_5_code
def yX7_number : MethodName := ⟨RX7, "number", "()I"⟩
theorem dX7_number_0 : decode cX7_number 0 = .ok (.iconst 1, 1) := by decide +kernel
theorem dX7_number_1 : decode cX7_number 1 = .ok (.ireturn, 1) := by decide +kernel
abbrev cX7_reels : ByteArray := prog_18_method_3_code
def yX7_reels : MethodName := ⟨RX7, "reels", "(II)I"⟩
def dkwX7_reels_1 : List UInt8 := [180, 0, 7, 29, 100, 172]
abbrev dktX7_reels_1 : List UInt8 := dkwX7_reels_1 ++ []
def dkwX7_reels_0 : List UInt8 := [42, 180, 0, 7, 62, 42, 3, 28, 42, 180, 0, 7, 27, 96, 184, 0, 16, 184, 0, 22, 181, 0, 7, 42]
abbrev dktX7_reels_0 : List UInt8 := dkwX7_reels_0 ++ dktX7_reels_1
theorem dksX7_reels_0 : cX7_reels.data.toList.drop 0 = dktX7_reels_0 := by decide +kernel
theorem dksX7_reels_1 : cX7_reels.data.toList.drop 24 = dktX7_reels_1 := dk_seg dksX7_reels_0 24 rfl rfl
theorem dX7_reels_0 : decode cX7_reels 0 = .ok (.aload_n 0, 1) := dk_42 (dk_at dksX7_reels_0 0 rfl rfl)
theorem dX7_reels_1 : decode cX7_reels 1 = .ok (.getfield 7, 3) := dk_180 0 7 (dk_at dksX7_reels_0 1 rfl rfl)
theorem dX7_reels_4 : decode cX7_reels 4 = .ok (.istore_n 3, 1) := dk_62 (dk_at dksX7_reels_0 4 rfl rfl)
theorem dX7_reels_5 : decode cX7_reels 5 = .ok (.aload_n 0, 1) := dk_42 (dk_at dksX7_reels_0 5 rfl rfl)
theorem dX7_reels_6 : decode cX7_reels 6 = .ok (.iconst 0, 1) := dk_3 (dk_at dksX7_reels_0 6 rfl rfl)
theorem dX7_reels_7 : decode cX7_reels 7 = .ok (.iload_n 2, 1) := dk_28 (dk_at dksX7_reels_0 7 rfl rfl)
theorem dX7_reels_8 : decode cX7_reels 8 = .ok (.aload_n 0, 1) := dk_42 (dk_at dksX7_reels_0 8 rfl rfl)
theorem dX7_reels_9 : decode cX7_reels 9 = .ok (.getfield 7, 3) := dk_180 0 7 (dk_at dksX7_reels_0 9 rfl rfl)
theorem dX7_reels_12 : decode cX7_reels 12 = .ok (.iload_n 1, 1) := dk_27 (dk_at dksX7_reels_0 12 rfl rfl)
theorem dX7_reels_13 : decode cX7_reels 13 = .ok (.iadd, 1) := dk_96 (dk_at dksX7_reels_0 13 rfl rfl)
theorem dX7_reels_14 : decode cX7_reels 14 = .ok (.invokestatic 16, 3) := dk_184 0 16 (dk_at dksX7_reels_0 14 rfl rfl)
theorem dX7_reels_17 : decode cX7_reels 17 = .ok (.invokestatic 22, 3) := dk_184 0 22 (dk_at dksX7_reels_0 17 rfl rfl)
theorem dX7_reels_20 : decode cX7_reels 20 = .ok (.putfield 7, 3) := dk_181 0 7 (dk_at dksX7_reels_0 20 rfl rfl)
theorem dX7_reels_23 : decode cX7_reels 23 = .ok (.aload_n 0, 1) := dk_42 (dk_at dksX7_reels_0 23 rfl rfl)
theorem dX7_reels_24 : decode cX7_reels 24 = .ok (.getfield 7, 3) := dk_180 0 7 (dk_at dksX7_reels_1 0 rfl rfl)
theorem dX7_reels_27 : decode cX7_reels 27 = .ok (.iload_n 3, 1) := dk_29 (dk_at dksX7_reels_1 3 rfl rfl)
theorem dX7_reels_28 : decode cX7_reels 28 = .ok (.isub, 1) := dk_100 (dk_at dksX7_reels_1 4 rfl rfl)
theorem dX7_reels_29 : decode cX7_reels 29 = .ok (.ireturn, 1) := dk_172 (dk_at dksX7_reels_1 5 rfl rfl)
abbrev cX7_sign : ByteArray := prog_18_method_6_code
def yX7_sign : MethodName := ⟨RX7, "sign", "()C"⟩
theorem dX7_sign_0 : decode cX7_sign 0 = .ok (.bipush 117, 2) := by decide +kernel
theorem dX7_sign_2 : decode cX7_sign 2 = .ok (.ireturn, 1) := by decide +kernel
abbrev cX7_wears : ByteArray := prog_18_method_4_code
def yX7_wears : MethodName := ⟨RX7, "wears", "(I)V"⟩
def dkwX7_wears_0 : List UInt8 := [42, 89, 180, 0, 13, 27, 96, 181, 0, 13, 177]
abbrev dktX7_wears_0 : List UInt8 := dkwX7_wears_0 ++ []
theorem dksX7_wears_0 : cX7_wears.data.toList.drop 0 = dktX7_wears_0 := by decide +kernel
theorem dX7_wears_0 : decode cX7_wears 0 = .ok (.aload_n 0, 1) := dk_42 (dk_at dksX7_wears_0 0 rfl rfl)
theorem dX7_wears_1 : decode cX7_wears 1 = .ok (.dup, 1) := dk_89 (dk_at dksX7_wears_0 1 rfl rfl)
theorem dX7_wears_2 : decode cX7_wears 2 = .ok (.getfield 13, 3) := dk_180 0 13 (dk_at dksX7_wears_0 2 rfl rfl)
theorem dX7_wears_5 : decode cX7_wears 5 = .ok (.iload_n 1, 1) := dk_27 (dk_at dksX7_wears_0 5 rfl rfl)
theorem dX7_wears_6 : decode cX7_wears 6 = .ok (.iadd, 1) := dk_96 (dk_at dksX7_wears_0 6 rfl rfl)
theorem dX7_wears_7 : decode cX7_wears 7 = .ok (.putfield 13, 3) := dk_181 0 13 (dk_at dksX7_wears_0 7 rfl rfl)
theorem dX7_wears_10 : decode cX7_wears 10 = .ok (.return_, 1) := dk_177 (dk_at dksX7_wears_0 10 rfl rfl)
theorem q89 : (Jvm.Cond.initialized "KiteRoofs$Up") ∈ lw_all := lw_g (lw_at lw_m1 21 rfl) rfl
theorem q345 : (Jvm.Cond.instanceMethod ({ cls := "KiteRoofs$Up", name := "like", desc := "(LKiteRoofs$Up;)LKiteRoofs$Up;" } : Jvm.MethodName)) ∈ lw_all := lw_g (lw_at lw_m2 37 rfl) rfl
theorem q346 : (Jvm.Cond.selects "KiteRoofs$Up" ({ cls := "KiteRoofs$Up", name := "like", desc := "(LKiteRoofs$Up;)LKiteRoofs$Up;" } : Jvm.MethodName) ({ cls := "KiteRoofs$Up", name := "like", desc := "(LKiteRoofs$Up;)LKiteRoofs$Up;" } : Jvm.MethodName)) ∈ lw_all := lw_g (lw_at lw_m2 38 rfl) rfl
theorem q347 : (Jvm.Cond.code ({ cls := "KiteRoofs$Up", name := "like", desc := "(LKiteRoofs$Up;)LKiteRoofs$Up;" } : Jvm.MethodName) prog_18_method_2_code (2 : Nat) (Option.some (Jvm.ClassFile.FieldType.object "KiteRoofs$Up"))) ∈ lw_all := lw_g (lw_at lw_m2 39 rfl) rfl
theorem q348 : (Jvm.Cond.instantiable "KiteRoofs$Up" (2 : Nat)) ∈ lw_all := lw_g (lw_at lw_m2 40 rfl) rfl
theorem q350 : (Jvm.Cond.instanceMethod ({ cls := "KiteRoofs$Up", name := "<init>", desc := "()V" } : Jvm.MethodName)) ∈ lw_all := lw_g (lw_at lw_m2 42 rfl) rfl
theorem q351 : (Jvm.Cond.code ({ cls := "KiteRoofs$Up", name := "<init>", desc := "()V" } : Jvm.MethodName) prog_18_method_1_code (1 : Nat) (Option.none : Option Jvm.ClassFile.FieldType)) ∈ lw_all := lw_g (lw_at lw_m2 43 rfl) rfl
theorem q352 : (Jvm.Cond.methodLink "KiteRoofs$Up" (1 : Nat) ({ cls := "java/lang/Object", name := "<init>", desc := "()V" } : Jvm.MethodName)) ∈ lw_all := lw_g (lw_at lw_m2 44 rfl) rfl
theorem q353 : (Jvm.Cond.fieldLink "KiteRoofs$Up" (7 : Nat) "KiteRoofs$Up" "out" "I") ∈ lw_all := lw_g (lw_at lw_m2 45 rfl) rfl
theorem q355 : (Jvm.Cond.fieldLink "KiteRoofs$Up" (13 : Nat) "KiteRoofs$Up" "wear" "I") ∈ lw_all := lw_g (lw_at lw_m2 47 rfl) rfl
theorem q357 : (Jvm.Cond.lays "KiteRoofs$Up" "KiteRoofs$Up" "out" "I") ∈ lw_all := lw_g (lw_at lw_m2 49 rfl) rfl
theorem q358 : (Jvm.Cond.soleField "KiteRoofs$Up" "out") ∈ lw_all := lw_g (lw_at lw_m2 50 rfl) rfl
theorem q359 : (Jvm.Cond.lays "KiteRoofs$Up" "KiteRoofs$Up" "wear" "I") ∈ lw_all := lw_g (lw_at lw_m2 51 rfl) rfl
theorem q360 : (Jvm.Cond.soleField "KiteRoofs$Up" "wear") ∈ lw_all := lw_g (lw_at lw_m2 52 rfl) rfl
theorem q361 : (Jvm.Cond.superclass "KiteRoofs$Up" "java/lang/Object") ∈ lw_all := lw_g (lw_at lw_m2 53 rfl) rfl
theorem q572 : (Jvm.Cond.selects "KiteRoofs$Up" ({ cls := "java/lang/Object", name := "getClass", desc := "()Ljava/lang/Class;" } : Jvm.MethodName) ({ cls := "java/lang/Object", name := "getClass", desc := "()Ljava/lang/Class;" } : Jvm.MethodName)) ∈ lw_all := lw_g (lw_at lw_m3 24 rfl) rfl
theorem q695 : (Jvm.Cond.castable "KiteRoofs$Up" "KiteRoofs$State") ∈ lw_tbl := lw_at lw_m3 147 rfl
theorem q696 : (Jvm.Cond.selects "KiteRoofs$Up" ({ cls := "KiteRoofs$State", name := "number", desc := "()I" } : Jvm.MethodName) ({ cls := "KiteRoofs$Up", name := "number", desc := "()I" } : Jvm.MethodName)) ∈ lw_all := lw_g (lw_at lw_m3 148 rfl) rfl
theorem q697 : (Jvm.Cond.unhidden "KiteRoofs$Up" "number" "()I") ∈ lw_tbl := lw_at lw_m3 149 rfl
theorem q698 : (Jvm.Cond.instanceMethod ({ cls := "KiteRoofs$Up", name := "number", desc := "()I" } : Jvm.MethodName)) ∈ lw_all := lw_g (lw_at lw_m3 150 rfl) rfl
theorem q699 : (Jvm.Cond.publicMethod ({ cls := "KiteRoofs$Up", name := "number", desc := "()I" } : Jvm.MethodName)) ∈ lw_tbl := lw_at lw_m3 151 rfl
theorem q700 : (Jvm.Cond.code ({ cls := "KiteRoofs$Up", name := "number", desc := "()I" } : Jvm.MethodName) prog_18_method_5_code (1 : Nat) (Option.some Jvm.ClassFile.FieldType.int)) ∈ lw_all := lw_g (lw_at lw_m3 152 rfl) rfl
theorem q725 : (Jvm.Cond.instanceMethod ({ cls := "KiteRoofs$Up", name := "reels", desc := "(II)I" } : Jvm.MethodName)) ∈ lw_all := lw_g (lw_at lw_m3 177 rfl) rfl
theorem q726 : (Jvm.Cond.selects "KiteRoofs$Up" ({ cls := "KiteRoofs$Up", name := "reels", desc := "(II)I" } : Jvm.MethodName) ({ cls := "KiteRoofs$Up", name := "reels", desc := "(II)I" } : Jvm.MethodName)) ∈ lw_all := lw_g (lw_at lw_m3 178 rfl) rfl
theorem q727 : (Jvm.Cond.code ({ cls := "KiteRoofs$Up", name := "reels", desc := "(II)I" } : Jvm.MethodName) prog_18_method_3_code (4 : Nat) (Option.some Jvm.ClassFile.FieldType.int)) ∈ lw_all := lw_g (lw_at lw_m3 179 rfl) rfl
theorem q728 : (Jvm.Cond.methodLink "KiteRoofs$Up" (16 : Nat) ({ cls := "java/lang/Math", name := "min", desc := "(II)I" } : Jvm.MethodName)) ∈ lw_all := lw_g (lw_at lw_m3 180 rfl) rfl
theorem q729 : (Jvm.Cond.methodLink "KiteRoofs$Up" (22 : Nat) ({ cls := "java/lang/Math", name := "max", desc := "(II)I" } : Jvm.MethodName)) ∈ lw_all := lw_g (lw_at lw_m3 181 rfl) rfl
theorem q877 : (Jvm.Cond.selects "KiteRoofs$Up" ({ cls := "KiteRoofs$State", name := "sign", desc := "()C" } : Jvm.MethodName) ({ cls := "KiteRoofs$Up", name := "sign", desc := "()C" } : Jvm.MethodName)) ∈ lw_all := lw_g (lw_at lw_m4 89 rfl) rfl
theorem q878 : (Jvm.Cond.unhidden "KiteRoofs$Up" "sign" "()C") ∈ lw_tbl := lw_at lw_m4 90 rfl
theorem q879 : (Jvm.Cond.instanceMethod ({ cls := "KiteRoofs$Up", name := "sign", desc := "()C" } : Jvm.MethodName)) ∈ lw_all := lw_g (lw_at lw_m4 91 rfl) rfl
theorem q880 : (Jvm.Cond.publicMethod ({ cls := "KiteRoofs$Up", name := "sign", desc := "()C" } : Jvm.MethodName)) ∈ lw_tbl := lw_at lw_m4 92 rfl
theorem q881 : (Jvm.Cond.code ({ cls := "KiteRoofs$Up", name := "sign", desc := "()C" } : Jvm.MethodName) prog_18_method_6_code (1 : Nat) (Option.some Jvm.ClassFile.FieldType.char)) ∈ lw_all := lw_g (lw_at lw_m4 93 rfl) rfl
theorem q981 : (Jvm.Cond.instanceMethod ({ cls := "KiteRoofs$Up", name := "wears", desc := "(I)V" } : Jvm.MethodName)) ∈ lw_all := lw_g (lw_at lw_m4 193 rfl) rfl
theorem q982 : (Jvm.Cond.selects "KiteRoofs$Up" ({ cls := "KiteRoofs$Up", name := "wears", desc := "(I)V" } : Jvm.MethodName) ({ cls := "KiteRoofs$Up", name := "wears", desc := "(I)V" } : Jvm.MethodName)) ∈ lw_all := lw_g (lw_at lw_m4 194 rfl) rfl
theorem q983 : (Jvm.Cond.code ({ cls := "KiteRoofs$Up", name := "wears", desc := "(I)V" } : Jvm.MethodName) prog_18_method_4_code (2 : Nat) (Option.none : Option Jvm.ClassFile.FieldType)) ∈ lw_all := lw_g (lw_at lw_m4 195 rfl) rfl
theorem q1985 : (Jvm.Cond.castable "KiteRoofs$Up" "java/lang/Object") ∈ lw_tbl := lw_at lw_m8 237 rfl
theorem in_X7 : ∀ w ∈ wsX70, w ∈ lw_all := lw_in wsX70 [357, 359] (by decide +kernel) (by decide +kernel)

/-! KiteRoofs$Cut -/
set_option maxRecDepth 100000
def RX8 : String := "KiteRoofs$Cut"
def TX8 : u_T := fun k => match k with
  | 0 => ("KiteRoofs$Cut", "round", "I", true)
  | 1 => ("KiteRoofs$Cut", "layer", "I", true)
  | _ => ("KiteRoofs$Cut", "by", "I", true)
def tyX8 : Nat → FieldType := fun k => match k with
  | 0 => .int
  | 1 => .int
  | _ => .int
abbrev wsX80 : List Cond := u_ws RX8 TX8 3
theorem nmX8 : ∀ a, a < 3 → ∀ b, b < 3 → a ≠ b → (TX8 a).2.1 ≠ (TX8 b).2.1 := by decide +kernel
theorem tyX8_ok : ∀ k, k < 3 → parseFieldDescriptor (TX8 k).2.2.1 = some (tyX8 k) := by decide +kernel
abbrev cX8_number : ByteArray := prog_2_method_3_code
def yX8_number : MethodName := ⟨RX8, "number", "()I"⟩
theorem dX8_number_0 : decode cX8_number 0 = .ok (.iconst 2, 1) := by decide +kernel
theorem dX8_number_1 : decode cX8_number 1 = .ok (.ireturn, 1) := by decide +kernel
abbrev cX8_sign : ByteArray := prog_2_method_4_code
def yX8_sign : MethodName := ⟨RX8, "sign", "()C"⟩
theorem dX8_sign_0 : decode cX8_sign 0 = .ok (.bipush 99, 2) := by decide +kernel
theorem dX8_sign_2 : decode cX8_sign 2 = .ok (.ireturn, 1) := by decide +kernel
abbrev cX8_init : ByteArray := prog_2_method_1_code
def yX8_init : MethodName := ⟨RX8, "<init>", "(III)V"⟩
def dkwX8_init_0 : List UInt8 := [42, 183, 0, 3, 42, 27, 181, 0, 9, 42, 28, 181, 0, 15, 42, 29, 181, 0, 18, 177]
abbrev dktX8_init_0 : List UInt8 := dkwX8_init_0 ++ []
theorem dksX8_init_0 : cX8_init.data.toList.drop 0 = dktX8_init_0 := by decide +kernel
theorem dX8_init_0 : decode cX8_init 0 = .ok (.aload_n 0, 1) := dk_42 (dk_at dksX8_init_0 0 rfl rfl)
theorem dX8_init_1 : decode cX8_init 1 = .ok (.invokespecial 3, 3) := dk_183 0 3 (dk_at dksX8_init_0 1 rfl rfl)
theorem dX8_init_4 : decode cX8_init 4 = .ok (.aload_n 0, 1) := dk_42 (dk_at dksX8_init_0 4 rfl rfl)
theorem dX8_init_5 : decode cX8_init 5 = .ok (.iload_n 1, 1) := dk_27 (dk_at dksX8_init_0 5 rfl rfl)
theorem dX8_init_6 : decode cX8_init 6 = .ok (.putfield 9, 3) := dk_181 0 9 (dk_at dksX8_init_0 6 rfl rfl)
theorem dX8_init_9 : decode cX8_init 9 = .ok (.aload_n 0, 1) := dk_42 (dk_at dksX8_init_0 9 rfl rfl)
theorem dX8_init_10 : decode cX8_init 10 = .ok (.iload_n 2, 1) := dk_28 (dk_at dksX8_init_0 10 rfl rfl)
theorem dX8_init_11 : decode cX8_init 11 = .ok (.putfield 15, 3) := dk_181 0 15 (dk_at dksX8_init_0 11 rfl rfl)
theorem dX8_init_14 : decode cX8_init 14 = .ok (.aload_n 0, 1) := dk_42 (dk_at dksX8_init_0 14 rfl rfl)
theorem dX8_init_15 : decode cX8_init 15 = .ok (.iload_n 3, 1) := dk_29 (dk_at dksX8_init_0 15 rfl rfl)
theorem dX8_init_16 : decode cX8_init 16 = .ok (.putfield 18, 3) := dk_181 0 18 (dk_at dksX8_init_0 16 rfl rfl)
theorem dX8_init_19 : decode cX8_init 19 = .ok (.return_, 1) := dk_177 (dk_at dksX8_init_0 19 rfl rfl)
abbrev cX8_known : ByteArray := prog_2_method_2_code
def yX8_known : MethodName := ⟨RX8, "known", "(I)I"⟩
def dkwX8_known_2 : List UInt8 := [154, 0, 5, 29, 172, 132, 2, 255, 132, 3, 1, 167, 255, 226, 2, 172]
abbrev dktX8_known_2 : List UInt8 := dkwX8_known_2 ++ []
def dkwX8_known_1 : List UInt8 := [61, 3, 62, 29, 16, 6, 162, 0, 30, 42, 180, 0, 18, 29, 122, 4, 126, 4, 160, 0, 12, 28]
abbrev dktX8_known_1 : List UInt8 := dkwX8_known_1 ++ dktX8_known_2
def dkwX8_known_0 : List UInt8 := [27, 5, 162, 0, 19, 27, 154, 0, 10, 42, 180, 0, 9, 167, 0, 7, 42, 180, 0, 15, 172, 27, 5, 100]
abbrev dktX8_known_0 : List UInt8 := dkwX8_known_0 ++ dktX8_known_1
theorem dksX8_known_0 : cX8_known.data.toList.drop 0 = dktX8_known_0 := by decide +kernel
theorem dksX8_known_1 : cX8_known.data.toList.drop 24 = dktX8_known_1 := dk_seg dksX8_known_0 24 rfl rfl
theorem dksX8_known_2 : cX8_known.data.toList.drop 46 = dktX8_known_2 := dk_seg dksX8_known_1 22 rfl rfl
theorem dX8_known_0 : decode cX8_known 0 = .ok (.iload_n 1, 1) := dk_27 (dk_at dksX8_known_0 0 rfl rfl)
theorem dX8_known_1 : decode cX8_known 1 = .ok (.iconst 2, 1) := dk_5 (dk_at dksX8_known_0 1 rfl rfl)
theorem dX8_known_2 : decode cX8_known 2 = .ok (.if_icmp .ge 19, 3) := dk_162 0 19 (dk_at dksX8_known_0 2 rfl rfl)
theorem dX8_known_5 : decode cX8_known 5 = .ok (.iload_n 1, 1) := dk_27 (dk_at dksX8_known_0 5 rfl rfl)
theorem dX8_known_6 : decode cX8_known 6 = .ok (.ifCond .ne 10, 3) := dk_154 0 10 (dk_at dksX8_known_0 6 rfl rfl)
theorem dX8_known_9 : decode cX8_known 9 = .ok (.aload_n 0, 1) := dk_42 (dk_at dksX8_known_0 9 rfl rfl)
theorem dX8_known_10 : decode cX8_known 10 = .ok (.getfield 9, 3) := dk_180 0 9 (dk_at dksX8_known_0 10 rfl rfl)
theorem dX8_known_13 : decode cX8_known 13 = .ok (.goto 7, 3) := dk_167 0 7 (dk_at dksX8_known_0 13 rfl rfl)
theorem dX8_known_16 : decode cX8_known 16 = .ok (.aload_n 0, 1) := dk_42 (dk_at dksX8_known_0 16 rfl rfl)
theorem dX8_known_17 : decode cX8_known 17 = .ok (.getfield 15, 3) := dk_180 0 15 (dk_at dksX8_known_0 17 rfl rfl)
theorem dX8_known_20 : decode cX8_known 20 = .ok (.ireturn, 1) := dk_172 (dk_at dksX8_known_0 20 rfl rfl)
theorem dX8_known_21 : decode cX8_known 21 = .ok (.iload_n 1, 1) := dk_27 (dk_at dksX8_known_0 21 rfl rfl)
theorem dX8_known_22 : decode cX8_known 22 = .ok (.iconst 2, 1) := dk_5 (dk_at dksX8_known_0 22 rfl rfl)
theorem dX8_known_23 : decode cX8_known 23 = .ok (.isub, 1) := dk_100 (dk_at dksX8_known_0 23 rfl rfl)
theorem dX8_known_24 : decode cX8_known 24 = .ok (.istore_n 2, 1) := dk_61 (dk_at dksX8_known_1 0 rfl rfl)
theorem dX8_known_25 : decode cX8_known 25 = .ok (.iconst 0, 1) := dk_3 (dk_at dksX8_known_1 1 rfl rfl)
theorem dX8_known_26 : decode cX8_known 26 = .ok (.istore_n 3, 1) := dk_62 (dk_at dksX8_known_1 2 rfl rfl)
theorem dX8_known_27 : decode cX8_known 27 = .ok (.iload_n 3, 1) := dk_29 (dk_at dksX8_known_1 3 rfl rfl)
theorem dX8_known_28 : decode cX8_known 28 = .ok (.bipush 6, 2) := dk_16 6 (dk_at dksX8_known_1 4 rfl rfl)
theorem dX8_known_30 : decode cX8_known 30 = .ok (.if_icmp .ge 30, 3) := dk_162 0 30 (dk_at dksX8_known_1 6 rfl rfl)
theorem dX8_known_33 : decode cX8_known 33 = .ok (.aload_n 0, 1) := dk_42 (dk_at dksX8_known_1 9 rfl rfl)
theorem dX8_known_34 : decode cX8_known 34 = .ok (.getfield 18, 3) := dk_180 0 18 (dk_at dksX8_known_1 10 rfl rfl)
theorem dX8_known_37 : decode cX8_known 37 = .ok (.iload_n 3, 1) := dk_29 (dk_at dksX8_known_1 13 rfl rfl)
theorem dX8_known_38 : decode cX8_known 38 = .ok (.ishr, 1) := dk_122 (dk_at dksX8_known_1 14 rfl rfl)
theorem dX8_known_39 : decode cX8_known 39 = .ok (.iconst 1, 1) := dk_4 (dk_at dksX8_known_1 15 rfl rfl)
theorem dX8_known_40 : decode cX8_known 40 = .ok (.iand, 1) := dk_126 (dk_at dksX8_known_1 16 rfl rfl)
theorem dX8_known_41 : decode cX8_known 41 = .ok (.iconst 1, 1) := dk_4 (dk_at dksX8_known_1 17 rfl rfl)
theorem dX8_known_42 : decode cX8_known 42 = .ok (.if_icmp .ne 12, 3) := dk_160 0 12 (dk_at dksX8_known_1 18 rfl rfl)
theorem dX8_known_45 : decode cX8_known 45 = .ok (.iload_n 2, 1) := dk_28 (dk_at dksX8_known_1 21 rfl rfl)
theorem dX8_known_46 : decode cX8_known 46 = .ok (.ifCond .ne 5, 3) := dk_154 0 5 (dk_at dksX8_known_2 0 rfl rfl)
theorem dX8_known_49 : decode cX8_known 49 = .ok (.iload_n 3, 1) := dk_29 (dk_at dksX8_known_2 3 rfl rfl)
theorem dX8_known_50 : decode cX8_known 50 = .ok (.ireturn, 1) := dk_172 (dk_at dksX8_known_2 4 rfl rfl)
theorem dX8_known_51 : decode cX8_known 51 = .ok (.iinc 2 (-1), 3) := dk_132 2 255 (dk_at dksX8_known_2 5 rfl rfl)
theorem dX8_known_54 : decode cX8_known 54 = .ok (.iinc 3 1, 3) := dk_132 3 1 (dk_at dksX8_known_2 8 rfl rfl)
theorem dX8_known_57 : decode cX8_known 57 = .ok (.goto (-30), 3) := dk_167 255 226 (dk_at dksX8_known_2 11 rfl rfl)
theorem dX8_known_60 : decode cX8_known 60 = .ok (.iconst (-1), 1) := dk_2 (dk_at dksX8_known_2 14 rfl rfl)
theorem dX8_known_61 : decode cX8_known 61 = .ok (.ireturn, 1) := dk_172 (dk_at dksX8_known_2 15 rfl rfl)
theorem q95 : (Jvm.Cond.initialized "KiteRoofs$Cut") ∈ lw_all := lw_g (lw_at lw_m1 27 rfl) rfl
theorem q559 : (Jvm.Cond.selects "KiteRoofs$Cut" ({ cls := "java/lang/Object", name := "getClass", desc := "()Ljava/lang/Class;" } : Jvm.MethodName) ({ cls := "java/lang/Object", name := "getClass", desc := "()Ljava/lang/Class;" } : Jvm.MethodName)) ∈ lw_all := lw_g (lw_at lw_m3 11 rfl) rfl
theorem q683 : (Jvm.Cond.castable "KiteRoofs$Cut" "KiteRoofs$State") ∈ lw_tbl := lw_at lw_m3 135 rfl
theorem q684 : (Jvm.Cond.selects "KiteRoofs$Cut" ({ cls := "KiteRoofs$State", name := "number", desc := "()I" } : Jvm.MethodName) ({ cls := "KiteRoofs$Cut", name := "number", desc := "()I" } : Jvm.MethodName)) ∈ lw_all := lw_g (lw_at lw_m3 136 rfl) rfl
theorem q685 : (Jvm.Cond.unhidden "KiteRoofs$Cut" "number" "()I") ∈ lw_tbl := lw_at lw_m3 137 rfl
theorem q686 : (Jvm.Cond.instanceMethod ({ cls := "KiteRoofs$Cut", name := "number", desc := "()I" } : Jvm.MethodName)) ∈ lw_all := lw_g (lw_at lw_m3 138 rfl) rfl
theorem q687 : (Jvm.Cond.publicMethod ({ cls := "KiteRoofs$Cut", name := "number", desc := "()I" } : Jvm.MethodName)) ∈ lw_tbl := lw_at lw_m3 139 rfl
theorem q688 : (Jvm.Cond.code ({ cls := "KiteRoofs$Cut", name := "number", desc := "()I" } : Jvm.MethodName) prog_2_method_3_code (1 : Nat) (Option.some Jvm.ClassFile.FieldType.int)) ∈ lw_all := lw_g (lw_at lw_m3 140 rfl) rfl
theorem q867 : (Jvm.Cond.selects "KiteRoofs$Cut" ({ cls := "KiteRoofs$State", name := "sign", desc := "()C" } : Jvm.MethodName) ({ cls := "KiteRoofs$Cut", name := "sign", desc := "()C" } : Jvm.MethodName)) ∈ lw_all := lw_g (lw_at lw_m4 79 rfl) rfl
theorem q868 : (Jvm.Cond.unhidden "KiteRoofs$Cut" "sign" "()C") ∈ lw_tbl := lw_at lw_m4 80 rfl
theorem q869 : (Jvm.Cond.instanceMethod ({ cls := "KiteRoofs$Cut", name := "sign", desc := "()C" } : Jvm.MethodName)) ∈ lw_all := lw_g (lw_at lw_m4 81 rfl) rfl
theorem q870 : (Jvm.Cond.publicMethod ({ cls := "KiteRoofs$Cut", name := "sign", desc := "()C" } : Jvm.MethodName)) ∈ lw_tbl := lw_at lw_m4 82 rfl
theorem q871 : (Jvm.Cond.code ({ cls := "KiteRoofs$Cut", name := "sign", desc := "()C" } : Jvm.MethodName) prog_2_method_4_code (1 : Nat) (Option.some Jvm.ClassFile.FieldType.char)) ∈ lw_all := lw_g (lw_at lw_m4 83 rfl) rfl
theorem q1009 : (Jvm.Cond.instantiable "KiteRoofs$Cut" (3 : Nat)) ∈ lw_all := lw_g (lw_at lw_m4 221 rfl) rfl
theorem q1015 : (Jvm.Cond.instanceMethod ({ cls := "KiteRoofs$Cut", name := "<init>", desc := "(III)V" } : Jvm.MethodName)) ∈ lw_all := lw_g (lw_at lw_m4 227 rfl) rfl
theorem q1016 : (Jvm.Cond.code ({ cls := "KiteRoofs$Cut", name := "<init>", desc := "(III)V" } : Jvm.MethodName) prog_2_method_1_code (4 : Nat) (Option.none : Option Jvm.ClassFile.FieldType)) ∈ lw_all := lw_g (lw_at lw_m4 228 rfl) rfl
theorem q1017 : (Jvm.Cond.methodLink "KiteRoofs$Cut" (3 : Nat) ({ cls := "java/lang/Object", name := "<init>", desc := "()V" } : Jvm.MethodName)) ∈ lw_all := lw_g (lw_at lw_m4 229 rfl) rfl
theorem q1018 : (Jvm.Cond.fieldLink "KiteRoofs$Cut" (9 : Nat) "KiteRoofs$Cut" "round" "I") ∈ lw_all := lw_g (lw_at lw_m4 230 rfl) rfl
theorem q1019 : (Jvm.Cond.fieldLink "KiteRoofs$Cut" (15 : Nat) "KiteRoofs$Cut" "layer" "I") ∈ lw_all := lw_g (lw_at lw_m4 231 rfl) rfl
theorem q1020 : (Jvm.Cond.fieldLink "KiteRoofs$Cut" (18 : Nat) "KiteRoofs$Cut" "by" "I") ∈ lw_all := lw_g (lw_at lw_m4 232 rfl) rfl
theorem q1021 : (Jvm.Cond.laysFinal "KiteRoofs$Cut" "KiteRoofs$Cut" "round" "I") ∈ lw_all := lw_g (lw_at lw_m4 233 rfl) rfl
theorem q1022 : (Jvm.Cond.soleField "KiteRoofs$Cut" "round") ∈ lw_all := lw_g (lw_at lw_m4 234 rfl) rfl
theorem q1023 : (Jvm.Cond.laysFinal "KiteRoofs$Cut" "KiteRoofs$Cut" "layer" "I") ∈ lw_all := lw_g (lw_at lw_m4 235 rfl) rfl
theorem q1024 : (Jvm.Cond.soleField "KiteRoofs$Cut" "layer") ∈ lw_all := lw_g (lw_at lw_m4 236 rfl) rfl
theorem q1025 : (Jvm.Cond.laysFinal "KiteRoofs$Cut" "KiteRoofs$Cut" "by" "I") ∈ lw_all := lw_g (lw_at lw_m4 237 rfl) rfl
theorem q1026 : (Jvm.Cond.soleField "KiteRoofs$Cut" "by") ∈ lw_all := lw_g (lw_at lw_m4 238 rfl) rfl
theorem q1027 : (Jvm.Cond.superclass "KiteRoofs$Cut" "java/lang/Object") ∈ lw_all := lw_g (lw_at lw_m4 239 rfl) rfl
theorem q1059 : (Jvm.Cond.instanceMethod ({ cls := "KiteRoofs$Cut", name := "known", desc := "(I)I" } : Jvm.MethodName)) ∈ lw_all := lw_g (lw_at lw_m5 31 rfl) rfl
theorem q1060 : (Jvm.Cond.selects "KiteRoofs$Cut" ({ cls := "KiteRoofs$Cut", name := "known", desc := "(I)I" } : Jvm.MethodName) ({ cls := "KiteRoofs$Cut", name := "known", desc := "(I)I" } : Jvm.MethodName)) ∈ lw_all := lw_g (lw_at lw_m5 32 rfl) rfl
theorem q1061 : (Jvm.Cond.code ({ cls := "KiteRoofs$Cut", name := "known", desc := "(I)I" } : Jvm.MethodName) prog_2_method_2_code (4 : Nat) (Option.some Jvm.ClassFile.FieldType.int)) ∈ lw_all := lw_g (lw_at lw_m5 33 rfl) rfl
theorem q1991 : (Jvm.Cond.castable "KiteRoofs$Cut" "java/lang/Object") ∈ lw_tbl := lw_at lw_m9 3 rfl
theorem in_X8 : ∀ w ∈ wsX80, w ∈ lw_all := lw_in wsX80 [1021, 1023, 1025] (by decide +kernel) (by decide +kernel)

/-! KiteRoofs$Make$1 -/
set_option maxRecDepth 100000
def RX16 : String := "KiteRoofs$Make$1"
abbrev cX16_area : ByteArray := prog_7_method_2_code
def yX16_area : MethodName := ⟨RX16, "area", "()I"⟩
theorem dX16_area_0 : decode cX16_area 0 = .ok (.iconst 2, 1) := by decide +kernel
theorem dX16_area_1 : decode cX16_area 1 = .ok (.ireturn, 1) := by decide +kernel
abbrev cX16_hardness : ByteArray := prog_7_method_3_code
def yX16_hardness : MethodName := ⟨RX16, "hardness", "()I"⟩
theorem dX16_hardness_0 : decode cX16_hardness 0 = .ok (.bipush 30, 2) := by decide +kernel
theorem dX16_hardness_2 : decode cX16_hardness 2 = .ok (.ireturn, 1) := by decide +kernel
theorem q563 : (Jvm.Cond.selects "KiteRoofs$Make$1" ({ cls := "java/lang/Object", name := "getClass", desc := "()Ljava/lang/Class;" } : Jvm.MethodName) ({ cls := "java/lang/Object", name := "getClass", desc := "()Ljava/lang/Class;" } : Jvm.MethodName)) ∈ lw_all := lw_g (lw_at lw_m3 15 rfl) rfl
theorem q789 : (Jvm.Cond.selects "KiteRoofs$Make$1" ({ cls := "KiteRoofs$Make", name := "ordinal", desc := "()I" } : Jvm.MethodName) ({ cls := "java/lang/Enum", name := "ordinal", desc := "()I" } : Jvm.MethodName)) ∈ lw_all := lw_g (lw_at lw_m4 1 rfl) rfl
theorem q817 : (Jvm.Cond.selects "KiteRoofs$Make$1" ({ cls := "KiteRoofs$Make", name := "factor", desc := "()I" } : Jvm.MethodName) ({ cls := "KiteRoofs$Make", name := "factor", desc := "()I" } : Jvm.MethodName)) ∈ lw_all := lw_g (lw_at lw_m4 29 rfl) rfl
theorem q831 : (Jvm.Cond.selects "KiteRoofs$Make$1" ({ cls := "KiteRoofs$Make", name := "area", desc := "()I" } : Jvm.MethodName) ({ cls := "KiteRoofs$Make$1", name := "area", desc := "()I" } : Jvm.MethodName)) ∈ lw_all := lw_g (lw_at lw_m4 43 rfl) rfl
theorem q832 : (Jvm.Cond.instanceMethod ({ cls := "KiteRoofs$Make$1", name := "area", desc := "()I" } : Jvm.MethodName)) ∈ lw_all := lw_g (lw_at lw_m4 44 rfl) rfl
theorem q833 : (Jvm.Cond.code ({ cls := "KiteRoofs$Make$1", name := "area", desc := "()I" } : Jvm.MethodName) prog_7_method_2_code (1 : Nat) (Option.some Jvm.ClassFile.FieldType.int)) ∈ lw_all := lw_g (lw_at lw_m4 45 rfl) rfl
theorem q992 : (Jvm.Cond.selects "KiteRoofs$Make$1" ({ cls := "KiteRoofs$Make", name := "hardness", desc := "()I" } : Jvm.MethodName) ({ cls := "KiteRoofs$Make$1", name := "hardness", desc := "()I" } : Jvm.MethodName)) ∈ lw_all := lw_g (lw_at lw_m4 204 rfl) rfl
theorem q993 : (Jvm.Cond.instanceMethod ({ cls := "KiteRoofs$Make$1", name := "hardness", desc := "()I" } : Jvm.MethodName)) ∈ lw_all := lw_g (lw_at lw_m4 205 rfl) rfl
theorem q994 : (Jvm.Cond.code ({ cls := "KiteRoofs$Make$1", name := "hardness", desc := "()I" } : Jvm.MethodName) prog_7_method_3_code (1 : Nat) (Option.some Jvm.ClassFile.FieldType.int)) ∈ lw_all := lw_g (lw_at lw_m4 206 rfl) rfl
theorem q1977 : (Jvm.Cond.castable "KiteRoofs$Make$1" "java/lang/Object") ∈ lw_tbl := lw_at lw_m8 229 rfl

/-! KiteRoofs$Make$2 -/
set_option maxRecDepth 100000
def RX17 : String := "KiteRoofs$Make$2"
abbrev cX17_area : ByteArray := prog_8_method_2_code
def yX17_area : MethodName := ⟨RX17, "area", "()I"⟩
theorem dX17_area_0 : decode cX17_area 0 = .ok (.iconst 3, 1) := by decide +kernel
theorem dX17_area_1 : decode cX17_area 1 = .ok (.ireturn, 1) := by decide +kernel
abbrev cX17_hardness : ByteArray := prog_8_method_3_code
def yX17_hardness : MethodName := ⟨RX17, "hardness", "()I"⟩
theorem dX17_hardness_0 : decode cX17_hardness 0 = .ok (.bipush 50, 2) := by decide +kernel
theorem dX17_hardness_2 : decode cX17_hardness 2 = .ok (.ireturn, 1) := by decide +kernel
theorem q564 : (Jvm.Cond.selects "KiteRoofs$Make$2" ({ cls := "java/lang/Object", name := "getClass", desc := "()Ljava/lang/Class;" } : Jvm.MethodName) ({ cls := "java/lang/Object", name := "getClass", desc := "()Ljava/lang/Class;" } : Jvm.MethodName)) ∈ lw_all := lw_g (lw_at lw_m3 16 rfl) rfl
theorem q790 : (Jvm.Cond.selects "KiteRoofs$Make$2" ({ cls := "KiteRoofs$Make", name := "ordinal", desc := "()I" } : Jvm.MethodName) ({ cls := "java/lang/Enum", name := "ordinal", desc := "()I" } : Jvm.MethodName)) ∈ lw_all := lw_g (lw_at lw_m4 2 rfl) rfl
theorem q818 : (Jvm.Cond.selects "KiteRoofs$Make$2" ({ cls := "KiteRoofs$Make", name := "factor", desc := "()I" } : Jvm.MethodName) ({ cls := "KiteRoofs$Make", name := "factor", desc := "()I" } : Jvm.MethodName)) ∈ lw_all := lw_g (lw_at lw_m4 30 rfl) rfl
theorem q834 : (Jvm.Cond.selects "KiteRoofs$Make$2" ({ cls := "KiteRoofs$Make", name := "area", desc := "()I" } : Jvm.MethodName) ({ cls := "KiteRoofs$Make$2", name := "area", desc := "()I" } : Jvm.MethodName)) ∈ lw_all := lw_g (lw_at lw_m4 46 rfl) rfl
theorem q835 : (Jvm.Cond.instanceMethod ({ cls := "KiteRoofs$Make$2", name := "area", desc := "()I" } : Jvm.MethodName)) ∈ lw_all := lw_g (lw_at lw_m4 47 rfl) rfl
theorem q836 : (Jvm.Cond.code ({ cls := "KiteRoofs$Make$2", name := "area", desc := "()I" } : Jvm.MethodName) prog_8_method_2_code (1 : Nat) (Option.some Jvm.ClassFile.FieldType.int)) ∈ lw_all := lw_g (lw_at lw_m4 48 rfl) rfl
theorem q995 : (Jvm.Cond.selects "KiteRoofs$Make$2" ({ cls := "KiteRoofs$Make", name := "hardness", desc := "()I" } : Jvm.MethodName) ({ cls := "KiteRoofs$Make$2", name := "hardness", desc := "()I" } : Jvm.MethodName)) ∈ lw_all := lw_g (lw_at lw_m4 207 rfl) rfl
theorem q996 : (Jvm.Cond.instanceMethod ({ cls := "KiteRoofs$Make$2", name := "hardness", desc := "()I" } : Jvm.MethodName)) ∈ lw_all := lw_g (lw_at lw_m4 208 rfl) rfl
theorem q997 : (Jvm.Cond.code ({ cls := "KiteRoofs$Make$2", name := "hardness", desc := "()I" } : Jvm.MethodName) prog_8_method_3_code (1 : Nat) (Option.some Jvm.ClassFile.FieldType.int)) ∈ lw_all := lw_g (lw_at lw_m4 209 rfl) rfl
theorem q1988 : (Jvm.Cond.castable "KiteRoofs$Make$2" "java/lang/Object") ∈ lw_tbl := lw_at lw_m9 0 rfl

/-! KiteRoofs$Make$3 -/
set_option maxRecDepth 100000
def RX18 : String := "KiteRoofs$Make$3"
abbrev cX18_factor : ByteArray := prog_9_method_4_code
def yX18_factor : MethodName := ⟨RX18, "factor", "()I"⟩
theorem dX18_factor_0 : decode cX18_factor 0 = .ok (.iconst 2, 1) := by decide +kernel
theorem dX18_factor_1 : decode cX18_factor 1 = .ok (.ireturn, 1) := by decide +kernel
abbrev cX18_area : ByteArray := prog_9_method_2_code
def yX18_area : MethodName := ⟨RX18, "area", "()I"⟩
theorem dX18_area_0 : decode cX18_area 0 = .ok (.iconst 1, 1) := by decide +kernel
theorem dX18_area_1 : decode cX18_area 1 = .ok (.ireturn, 1) := by decide +kernel
abbrev cX18_hardness : ByteArray := prog_9_method_3_code
def yX18_hardness : MethodName := ⟨RX18, "hardness", "()I"⟩
theorem dX18_hardness_0 : decode cX18_hardness 0 = .ok (.bipush 20, 2) := by decide +kernel
theorem dX18_hardness_2 : decode cX18_hardness 2 = .ok (.ireturn, 1) := by decide +kernel
theorem q565 : (Jvm.Cond.selects "KiteRoofs$Make$3" ({ cls := "java/lang/Object", name := "getClass", desc := "()Ljava/lang/Class;" } : Jvm.MethodName) ({ cls := "java/lang/Object", name := "getClass", desc := "()Ljava/lang/Class;" } : Jvm.MethodName)) ∈ lw_all := lw_g (lw_at lw_m3 17 rfl) rfl
theorem q791 : (Jvm.Cond.selects "KiteRoofs$Make$3" ({ cls := "KiteRoofs$Make", name := "ordinal", desc := "()I" } : Jvm.MethodName) ({ cls := "java/lang/Enum", name := "ordinal", desc := "()I" } : Jvm.MethodName)) ∈ lw_all := lw_g (lw_at lw_m4 3 rfl) rfl
theorem q819 : (Jvm.Cond.selects "KiteRoofs$Make$3" ({ cls := "KiteRoofs$Make", name := "factor", desc := "()I" } : Jvm.MethodName) ({ cls := "KiteRoofs$Make$3", name := "factor", desc := "()I" } : Jvm.MethodName)) ∈ lw_all := lw_g (lw_at lw_m4 31 rfl) rfl
theorem q820 : (Jvm.Cond.instanceMethod ({ cls := "KiteRoofs$Make$3", name := "factor", desc := "()I" } : Jvm.MethodName)) ∈ lw_all := lw_g (lw_at lw_m4 32 rfl) rfl
theorem q821 : (Jvm.Cond.code ({ cls := "KiteRoofs$Make$3", name := "factor", desc := "()I" } : Jvm.MethodName) prog_9_method_4_code (1 : Nat) (Option.some Jvm.ClassFile.FieldType.int)) ∈ lw_all := lw_g (lw_at lw_m4 33 rfl) rfl
theorem q837 : (Jvm.Cond.selects "KiteRoofs$Make$3" ({ cls := "KiteRoofs$Make", name := "area", desc := "()I" } : Jvm.MethodName) ({ cls := "KiteRoofs$Make$3", name := "area", desc := "()I" } : Jvm.MethodName)) ∈ lw_all := lw_g (lw_at lw_m4 49 rfl) rfl
theorem q838 : (Jvm.Cond.instanceMethod ({ cls := "KiteRoofs$Make$3", name := "area", desc := "()I" } : Jvm.MethodName)) ∈ lw_all := lw_g (lw_at lw_m4 50 rfl) rfl
theorem q839 : (Jvm.Cond.code ({ cls := "KiteRoofs$Make$3", name := "area", desc := "()I" } : Jvm.MethodName) prog_9_method_2_code (1 : Nat) (Option.some Jvm.ClassFile.FieldType.int)) ∈ lw_all := lw_g (lw_at lw_m4 51 rfl) rfl
theorem q998 : (Jvm.Cond.selects "KiteRoofs$Make$3" ({ cls := "KiteRoofs$Make", name := "hardness", desc := "()I" } : Jvm.MethodName) ({ cls := "KiteRoofs$Make$3", name := "hardness", desc := "()I" } : Jvm.MethodName)) ∈ lw_all := lw_g (lw_at lw_m4 210 rfl) rfl
theorem q999 : (Jvm.Cond.instanceMethod ({ cls := "KiteRoofs$Make$3", name := "hardness", desc := "()I" } : Jvm.MethodName)) ∈ lw_all := lw_g (lw_at lw_m4 211 rfl) rfl
theorem q1000 : (Jvm.Cond.code ({ cls := "KiteRoofs$Make$3", name := "hardness", desc := "()I" } : Jvm.MethodName) prog_9_method_3_code (1 : Nat) (Option.some Jvm.ClassFile.FieldType.int)) ∈ lw_all := lw_g (lw_at lw_m4 212 rfl) rfl
theorem q1989 : (Jvm.Cond.castable "KiteRoofs$Make$3" "java/lang/Object") ∈ lw_tbl := lw_at lw_m9 1 rfl

