/-! KiteRoofs$Reader -/
set_option maxRecDepth 100000
def RX9 : String := "KiteRoofs$Reader"
def TX9 : u_T := fun k => match k with
  | 0 => ("KiteRoofs$Reader", "text", "Ljava/lang/String;", true)
  | 1 => ("KiteRoofs$Reader", "at", "I", false)
  | 2 => ("KiteRoofs$Reader", "orders", "[LKiteRoofs$Order;", true)
  | _ => ("KiteRoofs$Reader", "many", "I", false)
def tyX9 : Nat → FieldType := fun k => match k with
  | 0 => .object "java/lang/String"
  | 1 => .int
  | 2 => .array (.object "KiteRoofs$Order")
  | _ => .int
abbrev wsX90 : List Cond := u_ws RX9 TX9 4
theorem nmX9 : ∀ a, a < 4 → ∀ b, b < 4 → a ≠ b → (TX9 a).2.1 ≠ (TX9 b).2.1 := by decide +kernel
theorem tyX9_ok : ∀ k, k < 4 → parseFieldDescriptor (TX9 k).2.2.1 = some (tyX9 k) := by decide +kernel
abbrev cX9_init : ByteArray := prog_13_method_1_code
def yX9_init : MethodName := ⟨RX9, "<init>", "(Ljava/lang/String;)V"⟩
def dkwX9_init_0 : List UInt8 := [42, 183, 0, 3, 42, 16, 60, 189, 0, 9, 181, 0, 11, 42, 43, 181, 0, 17, 177]
abbrev dktX9_init_0 : List UInt8 := dkwX9_init_0 ++ []
theorem dksX9_init_0 : cX9_init.data.toList.drop 0 = dktX9_init_0 := by decide +kernel
theorem dX9_init_0 : decode cX9_init 0 = .ok (.aload_n 0, 1) := dk_42 (dk_at dksX9_init_0 0 rfl rfl)
theorem dX9_init_1 : decode cX9_init 1 = .ok (.invokespecial 3, 3) := dk_183 0 3 (dk_at dksX9_init_0 1 rfl rfl)
theorem dX9_init_4 : decode cX9_init 4 = .ok (.aload_n 0, 1) := dk_42 (dk_at dksX9_init_0 4 rfl rfl)
theorem dX9_init_5 : decode cX9_init 5 = .ok (.bipush 60, 2) := dk_16 60 (dk_at dksX9_init_0 5 rfl rfl)
theorem dX9_init_7 : decode cX9_init 7 = .ok (.anewarray 9, 3) := dk_189 0 9 (dk_at dksX9_init_0 7 rfl rfl)
theorem dX9_init_10 : decode cX9_init 10 = .ok (.putfield 11, 3) := dk_181 0 11 (dk_at dksX9_init_0 10 rfl rfl)
theorem dX9_init_13 : decode cX9_init 13 = .ok (.aload_n 0, 1) := dk_42 (dk_at dksX9_init_0 13 rfl rfl)
theorem dX9_init_14 : decode cX9_init 14 = .ok (.aload_n 1, 1) := dk_43 (dk_at dksX9_init_0 14 rfl rfl)
theorem dX9_init_15 : decode cX9_init 15 = .ok (.putfield 17, 3) := dk_181 0 17 (dk_at dksX9_init_0 15 rfl rfl)
theorem dX9_init_18 : decode cX9_init 18 = .ok (.return_, 1) := dk_177 (dk_at dksX9_init_0 18 rfl rfl)
abbrev cX9_read : ByteArray := prog_13_method_11_code
def yX9_read : MethodName := ⟨RX9, "read", "()V"⟩
def dkwX9_read_2 : List UInt8 := [187, 0, 42, 89, 42, 180, 0, 21, 183, 0, 44, 191, 177]
abbrev dktX9_read_2 : List UInt8 := dkwX9_read_2 ++ []
def dkwX9_read_1 : List UInt8 := [16, 59, 182, 0, 38, 154, 255, 227, 42, 180, 0, 21, 42, 180, 0, 17, 182, 0, 25, 162, 0, 15]
abbrev dktX9_read_1 : List UInt8 := dkwX9_read_1 ++ dktX9_read_2
def dkwX9_read_0 : List UInt8 := [42, 180, 0, 11, 42, 180, 0, 91, 42, 182, 0, 94, 83, 42, 89, 180, 0, 91, 4, 96, 181, 0, 91, 42]
abbrev dktX9_read_0 : List UInt8 := dkwX9_read_0 ++ dktX9_read_1
theorem dksX9_read_0 : cX9_read.data.toList.drop 0 = dktX9_read_0 := by decide +kernel
theorem dksX9_read_1 : cX9_read.data.toList.drop 24 = dktX9_read_1 := dk_seg dksX9_read_0 24 rfl rfl
theorem dksX9_read_2 : cX9_read.data.toList.drop 46 = dktX9_read_2 := dk_seg dksX9_read_1 22 rfl rfl
theorem dX9_read_0 : decode cX9_read 0 = .ok (.aload_n 0, 1) := dk_42 (dk_at dksX9_read_0 0 rfl rfl)
theorem dX9_read_1 : decode cX9_read 1 = .ok (.getfield 11, 3) := dk_180 0 11 (dk_at dksX9_read_0 1 rfl rfl)
theorem dX9_read_4 : decode cX9_read 4 = .ok (.aload_n 0, 1) := dk_42 (dk_at dksX9_read_0 4 rfl rfl)
theorem dX9_read_5 : decode cX9_read 5 = .ok (.getfield 91, 3) := dk_180 0 91 (dk_at dksX9_read_0 5 rfl rfl)
theorem dX9_read_8 : decode cX9_read 8 = .ok (.aload_n 0, 1) := dk_42 (dk_at dksX9_read_0 8 rfl rfl)
theorem dX9_read_9 : decode cX9_read 9 = .ok (.invokevirtual 94, 3) := dk_182 0 94 (dk_at dksX9_read_0 9 rfl rfl)
theorem dX9_read_12 : decode cX9_read 12 = .ok (.aastore, 1) := dk_83 (dk_at dksX9_read_0 12 rfl rfl)
theorem dX9_read_13 : decode cX9_read 13 = .ok (.aload_n 0, 1) := dk_42 (dk_at dksX9_read_0 13 rfl rfl)
theorem dX9_read_14 : decode cX9_read 14 = .ok (.dup, 1) := dk_89 (dk_at dksX9_read_0 14 rfl rfl)
theorem dX9_read_15 : decode cX9_read 15 = .ok (.getfield 91, 3) := dk_180 0 91 (dk_at dksX9_read_0 15 rfl rfl)
theorem dX9_read_18 : decode cX9_read 18 = .ok (.iconst 1, 1) := dk_4 (dk_at dksX9_read_0 18 rfl rfl)
theorem dX9_read_19 : decode cX9_read 19 = .ok (.iadd, 1) := dk_96 (dk_at dksX9_read_0 19 rfl rfl)
theorem dX9_read_20 : decode cX9_read 20 = .ok (.putfield 91, 3) := dk_181 0 91 (dk_at dksX9_read_0 20 rfl rfl)
theorem dX9_read_23 : decode cX9_read 23 = .ok (.aload_n 0, 1) := dk_42 (dk_at dksX9_read_0 23 rfl rfl)
theorem dX9_read_24 : decode cX9_read 24 = .ok (.bipush 59, 2) := dk_16 59 (dk_at dksX9_read_1 0 rfl rfl)
theorem dX9_read_26 : decode cX9_read 26 = .ok (.invokevirtual 38, 3) := dk_182 0 38 (dk_at dksX9_read_1 2 rfl rfl)
theorem dX9_read_29 : decode cX9_read 29 = .ok (.ifCond .ne (-29), 3) := dk_154 255 227 (dk_at dksX9_read_1 5 rfl rfl)
theorem dX9_read_32 : decode cX9_read 32 = .ok (.aload_n 0, 1) := dk_42 (dk_at dksX9_read_1 8 rfl rfl)
theorem dX9_read_33 : decode cX9_read 33 = .ok (.getfield 21, 3) := dk_180 0 21 (dk_at dksX9_read_1 9 rfl rfl)
theorem dX9_read_36 : decode cX9_read 36 = .ok (.aload_n 0, 1) := dk_42 (dk_at dksX9_read_1 12 rfl rfl)
theorem dX9_read_37 : decode cX9_read 37 = .ok (.getfield 17, 3) := dk_180 0 17 (dk_at dksX9_read_1 13 rfl rfl)
theorem dX9_read_40 : decode cX9_read 40 = .ok (.invokevirtual 25, 3) := dk_182 0 25 (dk_at dksX9_read_1 16 rfl rfl)
theorem dX9_read_43 : decode cX9_read 43 = .ok (.if_icmp .ge 15, 3) := dk_162 0 15 (dk_at dksX9_read_1 19 rfl rfl)
theorem dX9_read_46 : decode cX9_read 46 = .ok (.new 42, 3) := dk_187 0 42 (dk_at dksX9_read_2 0 rfl rfl)
theorem dX9_read_49 : decode cX9_read 49 = .ok (.dup, 1) := dk_89 (dk_at dksX9_read_2 3 rfl rfl)
theorem dX9_read_50 : decode cX9_read 50 = .ok (.aload_n 0, 1) := dk_42 (dk_at dksX9_read_2 4 rfl rfl)
theorem dX9_read_51 : decode cX9_read 51 = .ok (.getfield 21, 3) := dk_180 0 21 (dk_at dksX9_read_2 5 rfl rfl)
theorem dX9_read_54 : decode cX9_read 54 = .ok (.invokespecial 44, 3) := dk_183 0 44 (dk_at dksX9_read_2 8 rfl rfl)
theorem dX9_read_57 : decode cX9_read 57 = .ok (.athrow, 1) := dk_191 (dk_at dksX9_read_2 11 rfl rfl)
theorem dX9_read_58 : decode cX9_read 58 = .ok (.return_, 1) := dk_177 (dk_at dksX9_read_2 12 rfl rfl)
abbrev cX9_order : ByteArray := prog_13_method_8_code
def yX9_order : MethodName := ⟨RX9, "order", "()LKiteRoofs$Order;"⟩
def dkwX9_order_4 : List UInt8 := [182, 0, 72, 183, 0, 80, 176]
abbrev dktX9_order_4 : List UInt8 := dkwX9_order_4 ++ []
def dkwX9_order_3 : List UInt8 := [27, 28, 42, 182, 0, 72, 104, 183, 0, 75, 176, 42, 16, 116, 182, 0, 54, 187, 0, 78, 89, 42]
abbrev dktX9_order_3 : List UInt8 := dkwX9_order_3 ++ dktX9_order_4
def dkwX9_order_2 : List UInt8 := [176, 42, 16, 114, 182, 0, 38, 153, 0, 28, 42, 182, 0, 51, 60, 42, 182, 0, 67, 61, 187, 0, 70, 89]
abbrev dktX9_order_2 : List UInt8 := dkwX9_order_2 ++ dktX9_order_3
def dkwX9_order_1 : List UInt8 := [182, 0, 61, 176, 42, 16, 117, 182, 0, 38, 153, 0, 15, 187, 0, 64, 89, 42, 182, 0, 51, 183, 0, 66]
abbrev dktX9_order_1 : List UInt8 := dkwX9_order_1 ++ dktX9_order_2
def dkwX9_order_0 : List UInt8 := [42, 16, 119, 182, 0, 38, 153, 0, 8, 42, 182, 0, 57, 176, 42, 16, 107, 182, 0, 38, 153, 0, 8, 42]
abbrev dktX9_order_0 : List UInt8 := dkwX9_order_0 ++ dktX9_order_1
theorem dksX9_order_0 : cX9_order.data.toList.drop 0 = dktX9_order_0 := by decide +kernel
theorem dksX9_order_1 : cX9_order.data.toList.drop 24 = dktX9_order_1 := dk_seg dksX9_order_0 24 rfl rfl
theorem dksX9_order_2 : cX9_order.data.toList.drop 48 = dktX9_order_2 := dk_seg dksX9_order_1 24 rfl rfl
theorem dksX9_order_3 : cX9_order.data.toList.drop 72 = dktX9_order_3 := dk_seg dksX9_order_2 24 rfl rfl
theorem dksX9_order_4 : cX9_order.data.toList.drop 94 = dktX9_order_4 := dk_seg dksX9_order_3 22 rfl rfl
theorem dX9_order_0 : decode cX9_order 0 = .ok (.aload_n 0, 1) := dk_42 (dk_at dksX9_order_0 0 rfl rfl)
theorem dX9_order_1 : decode cX9_order 1 = .ok (.bipush 119, 2) := dk_16 119 (dk_at dksX9_order_0 1 rfl rfl)
theorem dX9_order_3 : decode cX9_order 3 = .ok (.invokevirtual 38, 3) := dk_182 0 38 (dk_at dksX9_order_0 3 rfl rfl)
theorem dX9_order_6 : decode cX9_order 6 = .ok (.ifCond .eq 8, 3) := dk_153 0 8 (dk_at dksX9_order_0 6 rfl rfl)
theorem dX9_order_9 : decode cX9_order 9 = .ok (.aload_n 0, 1) := dk_42 (dk_at dksX9_order_0 9 rfl rfl)
theorem dX9_order_10 : decode cX9_order 10 = .ok (.invokevirtual 57, 3) := dk_182 0 57 (dk_at dksX9_order_0 10 rfl rfl)
theorem dX9_order_13 : decode cX9_order 13 = .ok (.areturn, 1) := dk_176 (dk_at dksX9_order_0 13 rfl rfl)
theorem dX9_order_14 : decode cX9_order 14 = .ok (.aload_n 0, 1) := dk_42 (dk_at dksX9_order_0 14 rfl rfl)
theorem dX9_order_15 : decode cX9_order 15 = .ok (.bipush 107, 2) := dk_16 107 (dk_at dksX9_order_0 15 rfl rfl)
theorem dX9_order_17 : decode cX9_order 17 = .ok (.invokevirtual 38, 3) := dk_182 0 38 (dk_at dksX9_order_0 17 rfl rfl)
theorem dX9_order_20 : decode cX9_order 20 = .ok (.ifCond .eq 8, 3) := dk_153 0 8 (dk_at dksX9_order_0 20 rfl rfl)
theorem dX9_order_23 : decode cX9_order 23 = .ok (.aload_n 0, 1) := dk_42 (dk_at dksX9_order_0 23 rfl rfl)
theorem dX9_order_24 : decode cX9_order 24 = .ok (.invokevirtual 61, 3) := dk_182 0 61 (dk_at dksX9_order_1 0 rfl rfl)
theorem dX9_order_27 : decode cX9_order 27 = .ok (.areturn, 1) := dk_176 (dk_at dksX9_order_1 3 rfl rfl)
theorem dX9_order_28 : decode cX9_order 28 = .ok (.aload_n 0, 1) := dk_42 (dk_at dksX9_order_1 4 rfl rfl)
theorem dX9_order_29 : decode cX9_order 29 = .ok (.bipush 117, 2) := dk_16 117 (dk_at dksX9_order_1 5 rfl rfl)
theorem dX9_order_31 : decode cX9_order 31 = .ok (.invokevirtual 38, 3) := dk_182 0 38 (dk_at dksX9_order_1 7 rfl rfl)
theorem dX9_order_34 : decode cX9_order 34 = .ok (.ifCond .eq 15, 3) := dk_153 0 15 (dk_at dksX9_order_1 10 rfl rfl)
theorem dX9_order_37 : decode cX9_order 37 = .ok (.new 64, 3) := dk_187 0 64 (dk_at dksX9_order_1 13 rfl rfl)
theorem dX9_order_40 : decode cX9_order 40 = .ok (.dup, 1) := dk_89 (dk_at dksX9_order_1 16 rfl rfl)
theorem dX9_order_41 : decode cX9_order 41 = .ok (.aload_n 0, 1) := dk_42 (dk_at dksX9_order_1 17 rfl rfl)
theorem dX9_order_42 : decode cX9_order 42 = .ok (.invokevirtual 51, 3) := dk_182 0 51 (dk_at dksX9_order_1 18 rfl rfl)
theorem dX9_order_45 : decode cX9_order 45 = .ok (.invokespecial 66, 3) := dk_183 0 66 (dk_at dksX9_order_1 21 rfl rfl)
theorem dX9_order_48 : decode cX9_order 48 = .ok (.areturn, 1) := dk_176 (dk_at dksX9_order_2 0 rfl rfl)
theorem dX9_order_49 : decode cX9_order 49 = .ok (.aload_n 0, 1) := dk_42 (dk_at dksX9_order_2 1 rfl rfl)
theorem dX9_order_50 : decode cX9_order 50 = .ok (.bipush 114, 2) := dk_16 114 (dk_at dksX9_order_2 2 rfl rfl)
theorem dX9_order_52 : decode cX9_order 52 = .ok (.invokevirtual 38, 3) := dk_182 0 38 (dk_at dksX9_order_2 4 rfl rfl)
theorem dX9_order_55 : decode cX9_order 55 = .ok (.ifCond .eq 28, 3) := dk_153 0 28 (dk_at dksX9_order_2 7 rfl rfl)
theorem dX9_order_58 : decode cX9_order 58 = .ok (.aload_n 0, 1) := dk_42 (dk_at dksX9_order_2 10 rfl rfl)
theorem dX9_order_59 : decode cX9_order 59 = .ok (.invokevirtual 51, 3) := dk_182 0 51 (dk_at dksX9_order_2 11 rfl rfl)
theorem dX9_order_62 : decode cX9_order 62 = .ok (.istore_n 1, 1) := dk_60 (dk_at dksX9_order_2 14 rfl rfl)
theorem dX9_order_63 : decode cX9_order 63 = .ok (.aload_n 0, 1) := dk_42 (dk_at dksX9_order_2 15 rfl rfl)
theorem dX9_order_64 : decode cX9_order 64 = .ok (.invokevirtual 67, 3) := dk_182 0 67 (dk_at dksX9_order_2 16 rfl rfl)
theorem dX9_order_67 : decode cX9_order 67 = .ok (.istore_n 2, 1) := dk_61 (dk_at dksX9_order_2 19 rfl rfl)
theorem dX9_order_68 : decode cX9_order 68 = .ok (.new 70, 3) := dk_187 0 70 (dk_at dksX9_order_2 20 rfl rfl)
theorem dX9_order_71 : decode cX9_order 71 = .ok (.dup, 1) := dk_89 (dk_at dksX9_order_2 23 rfl rfl)
theorem dX9_order_72 : decode cX9_order 72 = .ok (.iload_n 1, 1) := dk_27 (dk_at dksX9_order_3 0 rfl rfl)
theorem dX9_order_73 : decode cX9_order 73 = .ok (.iload_n 2, 1) := dk_28 (dk_at dksX9_order_3 1 rfl rfl)
theorem dX9_order_74 : decode cX9_order 74 = .ok (.aload_n 0, 1) := dk_42 (dk_at dksX9_order_3 2 rfl rfl)
theorem dX9_order_75 : decode cX9_order 75 = .ok (.invokevirtual 72, 3) := dk_182 0 72 (dk_at dksX9_order_3 3 rfl rfl)
theorem dX9_order_78 : decode cX9_order 78 = .ok (.imul, 1) := dk_104 (dk_at dksX9_order_3 6 rfl rfl)
theorem dX9_order_79 : decode cX9_order 79 = .ok (.invokespecial 75, 3) := dk_183 0 75 (dk_at dksX9_order_3 7 rfl rfl)
theorem dX9_order_82 : decode cX9_order 82 = .ok (.areturn, 1) := dk_176 (dk_at dksX9_order_3 10 rfl rfl)
theorem dX9_order_83 : decode cX9_order 83 = .ok (.aload_n 0, 1) := dk_42 (dk_at dksX9_order_3 11 rfl rfl)
theorem dX9_order_84 : decode cX9_order 84 = .ok (.bipush 116, 2) := dk_16 116 (dk_at dksX9_order_3 12 rfl rfl)
theorem dX9_order_86 : decode cX9_order 86 = .ok (.invokevirtual 54, 3) := dk_182 0 54 (dk_at dksX9_order_3 14 rfl rfl)
theorem dX9_order_89 : decode cX9_order 89 = .ok (.new 78, 3) := dk_187 0 78 (dk_at dksX9_order_3 17 rfl rfl)
theorem dX9_order_92 : decode cX9_order 92 = .ok (.dup, 1) := dk_89 (dk_at dksX9_order_3 20 rfl rfl)
theorem dX9_order_93 : decode cX9_order 93 = .ok (.aload_n 0, 1) := dk_42 (dk_at dksX9_order_3 21 rfl rfl)
theorem dX9_order_94 : decode cX9_order 94 = .ok (.invokevirtual 72, 3) := dk_182 0 72 (dk_at dksX9_order_4 0 rfl rfl)
theorem dX9_order_97 : decode cX9_order 97 = .ok (.invokespecial 80, 3) := dk_183 0 80 (dk_at dksX9_order_4 3 rfl rfl)
theorem dX9_order_100 : decode cX9_order 100 = .ok (.areturn, 1) := dk_176 (dk_at dksX9_order_4 6 rfl rfl)
abbrev cX9_skip : ByteArray := prog_13_method_3_code
def yX9_skip : MethodName := ⟨RX9, "skip", "(I)Z"⟩
def dkwX9_skip_0 : List UInt8 := [42, 182, 0, 35, 27, 159, 0, 5, 3, 172, 42, 89, 180, 0, 21, 4, 96, 181, 0, 21, 4, 172]
abbrev dktX9_skip_0 : List UInt8 := dkwX9_skip_0 ++ []
theorem dksX9_skip_0 : cX9_skip.data.toList.drop 0 = dktX9_skip_0 := by decide +kernel
theorem dX9_skip_0 : decode cX9_skip 0 = .ok (.aload_n 0, 1) := dk_42 (dk_at dksX9_skip_0 0 rfl rfl)
theorem dX9_skip_1 : decode cX9_skip 1 = .ok (.invokevirtual 35, 3) := dk_182 0 35 (dk_at dksX9_skip_0 1 rfl rfl)
theorem dX9_skip_4 : decode cX9_skip 4 = .ok (.iload_n 1, 1) := dk_27 (dk_at dksX9_skip_0 4 rfl rfl)
theorem dX9_skip_5 : decode cX9_skip 5 = .ok (.if_icmp .eq 5, 3) := dk_159 0 5 (dk_at dksX9_skip_0 5 rfl rfl)
theorem dX9_skip_8 : decode cX9_skip 8 = .ok (.iconst 0, 1) := dk_3 (dk_at dksX9_skip_0 8 rfl rfl)
theorem dX9_skip_9 : decode cX9_skip 9 = .ok (.ireturn, 1) := dk_172 (dk_at dksX9_skip_0 9 rfl rfl)
theorem dX9_skip_10 : decode cX9_skip 10 = .ok (.aload_n 0, 1) := dk_42 (dk_at dksX9_skip_0 10 rfl rfl)
theorem dX9_skip_11 : decode cX9_skip 11 = .ok (.dup, 1) := dk_89 (dk_at dksX9_skip_0 11 rfl rfl)
theorem dX9_skip_12 : decode cX9_skip 12 = .ok (.getfield 21, 3) := dk_180 0 21 (dk_at dksX9_skip_0 12 rfl rfl)
theorem dX9_skip_15 : decode cX9_skip 15 = .ok (.iconst 1, 1) := dk_4 (dk_at dksX9_skip_0 15 rfl rfl)
theorem dX9_skip_16 : decode cX9_skip 16 = .ok (.iadd, 1) := dk_96 (dk_at dksX9_skip_0 16 rfl rfl)
theorem dX9_skip_17 : decode cX9_skip 17 = .ok (.putfield 21, 3) := dk_181 0 21 (dk_at dksX9_skip_0 17 rfl rfl)
theorem dX9_skip_20 : decode cX9_skip 20 = .ok (.iconst 1, 1) := dk_4 (dk_at dksX9_skip_0 20 rfl rfl)
theorem dX9_skip_21 : decode cX9_skip 21 = .ok (.ireturn, 1) := dk_172 (dk_at dksX9_skip_0 21 rfl rfl)
abbrev cX9_here : ByteArray := prog_13_method_2_code
def yX9_here : MethodName := ⟨RX9, "here", "()I"⟩
def dkwX9_here_1 : List UInt8 := [182, 0, 31, 167, 0, 4, 2, 172]
abbrev dktX9_here_1 : List UInt8 := dkwX9_here_1 ++ []
def dkwX9_here_0 : List UInt8 := [42, 180, 0, 21, 42, 180, 0, 17, 182, 0, 25, 162, 0, 17, 42, 180, 0, 17, 42, 180, 0, 21]
abbrev dktX9_here_0 : List UInt8 := dkwX9_here_0 ++ dktX9_here_1
theorem dksX9_here_0 : cX9_here.data.toList.drop 0 = dktX9_here_0 := by decide +kernel
theorem dksX9_here_1 : cX9_here.data.toList.drop 22 = dktX9_here_1 := dk_seg dksX9_here_0 22 rfl rfl
theorem dX9_here_0 : decode cX9_here 0 = .ok (.aload_n 0, 1) := dk_42 (dk_at dksX9_here_0 0 rfl rfl)
theorem dX9_here_1 : decode cX9_here 1 = .ok (.getfield 21, 3) := dk_180 0 21 (dk_at dksX9_here_0 1 rfl rfl)
theorem dX9_here_4 : decode cX9_here 4 = .ok (.aload_n 0, 1) := dk_42 (dk_at dksX9_here_0 4 rfl rfl)
theorem dX9_here_5 : decode cX9_here 5 = .ok (.getfield 17, 3) := dk_180 0 17 (dk_at dksX9_here_0 5 rfl rfl)
theorem dX9_here_8 : decode cX9_here 8 = .ok (.invokevirtual 25, 3) := dk_182 0 25 (dk_at dksX9_here_0 8 rfl rfl)
theorem dX9_here_11 : decode cX9_here 11 = .ok (.if_icmp .ge 17, 3) := dk_162 0 17 (dk_at dksX9_here_0 11 rfl rfl)
theorem dX9_here_14 : decode cX9_here 14 = .ok (.aload_n 0, 1) := dk_42 (dk_at dksX9_here_0 14 rfl rfl)
theorem dX9_here_15 : decode cX9_here 15 = .ok (.getfield 17, 3) := dk_180 0 17 (dk_at dksX9_here_0 15 rfl rfl)
theorem dX9_here_18 : decode cX9_here 18 = .ok (.aload_n 0, 1) := dk_42 (dk_at dksX9_here_0 18 rfl rfl)
theorem dX9_here_19 : decode cX9_here 19 = .ok (.getfield 21, 3) := dk_180 0 21 (dk_at dksX9_here_0 19 rfl rfl)
theorem dX9_here_22 : decode cX9_here 22 = .ok (.invokevirtual 31, 3) := dk_182 0 31 (dk_at dksX9_here_1 0 rfl rfl)
theorem dX9_here_25 : decode cX9_here 25 = .ok (.goto 4, 3) := dk_167 0 4 (dk_at dksX9_here_1 3 rfl rfl)
theorem dX9_here_28 : decode cX9_here 28 = .ok (.iconst (-1), 1) := dk_2 (dk_at dksX9_here_1 6 rfl rfl)
theorem dX9_here_29 : decode cX9_here 29 = .ok (.ireturn, 1) := dk_172 (dk_at dksX9_here_1 7 rfl rfl)
abbrev cX9_wind : ByteArray := prog_13_method_9_code
def yX9_wind : MethodName := ⟨RX9, "wind", "()LKiteRoofs$Order;"⟩
def dkwX9_wind_2 : List UInt8 := [182, 0, 67, 62, 187, 0, 81, 89, 27, 28, 29, 42, 182, 0, 51, 104, 183, 0, 83, 176]
abbrev dktX9_wind_2 : List UInt8 := dkwX9_wind_2 ++ []
def dkwX9_wind_1 : List UInt8 := [159, 0, 23, 42, 182, 0, 35, 16, 45, 159, 0, 14, 187, 0, 81, 89, 27, 28, 3, 183, 0, 83, 176, 42]
abbrev dktX9_wind_1 : List UInt8 := dkwX9_wind_1 ++ dktX9_wind_2
def dkwX9_wind_0 : List UInt8 := [42, 182, 0, 51, 60, 42, 16, 58, 182, 0, 54, 42, 182, 0, 51, 61, 42, 182, 0, 35, 16, 43]
abbrev dktX9_wind_0 : List UInt8 := dkwX9_wind_0 ++ dktX9_wind_1
theorem dksX9_wind_0 : cX9_wind.data.toList.drop 0 = dktX9_wind_0 := by decide +kernel
theorem dksX9_wind_1 : cX9_wind.data.toList.drop 22 = dktX9_wind_1 := dk_seg dksX9_wind_0 22 rfl rfl
theorem dksX9_wind_2 : cX9_wind.data.toList.drop 46 = dktX9_wind_2 := dk_seg dksX9_wind_1 24 rfl rfl
theorem dX9_wind_0 : decode cX9_wind 0 = .ok (.aload_n 0, 1) := dk_42 (dk_at dksX9_wind_0 0 rfl rfl)
theorem dX9_wind_1 : decode cX9_wind 1 = .ok (.invokevirtual 51, 3) := dk_182 0 51 (dk_at dksX9_wind_0 1 rfl rfl)
theorem dX9_wind_4 : decode cX9_wind 4 = .ok (.istore_n 1, 1) := dk_60 (dk_at dksX9_wind_0 4 rfl rfl)
theorem dX9_wind_5 : decode cX9_wind 5 = .ok (.aload_n 0, 1) := dk_42 (dk_at dksX9_wind_0 5 rfl rfl)
theorem dX9_wind_6 : decode cX9_wind 6 = .ok (.bipush 58, 2) := dk_16 58 (dk_at dksX9_wind_0 6 rfl rfl)
theorem dX9_wind_8 : decode cX9_wind 8 = .ok (.invokevirtual 54, 3) := dk_182 0 54 (dk_at dksX9_wind_0 8 rfl rfl)
theorem dX9_wind_11 : decode cX9_wind 11 = .ok (.aload_n 0, 1) := dk_42 (dk_at dksX9_wind_0 11 rfl rfl)
theorem dX9_wind_12 : decode cX9_wind 12 = .ok (.invokevirtual 51, 3) := dk_182 0 51 (dk_at dksX9_wind_0 12 rfl rfl)
theorem dX9_wind_15 : decode cX9_wind 15 = .ok (.istore_n 2, 1) := dk_61 (dk_at dksX9_wind_0 15 rfl rfl)
theorem dX9_wind_16 : decode cX9_wind 16 = .ok (.aload_n 0, 1) := dk_42 (dk_at dksX9_wind_0 16 rfl rfl)
theorem dX9_wind_17 : decode cX9_wind 17 = .ok (.invokevirtual 35, 3) := dk_182 0 35 (dk_at dksX9_wind_0 17 rfl rfl)
theorem dX9_wind_20 : decode cX9_wind 20 = .ok (.bipush 43, 2) := dk_16 43 (dk_at dksX9_wind_0 20 rfl rfl)
theorem dX9_wind_22 : decode cX9_wind 22 = .ok (.if_icmp .eq 23, 3) := dk_159 0 23 (dk_at dksX9_wind_1 0 rfl rfl)
theorem dX9_wind_25 : decode cX9_wind 25 = .ok (.aload_n 0, 1) := dk_42 (dk_at dksX9_wind_1 3 rfl rfl)
theorem dX9_wind_26 : decode cX9_wind 26 = .ok (.invokevirtual 35, 3) := dk_182 0 35 (dk_at dksX9_wind_1 4 rfl rfl)
theorem dX9_wind_29 : decode cX9_wind 29 = .ok (.bipush 45, 2) := dk_16 45 (dk_at dksX9_wind_1 7 rfl rfl)
theorem dX9_wind_31 : decode cX9_wind 31 = .ok (.if_icmp .eq 14, 3) := dk_159 0 14 (dk_at dksX9_wind_1 9 rfl rfl)
theorem dX9_wind_34 : decode cX9_wind 34 = .ok (.new 81, 3) := dk_187 0 81 (dk_at dksX9_wind_1 12 rfl rfl)
theorem dX9_wind_37 : decode cX9_wind 37 = .ok (.dup, 1) := dk_89 (dk_at dksX9_wind_1 15 rfl rfl)
theorem dX9_wind_38 : decode cX9_wind 38 = .ok (.iload_n 1, 1) := dk_27 (dk_at dksX9_wind_1 16 rfl rfl)
theorem dX9_wind_39 : decode cX9_wind 39 = .ok (.iload_n 2, 1) := dk_28 (dk_at dksX9_wind_1 17 rfl rfl)
theorem dX9_wind_40 : decode cX9_wind 40 = .ok (.iconst 0, 1) := dk_3 (dk_at dksX9_wind_1 18 rfl rfl)
theorem dX9_wind_41 : decode cX9_wind 41 = .ok (.invokespecial 83, 3) := dk_183 0 83 (dk_at dksX9_wind_1 19 rfl rfl)
theorem dX9_wind_44 : decode cX9_wind 44 = .ok (.areturn, 1) := dk_176 (dk_at dksX9_wind_1 22 rfl rfl)
theorem dX9_wind_45 : decode cX9_wind 45 = .ok (.aload_n 0, 1) := dk_42 (dk_at dksX9_wind_1 23 rfl rfl)
theorem dX9_wind_46 : decode cX9_wind 46 = .ok (.invokevirtual 67, 3) := dk_182 0 67 (dk_at dksX9_wind_2 0 rfl rfl)
theorem dX9_wind_49 : decode cX9_wind 49 = .ok (.istore_n 3, 1) := dk_62 (dk_at dksX9_wind_2 3 rfl rfl)
theorem dX9_wind_50 : decode cX9_wind 50 = .ok (.new 81, 3) := dk_187 0 81 (dk_at dksX9_wind_2 4 rfl rfl)
theorem dX9_wind_53 : decode cX9_wind 53 = .ok (.dup, 1) := dk_89 (dk_at dksX9_wind_2 7 rfl rfl)
theorem dX9_wind_54 : decode cX9_wind 54 = .ok (.iload_n 1, 1) := dk_27 (dk_at dksX9_wind_2 8 rfl rfl)
theorem dX9_wind_55 : decode cX9_wind 55 = .ok (.iload_n 2, 1) := dk_28 (dk_at dksX9_wind_2 9 rfl rfl)
theorem dX9_wind_56 : decode cX9_wind 56 = .ok (.iload_n 3, 1) := dk_29 (dk_at dksX9_wind_2 10 rfl rfl)
theorem dX9_wind_57 : decode cX9_wind 57 = .ok (.aload_n 0, 1) := dk_42 (dk_at dksX9_wind_2 11 rfl rfl)
theorem dX9_wind_58 : decode cX9_wind 58 = .ok (.invokevirtual 51, 3) := dk_182 0 51 (dk_at dksX9_wind_2 12 rfl rfl)
theorem dX9_wind_61 : decode cX9_wind 61 = .ok (.imul, 1) := dk_104 (dk_at dksX9_wind_2 15 rfl rfl)
theorem dX9_wind_62 : decode cX9_wind 62 = .ok (.invokespecial 83, 3) := dk_183 0 83 (dk_at dksX9_wind_2 16 rfl rfl)
theorem dX9_wind_65 : decode cX9_wind 65 = .ok (.areturn, 1) := dk_176 (dk_at dksX9_wind_2 19 rfl rfl)
abbrev cX9_digit : ByteArray := prog_13_method_5_code
def yX9_digit : MethodName := ⟨RX9, "digit", "()I"⟩
def dkwX9_digit_2 : List UInt8 := [182, 0, 31, 16, 48, 100, 172]
abbrev dktX9_digit_2 : List UInt8 := dkwX9_digit_2 ++ []
def dkwX9_digit_1 : List UInt8 := [183, 0, 44, 191, 42, 89, 180, 0, 21, 4, 96, 181, 0, 21, 42, 180, 0, 17, 42, 180, 0, 21, 4, 100]
abbrev dktX9_digit_1 : List UInt8 := dkwX9_digit_1 ++ dktX9_digit_2
def dkwX9_digit_0 : List UInt8 := [42, 182, 0, 35, 16, 48, 16, 57, 184, 0, 47, 154, 0, 15, 187, 0, 42, 89, 42, 180, 0, 21]
abbrev dktX9_digit_0 : List UInt8 := dkwX9_digit_0 ++ dktX9_digit_1
theorem dksX9_digit_0 : cX9_digit.data.toList.drop 0 = dktX9_digit_0 := by decide +kernel
theorem dksX9_digit_1 : cX9_digit.data.toList.drop 22 = dktX9_digit_1 := dk_seg dksX9_digit_0 22 rfl rfl
theorem dksX9_digit_2 : cX9_digit.data.toList.drop 46 = dktX9_digit_2 := dk_seg dksX9_digit_1 24 rfl rfl
theorem dX9_digit_0 : decode cX9_digit 0 = .ok (.aload_n 0, 1) := dk_42 (dk_at dksX9_digit_0 0 rfl rfl)
theorem dX9_digit_1 : decode cX9_digit 1 = .ok (.invokevirtual 35, 3) := dk_182 0 35 (dk_at dksX9_digit_0 1 rfl rfl)
theorem dX9_digit_4 : decode cX9_digit 4 = .ok (.bipush 48, 2) := dk_16 48 (dk_at dksX9_digit_0 4 rfl rfl)
theorem dX9_digit_6 : decode cX9_digit 6 = .ok (.bipush 57, 2) := dk_16 57 (dk_at dksX9_digit_0 6 rfl rfl)
theorem dX9_digit_8 : decode cX9_digit 8 = .ok (.invokestatic 47, 3) := dk_184 0 47 (dk_at dksX9_digit_0 8 rfl rfl)
theorem dX9_digit_11 : decode cX9_digit 11 = .ok (.ifCond .ne 15, 3) := dk_154 0 15 (dk_at dksX9_digit_0 11 rfl rfl)
theorem dX9_digit_14 : decode cX9_digit 14 = .ok (.new 42, 3) := dk_187 0 42 (dk_at dksX9_digit_0 14 rfl rfl)
theorem dX9_digit_17 : decode cX9_digit 17 = .ok (.dup, 1) := dk_89 (dk_at dksX9_digit_0 17 rfl rfl)
theorem dX9_digit_18 : decode cX9_digit 18 = .ok (.aload_n 0, 1) := dk_42 (dk_at dksX9_digit_0 18 rfl rfl)
theorem dX9_digit_19 : decode cX9_digit 19 = .ok (.getfield 21, 3) := dk_180 0 21 (dk_at dksX9_digit_0 19 rfl rfl)
theorem dX9_digit_22 : decode cX9_digit 22 = .ok (.invokespecial 44, 3) := dk_183 0 44 (dk_at dksX9_digit_1 0 rfl rfl)
theorem dX9_digit_25 : decode cX9_digit 25 = .ok (.athrow, 1) := dk_191 (dk_at dksX9_digit_1 3 rfl rfl)
theorem dX9_digit_26 : decode cX9_digit 26 = .ok (.aload_n 0, 1) := dk_42 (dk_at dksX9_digit_1 4 rfl rfl)
theorem dX9_digit_27 : decode cX9_digit 27 = .ok (.dup, 1) := dk_89 (dk_at dksX9_digit_1 5 rfl rfl)
theorem dX9_digit_28 : decode cX9_digit 28 = .ok (.getfield 21, 3) := dk_180 0 21 (dk_at dksX9_digit_1 6 rfl rfl)
theorem dX9_digit_31 : decode cX9_digit 31 = .ok (.iconst 1, 1) := dk_4 (dk_at dksX9_digit_1 9 rfl rfl)
theorem dX9_digit_32 : decode cX9_digit 32 = .ok (.iadd, 1) := dk_96 (dk_at dksX9_digit_1 10 rfl rfl)
theorem dX9_digit_33 : decode cX9_digit 33 = .ok (.putfield 21, 3) := dk_181 0 21 (dk_at dksX9_digit_1 11 rfl rfl)
theorem dX9_digit_36 : decode cX9_digit 36 = .ok (.aload_n 0, 1) := dk_42 (dk_at dksX9_digit_1 14 rfl rfl)
theorem dX9_digit_37 : decode cX9_digit 37 = .ok (.getfield 17, 3) := dk_180 0 17 (dk_at dksX9_digit_1 15 rfl rfl)
theorem dX9_digit_40 : decode cX9_digit 40 = .ok (.aload_n 0, 1) := dk_42 (dk_at dksX9_digit_1 18 rfl rfl)
theorem dX9_digit_41 : decode cX9_digit 41 = .ok (.getfield 21, 3) := dk_180 0 21 (dk_at dksX9_digit_1 19 rfl rfl)
theorem dX9_digit_44 : decode cX9_digit 44 = .ok (.iconst 1, 1) := dk_4 (dk_at dksX9_digit_1 22 rfl rfl)
theorem dX9_digit_45 : decode cX9_digit 45 = .ok (.isub, 1) := dk_100 (dk_at dksX9_digit_1 23 rfl rfl)
theorem dX9_digit_46 : decode cX9_digit 46 = .ok (.invokevirtual 31, 3) := dk_182 0 31 (dk_at dksX9_digit_2 0 rfl rfl)
theorem dX9_digit_49 : decode cX9_digit 49 = .ok (.bipush 48, 2) := dk_16 48 (dk_at dksX9_digit_2 3 rfl rfl)
theorem dX9_digit_51 : decode cX9_digit 51 = .ok (.isub, 1) := dk_100 (dk_at dksX9_digit_2 5 rfl rfl)
theorem dX9_digit_52 : decode cX9_digit 52 = .ok (.ireturn, 1) := dk_172 (dk_at dksX9_digit_2 6 rfl rfl)
abbrev cX9_must : ByteArray := prog_13_method_4_code
def yX9_must : MethodName := ⟨RX9, "must", "(I)V"⟩
def dkwX9_must_0 : List UInt8 := [42, 27, 182, 0, 38, 154, 0, 15, 187, 0, 42, 89, 42, 180, 0, 21, 183, 0, 44, 191, 177]
abbrev dktX9_must_0 : List UInt8 := dkwX9_must_0 ++ []
theorem dksX9_must_0 : cX9_must.data.toList.drop 0 = dktX9_must_0 := by decide +kernel
theorem dX9_must_0 : decode cX9_must 0 = .ok (.aload_n 0, 1) := dk_42 (dk_at dksX9_must_0 0 rfl rfl)
theorem dX9_must_1 : decode cX9_must 1 = .ok (.iload_n 1, 1) := dk_27 (dk_at dksX9_must_0 1 rfl rfl)
theorem dX9_must_2 : decode cX9_must 2 = .ok (.invokevirtual 38, 3) := dk_182 0 38 (dk_at dksX9_must_0 2 rfl rfl)
theorem dX9_must_5 : decode cX9_must 5 = .ok (.ifCond .ne 15, 3) := dk_154 0 15 (dk_at dksX9_must_0 5 rfl rfl)
theorem dX9_must_8 : decode cX9_must 8 = .ok (.new 42, 3) := dk_187 0 42 (dk_at dksX9_must_0 8 rfl rfl)
theorem dX9_must_11 : decode cX9_must 11 = .ok (.dup, 1) := dk_89 (dk_at dksX9_must_0 11 rfl rfl)
theorem dX9_must_12 : decode cX9_must 12 = .ok (.aload_n 0, 1) := dk_42 (dk_at dksX9_must_0 12 rfl rfl)
theorem dX9_must_13 : decode cX9_must 13 = .ok (.getfield 21, 3) := dk_180 0 21 (dk_at dksX9_must_0 13 rfl rfl)
theorem dX9_must_16 : decode cX9_must 16 = .ok (.invokespecial 44, 3) := dk_183 0 44 (dk_at dksX9_must_0 16 rfl rfl)
theorem dX9_must_19 : decode cX9_must 19 = .ok (.athrow, 1) := dk_191 (dk_at dksX9_must_0 19 rfl rfl)
theorem dX9_must_20 : decode cX9_must 20 = .ok (.return_, 1) := dk_177 (dk_at dksX9_must_0 20 rfl rfl)
abbrev cX9_sign : ByteArray := prog_13_method_7_code
def yX9_sign : MethodName := ⟨RX9, "sign", "()I"⟩
def dkwX9_sign_0 : List UInt8 := [42, 16, 43, 182, 0, 38, 153, 0, 5, 4, 172, 42, 16, 45, 182, 0, 54, 2, 172]
abbrev dktX9_sign_0 : List UInt8 := dkwX9_sign_0 ++ []
theorem dksX9_sign_0 : cX9_sign.data.toList.drop 0 = dktX9_sign_0 := by decide +kernel
theorem dX9_sign_0 : decode cX9_sign 0 = .ok (.aload_n 0, 1) := dk_42 (dk_at dksX9_sign_0 0 rfl rfl)
theorem dX9_sign_1 : decode cX9_sign 1 = .ok (.bipush 43, 2) := dk_16 43 (dk_at dksX9_sign_0 1 rfl rfl)
theorem dX9_sign_3 : decode cX9_sign 3 = .ok (.invokevirtual 38, 3) := dk_182 0 38 (dk_at dksX9_sign_0 3 rfl rfl)
theorem dX9_sign_6 : decode cX9_sign 6 = .ok (.ifCond .eq 5, 3) := dk_153 0 5 (dk_at dksX9_sign_0 6 rfl rfl)
theorem dX9_sign_9 : decode cX9_sign 9 = .ok (.iconst 1, 1) := dk_4 (dk_at dksX9_sign_0 9 rfl rfl)
theorem dX9_sign_10 : decode cX9_sign 10 = .ok (.ireturn, 1) := dk_172 (dk_at dksX9_sign_0 10 rfl rfl)
theorem dX9_sign_11 : decode cX9_sign 11 = .ok (.aload_n 0, 1) := dk_42 (dk_at dksX9_sign_0 11 rfl rfl)
theorem dX9_sign_12 : decode cX9_sign 12 = .ok (.bipush 45, 2) := dk_16 45 (dk_at dksX9_sign_0 12 rfl rfl)
theorem dX9_sign_14 : decode cX9_sign 14 = .ok (.invokevirtual 54, 3) := dk_182 0 54 (dk_at dksX9_sign_0 14 rfl rfl)
theorem dX9_sign_17 : decode cX9_sign 17 = .ok (.iconst (-1), 1) := dk_2 (dk_at dksX9_sign_0 17 rfl rfl)
theorem dX9_sign_18 : decode cX9_sign 18 = .ok (.ireturn, 1) := dk_172 (dk_at dksX9_sign_0 18 rfl rfl)
abbrev cX9_kite : ByteArray := prog_13_method_10_code
def yX9_kite : MethodName := ⟨RX9, "kite", "()LKiteRoofs$Order;"⟩
def dkwX9_kite_2 : List UInt8 := [176]
abbrev dktX9_kite_2 : List UInt8 := dkwX9_kite_2 ++ []
def dkwX9_kite_1 : List UInt8 := [182, 0, 72, 62, 42, 16, 35, 182, 0, 54, 187, 0, 86, 89, 27, 28, 29, 42, 182, 0, 51, 183, 0, 88]
abbrev dktX9_kite_1 : List UInt8 := dkwX9_kite_1 ++ dktX9_kite_2
def dkwX9_kite_0 : List UInt8 := [42, 182, 0, 51, 60, 42, 16, 64, 182, 0, 54, 42, 182, 0, 72, 61, 42, 16, 42, 182, 0, 54, 42]
abbrev dktX9_kite_0 : List UInt8 := dkwX9_kite_0 ++ dktX9_kite_1
theorem dksX9_kite_0 : cX9_kite.data.toList.drop 0 = dktX9_kite_0 := by decide +kernel
theorem dksX9_kite_1 : cX9_kite.data.toList.drop 23 = dktX9_kite_1 := dk_seg dksX9_kite_0 23 rfl rfl
theorem dksX9_kite_2 : cX9_kite.data.toList.drop 47 = dktX9_kite_2 := dk_seg dksX9_kite_1 24 rfl rfl
theorem dX9_kite_0 : decode cX9_kite 0 = .ok (.aload_n 0, 1) := dk_42 (dk_at dksX9_kite_0 0 rfl rfl)
theorem dX9_kite_1 : decode cX9_kite 1 = .ok (.invokevirtual 51, 3) := dk_182 0 51 (dk_at dksX9_kite_0 1 rfl rfl)
theorem dX9_kite_4 : decode cX9_kite 4 = .ok (.istore_n 1, 1) := dk_60 (dk_at dksX9_kite_0 4 rfl rfl)
theorem dX9_kite_5 : decode cX9_kite 5 = .ok (.aload_n 0, 1) := dk_42 (dk_at dksX9_kite_0 5 rfl rfl)
theorem dX9_kite_6 : decode cX9_kite 6 = .ok (.bipush 64, 2) := dk_16 64 (dk_at dksX9_kite_0 6 rfl rfl)
theorem dX9_kite_8 : decode cX9_kite 8 = .ok (.invokevirtual 54, 3) := dk_182 0 54 (dk_at dksX9_kite_0 8 rfl rfl)
theorem dX9_kite_11 : decode cX9_kite 11 = .ok (.aload_n 0, 1) := dk_42 (dk_at dksX9_kite_0 11 rfl rfl)
theorem dX9_kite_12 : decode cX9_kite 12 = .ok (.invokevirtual 72, 3) := dk_182 0 72 (dk_at dksX9_kite_0 12 rfl rfl)
theorem dX9_kite_15 : decode cX9_kite 15 = .ok (.istore_n 2, 1) := dk_61 (dk_at dksX9_kite_0 15 rfl rfl)
theorem dX9_kite_16 : decode cX9_kite 16 = .ok (.aload_n 0, 1) := dk_42 (dk_at dksX9_kite_0 16 rfl rfl)
theorem dX9_kite_17 : decode cX9_kite 17 = .ok (.bipush 42, 2) := dk_16 42 (dk_at dksX9_kite_0 17 rfl rfl)
theorem dX9_kite_19 : decode cX9_kite 19 = .ok (.invokevirtual 54, 3) := dk_182 0 54 (dk_at dksX9_kite_0 19 rfl rfl)
theorem dX9_kite_22 : decode cX9_kite 22 = .ok (.aload_n 0, 1) := dk_42 (dk_at dksX9_kite_0 22 rfl rfl)
theorem dX9_kite_23 : decode cX9_kite 23 = .ok (.invokevirtual 72, 3) := dk_182 0 72 (dk_at dksX9_kite_1 0 rfl rfl)
theorem dX9_kite_26 : decode cX9_kite 26 = .ok (.istore_n 3, 1) := dk_62 (dk_at dksX9_kite_1 3 rfl rfl)
theorem dX9_kite_27 : decode cX9_kite 27 = .ok (.aload_n 0, 1) := dk_42 (dk_at dksX9_kite_1 4 rfl rfl)
theorem dX9_kite_28 : decode cX9_kite 28 = .ok (.bipush 35, 2) := dk_16 35 (dk_at dksX9_kite_1 5 rfl rfl)
theorem dX9_kite_30 : decode cX9_kite 30 = .ok (.invokevirtual 54, 3) := dk_182 0 54 (dk_at dksX9_kite_1 7 rfl rfl)
theorem dX9_kite_33 : decode cX9_kite 33 = .ok (.new 86, 3) := dk_187 0 86 (dk_at dksX9_kite_1 10 rfl rfl)
theorem dX9_kite_36 : decode cX9_kite 36 = .ok (.dup, 1) := dk_89 (dk_at dksX9_kite_1 13 rfl rfl)
theorem dX9_kite_37 : decode cX9_kite 37 = .ok (.iload_n 1, 1) := dk_27 (dk_at dksX9_kite_1 14 rfl rfl)
theorem dX9_kite_38 : decode cX9_kite 38 = .ok (.iload_n 2, 1) := dk_28 (dk_at dksX9_kite_1 15 rfl rfl)
theorem dX9_kite_39 : decode cX9_kite 39 = .ok (.iload_n 3, 1) := dk_29 (dk_at dksX9_kite_1 16 rfl rfl)
theorem dX9_kite_40 : decode cX9_kite 40 = .ok (.aload_n 0, 1) := dk_42 (dk_at dksX9_kite_1 17 rfl rfl)
theorem dX9_kite_41 : decode cX9_kite 41 = .ok (.invokevirtual 51, 3) := dk_182 0 51 (dk_at dksX9_kite_1 18 rfl rfl)
theorem dX9_kite_44 : decode cX9_kite 44 = .ok (.invokespecial 88, 3) := dk_183 0 88 (dk_at dksX9_kite_1 21 rfl rfl)
theorem dX9_kite_47 : decode cX9_kite 47 = .ok (.areturn, 1) := dk_176 (dk_at dksX9_kite_2 0 rfl rfl)
abbrev cX9_number : ByteArray := prog_13_method_6_code
def yX9_number : MethodName := ⟨RX9, "number", "()I"⟩
def dkwX9_number_1 : List UInt8 := [182, 0, 51, 96, 167, 0, 4, 27, 172]
abbrev dktX9_number_1 : List UInt8 := dkwX9_number_1 ++ []
def dkwX9_number_0 : List UInt8 := [42, 182, 0, 51, 60, 42, 182, 0, 35, 16, 48, 16, 57, 184, 0, 47, 153, 0, 15, 16, 10, 27, 104, 42]
abbrev dktX9_number_0 : List UInt8 := dkwX9_number_0 ++ dktX9_number_1
theorem dksX9_number_0 : cX9_number.data.toList.drop 0 = dktX9_number_0 := by decide +kernel
theorem dksX9_number_1 : cX9_number.data.toList.drop 24 = dktX9_number_1 := dk_seg dksX9_number_0 24 rfl rfl
theorem dX9_number_0 : decode cX9_number 0 = .ok (.aload_n 0, 1) := dk_42 (dk_at dksX9_number_0 0 rfl rfl)
theorem dX9_number_1 : decode cX9_number 1 = .ok (.invokevirtual 51, 3) := dk_182 0 51 (dk_at dksX9_number_0 1 rfl rfl)
theorem dX9_number_4 : decode cX9_number 4 = .ok (.istore_n 1, 1) := dk_60 (dk_at dksX9_number_0 4 rfl rfl)
theorem dX9_number_5 : decode cX9_number 5 = .ok (.aload_n 0, 1) := dk_42 (dk_at dksX9_number_0 5 rfl rfl)
theorem dX9_number_6 : decode cX9_number 6 = .ok (.invokevirtual 35, 3) := dk_182 0 35 (dk_at dksX9_number_0 6 rfl rfl)
theorem dX9_number_9 : decode cX9_number 9 = .ok (.bipush 48, 2) := dk_16 48 (dk_at dksX9_number_0 9 rfl rfl)
theorem dX9_number_11 : decode cX9_number 11 = .ok (.bipush 57, 2) := dk_16 57 (dk_at dksX9_number_0 11 rfl rfl)
theorem dX9_number_13 : decode cX9_number 13 = .ok (.invokestatic 47, 3) := dk_184 0 47 (dk_at dksX9_number_0 13 rfl rfl)
theorem dX9_number_16 : decode cX9_number 16 = .ok (.ifCond .eq 15, 3) := dk_153 0 15 (dk_at dksX9_number_0 16 rfl rfl)
theorem dX9_number_19 : decode cX9_number 19 = .ok (.bipush 10, 2) := dk_16 10 (dk_at dksX9_number_0 19 rfl rfl)
theorem dX9_number_21 : decode cX9_number 21 = .ok (.iload_n 1, 1) := dk_27 (dk_at dksX9_number_0 21 rfl rfl)
theorem dX9_number_22 : decode cX9_number 22 = .ok (.imul, 1) := dk_104 (dk_at dksX9_number_0 22 rfl rfl)
theorem dX9_number_23 : decode cX9_number 23 = .ok (.aload_n 0, 1) := dk_42 (dk_at dksX9_number_0 23 rfl rfl)
theorem dX9_number_24 : decode cX9_number 24 = .ok (.invokevirtual 51, 3) := dk_182 0 51 (dk_at dksX9_number_1 0 rfl rfl)
theorem dX9_number_27 : decode cX9_number 27 = .ok (.iadd, 1) := dk_96 (dk_at dksX9_number_1 3 rfl rfl)
theorem dX9_number_28 : decode cX9_number 28 = .ok (.goto 4, 3) := dk_167 0 4 (dk_at dksX9_number_1 4 rfl rfl)
theorem dX9_number_31 : decode cX9_number 31 = .ok (.iload_n 1, 1) := dk_27 (dk_at dksX9_number_1 7 rfl rfl)
theorem dX9_number_32 : decode cX9_number 32 = .ok (.ireturn, 1) := dk_172 (dk_at dksX9_number_1 8 rfl rfl)
theorem q99 : (Jvm.Cond.initialized "KiteRoofs$Reader") ∈ lw_all := lw_g (lw_at lw_m1 31 rfl) rfl
theorem q568 : (Jvm.Cond.selects "KiteRoofs$Reader" ({ cls := "java/lang/Object", name := "getClass", desc := "()Ljava/lang/Class;" } : Jvm.MethodName) ({ cls := "java/lang/Object", name := "getClass", desc := "()Ljava/lang/Class;" } : Jvm.MethodName)) ∈ lw_all := lw_g (lw_at lw_m3 20 rfl) rfl
theorem q1188 : (Jvm.Cond.instantiable "KiteRoofs$Reader" (4 : Nat)) ∈ lw_all := lw_g (lw_at lw_m5 160 rfl) rfl
theorem q1319 : (Jvm.Cond.instanceMethod ({ cls := "KiteRoofs$Reader", name := "<init>", desc := "(Ljava/lang/String;)V" } : Jvm.MethodName)) ∈ lw_all := lw_g (lw_at lw_m6 51 rfl) rfl
theorem q1320 : (Jvm.Cond.code ({ cls := "KiteRoofs$Reader", name := "<init>", desc := "(Ljava/lang/String;)V" } : Jvm.MethodName) prog_13_method_1_code (2 : Nat) (Option.none : Option Jvm.ClassFile.FieldType)) ∈ lw_all := lw_g (lw_at lw_m6 52 rfl) rfl
theorem q1321 : (Jvm.Cond.methodLink "KiteRoofs$Reader" (3 : Nat) ({ cls := "java/lang/Object", name := "<init>", desc := "()V" } : Jvm.MethodName)) ∈ lw_all := lw_g (lw_at lw_m6 53 rfl) rfl
theorem q1322 : (Jvm.Cond.classLink "KiteRoofs$Reader" (9 : Nat) "KiteRoofs$Order") ∈ lw_all := lw_g (lw_at lw_m6 54 rfl) rfl
theorem q1324 : (Jvm.Cond.fieldLink "KiteRoofs$Reader" (17 : Nat) "KiteRoofs$Reader" "text" "Ljava/lang/String;") ∈ lw_all := lw_g (lw_at lw_m6 56 rfl) rfl
theorem q1325 : (Jvm.Cond.fieldLink "KiteRoofs$Reader" (21 : Nat) "KiteRoofs$Reader" "at" "I") ∈ lw_all := lw_g (lw_at lw_m6 57 rfl) rfl
theorem q1326 : (Jvm.Cond.fieldLink "KiteRoofs$Reader" (11 : Nat) "KiteRoofs$Reader" "orders" "[LKiteRoofs$Order;") ∈ lw_all := lw_g (lw_at lw_m6 58 rfl) rfl
theorem q1328 : (Jvm.Cond.fieldLink "KiteRoofs$Reader" (91 : Nat) "KiteRoofs$Reader" "many" "I") ∈ lw_all := lw_g (lw_at lw_m6 60 rfl) rfl
theorem q1330 : (Jvm.Cond.laysFinal "KiteRoofs$Reader" "KiteRoofs$Reader" "text" "Ljava/lang/String;") ∈ lw_all := lw_g (lw_at lw_m6 62 rfl) rfl
theorem q1331 : (Jvm.Cond.soleField "KiteRoofs$Reader" "text") ∈ lw_all := lw_g (lw_at lw_m6 63 rfl) rfl
theorem q1332 : (Jvm.Cond.lays "KiteRoofs$Reader" "KiteRoofs$Reader" "at" "I") ∈ lw_all := lw_g (lw_at lw_m6 64 rfl) rfl
theorem q1333 : (Jvm.Cond.soleField "KiteRoofs$Reader" "at") ∈ lw_all := lw_g (lw_at lw_m6 65 rfl) rfl
theorem q1334 : (Jvm.Cond.laysFinal "KiteRoofs$Reader" "KiteRoofs$Reader" "orders" "[LKiteRoofs$Order;") ∈ lw_all := lw_g (lw_at lw_m6 66 rfl) rfl
theorem q1335 : (Jvm.Cond.soleField "KiteRoofs$Reader" "orders") ∈ lw_all := lw_g (lw_at lw_m6 67 rfl) rfl
theorem q1336 : (Jvm.Cond.lays "KiteRoofs$Reader" "KiteRoofs$Reader" "many" "I") ∈ lw_all := lw_g (lw_at lw_m6 68 rfl) rfl
theorem q1337 : (Jvm.Cond.soleField "KiteRoofs$Reader" "many") ∈ lw_all := lw_g (lw_at lw_m6 69 rfl) rfl
theorem q1338 : (Jvm.Cond.superclass "KiteRoofs$Reader" "java/lang/Object") ∈ lw_all := lw_g (lw_at lw_m6 70 rfl) rfl
theorem q1340 : (Jvm.Cond.instanceMethod ({ cls := "KiteRoofs$Reader", name := "read", desc := "()V" } : Jvm.MethodName)) ∈ lw_all := lw_g (lw_at lw_m6 72 rfl) rfl
theorem q1341 : (Jvm.Cond.selects "KiteRoofs$Reader" ({ cls := "KiteRoofs$Reader", name := "read", desc := "()V" } : Jvm.MethodName) ({ cls := "KiteRoofs$Reader", name := "read", desc := "()V" } : Jvm.MethodName)) ∈ lw_all := lw_g (lw_at lw_m6 73 rfl) rfl
theorem q1342 : (Jvm.Cond.code ({ cls := "KiteRoofs$Reader", name := "read", desc := "()V" } : Jvm.MethodName) prog_13_method_11_code (1 : Nat) (Option.none : Option Jvm.ClassFile.FieldType)) ∈ lw_all := lw_g (lw_at lw_m6 74 rfl) rfl
theorem q1343 : (Jvm.Cond.methodLink "KiteRoofs$Reader" (94 : Nat) ({ cls := "KiteRoofs$Reader", name := "order", desc := "()LKiteRoofs$Order;" } : Jvm.MethodName)) ∈ lw_all := lw_g (lw_at lw_m6 75 rfl) rfl
theorem q1344 : (Jvm.Cond.privateMethod ({ cls := "KiteRoofs$Reader", name := "order", desc := "()LKiteRoofs$Order;" } : Jvm.MethodName)) ∈ lw_tbl := lw_at lw_m6 76 rfl
theorem q1345 : (Jvm.Cond.instanceMethod ({ cls := "KiteRoofs$Reader", name := "order", desc := "()LKiteRoofs$Order;" } : Jvm.MethodName)) ∈ lw_all := lw_g (lw_at lw_m6 77 rfl) rfl
theorem q1346 : (Jvm.Cond.code ({ cls := "KiteRoofs$Reader", name := "order", desc := "()LKiteRoofs$Order;" } : Jvm.MethodName) prog_13_method_8_code (3 : Nat) (Option.some (Jvm.ClassFile.FieldType.object "KiteRoofs$Order"))) ∈ lw_all := lw_g (lw_at lw_m6 78 rfl) rfl
theorem q1347 : (Jvm.Cond.methodLink "KiteRoofs$Reader" (38 : Nat) ({ cls := "KiteRoofs$Reader", name := "skip", desc := "(I)Z" } : Jvm.MethodName)) ∈ lw_all := lw_g (lw_at lw_m6 79 rfl) rfl
theorem q1348 : (Jvm.Cond.privateMethod ({ cls := "KiteRoofs$Reader", name := "skip", desc := "(I)Z" } : Jvm.MethodName)) ∈ lw_tbl := lw_at lw_m6 80 rfl
theorem q1349 : (Jvm.Cond.instanceMethod ({ cls := "KiteRoofs$Reader", name := "skip", desc := "(I)Z" } : Jvm.MethodName)) ∈ lw_all := lw_g (lw_at lw_m6 81 rfl) rfl
theorem q1350 : (Jvm.Cond.code ({ cls := "KiteRoofs$Reader", name := "skip", desc := "(I)Z" } : Jvm.MethodName) prog_13_method_3_code (2 : Nat) (Option.some Jvm.ClassFile.FieldType.boolean)) ∈ lw_all := lw_g (lw_at lw_m6 82 rfl) rfl
theorem q1351 : (Jvm.Cond.methodLink "KiteRoofs$Reader" (35 : Nat) ({ cls := "KiteRoofs$Reader", name := "here", desc := "()I" } : Jvm.MethodName)) ∈ lw_all := lw_g (lw_at lw_m6 83 rfl) rfl
theorem q1352 : (Jvm.Cond.privateMethod ({ cls := "KiteRoofs$Reader", name := "here", desc := "()I" } : Jvm.MethodName)) ∈ lw_tbl := lw_at lw_m6 84 rfl
theorem q1353 : (Jvm.Cond.instanceMethod ({ cls := "KiteRoofs$Reader", name := "here", desc := "()I" } : Jvm.MethodName)) ∈ lw_all := lw_g (lw_at lw_m6 85 rfl) rfl
theorem q1354 : (Jvm.Cond.code ({ cls := "KiteRoofs$Reader", name := "here", desc := "()I" } : Jvm.MethodName) prog_13_method_2_code (1 : Nat) (Option.some Jvm.ClassFile.FieldType.int)) ∈ lw_all := lw_g (lw_at lw_m6 86 rfl) rfl
theorem q1355 : (Jvm.Cond.methodLink "KiteRoofs$Reader" (25 : Nat) ({ cls := "java/lang/String", name := "length", desc := "()I" } : Jvm.MethodName)) ∈ lw_all := lw_g (lw_at lw_m6 87 rfl) rfl
theorem q1356 : (Jvm.Cond.methodLink "KiteRoofs$Reader" (31 : Nat) ({ cls := "java/lang/String", name := "charAt", desc := "(I)C" } : Jvm.MethodName)) ∈ lw_all := lw_g (lw_at lw_m6 88 rfl) rfl
theorem q1371 : (Jvm.Cond.methodLink "KiteRoofs$Reader" (57 : Nat) ({ cls := "KiteRoofs$Reader", name := "wind", desc := "()LKiteRoofs$Order;" } : Jvm.MethodName)) ∈ lw_all := lw_g (lw_at lw_m6 103 rfl) rfl
theorem q1372 : (Jvm.Cond.privateMethod ({ cls := "KiteRoofs$Reader", name := "wind", desc := "()LKiteRoofs$Order;" } : Jvm.MethodName)) ∈ lw_tbl := lw_at lw_m6 104 rfl
theorem q1373 : (Jvm.Cond.instanceMethod ({ cls := "KiteRoofs$Reader", name := "wind", desc := "()LKiteRoofs$Order;" } : Jvm.MethodName)) ∈ lw_all := lw_g (lw_at lw_m6 105 rfl) rfl
theorem q1374 : (Jvm.Cond.code ({ cls := "KiteRoofs$Reader", name := "wind", desc := "()LKiteRoofs$Order;" } : Jvm.MethodName) prog_13_method_9_code (4 : Nat) (Option.some (Jvm.ClassFile.FieldType.object "KiteRoofs$Order"))) ∈ lw_all := lw_g (lw_at lw_m6 106 rfl) rfl
theorem q1375 : (Jvm.Cond.methodLink "KiteRoofs$Reader" (51 : Nat) ({ cls := "KiteRoofs$Reader", name := "digit", desc := "()I" } : Jvm.MethodName)) ∈ lw_all := lw_g (lw_at lw_m6 107 rfl) rfl
theorem q1376 : (Jvm.Cond.privateMethod ({ cls := "KiteRoofs$Reader", name := "digit", desc := "()I" } : Jvm.MethodName)) ∈ lw_tbl := lw_at lw_m6 108 rfl
theorem q1377 : (Jvm.Cond.instanceMethod ({ cls := "KiteRoofs$Reader", name := "digit", desc := "()I" } : Jvm.MethodName)) ∈ lw_all := lw_g (lw_at lw_m6 109 rfl) rfl
theorem q1378 : (Jvm.Cond.code ({ cls := "KiteRoofs$Reader", name := "digit", desc := "()I" } : Jvm.MethodName) prog_13_method_5_code (1 : Nat) (Option.some Jvm.ClassFile.FieldType.int)) ∈ lw_all := lw_g (lw_at lw_m6 110 rfl) rfl
theorem q1379 : (Jvm.Cond.methodLinkNest "KiteRoofs$Reader" (47 : Nat) ({ cls := "KiteRoofs", name := "in", desc := "(III)Z" } : Jvm.MethodName) "KiteRoofs") ∈ lw_tbl := lw_at lw_m6 111 rfl
theorem q1380 : (Jvm.Cond.classLink "KiteRoofs$Reader" (42 : Nat) "KiteRoofs$Fault") ∈ lw_all := lw_g (lw_at lw_m6 112 rfl) rfl
theorem q1389 : (Jvm.Cond.methodLink "KiteRoofs$Reader" (44 : Nat) ({ cls := "KiteRoofs$Fault", name := "<init>", desc := "(I)V" } : Jvm.MethodName)) ∈ lw_all := lw_g (lw_at lw_m6 121 rfl) rfl
theorem q1399 : (Jvm.Cond.methodLink "KiteRoofs$Reader" (54 : Nat) ({ cls := "KiteRoofs$Reader", name := "must", desc := "(I)V" } : Jvm.MethodName)) ∈ lw_all := lw_g (lw_at lw_m6 131 rfl) rfl
theorem q1400 : (Jvm.Cond.privateMethod ({ cls := "KiteRoofs$Reader", name := "must", desc := "(I)V" } : Jvm.MethodName)) ∈ lw_tbl := lw_at lw_m6 132 rfl
theorem q1401 : (Jvm.Cond.instanceMethod ({ cls := "KiteRoofs$Reader", name := "must", desc := "(I)V" } : Jvm.MethodName)) ∈ lw_all := lw_g (lw_at lw_m6 133 rfl) rfl
theorem q1402 : (Jvm.Cond.code ({ cls := "KiteRoofs$Reader", name := "must", desc := "(I)V" } : Jvm.MethodName) prog_13_method_4_code (2 : Nat) (Option.none : Option Jvm.ClassFile.FieldType)) ∈ lw_all := lw_g (lw_at lw_m6 134 rfl) rfl
theorem q1403 : (Jvm.Cond.classLink "KiteRoofs$Reader" (81 : Nat) "KiteRoofs$Wind") ∈ lw_all := lw_g (lw_at lw_m6 135 rfl) rfl
theorem q1405 : (Jvm.Cond.methodLink "KiteRoofs$Reader" (83 : Nat) ({ cls := "KiteRoofs$Wind", name := "<init>", desc := "(III)V" } : Jvm.MethodName)) ∈ lw_all := lw_g (lw_at lw_m6 137 rfl) rfl
theorem q1422 : (Jvm.Cond.methodLink "KiteRoofs$Reader" (67 : Nat) ({ cls := "KiteRoofs$Reader", name := "sign", desc := "()I" } : Jvm.MethodName)) ∈ lw_all := lw_g (lw_at lw_m6 154 rfl) rfl
theorem q1423 : (Jvm.Cond.privateMethod ({ cls := "KiteRoofs$Reader", name := "sign", desc := "()I" } : Jvm.MethodName)) ∈ lw_tbl := lw_at lw_m6 155 rfl
theorem q1424 : (Jvm.Cond.instanceMethod ({ cls := "KiteRoofs$Reader", name := "sign", desc := "()I" } : Jvm.MethodName)) ∈ lw_all := lw_g (lw_at lw_m6 156 rfl) rfl
theorem q1425 : (Jvm.Cond.code ({ cls := "KiteRoofs$Reader", name := "sign", desc := "()I" } : Jvm.MethodName) prog_13_method_7_code (1 : Nat) (Option.some Jvm.ClassFile.FieldType.int)) ∈ lw_all := lw_g (lw_at lw_m6 157 rfl) rfl
theorem q1426 : (Jvm.Cond.methodLink "KiteRoofs$Reader" (61 : Nat) ({ cls := "KiteRoofs$Reader", name := "kite", desc := "()LKiteRoofs$Order;" } : Jvm.MethodName)) ∈ lw_all := lw_g (lw_at lw_m6 158 rfl) rfl
theorem q1427 : (Jvm.Cond.privateMethod ({ cls := "KiteRoofs$Reader", name := "kite", desc := "()LKiteRoofs$Order;" } : Jvm.MethodName)) ∈ lw_tbl := lw_at lw_m6 159 rfl
theorem q1428 : (Jvm.Cond.instanceMethod ({ cls := "KiteRoofs$Reader", name := "kite", desc := "()LKiteRoofs$Order;" } : Jvm.MethodName)) ∈ lw_all := lw_g (lw_at lw_m6 160 rfl) rfl
theorem q1429 : (Jvm.Cond.code ({ cls := "KiteRoofs$Reader", name := "kite", desc := "()LKiteRoofs$Order;" } : Jvm.MethodName) prog_13_method_10_code (4 : Nat) (Option.some (Jvm.ClassFile.FieldType.object "KiteRoofs$Order"))) ∈ lw_all := lw_g (lw_at lw_m6 161 rfl) rfl
theorem q1430 : (Jvm.Cond.methodLink "KiteRoofs$Reader" (72 : Nat) ({ cls := "KiteRoofs$Reader", name := "number", desc := "()I" } : Jvm.MethodName)) ∈ lw_all := lw_g (lw_at lw_m6 162 rfl) rfl
theorem q1431 : (Jvm.Cond.privateMethod ({ cls := "KiteRoofs$Reader", name := "number", desc := "()I" } : Jvm.MethodName)) ∈ lw_tbl := lw_at lw_m6 163 rfl
theorem q1432 : (Jvm.Cond.instanceMethod ({ cls := "KiteRoofs$Reader", name := "number", desc := "()I" } : Jvm.MethodName)) ∈ lw_all := lw_g (lw_at lw_m6 164 rfl) rfl
theorem q1433 : (Jvm.Cond.code ({ cls := "KiteRoofs$Reader", name := "number", desc := "()I" } : Jvm.MethodName) prog_13_method_6_code (2 : Nat) (Option.some Jvm.ClassFile.FieldType.int)) ∈ lw_all := lw_g (lw_at lw_m6 165 rfl) rfl
theorem q1434 : (Jvm.Cond.classLink "KiteRoofs$Reader" (86 : Nat) "KiteRoofs$NewKite") ∈ lw_all := lw_g (lw_at lw_m6 166 rfl) rfl
theorem q1436 : (Jvm.Cond.methodLink "KiteRoofs$Reader" (88 : Nat) ({ cls := "KiteRoofs$NewKite", name := "<init>", desc := "(IIII)V" } : Jvm.MethodName)) ∈ lw_all := lw_g (lw_at lw_m6 168 rfl) rfl
theorem q1457 : (Jvm.Cond.classLink "KiteRoofs$Reader" (64 : Nat) "KiteRoofs$Launch") ∈ lw_all := lw_g (lw_at lw_m6 189 rfl) rfl
theorem q1459 : (Jvm.Cond.methodLink "KiteRoofs$Reader" (66 : Nat) ({ cls := "KiteRoofs$Launch", name := "<init>", desc := "(I)V" } : Jvm.MethodName)) ∈ lw_all := lw_g (lw_at lw_m6 191 rfl) rfl
theorem q1468 : (Jvm.Cond.classLink "KiteRoofs$Reader" (70 : Nat) "KiteRoofs$Reel") ∈ lw_all := lw_g (lw_at lw_m6 200 rfl) rfl
theorem q1470 : (Jvm.Cond.methodLink "KiteRoofs$Reader" (75 : Nat) ({ cls := "KiteRoofs$Reel", name := "<init>", desc := "(II)V" } : Jvm.MethodName)) ∈ lw_all := lw_g (lw_at lw_m6 202 rfl) rfl
theorem q1483 : (Jvm.Cond.classLink "KiteRoofs$Reader" (78 : Nat) "KiteRoofs$Rounds") ∈ lw_all := lw_g (lw_at lw_m6 215 rfl) rfl
theorem q1485 : (Jvm.Cond.methodLink "KiteRoofs$Reader" (80 : Nat) ({ cls := "KiteRoofs$Rounds", name := "<init>", desc := "(I)V" } : Jvm.MethodName)) ∈ lw_all := lw_g (lw_at lw_m6 217 rfl) rfl
theorem q1992 : (Jvm.Cond.castable "KiteRoofs$Reader" "java/lang/Object") ∈ lw_tbl := lw_at lw_m9 4 rfl
theorem in_X9 : ∀ w ∈ wsX90, w ∈ lw_all := lw_in wsX90 [1330, 1332, 1334, 1336] (by decide +kernel) (by decide +kernel)

/-! KiteRoofs$Fault -/
set_option maxRecDepth 100000
def RX10 : String := "KiteRoofs$Fault"
def TX10 : u_T := fun k => match k with
  | 0 => ("java/lang/Throwable", "cause", "Ljava/lang/Throwable;", false)
  | 1 => ("java/lang/Throwable", "stackTrace", "[Ljava/lang/StackTraceElement;", false)
  | 2 => ("java/lang/Throwable", "suppressedExceptions", "Ljava/util/List;", false)
  | 3 => ("java/lang/Throwable", "detailMessage", "Ljava/lang/String;", false)
  | 4 => ("java/lang/Throwable", "backtrace", "Ljava/lang/Object;", false)
  | 5 => ("java/lang/Throwable", "depth", "I", false)
  | _ => ("KiteRoofs$Fault", "position", "I", true)
def tyX10 : Nat → FieldType := fun k => match k with
  | 0 => .object "java/lang/Throwable"
  | 1 => .array (.object "java/lang/StackTraceElement")
  | 2 => .object "java/util/List"
  | 3 => .object "java/lang/String"
  | 4 => .object "java/lang/Object"
  | 5 => .int
  | _ => .int
abbrev wsX100 : List Cond := u_ws RX10 TX10 7
theorem nmX10 : ∀ a, a < 7 → ∀ b, b < 7 → a ≠ b → (TX10 a).2.1 ≠ (TX10 b).2.1 := by decide +kernel
theorem tyX10_ok : ∀ k, k < 7 → parseFieldDescriptor (TX10 k).2.2.1 = some (tyX10 k) := by decide +kernel
abbrev cX10_init : ByteArray := prog_3_method_1_code
def yX10_init : MethodName := ⟨RX10, "<init>", "(I)V"⟩
def dkwX10_init_0 : List UInt8 := [42, 183, 0, 1, 42, 27, 181, 0, 7, 177]
abbrev dktX10_init_0 : List UInt8 := dkwX10_init_0 ++ []
theorem dksX10_init_0 : cX10_init.data.toList.drop 0 = dktX10_init_0 := by decide +kernel
theorem dX10_init_0 : decode cX10_init 0 = .ok (.aload_n 0, 1) := dk_42 (dk_at dksX10_init_0 0 rfl rfl)
theorem dX10_init_1 : decode cX10_init 1 = .ok (.invokespecial 1, 3) := dk_183 0 1 (dk_at dksX10_init_0 1 rfl rfl)
theorem dX10_init_4 : decode cX10_init 4 = .ok (.aload_n 0, 1) := dk_42 (dk_at dksX10_init_0 4 rfl rfl)
theorem dX10_init_5 : decode cX10_init 5 = .ok (.iload_n 1, 1) := dk_27 (dk_at dksX10_init_0 5 rfl rfl)
theorem dX10_init_6 : decode cX10_init 6 = .ok (.putfield 7, 3) := dk_181 0 7 (dk_at dksX10_init_0 6 rfl rfl)
theorem dX10_init_9 : decode cX10_init 9 = .ok (.return_, 1) := dk_177 (dk_at dksX10_init_0 9 rfl rfl)
theorem q102 : (Jvm.Cond.initialized "KiteRoofs$Fault") ∈ lw_all := lw_g (lw_at lw_m1 34 rfl) rfl
theorem q389 : (Jvm.Cond.selects "KiteRoofs$Fault" ({ cls := "java/lang/Throwable", name := "fillInStackTrace", desc := "()Ljava/lang/Throwable;" } : Jvm.MethodName) ({ cls := "java/lang/Throwable", name := "fillInStackTrace", desc := "()Ljava/lang/Throwable;" } : Jvm.MethodName)) ∈ lw_all := lw_g (lw_at lw_m2 81 rfl) rfl
theorem q560 : (Jvm.Cond.selects "KiteRoofs$Fault" ({ cls := "java/lang/Object", name := "getClass", desc := "()Ljava/lang/Class;" } : Jvm.MethodName) ({ cls := "java/lang/Object", name := "getClass", desc := "()Ljava/lang/Class;" } : Jvm.MethodName)) ∈ lw_all := lw_g (lw_at lw_m3 12 rfl) rfl
theorem q1381 : (Jvm.Cond.instantiable "KiteRoofs$Fault" (7 : Nat)) ∈ lw_all := lw_g (lw_at lw_m6 113 rfl) rfl
theorem q1382 : (Jvm.Cond.castable "KiteRoofs$Fault" "KiteRoofs$Fault") ∈ lw_tbl := lw_at lw_m6 114 rfl
theorem q1383 : (Jvm.Cond.selects "KiteRoofs$Fault" ({ cls := "java/lang/Throwable", name := "fillInStackTrace", desc := "(I)Ljava/lang/Throwable;" } : Jvm.MethodName) ({ cls := "java/lang/Throwable", name := "fillInStackTrace", desc := "(I)Ljava/lang/Throwable;" } : Jvm.MethodName)) ∈ lw_all := lw_g (lw_at lw_m6 115 rfl) rfl
theorem q1384 : (Jvm.Cond.lays "KiteRoofs$Fault" "java/lang/Throwable" "cause" "Ljava/lang/Throwable;") ∈ lw_all := lw_g (lw_at lw_m6 116 rfl) rfl
theorem q1385 : (Jvm.Cond.lays "KiteRoofs$Fault" "java/lang/Throwable" "stackTrace" "[Ljava/lang/StackTraceElement;") ∈ lw_all := lw_g (lw_at lw_m6 117 rfl) rfl
theorem q1386 : (Jvm.Cond.lays "KiteRoofs$Fault" "java/lang/Throwable" "suppressedExceptions" "Ljava/util/List;") ∈ lw_all := lw_g (lw_at lw_m6 118 rfl) rfl
theorem q1387 : (Jvm.Cond.lays "KiteRoofs$Fault" "java/lang/Throwable" "detailMessage" "Ljava/lang/String;") ∈ lw_all := lw_g (lw_at lw_m6 119 rfl) rfl
theorem q1388 : (Jvm.Cond.lays "KiteRoofs$Fault" "java/lang/Throwable" "backtrace" "Ljava/lang/Object;") ∈ lw_all := lw_g (lw_at lw_m6 120 rfl) rfl
theorem q1390 : (Jvm.Cond.instanceMethod ({ cls := "KiteRoofs$Fault", name := "<init>", desc := "(I)V" } : Jvm.MethodName)) ∈ lw_all := lw_g (lw_at lw_m6 122 rfl) rfl
theorem q1391 : (Jvm.Cond.code ({ cls := "KiteRoofs$Fault", name := "<init>", desc := "(I)V" } : Jvm.MethodName) prog_3_method_1_code (2 : Nat) (Option.none : Option Jvm.ClassFile.FieldType)) ∈ lw_all := lw_g (lw_at lw_m6 123 rfl) rfl
theorem q1392 : (Jvm.Cond.methodLink "KiteRoofs$Fault" (1 : Nat) ({ cls := "java/lang/RuntimeException", name := "<init>", desc := "()V" } : Jvm.MethodName)) ∈ lw_all := lw_g (lw_at lw_m6 124 rfl) rfl
theorem q1393 : (Jvm.Cond.fieldLink "KiteRoofs$Fault" (7 : Nat) "KiteRoofs$Fault" "position" "I") ∈ lw_all := lw_g (lw_at lw_m6 125 rfl) rfl
theorem q1395 : (Jvm.Cond.laysFinal "KiteRoofs$Fault" "KiteRoofs$Fault" "position" "I") ∈ lw_all := lw_g (lw_at lw_m6 127 rfl) rfl
theorem q1396 : (Jvm.Cond.soleField "KiteRoofs$Fault" "position") ∈ lw_all := lw_g (lw_at lw_m6 128 rfl) rfl
theorem q1397 : (Jvm.Cond.lays "KiteRoofs$Fault" "java/lang/Throwable" "depth" "I") ∈ lw_all := lw_g (lw_at lw_m6 129 rfl) rfl
theorem q1398 : (Jvm.Cond.superclass "KiteRoofs$Fault" "java/lang/RuntimeException") ∈ lw_all := lw_g (lw_at lw_m6 130 rfl) rfl
theorem q1994 : (Jvm.Cond.castable "KiteRoofs$Fault" "java/lang/Object") ∈ lw_tbl := lw_at lw_m9 6 rfl
theorem in_X10 : ∀ w ∈ wsX100, w ∈ lw_all := lw_in wsX100 [1384, 1385, 1386, 1387, 1388, 1397, 1395] (by decide +kernel) (by decide +kernel)

/-! KiteRoofs$Wind -/
set_option maxRecDepth 100000
def RX11 : String := "KiteRoofs$Wind"
def TX11 : u_T := fun k => match k with
  | 0 => ("KiteRoofs$Wind", "layer", "I", true)
  | 1 => ("KiteRoofs$Wind", "strength", "I", true)
  | _ => ("KiteRoofs$Wind", "drift", "I", true)
def tyX11 : Nat → FieldType := fun k => match k with
  | 0 => .int
  | 1 => .int
  | _ => .int
abbrev wsX110 : List Cond := u_ws RX11 TX11 3
theorem nmX11 : ∀ a, a < 3 → ∀ b, b < 3 → a ≠ b → (TX11 a).2.1 ≠ (TX11 b).2.1 := by decide +kernel
theorem tyX11_ok : ∀ k, k < 3 → parseFieldDescriptor (TX11 k).2.2.1 = some (tyX11 k) := by decide +kernel
abbrev cX11_init : ByteArray := prog_19_method_1_code
def yX11_init : MethodName := ⟨RX11, "<init>", "(III)V"⟩
def dkwX11_init_0 : List UInt8 := [42, 183, 0, 1, 42, 27, 181, 0, 7, 42, 28, 181, 0, 13, 42, 29, 181, 0, 16, 177]
abbrev dktX11_init_0 : List UInt8 := dkwX11_init_0 ++ []
theorem dksX11_init_0 : cX11_init.data.toList.drop 0 = dktX11_init_0 := by decide +kernel
theorem dX11_init_0 : decode cX11_init 0 = .ok (.aload_n 0, 1) := dk_42 (dk_at dksX11_init_0 0 rfl rfl)
theorem dX11_init_1 : decode cX11_init 1 = .ok (.invokespecial 1, 3) := dk_183 0 1 (dk_at dksX11_init_0 1 rfl rfl)
theorem dX11_init_4 : decode cX11_init 4 = .ok (.aload_n 0, 1) := dk_42 (dk_at dksX11_init_0 4 rfl rfl)
theorem dX11_init_5 : decode cX11_init 5 = .ok (.iload_n 1, 1) := dk_27 (dk_at dksX11_init_0 5 rfl rfl)
theorem dX11_init_6 : decode cX11_init 6 = .ok (.putfield 7, 3) := dk_181 0 7 (dk_at dksX11_init_0 6 rfl rfl)
theorem dX11_init_9 : decode cX11_init 9 = .ok (.aload_n 0, 1) := dk_42 (dk_at dksX11_init_0 9 rfl rfl)
theorem dX11_init_10 : decode cX11_init 10 = .ok (.iload_n 2, 1) := dk_28 (dk_at dksX11_init_0 10 rfl rfl)
theorem dX11_init_11 : decode cX11_init 11 = .ok (.putfield 13, 3) := dk_181 0 13 (dk_at dksX11_init_0 11 rfl rfl)
theorem dX11_init_14 : decode cX11_init 14 = .ok (.aload_n 0, 1) := dk_42 (dk_at dksX11_init_0 14 rfl rfl)
theorem dX11_init_15 : decode cX11_init 15 = .ok (.iload_n 3, 1) := dk_29 (dk_at dksX11_init_0 15 rfl rfl)
theorem dX11_init_16 : decode cX11_init 16 = .ok (.putfield 16, 3) := dk_181 0 16 (dk_at dksX11_init_0 16 rfl rfl)
theorem dX11_init_19 : decode cX11_init 19 = .ok (.return_, 1) := dk_177 (dk_at dksX11_init_0 19 rfl rfl)
theorem q103 : (Jvm.Cond.initialized "KiteRoofs$Wind") ∈ lw_all := lw_g (lw_at lw_m1 35 rfl) rfl
theorem q573 : (Jvm.Cond.selects "KiteRoofs$Wind" ({ cls := "java/lang/Object", name := "getClass", desc := "()Ljava/lang/Class;" } : Jvm.MethodName) ({ cls := "java/lang/Object", name := "getClass", desc := "()Ljava/lang/Class;" } : Jvm.MethodName)) ∈ lw_all := lw_g (lw_at lw_m3 25 rfl) rfl
theorem q1404 : (Jvm.Cond.instantiable "KiteRoofs$Wind" (3 : Nat)) ∈ lw_all := lw_g (lw_at lw_m6 136 rfl) rfl
theorem q1406 : (Jvm.Cond.instanceMethod ({ cls := "KiteRoofs$Wind", name := "<init>", desc := "(III)V" } : Jvm.MethodName)) ∈ lw_all := lw_g (lw_at lw_m6 138 rfl) rfl
theorem q1407 : (Jvm.Cond.code ({ cls := "KiteRoofs$Wind", name := "<init>", desc := "(III)V" } : Jvm.MethodName) prog_19_method_1_code (4 : Nat) (Option.none : Option Jvm.ClassFile.FieldType)) ∈ lw_all := lw_g (lw_at lw_m6 139 rfl) rfl
theorem q1408 : (Jvm.Cond.methodLink "KiteRoofs$Wind" (1 : Nat) ({ cls := "java/lang/Object", name := "<init>", desc := "()V" } : Jvm.MethodName)) ∈ lw_all := lw_g (lw_at lw_m6 140 rfl) rfl
theorem q1409 : (Jvm.Cond.fieldLink "KiteRoofs$Wind" (7 : Nat) "KiteRoofs$Wind" "layer" "I") ∈ lw_all := lw_g (lw_at lw_m6 141 rfl) rfl
theorem q1411 : (Jvm.Cond.fieldLink "KiteRoofs$Wind" (13 : Nat) "KiteRoofs$Wind" "strength" "I") ∈ lw_all := lw_g (lw_at lw_m6 143 rfl) rfl
theorem q1413 : (Jvm.Cond.fieldLink "KiteRoofs$Wind" (16 : Nat) "KiteRoofs$Wind" "drift" "I") ∈ lw_all := lw_g (lw_at lw_m6 145 rfl) rfl
theorem q1415 : (Jvm.Cond.laysFinal "KiteRoofs$Wind" "KiteRoofs$Wind" "layer" "I") ∈ lw_all := lw_g (lw_at lw_m6 147 rfl) rfl
theorem q1416 : (Jvm.Cond.soleField "KiteRoofs$Wind" "layer") ∈ lw_all := lw_g (lw_at lw_m6 148 rfl) rfl
theorem q1417 : (Jvm.Cond.laysFinal "KiteRoofs$Wind" "KiteRoofs$Wind" "strength" "I") ∈ lw_all := lw_g (lw_at lw_m6 149 rfl) rfl
theorem q1418 : (Jvm.Cond.soleField "KiteRoofs$Wind" "strength") ∈ lw_all := lw_g (lw_at lw_m6 150 rfl) rfl
theorem q1419 : (Jvm.Cond.laysFinal "KiteRoofs$Wind" "KiteRoofs$Wind" "drift" "I") ∈ lw_all := lw_g (lw_at lw_m6 151 rfl) rfl
theorem q1420 : (Jvm.Cond.soleField "KiteRoofs$Wind" "drift") ∈ lw_all := lw_g (lw_at lw_m6 152 rfl) rfl
theorem q1421 : (Jvm.Cond.superclass "KiteRoofs$Wind" "java/lang/Object") ∈ lw_all := lw_g (lw_at lw_m6 153 rfl) rfl
theorem q1995 : (Jvm.Cond.castable "KiteRoofs$Wind" "java/lang/Object") ∈ lw_tbl := lw_at lw_m9 7 rfl
theorem q2002 : (Jvm.Cond.castable "KiteRoofs$Wind" "KiteRoofs$Order") ∈ lw_tbl := lw_at lw_m9 14 rfl
theorem in_X11 : ∀ w ∈ wsX110, w ∈ lw_all := lw_in wsX110 [1415, 1417, 1419] (by decide +kernel) (by decide +kernel)

/-! KiteRoofs$NewKite -/
set_option maxRecDepth 100000
def RX12 : String := "KiteRoofs$NewKite"
def TX12 : u_T := fun k => match k with
  | 0 => ("KiteRoofs$NewKite", "kind", "I", true)
  | 1 => ("KiteRoofs$NewKite", "roof", "I", true)
  | 2 => ("KiteRoofs$NewKite", "spool", "I", true)
  | _ => ("KiteRoofs$NewKite", "glass", "I", true)
def tyX12 : Nat → FieldType := fun k => match k with
  | 0 => .int
  | 1 => .int
  | 2 => .int
  | _ => .int
abbrev wsX120 : List Cond := u_ws RX12 TX12 4
theorem nmX12 : ∀ a, a < 4 → ∀ b, b < 4 → a ≠ b → (TX12 a).2.1 ≠ (TX12 b).2.1 := by decide +kernel
theorem tyX12_ok : ∀ k, k < 4 → parseFieldDescriptor (TX12 k).2.2.1 = some (tyX12 k) := by decide +kernel
abbrev cX12_init : ByteArray := prog_10_method_1_code
def yX12_init : MethodName := ⟨RX12, "<init>", "(IIII)V"⟩
def dkwX12_init_1 : List UInt8 := [181, 0, 19, 177]
abbrev dktX12_init_1 : List UInt8 := dkwX12_init_1 ++ []
def dkwX12_init_0 : List UInt8 := [42, 183, 0, 1, 42, 27, 181, 0, 7, 42, 28, 181, 0, 13, 42, 29, 181, 0, 16, 42, 21, 4]
abbrev dktX12_init_0 : List UInt8 := dkwX12_init_0 ++ dktX12_init_1
theorem dksX12_init_0 : cX12_init.data.toList.drop 0 = dktX12_init_0 := by decide +kernel
theorem dksX12_init_1 : cX12_init.data.toList.drop 22 = dktX12_init_1 := dk_seg dksX12_init_0 22 rfl rfl
theorem dX12_init_0 : decode cX12_init 0 = .ok (.aload_n 0, 1) := dk_42 (dk_at dksX12_init_0 0 rfl rfl)
theorem dX12_init_1 : decode cX12_init 1 = .ok (.invokespecial 1, 3) := dk_183 0 1 (dk_at dksX12_init_0 1 rfl rfl)
theorem dX12_init_4 : decode cX12_init 4 = .ok (.aload_n 0, 1) := dk_42 (dk_at dksX12_init_0 4 rfl rfl)
theorem dX12_init_5 : decode cX12_init 5 = .ok (.iload_n 1, 1) := dk_27 (dk_at dksX12_init_0 5 rfl rfl)
theorem dX12_init_6 : decode cX12_init 6 = .ok (.putfield 7, 3) := dk_181 0 7 (dk_at dksX12_init_0 6 rfl rfl)
theorem dX12_init_9 : decode cX12_init 9 = .ok (.aload_n 0, 1) := dk_42 (dk_at dksX12_init_0 9 rfl rfl)
theorem dX12_init_10 : decode cX12_init 10 = .ok (.iload_n 2, 1) := dk_28 (dk_at dksX12_init_0 10 rfl rfl)
theorem dX12_init_11 : decode cX12_init 11 = .ok (.putfield 13, 3) := dk_181 0 13 (dk_at dksX12_init_0 11 rfl rfl)
theorem dX12_init_14 : decode cX12_init 14 = .ok (.aload_n 0, 1) := dk_42 (dk_at dksX12_init_0 14 rfl rfl)
theorem dX12_init_15 : decode cX12_init 15 = .ok (.iload_n 3, 1) := dk_29 (dk_at dksX12_init_0 15 rfl rfl)
theorem dX12_init_16 : decode cX12_init 16 = .ok (.putfield 16, 3) := dk_181 0 16 (dk_at dksX12_init_0 16 rfl rfl)
theorem dX12_init_19 : decode cX12_init 19 = .ok (.aload_n 0, 1) := dk_42 (dk_at dksX12_init_0 19 rfl rfl)
theorem dX12_init_20 : decode cX12_init 20 = .ok (.iload 4, 2) := dk_21 4 (dk_at dksX12_init_0 20 rfl rfl)
theorem dX12_init_22 : decode cX12_init 22 = .ok (.putfield 19, 3) := dk_181 0 19 (dk_at dksX12_init_1 0 rfl rfl)
theorem dX12_init_25 : decode cX12_init 25 = .ok (.return_, 1) := dk_177 (dk_at dksX12_init_1 3 rfl rfl)
theorem q104 : (Jvm.Cond.initialized "KiteRoofs$NewKite") ∈ lw_all := lw_g (lw_at lw_m1 36 rfl) rfl
theorem q566 : (Jvm.Cond.selects "KiteRoofs$NewKite" ({ cls := "java/lang/Object", name := "getClass", desc := "()Ljava/lang/Class;" } : Jvm.MethodName) ({ cls := "java/lang/Object", name := "getClass", desc := "()Ljava/lang/Class;" } : Jvm.MethodName)) ∈ lw_all := lw_g (lw_at lw_m3 18 rfl) rfl
theorem q1435 : (Jvm.Cond.instantiable "KiteRoofs$NewKite" (4 : Nat)) ∈ lw_all := lw_g (lw_at lw_m6 167 rfl) rfl
theorem q1437 : (Jvm.Cond.instanceMethod ({ cls := "KiteRoofs$NewKite", name := "<init>", desc := "(IIII)V" } : Jvm.MethodName)) ∈ lw_all := lw_g (lw_at lw_m6 169 rfl) rfl
theorem q1438 : (Jvm.Cond.code ({ cls := "KiteRoofs$NewKite", name := "<init>", desc := "(IIII)V" } : Jvm.MethodName) prog_10_method_1_code (5 : Nat) (Option.none : Option Jvm.ClassFile.FieldType)) ∈ lw_all := lw_g (lw_at lw_m6 170 rfl) rfl
theorem q1439 : (Jvm.Cond.methodLink "KiteRoofs$NewKite" (1 : Nat) ({ cls := "java/lang/Object", name := "<init>", desc := "()V" } : Jvm.MethodName)) ∈ lw_all := lw_g (lw_at lw_m6 171 rfl) rfl
theorem q1440 : (Jvm.Cond.fieldLink "KiteRoofs$NewKite" (7 : Nat) "KiteRoofs$NewKite" "kind" "I") ∈ lw_all := lw_g (lw_at lw_m6 172 rfl) rfl
theorem q1442 : (Jvm.Cond.fieldLink "KiteRoofs$NewKite" (13 : Nat) "KiteRoofs$NewKite" "roof" "I") ∈ lw_all := lw_g (lw_at lw_m6 174 rfl) rfl
theorem q1444 : (Jvm.Cond.fieldLink "KiteRoofs$NewKite" (16 : Nat) "KiteRoofs$NewKite" "spool" "I") ∈ lw_all := lw_g (lw_at lw_m6 176 rfl) rfl
theorem q1446 : (Jvm.Cond.fieldLink "KiteRoofs$NewKite" (19 : Nat) "KiteRoofs$NewKite" "glass" "I") ∈ lw_all := lw_g (lw_at lw_m6 178 rfl) rfl
theorem q1448 : (Jvm.Cond.laysFinal "KiteRoofs$NewKite" "KiteRoofs$NewKite" "kind" "I") ∈ lw_all := lw_g (lw_at lw_m6 180 rfl) rfl
theorem q1449 : (Jvm.Cond.soleField "KiteRoofs$NewKite" "kind") ∈ lw_all := lw_g (lw_at lw_m6 181 rfl) rfl
theorem q1450 : (Jvm.Cond.laysFinal "KiteRoofs$NewKite" "KiteRoofs$NewKite" "roof" "I") ∈ lw_all := lw_g (lw_at lw_m6 182 rfl) rfl
theorem q1451 : (Jvm.Cond.soleField "KiteRoofs$NewKite" "roof") ∈ lw_all := lw_g (lw_at lw_m6 183 rfl) rfl
theorem q1452 : (Jvm.Cond.laysFinal "KiteRoofs$NewKite" "KiteRoofs$NewKite" "spool" "I") ∈ lw_all := lw_g (lw_at lw_m6 184 rfl) rfl
theorem q1453 : (Jvm.Cond.soleField "KiteRoofs$NewKite" "spool") ∈ lw_all := lw_g (lw_at lw_m6 185 rfl) rfl
theorem q1454 : (Jvm.Cond.laysFinal "KiteRoofs$NewKite" "KiteRoofs$NewKite" "glass" "I") ∈ lw_all := lw_g (lw_at lw_m6 186 rfl) rfl
theorem q1455 : (Jvm.Cond.soleField "KiteRoofs$NewKite" "glass") ∈ lw_all := lw_g (lw_at lw_m6 187 rfl) rfl
theorem q1456 : (Jvm.Cond.superclass "KiteRoofs$NewKite" "java/lang/Object") ∈ lw_all := lw_g (lw_at lw_m6 188 rfl) rfl
theorem q1996 : (Jvm.Cond.castable "KiteRoofs$NewKite" "java/lang/Object") ∈ lw_tbl := lw_at lw_m9 8 rfl
theorem q2003 : (Jvm.Cond.castable "KiteRoofs$NewKite" "KiteRoofs$Order") ∈ lw_tbl := lw_at lw_m9 15 rfl
theorem in_X12 : ∀ w ∈ wsX120, w ∈ lw_all := lw_in wsX120 [1448, 1450, 1452, 1454] (by decide +kernel) (by decide +kernel)

/-! KiteRoofs$Launch -/
set_option maxRecDepth 100000
def RX13 : String := "KiteRoofs$Launch"
def TX13 : u_T := fun k => match k with
  | _ => ("KiteRoofs$Launch", "kite", "I", true)
def tyX13 : Nat → FieldType := fun k => match k with
  | _ => .int
abbrev wsX130 : List Cond := u_ws RX13 TX13 1
theorem nmX13 : ∀ a, a < 1 → ∀ b, b < 1 → a ≠ b → (TX13 a).2.1 ≠ (TX13 b).2.1 := by decide +kernel
theorem tyX13_ok : ∀ k, k < 1 → parseFieldDescriptor (TX13 k).2.2.1 = some (tyX13 k) := by decide +kernel
abbrev cX13_init : ByteArray := prog_5_method_1_code
def yX13_init : MethodName := ⟨RX13, "<init>", "(I)V"⟩
def dkwX13_init_0 : List UInt8 := [42, 183, 0, 1, 42, 27, 181, 0, 7, 177]
abbrev dktX13_init_0 : List UInt8 := dkwX13_init_0 ++ []
theorem dksX13_init_0 : cX13_init.data.toList.drop 0 = dktX13_init_0 := by decide +kernel
theorem dX13_init_0 : decode cX13_init 0 = .ok (.aload_n 0, 1) := dk_42 (dk_at dksX13_init_0 0 rfl rfl)
theorem dX13_init_1 : decode cX13_init 1 = .ok (.invokespecial 1, 3) := dk_183 0 1 (dk_at dksX13_init_0 1 rfl rfl)
theorem dX13_init_4 : decode cX13_init 4 = .ok (.aload_n 0, 1) := dk_42 (dk_at dksX13_init_0 4 rfl rfl)
theorem dX13_init_5 : decode cX13_init 5 = .ok (.iload_n 1, 1) := dk_27 (dk_at dksX13_init_0 5 rfl rfl)
theorem dX13_init_6 : decode cX13_init 6 = .ok (.putfield 7, 3) := dk_181 0 7 (dk_at dksX13_init_0 6 rfl rfl)
theorem dX13_init_9 : decode cX13_init 9 = .ok (.return_, 1) := dk_177 (dk_at dksX13_init_0 9 rfl rfl)
theorem q105 : (Jvm.Cond.initialized "KiteRoofs$Launch") ∈ lw_all := lw_g (lw_at lw_m1 37 rfl) rfl
theorem q562 : (Jvm.Cond.selects "KiteRoofs$Launch" ({ cls := "java/lang/Object", name := "getClass", desc := "()Ljava/lang/Class;" } : Jvm.MethodName) ({ cls := "java/lang/Object", name := "getClass", desc := "()Ljava/lang/Class;" } : Jvm.MethodName)) ∈ lw_all := lw_g (lw_at lw_m3 14 rfl) rfl
theorem q1458 : (Jvm.Cond.instantiable "KiteRoofs$Launch" (1 : Nat)) ∈ lw_all := lw_g (lw_at lw_m6 190 rfl) rfl
theorem q1460 : (Jvm.Cond.instanceMethod ({ cls := "KiteRoofs$Launch", name := "<init>", desc := "(I)V" } : Jvm.MethodName)) ∈ lw_all := lw_g (lw_at lw_m6 192 rfl) rfl
theorem q1461 : (Jvm.Cond.code ({ cls := "KiteRoofs$Launch", name := "<init>", desc := "(I)V" } : Jvm.MethodName) prog_5_method_1_code (2 : Nat) (Option.none : Option Jvm.ClassFile.FieldType)) ∈ lw_all := lw_g (lw_at lw_m6 193 rfl) rfl
theorem q1462 : (Jvm.Cond.methodLink "KiteRoofs$Launch" (1 : Nat) ({ cls := "java/lang/Object", name := "<init>", desc := "()V" } : Jvm.MethodName)) ∈ lw_all := lw_g (lw_at lw_m6 194 rfl) rfl
theorem q1463 : (Jvm.Cond.fieldLink "KiteRoofs$Launch" (7 : Nat) "KiteRoofs$Launch" "kite" "I") ∈ lw_all := lw_g (lw_at lw_m6 195 rfl) rfl
theorem q1465 : (Jvm.Cond.laysFinal "KiteRoofs$Launch" "KiteRoofs$Launch" "kite" "I") ∈ lw_all := lw_g (lw_at lw_m6 197 rfl) rfl
theorem q1466 : (Jvm.Cond.soleField "KiteRoofs$Launch" "kite") ∈ lw_all := lw_g (lw_at lw_m6 198 rfl) rfl
theorem q1467 : (Jvm.Cond.superclass "KiteRoofs$Launch" "java/lang/Object") ∈ lw_all := lw_g (lw_at lw_m6 199 rfl) rfl
theorem q1997 : (Jvm.Cond.castable "KiteRoofs$Launch" "java/lang/Object") ∈ lw_tbl := lw_at lw_m9 9 rfl
theorem q2004 : (Jvm.Cond.castable "KiteRoofs$Launch" "KiteRoofs$Order") ∈ lw_tbl := lw_at lw_m9 16 rfl
theorem in_X13 : ∀ w ∈ wsX130, w ∈ lw_all := lw_in wsX130 [1465] (by decide +kernel) (by decide +kernel)

/-! KiteRoofs$Reel -/
set_option maxRecDepth 100000
def RX14 : String := "KiteRoofs$Reel"
def TX14 : u_T := fun k => match k with
  | 0 => ("KiteRoofs$Reel", "kite", "I", true)
  | _ => ("KiteRoofs$Reel", "by", "I", true)
def tyX14 : Nat → FieldType := fun k => match k with
  | 0 => .int
  | _ => .int
abbrev wsX140 : List Cond := u_ws RX14 TX14 2
theorem nmX14 : ∀ a, a < 2 → ∀ b, b < 2 → a ≠ b → (TX14 a).2.1 ≠ (TX14 b).2.1 := by decide +kernel
theorem tyX14_ok : ∀ k, k < 2 → parseFieldDescriptor (TX14 k).2.2.1 = some (tyX14 k) := by decide +kernel
abbrev cX14_init : ByteArray := prog_14_method_1_code
def yX14_init : MethodName := ⟨RX14, "<init>", "(II)V"⟩
def dkwX14_init_0 : List UInt8 := [42, 183, 0, 1, 42, 27, 181, 0, 7, 42, 28, 181, 0, 13, 177]
abbrev dktX14_init_0 : List UInt8 := dkwX14_init_0 ++ []
theorem dksX14_init_0 : cX14_init.data.toList.drop 0 = dktX14_init_0 := by decide +kernel
theorem dX14_init_0 : decode cX14_init 0 = .ok (.aload_n 0, 1) := dk_42 (dk_at dksX14_init_0 0 rfl rfl)
theorem dX14_init_1 : decode cX14_init 1 = .ok (.invokespecial 1, 3) := dk_183 0 1 (dk_at dksX14_init_0 1 rfl rfl)
theorem dX14_init_4 : decode cX14_init 4 = .ok (.aload_n 0, 1) := dk_42 (dk_at dksX14_init_0 4 rfl rfl)
theorem dX14_init_5 : decode cX14_init 5 = .ok (.iload_n 1, 1) := dk_27 (dk_at dksX14_init_0 5 rfl rfl)
theorem dX14_init_6 : decode cX14_init 6 = .ok (.putfield 7, 3) := dk_181 0 7 (dk_at dksX14_init_0 6 rfl rfl)
theorem dX14_init_9 : decode cX14_init 9 = .ok (.aload_n 0, 1) := dk_42 (dk_at dksX14_init_0 9 rfl rfl)
theorem dX14_init_10 : decode cX14_init 10 = .ok (.iload_n 2, 1) := dk_28 (dk_at dksX14_init_0 10 rfl rfl)
theorem dX14_init_11 : decode cX14_init 11 = .ok (.putfield 13, 3) := dk_181 0 13 (dk_at dksX14_init_0 11 rfl rfl)
theorem dX14_init_14 : decode cX14_init 14 = .ok (.return_, 1) := dk_177 (dk_at dksX14_init_0 14 rfl rfl)
theorem q106 : (Jvm.Cond.initialized "KiteRoofs$Reel") ∈ lw_all := lw_g (lw_at lw_m1 38 rfl) rfl
theorem q569 : (Jvm.Cond.selects "KiteRoofs$Reel" ({ cls := "java/lang/Object", name := "getClass", desc := "()Ljava/lang/Class;" } : Jvm.MethodName) ({ cls := "java/lang/Object", name := "getClass", desc := "()Ljava/lang/Class;" } : Jvm.MethodName)) ∈ lw_all := lw_g (lw_at lw_m3 21 rfl) rfl
theorem q1469 : (Jvm.Cond.instantiable "KiteRoofs$Reel" (2 : Nat)) ∈ lw_all := lw_g (lw_at lw_m6 201 rfl) rfl
theorem q1471 : (Jvm.Cond.instanceMethod ({ cls := "KiteRoofs$Reel", name := "<init>", desc := "(II)V" } : Jvm.MethodName)) ∈ lw_all := lw_g (lw_at lw_m6 203 rfl) rfl
theorem q1472 : (Jvm.Cond.code ({ cls := "KiteRoofs$Reel", name := "<init>", desc := "(II)V" } : Jvm.MethodName) prog_14_method_1_code (3 : Nat) (Option.none : Option Jvm.ClassFile.FieldType)) ∈ lw_all := lw_g (lw_at lw_m6 204 rfl) rfl
theorem q1473 : (Jvm.Cond.methodLink "KiteRoofs$Reel" (1 : Nat) ({ cls := "java/lang/Object", name := "<init>", desc := "()V" } : Jvm.MethodName)) ∈ lw_all := lw_g (lw_at lw_m6 205 rfl) rfl
theorem q1474 : (Jvm.Cond.fieldLink "KiteRoofs$Reel" (7 : Nat) "KiteRoofs$Reel" "kite" "I") ∈ lw_all := lw_g (lw_at lw_m6 206 rfl) rfl
theorem q1476 : (Jvm.Cond.fieldLink "KiteRoofs$Reel" (13 : Nat) "KiteRoofs$Reel" "by" "I") ∈ lw_all := lw_g (lw_at lw_m6 208 rfl) rfl
theorem q1478 : (Jvm.Cond.laysFinal "KiteRoofs$Reel" "KiteRoofs$Reel" "kite" "I") ∈ lw_all := lw_g (lw_at lw_m6 210 rfl) rfl
theorem q1479 : (Jvm.Cond.soleField "KiteRoofs$Reel" "kite") ∈ lw_all := lw_g (lw_at lw_m6 211 rfl) rfl
theorem q1480 : (Jvm.Cond.laysFinal "KiteRoofs$Reel" "KiteRoofs$Reel" "by" "I") ∈ lw_all := lw_g (lw_at lw_m6 212 rfl) rfl
theorem q1481 : (Jvm.Cond.soleField "KiteRoofs$Reel" "by") ∈ lw_all := lw_g (lw_at lw_m6 213 rfl) rfl
theorem q1482 : (Jvm.Cond.superclass "KiteRoofs$Reel" "java/lang/Object") ∈ lw_all := lw_g (lw_at lw_m6 214 rfl) rfl
theorem q1998 : (Jvm.Cond.castable "KiteRoofs$Reel" "java/lang/Object") ∈ lw_tbl := lw_at lw_m9 10 rfl
theorem q2005 : (Jvm.Cond.castable "KiteRoofs$Reel" "KiteRoofs$Order") ∈ lw_tbl := lw_at lw_m9 17 rfl
theorem in_X14 : ∀ w ∈ wsX140, w ∈ lw_all := lw_in wsX140 [1478, 1480] (by decide +kernel) (by decide +kernel)

/-! KiteRoofs$Rounds -/
set_option maxRecDepth 100000
def RX15 : String := "KiteRoofs$Rounds"
def TX15 : u_T := fun k => match k with
  | _ => ("KiteRoofs$Rounds", "count", "I", true)
def tyX15 : Nat → FieldType := fun k => match k with
  | _ => .int
abbrev wsX150 : List Cond := u_ws RX15 TX15 1
theorem nmX15 : ∀ a, a < 1 → ∀ b, b < 1 → a ≠ b → (TX15 a).2.1 ≠ (TX15 b).2.1 := by decide +kernel
theorem tyX15_ok : ∀ k, k < 1 → parseFieldDescriptor (TX15 k).2.2.1 = some (tyX15 k) := by decide +kernel
abbrev cX15_init : ByteArray := prog_15_method_1_code
def yX15_init : MethodName := ⟨RX15, "<init>", "(I)V"⟩
def dkwX15_init_0 : List UInt8 := [42, 183, 0, 1, 42, 27, 181, 0, 7, 177]
abbrev dktX15_init_0 : List UInt8 := dkwX15_init_0 ++ []
theorem dksX15_init_0 : cX15_init.data.toList.drop 0 = dktX15_init_0 := by decide +kernel
theorem dX15_init_0 : decode cX15_init 0 = .ok (.aload_n 0, 1) := dk_42 (dk_at dksX15_init_0 0 rfl rfl)
theorem dX15_init_1 : decode cX15_init 1 = .ok (.invokespecial 1, 3) := dk_183 0 1 (dk_at dksX15_init_0 1 rfl rfl)
theorem dX15_init_4 : decode cX15_init 4 = .ok (.aload_n 0, 1) := dk_42 (dk_at dksX15_init_0 4 rfl rfl)
theorem dX15_init_5 : decode cX15_init 5 = .ok (.iload_n 1, 1) := dk_27 (dk_at dksX15_init_0 5 rfl rfl)
theorem dX15_init_6 : decode cX15_init 6 = .ok (.putfield 7, 3) := dk_181 0 7 (dk_at dksX15_init_0 6 rfl rfl)
theorem dX15_init_9 : decode cX15_init 9 = .ok (.return_, 1) := dk_177 (dk_at dksX15_init_0 9 rfl rfl)
theorem q107 : (Jvm.Cond.initialized "KiteRoofs$Rounds") ∈ lw_all := lw_g (lw_at lw_m1 39 rfl) rfl
theorem q570 : (Jvm.Cond.selects "KiteRoofs$Rounds" ({ cls := "java/lang/Object", name := "getClass", desc := "()Ljava/lang/Class;" } : Jvm.MethodName) ({ cls := "java/lang/Object", name := "getClass", desc := "()Ljava/lang/Class;" } : Jvm.MethodName)) ∈ lw_all := lw_g (lw_at lw_m3 22 rfl) rfl
theorem q1484 : (Jvm.Cond.instantiable "KiteRoofs$Rounds" (1 : Nat)) ∈ lw_all := lw_g (lw_at lw_m6 216 rfl) rfl
theorem q1486 : (Jvm.Cond.instanceMethod ({ cls := "KiteRoofs$Rounds", name := "<init>", desc := "(I)V" } : Jvm.MethodName)) ∈ lw_all := lw_g (lw_at lw_m6 218 rfl) rfl
theorem q1487 : (Jvm.Cond.code ({ cls := "KiteRoofs$Rounds", name := "<init>", desc := "(I)V" } : Jvm.MethodName) prog_15_method_1_code (2 : Nat) (Option.none : Option Jvm.ClassFile.FieldType)) ∈ lw_all := lw_g (lw_at lw_m6 219 rfl) rfl
theorem q1488 : (Jvm.Cond.methodLink "KiteRoofs$Rounds" (1 : Nat) ({ cls := "java/lang/Object", name := "<init>", desc := "()V" } : Jvm.MethodName)) ∈ lw_all := lw_g (lw_at lw_m6 220 rfl) rfl
theorem q1489 : (Jvm.Cond.fieldLink "KiteRoofs$Rounds" (7 : Nat) "KiteRoofs$Rounds" "count" "I") ∈ lw_all := lw_g (lw_at lw_m6 221 rfl) rfl
theorem q1491 : (Jvm.Cond.laysFinal "KiteRoofs$Rounds" "KiteRoofs$Rounds" "count" "I") ∈ lw_all := lw_g (lw_at lw_m6 223 rfl) rfl
theorem q1492 : (Jvm.Cond.soleField "KiteRoofs$Rounds" "count") ∈ lw_all := lw_g (lw_at lw_m6 224 rfl) rfl
theorem q1493 : (Jvm.Cond.superclass "KiteRoofs$Rounds" "java/lang/Object") ∈ lw_all := lw_g (lw_at lw_m6 225 rfl) rfl
theorem q1999 : (Jvm.Cond.castable "KiteRoofs$Rounds" "java/lang/Object") ∈ lw_tbl := lw_at lw_m9 11 rfl
theorem q2006 : (Jvm.Cond.castable "KiteRoofs$Rounds" "KiteRoofs$Order") ∈ lw_tbl := lw_at lw_m9 18 rfl
theorem in_X15 : ∀ w ∈ wsX150, w ∈ lw_all := lw_in wsX150 [1491] (by decide +kernel) (by decide +kernel)

