/-! KiteRoofs -/
set_option maxRecDepth 100000
def RX1 : String := "KiteRoofs"
def TX1 : u_T := fun k => match k with
  | 0 => ("KiteRoofs", "town", "LKiteRoofs$Town;", true)
  | 1 => ("KiteRoofs", "tried", "LKiteRoofs$Town;", true)
  | 2 => ("KiteRoofs", "saved", "LKiteRoofs$Town;", true)
  | 3 => ("KiteRoofs", "hasSaved", "Z", false)
  | 4 => ("KiteRoofs", "kept", "Ljava/util/ArrayDeque;", true)
  | 5 => ("KiteRoofs", "buffer", "Ljava/lang/StringBuilder;", false)
  | 6 => ("KiteRoofs", "fault", "I", false)
  | 7 => ("KiteRoofs", "refused", "I", false)
  | _ => ("KiteRoofs", "refusedOrder", "I", false)
def tyX1 : Nat → FieldType := fun k => match k with
  | 0 => .object "KiteRoofs$Town"
  | 1 => .object "KiteRoofs$Town"
  | 2 => .object "KiteRoofs$Town"
  | 3 => .boolean
  | 4 => .object "java/util/ArrayDeque"
  | 5 => .object "java/lang/StringBuilder"
  | 6 => .int
  | 7 => .int
  | _ => .int
abbrev wsX10 : List Cond := u_ws RX1 TX1 9
theorem nmX1 : ∀ a, a < 9 → ∀ b, b < 9 → a ≠ b → (TX1 a).2.1 ≠ (TX1 b).2.1 := by decide +kernel
theorem tyX1_ok : ∀ k, k < 9 → parseFieldDescriptor (TX1 k).2.2.1 = some (tyX1 k) := by decide +kernel
abbrev cX1_init : ByteArray := prog_1_method_4_code
def yX1_init : MethodName := ⟨RX1, "<init>", "()V"⟩
def dkwX1_init_3 : List UInt8 := [177]
abbrev dktX1_init_3 : List UInt8 := dkwX1_init_3 ++ []
def dkwX1_init_2 : List UInt8 := [181, 0, 29, 42, 187, 0, 33, 89, 183, 0, 35, 181, 0, 36, 42, 2, 181, 0, 40, 42, 2, 181, 0, 44]
abbrev dktX1_init_2 : List UInt8 := dkwX1_init_2 ++ dktX1_init_3
def dkwX1_init_1 : List UInt8 := [181, 0, 20, 42, 187, 0, 13, 89, 183, 0, 15, 181, 0, 23, 42, 187, 0, 26, 89, 183, 0, 28]
abbrev dktX1_init_1 : List UInt8 := dkwX1_init_1 ++ dktX1_init_2
def dkwX1_init_0 : List UInt8 := [42, 183, 0, 7, 42, 187, 0, 13, 89, 183, 0, 15, 181, 0, 16, 42, 187, 0, 13, 89, 183, 0, 15]
abbrev dktX1_init_0 : List UInt8 := dkwX1_init_0 ++ dktX1_init_1
theorem dksX1_init_0 : cX1_init.data.toList.drop 0 = dktX1_init_0 := by decide +kernel
theorem dksX1_init_1 : cX1_init.data.toList.drop 23 = dktX1_init_1 := dk_seg dksX1_init_0 23 rfl rfl
theorem dksX1_init_2 : cX1_init.data.toList.drop 45 = dktX1_init_2 := dk_seg dksX1_init_1 22 rfl rfl
theorem dksX1_init_3 : cX1_init.data.toList.drop 69 = dktX1_init_3 := dk_seg dksX1_init_2 24 rfl rfl
theorem dX1_init_0 : decode cX1_init 0 = .ok (.aload_n 0, 1) := dk_42 (dk_at dksX1_init_0 0 rfl rfl)
theorem dX1_init_1 : decode cX1_init 1 = .ok (.invokespecial 7, 3) := dk_183 0 7 (dk_at dksX1_init_0 1 rfl rfl)
theorem dX1_init_4 : decode cX1_init 4 = .ok (.aload_n 0, 1) := dk_42 (dk_at dksX1_init_0 4 rfl rfl)
theorem dX1_init_5 : decode cX1_init 5 = .ok (.new 13, 3) := dk_187 0 13 (dk_at dksX1_init_0 5 rfl rfl)
theorem dX1_init_8 : decode cX1_init 8 = .ok (.dup, 1) := dk_89 (dk_at dksX1_init_0 8 rfl rfl)
theorem dX1_init_9 : decode cX1_init 9 = .ok (.invokespecial 15, 3) := dk_183 0 15 (dk_at dksX1_init_0 9 rfl rfl)
theorem dX1_init_12 : decode cX1_init 12 = .ok (.putfield 16, 3) := dk_181 0 16 (dk_at dksX1_init_0 12 rfl rfl)
theorem dX1_init_15 : decode cX1_init 15 = .ok (.aload_n 0, 1) := dk_42 (dk_at dksX1_init_0 15 rfl rfl)
theorem dX1_init_16 : decode cX1_init 16 = .ok (.new 13, 3) := dk_187 0 13 (dk_at dksX1_init_0 16 rfl rfl)
theorem dX1_init_19 : decode cX1_init 19 = .ok (.dup, 1) := dk_89 (dk_at dksX1_init_0 19 rfl rfl)
theorem dX1_init_20 : decode cX1_init 20 = .ok (.invokespecial 15, 3) := dk_183 0 15 (dk_at dksX1_init_0 20 rfl rfl)
theorem dX1_init_23 : decode cX1_init 23 = .ok (.putfield 20, 3) := dk_181 0 20 (dk_at dksX1_init_1 0 rfl rfl)
theorem dX1_init_26 : decode cX1_init 26 = .ok (.aload_n 0, 1) := dk_42 (dk_at dksX1_init_1 3 rfl rfl)
theorem dX1_init_27 : decode cX1_init 27 = .ok (.new 13, 3) := dk_187 0 13 (dk_at dksX1_init_1 4 rfl rfl)
theorem dX1_init_30 : decode cX1_init 30 = .ok (.dup, 1) := dk_89 (dk_at dksX1_init_1 7 rfl rfl)
theorem dX1_init_31 : decode cX1_init 31 = .ok (.invokespecial 15, 3) := dk_183 0 15 (dk_at dksX1_init_1 8 rfl rfl)
theorem dX1_init_34 : decode cX1_init 34 = .ok (.putfield 23, 3) := dk_181 0 23 (dk_at dksX1_init_1 11 rfl rfl)
theorem dX1_init_37 : decode cX1_init 37 = .ok (.aload_n 0, 1) := dk_42 (dk_at dksX1_init_1 14 rfl rfl)
theorem dX1_init_38 : decode cX1_init 38 = .ok (.new 26, 3) := dk_187 0 26 (dk_at dksX1_init_1 15 rfl rfl)
theorem dX1_init_41 : decode cX1_init 41 = .ok (.dup, 1) := dk_89 (dk_at dksX1_init_1 18 rfl rfl)
theorem dX1_init_42 : decode cX1_init 42 = .ok (.invokespecial 28, 3) := dk_183 0 28 (dk_at dksX1_init_1 19 rfl rfl)
theorem dX1_init_45 : decode cX1_init 45 = .ok (.putfield 29, 3) := dk_181 0 29 (dk_at dksX1_init_2 0 rfl rfl)
theorem dX1_init_48 : decode cX1_init 48 = .ok (.aload_n 0, 1) := dk_42 (dk_at dksX1_init_2 3 rfl rfl)
theorem dX1_init_49 : decode cX1_init 49 = .ok (.new 33, 3) := dk_187 0 33 (dk_at dksX1_init_2 4 rfl rfl)
theorem dX1_init_52 : decode cX1_init 52 = .ok (.dup, 1) := dk_89 (dk_at dksX1_init_2 7 rfl rfl)
theorem dX1_init_53 : decode cX1_init 53 = .ok (.invokespecial 35, 3) := dk_183 0 35 (dk_at dksX1_init_2 8 rfl rfl)
theorem dX1_init_56 : decode cX1_init 56 = .ok (.putfield 36, 3) := dk_181 0 36 (dk_at dksX1_init_2 11 rfl rfl)
theorem dX1_init_59 : decode cX1_init 59 = .ok (.aload_n 0, 1) := dk_42 (dk_at dksX1_init_2 14 rfl rfl)
theorem dX1_init_60 : decode cX1_init 60 = .ok (.iconst (-1), 1) := dk_2 (dk_at dksX1_init_2 15 rfl rfl)
theorem dX1_init_61 : decode cX1_init 61 = .ok (.putfield 40, 3) := dk_181 0 40 (dk_at dksX1_init_2 16 rfl rfl)
theorem dX1_init_64 : decode cX1_init 64 = .ok (.aload_n 0, 1) := dk_42 (dk_at dksX1_init_2 19 rfl rfl)
theorem dX1_init_65 : decode cX1_init 65 = .ok (.iconst (-1), 1) := dk_2 (dk_at dksX1_init_2 20 rfl rfl)
theorem dX1_init_66 : decode cX1_init 66 = .ok (.putfield 44, 3) := dk_181 0 44 (dk_at dksX1_init_2 21 rfl rfl)
theorem dX1_init_69 : decode cX1_init 69 = .ok (.return_, 1) := dk_177 (dk_at dksX1_init_3 0 rfl rfl)
abbrev cX1_faultPosition : ByteArray := prog_1_method_41_code
def yX1_faultPosition : MethodName := ⟨RX1, "faultPosition", "()I"⟩
theorem dX1_faultPosition_0 : decode cX1_faultPosition 0 = .ok (.aload_n 0, 1) := by decide +kernel
theorem dX1_faultPosition_1 : decode cX1_faultPosition 1 = .ok (.getfield 40, 3) := by decide +kernel
theorem dX1_faultPosition_4 : decode cX1_faultPosition 4 = .ok (.ireturn, 1) := by decide +kernel
abbrev cX1_isBalanced : ByteArray := prog_1_method_44_code
def yX1_isBalanced : MethodName := ⟨RX1, "isBalanced", "()Z"⟩
def dkwX1_isBalanced_0 : List UInt8 := [42, 180, 0, 16, 182, 1, 106, 172]
abbrev dktX1_isBalanced_0 : List UInt8 := dkwX1_isBalanced_0 ++ []
theorem dksX1_isBalanced_0 : cX1_isBalanced.data.toList.drop 0 = dktX1_isBalanced_0 := by decide +kernel
theorem dX1_isBalanced_0 : decode cX1_isBalanced 0 = .ok (.aload_n 0, 1) := dk_42 (dk_at dksX1_isBalanced_0 0 rfl rfl)
theorem dX1_isBalanced_1 : decode cX1_isBalanced 1 = .ok (.getfield 16, 3) := dk_180 0 16 (dk_at dksX1_isBalanced_0 1 rfl rfl)
theorem dX1_isBalanced_4 : decode cX1_isBalanced 4 = .ok (.invokevirtual 362, 3) := dk_182 1 106 (dk_at dksX1_isBalanced_0 4 rfl rfl)
theorem dX1_isBalanced_7 : decode cX1_isBalanced 7 = .ok (.ireturn, 1) := dk_172 (dk_at dksX1_isBalanced_0 7 rfl rfl)
abbrev cX1_save : ByteArray := prog_1_method_48_code
def yX1_save : MethodName := ⟨RX1, "save", "()I"⟩
def dkwX1_save_0 : List UInt8 := [42, 180, 0, 23, 42, 180, 0, 16, 182, 0, 88, 42, 4, 181, 1, 124, 42, 180, 0, 16, 180, 1, 85, 172]
abbrev dktX1_save_0 : List UInt8 := dkwX1_save_0 ++ []
theorem dksX1_save_0 : cX1_save.data.toList.drop 0 = dktX1_save_0 := by decide +kernel
theorem dX1_save_0 : decode cX1_save 0 = .ok (.aload_n 0, 1) := dk_42 (dk_at dksX1_save_0 0 rfl rfl)
theorem dX1_save_1 : decode cX1_save 1 = .ok (.getfield 23, 3) := dk_180 0 23 (dk_at dksX1_save_0 1 rfl rfl)
theorem dX1_save_4 : decode cX1_save 4 = .ok (.aload_n 0, 1) := dk_42 (dk_at dksX1_save_0 4 rfl rfl)
theorem dX1_save_5 : decode cX1_save 5 = .ok (.getfield 16, 3) := dk_180 0 16 (dk_at dksX1_save_0 5 rfl rfl)
theorem dX1_save_8 : decode cX1_save 8 = .ok (.invokevirtual 88, 3) := dk_182 0 88 (dk_at dksX1_save_0 8 rfl rfl)
theorem dX1_save_11 : decode cX1_save 11 = .ok (.aload_n 0, 1) := dk_42 (dk_at dksX1_save_0 11 rfl rfl)
theorem dX1_save_12 : decode cX1_save 12 = .ok (.iconst 1, 1) := dk_4 (dk_at dksX1_save_0 12 rfl rfl)
theorem dX1_save_13 : decode cX1_save 13 = .ok (.putfield 380, 3) := dk_181 1 124 (dk_at dksX1_save_0 13 rfl rfl)
theorem dX1_save_16 : decode cX1_save 16 = .ok (.aload_n 0, 1) := dk_42 (dk_at dksX1_save_0 16 rfl rfl)
theorem dX1_save_17 : decode cX1_save 17 = .ok (.getfield 16, 3) := dk_180 0 16 (dk_at dksX1_save_0 17 rfl rfl)
theorem dX1_save_20 : decode cX1_save 20 = .ok (.getfield 341, 3) := dk_180 1 85 (dk_at dksX1_save_0 20 rfl rfl)
theorem dX1_save_23 : decode cX1_save 23 = .ok (.ireturn, 1) := dk_172 (dk_at dksX1_save_0 23 rfl rfl)
abbrev cX1_wind : ByteArray := prog_1_method_13_code
def yX1_wind : MethodName := ⟨RX1, "wind", "(III)I"⟩
def dkwX1_wind_2 : List UInt8 := [27, 29, 79, 21, 4, 172]
abbrev dktX1_wind_2 : List UInt8 := dkwX1_wind_2 ++ []
def dkwX1_wind_1 : List UInt8 := [180, 0, 109, 27, 46, 54, 4, 42, 180, 0, 16, 180, 0, 109, 27, 28, 79, 42, 180, 0, 16, 180, 0, 113]
abbrev dktX1_wind_1 : List UInt8 := dkwX1_wind_1 ++ dktX1_wind_2
def dkwX1_wind_0 : List UInt8 := [27, 184, 0, 96, 184, 0, 72, 28, 29, 184, 0, 99, 184, 0, 103, 42, 182, 0, 106, 42, 180, 0, 16]
abbrev dktX1_wind_0 : List UInt8 := dkwX1_wind_0 ++ dktX1_wind_1
theorem dksX1_wind_0 : cX1_wind.data.toList.drop 0 = dktX1_wind_0 := by decide +kernel
theorem dksX1_wind_1 : cX1_wind.data.toList.drop 23 = dktX1_wind_1 := dk_seg dksX1_wind_0 23 rfl rfl
theorem dksX1_wind_2 : cX1_wind.data.toList.drop 47 = dktX1_wind_2 := dk_seg dksX1_wind_1 24 rfl rfl
theorem dX1_wind_0 : decode cX1_wind 0 = .ok (.iload_n 1, 1) := dk_27 (dk_at dksX1_wind_0 0 rfl rfl)
theorem dX1_wind_1 : decode cX1_wind 1 = .ok (.invokestatic 96, 3) := dk_184 0 96 (dk_at dksX1_wind_0 1 rfl rfl)
theorem dX1_wind_4 : decode cX1_wind 4 = .ok (.invokestatic 72, 3) := dk_184 0 72 (dk_at dksX1_wind_0 4 rfl rfl)
theorem dX1_wind_7 : decode cX1_wind 7 = .ok (.iload_n 2, 1) := dk_28 (dk_at dksX1_wind_0 7 rfl rfl)
theorem dX1_wind_8 : decode cX1_wind 8 = .ok (.iload_n 3, 1) := dk_29 (dk_at dksX1_wind_0 8 rfl rfl)
theorem dX1_wind_9 : decode cX1_wind 9 = .ok (.invokestatic 99, 3) := dk_184 0 99 (dk_at dksX1_wind_0 9 rfl rfl)
theorem dX1_wind_12 : decode cX1_wind 12 = .ok (.invokestatic 103, 3) := dk_184 0 103 (dk_at dksX1_wind_0 12 rfl rfl)
theorem dX1_wind_15 : decode cX1_wind 15 = .ok (.aload_n 0, 1) := dk_42 (dk_at dksX1_wind_0 15 rfl rfl)
theorem dX1_wind_16 : decode cX1_wind 16 = .ok (.invokevirtual 106, 3) := dk_182 0 106 (dk_at dksX1_wind_0 16 rfl rfl)
theorem dX1_wind_19 : decode cX1_wind 19 = .ok (.aload_n 0, 1) := dk_42 (dk_at dksX1_wind_0 19 rfl rfl)
theorem dX1_wind_20 : decode cX1_wind 20 = .ok (.getfield 16, 3) := dk_180 0 16 (dk_at dksX1_wind_0 20 rfl rfl)
theorem dX1_wind_23 : decode cX1_wind 23 = .ok (.getfield 109, 3) := dk_180 0 109 (dk_at dksX1_wind_1 0 rfl rfl)
theorem dX1_wind_26 : decode cX1_wind 26 = .ok (.iload_n 1, 1) := dk_27 (dk_at dksX1_wind_1 3 rfl rfl)
theorem dX1_wind_27 : decode cX1_wind 27 = .ok (.iaload, 1) := dk_46 (dk_at dksX1_wind_1 4 rfl rfl)
theorem dX1_wind_28 : decode cX1_wind 28 = .ok (.istore 4, 2) := dk_54 4 (dk_at dksX1_wind_1 5 rfl rfl)
theorem dX1_wind_30 : decode cX1_wind 30 = .ok (.aload_n 0, 1) := dk_42 (dk_at dksX1_wind_1 7 rfl rfl)
theorem dX1_wind_31 : decode cX1_wind 31 = .ok (.getfield 16, 3) := dk_180 0 16 (dk_at dksX1_wind_1 8 rfl rfl)
theorem dX1_wind_34 : decode cX1_wind 34 = .ok (.getfield 109, 3) := dk_180 0 109 (dk_at dksX1_wind_1 11 rfl rfl)
theorem dX1_wind_37 : decode cX1_wind 37 = .ok (.iload_n 1, 1) := dk_27 (dk_at dksX1_wind_1 14 rfl rfl)
theorem dX1_wind_38 : decode cX1_wind 38 = .ok (.iload_n 2, 1) := dk_28 (dk_at dksX1_wind_1 15 rfl rfl)
theorem dX1_wind_39 : decode cX1_wind 39 = .ok (.iastore, 1) := dk_79 (dk_at dksX1_wind_1 16 rfl rfl)
theorem dX1_wind_40 : decode cX1_wind 40 = .ok (.aload_n 0, 1) := dk_42 (dk_at dksX1_wind_1 17 rfl rfl)
theorem dX1_wind_41 : decode cX1_wind 41 = .ok (.getfield 16, 3) := dk_180 0 16 (dk_at dksX1_wind_1 18 rfl rfl)
theorem dX1_wind_44 : decode cX1_wind 44 = .ok (.getfield 113, 3) := dk_180 0 113 (dk_at dksX1_wind_1 21 rfl rfl)
theorem dX1_wind_47 : decode cX1_wind 47 = .ok (.iload_n 1, 1) := dk_27 (dk_at dksX1_wind_2 0 rfl rfl)
theorem dX1_wind_48 : decode cX1_wind 48 = .ok (.iload_n 3, 1) := dk_29 (dk_at dksX1_wind_2 1 rfl rfl)
theorem dX1_wind_49 : decode cX1_wind 49 = .ok (.iastore, 1) := dk_79 (dk_at dksX1_wind_2 2 rfl rfl)
theorem dX1_wind_50 : decode cX1_wind 50 = .ok (.iload 4, 2) := dk_21 4 (dk_at dksX1_wind_2 3 rfl rfl)
theorem dX1_wind_52 : decode cX1_wind 52 = .ok (.ireturn, 1) := dk_172 (dk_at dksX1_wind_2 5 rfl rfl)
abbrev cX1_isLayer : ByteArray := prog_1_method_2_code
def yX1_isLayer : MethodName := ⟨RX1, "isLayer", "(I)Z"⟩
def dkwX1_isLayer_0 : List UInt8 := [26, 3, 16, 9, 184, 0, 3, 172]
abbrev dktX1_isLayer_0 : List UInt8 := dkwX1_isLayer_0 ++ []
theorem dksX1_isLayer_0 : cX1_isLayer.data.toList.drop 0 = dktX1_isLayer_0 := by decide +kernel
theorem dX1_isLayer_0 : decode cX1_isLayer 0 = .ok (.iload_n 0, 1) := dk_26 (dk_at dksX1_isLayer_0 0 rfl rfl)
theorem dX1_isLayer_1 : decode cX1_isLayer 1 = .ok (.iconst 0, 1) := dk_3 (dk_at dksX1_isLayer_0 1 rfl rfl)
theorem dX1_isLayer_2 : decode cX1_isLayer 2 = .ok (.bipush 9, 2) := dk_16 9 (dk_at dksX1_isLayer_0 2 rfl rfl)
theorem dX1_isLayer_4 : decode cX1_isLayer 4 = .ok (.invokestatic 3, 3) := dk_184 0 3 (dk_at dksX1_isLayer_0 4 rfl rfl)
theorem dX1_isLayer_7 : decode cX1_isLayer 7 = .ok (.ireturn, 1) := dk_172 (dk_at dksX1_isLayer_0 7 rfl rfl)
abbrev cX1_in : ByteArray := prog_1_method_1_code
def yX1_in : MethodName := ⟨RX1, "in", "(III)Z"⟩
def dkwX1_in_0 : List UInt8 := [26, 27, 161, 0, 12, 26, 28, 163, 0, 7, 4, 167, 0, 4, 3, 172]
abbrev dktX1_in_0 : List UInt8 := dkwX1_in_0 ++ []
theorem dksX1_in_0 : cX1_in.data.toList.drop 0 = dktX1_in_0 := by decide +kernel
theorem dX1_in_0 : decode cX1_in 0 = .ok (.iload_n 0, 1) := dk_26 (dk_at dksX1_in_0 0 rfl rfl)
theorem dX1_in_1 : decode cX1_in 1 = .ok (.iload_n 1, 1) := dk_27 (dk_at dksX1_in_0 1 rfl rfl)
theorem dX1_in_2 : decode cX1_in 2 = .ok (.if_icmp .lt 12, 3) := dk_161 0 12 (dk_at dksX1_in_0 2 rfl rfl)
theorem dX1_in_5 : decode cX1_in 5 = .ok (.iload_n 0, 1) := dk_26 (dk_at dksX1_in_0 5 rfl rfl)
theorem dX1_in_6 : decode cX1_in 6 = .ok (.iload_n 2, 1) := dk_28 (dk_at dksX1_in_0 6 rfl rfl)
theorem dX1_in_7 : decode cX1_in 7 = .ok (.if_icmp .gt 7, 3) := dk_163 0 7 (dk_at dksX1_in_0 7 rfl rfl)
theorem dX1_in_10 : decode cX1_in 10 = .ok (.iconst 1, 1) := dk_4 (dk_at dksX1_in_0 10 rfl rfl)
theorem dX1_in_11 : decode cX1_in 11 = .ok (.goto 4, 3) := dk_167 0 4 (dk_at dksX1_in_0 11 rfl rfl)
theorem dX1_in_14 : decode cX1_in 14 = .ok (.iconst 0, 1) := dk_3 (dk_at dksX1_in_0 14 rfl rfl)
theorem dX1_in_15 : decode cX1_in 15 = .ok (.ireturn, 1) := dk_172 (dk_at dksX1_in_0 15 rfl rfl)
abbrev cX1_checkIndex : ByteArray := prog_1_method_8_code
def yX1_checkIndex : MethodName := ⟨RX1, "checkIndex", "(Z)V"⟩
def dkwX1_checkIndex_0 : List UInt8 := [26, 154, 0, 11, 187, 0, 56, 89, 183, 0, 58, 191, 177]
abbrev dktX1_checkIndex_0 : List UInt8 := dkwX1_checkIndex_0 ++ []
theorem dksX1_checkIndex_0 : cX1_checkIndex.data.toList.drop 0 = dktX1_checkIndex_0 := by decide +kernel
theorem dX1_checkIndex_0 : decode cX1_checkIndex 0 = .ok (.iload_n 0, 1) := dk_26 (dk_at dksX1_checkIndex_0 0 rfl rfl)
theorem dX1_checkIndex_1 : decode cX1_checkIndex 1 = .ok (.ifCond .ne 11, 3) := dk_154 0 11 (dk_at dksX1_checkIndex_0 1 rfl rfl)
theorem dX1_checkIndex_4 : decode cX1_checkIndex 4 = .ok (.new 56, 3) := dk_187 0 56 (dk_at dksX1_checkIndex_0 4 rfl rfl)
theorem dX1_checkIndex_7 : decode cX1_checkIndex 7 = .ok (.dup, 1) := dk_89 (dk_at dksX1_checkIndex_0 7 rfl rfl)
theorem dX1_checkIndex_8 : decode cX1_checkIndex 8 = .ok (.invokespecial 58, 3) := dk_183 0 58 (dk_at dksX1_checkIndex_0 8 rfl rfl)
theorem dX1_checkIndex_11 : decode cX1_checkIndex 11 = .ok (.athrow, 1) := dk_191 (dk_at dksX1_checkIndex_0 11 rfl rfl)
theorem dX1_checkIndex_12 : decode cX1_checkIndex 12 = .ok (.return_, 1) := dk_177 (dk_at dksX1_checkIndex_0 12 rfl rfl)
abbrev cX1_isWind : ByteArray := prog_1_method_3_code
def yX1_isWind : MethodName := ⟨RX1, "isWind", "(II)Z"⟩
def dkwX1_isWind_1 : List UInt8 := [3, 172]
abbrev dktX1_isWind_1 : List UInt8 := dkwX1_isWind_1 ++ []
def dkwX1_isWind_0 : List UInt8 := [26, 3, 16, 9, 184, 0, 3, 153, 0, 17, 27, 16, 253, 6, 184, 0, 3, 153, 0, 7, 4, 167, 0, 4]
abbrev dktX1_isWind_0 : List UInt8 := dkwX1_isWind_0 ++ dktX1_isWind_1
theorem dksX1_isWind_0 : cX1_isWind.data.toList.drop 0 = dktX1_isWind_0 := by decide +kernel
theorem dksX1_isWind_1 : cX1_isWind.data.toList.drop 24 = dktX1_isWind_1 := dk_seg dksX1_isWind_0 24 rfl rfl
theorem dX1_isWind_0 : decode cX1_isWind 0 = .ok (.iload_n 0, 1) := dk_26 (dk_at dksX1_isWind_0 0 rfl rfl)
theorem dX1_isWind_1 : decode cX1_isWind 1 = .ok (.iconst 0, 1) := dk_3 (dk_at dksX1_isWind_0 1 rfl rfl)
theorem dX1_isWind_2 : decode cX1_isWind 2 = .ok (.bipush 9, 2) := dk_16 9 (dk_at dksX1_isWind_0 2 rfl rfl)
theorem dX1_isWind_4 : decode cX1_isWind 4 = .ok (.invokestatic 3, 3) := dk_184 0 3 (dk_at dksX1_isWind_0 4 rfl rfl)
theorem dX1_isWind_7 : decode cX1_isWind 7 = .ok (.ifCond .eq 17, 3) := dk_153 0 17 (dk_at dksX1_isWind_0 7 rfl rfl)
theorem dX1_isWind_10 : decode cX1_isWind 10 = .ok (.iload_n 1, 1) := dk_27 (dk_at dksX1_isWind_0 10 rfl rfl)
theorem dX1_isWind_11 : decode cX1_isWind 11 = .ok (.bipush (-3), 2) := dk_16 253 (dk_at dksX1_isWind_0 11 rfl rfl)
theorem dX1_isWind_13 : decode cX1_isWind 13 = .ok (.iconst 3, 1) := dk_6 (dk_at dksX1_isWind_0 13 rfl rfl)
theorem dX1_isWind_14 : decode cX1_isWind 14 = .ok (.invokestatic 3, 3) := dk_184 0 3 (dk_at dksX1_isWind_0 14 rfl rfl)
theorem dX1_isWind_17 : decode cX1_isWind 17 = .ok (.ifCond .eq 7, 3) := dk_153 0 7 (dk_at dksX1_isWind_0 17 rfl rfl)
theorem dX1_isWind_20 : decode cX1_isWind 20 = .ok (.iconst 1, 1) := dk_4 (dk_at dksX1_isWind_0 20 rfl rfl)
theorem dX1_isWind_21 : decode cX1_isWind 21 = .ok (.goto 4, 3) := dk_167 0 4 (dk_at dksX1_isWind_0 21 rfl rfl)
theorem dX1_isWind_24 : decode cX1_isWind 24 = .ok (.iconst 0, 1) := dk_3 (dk_at dksX1_isWind_1 0 rfl rfl)
theorem dX1_isWind_25 : decode cX1_isWind 25 = .ok (.ireturn, 1) := dk_172 (dk_at dksX1_isWind_1 1 rfl rfl)
abbrev cX1_check : ByteArray := prog_1_method_5_code
def yX1_check : MethodName := ⟨RX1, "check", "(Z)V"⟩
def dkwX1_check_0 : List UInt8 := [26, 154, 0, 11, 187, 0, 47, 89, 183, 0, 49, 191, 177]
abbrev dktX1_check_0 : List UInt8 := dkwX1_check_0 ++ []
theorem dksX1_check_0 : cX1_check.data.toList.drop 0 = dktX1_check_0 := by decide +kernel
theorem dX1_check_0 : decode cX1_check 0 = .ok (.iload_n 0, 1) := dk_26 (dk_at dksX1_check_0 0 rfl rfl)
theorem dX1_check_1 : decode cX1_check 1 = .ok (.ifCond .ne 11, 3) := dk_154 0 11 (dk_at dksX1_check_0 1 rfl rfl)
theorem dX1_check_4 : decode cX1_check 4 = .ok (.new 47, 3) := dk_187 0 47 (dk_at dksX1_check_0 4 rfl rfl)
theorem dX1_check_7 : decode cX1_check 7 = .ok (.dup, 1) := dk_89 (dk_at dksX1_check_0 7 rfl rfl)
theorem dX1_check_8 : decode cX1_check 8 = .ok (.invokespecial 49, 3) := dk_183 0 49 (dk_at dksX1_check_0 8 rfl rfl)
theorem dX1_check_11 : decode cX1_check 11 = .ok (.athrow, 1) := dk_191 (dk_at dksX1_check_0 11 rfl rfl)
theorem dX1_check_12 : decode cX1_check 12 = .ok (.return_, 1) := dk_177 (dk_at dksX1_check_0 12 rfl rfl)
abbrev cX1_keep : ByteArray := prog_1_method_12_code
def yX1_keep : MethodName := ⟨RX1, "keep", "()V"⟩
def dkwX1_keep_2 : List UInt8 := [182, 0, 92, 177]
abbrev dktX1_keep_2 : List UInt8 := dkwX1_keep_2 ++ []
def dkwX1_keep_1 : List UInt8 := [167, 0, 10, 187, 0, 13, 89, 183, 0, 15, 76, 43, 42, 180, 0, 16, 182, 0, 88, 42, 180, 0, 29, 43]
abbrev dktX1_keep_1 : List UInt8 := dkwX1_keep_1 ++ dktX1_keep_2
def dkwX1_keep_0 : List UInt8 := [42, 180, 0, 29, 182, 0, 80, 16, 8, 160, 0, 16, 42, 180, 0, 29, 182, 0, 84, 192, 0, 13]
abbrev dktX1_keep_0 : List UInt8 := dkwX1_keep_0 ++ dktX1_keep_1
theorem dksX1_keep_0 : cX1_keep.data.toList.drop 0 = dktX1_keep_0 := by decide +kernel
theorem dksX1_keep_1 : cX1_keep.data.toList.drop 22 = dktX1_keep_1 := dk_seg dksX1_keep_0 22 rfl rfl
theorem dksX1_keep_2 : cX1_keep.data.toList.drop 46 = dktX1_keep_2 := dk_seg dksX1_keep_1 24 rfl rfl
theorem dX1_keep_0 : decode cX1_keep 0 = .ok (.aload_n 0, 1) := dk_42 (dk_at dksX1_keep_0 0 rfl rfl)
theorem dX1_keep_1 : decode cX1_keep 1 = .ok (.getfield 29, 3) := dk_180 0 29 (dk_at dksX1_keep_0 1 rfl rfl)
theorem dX1_keep_4 : decode cX1_keep 4 = .ok (.invokevirtual 80, 3) := dk_182 0 80 (dk_at dksX1_keep_0 4 rfl rfl)
theorem dX1_keep_7 : decode cX1_keep 7 = .ok (.bipush 8, 2) := dk_16 8 (dk_at dksX1_keep_0 7 rfl rfl)
theorem dX1_keep_9 : decode cX1_keep 9 = .ok (.if_icmp .ne 16, 3) := dk_160 0 16 (dk_at dksX1_keep_0 9 rfl rfl)
theorem dX1_keep_12 : decode cX1_keep 12 = .ok (.aload_n 0, 1) := dk_42 (dk_at dksX1_keep_0 12 rfl rfl)
theorem dX1_keep_13 : decode cX1_keep 13 = .ok (.getfield 29, 3) := dk_180 0 29 (dk_at dksX1_keep_0 13 rfl rfl)
theorem dX1_keep_16 : decode cX1_keep 16 = .ok (.invokevirtual 84, 3) := dk_182 0 84 (dk_at dksX1_keep_0 16 rfl rfl)
theorem dX1_keep_19 : decode cX1_keep 19 = .ok (.checkcast 13, 3) := dk_192 0 13 (dk_at dksX1_keep_0 19 rfl rfl)
theorem dX1_keep_22 : decode cX1_keep 22 = .ok (.goto 10, 3) := dk_167 0 10 (dk_at dksX1_keep_1 0 rfl rfl)
theorem dX1_keep_25 : decode cX1_keep 25 = .ok (.new 13, 3) := dk_187 0 13 (dk_at dksX1_keep_1 3 rfl rfl)
theorem dX1_keep_28 : decode cX1_keep 28 = .ok (.dup, 1) := dk_89 (dk_at dksX1_keep_1 6 rfl rfl)
theorem dX1_keep_29 : decode cX1_keep 29 = .ok (.invokespecial 15, 3) := dk_183 0 15 (dk_at dksX1_keep_1 7 rfl rfl)
theorem dX1_keep_32 : decode cX1_keep 32 = .ok (.astore_n 1, 1) := dk_76 (dk_at dksX1_keep_1 10 rfl rfl)
theorem dX1_keep_33 : decode cX1_keep 33 = .ok (.aload_n 1, 1) := dk_43 (dk_at dksX1_keep_1 11 rfl rfl)
theorem dX1_keep_34 : decode cX1_keep 34 = .ok (.aload_n 0, 1) := dk_42 (dk_at dksX1_keep_1 12 rfl rfl)
theorem dX1_keep_35 : decode cX1_keep 35 = .ok (.getfield 16, 3) := dk_180 0 16 (dk_at dksX1_keep_1 13 rfl rfl)
theorem dX1_keep_38 : decode cX1_keep 38 = .ok (.invokevirtual 88, 3) := dk_182 0 88 (dk_at dksX1_keep_1 16 rfl rfl)
theorem dX1_keep_41 : decode cX1_keep 41 = .ok (.aload_n 0, 1) := dk_42 (dk_at dksX1_keep_1 19 rfl rfl)
theorem dX1_keep_42 : decode cX1_keep 42 = .ok (.getfield 29, 3) := dk_180 0 29 (dk_at dksX1_keep_1 20 rfl rfl)
theorem dX1_keep_45 : decode cX1_keep 45 = .ok (.aload_n 1, 1) := dk_43 (dk_at dksX1_keep_1 23 rfl rfl)
theorem dX1_keep_46 : decode cX1_keep 46 = .ok (.invokevirtual 92, 3) := dk_182 0 92 (dk_at dksX1_keep_2 0 rfl rfl)
theorem dX1_keep_49 : decode cX1_keep 49 = .ok (.return_, 1) := dk_177 (dk_at dksX1_keep_2 3 rfl rfl)
abbrev cX1_windOf : ByteArray := prog_1_method_14_code
def yX1_windOf : MethodName := ⟨RX1, "windOf", "(IZ)I"⟩
def dkwX1_windOf_1 : List UInt8 := [180, 0, 16, 180, 0, 109, 27, 46, 172]
abbrev dktX1_windOf_1 : List UInt8 := dkwX1_windOf_1 ++ []
def dkwX1_windOf_0 : List UInt8 := [27, 184, 0, 96, 184, 0, 72, 28, 153, 0, 15, 42, 180, 0, 16, 180, 0, 113, 27, 46, 167, 0, 12, 42]
abbrev dktX1_windOf_0 : List UInt8 := dkwX1_windOf_0 ++ dktX1_windOf_1
theorem dksX1_windOf_0 : cX1_windOf.data.toList.drop 0 = dktX1_windOf_0 := by decide +kernel
theorem dksX1_windOf_1 : cX1_windOf.data.toList.drop 24 = dktX1_windOf_1 := dk_seg dksX1_windOf_0 24 rfl rfl
theorem dX1_windOf_0 : decode cX1_windOf 0 = .ok (.iload_n 1, 1) := dk_27 (dk_at dksX1_windOf_0 0 rfl rfl)
theorem dX1_windOf_1 : decode cX1_windOf 1 = .ok (.invokestatic 96, 3) := dk_184 0 96 (dk_at dksX1_windOf_0 1 rfl rfl)
theorem dX1_windOf_4 : decode cX1_windOf 4 = .ok (.invokestatic 72, 3) := dk_184 0 72 (dk_at dksX1_windOf_0 4 rfl rfl)
theorem dX1_windOf_7 : decode cX1_windOf 7 = .ok (.iload_n 2, 1) := dk_28 (dk_at dksX1_windOf_0 7 rfl rfl)
theorem dX1_windOf_8 : decode cX1_windOf 8 = .ok (.ifCond .eq 15, 3) := dk_153 0 15 (dk_at dksX1_windOf_0 8 rfl rfl)
theorem dX1_windOf_11 : decode cX1_windOf 11 = .ok (.aload_n 0, 1) := dk_42 (dk_at dksX1_windOf_0 11 rfl rfl)
theorem dX1_windOf_12 : decode cX1_windOf 12 = .ok (.getfield 16, 3) := dk_180 0 16 (dk_at dksX1_windOf_0 12 rfl rfl)
theorem dX1_windOf_15 : decode cX1_windOf 15 = .ok (.getfield 113, 3) := dk_180 0 113 (dk_at dksX1_windOf_0 15 rfl rfl)
theorem dX1_windOf_18 : decode cX1_windOf 18 = .ok (.iload_n 1, 1) := dk_27 (dk_at dksX1_windOf_0 18 rfl rfl)
theorem dX1_windOf_19 : decode cX1_windOf 19 = .ok (.iaload, 1) := dk_46 (dk_at dksX1_windOf_0 19 rfl rfl)
theorem dX1_windOf_20 : decode cX1_windOf 20 = .ok (.goto 12, 3) := dk_167 0 12 (dk_at dksX1_windOf_0 20 rfl rfl)
theorem dX1_windOf_23 : decode cX1_windOf 23 = .ok (.aload_n 0, 1) := dk_42 (dk_at dksX1_windOf_0 23 rfl rfl)
theorem dX1_windOf_24 : decode cX1_windOf 24 = .ok (.getfield 16, 3) := dk_180 0 16 (dk_at dksX1_windOf_1 0 rfl rfl)
theorem dX1_windOf_27 : decode cX1_windOf 27 = .ok (.getfield 109, 3) := dk_180 0 109 (dk_at dksX1_windOf_1 3 rfl rfl)
theorem dX1_windOf_30 : decode cX1_windOf 30 = .ok (.iload_n 1, 1) := dk_27 (dk_at dksX1_windOf_1 6 rfl rfl)
theorem dX1_windOf_31 : decode cX1_windOf 31 = .ok (.iaload, 1) := dk_46 (dk_at dksX1_windOf_1 7 rfl rfl)
theorem dX1_windOf_32 : decode cX1_windOf 32 = .ok (.ireturn, 1) := dk_172 (dk_at dksX1_windOf_1 8 rfl rfl)
abbrev cX1_kite : ByteArray := prog_1_method_16_code
def yX1_kite : MethodName := ⟨RX1, "kite", "(IIII)I"⟩
def dkwX1_kite_2 : List UInt8 := [21, 4, 182, 0, 133, 172]
abbrev dktX1_kite_2 : List UInt8 := dkwX1_kite_2 ++ []
def dkwX1_kite_1 : List UInt8 := [4, 167, 0, 4, 3, 2, 182, 0, 123, 42, 182, 0, 106, 42, 180, 0, 16, 27, 184, 0, 127, 28, 29]
abbrev dktX1_kite_1 : List UInt8 := dkwX1_kite_1 ++ dktX1_kite_2
def dkwX1_kite_0 : List UInt8 := [27, 28, 29, 21, 4, 184, 0, 116, 184, 0, 103, 42, 42, 180, 0, 16, 180, 0, 120, 16, 6, 160, 0, 7]
abbrev dktX1_kite_0 : List UInt8 := dkwX1_kite_0 ++ dktX1_kite_1
theorem dksX1_kite_0 : cX1_kite.data.toList.drop 0 = dktX1_kite_0 := by decide +kernel
theorem dksX1_kite_1 : cX1_kite.data.toList.drop 24 = dktX1_kite_1 := dk_seg dksX1_kite_0 24 rfl rfl
theorem dksX1_kite_2 : cX1_kite.data.toList.drop 47 = dktX1_kite_2 := dk_seg dksX1_kite_1 23 rfl rfl
theorem dX1_kite_0 : decode cX1_kite 0 = .ok (.iload_n 1, 1) := dk_27 (dk_at dksX1_kite_0 0 rfl rfl)
theorem dX1_kite_1 : decode cX1_kite 1 = .ok (.iload_n 2, 1) := dk_28 (dk_at dksX1_kite_0 1 rfl rfl)
theorem dX1_kite_2 : decode cX1_kite 2 = .ok (.iload_n 3, 1) := dk_29 (dk_at dksX1_kite_0 2 rfl rfl)
theorem dX1_kite_3 : decode cX1_kite 3 = .ok (.iload 4, 2) := dk_21 4 (dk_at dksX1_kite_0 3 rfl rfl)
theorem dX1_kite_5 : decode cX1_kite 5 = .ok (.invokestatic 116, 3) := dk_184 0 116 (dk_at dksX1_kite_0 5 rfl rfl)
theorem dX1_kite_8 : decode cX1_kite 8 = .ok (.invokestatic 103, 3) := dk_184 0 103 (dk_at dksX1_kite_0 8 rfl rfl)
theorem dX1_kite_11 : decode cX1_kite 11 = .ok (.aload_n 0, 1) := dk_42 (dk_at dksX1_kite_0 11 rfl rfl)
theorem dX1_kite_12 : decode cX1_kite 12 = .ok (.aload_n 0, 1) := dk_42 (dk_at dksX1_kite_0 12 rfl rfl)
theorem dX1_kite_13 : decode cX1_kite 13 = .ok (.getfield 16, 3) := dk_180 0 16 (dk_at dksX1_kite_0 13 rfl rfl)
theorem dX1_kite_16 : decode cX1_kite 16 = .ok (.getfield 120, 3) := dk_180 0 120 (dk_at dksX1_kite_0 16 rfl rfl)
theorem dX1_kite_19 : decode cX1_kite 19 = .ok (.bipush 6, 2) := dk_16 6 (dk_at dksX1_kite_0 19 rfl rfl)
theorem dX1_kite_21 : decode cX1_kite 21 = .ok (.if_icmp .ne 7, 3) := dk_160 0 7 (dk_at dksX1_kite_0 21 rfl rfl)
theorem dX1_kite_24 : decode cX1_kite 24 = .ok (.iconst 1, 1) := dk_4 (dk_at dksX1_kite_1 0 rfl rfl)
theorem dX1_kite_25 : decode cX1_kite 25 = .ok (.goto 4, 3) := dk_167 0 4 (dk_at dksX1_kite_1 1 rfl rfl)
theorem dX1_kite_28 : decode cX1_kite 28 = .ok (.iconst 0, 1) := dk_3 (dk_at dksX1_kite_1 4 rfl rfl)
theorem dX1_kite_29 : decode cX1_kite 29 = .ok (.iconst (-1), 1) := dk_2 (dk_at dksX1_kite_1 5 rfl rfl)
theorem dX1_kite_30 : decode cX1_kite 30 = .ok (.invokevirtual 123, 3) := dk_182 0 123 (dk_at dksX1_kite_1 6 rfl rfl)
theorem dX1_kite_33 : decode cX1_kite 33 = .ok (.aload_n 0, 1) := dk_42 (dk_at dksX1_kite_1 9 rfl rfl)
theorem dX1_kite_34 : decode cX1_kite 34 = .ok (.invokevirtual 106, 3) := dk_182 0 106 (dk_at dksX1_kite_1 10 rfl rfl)
theorem dX1_kite_37 : decode cX1_kite 37 = .ok (.aload_n 0, 1) := dk_42 (dk_at dksX1_kite_1 13 rfl rfl)
theorem dX1_kite_38 : decode cX1_kite 38 = .ok (.getfield 16, 3) := dk_180 0 16 (dk_at dksX1_kite_1 14 rfl rfl)
theorem dX1_kite_41 : decode cX1_kite 41 = .ok (.iload_n 1, 1) := dk_27 (dk_at dksX1_kite_1 17 rfl rfl)
theorem dX1_kite_42 : decode cX1_kite 42 = .ok (.invokestatic 127, 3) := dk_184 0 127 (dk_at dksX1_kite_1 18 rfl rfl)
theorem dX1_kite_45 : decode cX1_kite 45 = .ok (.iload_n 2, 1) := dk_28 (dk_at dksX1_kite_1 21 rfl rfl)
theorem dX1_kite_46 : decode cX1_kite 46 = .ok (.iload_n 3, 1) := dk_29 (dk_at dksX1_kite_1 22 rfl rfl)
theorem dX1_kite_47 : decode cX1_kite 47 = .ok (.iload 4, 2) := dk_21 4 (dk_at dksX1_kite_2 0 rfl rfl)
theorem dX1_kite_49 : decode cX1_kite 49 = .ok (.invokevirtual 133, 3) := dk_182 0 133 (dk_at dksX1_kite_2 2 rfl rfl)
theorem dX1_kite_52 : decode cX1_kite 52 = .ok (.ireturn, 1) := dk_172 (dk_at dksX1_kite_2 5 rfl rfl)
abbrev cX1_mayBeKite : ByteArray := prog_1_method_15_code
def yX1_mayBeKite : MethodName := ⟨RX1, "mayBeKite", "(IIII)Z"⟩
def dkwX1_mayBeKite_1 : List UInt8 := [184, 0, 3, 153, 0, 17, 29, 3, 16, 9, 184, 0, 3, 153, 0, 7, 4, 167, 0, 4, 3, 172]
abbrev dktX1_mayBeKite_1 : List UInt8 := dkwX1_mayBeKite_1 ++ []
def dkwX1_mayBeKite_0 : List UInt8 := [26, 3, 5, 184, 0, 3, 153, 0, 38, 27, 3, 16, 40, 184, 0, 3, 153, 0, 28, 28, 16, 10, 16, 99]
abbrev dktX1_mayBeKite_0 : List UInt8 := dkwX1_mayBeKite_0 ++ dktX1_mayBeKite_1
theorem dksX1_mayBeKite_0 : cX1_mayBeKite.data.toList.drop 0 = dktX1_mayBeKite_0 := by decide +kernel
theorem dksX1_mayBeKite_1 : cX1_mayBeKite.data.toList.drop 24 = dktX1_mayBeKite_1 := dk_seg dksX1_mayBeKite_0 24 rfl rfl
theorem dX1_mayBeKite_0 : decode cX1_mayBeKite 0 = .ok (.iload_n 0, 1) := dk_26 (dk_at dksX1_mayBeKite_0 0 rfl rfl)
theorem dX1_mayBeKite_1 : decode cX1_mayBeKite 1 = .ok (.iconst 0, 1) := dk_3 (dk_at dksX1_mayBeKite_0 1 rfl rfl)
theorem dX1_mayBeKite_2 : decode cX1_mayBeKite 2 = .ok (.iconst 2, 1) := dk_5 (dk_at dksX1_mayBeKite_0 2 rfl rfl)
theorem dX1_mayBeKite_3 : decode cX1_mayBeKite 3 = .ok (.invokestatic 3, 3) := dk_184 0 3 (dk_at dksX1_mayBeKite_0 3 rfl rfl)
theorem dX1_mayBeKite_6 : decode cX1_mayBeKite 6 = .ok (.ifCond .eq 38, 3) := dk_153 0 38 (dk_at dksX1_mayBeKite_0 6 rfl rfl)
theorem dX1_mayBeKite_9 : decode cX1_mayBeKite 9 = .ok (.iload_n 1, 1) := dk_27 (dk_at dksX1_mayBeKite_0 9 rfl rfl)
theorem dX1_mayBeKite_10 : decode cX1_mayBeKite 10 = .ok (.iconst 0, 1) := dk_3 (dk_at dksX1_mayBeKite_0 10 rfl rfl)
theorem dX1_mayBeKite_11 : decode cX1_mayBeKite 11 = .ok (.bipush 40, 2) := dk_16 40 (dk_at dksX1_mayBeKite_0 11 rfl rfl)
theorem dX1_mayBeKite_13 : decode cX1_mayBeKite 13 = .ok (.invokestatic 3, 3) := dk_184 0 3 (dk_at dksX1_mayBeKite_0 13 rfl rfl)
theorem dX1_mayBeKite_16 : decode cX1_mayBeKite 16 = .ok (.ifCond .eq 28, 3) := dk_153 0 28 (dk_at dksX1_mayBeKite_0 16 rfl rfl)
theorem dX1_mayBeKite_19 : decode cX1_mayBeKite 19 = .ok (.iload_n 2, 1) := dk_28 (dk_at dksX1_mayBeKite_0 19 rfl rfl)
theorem dX1_mayBeKite_20 : decode cX1_mayBeKite 20 = .ok (.bipush 10, 2) := dk_16 10 (dk_at dksX1_mayBeKite_0 20 rfl rfl)
theorem dX1_mayBeKite_22 : decode cX1_mayBeKite 22 = .ok (.bipush 99, 2) := dk_16 99 (dk_at dksX1_mayBeKite_0 22 rfl rfl)
theorem dX1_mayBeKite_24 : decode cX1_mayBeKite 24 = .ok (.invokestatic 3, 3) := dk_184 0 3 (dk_at dksX1_mayBeKite_1 0 rfl rfl)
theorem dX1_mayBeKite_27 : decode cX1_mayBeKite 27 = .ok (.ifCond .eq 17, 3) := dk_153 0 17 (dk_at dksX1_mayBeKite_1 3 rfl rfl)
theorem dX1_mayBeKite_30 : decode cX1_mayBeKite 30 = .ok (.iload_n 3, 1) := dk_29 (dk_at dksX1_mayBeKite_1 6 rfl rfl)
theorem dX1_mayBeKite_31 : decode cX1_mayBeKite 31 = .ok (.iconst 0, 1) := dk_3 (dk_at dksX1_mayBeKite_1 7 rfl rfl)
theorem dX1_mayBeKite_32 : decode cX1_mayBeKite 32 = .ok (.bipush 9, 2) := dk_16 9 (dk_at dksX1_mayBeKite_1 8 rfl rfl)
theorem dX1_mayBeKite_34 : decode cX1_mayBeKite 34 = .ok (.invokestatic 3, 3) := dk_184 0 3 (dk_at dksX1_mayBeKite_1 10 rfl rfl)
theorem dX1_mayBeKite_37 : decode cX1_mayBeKite 37 = .ok (.ifCond .eq 7, 3) := dk_153 0 7 (dk_at dksX1_mayBeKite_1 13 rfl rfl)
theorem dX1_mayBeKite_40 : decode cX1_mayBeKite 40 = .ok (.iconst 1, 1) := dk_4 (dk_at dksX1_mayBeKite_1 16 rfl rfl)
theorem dX1_mayBeKite_41 : decode cX1_mayBeKite 41 = .ok (.goto 4, 3) := dk_167 0 4 (dk_at dksX1_mayBeKite_1 17 rfl rfl)
theorem dX1_mayBeKite_44 : decode cX1_mayBeKite 44 = .ok (.iconst 0, 1) := dk_3 (dk_at dksX1_mayBeKite_1 20 rfl rfl)
theorem dX1_mayBeKite_45 : decode cX1_mayBeKite 45 = .ok (.ireturn, 1) := dk_172 (dk_at dksX1_mayBeKite_1 21 rfl rfl)
abbrev cX1_checkSupported : ByteArray := prog_1_method_10_code
def yX1_checkSupported : MethodName := ⟨RX1, "checkSupported", "(II)V"⟩
def dkwX1_checkSupported_0 : List UInt8 := [27, 158, 0, 21, 42, 27, 181, 0, 62, 42, 28, 181, 0, 44, 187, 0, 65, 89, 183, 0, 67, 191, 177]
abbrev dktX1_checkSupported_0 : List UInt8 := dkwX1_checkSupported_0 ++ []
theorem dksX1_checkSupported_0 : cX1_checkSupported.data.toList.drop 0 = dktX1_checkSupported_0 := by decide +kernel
theorem dX1_checkSupported_0 : decode cX1_checkSupported 0 = .ok (.iload_n 1, 1) := dk_27 (dk_at dksX1_checkSupported_0 0 rfl rfl)
theorem dX1_checkSupported_1 : decode cX1_checkSupported 1 = .ok (.ifCond .le 21, 3) := dk_158 0 21 (dk_at dksX1_checkSupported_0 1 rfl rfl)
theorem dX1_checkSupported_4 : decode cX1_checkSupported 4 = .ok (.aload_n 0, 1) := dk_42 (dk_at dksX1_checkSupported_0 4 rfl rfl)
theorem dX1_checkSupported_5 : decode cX1_checkSupported 5 = .ok (.iload_n 1, 1) := dk_27 (dk_at dksX1_checkSupported_0 5 rfl rfl)
theorem dX1_checkSupported_6 : decode cX1_checkSupported 6 = .ok (.putfield 62, 3) := dk_181 0 62 (dk_at dksX1_checkSupported_0 6 rfl rfl)
theorem dX1_checkSupported_9 : decode cX1_checkSupported 9 = .ok (.aload_n 0, 1) := dk_42 (dk_at dksX1_checkSupported_0 9 rfl rfl)
theorem dX1_checkSupported_10 : decode cX1_checkSupported 10 = .ok (.iload_n 2, 1) := dk_28 (dk_at dksX1_checkSupported_0 10 rfl rfl)
theorem dX1_checkSupported_11 : decode cX1_checkSupported 11 = .ok (.putfield 44, 3) := dk_181 0 44 (dk_at dksX1_checkSupported_0 11 rfl rfl)
theorem dX1_checkSupported_14 : decode cX1_checkSupported 14 = .ok (.new 65, 3) := dk_187 0 65 (dk_at dksX1_checkSupported_0 14 rfl rfl)
theorem dX1_checkSupported_17 : decode cX1_checkSupported 17 = .ok (.dup, 1) := dk_89 (dk_at dksX1_checkSupported_0 17 rfl rfl)
theorem dX1_checkSupported_18 : decode cX1_checkSupported 18 = .ok (.invokespecial 67, 3) := dk_183 0 67 (dk_at dksX1_checkSupported_0 18 rfl rfl)
theorem dX1_checkSupported_21 : decode cX1_checkSupported 21 = .ok (.athrow, 1) := dk_191 (dk_at dksX1_checkSupported_0 21 rfl rfl)
theorem dX1_checkSupported_22 : decode cX1_checkSupported 22 = .ok (.return_, 1) := dk_177 (dk_at dksX1_checkSupported_0 22 rfl rfl)
abbrev cX1_launch : ByteArray := prog_1_method_17_code
def yX1_launch : MethodName := ⟨RX1, "launch", "(I)I"⟩
def dkwX1_launch_1 : List UInt8 := [42, 182, 0, 106, 42, 180, 0, 16, 27, 182, 0, 141, 172]
abbrev dktX1_launch_1 : List UInt8 := dkwX1_launch_1 ++ []
def dkwX1_launch_0 : List UInt8 := [42, 180, 0, 16, 27, 182, 0, 68, 184, 0, 72, 42, 42, 180, 0, 16, 27, 182, 0, 137, 2, 182, 0, 123]
abbrev dktX1_launch_0 : List UInt8 := dkwX1_launch_0 ++ dktX1_launch_1
theorem dksX1_launch_0 : cX1_launch.data.toList.drop 0 = dktX1_launch_0 := by decide +kernel
theorem dksX1_launch_1 : cX1_launch.data.toList.drop 24 = dktX1_launch_1 := dk_seg dksX1_launch_0 24 rfl rfl
theorem dX1_launch_0 : decode cX1_launch 0 = .ok (.aload_n 0, 1) := dk_42 (dk_at dksX1_launch_0 0 rfl rfl)
theorem dX1_launch_1 : decode cX1_launch 1 = .ok (.getfield 16, 3) := dk_180 0 16 (dk_at dksX1_launch_0 1 rfl rfl)
theorem dX1_launch_4 : decode cX1_launch 4 = .ok (.iload_n 1, 1) := dk_27 (dk_at dksX1_launch_0 4 rfl rfl)
theorem dX1_launch_5 : decode cX1_launch 5 = .ok (.invokevirtual 68, 3) := dk_182 0 68 (dk_at dksX1_launch_0 5 rfl rfl)
theorem dX1_launch_8 : decode cX1_launch 8 = .ok (.invokestatic 72, 3) := dk_184 0 72 (dk_at dksX1_launch_0 8 rfl rfl)
theorem dX1_launch_11 : decode cX1_launch 11 = .ok (.aload_n 0, 1) := dk_42 (dk_at dksX1_launch_0 11 rfl rfl)
theorem dX1_launch_12 : decode cX1_launch 12 = .ok (.aload_n 0, 1) := dk_42 (dk_at dksX1_launch_0 12 rfl rfl)
theorem dX1_launch_13 : decode cX1_launch 13 = .ok (.getfield 16, 3) := dk_180 0 16 (dk_at dksX1_launch_0 13 rfl rfl)
theorem dX1_launch_16 : decode cX1_launch 16 = .ok (.iload_n 1, 1) := dk_27 (dk_at dksX1_launch_0 16 rfl rfl)
theorem dX1_launch_17 : decode cX1_launch 17 = .ok (.invokevirtual 137, 3) := dk_182 0 137 (dk_at dksX1_launch_0 17 rfl rfl)
theorem dX1_launch_20 : decode cX1_launch 20 = .ok (.iconst (-1), 1) := dk_2 (dk_at dksX1_launch_0 20 rfl rfl)
theorem dX1_launch_21 : decode cX1_launch 21 = .ok (.invokevirtual 123, 3) := dk_182 0 123 (dk_at dksX1_launch_0 21 rfl rfl)
theorem dX1_launch_24 : decode cX1_launch 24 = .ok (.aload_n 0, 1) := dk_42 (dk_at dksX1_launch_1 0 rfl rfl)
theorem dX1_launch_25 : decode cX1_launch 25 = .ok (.invokevirtual 106, 3) := dk_182 0 106 (dk_at dksX1_launch_1 1 rfl rfl)
theorem dX1_launch_28 : decode cX1_launch 28 = .ok (.aload_n 0, 1) := dk_42 (dk_at dksX1_launch_1 4 rfl rfl)
theorem dX1_launch_29 : decode cX1_launch 29 = .ok (.getfield 16, 3) := dk_180 0 16 (dk_at dksX1_launch_1 5 rfl rfl)
theorem dX1_launch_32 : decode cX1_launch 32 = .ok (.iload_n 1, 1) := dk_27 (dk_at dksX1_launch_1 8 rfl rfl)
theorem dX1_launch_33 : decode cX1_launch 33 = .ok (.invokevirtual 141, 3) := dk_182 0 141 (dk_at dksX1_launch_1 9 rfl rfl)
theorem dX1_launch_36 : decode cX1_launch 36 = .ok (.ireturn, 1) := dk_172 (dk_at dksX1_launch_1 12 rfl rfl)
abbrev cX1_reel : ByteArray := prog_1_method_18_code
def yX1_reel : MethodName := ⟨RX1, "reel", "(II)I"⟩
def dkwX1_reel_2 : List UInt8 := [182, 0, 148, 172]
abbrev dktX1_reel_2 : List UInt8 := dkwX1_reel_2 ++ []
def dkwX1_reel_1 : List UInt8 := [180, 0, 16, 27, 28, 182, 0, 144, 2, 182, 0, 123, 42, 182, 0, 106, 42, 180, 0, 16, 27, 28]
abbrev dktX1_reel_1 : List UInt8 := dkwX1_reel_1 ++ dktX1_reel_2
def dkwX1_reel_0 : List UInt8 := [42, 180, 0, 16, 27, 182, 0, 68, 184, 0, 72, 28, 16, 236, 16, 20, 184, 0, 3, 184, 0, 103, 42, 42]
abbrev dktX1_reel_0 : List UInt8 := dkwX1_reel_0 ++ dktX1_reel_1
theorem dksX1_reel_0 : cX1_reel.data.toList.drop 0 = dktX1_reel_0 := by decide +kernel
theorem dksX1_reel_1 : cX1_reel.data.toList.drop 24 = dktX1_reel_1 := dk_seg dksX1_reel_0 24 rfl rfl
theorem dksX1_reel_2 : cX1_reel.data.toList.drop 46 = dktX1_reel_2 := dk_seg dksX1_reel_1 22 rfl rfl
theorem dX1_reel_0 : decode cX1_reel 0 = .ok (.aload_n 0, 1) := dk_42 (dk_at dksX1_reel_0 0 rfl rfl)
theorem dX1_reel_1 : decode cX1_reel 1 = .ok (.getfield 16, 3) := dk_180 0 16 (dk_at dksX1_reel_0 1 rfl rfl)
theorem dX1_reel_4 : decode cX1_reel 4 = .ok (.iload_n 1, 1) := dk_27 (dk_at dksX1_reel_0 4 rfl rfl)
theorem dX1_reel_5 : decode cX1_reel 5 = .ok (.invokevirtual 68, 3) := dk_182 0 68 (dk_at dksX1_reel_0 5 rfl rfl)
theorem dX1_reel_8 : decode cX1_reel 8 = .ok (.invokestatic 72, 3) := dk_184 0 72 (dk_at dksX1_reel_0 8 rfl rfl)
theorem dX1_reel_11 : decode cX1_reel 11 = .ok (.iload_n 2, 1) := dk_28 (dk_at dksX1_reel_0 11 rfl rfl)
theorem dX1_reel_12 : decode cX1_reel 12 = .ok (.bipush (-20), 2) := dk_16 236 (dk_at dksX1_reel_0 12 rfl rfl)
theorem dX1_reel_14 : decode cX1_reel 14 = .ok (.bipush 20, 2) := dk_16 20 (dk_at dksX1_reel_0 14 rfl rfl)
theorem dX1_reel_16 : decode cX1_reel 16 = .ok (.invokestatic 3, 3) := dk_184 0 3 (dk_at dksX1_reel_0 16 rfl rfl)
theorem dX1_reel_19 : decode cX1_reel 19 = .ok (.invokestatic 103, 3) := dk_184 0 103 (dk_at dksX1_reel_0 19 rfl rfl)
theorem dX1_reel_22 : decode cX1_reel 22 = .ok (.aload_n 0, 1) := dk_42 (dk_at dksX1_reel_0 22 rfl rfl)
theorem dX1_reel_23 : decode cX1_reel 23 = .ok (.aload_n 0, 1) := dk_42 (dk_at dksX1_reel_0 23 rfl rfl)
theorem dX1_reel_24 : decode cX1_reel 24 = .ok (.getfield 16, 3) := dk_180 0 16 (dk_at dksX1_reel_1 0 rfl rfl)
theorem dX1_reel_27 : decode cX1_reel 27 = .ok (.iload_n 1, 1) := dk_27 (dk_at dksX1_reel_1 3 rfl rfl)
theorem dX1_reel_28 : decode cX1_reel 28 = .ok (.iload_n 2, 1) := dk_28 (dk_at dksX1_reel_1 4 rfl rfl)
theorem dX1_reel_29 : decode cX1_reel 29 = .ok (.invokevirtual 144, 3) := dk_182 0 144 (dk_at dksX1_reel_1 5 rfl rfl)
theorem dX1_reel_32 : decode cX1_reel 32 = .ok (.iconst (-1), 1) := dk_2 (dk_at dksX1_reel_1 8 rfl rfl)
theorem dX1_reel_33 : decode cX1_reel 33 = .ok (.invokevirtual 123, 3) := dk_182 0 123 (dk_at dksX1_reel_1 9 rfl rfl)
theorem dX1_reel_36 : decode cX1_reel 36 = .ok (.aload_n 0, 1) := dk_42 (dk_at dksX1_reel_1 12 rfl rfl)
theorem dX1_reel_37 : decode cX1_reel 37 = .ok (.invokevirtual 106, 3) := dk_182 0 106 (dk_at dksX1_reel_1 13 rfl rfl)
theorem dX1_reel_40 : decode cX1_reel 40 = .ok (.aload_n 0, 1) := dk_42 (dk_at dksX1_reel_1 16 rfl rfl)
theorem dX1_reel_41 : decode cX1_reel 41 = .ok (.getfield 16, 3) := dk_180 0 16 (dk_at dksX1_reel_1 17 rfl rfl)
theorem dX1_reel_44 : decode cX1_reel 44 = .ok (.iload_n 1, 1) := dk_27 (dk_at dksX1_reel_1 20 rfl rfl)
theorem dX1_reel_45 : decode cX1_reel 45 = .ok (.iload_n 2, 1) := dk_28 (dk_at dksX1_reel_1 21 rfl rfl)
theorem dX1_reel_46 : decode cX1_reel 46 = .ok (.invokevirtual 148, 3) := dk_182 0 148 (dk_at dksX1_reel_2 0 rfl rfl)
theorem dX1_reel_49 : decode cX1_reel 49 = .ok (.ireturn, 1) := dk_172 (dk_at dksX1_reel_2 3 rfl rfl)
abbrev cX1_setSpeed : ByteArray := prog_1_method_19_code
def yX1_setSpeed : MethodName := ⟨RX1, "setSpeed", "(II)I"⟩
def dkwX1_setSpeed_1 : List UInt8 := [180, 0, 155, 54, 4, 45, 28, 181, 0, 155, 21, 4, 172]
abbrev dktX1_setSpeed_1 : List UInt8 := dkwX1_setSpeed_1 ++ []
def dkwX1_setSpeed_0 : List UInt8 := [42, 27, 182, 0, 151, 78, 28, 16, 247, 16, 9, 184, 0, 3, 184, 0, 103, 42, 182, 0, 106, 45]
abbrev dktX1_setSpeed_0 : List UInt8 := dkwX1_setSpeed_0 ++ dktX1_setSpeed_1
theorem dksX1_setSpeed_0 : cX1_setSpeed.data.toList.drop 0 = dktX1_setSpeed_0 := by decide +kernel
theorem dksX1_setSpeed_1 : cX1_setSpeed.data.toList.drop 22 = dktX1_setSpeed_1 := dk_seg dksX1_setSpeed_0 22 rfl rfl
theorem dX1_setSpeed_0 : decode cX1_setSpeed 0 = .ok (.aload_n 0, 1) := dk_42 (dk_at dksX1_setSpeed_0 0 rfl rfl)
theorem dX1_setSpeed_1 : decode cX1_setSpeed 1 = .ok (.iload_n 1, 1) := dk_27 (dk_at dksX1_setSpeed_0 1 rfl rfl)
theorem dX1_setSpeed_2 : decode cX1_setSpeed 2 = .ok (.invokevirtual 151, 3) := dk_182 0 151 (dk_at dksX1_setSpeed_0 2 rfl rfl)
theorem dX1_setSpeed_5 : decode cX1_setSpeed 5 = .ok (.astore_n 3, 1) := dk_78 (dk_at dksX1_setSpeed_0 5 rfl rfl)
theorem dX1_setSpeed_6 : decode cX1_setSpeed 6 = .ok (.iload_n 2, 1) := dk_28 (dk_at dksX1_setSpeed_0 6 rfl rfl)
theorem dX1_setSpeed_7 : decode cX1_setSpeed 7 = .ok (.bipush (-9), 2) := dk_16 247 (dk_at dksX1_setSpeed_0 7 rfl rfl)
theorem dX1_setSpeed_9 : decode cX1_setSpeed 9 = .ok (.bipush 9, 2) := dk_16 9 (dk_at dksX1_setSpeed_0 9 rfl rfl)
theorem dX1_setSpeed_11 : decode cX1_setSpeed 11 = .ok (.invokestatic 3, 3) := dk_184 0 3 (dk_at dksX1_setSpeed_0 11 rfl rfl)
theorem dX1_setSpeed_14 : decode cX1_setSpeed 14 = .ok (.invokestatic 103, 3) := dk_184 0 103 (dk_at dksX1_setSpeed_0 14 rfl rfl)
theorem dX1_setSpeed_17 : decode cX1_setSpeed 17 = .ok (.aload_n 0, 1) := dk_42 (dk_at dksX1_setSpeed_0 17 rfl rfl)
theorem dX1_setSpeed_18 : decode cX1_setSpeed 18 = .ok (.invokevirtual 106, 3) := dk_182 0 106 (dk_at dksX1_setSpeed_0 18 rfl rfl)
theorem dX1_setSpeed_21 : decode cX1_setSpeed 21 = .ok (.aload_n 3, 1) := dk_45 (dk_at dksX1_setSpeed_0 21 rfl rfl)
theorem dX1_setSpeed_22 : decode cX1_setSpeed 22 = .ok (.getfield 155, 3) := dk_180 0 155 (dk_at dksX1_setSpeed_1 0 rfl rfl)
theorem dX1_setSpeed_25 : decode cX1_setSpeed 25 = .ok (.istore 4, 2) := dk_54 4 (dk_at dksX1_setSpeed_1 3 rfl rfl)
theorem dX1_setSpeed_27 : decode cX1_setSpeed 27 = .ok (.aload_n 3, 1) := dk_45 (dk_at dksX1_setSpeed_1 5 rfl rfl)
theorem dX1_setSpeed_28 : decode cX1_setSpeed 28 = .ok (.iload_n 2, 1) := dk_28 (dk_at dksX1_setSpeed_1 6 rfl rfl)
theorem dX1_setSpeed_29 : decode cX1_setSpeed 29 = .ok (.putfield 155, 3) := dk_181 0 155 (dk_at dksX1_setSpeed_1 7 rfl rfl)
theorem dX1_setSpeed_32 : decode cX1_setSpeed 32 = .ok (.iload 4, 2) := dk_21 4 (dk_at dksX1_setSpeed_1 10 rfl rfl)
theorem dX1_setSpeed_34 : decode cX1_setSpeed 34 = .ok (.ireturn, 1) := dk_172 (dk_at dksX1_setSpeed_1 12 rfl rfl)
abbrev cX1_kiteAt : ByteArray := prog_1_method_11_code
def yX1_kiteAt : MethodName := ⟨RX1, "kiteAt", "(I)LKiteRoofs$Kite;"⟩
def dkwX1_kiteAt_0 : List UInt8 := [42, 180, 0, 16, 27, 182, 0, 68, 184, 0, 72, 42, 180, 0, 16, 180, 0, 76, 27, 50, 176]
abbrev dktX1_kiteAt_0 : List UInt8 := dkwX1_kiteAt_0 ++ []
theorem dksX1_kiteAt_0 : cX1_kiteAt.data.toList.drop 0 = dktX1_kiteAt_0 := by decide +kernel
theorem dX1_kiteAt_0 : decode cX1_kiteAt 0 = .ok (.aload_n 0, 1) := dk_42 (dk_at dksX1_kiteAt_0 0 rfl rfl)
theorem dX1_kiteAt_1 : decode cX1_kiteAt 1 = .ok (.getfield 16, 3) := dk_180 0 16 (dk_at dksX1_kiteAt_0 1 rfl rfl)
theorem dX1_kiteAt_4 : decode cX1_kiteAt 4 = .ok (.iload_n 1, 1) := dk_27 (dk_at dksX1_kiteAt_0 4 rfl rfl)
theorem dX1_kiteAt_5 : decode cX1_kiteAt 5 = .ok (.invokevirtual 68, 3) := dk_182 0 68 (dk_at dksX1_kiteAt_0 5 rfl rfl)
theorem dX1_kiteAt_8 : decode cX1_kiteAt 8 = .ok (.invokestatic 72, 3) := dk_184 0 72 (dk_at dksX1_kiteAt_0 8 rfl rfl)
theorem dX1_kiteAt_11 : decode cX1_kiteAt 11 = .ok (.aload_n 0, 1) := dk_42 (dk_at dksX1_kiteAt_0 11 rfl rfl)
theorem dX1_kiteAt_12 : decode cX1_kiteAt 12 = .ok (.getfield 16, 3) := dk_180 0 16 (dk_at dksX1_kiteAt_0 12 rfl rfl)
theorem dX1_kiteAt_15 : decode cX1_kiteAt 15 = .ok (.getfield 76, 3) := dk_180 0 76 (dk_at dksX1_kiteAt_0 15 rfl rfl)
theorem dX1_kiteAt_18 : decode cX1_kiteAt 18 = .ok (.iload_n 1, 1) := dk_27 (dk_at dksX1_kiteAt_0 18 rfl rfl)
theorem dX1_kiteAt_19 : decode cX1_kiteAt 19 = .ok (.aaload, 1) := dk_50 (dk_at dksX1_kiteAt_0 19 rfl rfl)
theorem dX1_kiteAt_20 : decode cX1_kiteAt 20 = .ok (.areturn, 1) := dk_176 (dk_at dksX1_kiteAt_0 20 rfl rfl)
abbrev cX1_land : ByteArray := prog_1_method_20_code
def yX1_land : MethodName := ⟨RX1, "land", "(I)I"⟩
def dkwX1_land_1 : List UInt8 := [182, 0, 106, 42, 180, 0, 16, 27, 182, 0, 164, 172]
abbrev dktX1_land_1 : List UInt8 := dkwX1_land_1 ++ []
def dkwX1_land_0 : List UInt8 := [42, 27, 182, 0, 151, 77, 42, 44, 182, 0, 160, 153, 0, 7, 3, 167, 0, 4, 7, 2, 182, 0, 123, 42]
abbrev dktX1_land_0 : List UInt8 := dkwX1_land_0 ++ dktX1_land_1
theorem dksX1_land_0 : cX1_land.data.toList.drop 0 = dktX1_land_0 := by decide +kernel
theorem dksX1_land_1 : cX1_land.data.toList.drop 24 = dktX1_land_1 := dk_seg dksX1_land_0 24 rfl rfl
theorem dX1_land_0 : decode cX1_land 0 = .ok (.aload_n 0, 1) := dk_42 (dk_at dksX1_land_0 0 rfl rfl)
theorem dX1_land_1 : decode cX1_land 1 = .ok (.iload_n 1, 1) := dk_27 (dk_at dksX1_land_0 1 rfl rfl)
theorem dX1_land_2 : decode cX1_land 2 = .ok (.invokevirtual 151, 3) := dk_182 0 151 (dk_at dksX1_land_0 2 rfl rfl)
theorem dX1_land_5 : decode cX1_land 5 = .ok (.astore_n 2, 1) := dk_77 (dk_at dksX1_land_0 5 rfl rfl)
theorem dX1_land_6 : decode cX1_land 6 = .ok (.aload_n 0, 1) := dk_42 (dk_at dksX1_land_0 6 rfl rfl)
theorem dX1_land_7 : decode cX1_land 7 = .ok (.aload_n 2, 1) := dk_44 (dk_at dksX1_land_0 7 rfl rfl)
theorem dX1_land_8 : decode cX1_land 8 = .ok (.invokevirtual 160, 3) := dk_182 0 160 (dk_at dksX1_land_0 8 rfl rfl)
theorem dX1_land_11 : decode cX1_land 11 = .ok (.ifCond .eq 7, 3) := dk_153 0 7 (dk_at dksX1_land_0 11 rfl rfl)
theorem dX1_land_14 : decode cX1_land 14 = .ok (.iconst 0, 1) := dk_3 (dk_at dksX1_land_0 14 rfl rfl)
theorem dX1_land_15 : decode cX1_land 15 = .ok (.goto 4, 3) := dk_167 0 4 (dk_at dksX1_land_0 15 rfl rfl)
theorem dX1_land_18 : decode cX1_land 18 = .ok (.iconst 4, 1) := dk_7 (dk_at dksX1_land_0 18 rfl rfl)
theorem dX1_land_19 : decode cX1_land 19 = .ok (.iconst (-1), 1) := dk_2 (dk_at dksX1_land_0 19 rfl rfl)
theorem dX1_land_20 : decode cX1_land 20 = .ok (.invokevirtual 123, 3) := dk_182 0 123 (dk_at dksX1_land_0 20 rfl rfl)
theorem dX1_land_23 : decode cX1_land 23 = .ok (.aload_n 0, 1) := dk_42 (dk_at dksX1_land_0 23 rfl rfl)
theorem dX1_land_24 : decode cX1_land 24 = .ok (.invokevirtual 106, 3) := dk_182 0 106 (dk_at dksX1_land_1 0 rfl rfl)
theorem dX1_land_27 : decode cX1_land 27 = .ok (.aload_n 0, 1) := dk_42 (dk_at dksX1_land_1 3 rfl rfl)
theorem dX1_land_28 : decode cX1_land 28 = .ok (.getfield 16, 3) := dk_180 0 16 (dk_at dksX1_land_1 4 rfl rfl)
theorem dX1_land_31 : decode cX1_land 31 = .ok (.iload_n 1, 1) := dk_27 (dk_at dksX1_land_1 7 rfl rfl)
theorem dX1_land_32 : decode cX1_land 32 = .ok (.invokevirtual 164, 3) := dk_182 0 164 (dk_at dksX1_land_1 8 rfl rfl)
theorem dX1_land_35 : decode cX1_land 35 = .ok (.ireturn, 1) := dk_172 (dk_at dksX1_land_1 11 rfl rfl)
abbrev cX1_tie : ByteArray := prog_1_method_21_code
def yX1_tie : MethodName := ⟨RX1, "tie", "(I)I"⟩
def dkwX1_tie_1 : List UInt8 := [42, 182, 0, 106, 42, 180, 0, 16, 27, 182, 0, 170, 172]
abbrev dktX1_tie_1 : List UInt8 := dkwX1_tie_1 ++ []
def dkwX1_tie_0 : List UInt8 := [42, 180, 0, 16, 27, 182, 0, 68, 184, 0, 72, 42, 42, 180, 0, 16, 27, 182, 0, 167, 2, 182, 0, 123]
abbrev dktX1_tie_0 : List UInt8 := dkwX1_tie_0 ++ dktX1_tie_1
theorem dksX1_tie_0 : cX1_tie.data.toList.drop 0 = dktX1_tie_0 := by decide +kernel
theorem dksX1_tie_1 : cX1_tie.data.toList.drop 24 = dktX1_tie_1 := dk_seg dksX1_tie_0 24 rfl rfl
theorem dX1_tie_0 : decode cX1_tie 0 = .ok (.aload_n 0, 1) := dk_42 (dk_at dksX1_tie_0 0 rfl rfl)
theorem dX1_tie_1 : decode cX1_tie 1 = .ok (.getfield 16, 3) := dk_180 0 16 (dk_at dksX1_tie_0 1 rfl rfl)
theorem dX1_tie_4 : decode cX1_tie 4 = .ok (.iload_n 1, 1) := dk_27 (dk_at dksX1_tie_0 4 rfl rfl)
theorem dX1_tie_5 : decode cX1_tie 5 = .ok (.invokevirtual 68, 3) := dk_182 0 68 (dk_at dksX1_tie_0 5 rfl rfl)
theorem dX1_tie_8 : decode cX1_tie 8 = .ok (.invokestatic 72, 3) := dk_184 0 72 (dk_at dksX1_tie_0 8 rfl rfl)
theorem dX1_tie_11 : decode cX1_tie 11 = .ok (.aload_n 0, 1) := dk_42 (dk_at dksX1_tie_0 11 rfl rfl)
theorem dX1_tie_12 : decode cX1_tie 12 = .ok (.aload_n 0, 1) := dk_42 (dk_at dksX1_tie_0 12 rfl rfl)
theorem dX1_tie_13 : decode cX1_tie 13 = .ok (.getfield 16, 3) := dk_180 0 16 (dk_at dksX1_tie_0 13 rfl rfl)
theorem dX1_tie_16 : decode cX1_tie 16 = .ok (.iload_n 1, 1) := dk_27 (dk_at dksX1_tie_0 16 rfl rfl)
theorem dX1_tie_17 : decode cX1_tie 17 = .ok (.invokevirtual 167, 3) := dk_182 0 167 (dk_at dksX1_tie_0 17 rfl rfl)
theorem dX1_tie_20 : decode cX1_tie 20 = .ok (.iconst (-1), 1) := dk_2 (dk_at dksX1_tie_0 20 rfl rfl)
theorem dX1_tie_21 : decode cX1_tie 21 = .ok (.invokevirtual 123, 3) := dk_182 0 123 (dk_at dksX1_tie_0 21 rfl rfl)
theorem dX1_tie_24 : decode cX1_tie 24 = .ok (.aload_n 0, 1) := dk_42 (dk_at dksX1_tie_1 0 rfl rfl)
theorem dX1_tie_25 : decode cX1_tie 25 = .ok (.invokevirtual 106, 3) := dk_182 0 106 (dk_at dksX1_tie_1 1 rfl rfl)
theorem dX1_tie_28 : decode cX1_tie 28 = .ok (.aload_n 0, 1) := dk_42 (dk_at dksX1_tie_1 4 rfl rfl)
theorem dX1_tie_29 : decode cX1_tie 29 = .ok (.getfield 16, 3) := dk_180 0 16 (dk_at dksX1_tie_1 5 rfl rfl)
theorem dX1_tie_32 : decode cX1_tie 32 = .ok (.iload_n 1, 1) := dk_27 (dk_at dksX1_tie_1 8 rfl rfl)
theorem dX1_tie_33 : decode cX1_tie 33 = .ok (.invokevirtual 170, 3) := dk_182 0 170 (dk_at dksX1_tie_1 9 rfl rfl)
theorem dX1_tie_36 : decode cX1_tie 36 = .ok (.ireturn, 1) := dk_172 (dk_at dksX1_tie_1 12 rfl rfl)
abbrev cX1_kiteOf : ByteArray := prog_1_method_23_code
def yX1_kiteOf : MethodName := ⟨RX1, "kiteOf", "(II)I"⟩
def dkwX1_kiteOf_4 : List UInt8 := [182, 0, 220, 172]
abbrev dktX1_kiteOf_4 : List UInt8 := dkwX1_kiteOf_4 ++ []
def dkwX1_kiteOf_3 : List UInt8 := [180, 0, 211, 172, 45, 180, 0, 214, 172, 45, 180, 0, 155, 172, 45, 180, 0, 217, 172, 42, 45, 28]
abbrev dktX1_kiteOf_3 : List UInt8 := dkwX1_kiteOf_3 ++ dktX1_kiteOf_4
def dkwX1_kiteOf_2 : List UInt8 := [45, 180, 0, 192, 185, 0, 196, 1, 0, 172, 45, 180, 0, 201, 182, 0, 205, 172, 45, 180, 0, 208, 172, 45]
abbrev dktX1_kiteOf_2 : List UInt8 := dkwX1_kiteOf_2 ++ dktX1_kiteOf_3
def dkwX1_kiteOf_1 : List UInt8 := [170, 0, 0, 0, 0, 0, 110, 0, 0, 0, 0, 0, 0, 0, 12, 0, 0, 0, 67, 0, 0, 0, 77, 0, 0, 0, 85, 0, 0, 0, 90, 0, 0, 0, 95, 0, 0, 0, 110, 0, 0, 0, 110, 0, 0, 0, 110, 0, 0, 0, 110, 0, 0, 0, 110, 0, 0, 0, 110, 0, 0, 0, 100, 0, 0, 0, 105]
abbrev dktX1_kiteOf_1 : List UInt8 := dkwX1_kiteOf_1 ++ dktX1_kiteOf_2
def dkwX1_kiteOf_0 : List UInt8 := [42, 27, 182, 0, 151, 78, 28, 3, 16, 12, 184, 0, 3, 184, 0, 103, 28]
abbrev dktX1_kiteOf_0 : List UInt8 := dkwX1_kiteOf_0 ++ dktX1_kiteOf_1
theorem dksX1_kiteOf_0 : cX1_kiteOf.data.toList.drop 0 = dktX1_kiteOf_0 := by decide +kernel
theorem dksX1_kiteOf_1 : cX1_kiteOf.data.toList.drop 17 = dktX1_kiteOf_1 := dk_seg dksX1_kiteOf_0 17 rfl rfl
theorem dksX1_kiteOf_2 : cX1_kiteOf.data.toList.drop 84 = dktX1_kiteOf_2 := dk_seg dksX1_kiteOf_1 67 rfl rfl
theorem dksX1_kiteOf_3 : cX1_kiteOf.data.toList.drop 108 = dktX1_kiteOf_3 := dk_seg dksX1_kiteOf_2 24 rfl rfl
theorem dksX1_kiteOf_4 : cX1_kiteOf.data.toList.drop 130 = dktX1_kiteOf_4 := dk_seg dksX1_kiteOf_3 22 rfl rfl
theorem dX1_kiteOf_0 : decode cX1_kiteOf 0 = .ok (.aload_n 0, 1) := dk_42 (dk_at dksX1_kiteOf_0 0 rfl rfl)
theorem dX1_kiteOf_1 : decode cX1_kiteOf 1 = .ok (.iload_n 1, 1) := dk_27 (dk_at dksX1_kiteOf_0 1 rfl rfl)
theorem dX1_kiteOf_2 : decode cX1_kiteOf 2 = .ok (.invokevirtual 151, 3) := dk_182 0 151 (dk_at dksX1_kiteOf_0 2 rfl rfl)
theorem dX1_kiteOf_5 : decode cX1_kiteOf 5 = .ok (.astore_n 3, 1) := dk_78 (dk_at dksX1_kiteOf_0 5 rfl rfl)
theorem dX1_kiteOf_6 : decode cX1_kiteOf 6 = .ok (.iload_n 2, 1) := dk_28 (dk_at dksX1_kiteOf_0 6 rfl rfl)
theorem dX1_kiteOf_7 : decode cX1_kiteOf 7 = .ok (.iconst 0, 1) := dk_3 (dk_at dksX1_kiteOf_0 7 rfl rfl)
theorem dX1_kiteOf_8 : decode cX1_kiteOf 8 = .ok (.bipush 12, 2) := dk_16 12 (dk_at dksX1_kiteOf_0 8 rfl rfl)
theorem dX1_kiteOf_10 : decode cX1_kiteOf 10 = .ok (.invokestatic 3, 3) := dk_184 0 3 (dk_at dksX1_kiteOf_0 10 rfl rfl)
theorem dX1_kiteOf_13 : decode cX1_kiteOf 13 = .ok (.invokestatic 103, 3) := dk_184 0 103 (dk_at dksX1_kiteOf_0 13 rfl rfl)
theorem dX1_kiteOf_16 : decode cX1_kiteOf 16 = .ok (.iload_n 2, 1) := dk_28 (dk_at dksX1_kiteOf_0 16 rfl rfl)
theorem dX1_kiteOf_17 : decode cX1_kiteOf 17 = .ok (.tableswitch 110 0 12 #[67, 77, 85, 90, 95, 110, 110, 110, 110, 110, 110, 100, 105], 67) := by decide +kernel
theorem dX1_kiteOf_84 : decode cX1_kiteOf 84 = .ok (.aload_n 3, 1) := dk_45 (dk_at dksX1_kiteOf_2 0 rfl rfl)
theorem dX1_kiteOf_85 : decode cX1_kiteOf 85 = .ok (.getfield 192, 3) := dk_180 0 192 (dk_at dksX1_kiteOf_2 1 rfl rfl)
theorem dX1_kiteOf_88 : decode cX1_kiteOf 88 = .ok (.invokeinterface 196 1, 5) := by decide +kernel
theorem dX1_kiteOf_93 : decode cX1_kiteOf 93 = .ok (.ireturn, 1) := dk_172 (dk_at dksX1_kiteOf_2 9 rfl rfl)
theorem dX1_kiteOf_94 : decode cX1_kiteOf 94 = .ok (.aload_n 3, 1) := dk_45 (dk_at dksX1_kiteOf_2 10 rfl rfl)
theorem dX1_kiteOf_95 : decode cX1_kiteOf 95 = .ok (.getfield 201, 3) := dk_180 0 201 (dk_at dksX1_kiteOf_2 11 rfl rfl)
theorem dX1_kiteOf_98 : decode cX1_kiteOf 98 = .ok (.invokevirtual 205, 3) := dk_182 0 205 (dk_at dksX1_kiteOf_2 14 rfl rfl)
theorem dX1_kiteOf_101 : decode cX1_kiteOf 101 = .ok (.ireturn, 1) := dk_172 (dk_at dksX1_kiteOf_2 17 rfl rfl)
theorem dX1_kiteOf_102 : decode cX1_kiteOf 102 = .ok (.aload_n 3, 1) := dk_45 (dk_at dksX1_kiteOf_2 18 rfl rfl)
theorem dX1_kiteOf_103 : decode cX1_kiteOf 103 = .ok (.getfield 208, 3) := dk_180 0 208 (dk_at dksX1_kiteOf_2 19 rfl rfl)
theorem dX1_kiteOf_106 : decode cX1_kiteOf 106 = .ok (.ireturn, 1) := dk_172 (dk_at dksX1_kiteOf_2 22 rfl rfl)
theorem dX1_kiteOf_107 : decode cX1_kiteOf 107 = .ok (.aload_n 3, 1) := dk_45 (dk_at dksX1_kiteOf_2 23 rfl rfl)
theorem dX1_kiteOf_108 : decode cX1_kiteOf 108 = .ok (.getfield 211, 3) := dk_180 0 211 (dk_at dksX1_kiteOf_3 0 rfl rfl)
theorem dX1_kiteOf_111 : decode cX1_kiteOf 111 = .ok (.ireturn, 1) := dk_172 (dk_at dksX1_kiteOf_3 3 rfl rfl)
theorem dX1_kiteOf_112 : decode cX1_kiteOf 112 = .ok (.aload_n 3, 1) := dk_45 (dk_at dksX1_kiteOf_3 4 rfl rfl)
theorem dX1_kiteOf_113 : decode cX1_kiteOf 113 = .ok (.getfield 214, 3) := dk_180 0 214 (dk_at dksX1_kiteOf_3 5 rfl rfl)
theorem dX1_kiteOf_116 : decode cX1_kiteOf 116 = .ok (.ireturn, 1) := dk_172 (dk_at dksX1_kiteOf_3 8 rfl rfl)
theorem dX1_kiteOf_117 : decode cX1_kiteOf 117 = .ok (.aload_n 3, 1) := dk_45 (dk_at dksX1_kiteOf_3 9 rfl rfl)
theorem dX1_kiteOf_118 : decode cX1_kiteOf 118 = .ok (.getfield 155, 3) := dk_180 0 155 (dk_at dksX1_kiteOf_3 10 rfl rfl)
theorem dX1_kiteOf_121 : decode cX1_kiteOf 121 = .ok (.ireturn, 1) := dk_172 (dk_at dksX1_kiteOf_3 13 rfl rfl)
theorem dX1_kiteOf_122 : decode cX1_kiteOf 122 = .ok (.aload_n 3, 1) := dk_45 (dk_at dksX1_kiteOf_3 14 rfl rfl)
theorem dX1_kiteOf_123 : decode cX1_kiteOf 123 = .ok (.getfield 217, 3) := dk_180 0 217 (dk_at dksX1_kiteOf_3 15 rfl rfl)
theorem dX1_kiteOf_126 : decode cX1_kiteOf 126 = .ok (.ireturn, 1) := dk_172 (dk_at dksX1_kiteOf_3 18 rfl rfl)
theorem dX1_kiteOf_127 : decode cX1_kiteOf 127 = .ok (.aload_n 0, 1) := dk_42 (dk_at dksX1_kiteOf_3 19 rfl rfl)
theorem dX1_kiteOf_128 : decode cX1_kiteOf 128 = .ok (.aload_n 3, 1) := dk_45 (dk_at dksX1_kiteOf_3 20 rfl rfl)
theorem dX1_kiteOf_129 : decode cX1_kiteOf 129 = .ok (.iload_n 2, 1) := dk_28 (dk_at dksX1_kiteOf_3 21 rfl rfl)
theorem dX1_kiteOf_130 : decode cX1_kiteOf 130 = .ok (.invokevirtual 220, 3) := dk_182 0 220 (dk_at dksX1_kiteOf_4 0 rfl rfl)
theorem dX1_kiteOf_133 : decode cX1_kiteOf 133 = .ok (.ireturn, 1) := dk_172 (dk_at dksX1_kiteOf_4 3 rfl rfl)
abbrev cX1_ofLine : ByteArray := prog_1_method_22_code
def yX1_ofLine : MethodName := ⟨RX1, "ofLine", "(LKiteRoofs$Kite;I)I"⟩
def dkwX1_ofLine_3 : List UInt8 := [182, 0, 183, 172, 42, 180, 0, 16, 43, 182, 0, 186, 172, 42, 180, 0, 16, 43, 182, 0, 189, 172]
abbrev dktX1_ofLine_3 : List UInt8 := dkwX1_ofLine_3 ++ []
def dkwX1_ofLine_2 : List UInt8 := [43, 182, 0, 173, 172, 43, 182, 0, 176, 172, 42, 180, 0, 16, 43, 182, 0, 179, 172, 42, 180, 0, 16, 43]
abbrev dktX1_ofLine_2 : List UInt8 := dkwX1_ofLine_2 ++ dktX1_ofLine_3
def dkwX1_ofLine_1 : List UInt8 := [170, 0, 0, 0, 0, 0, 72, 0, 0, 0, 5, 0, 0, 0, 9, 0, 0, 0, 35, 0, 0, 0, 40, 0, 0, 0, 45, 0, 0, 0, 54, 0, 0, 0, 63]
abbrev dktX1_ofLine_1 : List UInt8 := dkwX1_ofLine_1 ++ dktX1_ofLine_2
def dkwX1_ofLine_0 : List UInt8 := [28]
abbrev dktX1_ofLine_0 : List UInt8 := dkwX1_ofLine_0 ++ dktX1_ofLine_1
theorem dksX1_ofLine_0 : cX1_ofLine.data.toList.drop 0 = dktX1_ofLine_0 := by decide +kernel
theorem dksX1_ofLine_1 : cX1_ofLine.data.toList.drop 1 = dktX1_ofLine_1 := dk_seg dksX1_ofLine_0 1 rfl rfl
theorem dksX1_ofLine_2 : cX1_ofLine.data.toList.drop 36 = dktX1_ofLine_2 := dk_seg dksX1_ofLine_1 35 rfl rfl
theorem dksX1_ofLine_3 : cX1_ofLine.data.toList.drop 60 = dktX1_ofLine_3 := dk_seg dksX1_ofLine_2 24 rfl rfl
theorem dX1_ofLine_0 : decode cX1_ofLine 0 = .ok (.iload_n 2, 1) := dk_28 (dk_at dksX1_ofLine_0 0 rfl rfl)
theorem dX1_ofLine_1 : decode cX1_ofLine 1 = .ok (.tableswitch 72 5 9 #[35, 40, 45, 54, 63], 35) := by decide +kernel
theorem dX1_ofLine_36 : decode cX1_ofLine 36 = .ok (.aload_n 1, 1) := dk_43 (dk_at dksX1_ofLine_2 0 rfl rfl)
theorem dX1_ofLine_37 : decode cX1_ofLine 37 = .ok (.invokevirtual 173, 3) := dk_182 0 173 (dk_at dksX1_ofLine_2 1 rfl rfl)
theorem dX1_ofLine_40 : decode cX1_ofLine 40 = .ok (.ireturn, 1) := dk_172 (dk_at dksX1_ofLine_2 4 rfl rfl)
theorem dX1_ofLine_41 : decode cX1_ofLine 41 = .ok (.aload_n 1, 1) := dk_43 (dk_at dksX1_ofLine_2 5 rfl rfl)
theorem dX1_ofLine_42 : decode cX1_ofLine 42 = .ok (.invokevirtual 176, 3) := dk_182 0 176 (dk_at dksX1_ofLine_2 6 rfl rfl)
theorem dX1_ofLine_45 : decode cX1_ofLine 45 = .ok (.ireturn, 1) := dk_172 (dk_at dksX1_ofLine_2 9 rfl rfl)
theorem dX1_ofLine_46 : decode cX1_ofLine 46 = .ok (.aload_n 0, 1) := dk_42 (dk_at dksX1_ofLine_2 10 rfl rfl)
theorem dX1_ofLine_47 : decode cX1_ofLine 47 = .ok (.getfield 16, 3) := dk_180 0 16 (dk_at dksX1_ofLine_2 11 rfl rfl)
theorem dX1_ofLine_50 : decode cX1_ofLine 50 = .ok (.aload_n 1, 1) := dk_43 (dk_at dksX1_ofLine_2 14 rfl rfl)
theorem dX1_ofLine_51 : decode cX1_ofLine 51 = .ok (.invokevirtual 179, 3) := dk_182 0 179 (dk_at dksX1_ofLine_2 15 rfl rfl)
theorem dX1_ofLine_54 : decode cX1_ofLine 54 = .ok (.ireturn, 1) := dk_172 (dk_at dksX1_ofLine_2 18 rfl rfl)
theorem dX1_ofLine_55 : decode cX1_ofLine 55 = .ok (.aload_n 0, 1) := dk_42 (dk_at dksX1_ofLine_2 19 rfl rfl)
theorem dX1_ofLine_56 : decode cX1_ofLine 56 = .ok (.getfield 16, 3) := dk_180 0 16 (dk_at dksX1_ofLine_2 20 rfl rfl)
theorem dX1_ofLine_59 : decode cX1_ofLine 59 = .ok (.aload_n 1, 1) := dk_43 (dk_at dksX1_ofLine_2 23 rfl rfl)
theorem dX1_ofLine_60 : decode cX1_ofLine 60 = .ok (.invokevirtual 183, 3) := dk_182 0 183 (dk_at dksX1_ofLine_3 0 rfl rfl)
theorem dX1_ofLine_63 : decode cX1_ofLine 63 = .ok (.ireturn, 1) := dk_172 (dk_at dksX1_ofLine_3 3 rfl rfl)
theorem dX1_ofLine_64 : decode cX1_ofLine 64 = .ok (.aload_n 0, 1) := dk_42 (dk_at dksX1_ofLine_3 4 rfl rfl)
theorem dX1_ofLine_65 : decode cX1_ofLine 65 = .ok (.getfield 16, 3) := dk_180 0 16 (dk_at dksX1_ofLine_3 5 rfl rfl)
theorem dX1_ofLine_68 : decode cX1_ofLine 68 = .ok (.aload_n 1, 1) := dk_43 (dk_at dksX1_ofLine_3 8 rfl rfl)
theorem dX1_ofLine_69 : decode cX1_ofLine 69 = .ok (.invokevirtual 186, 3) := dk_182 0 186 (dk_at dksX1_ofLine_3 9 rfl rfl)
theorem dX1_ofLine_72 : decode cX1_ofLine 72 = .ok (.ireturn, 1) := dk_172 (dk_at dksX1_ofLine_3 12 rfl rfl)
theorem dX1_ofLine_73 : decode cX1_ofLine 73 = .ok (.aload_n 0, 1) := dk_42 (dk_at dksX1_ofLine_3 13 rfl rfl)
theorem dX1_ofLine_74 : decode cX1_ofLine 74 = .ok (.getfield 16, 3) := dk_180 0 16 (dk_at dksX1_ofLine_3 14 rfl rfl)
theorem dX1_ofLine_77 : decode cX1_ofLine 77 = .ok (.aload_n 1, 1) := dk_43 (dk_at dksX1_ofLine_3 17 rfl rfl)
theorem dX1_ofLine_78 : decode cX1_ofLine 78 = .ok (.invokevirtual 189, 3) := dk_182 0 189 (dk_at dksX1_ofLine_3 18 rfl rfl)
theorem dX1_ofLine_81 : decode cX1_ofLine 81 = .ok (.ireturn, 1) := dk_172 (dk_at dksX1_ofLine_3 21 rfl rfl)
abbrev cX1_state : ByteArray := prog_1_method_24_code
def yX1_state : MethodName := ⟨RX1, "state", "(I)C"⟩
def dkwX1_state_0 : List UInt8 := [42, 27, 182, 0, 151, 180, 0, 192, 185, 0, 224, 1, 0, 172]
abbrev dktX1_state_0 : List UInt8 := dkwX1_state_0 ++ []
theorem dksX1_state_0 : cX1_state.data.toList.drop 0 = dktX1_state_0 := by decide +kernel
theorem dX1_state_0 : decode cX1_state 0 = .ok (.aload_n 0, 1) := dk_42 (dk_at dksX1_state_0 0 rfl rfl)
theorem dX1_state_1 : decode cX1_state 1 = .ok (.iload_n 1, 1) := dk_27 (dk_at dksX1_state_0 1 rfl rfl)
theorem dX1_state_2 : decode cX1_state 2 = .ok (.invokevirtual 151, 3) := dk_182 0 151 (dk_at dksX1_state_0 2 rfl rfl)
theorem dX1_state_5 : decode cX1_state 5 = .ok (.getfield 192, 3) := dk_180 0 192 (dk_at dksX1_state_0 5 rfl rfl)
theorem dX1_state_8 : decode cX1_state 8 = .ok (.invokeinterface 224 1, 5) := by decide +kernel
theorem dX1_state_13 : decode cX1_state 13 = .ok (.ireturn, 1) := dk_172 (dk_at dksX1_state_0 13 rfl rfl)
abbrev cX1_heightAgain : ByteArray := prog_1_method_25_code
def yX1_heightAgain : MethodName := ⟨RX1, "heightAgain", "(I)I"⟩
def dkwX1_heightAgain_0 : List UInt8 := [42, 180, 0, 16, 42, 27, 182, 0, 151, 182, 0, 228, 172]
abbrev dktX1_heightAgain_0 : List UInt8 := dkwX1_heightAgain_0 ++ []
theorem dksX1_heightAgain_0 : cX1_heightAgain.data.toList.drop 0 = dktX1_heightAgain_0 := by decide +kernel
theorem dX1_heightAgain_0 : decode cX1_heightAgain 0 = .ok (.aload_n 0, 1) := dk_42 (dk_at dksX1_heightAgain_0 0 rfl rfl)
theorem dX1_heightAgain_1 : decode cX1_heightAgain 1 = .ok (.getfield 16, 3) := dk_180 0 16 (dk_at dksX1_heightAgain_0 1 rfl rfl)
theorem dX1_heightAgain_4 : decode cX1_heightAgain 4 = .ok (.aload_n 0, 1) := dk_42 (dk_at dksX1_heightAgain_0 4 rfl rfl)
theorem dX1_heightAgain_5 : decode cX1_heightAgain 5 = .ok (.iload_n 1, 1) := dk_27 (dk_at dksX1_heightAgain_0 5 rfl rfl)
theorem dX1_heightAgain_6 : decode cX1_heightAgain 6 = .ok (.invokevirtual 151, 3) := dk_182 0 151 (dk_at dksX1_heightAgain_0 6 rfl rfl)
theorem dX1_heightAgain_9 : decode cX1_heightAgain 9 = .ok (.invokevirtual 228, 3) := dk_182 0 228 (dk_at dksX1_heightAgain_0 9 rfl rfl)
theorem dX1_heightAgain_12 : decode cX1_heightAgain 12 = .ok (.ireturn, 1) := dk_172 (dk_at dksX1_heightAgain_0 12 rfl rfl)
abbrev cX1_placeAt : ByteArray := prog_1_method_26_code
def yX1_placeAt : MethodName := ⟨RX1, "placeAt", "(II)I"⟩
def dkwX1_placeAt_1 : List UInt8 := [42, 180, 0, 16, 45, 28, 4, 96, 182, 0, 234, 172]
abbrev dktX1_placeAt_1 : List UInt8 := dkwX1_placeAt_1 ++ []
def dkwX1_placeAt_0 : List UInt8 := [42, 27, 182, 0, 151, 78, 28, 3, 42, 180, 0, 16, 45, 182, 0, 179, 4, 100, 184, 0, 3, 184, 0, 231]
abbrev dktX1_placeAt_0 : List UInt8 := dkwX1_placeAt_0 ++ dktX1_placeAt_1
theorem dksX1_placeAt_0 : cX1_placeAt.data.toList.drop 0 = dktX1_placeAt_0 := by decide +kernel
theorem dksX1_placeAt_1 : cX1_placeAt.data.toList.drop 24 = dktX1_placeAt_1 := dk_seg dksX1_placeAt_0 24 rfl rfl
theorem dX1_placeAt_0 : decode cX1_placeAt 0 = .ok (.aload_n 0, 1) := dk_42 (dk_at dksX1_placeAt_0 0 rfl rfl)
theorem dX1_placeAt_1 : decode cX1_placeAt 1 = .ok (.iload_n 1, 1) := dk_27 (dk_at dksX1_placeAt_0 1 rfl rfl)
theorem dX1_placeAt_2 : decode cX1_placeAt 2 = .ok (.invokevirtual 151, 3) := dk_182 0 151 (dk_at dksX1_placeAt_0 2 rfl rfl)
theorem dX1_placeAt_5 : decode cX1_placeAt 5 = .ok (.astore_n 3, 1) := dk_78 (dk_at dksX1_placeAt_0 5 rfl rfl)
theorem dX1_placeAt_6 : decode cX1_placeAt 6 = .ok (.iload_n 2, 1) := dk_28 (dk_at dksX1_placeAt_0 6 rfl rfl)
theorem dX1_placeAt_7 : decode cX1_placeAt 7 = .ok (.iconst 0, 1) := dk_3 (dk_at dksX1_placeAt_0 7 rfl rfl)
theorem dX1_placeAt_8 : decode cX1_placeAt 8 = .ok (.aload_n 0, 1) := dk_42 (dk_at dksX1_placeAt_0 8 rfl rfl)
theorem dX1_placeAt_9 : decode cX1_placeAt 9 = .ok (.getfield 16, 3) := dk_180 0 16 (dk_at dksX1_placeAt_0 9 rfl rfl)
theorem dX1_placeAt_12 : decode cX1_placeAt 12 = .ok (.aload_n 3, 1) := dk_45 (dk_at dksX1_placeAt_0 12 rfl rfl)
theorem dX1_placeAt_13 : decode cX1_placeAt 13 = .ok (.invokevirtual 179, 3) := dk_182 0 179 (dk_at dksX1_placeAt_0 13 rfl rfl)
theorem dX1_placeAt_16 : decode cX1_placeAt 16 = .ok (.iconst 1, 1) := dk_4 (dk_at dksX1_placeAt_0 16 rfl rfl)
theorem dX1_placeAt_17 : decode cX1_placeAt 17 = .ok (.isub, 1) := dk_100 (dk_at dksX1_placeAt_0 17 rfl rfl)
theorem dX1_placeAt_18 : decode cX1_placeAt 18 = .ok (.invokestatic 3, 3) := dk_184 0 3 (dk_at dksX1_placeAt_0 18 rfl rfl)
theorem dX1_placeAt_21 : decode cX1_placeAt 21 = .ok (.invokestatic 231, 3) := dk_184 0 231 (dk_at dksX1_placeAt_0 21 rfl rfl)
theorem dX1_placeAt_24 : decode cX1_placeAt 24 = .ok (.aload_n 0, 1) := dk_42 (dk_at dksX1_placeAt_1 0 rfl rfl)
theorem dX1_placeAt_25 : decode cX1_placeAt 25 = .ok (.getfield 16, 3) := dk_180 0 16 (dk_at dksX1_placeAt_1 1 rfl rfl)
theorem dX1_placeAt_28 : decode cX1_placeAt 28 = .ok (.aload_n 3, 1) := dk_45 (dk_at dksX1_placeAt_1 4 rfl rfl)
theorem dX1_placeAt_29 : decode cX1_placeAt 29 = .ok (.iload_n 2, 1) := dk_28 (dk_at dksX1_placeAt_1 5 rfl rfl)
theorem dX1_placeAt_30 : decode cX1_placeAt 30 = .ok (.iconst 1, 1) := dk_4 (dk_at dksX1_placeAt_1 6 rfl rfl)
theorem dX1_placeAt_31 : decode cX1_placeAt 31 = .ok (.iadd, 1) := dk_96 (dk_at dksX1_placeAt_1 7 rfl rfl)
theorem dX1_placeAt_32 : decode cX1_placeAt 32 = .ok (.invokevirtual 234, 3) := dk_182 0 234 (dk_at dksX1_placeAt_1 8 rfl rfl)
theorem dX1_placeAt_35 : decode cX1_placeAt 35 = .ok (.ireturn, 1) := dk_172 (dk_at dksX1_placeAt_1 11 rfl rfl)
abbrev cX1_checkElement : ByteArray := prog_1_method_6_code
def yX1_checkElement : MethodName := ⟨RX1, "checkElement", "(Z)V"⟩
def dkwX1_checkElement_0 : List UInt8 := [26, 154, 0, 11, 187, 0, 50, 89, 183, 0, 52, 191, 177]
abbrev dktX1_checkElement_0 : List UInt8 := dkwX1_checkElement_0 ++ []
theorem dksX1_checkElement_0 : cX1_checkElement.data.toList.drop 0 = dktX1_checkElement_0 := by decide +kernel
theorem dX1_checkElement_0 : decode cX1_checkElement 0 = .ok (.iload_n 0, 1) := dk_26 (dk_at dksX1_checkElement_0 0 rfl rfl)
theorem dX1_checkElement_1 : decode cX1_checkElement 1 = .ok (.ifCond .ne 11, 3) := dk_154 0 11 (dk_at dksX1_checkElement_0 1 rfl rfl)
theorem dX1_checkElement_4 : decode cX1_checkElement 4 = .ok (.new 50, 3) := dk_187 0 50 (dk_at dksX1_checkElement_0 4 rfl rfl)
theorem dX1_checkElement_7 : decode cX1_checkElement 7 = .ok (.dup, 1) := dk_89 (dk_at dksX1_checkElement_0 7 rfl rfl)
theorem dX1_checkElement_8 : decode cX1_checkElement 8 = .ok (.invokespecial 52, 3) := dk_183 0 52 (dk_at dksX1_checkElement_0 8 rfl rfl)
theorem dX1_checkElement_11 : decode cX1_checkElement 11 = .ok (.athrow, 1) := dk_191 (dk_at dksX1_checkElement_0 11 rfl rfl)
theorem dX1_checkElement_12 : decode cX1_checkElement 12 = .ok (.return_, 1) := dk_177 (dk_at dksX1_checkElement_0 12 rfl rfl)
abbrev cX1_crossing : ByteArray := prog_1_method_27_code
def yX1_crossing : MethodName := ⟨RX1, "crossing", "(II)I"⟩
def dkwX1_crossing_1 : List UInt8 := [167, 0, 4, 3, 184, 0, 72, 42, 180, 0, 16, 27, 28, 182, 0, 237, 172]
abbrev dktX1_crossing_1 : List UInt8 := dkwX1_crossing_1 ++ []
def dkwX1_crossing_0 : List UInt8 := [42, 180, 0, 16, 27, 182, 0, 68, 153, 0, 18, 42, 180, 0, 16, 28, 182, 0, 68, 153, 0, 7, 4]
abbrev dktX1_crossing_0 : List UInt8 := dkwX1_crossing_0 ++ dktX1_crossing_1
theorem dksX1_crossing_0 : cX1_crossing.data.toList.drop 0 = dktX1_crossing_0 := by decide +kernel
theorem dksX1_crossing_1 : cX1_crossing.data.toList.drop 23 = dktX1_crossing_1 := dk_seg dksX1_crossing_0 23 rfl rfl
theorem dX1_crossing_0 : decode cX1_crossing 0 = .ok (.aload_n 0, 1) := dk_42 (dk_at dksX1_crossing_0 0 rfl rfl)
theorem dX1_crossing_1 : decode cX1_crossing 1 = .ok (.getfield 16, 3) := dk_180 0 16 (dk_at dksX1_crossing_0 1 rfl rfl)
theorem dX1_crossing_4 : decode cX1_crossing 4 = .ok (.iload_n 1, 1) := dk_27 (dk_at dksX1_crossing_0 4 rfl rfl)
theorem dX1_crossing_5 : decode cX1_crossing 5 = .ok (.invokevirtual 68, 3) := dk_182 0 68 (dk_at dksX1_crossing_0 5 rfl rfl)
theorem dX1_crossing_8 : decode cX1_crossing 8 = .ok (.ifCond .eq 18, 3) := dk_153 0 18 (dk_at dksX1_crossing_0 8 rfl rfl)
theorem dX1_crossing_11 : decode cX1_crossing 11 = .ok (.aload_n 0, 1) := dk_42 (dk_at dksX1_crossing_0 11 rfl rfl)
theorem dX1_crossing_12 : decode cX1_crossing 12 = .ok (.getfield 16, 3) := dk_180 0 16 (dk_at dksX1_crossing_0 12 rfl rfl)
theorem dX1_crossing_15 : decode cX1_crossing 15 = .ok (.iload_n 2, 1) := dk_28 (dk_at dksX1_crossing_0 15 rfl rfl)
theorem dX1_crossing_16 : decode cX1_crossing 16 = .ok (.invokevirtual 68, 3) := dk_182 0 68 (dk_at dksX1_crossing_0 16 rfl rfl)
theorem dX1_crossing_19 : decode cX1_crossing 19 = .ok (.ifCond .eq 7, 3) := dk_153 0 7 (dk_at dksX1_crossing_0 19 rfl rfl)
theorem dX1_crossing_22 : decode cX1_crossing 22 = .ok (.iconst 1, 1) := dk_4 (dk_at dksX1_crossing_0 22 rfl rfl)
theorem dX1_crossing_23 : decode cX1_crossing 23 = .ok (.goto 4, 3) := dk_167 0 4 (dk_at dksX1_crossing_1 0 rfl rfl)
theorem dX1_crossing_26 : decode cX1_crossing 26 = .ok (.iconst 0, 1) := dk_3 (dk_at dksX1_crossing_1 3 rfl rfl)
theorem dX1_crossing_27 : decode cX1_crossing 27 = .ok (.invokestatic 72, 3) := dk_184 0 72 (dk_at dksX1_crossing_1 4 rfl rfl)
theorem dX1_crossing_30 : decode cX1_crossing 30 = .ok (.aload_n 0, 1) := dk_42 (dk_at dksX1_crossing_1 7 rfl rfl)
theorem dX1_crossing_31 : decode cX1_crossing 31 = .ok (.getfield 16, 3) := dk_180 0 16 (dk_at dksX1_crossing_1 8 rfl rfl)
theorem dX1_crossing_34 : decode cX1_crossing 34 = .ok (.iload_n 1, 1) := dk_27 (dk_at dksX1_crossing_1 11 rfl rfl)
theorem dX1_crossing_35 : decode cX1_crossing 35 = .ok (.iload_n 2, 1) := dk_28 (dk_at dksX1_crossing_1 12 rfl rfl)
theorem dX1_crossing_36 : decode cX1_crossing 36 = .ok (.invokevirtual 237, 3) := dk_182 0 237 (dk_at dksX1_crossing_1 13 rfl rfl)
theorem dX1_crossing_39 : decode cX1_crossing 39 = .ok (.ireturn, 1) := dk_172 (dk_at dksX1_crossing_1 16 rfl rfl)
abbrev cX1_wears : ByteArray := prog_1_method_28_code
def yX1_wears : MethodName := ⟨RX1, "wears", "(I)I"⟩
def dkwX1_wears_0 : List UInt8 := [42, 180, 0, 16, 27, 182, 0, 68, 184, 0, 72, 42, 180, 0, 16, 27, 182, 0, 240, 172]
abbrev dktX1_wears_0 : List UInt8 := dkwX1_wears_0 ++ []
theorem dksX1_wears_0 : cX1_wears.data.toList.drop 0 = dktX1_wears_0 := by decide +kernel
theorem dX1_wears_0 : decode cX1_wears 0 = .ok (.aload_n 0, 1) := dk_42 (dk_at dksX1_wears_0 0 rfl rfl)
theorem dX1_wears_1 : decode cX1_wears 1 = .ok (.getfield 16, 3) := dk_180 0 16 (dk_at dksX1_wears_0 1 rfl rfl)
theorem dX1_wears_4 : decode cX1_wears 4 = .ok (.iload_n 1, 1) := dk_27 (dk_at dksX1_wears_0 4 rfl rfl)
theorem dX1_wears_5 : decode cX1_wears 5 = .ok (.invokevirtual 68, 3) := dk_182 0 68 (dk_at dksX1_wears_0 5 rfl rfl)
theorem dX1_wears_8 : decode cX1_wears 8 = .ok (.invokestatic 72, 3) := dk_184 0 72 (dk_at dksX1_wears_0 8 rfl rfl)
theorem dX1_wears_11 : decode cX1_wears 11 = .ok (.aload_n 0, 1) := dk_42 (dk_at dksX1_wears_0 11 rfl rfl)
theorem dX1_wears_12 : decode cX1_wears 12 = .ok (.getfield 16, 3) := dk_180 0 16 (dk_at dksX1_wears_0 12 rfl rfl)
theorem dX1_wears_15 : decode cX1_wears 15 = .ok (.iload_n 1, 1) := dk_27 (dk_at dksX1_wears_0 15 rfl rfl)
theorem dX1_wears_16 : decode cX1_wears 16 = .ok (.invokevirtual 240, 3) := dk_182 0 240 (dk_at dksX1_wears_0 16 rfl rfl)
theorem dX1_wears_19 : decode cX1_wears 19 = .ok (.ireturn, 1) := dk_172 (dk_at dksX1_wears_0 19 rfl rfl)
abbrev cX1_round : ByteArray := prog_1_method_29_code
def yX1_round : MethodName := ⟨RX1, "round", "(I)I"⟩
def dkwX1_round_1 : List UInt8 := [42, 180, 0, 16, 182, 0, 243, 96, 61, 132, 3, 1, 167, 255, 238, 28, 172]
abbrev dktX1_round_1 : List UInt8 := dkwX1_round_1 ++ []
def dkwX1_round_0 : List UInt8 := [27, 4, 16, 30, 184, 0, 3, 184, 0, 103, 42, 182, 0, 106, 3, 61, 3, 62, 29, 27, 162, 0, 19, 28]
abbrev dktX1_round_0 : List UInt8 := dkwX1_round_0 ++ dktX1_round_1
theorem dksX1_round_0 : cX1_round.data.toList.drop 0 = dktX1_round_0 := by decide +kernel
theorem dksX1_round_1 : cX1_round.data.toList.drop 24 = dktX1_round_1 := dk_seg dksX1_round_0 24 rfl rfl
theorem dX1_round_0 : decode cX1_round 0 = .ok (.iload_n 1, 1) := dk_27 (dk_at dksX1_round_0 0 rfl rfl)
theorem dX1_round_1 : decode cX1_round 1 = .ok (.iconst 1, 1) := dk_4 (dk_at dksX1_round_0 1 rfl rfl)
theorem dX1_round_2 : decode cX1_round 2 = .ok (.bipush 30, 2) := dk_16 30 (dk_at dksX1_round_0 2 rfl rfl)
theorem dX1_round_4 : decode cX1_round 4 = .ok (.invokestatic 3, 3) := dk_184 0 3 (dk_at dksX1_round_0 4 rfl rfl)
theorem dX1_round_7 : decode cX1_round 7 = .ok (.invokestatic 103, 3) := dk_184 0 103 (dk_at dksX1_round_0 7 rfl rfl)
theorem dX1_round_10 : decode cX1_round 10 = .ok (.aload_n 0, 1) := dk_42 (dk_at dksX1_round_0 10 rfl rfl)
theorem dX1_round_11 : decode cX1_round 11 = .ok (.invokevirtual 106, 3) := dk_182 0 106 (dk_at dksX1_round_0 11 rfl rfl)
theorem dX1_round_14 : decode cX1_round 14 = .ok (.iconst 0, 1) := dk_3 (dk_at dksX1_round_0 14 rfl rfl)
theorem dX1_round_15 : decode cX1_round 15 = .ok (.istore_n 2, 1) := dk_61 (dk_at dksX1_round_0 15 rfl rfl)
theorem dX1_round_16 : decode cX1_round 16 = .ok (.iconst 0, 1) := dk_3 (dk_at dksX1_round_0 16 rfl rfl)
theorem dX1_round_17 : decode cX1_round 17 = .ok (.istore_n 3, 1) := dk_62 (dk_at dksX1_round_0 17 rfl rfl)
theorem dX1_round_18 : decode cX1_round 18 = .ok (.iload_n 3, 1) := dk_29 (dk_at dksX1_round_0 18 rfl rfl)
theorem dX1_round_19 : decode cX1_round 19 = .ok (.iload_n 1, 1) := dk_27 (dk_at dksX1_round_0 19 rfl rfl)
theorem dX1_round_20 : decode cX1_round 20 = .ok (.if_icmp .ge 19, 3) := dk_162 0 19 (dk_at dksX1_round_0 20 rfl rfl)
theorem dX1_round_23 : decode cX1_round 23 = .ok (.iload_n 2, 1) := dk_28 (dk_at dksX1_round_0 23 rfl rfl)
theorem dX1_round_24 : decode cX1_round 24 = .ok (.aload_n 0, 1) := dk_42 (dk_at dksX1_round_1 0 rfl rfl)
theorem dX1_round_25 : decode cX1_round 25 = .ok (.getfield 16, 3) := dk_180 0 16 (dk_at dksX1_round_1 1 rfl rfl)
theorem dX1_round_28 : decode cX1_round 28 = .ok (.invokevirtual 243, 3) := dk_182 0 243 (dk_at dksX1_round_1 4 rfl rfl)
theorem dX1_round_31 : decode cX1_round 31 = .ok (.iadd, 1) := dk_96 (dk_at dksX1_round_1 7 rfl rfl)
theorem dX1_round_32 : decode cX1_round 32 = .ok (.istore_n 2, 1) := dk_61 (dk_at dksX1_round_1 8 rfl rfl)
theorem dX1_round_33 : decode cX1_round 33 = .ok (.iinc 3 1, 3) := dk_132 3 1 (dk_at dksX1_round_1 9 rfl rfl)
theorem dX1_round_36 : decode cX1_round 36 = .ok (.goto (-18), 3) := dk_167 255 238 (dk_at dksX1_round_1 12 rfl rfl)
theorem dX1_round_39 : decode cX1_round 39 = .ok (.iload_n 2, 1) := dk_28 (dk_at dksX1_round_1 15 rfl rfl)
theorem dX1_round_40 : decode cX1_round 40 = .ok (.ireturn, 1) := dk_172 (dk_at dksX1_round_1 16 rfl rfl)
abbrev cX1_cutIn : ByteArray := prog_1_method_30_code
def yX1_cutIn : MethodName := ⟨RX1, "cutIn", "(II)I"⟩
def dkwX1_cutIn_3 : List UInt8 := [182, 0, 160, 154, 0, 6, 21, 4, 172, 132, 4, 1, 167, 255, 221, 2, 172]
abbrev dktX1_cutIn_3 : List UInt8 := dkwX1_cutIn_3 ++ []
def dkwX1_cutIn_2 : List UInt8 := [21, 4, 28, 163, 0, 35, 42, 180, 0, 20, 182, 0, 243, 87, 42, 180, 0, 20, 180, 0, 76, 27, 50]
abbrev dktX1_cutIn_2 : List UInt8 := dkwX1_cutIn_2 ++ dktX1_cutIn_3
def dkwX1_cutIn_1 : List UInt8 := [3, 167, 0, 4, 7, 2, 182, 0, 123, 42, 180, 0, 20, 42, 180, 0, 16, 182, 0, 88, 4, 54, 4]
abbrev dktX1_cutIn_1 : List UInt8 := dkwX1_cutIn_1 ++ dktX1_cutIn_2
def dkwX1_cutIn_0 : List UInt8 := [42, 27, 182, 0, 151, 78, 28, 4, 16, 30, 184, 0, 3, 184, 0, 103, 42, 45, 182, 0, 160, 153, 0, 7]
abbrev dktX1_cutIn_0 : List UInt8 := dkwX1_cutIn_0 ++ dktX1_cutIn_1
theorem dksX1_cutIn_0 : cX1_cutIn.data.toList.drop 0 = dktX1_cutIn_0 := by decide +kernel
theorem dksX1_cutIn_1 : cX1_cutIn.data.toList.drop 24 = dktX1_cutIn_1 := dk_seg dksX1_cutIn_0 24 rfl rfl
theorem dksX1_cutIn_2 : cX1_cutIn.data.toList.drop 47 = dktX1_cutIn_2 := dk_seg dksX1_cutIn_1 23 rfl rfl
theorem dksX1_cutIn_3 : cX1_cutIn.data.toList.drop 70 = dktX1_cutIn_3 := dk_seg dksX1_cutIn_2 23 rfl rfl
theorem dX1_cutIn_0 : decode cX1_cutIn 0 = .ok (.aload_n 0, 1) := dk_42 (dk_at dksX1_cutIn_0 0 rfl rfl)
theorem dX1_cutIn_1 : decode cX1_cutIn 1 = .ok (.iload_n 1, 1) := dk_27 (dk_at dksX1_cutIn_0 1 rfl rfl)
theorem dX1_cutIn_2 : decode cX1_cutIn 2 = .ok (.invokevirtual 151, 3) := dk_182 0 151 (dk_at dksX1_cutIn_0 2 rfl rfl)
theorem dX1_cutIn_5 : decode cX1_cutIn 5 = .ok (.astore_n 3, 1) := dk_78 (dk_at dksX1_cutIn_0 5 rfl rfl)
theorem dX1_cutIn_6 : decode cX1_cutIn 6 = .ok (.iload_n 2, 1) := dk_28 (dk_at dksX1_cutIn_0 6 rfl rfl)
theorem dX1_cutIn_7 : decode cX1_cutIn 7 = .ok (.iconst 1, 1) := dk_4 (dk_at dksX1_cutIn_0 7 rfl rfl)
theorem dX1_cutIn_8 : decode cX1_cutIn 8 = .ok (.bipush 30, 2) := dk_16 30 (dk_at dksX1_cutIn_0 8 rfl rfl)
theorem dX1_cutIn_10 : decode cX1_cutIn 10 = .ok (.invokestatic 3, 3) := dk_184 0 3 (dk_at dksX1_cutIn_0 10 rfl rfl)
theorem dX1_cutIn_13 : decode cX1_cutIn 13 = .ok (.invokestatic 103, 3) := dk_184 0 103 (dk_at dksX1_cutIn_0 13 rfl rfl)
theorem dX1_cutIn_16 : decode cX1_cutIn 16 = .ok (.aload_n 0, 1) := dk_42 (dk_at dksX1_cutIn_0 16 rfl rfl)
theorem dX1_cutIn_17 : decode cX1_cutIn 17 = .ok (.aload_n 3, 1) := dk_45 (dk_at dksX1_cutIn_0 17 rfl rfl)
theorem dX1_cutIn_18 : decode cX1_cutIn 18 = .ok (.invokevirtual 160, 3) := dk_182 0 160 (dk_at dksX1_cutIn_0 18 rfl rfl)
theorem dX1_cutIn_21 : decode cX1_cutIn 21 = .ok (.ifCond .eq 7, 3) := dk_153 0 7 (dk_at dksX1_cutIn_0 21 rfl rfl)
theorem dX1_cutIn_24 : decode cX1_cutIn 24 = .ok (.iconst 0, 1) := dk_3 (dk_at dksX1_cutIn_1 0 rfl rfl)
theorem dX1_cutIn_25 : decode cX1_cutIn 25 = .ok (.goto 4, 3) := dk_167 0 4 (dk_at dksX1_cutIn_1 1 rfl rfl)
theorem dX1_cutIn_28 : decode cX1_cutIn 28 = .ok (.iconst 4, 1) := dk_7 (dk_at dksX1_cutIn_1 4 rfl rfl)
theorem dX1_cutIn_29 : decode cX1_cutIn 29 = .ok (.iconst (-1), 1) := dk_2 (dk_at dksX1_cutIn_1 5 rfl rfl)
theorem dX1_cutIn_30 : decode cX1_cutIn 30 = .ok (.invokevirtual 123, 3) := dk_182 0 123 (dk_at dksX1_cutIn_1 6 rfl rfl)
theorem dX1_cutIn_33 : decode cX1_cutIn 33 = .ok (.aload_n 0, 1) := dk_42 (dk_at dksX1_cutIn_1 9 rfl rfl)
theorem dX1_cutIn_34 : decode cX1_cutIn 34 = .ok (.getfield 20, 3) := dk_180 0 20 (dk_at dksX1_cutIn_1 10 rfl rfl)
theorem dX1_cutIn_37 : decode cX1_cutIn 37 = .ok (.aload_n 0, 1) := dk_42 (dk_at dksX1_cutIn_1 13 rfl rfl)
theorem dX1_cutIn_38 : decode cX1_cutIn 38 = .ok (.getfield 16, 3) := dk_180 0 16 (dk_at dksX1_cutIn_1 14 rfl rfl)
theorem dX1_cutIn_41 : decode cX1_cutIn 41 = .ok (.invokevirtual 88, 3) := dk_182 0 88 (dk_at dksX1_cutIn_1 17 rfl rfl)
theorem dX1_cutIn_44 : decode cX1_cutIn 44 = .ok (.iconst 1, 1) := dk_4 (dk_at dksX1_cutIn_1 20 rfl rfl)
theorem dX1_cutIn_45 : decode cX1_cutIn 45 = .ok (.istore 4, 2) := dk_54 4 (dk_at dksX1_cutIn_1 21 rfl rfl)
theorem dX1_cutIn_47 : decode cX1_cutIn 47 = .ok (.iload 4, 2) := dk_21 4 (dk_at dksX1_cutIn_2 0 rfl rfl)
theorem dX1_cutIn_49 : decode cX1_cutIn 49 = .ok (.iload_n 2, 1) := dk_28 (dk_at dksX1_cutIn_2 2 rfl rfl)
theorem dX1_cutIn_50 : decode cX1_cutIn 50 = .ok (.if_icmp .gt 35, 3) := dk_163 0 35 (dk_at dksX1_cutIn_2 3 rfl rfl)
theorem dX1_cutIn_53 : decode cX1_cutIn 53 = .ok (.aload_n 0, 1) := dk_42 (dk_at dksX1_cutIn_2 6 rfl rfl)
theorem dX1_cutIn_54 : decode cX1_cutIn 54 = .ok (.getfield 20, 3) := dk_180 0 20 (dk_at dksX1_cutIn_2 7 rfl rfl)
theorem dX1_cutIn_57 : decode cX1_cutIn 57 = .ok (.invokevirtual 243, 3) := dk_182 0 243 (dk_at dksX1_cutIn_2 10 rfl rfl)
theorem dX1_cutIn_60 : decode cX1_cutIn 60 = .ok (.pop, 1) := dk_87 (dk_at dksX1_cutIn_2 13 rfl rfl)
theorem dX1_cutIn_61 : decode cX1_cutIn 61 = .ok (.aload_n 0, 1) := dk_42 (dk_at dksX1_cutIn_2 14 rfl rfl)
theorem dX1_cutIn_62 : decode cX1_cutIn 62 = .ok (.getfield 20, 3) := dk_180 0 20 (dk_at dksX1_cutIn_2 15 rfl rfl)
theorem dX1_cutIn_65 : decode cX1_cutIn 65 = .ok (.getfield 76, 3) := dk_180 0 76 (dk_at dksX1_cutIn_2 18 rfl rfl)
theorem dX1_cutIn_68 : decode cX1_cutIn 68 = .ok (.iload_n 1, 1) := dk_27 (dk_at dksX1_cutIn_2 21 rfl rfl)
theorem dX1_cutIn_69 : decode cX1_cutIn 69 = .ok (.aaload, 1) := dk_50 (dk_at dksX1_cutIn_2 22 rfl rfl)
theorem dX1_cutIn_70 : decode cX1_cutIn 70 = .ok (.invokevirtual 160, 3) := dk_182 0 160 (dk_at dksX1_cutIn_3 0 rfl rfl)
theorem dX1_cutIn_73 : decode cX1_cutIn 73 = .ok (.ifCond .ne 6, 3) := dk_154 0 6 (dk_at dksX1_cutIn_3 3 rfl rfl)
theorem dX1_cutIn_76 : decode cX1_cutIn 76 = .ok (.iload 4, 2) := dk_21 4 (dk_at dksX1_cutIn_3 6 rfl rfl)
theorem dX1_cutIn_78 : decode cX1_cutIn 78 = .ok (.ireturn, 1) := dk_172 (dk_at dksX1_cutIn_3 8 rfl rfl)
theorem dX1_cutIn_79 : decode cX1_cutIn 79 = .ok (.iinc 4 1, 3) := dk_132 4 1 (dk_at dksX1_cutIn_3 9 rfl rfl)
theorem dX1_cutIn_82 : decode cX1_cutIn 82 = .ok (.goto (-35), 3) := dk_167 255 221 (dk_at dksX1_cutIn_3 12 rfl rfl)
theorem dX1_cutIn_85 : decode cX1_cutIn 85 = .ok (.iconst (-1), 1) := dk_2 (dk_at dksX1_cutIn_3 15 rfl rfl)
theorem dX1_cutIn_86 : decode cX1_cutIn 86 = .ok (.ireturn, 1) := dk_172 (dk_at dksX1_cutIn_3 16 rfl rfl)
abbrev cX1_bestSpeed : ByteArray := prog_1_method_32_code
def yX1_bestSpeed : MethodName := ⟨RX1, "bestSpeed", "(II)I"⟩
def dkwX1_bestSpeed_3 : List UInt8 := [21, 6, 54, 4, 132, 6, 1, 167, 255, 221, 21, 4, 172]
abbrev dktX1_bestSpeed_3 : List UInt8 := dkwX1_bestSpeed_3 ++ []
def dkwX1_bestSpeed_2 : List UInt8 := [163, 0, 34, 42, 27, 21, 6, 28, 182, 0, 246, 54, 7, 21, 7, 21, 5, 164, 0, 11, 21, 7, 54, 5]
abbrev dktX1_bestSpeed_2 : List UInt8 := dkwX1_bestSpeed_2 ++ dktX1_bestSpeed_3
def dkwX1_bestSpeed_1 : List UInt8 := [3, 167, 0, 4, 7, 2, 182, 0, 123, 16, 247, 54, 4, 2, 54, 5, 16, 247, 54, 6, 21, 6, 16, 9]
abbrev dktX1_bestSpeed_1 : List UInt8 := dkwX1_bestSpeed_1 ++ dktX1_bestSpeed_2
def dkwX1_bestSpeed_0 : List UInt8 := [42, 27, 182, 0, 151, 78, 28, 4, 16, 6, 184, 0, 3, 184, 0, 103, 42, 45, 182, 0, 160, 153, 0, 7]
abbrev dktX1_bestSpeed_0 : List UInt8 := dkwX1_bestSpeed_0 ++ dktX1_bestSpeed_1
theorem dksX1_bestSpeed_0 : cX1_bestSpeed.data.toList.drop 0 = dktX1_bestSpeed_0 := by decide +kernel
theorem dksX1_bestSpeed_1 : cX1_bestSpeed.data.toList.drop 24 = dktX1_bestSpeed_1 := dk_seg dksX1_bestSpeed_0 24 rfl rfl
theorem dksX1_bestSpeed_2 : cX1_bestSpeed.data.toList.drop 48 = dktX1_bestSpeed_2 := dk_seg dksX1_bestSpeed_1 24 rfl rfl
theorem dksX1_bestSpeed_3 : cX1_bestSpeed.data.toList.drop 72 = dktX1_bestSpeed_3 := dk_seg dksX1_bestSpeed_2 24 rfl rfl
theorem dX1_bestSpeed_0 : decode cX1_bestSpeed 0 = .ok (.aload_n 0, 1) := dk_42 (dk_at dksX1_bestSpeed_0 0 rfl rfl)
theorem dX1_bestSpeed_1 : decode cX1_bestSpeed 1 = .ok (.iload_n 1, 1) := dk_27 (dk_at dksX1_bestSpeed_0 1 rfl rfl)
theorem dX1_bestSpeed_2 : decode cX1_bestSpeed 2 = .ok (.invokevirtual 151, 3) := dk_182 0 151 (dk_at dksX1_bestSpeed_0 2 rfl rfl)
theorem dX1_bestSpeed_5 : decode cX1_bestSpeed 5 = .ok (.astore_n 3, 1) := dk_78 (dk_at dksX1_bestSpeed_0 5 rfl rfl)
theorem dX1_bestSpeed_6 : decode cX1_bestSpeed 6 = .ok (.iload_n 2, 1) := dk_28 (dk_at dksX1_bestSpeed_0 6 rfl rfl)
theorem dX1_bestSpeed_7 : decode cX1_bestSpeed 7 = .ok (.iconst 1, 1) := dk_4 (dk_at dksX1_bestSpeed_0 7 rfl rfl)
theorem dX1_bestSpeed_8 : decode cX1_bestSpeed 8 = .ok (.bipush 6, 2) := dk_16 6 (dk_at dksX1_bestSpeed_0 8 rfl rfl)
theorem dX1_bestSpeed_10 : decode cX1_bestSpeed 10 = .ok (.invokestatic 3, 3) := dk_184 0 3 (dk_at dksX1_bestSpeed_0 10 rfl rfl)
theorem dX1_bestSpeed_13 : decode cX1_bestSpeed 13 = .ok (.invokestatic 103, 3) := dk_184 0 103 (dk_at dksX1_bestSpeed_0 13 rfl rfl)
theorem dX1_bestSpeed_16 : decode cX1_bestSpeed 16 = .ok (.aload_n 0, 1) := dk_42 (dk_at dksX1_bestSpeed_0 16 rfl rfl)
theorem dX1_bestSpeed_17 : decode cX1_bestSpeed 17 = .ok (.aload_n 3, 1) := dk_45 (dk_at dksX1_bestSpeed_0 17 rfl rfl)
theorem dX1_bestSpeed_18 : decode cX1_bestSpeed 18 = .ok (.invokevirtual 160, 3) := dk_182 0 160 (dk_at dksX1_bestSpeed_0 18 rfl rfl)
theorem dX1_bestSpeed_21 : decode cX1_bestSpeed 21 = .ok (.ifCond .eq 7, 3) := dk_153 0 7 (dk_at dksX1_bestSpeed_0 21 rfl rfl)
theorem dX1_bestSpeed_24 : decode cX1_bestSpeed 24 = .ok (.iconst 0, 1) := dk_3 (dk_at dksX1_bestSpeed_1 0 rfl rfl)
theorem dX1_bestSpeed_25 : decode cX1_bestSpeed 25 = .ok (.goto 4, 3) := dk_167 0 4 (dk_at dksX1_bestSpeed_1 1 rfl rfl)
theorem dX1_bestSpeed_28 : decode cX1_bestSpeed 28 = .ok (.iconst 4, 1) := dk_7 (dk_at dksX1_bestSpeed_1 4 rfl rfl)
theorem dX1_bestSpeed_29 : decode cX1_bestSpeed 29 = .ok (.iconst (-1), 1) := dk_2 (dk_at dksX1_bestSpeed_1 5 rfl rfl)
theorem dX1_bestSpeed_30 : decode cX1_bestSpeed 30 = .ok (.invokevirtual 123, 3) := dk_182 0 123 (dk_at dksX1_bestSpeed_1 6 rfl rfl)
theorem dX1_bestSpeed_33 : decode cX1_bestSpeed 33 = .ok (.bipush (-9), 2) := dk_16 247 (dk_at dksX1_bestSpeed_1 9 rfl rfl)
theorem dX1_bestSpeed_35 : decode cX1_bestSpeed 35 = .ok (.istore 4, 2) := dk_54 4 (dk_at dksX1_bestSpeed_1 11 rfl rfl)
theorem dX1_bestSpeed_37 : decode cX1_bestSpeed 37 = .ok (.iconst (-1), 1) := dk_2 (dk_at dksX1_bestSpeed_1 13 rfl rfl)
theorem dX1_bestSpeed_38 : decode cX1_bestSpeed 38 = .ok (.istore 5, 2) := dk_54 5 (dk_at dksX1_bestSpeed_1 14 rfl rfl)
theorem dX1_bestSpeed_40 : decode cX1_bestSpeed 40 = .ok (.bipush (-9), 2) := dk_16 247 (dk_at dksX1_bestSpeed_1 16 rfl rfl)
theorem dX1_bestSpeed_42 : decode cX1_bestSpeed 42 = .ok (.istore 6, 2) := dk_54 6 (dk_at dksX1_bestSpeed_1 18 rfl rfl)
theorem dX1_bestSpeed_44 : decode cX1_bestSpeed 44 = .ok (.iload 6, 2) := dk_21 6 (dk_at dksX1_bestSpeed_1 20 rfl rfl)
theorem dX1_bestSpeed_46 : decode cX1_bestSpeed 46 = .ok (.bipush 9, 2) := dk_16 9 (dk_at dksX1_bestSpeed_1 22 rfl rfl)
theorem dX1_bestSpeed_48 : decode cX1_bestSpeed 48 = .ok (.if_icmp .gt 34, 3) := dk_163 0 34 (dk_at dksX1_bestSpeed_2 0 rfl rfl)
theorem dX1_bestSpeed_51 : decode cX1_bestSpeed 51 = .ok (.aload_n 0, 1) := dk_42 (dk_at dksX1_bestSpeed_2 3 rfl rfl)
theorem dX1_bestSpeed_52 : decode cX1_bestSpeed 52 = .ok (.iload_n 1, 1) := dk_27 (dk_at dksX1_bestSpeed_2 4 rfl rfl)
theorem dX1_bestSpeed_53 : decode cX1_bestSpeed 53 = .ok (.iload 6, 2) := dk_21 6 (dk_at dksX1_bestSpeed_2 5 rfl rfl)
theorem dX1_bestSpeed_55 : decode cX1_bestSpeed 55 = .ok (.iload_n 2, 1) := dk_28 (dk_at dksX1_bestSpeed_2 7 rfl rfl)
theorem dX1_bestSpeed_56 : decode cX1_bestSpeed 56 = .ok (.invokevirtual 246, 3) := dk_182 0 246 (dk_at dksX1_bestSpeed_2 8 rfl rfl)
theorem dX1_bestSpeed_59 : decode cX1_bestSpeed 59 = .ok (.istore 7, 2) := dk_54 7 (dk_at dksX1_bestSpeed_2 11 rfl rfl)
theorem dX1_bestSpeed_61 : decode cX1_bestSpeed 61 = .ok (.iload 7, 2) := dk_21 7 (dk_at dksX1_bestSpeed_2 13 rfl rfl)
theorem dX1_bestSpeed_63 : decode cX1_bestSpeed 63 = .ok (.iload 5, 2) := dk_21 5 (dk_at dksX1_bestSpeed_2 15 rfl rfl)
theorem dX1_bestSpeed_65 : decode cX1_bestSpeed 65 = .ok (.if_icmp .le 11, 3) := dk_164 0 11 (dk_at dksX1_bestSpeed_2 17 rfl rfl)
theorem dX1_bestSpeed_68 : decode cX1_bestSpeed 68 = .ok (.iload 7, 2) := dk_21 7 (dk_at dksX1_bestSpeed_2 20 rfl rfl)
theorem dX1_bestSpeed_70 : decode cX1_bestSpeed 70 = .ok (.istore 5, 2) := dk_54 5 (dk_at dksX1_bestSpeed_2 22 rfl rfl)
theorem dX1_bestSpeed_72 : decode cX1_bestSpeed 72 = .ok (.iload 6, 2) := dk_21 6 (dk_at dksX1_bestSpeed_3 0 rfl rfl)
theorem dX1_bestSpeed_74 : decode cX1_bestSpeed 74 = .ok (.istore 4, 2) := dk_54 4 (dk_at dksX1_bestSpeed_3 2 rfl rfl)
theorem dX1_bestSpeed_76 : decode cX1_bestSpeed 76 = .ok (.iinc 6 1, 3) := dk_132 6 1 (dk_at dksX1_bestSpeed_3 4 rfl rfl)
theorem dX1_bestSpeed_79 : decode cX1_bestSpeed 79 = .ok (.goto (-35), 3) := dk_167 255 221 (dk_at dksX1_bestSpeed_3 7 rfl rfl)
theorem dX1_bestSpeed_82 : decode cX1_bestSpeed 82 = .ok (.iload 4, 2) := dk_21 4 (dk_at dksX1_bestSpeed_3 10 rfl rfl)
theorem dX1_bestSpeed_84 : decode cX1_bestSpeed 84 = .ok (.ireturn, 1) := dk_172 (dk_at dksX1_bestSpeed_3 12 rfl rfl)
abbrev cX1_pointsWith : ByteArray := prog_1_method_31_code
def yX1_pointsWith : MethodName := ⟨RX1, "pointsWith", "(III)I"⟩
def dkwX1_pointsWith_2 : List UInt8 := [180, 0, 20, 180, 0, 76, 27, 50, 180, 0, 217, 172]
abbrev dktX1_pointsWith_2 : List UInt8 := dkwX1_pointsWith_2 ++ []
def dkwX1_pointsWith_1 : List UInt8 := [3, 54, 4, 21, 4, 29, 162, 0, 17, 42, 180, 0, 20, 182, 0, 243, 87, 132, 4, 1, 167, 255, 239, 42]
abbrev dktX1_pointsWith_1 : List UInt8 := dkwX1_pointsWith_1 ++ dktX1_pointsWith_2
def dkwX1_pointsWith_0 : List UInt8 := [42, 180, 0, 20, 42, 180, 0, 16, 182, 0, 88, 42, 180, 0, 20, 180, 0, 76, 27, 50, 28, 181, 0, 155]
abbrev dktX1_pointsWith_0 : List UInt8 := dkwX1_pointsWith_0 ++ dktX1_pointsWith_1
theorem dksX1_pointsWith_0 : cX1_pointsWith.data.toList.drop 0 = dktX1_pointsWith_0 := by decide +kernel
theorem dksX1_pointsWith_1 : cX1_pointsWith.data.toList.drop 24 = dktX1_pointsWith_1 := dk_seg dksX1_pointsWith_0 24 rfl rfl
theorem dksX1_pointsWith_2 : cX1_pointsWith.data.toList.drop 48 = dktX1_pointsWith_2 := dk_seg dksX1_pointsWith_1 24 rfl rfl
theorem dX1_pointsWith_0 : decode cX1_pointsWith 0 = .ok (.aload_n 0, 1) := dk_42 (dk_at dksX1_pointsWith_0 0 rfl rfl)
theorem dX1_pointsWith_1 : decode cX1_pointsWith 1 = .ok (.getfield 20, 3) := dk_180 0 20 (dk_at dksX1_pointsWith_0 1 rfl rfl)
theorem dX1_pointsWith_4 : decode cX1_pointsWith 4 = .ok (.aload_n 0, 1) := dk_42 (dk_at dksX1_pointsWith_0 4 rfl rfl)
theorem dX1_pointsWith_5 : decode cX1_pointsWith 5 = .ok (.getfield 16, 3) := dk_180 0 16 (dk_at dksX1_pointsWith_0 5 rfl rfl)
theorem dX1_pointsWith_8 : decode cX1_pointsWith 8 = .ok (.invokevirtual 88, 3) := dk_182 0 88 (dk_at dksX1_pointsWith_0 8 rfl rfl)
theorem dX1_pointsWith_11 : decode cX1_pointsWith 11 = .ok (.aload_n 0, 1) := dk_42 (dk_at dksX1_pointsWith_0 11 rfl rfl)
theorem dX1_pointsWith_12 : decode cX1_pointsWith 12 = .ok (.getfield 20, 3) := dk_180 0 20 (dk_at dksX1_pointsWith_0 12 rfl rfl)
theorem dX1_pointsWith_15 : decode cX1_pointsWith 15 = .ok (.getfield 76, 3) := dk_180 0 76 (dk_at dksX1_pointsWith_0 15 rfl rfl)
theorem dX1_pointsWith_18 : decode cX1_pointsWith 18 = .ok (.iload_n 1, 1) := dk_27 (dk_at dksX1_pointsWith_0 18 rfl rfl)
theorem dX1_pointsWith_19 : decode cX1_pointsWith 19 = .ok (.aaload, 1) := dk_50 (dk_at dksX1_pointsWith_0 19 rfl rfl)
theorem dX1_pointsWith_20 : decode cX1_pointsWith 20 = .ok (.iload_n 2, 1) := dk_28 (dk_at dksX1_pointsWith_0 20 rfl rfl)
theorem dX1_pointsWith_21 : decode cX1_pointsWith 21 = .ok (.putfield 155, 3) := dk_181 0 155 (dk_at dksX1_pointsWith_0 21 rfl rfl)
theorem dX1_pointsWith_24 : decode cX1_pointsWith 24 = .ok (.iconst 0, 1) := dk_3 (dk_at dksX1_pointsWith_1 0 rfl rfl)
theorem dX1_pointsWith_25 : decode cX1_pointsWith 25 = .ok (.istore 4, 2) := dk_54 4 (dk_at dksX1_pointsWith_1 1 rfl rfl)
theorem dX1_pointsWith_27 : decode cX1_pointsWith 27 = .ok (.iload 4, 2) := dk_21 4 (dk_at dksX1_pointsWith_1 3 rfl rfl)
theorem dX1_pointsWith_29 : decode cX1_pointsWith 29 = .ok (.iload_n 3, 1) := dk_29 (dk_at dksX1_pointsWith_1 5 rfl rfl)
theorem dX1_pointsWith_30 : decode cX1_pointsWith 30 = .ok (.if_icmp .ge 17, 3) := dk_162 0 17 (dk_at dksX1_pointsWith_1 6 rfl rfl)
theorem dX1_pointsWith_33 : decode cX1_pointsWith 33 = .ok (.aload_n 0, 1) := dk_42 (dk_at dksX1_pointsWith_1 9 rfl rfl)
theorem dX1_pointsWith_34 : decode cX1_pointsWith 34 = .ok (.getfield 20, 3) := dk_180 0 20 (dk_at dksX1_pointsWith_1 10 rfl rfl)
theorem dX1_pointsWith_37 : decode cX1_pointsWith 37 = .ok (.invokevirtual 243, 3) := dk_182 0 243 (dk_at dksX1_pointsWith_1 13 rfl rfl)
theorem dX1_pointsWith_40 : decode cX1_pointsWith 40 = .ok (.pop, 1) := dk_87 (dk_at dksX1_pointsWith_1 16 rfl rfl)
theorem dX1_pointsWith_41 : decode cX1_pointsWith 41 = .ok (.iinc 4 1, 3) := dk_132 4 1 (dk_at dksX1_pointsWith_1 17 rfl rfl)
theorem dX1_pointsWith_44 : decode cX1_pointsWith 44 = .ok (.goto (-17), 3) := dk_167 255 239 (dk_at dksX1_pointsWith_1 20 rfl rfl)
theorem dX1_pointsWith_47 : decode cX1_pointsWith 47 = .ok (.aload_n 0, 1) := dk_42 (dk_at dksX1_pointsWith_1 23 rfl rfl)
theorem dX1_pointsWith_48 : decode cX1_pointsWith 48 = .ok (.getfield 20, 3) := dk_180 0 20 (dk_at dksX1_pointsWith_2 0 rfl rfl)
theorem dX1_pointsWith_51 : decode cX1_pointsWith 51 = .ok (.getfield 76, 3) := dk_180 0 76 (dk_at dksX1_pointsWith_2 3 rfl rfl)
theorem dX1_pointsWith_54 : decode cX1_pointsWith 54 = .ok (.iload_n 1, 1) := dk_27 (dk_at dksX1_pointsWith_2 6 rfl rfl)
theorem dX1_pointsWith_55 : decode cX1_pointsWith 55 = .ok (.aaload, 1) := dk_50 (dk_at dksX1_pointsWith_2 7 rfl rfl)
theorem dX1_pointsWith_56 : decode cX1_pointsWith 56 = .ok (.getfield 217, 3) := dk_180 0 217 (dk_at dksX1_pointsWith_2 8 rfl rfl)
theorem dX1_pointsWith_59 : decode cX1_pointsWith 59 = .ok (.ireturn, 1) := dk_172 (dk_at dksX1_pointsWith_2 11 rfl rfl)
abbrev cX1_cause : ByteArray := prog_1_method_33_code
def yX1_cause : MethodName := ⟨RX1, "cause", "(II)I"⟩
def dkwX1_cause_2 : List UInt8 := [159, 0, 7, 4, 167, 0, 4, 3, 184, 0, 231, 21, 4, 172]
abbrev dktX1_cause_2 : List UInt8 := dkwX1_cause_2 ++ []
def dkwX1_cause_1 : List UInt8 := [192, 0, 250, 58, 5, 28, 155, 0, 12, 25, 5, 28, 182, 0, 252, 167, 0, 4, 2, 54, 4, 21, 4, 2]
abbrev dktX1_cause_1 : List UInt8 := dkwX1_cause_1 ++ dktX1_cause_2
def dkwX1_cause_0 : List UInt8 := [42, 27, 182, 0, 151, 78, 45, 180, 0, 192, 58, 6, 25, 6, 193, 0, 250, 153, 0, 23, 25, 6]
abbrev dktX1_cause_0 : List UInt8 := dkwX1_cause_0 ++ dktX1_cause_1
theorem dksX1_cause_0 : cX1_cause.data.toList.drop 0 = dktX1_cause_0 := by decide +kernel
theorem dksX1_cause_1 : cX1_cause.data.toList.drop 22 = dktX1_cause_1 := dk_seg dksX1_cause_0 22 rfl rfl
theorem dksX1_cause_2 : cX1_cause.data.toList.drop 46 = dktX1_cause_2 := dk_seg dksX1_cause_1 24 rfl rfl
theorem dX1_cause_0 : decode cX1_cause 0 = .ok (.aload_n 0, 1) := dk_42 (dk_at dksX1_cause_0 0 rfl rfl)
theorem dX1_cause_1 : decode cX1_cause 1 = .ok (.iload_n 1, 1) := dk_27 (dk_at dksX1_cause_0 1 rfl rfl)
theorem dX1_cause_2 : decode cX1_cause 2 = .ok (.invokevirtual 151, 3) := dk_182 0 151 (dk_at dksX1_cause_0 2 rfl rfl)
theorem dX1_cause_5 : decode cX1_cause 5 = .ok (.astore_n 3, 1) := dk_78 (dk_at dksX1_cause_0 5 rfl rfl)
theorem dX1_cause_6 : decode cX1_cause 6 = .ok (.aload_n 3, 1) := dk_45 (dk_at dksX1_cause_0 6 rfl rfl)
theorem dX1_cause_7 : decode cX1_cause 7 = .ok (.getfield 192, 3) := dk_180 0 192 (dk_at dksX1_cause_0 7 rfl rfl)
theorem dX1_cause_10 : decode cX1_cause 10 = .ok (.astore 6, 2) := dk_58 6 (dk_at dksX1_cause_0 10 rfl rfl)
theorem dX1_cause_12 : decode cX1_cause 12 = .ok (.aload 6, 2) := dk_25 6 (dk_at dksX1_cause_0 12 rfl rfl)
theorem dX1_cause_14 : decode cX1_cause 14 = .ok (.instanceof 250, 3) := dk_193 0 250 (dk_at dksX1_cause_0 14 rfl rfl)
theorem dX1_cause_17 : decode cX1_cause 17 = .ok (.ifCond .eq 23, 3) := dk_153 0 23 (dk_at dksX1_cause_0 17 rfl rfl)
theorem dX1_cause_20 : decode cX1_cause 20 = .ok (.aload 6, 2) := dk_25 6 (dk_at dksX1_cause_0 20 rfl rfl)
theorem dX1_cause_22 : decode cX1_cause 22 = .ok (.checkcast 250, 3) := dk_192 0 250 (dk_at dksX1_cause_1 0 rfl rfl)
theorem dX1_cause_25 : decode cX1_cause 25 = .ok (.astore 5, 2) := dk_58 5 (dk_at dksX1_cause_1 3 rfl rfl)
theorem dX1_cause_27 : decode cX1_cause 27 = .ok (.iload_n 2, 1) := dk_28 (dk_at dksX1_cause_1 5 rfl rfl)
theorem dX1_cause_28 : decode cX1_cause 28 = .ok (.ifCond .lt 12, 3) := dk_155 0 12 (dk_at dksX1_cause_1 6 rfl rfl)
theorem dX1_cause_31 : decode cX1_cause 31 = .ok (.aload 5, 2) := dk_25 5 (dk_at dksX1_cause_1 9 rfl rfl)
theorem dX1_cause_33 : decode cX1_cause 33 = .ok (.iload_n 2, 1) := dk_28 (dk_at dksX1_cause_1 11 rfl rfl)
theorem dX1_cause_34 : decode cX1_cause 34 = .ok (.invokevirtual 252, 3) := dk_182 0 252 (dk_at dksX1_cause_1 12 rfl rfl)
theorem dX1_cause_37 : decode cX1_cause 37 = .ok (.goto 4, 3) := dk_167 0 4 (dk_at dksX1_cause_1 15 rfl rfl)
theorem dX1_cause_40 : decode cX1_cause 40 = .ok (.iconst (-1), 1) := dk_2 (dk_at dksX1_cause_1 18 rfl rfl)
theorem dX1_cause_41 : decode cX1_cause 41 = .ok (.istore 4, 2) := dk_54 4 (dk_at dksX1_cause_1 19 rfl rfl)
theorem dX1_cause_43 : decode cX1_cause 43 = .ok (.iload 4, 2) := dk_21 4 (dk_at dksX1_cause_1 21 rfl rfl)
theorem dX1_cause_45 : decode cX1_cause 45 = .ok (.iconst (-1), 1) := dk_2 (dk_at dksX1_cause_1 23 rfl rfl)
theorem dX1_cause_46 : decode cX1_cause 46 = .ok (.if_icmp .eq 7, 3) := dk_159 0 7 (dk_at dksX1_cause_2 0 rfl rfl)
theorem dX1_cause_49 : decode cX1_cause 49 = .ok (.iconst 1, 1) := dk_4 (dk_at dksX1_cause_2 3 rfl rfl)
theorem dX1_cause_50 : decode cX1_cause 50 = .ok (.goto 4, 3) := dk_167 0 4 (dk_at dksX1_cause_2 4 rfl rfl)
theorem dX1_cause_53 : decode cX1_cause 53 = .ok (.iconst 0, 1) := dk_3 (dk_at dksX1_cause_2 7 rfl rfl)
theorem dX1_cause_54 : decode cX1_cause 54 = .ok (.invokestatic 231, 3) := dk_184 0 231 (dk_at dksX1_cause_2 8 rfl rfl)
theorem dX1_cause_57 : decode cX1_cause 57 = .ok (.iload 4, 2) := dk_21 4 (dk_at dksX1_cause_2 11 rfl rfl)
theorem dX1_cause_59 : decode cX1_cause 59 = .ok (.ireturn, 1) := dk_172 (dk_at dksX1_cause_2 13 rfl rfl)
abbrev cX1_leader : ByteArray := prog_1_method_34_code
def yX1_leader : MethodName := ⟨RX1, "leader", "()I"⟩
def dkwX1_leader_2 : List UInt8 := [180, 0, 16, 180, 0, 76, 27, 50, 180, 0, 217, 164, 0, 5, 28, 60, 132, 2, 1, 167, 255, 213, 27, 172]
abbrev dktX1_leader_2 : List UInt8 := dkwX1_leader_2 ++ []
def dkwX1_leader_1 : List UInt8 := [180, 0, 16, 180, 0, 120, 162, 0, 38, 42, 180, 0, 16, 180, 0, 76, 28, 50, 180, 0, 217, 42]
abbrev dktX1_leader_1 : List UInt8 := dkwX1_leader_1 ++ dktX1_leader_2
def dkwX1_leader_0 : List UInt8 := [42, 180, 0, 16, 180, 0, 120, 158, 0, 7, 4, 167, 0, 4, 3, 184, 0, 231, 3, 60, 4, 61, 28, 42]
abbrev dktX1_leader_0 : List UInt8 := dkwX1_leader_0 ++ dktX1_leader_1
theorem dksX1_leader_0 : cX1_leader.data.toList.drop 0 = dktX1_leader_0 := by decide +kernel
theorem dksX1_leader_1 : cX1_leader.data.toList.drop 24 = dktX1_leader_1 := dk_seg dksX1_leader_0 24 rfl rfl
theorem dksX1_leader_2 : cX1_leader.data.toList.drop 46 = dktX1_leader_2 := dk_seg dksX1_leader_1 22 rfl rfl
theorem dX1_leader_0 : decode cX1_leader 0 = .ok (.aload_n 0, 1) := dk_42 (dk_at dksX1_leader_0 0 rfl rfl)
theorem dX1_leader_1 : decode cX1_leader 1 = .ok (.getfield 16, 3) := dk_180 0 16 (dk_at dksX1_leader_0 1 rfl rfl)
theorem dX1_leader_4 : decode cX1_leader 4 = .ok (.getfield 120, 3) := dk_180 0 120 (dk_at dksX1_leader_0 4 rfl rfl)
theorem dX1_leader_7 : decode cX1_leader 7 = .ok (.ifCond .le 7, 3) := dk_158 0 7 (dk_at dksX1_leader_0 7 rfl rfl)
theorem dX1_leader_10 : decode cX1_leader 10 = .ok (.iconst 1, 1) := dk_4 (dk_at dksX1_leader_0 10 rfl rfl)
theorem dX1_leader_11 : decode cX1_leader 11 = .ok (.goto 4, 3) := dk_167 0 4 (dk_at dksX1_leader_0 11 rfl rfl)
theorem dX1_leader_14 : decode cX1_leader 14 = .ok (.iconst 0, 1) := dk_3 (dk_at dksX1_leader_0 14 rfl rfl)
theorem dX1_leader_15 : decode cX1_leader 15 = .ok (.invokestatic 231, 3) := dk_184 0 231 (dk_at dksX1_leader_0 15 rfl rfl)
theorem dX1_leader_18 : decode cX1_leader 18 = .ok (.iconst 0, 1) := dk_3 (dk_at dksX1_leader_0 18 rfl rfl)
theorem dX1_leader_19 : decode cX1_leader 19 = .ok (.istore_n 1, 1) := dk_60 (dk_at dksX1_leader_0 19 rfl rfl)
theorem dX1_leader_20 : decode cX1_leader 20 = .ok (.iconst 1, 1) := dk_4 (dk_at dksX1_leader_0 20 rfl rfl)
theorem dX1_leader_21 : decode cX1_leader 21 = .ok (.istore_n 2, 1) := dk_61 (dk_at dksX1_leader_0 21 rfl rfl)
theorem dX1_leader_22 : decode cX1_leader 22 = .ok (.iload_n 2, 1) := dk_28 (dk_at dksX1_leader_0 22 rfl rfl)
theorem dX1_leader_23 : decode cX1_leader 23 = .ok (.aload_n 0, 1) := dk_42 (dk_at dksX1_leader_0 23 rfl rfl)
theorem dX1_leader_24 : decode cX1_leader 24 = .ok (.getfield 16, 3) := dk_180 0 16 (dk_at dksX1_leader_1 0 rfl rfl)
theorem dX1_leader_27 : decode cX1_leader 27 = .ok (.getfield 120, 3) := dk_180 0 120 (dk_at dksX1_leader_1 3 rfl rfl)
theorem dX1_leader_30 : decode cX1_leader 30 = .ok (.if_icmp .ge 38, 3) := dk_162 0 38 (dk_at dksX1_leader_1 6 rfl rfl)
theorem dX1_leader_33 : decode cX1_leader 33 = .ok (.aload_n 0, 1) := dk_42 (dk_at dksX1_leader_1 9 rfl rfl)
theorem dX1_leader_34 : decode cX1_leader 34 = .ok (.getfield 16, 3) := dk_180 0 16 (dk_at dksX1_leader_1 10 rfl rfl)
theorem dX1_leader_37 : decode cX1_leader 37 = .ok (.getfield 76, 3) := dk_180 0 76 (dk_at dksX1_leader_1 13 rfl rfl)
theorem dX1_leader_40 : decode cX1_leader 40 = .ok (.iload_n 2, 1) := dk_28 (dk_at dksX1_leader_1 16 rfl rfl)
theorem dX1_leader_41 : decode cX1_leader 41 = .ok (.aaload, 1) := dk_50 (dk_at dksX1_leader_1 17 rfl rfl)
theorem dX1_leader_42 : decode cX1_leader 42 = .ok (.getfield 217, 3) := dk_180 0 217 (dk_at dksX1_leader_1 18 rfl rfl)
theorem dX1_leader_45 : decode cX1_leader 45 = .ok (.aload_n 0, 1) := dk_42 (dk_at dksX1_leader_1 21 rfl rfl)
theorem dX1_leader_46 : decode cX1_leader 46 = .ok (.getfield 16, 3) := dk_180 0 16 (dk_at dksX1_leader_2 0 rfl rfl)
theorem dX1_leader_49 : decode cX1_leader 49 = .ok (.getfield 76, 3) := dk_180 0 76 (dk_at dksX1_leader_2 3 rfl rfl)
theorem dX1_leader_52 : decode cX1_leader 52 = .ok (.iload_n 1, 1) := dk_27 (dk_at dksX1_leader_2 6 rfl rfl)
theorem dX1_leader_53 : decode cX1_leader 53 = .ok (.aaload, 1) := dk_50 (dk_at dksX1_leader_2 7 rfl rfl)
theorem dX1_leader_54 : decode cX1_leader 54 = .ok (.getfield 217, 3) := dk_180 0 217 (dk_at dksX1_leader_2 8 rfl rfl)
theorem dX1_leader_57 : decode cX1_leader 57 = .ok (.if_icmp .le 5, 3) := dk_164 0 5 (dk_at dksX1_leader_2 11 rfl rfl)
theorem dX1_leader_60 : decode cX1_leader 60 = .ok (.iload_n 2, 1) := dk_28 (dk_at dksX1_leader_2 14 rfl rfl)
theorem dX1_leader_61 : decode cX1_leader 61 = .ok (.istore_n 1, 1) := dk_60 (dk_at dksX1_leader_2 15 rfl rfl)
theorem dX1_leader_62 : decode cX1_leader 62 = .ok (.iinc 2 1, 3) := dk_132 2 1 (dk_at dksX1_leader_2 16 rfl rfl)
theorem dX1_leader_65 : decode cX1_leader 65 = .ok (.goto (-43), 3) := dk_167 255 213 (dk_at dksX1_leader_2 19 rfl rfl)
theorem dX1_leader_68 : decode cX1_leader 68 = .ok (.iload_n 1, 1) := dk_27 (dk_at dksX1_leader_2 22 rfl rfl)
theorem dX1_leader_69 : decode cX1_leader 69 = .ok (.ireturn, 1) := dk_172 (dk_at dksX1_leader_2 23 rfl rfl)
abbrev cX1_append : ByteArray := prog_1_method_35_code
def yX1_append : MethodName := ⟨RX1, "append", "(C)I"⟩
def dkwX1_append_1 : List UInt8 := [27, 182, 1, 5, 87, 42, 180, 0, 36, 182, 0, 255, 172]
abbrev dktX1_append_1 : List UInt8 := dkwX1_append_1 ++ []
def dkwX1_append_0 : List UInt8 := [42, 180, 0, 36, 182, 0, 255, 16, 60, 162, 0, 7, 4, 167, 0, 4, 3, 184, 1, 2, 42, 180, 0, 36]
abbrev dktX1_append_0 : List UInt8 := dkwX1_append_0 ++ dktX1_append_1
theorem dksX1_append_0 : cX1_append.data.toList.drop 0 = dktX1_append_0 := by decide +kernel
theorem dksX1_append_1 : cX1_append.data.toList.drop 24 = dktX1_append_1 := dk_seg dksX1_append_0 24 rfl rfl
theorem dX1_append_0 : decode cX1_append 0 = .ok (.aload_n 0, 1) := dk_42 (dk_at dksX1_append_0 0 rfl rfl)
theorem dX1_append_1 : decode cX1_append 1 = .ok (.getfield 36, 3) := dk_180 0 36 (dk_at dksX1_append_0 1 rfl rfl)
theorem dX1_append_4 : decode cX1_append 4 = .ok (.invokevirtual 255, 3) := dk_182 0 255 (dk_at dksX1_append_0 4 rfl rfl)
theorem dX1_append_7 : decode cX1_append 7 = .ok (.bipush 60, 2) := dk_16 60 (dk_at dksX1_append_0 7 rfl rfl)
theorem dX1_append_9 : decode cX1_append 9 = .ok (.if_icmp .ge 7, 3) := dk_162 0 7 (dk_at dksX1_append_0 9 rfl rfl)
theorem dX1_append_12 : decode cX1_append 12 = .ok (.iconst 1, 1) := dk_4 (dk_at dksX1_append_0 12 rfl rfl)
theorem dX1_append_13 : decode cX1_append 13 = .ok (.goto 4, 3) := dk_167 0 4 (dk_at dksX1_append_0 13 rfl rfl)
theorem dX1_append_16 : decode cX1_append 16 = .ok (.iconst 0, 1) := dk_3 (dk_at dksX1_append_0 16 rfl rfl)
theorem dX1_append_17 : decode cX1_append 17 = .ok (.invokestatic 258, 3) := dk_184 1 2 (dk_at dksX1_append_0 17 rfl rfl)
theorem dX1_append_20 : decode cX1_append 20 = .ok (.aload_n 0, 1) := dk_42 (dk_at dksX1_append_0 20 rfl rfl)
theorem dX1_append_21 : decode cX1_append 21 = .ok (.getfield 36, 3) := dk_180 0 36 (dk_at dksX1_append_0 21 rfl rfl)
theorem dX1_append_24 : decode cX1_append 24 = .ok (.iload_n 1, 1) := dk_27 (dk_at dksX1_append_1 0 rfl rfl)
theorem dX1_append_25 : decode cX1_append 25 = .ok (.invokevirtual 261, 3) := dk_182 1 5 (dk_at dksX1_append_1 1 rfl rfl)
theorem dX1_append_28 : decode cX1_append 28 = .ok (.pop, 1) := dk_87 (dk_at dksX1_append_1 4 rfl rfl)
theorem dX1_append_29 : decode cX1_append 29 = .ok (.aload_n 0, 1) := dk_42 (dk_at dksX1_append_1 5 rfl rfl)
theorem dX1_append_30 : decode cX1_append 30 = .ok (.getfield 36, 3) := dk_180 0 36 (dk_at dksX1_append_1 6 rfl rfl)
theorem dX1_append_33 : decode cX1_append 33 = .ok (.invokevirtual 255, 3) := dk_182 0 255 (dk_at dksX1_append_1 9 rfl rfl)
theorem dX1_append_36 : decode cX1_append 36 = .ok (.ireturn, 1) := dk_172 (dk_at dksX1_append_1 12 rfl rfl)
abbrev cX1_checkState : ByteArray := prog_1_method_7_code
def yX1_checkState : MethodName := ⟨RX1, "checkState", "(Z)V"⟩
def dkwX1_checkState_0 : List UInt8 := [26, 154, 0, 11, 187, 0, 53, 89, 183, 0, 55, 191, 177]
abbrev dktX1_checkState_0 : List UInt8 := dkwX1_checkState_0 ++ []
theorem dksX1_checkState_0 : cX1_checkState.data.toList.drop 0 = dktX1_checkState_0 := by decide +kernel
theorem dX1_checkState_0 : decode cX1_checkState 0 = .ok (.iload_n 0, 1) := dk_26 (dk_at dksX1_checkState_0 0 rfl rfl)
theorem dX1_checkState_1 : decode cX1_checkState 1 = .ok (.ifCond .ne 11, 3) := dk_154 0 11 (dk_at dksX1_checkState_0 1 rfl rfl)
theorem dX1_checkState_4 : decode cX1_checkState 4 = .ok (.new 53, 3) := dk_187 0 53 (dk_at dksX1_checkState_0 4 rfl rfl)
theorem dX1_checkState_7 : decode cX1_checkState 7 = .ok (.dup, 1) := dk_89 (dk_at dksX1_checkState_0 7 rfl rfl)
theorem dX1_checkState_8 : decode cX1_checkState 8 = .ok (.invokespecial 55, 3) := dk_183 0 55 (dk_at dksX1_checkState_0 8 rfl rfl)
theorem dX1_checkState_11 : decode cX1_checkState 11 = .ok (.athrow, 1) := dk_191 (dk_at dksX1_checkState_0 11 rfl rfl)
theorem dX1_checkState_12 : decode cX1_checkState 12 = .ok (.return_, 1) := dk_177 (dk_at dksX1_checkState_0 12 rfl rfl)
abbrev cX1_read : ByteArray := prog_1_method_40_code
def yX1_read : MethodName := ⟨RX1, "read", "()I"⟩
def dkwX1_read_6 : List UInt8 := [182, 0, 88, 43, 180, 1, 65, 172]
abbrev dktX1_read_6 : List UInt8 := dkwX1_read_6 ++ []
def dkwX1_read_5 : List UInt8 := [50, 182, 1, 78, 132, 2, 1, 167, 255, 207, 42, 182, 0, 106, 42, 180, 0, 16, 42, 180, 0, 20]
abbrev dktX1_read_5 : List UInt8 := dkwX1_read_5 ++ dktX1_read_6
def dkwX1_read_4 : List UInt8 := [184, 0, 103, 42, 42, 43, 180, 1, 66, 28, 50, 182, 1, 74, 28, 182, 0, 123, 42, 43, 180, 1, 66, 28]
abbrev dktX1_read_4 : List UInt8 := dkwX1_read_4 ++ dktX1_read_5
def dkwX1_read_3 : List UInt8 := [182, 0, 88, 3, 61, 28, 43, 180, 1, 65, 162, 0, 47, 42, 43, 180, 1, 66, 28, 50, 182, 1, 70]
abbrev dktX1_read_3 : List UInt8 := dkwX1_read_3 ++ dktX1_read_4
def dkwX1_read_2 : List UInt8 := [42, 180, 0, 40, 2, 160, 0, 7, 4, 167, 0, 4, 3, 184, 0, 103, 42, 180, 0, 20, 42, 180, 0, 16]
abbrev dktX1_read_2 : List UInt8 := dkwX1_read_2 ++ dktX1_read_3
def dkwX1_read_1 : List UInt8 := [181, 0, 36, 42, 2, 181, 0, 40, 43, 182, 1, 57, 167, 0, 12, 77, 42, 44, 180, 1, 62, 181, 0, 40]
abbrev dktX1_read_1 : List UInt8 := dkwX1_read_1 ++ dktX1_read_2
def dkwX1_read_0 : List UInt8 := [187, 1, 48, 89, 42, 180, 0, 36, 182, 1, 50, 183, 1, 54, 76, 42, 187, 0, 33, 89, 183, 0, 35]
abbrev dktX1_read_0 : List UInt8 := dkwX1_read_0 ++ dktX1_read_1
theorem dksX1_read_0 : cX1_read.data.toList.drop 0 = dktX1_read_0 := by decide +kernel
theorem dksX1_read_1 : cX1_read.data.toList.drop 23 = dktX1_read_1 := dk_seg dksX1_read_0 23 rfl rfl
theorem dksX1_read_2 : cX1_read.data.toList.drop 47 = dktX1_read_2 := dk_seg dksX1_read_1 24 rfl rfl
theorem dksX1_read_3 : cX1_read.data.toList.drop 71 = dktX1_read_3 := dk_seg dksX1_read_2 24 rfl rfl
theorem dksX1_read_4 : cX1_read.data.toList.drop 94 = dktX1_read_4 := dk_seg dksX1_read_3 23 rfl rfl
theorem dksX1_read_5 : cX1_read.data.toList.drop 118 = dktX1_read_5 := dk_seg dksX1_read_4 24 rfl rfl
theorem dksX1_read_6 : cX1_read.data.toList.drop 140 = dktX1_read_6 := dk_seg dksX1_read_5 22 rfl rfl
theorem dX1_read_0 : decode cX1_read 0 = .ok (.new 304, 3) := dk_187 1 48 (dk_at dksX1_read_0 0 rfl rfl)
theorem dX1_read_3 : decode cX1_read 3 = .ok (.dup, 1) := dk_89 (dk_at dksX1_read_0 3 rfl rfl)
theorem dX1_read_4 : decode cX1_read 4 = .ok (.aload_n 0, 1) := dk_42 (dk_at dksX1_read_0 4 rfl rfl)
theorem dX1_read_5 : decode cX1_read 5 = .ok (.getfield 36, 3) := dk_180 0 36 (dk_at dksX1_read_0 5 rfl rfl)
theorem dX1_read_8 : decode cX1_read 8 = .ok (.invokevirtual 306, 3) := dk_182 1 50 (dk_at dksX1_read_0 8 rfl rfl)
theorem dX1_read_11 : decode cX1_read 11 = .ok (.invokespecial 310, 3) := dk_183 1 54 (dk_at dksX1_read_0 11 rfl rfl)
theorem dX1_read_14 : decode cX1_read 14 = .ok (.astore_n 1, 1) := dk_76 (dk_at dksX1_read_0 14 rfl rfl)
theorem dX1_read_15 : decode cX1_read 15 = .ok (.aload_n 0, 1) := dk_42 (dk_at dksX1_read_0 15 rfl rfl)
theorem dX1_read_16 : decode cX1_read 16 = .ok (.new 33, 3) := dk_187 0 33 (dk_at dksX1_read_0 16 rfl rfl)
theorem dX1_read_19 : decode cX1_read 19 = .ok (.dup, 1) := dk_89 (dk_at dksX1_read_0 19 rfl rfl)
theorem dX1_read_20 : decode cX1_read 20 = .ok (.invokespecial 35, 3) := dk_183 0 35 (dk_at dksX1_read_0 20 rfl rfl)
theorem dX1_read_23 : decode cX1_read 23 = .ok (.putfield 36, 3) := dk_181 0 36 (dk_at dksX1_read_1 0 rfl rfl)
theorem dX1_read_26 : decode cX1_read 26 = .ok (.aload_n 0, 1) := dk_42 (dk_at dksX1_read_1 3 rfl rfl)
theorem dX1_read_27 : decode cX1_read 27 = .ok (.iconst (-1), 1) := dk_2 (dk_at dksX1_read_1 4 rfl rfl)
theorem dX1_read_28 : decode cX1_read 28 = .ok (.putfield 40, 3) := dk_181 0 40 (dk_at dksX1_read_1 5 rfl rfl)
theorem dX1_read_31 : decode cX1_read 31 = .ok (.aload_n 1, 1) := dk_43 (dk_at dksX1_read_1 8 rfl rfl)
theorem dX1_read_32 : decode cX1_read 32 = .ok (.invokevirtual 313, 3) := dk_182 1 57 (dk_at dksX1_read_1 9 rfl rfl)
theorem dX1_read_35 : decode cX1_read 35 = .ok (.goto 12, 3) := dk_167 0 12 (dk_at dksX1_read_1 12 rfl rfl)
theorem dX1_read_38 : decode cX1_read 38 = .ok (.astore_n 2, 1) := dk_77 (dk_at dksX1_read_1 15 rfl rfl)
theorem dX1_read_39 : decode cX1_read 39 = .ok (.aload_n 0, 1) := dk_42 (dk_at dksX1_read_1 16 rfl rfl)
theorem dX1_read_40 : decode cX1_read 40 = .ok (.aload_n 2, 1) := dk_44 (dk_at dksX1_read_1 17 rfl rfl)
theorem dX1_read_41 : decode cX1_read 41 = .ok (.getfield 318, 3) := dk_180 1 62 (dk_at dksX1_read_1 18 rfl rfl)
theorem dX1_read_44 : decode cX1_read 44 = .ok (.putfield 40, 3) := dk_181 0 40 (dk_at dksX1_read_1 21 rfl rfl)
theorem dX1_read_47 : decode cX1_read 47 = .ok (.aload_n 0, 1) := dk_42 (dk_at dksX1_read_2 0 rfl rfl)
theorem dX1_read_48 : decode cX1_read 48 = .ok (.getfield 40, 3) := dk_180 0 40 (dk_at dksX1_read_2 1 rfl rfl)
theorem dX1_read_51 : decode cX1_read 51 = .ok (.iconst (-1), 1) := dk_2 (dk_at dksX1_read_2 4 rfl rfl)
theorem dX1_read_52 : decode cX1_read 52 = .ok (.if_icmp .ne 7, 3) := dk_160 0 7 (dk_at dksX1_read_2 5 rfl rfl)
theorem dX1_read_55 : decode cX1_read 55 = .ok (.iconst 1, 1) := dk_4 (dk_at dksX1_read_2 8 rfl rfl)
theorem dX1_read_56 : decode cX1_read 56 = .ok (.goto 4, 3) := dk_167 0 4 (dk_at dksX1_read_2 9 rfl rfl)
theorem dX1_read_59 : decode cX1_read 59 = .ok (.iconst 0, 1) := dk_3 (dk_at dksX1_read_2 12 rfl rfl)
theorem dX1_read_60 : decode cX1_read 60 = .ok (.invokestatic 103, 3) := dk_184 0 103 (dk_at dksX1_read_2 13 rfl rfl)
theorem dX1_read_63 : decode cX1_read 63 = .ok (.aload_n 0, 1) := dk_42 (dk_at dksX1_read_2 16 rfl rfl)
theorem dX1_read_64 : decode cX1_read 64 = .ok (.getfield 20, 3) := dk_180 0 20 (dk_at dksX1_read_2 17 rfl rfl)
theorem dX1_read_67 : decode cX1_read 67 = .ok (.aload_n 0, 1) := dk_42 (dk_at dksX1_read_2 20 rfl rfl)
theorem dX1_read_68 : decode cX1_read 68 = .ok (.getfield 16, 3) := dk_180 0 16 (dk_at dksX1_read_2 21 rfl rfl)
theorem dX1_read_71 : decode cX1_read 71 = .ok (.invokevirtual 88, 3) := dk_182 0 88 (dk_at dksX1_read_3 0 rfl rfl)
theorem dX1_read_74 : decode cX1_read 74 = .ok (.iconst 0, 1) := dk_3 (dk_at dksX1_read_3 3 rfl rfl)
theorem dX1_read_75 : decode cX1_read 75 = .ok (.istore_n 2, 1) := dk_61 (dk_at dksX1_read_3 4 rfl rfl)
theorem dX1_read_76 : decode cX1_read 76 = .ok (.iload_n 2, 1) := dk_28 (dk_at dksX1_read_3 5 rfl rfl)
theorem dX1_read_77 : decode cX1_read 77 = .ok (.aload_n 1, 1) := dk_43 (dk_at dksX1_read_3 6 rfl rfl)
theorem dX1_read_78 : decode cX1_read 78 = .ok (.getfield 321, 3) := dk_180 1 65 (dk_at dksX1_read_3 7 rfl rfl)
theorem dX1_read_81 : decode cX1_read 81 = .ok (.if_icmp .ge 47, 3) := dk_162 0 47 (dk_at dksX1_read_3 10 rfl rfl)
theorem dX1_read_84 : decode cX1_read 84 = .ok (.aload_n 0, 1) := dk_42 (dk_at dksX1_read_3 13 rfl rfl)
theorem dX1_read_85 : decode cX1_read 85 = .ok (.aload_n 1, 1) := dk_43 (dk_at dksX1_read_3 14 rfl rfl)
theorem dX1_read_86 : decode cX1_read 86 = .ok (.getfield 322, 3) := dk_180 1 66 (dk_at dksX1_read_3 15 rfl rfl)
theorem dX1_read_89 : decode cX1_read 89 = .ok (.iload_n 2, 1) := dk_28 (dk_at dksX1_read_3 18 rfl rfl)
theorem dX1_read_90 : decode cX1_read 90 = .ok (.aaload, 1) := dk_50 (dk_at dksX1_read_3 19 rfl rfl)
theorem dX1_read_91 : decode cX1_read 91 = .ok (.invokevirtual 326, 3) := dk_182 1 70 (dk_at dksX1_read_3 20 rfl rfl)
theorem dX1_read_94 : decode cX1_read 94 = .ok (.invokestatic 103, 3) := dk_184 0 103 (dk_at dksX1_read_4 0 rfl rfl)
theorem dX1_read_97 : decode cX1_read 97 = .ok (.aload_n 0, 1) := dk_42 (dk_at dksX1_read_4 3 rfl rfl)
theorem dX1_read_98 : decode cX1_read 98 = .ok (.aload_n 0, 1) := dk_42 (dk_at dksX1_read_4 4 rfl rfl)
theorem dX1_read_99 : decode cX1_read 99 = .ok (.aload_n 1, 1) := dk_43 (dk_at dksX1_read_4 5 rfl rfl)
theorem dX1_read_100 : decode cX1_read 100 = .ok (.getfield 322, 3) := dk_180 1 66 (dk_at dksX1_read_4 6 rfl rfl)
theorem dX1_read_103 : decode cX1_read 103 = .ok (.iload_n 2, 1) := dk_28 (dk_at dksX1_read_4 9 rfl rfl)
theorem dX1_read_104 : decode cX1_read 104 = .ok (.aaload, 1) := dk_50 (dk_at dksX1_read_4 10 rfl rfl)
theorem dX1_read_105 : decode cX1_read 105 = .ok (.invokevirtual 330, 3) := dk_182 1 74 (dk_at dksX1_read_4 11 rfl rfl)
theorem dX1_read_108 : decode cX1_read 108 = .ok (.iload_n 2, 1) := dk_28 (dk_at dksX1_read_4 14 rfl rfl)
theorem dX1_read_109 : decode cX1_read 109 = .ok (.invokevirtual 123, 3) := dk_182 0 123 (dk_at dksX1_read_4 15 rfl rfl)
theorem dX1_read_112 : decode cX1_read 112 = .ok (.aload_n 0, 1) := dk_42 (dk_at dksX1_read_4 18 rfl rfl)
theorem dX1_read_113 : decode cX1_read 113 = .ok (.aload_n 1, 1) := dk_43 (dk_at dksX1_read_4 19 rfl rfl)
theorem dX1_read_114 : decode cX1_read 114 = .ok (.getfield 322, 3) := dk_180 1 66 (dk_at dksX1_read_4 20 rfl rfl)
theorem dX1_read_117 : decode cX1_read 117 = .ok (.iload_n 2, 1) := dk_28 (dk_at dksX1_read_4 23 rfl rfl)
theorem dX1_read_118 : decode cX1_read 118 = .ok (.aaload, 1) := dk_50 (dk_at dksX1_read_5 0 rfl rfl)
theorem dX1_read_119 : decode cX1_read 119 = .ok (.invokevirtual 334, 3) := dk_182 1 78 (dk_at dksX1_read_5 1 rfl rfl)
theorem dX1_read_122 : decode cX1_read 122 = .ok (.iinc 2 1, 3) := dk_132 2 1 (dk_at dksX1_read_5 4 rfl rfl)
theorem dX1_read_125 : decode cX1_read 125 = .ok (.goto (-49), 3) := dk_167 255 207 (dk_at dksX1_read_5 7 rfl rfl)
theorem dX1_read_128 : decode cX1_read 128 = .ok (.aload_n 0, 1) := dk_42 (dk_at dksX1_read_5 10 rfl rfl)
theorem dX1_read_129 : decode cX1_read 129 = .ok (.invokevirtual 106, 3) := dk_182 0 106 (dk_at dksX1_read_5 11 rfl rfl)
theorem dX1_read_132 : decode cX1_read 132 = .ok (.aload_n 0, 1) := dk_42 (dk_at dksX1_read_5 14 rfl rfl)
theorem dX1_read_133 : decode cX1_read 133 = .ok (.getfield 16, 3) := dk_180 0 16 (dk_at dksX1_read_5 15 rfl rfl)
theorem dX1_read_136 : decode cX1_read 136 = .ok (.aload_n 0, 1) := dk_42 (dk_at dksX1_read_5 18 rfl rfl)
theorem dX1_read_137 : decode cX1_read 137 = .ok (.getfield 20, 3) := dk_180 0 20 (dk_at dksX1_read_5 19 rfl rfl)
theorem dX1_read_140 : decode cX1_read 140 = .ok (.invokevirtual 88, 3) := dk_182 0 88 (dk_at dksX1_read_6 0 rfl rfl)
theorem dX1_read_143 : decode cX1_read 143 = .ok (.aload_n 1, 1) := dk_43 (dk_at dksX1_read_6 3 rfl rfl)
theorem dX1_read_144 : decode cX1_read 144 = .ok (.getfield 321, 3) := dk_180 1 65 (dk_at dksX1_read_6 4 rfl rfl)
theorem dX1_read_147 : decode cX1_read 147 = .ok (.ireturn, 1) := dk_172 (dk_at dksX1_read_6 7 rfl rfl)
abbrev cX1_mayBe : ByteArray := prog_1_method_37_code
def yX1_mayBe : MethodName := ⟨RX1, "mayBe", "(LKiteRoofs$Order;)Z"⟩
def dkwX1_mayBe_5 : List UInt8 := [192, 1, 40, 77, 44, 180, 1, 42, 4, 16, 30, 184, 0, 3, 153, 0, 7, 4, 167, 0, 4, 3, 172]
abbrev dktX1_mayBe_5 : List UInt8 := dkwX1_mayBe_5 ++ []
def dkwX1_mayBe_4 : List UInt8 := [16, 236, 16, 20, 184, 0, 3, 153, 0, 7, 4, 167, 0, 4, 3, 172, 43, 193, 1, 40, 153, 0, 25, 43]
abbrev dktX1_mayBe_4 : List UInt8 := dkwX1_mayBe_4 ++ dktX1_mayBe_5
def dkwX1_mayBe_3 : List UInt8 := [43, 192, 1, 34, 77, 42, 180, 0, 20, 44, 180, 1, 36, 182, 0, 68, 153, 0, 21, 44, 180, 1, 37]
abbrev dktX1_mayBe_3 : List UInt8 := dkwX1_mayBe_3 ++ dktX1_mayBe_4
def dkwX1_mayBe_2 : List UInt8 := [43, 192, 1, 29, 77, 42, 180, 0, 20, 44, 180, 1, 31, 182, 0, 68, 172, 43, 193, 1, 34, 153, 0, 42]
abbrev dktX1_mayBe_2 : List UInt8 := dkwX1_mayBe_2 ++ dktX1_mayBe_3
def dkwX1_mayBe_1 : List UInt8 := [43, 193, 1, 10, 153, 0, 13, 43, 192, 1, 10, 77, 44, 184, 1, 25, 172, 43, 193, 1, 29, 153, 0, 20]
abbrev dktX1_mayBe_1 : List UInt8 := dkwX1_mayBe_1 ++ dktX1_mayBe_2
def dkwX1_mayBe_0 : List UInt8 := [43, 193, 1, 17, 153, 0, 20, 43, 192, 1, 17, 77, 44, 180, 1, 19, 44, 180, 1, 22, 184, 0, 99, 172]
abbrev dktX1_mayBe_0 : List UInt8 := dkwX1_mayBe_0 ++ dktX1_mayBe_1
theorem dksX1_mayBe_0 : cX1_mayBe.data.toList.drop 0 = dktX1_mayBe_0 := by decide +kernel
theorem dksX1_mayBe_1 : cX1_mayBe.data.toList.drop 24 = dktX1_mayBe_1 := dk_seg dksX1_mayBe_0 24 rfl rfl
theorem dksX1_mayBe_2 : cX1_mayBe.data.toList.drop 48 = dktX1_mayBe_2 := dk_seg dksX1_mayBe_1 24 rfl rfl
theorem dksX1_mayBe_3 : cX1_mayBe.data.toList.drop 72 = dktX1_mayBe_3 := dk_seg dksX1_mayBe_2 24 rfl rfl
theorem dksX1_mayBe_4 : cX1_mayBe.data.toList.drop 95 = dktX1_mayBe_4 := dk_seg dksX1_mayBe_3 23 rfl rfl
theorem dksX1_mayBe_5 : cX1_mayBe.data.toList.drop 119 = dktX1_mayBe_5 := dk_seg dksX1_mayBe_4 24 rfl rfl
theorem dX1_mayBe_0 : decode cX1_mayBe 0 = .ok (.aload_n 1, 1) := dk_43 (dk_at dksX1_mayBe_0 0 rfl rfl)
theorem dX1_mayBe_1 : decode cX1_mayBe 1 = .ok (.instanceof 273, 3) := dk_193 1 17 (dk_at dksX1_mayBe_0 1 rfl rfl)
theorem dX1_mayBe_4 : decode cX1_mayBe 4 = .ok (.ifCond .eq 20, 3) := dk_153 0 20 (dk_at dksX1_mayBe_0 4 rfl rfl)
theorem dX1_mayBe_7 : decode cX1_mayBe 7 = .ok (.aload_n 1, 1) := dk_43 (dk_at dksX1_mayBe_0 7 rfl rfl)
theorem dX1_mayBe_8 : decode cX1_mayBe 8 = .ok (.checkcast 273, 3) := dk_192 1 17 (dk_at dksX1_mayBe_0 8 rfl rfl)
theorem dX1_mayBe_11 : decode cX1_mayBe 11 = .ok (.astore_n 2, 1) := dk_77 (dk_at dksX1_mayBe_0 11 rfl rfl)
theorem dX1_mayBe_12 : decode cX1_mayBe 12 = .ok (.aload_n 2, 1) := dk_44 (dk_at dksX1_mayBe_0 12 rfl rfl)
theorem dX1_mayBe_13 : decode cX1_mayBe 13 = .ok (.getfield 275, 3) := dk_180 1 19 (dk_at dksX1_mayBe_0 13 rfl rfl)
theorem dX1_mayBe_16 : decode cX1_mayBe 16 = .ok (.aload_n 2, 1) := dk_44 (dk_at dksX1_mayBe_0 16 rfl rfl)
theorem dX1_mayBe_17 : decode cX1_mayBe 17 = .ok (.getfield 278, 3) := dk_180 1 22 (dk_at dksX1_mayBe_0 17 rfl rfl)
theorem dX1_mayBe_20 : decode cX1_mayBe 20 = .ok (.invokestatic 99, 3) := dk_184 0 99 (dk_at dksX1_mayBe_0 20 rfl rfl)
theorem dX1_mayBe_23 : decode cX1_mayBe 23 = .ok (.ireturn, 1) := dk_172 (dk_at dksX1_mayBe_0 23 rfl rfl)
theorem dX1_mayBe_24 : decode cX1_mayBe 24 = .ok (.aload_n 1, 1) := dk_43 (dk_at dksX1_mayBe_1 0 rfl rfl)
theorem dX1_mayBe_25 : decode cX1_mayBe 25 = .ok (.instanceof 266, 3) := dk_193 1 10 (dk_at dksX1_mayBe_1 1 rfl rfl)
theorem dX1_mayBe_28 : decode cX1_mayBe 28 = .ok (.ifCond .eq 13, 3) := dk_153 0 13 (dk_at dksX1_mayBe_1 4 rfl rfl)
theorem dX1_mayBe_31 : decode cX1_mayBe 31 = .ok (.aload_n 1, 1) := dk_43 (dk_at dksX1_mayBe_1 7 rfl rfl)
theorem dX1_mayBe_32 : decode cX1_mayBe 32 = .ok (.checkcast 266, 3) := dk_192 1 10 (dk_at dksX1_mayBe_1 8 rfl rfl)
theorem dX1_mayBe_35 : decode cX1_mayBe 35 = .ok (.astore_n 2, 1) := dk_77 (dk_at dksX1_mayBe_1 11 rfl rfl)
theorem dX1_mayBe_36 : decode cX1_mayBe 36 = .ok (.aload_n 2, 1) := dk_44 (dk_at dksX1_mayBe_1 12 rfl rfl)
theorem dX1_mayBe_37 : decode cX1_mayBe 37 = .ok (.invokestatic 281, 3) := dk_184 1 25 (dk_at dksX1_mayBe_1 13 rfl rfl)
theorem dX1_mayBe_40 : decode cX1_mayBe 40 = .ok (.ireturn, 1) := dk_172 (dk_at dksX1_mayBe_1 16 rfl rfl)
theorem dX1_mayBe_41 : decode cX1_mayBe 41 = .ok (.aload_n 1, 1) := dk_43 (dk_at dksX1_mayBe_1 17 rfl rfl)
theorem dX1_mayBe_42 : decode cX1_mayBe 42 = .ok (.instanceof 285, 3) := dk_193 1 29 (dk_at dksX1_mayBe_1 18 rfl rfl)
theorem dX1_mayBe_45 : decode cX1_mayBe 45 = .ok (.ifCond .eq 20, 3) := dk_153 0 20 (dk_at dksX1_mayBe_1 21 rfl rfl)
theorem dX1_mayBe_48 : decode cX1_mayBe 48 = .ok (.aload_n 1, 1) := dk_43 (dk_at dksX1_mayBe_2 0 rfl rfl)
theorem dX1_mayBe_49 : decode cX1_mayBe 49 = .ok (.checkcast 285, 3) := dk_192 1 29 (dk_at dksX1_mayBe_2 1 rfl rfl)
theorem dX1_mayBe_52 : decode cX1_mayBe 52 = .ok (.astore_n 2, 1) := dk_77 (dk_at dksX1_mayBe_2 4 rfl rfl)
theorem dX1_mayBe_53 : decode cX1_mayBe 53 = .ok (.aload_n 0, 1) := dk_42 (dk_at dksX1_mayBe_2 5 rfl rfl)
theorem dX1_mayBe_54 : decode cX1_mayBe 54 = .ok (.getfield 20, 3) := dk_180 0 20 (dk_at dksX1_mayBe_2 6 rfl rfl)
theorem dX1_mayBe_57 : decode cX1_mayBe 57 = .ok (.aload_n 2, 1) := dk_44 (dk_at dksX1_mayBe_2 9 rfl rfl)
theorem dX1_mayBe_58 : decode cX1_mayBe 58 = .ok (.getfield 287, 3) := dk_180 1 31 (dk_at dksX1_mayBe_2 10 rfl rfl)
theorem dX1_mayBe_61 : decode cX1_mayBe 61 = .ok (.invokevirtual 68, 3) := dk_182 0 68 (dk_at dksX1_mayBe_2 13 rfl rfl)
theorem dX1_mayBe_64 : decode cX1_mayBe 64 = .ok (.ireturn, 1) := dk_172 (dk_at dksX1_mayBe_2 16 rfl rfl)
theorem dX1_mayBe_65 : decode cX1_mayBe 65 = .ok (.aload_n 1, 1) := dk_43 (dk_at dksX1_mayBe_2 17 rfl rfl)
theorem dX1_mayBe_66 : decode cX1_mayBe 66 = .ok (.instanceof 290, 3) := dk_193 1 34 (dk_at dksX1_mayBe_2 18 rfl rfl)
theorem dX1_mayBe_69 : decode cX1_mayBe 69 = .ok (.ifCond .eq 42, 3) := dk_153 0 42 (dk_at dksX1_mayBe_2 21 rfl rfl)
theorem dX1_mayBe_72 : decode cX1_mayBe 72 = .ok (.aload_n 1, 1) := dk_43 (dk_at dksX1_mayBe_3 0 rfl rfl)
theorem dX1_mayBe_73 : decode cX1_mayBe 73 = .ok (.checkcast 290, 3) := dk_192 1 34 (dk_at dksX1_mayBe_3 1 rfl rfl)
theorem dX1_mayBe_76 : decode cX1_mayBe 76 = .ok (.astore_n 2, 1) := dk_77 (dk_at dksX1_mayBe_3 4 rfl rfl)
theorem dX1_mayBe_77 : decode cX1_mayBe 77 = .ok (.aload_n 0, 1) := dk_42 (dk_at dksX1_mayBe_3 5 rfl rfl)
theorem dX1_mayBe_78 : decode cX1_mayBe 78 = .ok (.getfield 20, 3) := dk_180 0 20 (dk_at dksX1_mayBe_3 6 rfl rfl)
theorem dX1_mayBe_81 : decode cX1_mayBe 81 = .ok (.aload_n 2, 1) := dk_44 (dk_at dksX1_mayBe_3 9 rfl rfl)
theorem dX1_mayBe_82 : decode cX1_mayBe 82 = .ok (.getfield 292, 3) := dk_180 1 36 (dk_at dksX1_mayBe_3 10 rfl rfl)
theorem dX1_mayBe_85 : decode cX1_mayBe 85 = .ok (.invokevirtual 68, 3) := dk_182 0 68 (dk_at dksX1_mayBe_3 13 rfl rfl)
theorem dX1_mayBe_88 : decode cX1_mayBe 88 = .ok (.ifCond .eq 21, 3) := dk_153 0 21 (dk_at dksX1_mayBe_3 16 rfl rfl)
theorem dX1_mayBe_91 : decode cX1_mayBe 91 = .ok (.aload_n 2, 1) := dk_44 (dk_at dksX1_mayBe_3 19 rfl rfl)
theorem dX1_mayBe_92 : decode cX1_mayBe 92 = .ok (.getfield 293, 3) := dk_180 1 37 (dk_at dksX1_mayBe_3 20 rfl rfl)
theorem dX1_mayBe_95 : decode cX1_mayBe 95 = .ok (.bipush (-20), 2) := dk_16 236 (dk_at dksX1_mayBe_4 0 rfl rfl)
theorem dX1_mayBe_97 : decode cX1_mayBe 97 = .ok (.bipush 20, 2) := dk_16 20 (dk_at dksX1_mayBe_4 2 rfl rfl)
theorem dX1_mayBe_99 : decode cX1_mayBe 99 = .ok (.invokestatic 3, 3) := dk_184 0 3 (dk_at dksX1_mayBe_4 4 rfl rfl)
theorem dX1_mayBe_102 : decode cX1_mayBe 102 = .ok (.ifCond .eq 7, 3) := dk_153 0 7 (dk_at dksX1_mayBe_4 7 rfl rfl)
theorem dX1_mayBe_105 : decode cX1_mayBe 105 = .ok (.iconst 1, 1) := dk_4 (dk_at dksX1_mayBe_4 10 rfl rfl)
theorem dX1_mayBe_106 : decode cX1_mayBe 106 = .ok (.goto 4, 3) := dk_167 0 4 (dk_at dksX1_mayBe_4 11 rfl rfl)
theorem dX1_mayBe_109 : decode cX1_mayBe 109 = .ok (.iconst 0, 1) := dk_3 (dk_at dksX1_mayBe_4 14 rfl rfl)
theorem dX1_mayBe_110 : decode cX1_mayBe 110 = .ok (.ireturn, 1) := dk_172 (dk_at dksX1_mayBe_4 15 rfl rfl)
theorem dX1_mayBe_111 : decode cX1_mayBe 111 = .ok (.aload_n 1, 1) := dk_43 (dk_at dksX1_mayBe_4 16 rfl rfl)
theorem dX1_mayBe_112 : decode cX1_mayBe 112 = .ok (.instanceof 296, 3) := dk_193 1 40 (dk_at dksX1_mayBe_4 17 rfl rfl)
theorem dX1_mayBe_115 : decode cX1_mayBe 115 = .ok (.ifCond .eq 25, 3) := dk_153 0 25 (dk_at dksX1_mayBe_4 20 rfl rfl)
theorem dX1_mayBe_118 : decode cX1_mayBe 118 = .ok (.aload_n 1, 1) := dk_43 (dk_at dksX1_mayBe_4 23 rfl rfl)
theorem dX1_mayBe_119 : decode cX1_mayBe 119 = .ok (.checkcast 296, 3) := dk_192 1 40 (dk_at dksX1_mayBe_5 0 rfl rfl)
theorem dX1_mayBe_122 : decode cX1_mayBe 122 = .ok (.astore_n 2, 1) := dk_77 (dk_at dksX1_mayBe_5 3 rfl rfl)
theorem dX1_mayBe_123 : decode cX1_mayBe 123 = .ok (.aload_n 2, 1) := dk_44 (dk_at dksX1_mayBe_5 4 rfl rfl)
theorem dX1_mayBe_124 : decode cX1_mayBe 124 = .ok (.getfield 298, 3) := dk_180 1 42 (dk_at dksX1_mayBe_5 5 rfl rfl)
theorem dX1_mayBe_127 : decode cX1_mayBe 127 = .ok (.iconst 1, 1) := dk_4 (dk_at dksX1_mayBe_5 8 rfl rfl)
theorem dX1_mayBe_128 : decode cX1_mayBe 128 = .ok (.bipush 30, 2) := dk_16 30 (dk_at dksX1_mayBe_5 9 rfl rfl)
theorem dX1_mayBe_130 : decode cX1_mayBe 130 = .ok (.invokestatic 3, 3) := dk_184 0 3 (dk_at dksX1_mayBe_5 11 rfl rfl)
theorem dX1_mayBe_133 : decode cX1_mayBe 133 = .ok (.ifCond .eq 7, 3) := dk_153 0 7 (dk_at dksX1_mayBe_5 14 rfl rfl)
theorem dX1_mayBe_136 : decode cX1_mayBe 136 = .ok (.iconst 1, 1) := dk_4 (dk_at dksX1_mayBe_5 17 rfl rfl)
theorem dX1_mayBe_137 : decode cX1_mayBe 137 = .ok (.goto 4, 3) := dk_167 0 4 (dk_at dksX1_mayBe_5 18 rfl rfl)
theorem dX1_mayBe_140 : decode cX1_mayBe 140 = .ok (.iconst 0, 1) := dk_3 (dk_at dksX1_mayBe_5 21 rfl rfl)
theorem dX1_mayBe_141 : decode cX1_mayBe 141 = .ok (.ireturn, 1) := dk_172 (dk_at dksX1_mayBe_5 22 rfl rfl)
abbrev cX1_mayBeKiteOf : ByteArray := prog_1_method_36_code
def yX1_mayBeKiteOf : MethodName := ⟨RX1, "mayBeKiteOf", "(LKiteRoofs$NewKite;)Z"⟩
def dkwX1_mayBeKiteOf_0 : List UInt8 := [42, 180, 1, 9, 42, 180, 1, 14, 42, 180, 1, 15, 42, 180, 1, 16, 184, 0, 116, 172]
abbrev dktX1_mayBeKiteOf_0 : List UInt8 := dkwX1_mayBeKiteOf_0 ++ []
theorem dksX1_mayBeKiteOf_0 : cX1_mayBeKiteOf.data.toList.drop 0 = dktX1_mayBeKiteOf_0 := by decide +kernel
theorem dX1_mayBeKiteOf_0 : decode cX1_mayBeKiteOf 0 = .ok (.aload_n 0, 1) := dk_42 (dk_at dksX1_mayBeKiteOf_0 0 rfl rfl)
theorem dX1_mayBeKiteOf_1 : decode cX1_mayBeKiteOf 1 = .ok (.getfield 265, 3) := dk_180 1 9 (dk_at dksX1_mayBeKiteOf_0 1 rfl rfl)
theorem dX1_mayBeKiteOf_4 : decode cX1_mayBeKiteOf 4 = .ok (.aload_n 0, 1) := dk_42 (dk_at dksX1_mayBeKiteOf_0 4 rfl rfl)
theorem dX1_mayBeKiteOf_5 : decode cX1_mayBeKiteOf 5 = .ok (.getfield 270, 3) := dk_180 1 14 (dk_at dksX1_mayBeKiteOf_0 5 rfl rfl)
theorem dX1_mayBeKiteOf_8 : decode cX1_mayBeKiteOf 8 = .ok (.aload_n 0, 1) := dk_42 (dk_at dksX1_mayBeKiteOf_0 8 rfl rfl)
theorem dX1_mayBeKiteOf_9 : decode cX1_mayBeKiteOf 9 = .ok (.getfield 271, 3) := dk_180 1 15 (dk_at dksX1_mayBeKiteOf_0 9 rfl rfl)
theorem dX1_mayBeKiteOf_12 : decode cX1_mayBeKiteOf 12 = .ok (.aload_n 0, 1) := dk_42 (dk_at dksX1_mayBeKiteOf_0 12 rfl rfl)
theorem dX1_mayBeKiteOf_13 : decode cX1_mayBeKiteOf 13 = .ok (.getfield 272, 3) := dk_180 1 16 (dk_at dksX1_mayBeKiteOf_0 13 rfl rfl)
theorem dX1_mayBeKiteOf_16 : decode cX1_mayBeKiteOf 16 = .ok (.invokestatic 116, 3) := dk_184 0 116 (dk_at dksX1_mayBeKiteOf_0 16 rfl rfl)
theorem dX1_mayBeKiteOf_19 : decode cX1_mayBeKiteOf 19 = .ok (.ireturn, 1) := dk_172 (dk_at dksX1_mayBeKiteOf_0 19 rfl rfl)
abbrev cX1_reasonOf : ByteArray := prog_1_method_38_code
def yX1_reasonOf : MethodName := ⟨RX1, "reasonOf", "(LKiteRoofs$Order;)I"⟩
def dkwX1_reasonOf_3 : List UInt8 := [180, 1, 37, 182, 0, 144, 167, 0, 4, 3, 172]
abbrev dktX1_reasonOf_3 : List UInt8 := dkwX1_reasonOf_3 ++ []
def dkwX1_reasonOf_2 : List UInt8 := [172, 43, 193, 1, 34, 153, 0, 26, 43, 192, 1, 34, 77, 42, 180, 0, 20, 44, 180, 1, 36, 44]
abbrev dktX1_reasonOf_2 : List UInt8 := dkwX1_reasonOf_2 ++ dktX1_reasonOf_3
def dkwX1_reasonOf_1 : List UInt8 := [172, 43, 193, 1, 29, 153, 0, 20, 43, 192, 1, 29, 77, 42, 180, 0, 20, 44, 180, 1, 31, 182, 0, 137]
abbrev dktX1_reasonOf_1 : List UInt8 := dkwX1_reasonOf_1 ++ dktX1_reasonOf_2
def dkwX1_reasonOf_0 : List UInt8 := [43, 193, 1, 10, 153, 0, 21, 42, 180, 0, 20, 180, 0, 120, 16, 6, 160, 0, 7, 4, 167, 0, 4, 3]
abbrev dktX1_reasonOf_0 : List UInt8 := dkwX1_reasonOf_0 ++ dktX1_reasonOf_1
theorem dksX1_reasonOf_0 : cX1_reasonOf.data.toList.drop 0 = dktX1_reasonOf_0 := by decide +kernel
theorem dksX1_reasonOf_1 : cX1_reasonOf.data.toList.drop 24 = dktX1_reasonOf_1 := dk_seg dksX1_reasonOf_0 24 rfl rfl
theorem dksX1_reasonOf_2 : cX1_reasonOf.data.toList.drop 48 = dktX1_reasonOf_2 := dk_seg dksX1_reasonOf_1 24 rfl rfl
theorem dksX1_reasonOf_3 : cX1_reasonOf.data.toList.drop 70 = dktX1_reasonOf_3 := dk_seg dksX1_reasonOf_2 22 rfl rfl
theorem dX1_reasonOf_0 : decode cX1_reasonOf 0 = .ok (.aload_n 1, 1) := dk_43 (dk_at dksX1_reasonOf_0 0 rfl rfl)
theorem dX1_reasonOf_1 : decode cX1_reasonOf 1 = .ok (.instanceof 266, 3) := dk_193 1 10 (dk_at dksX1_reasonOf_0 1 rfl rfl)
theorem dX1_reasonOf_4 : decode cX1_reasonOf 4 = .ok (.ifCond .eq 21, 3) := dk_153 0 21 (dk_at dksX1_reasonOf_0 4 rfl rfl)
theorem dX1_reasonOf_7 : decode cX1_reasonOf 7 = .ok (.aload_n 0, 1) := dk_42 (dk_at dksX1_reasonOf_0 7 rfl rfl)
theorem dX1_reasonOf_8 : decode cX1_reasonOf 8 = .ok (.getfield 20, 3) := dk_180 0 20 (dk_at dksX1_reasonOf_0 8 rfl rfl)
theorem dX1_reasonOf_11 : decode cX1_reasonOf 11 = .ok (.getfield 120, 3) := dk_180 0 120 (dk_at dksX1_reasonOf_0 11 rfl rfl)
theorem dX1_reasonOf_14 : decode cX1_reasonOf 14 = .ok (.bipush 6, 2) := dk_16 6 (dk_at dksX1_reasonOf_0 14 rfl rfl)
theorem dX1_reasonOf_16 : decode cX1_reasonOf 16 = .ok (.if_icmp .ne 7, 3) := dk_160 0 7 (dk_at dksX1_reasonOf_0 16 rfl rfl)
theorem dX1_reasonOf_19 : decode cX1_reasonOf 19 = .ok (.iconst 1, 1) := dk_4 (dk_at dksX1_reasonOf_0 19 rfl rfl)
theorem dX1_reasonOf_20 : decode cX1_reasonOf 20 = .ok (.goto 4, 3) := dk_167 0 4 (dk_at dksX1_reasonOf_0 20 rfl rfl)
theorem dX1_reasonOf_23 : decode cX1_reasonOf 23 = .ok (.iconst 0, 1) := dk_3 (dk_at dksX1_reasonOf_0 23 rfl rfl)
theorem dX1_reasonOf_24 : decode cX1_reasonOf 24 = .ok (.ireturn, 1) := dk_172 (dk_at dksX1_reasonOf_1 0 rfl rfl)
theorem dX1_reasonOf_25 : decode cX1_reasonOf 25 = .ok (.aload_n 1, 1) := dk_43 (dk_at dksX1_reasonOf_1 1 rfl rfl)
theorem dX1_reasonOf_26 : decode cX1_reasonOf 26 = .ok (.instanceof 285, 3) := dk_193 1 29 (dk_at dksX1_reasonOf_1 2 rfl rfl)
theorem dX1_reasonOf_29 : decode cX1_reasonOf 29 = .ok (.ifCond .eq 20, 3) := dk_153 0 20 (dk_at dksX1_reasonOf_1 5 rfl rfl)
theorem dX1_reasonOf_32 : decode cX1_reasonOf 32 = .ok (.aload_n 1, 1) := dk_43 (dk_at dksX1_reasonOf_1 8 rfl rfl)
theorem dX1_reasonOf_33 : decode cX1_reasonOf 33 = .ok (.checkcast 285, 3) := dk_192 1 29 (dk_at dksX1_reasonOf_1 9 rfl rfl)
theorem dX1_reasonOf_36 : decode cX1_reasonOf 36 = .ok (.astore_n 2, 1) := dk_77 (dk_at dksX1_reasonOf_1 12 rfl rfl)
theorem dX1_reasonOf_37 : decode cX1_reasonOf 37 = .ok (.aload_n 0, 1) := dk_42 (dk_at dksX1_reasonOf_1 13 rfl rfl)
theorem dX1_reasonOf_38 : decode cX1_reasonOf 38 = .ok (.getfield 20, 3) := dk_180 0 20 (dk_at dksX1_reasonOf_1 14 rfl rfl)
theorem dX1_reasonOf_41 : decode cX1_reasonOf 41 = .ok (.aload_n 2, 1) := dk_44 (dk_at dksX1_reasonOf_1 17 rfl rfl)
theorem dX1_reasonOf_42 : decode cX1_reasonOf 42 = .ok (.getfield 287, 3) := dk_180 1 31 (dk_at dksX1_reasonOf_1 18 rfl rfl)
theorem dX1_reasonOf_45 : decode cX1_reasonOf 45 = .ok (.invokevirtual 137, 3) := dk_182 0 137 (dk_at dksX1_reasonOf_1 21 rfl rfl)
theorem dX1_reasonOf_48 : decode cX1_reasonOf 48 = .ok (.ireturn, 1) := dk_172 (dk_at dksX1_reasonOf_2 0 rfl rfl)
theorem dX1_reasonOf_49 : decode cX1_reasonOf 49 = .ok (.aload_n 1, 1) := dk_43 (dk_at dksX1_reasonOf_2 1 rfl rfl)
theorem dX1_reasonOf_50 : decode cX1_reasonOf 50 = .ok (.instanceof 290, 3) := dk_193 1 34 (dk_at dksX1_reasonOf_2 2 rfl rfl)
theorem dX1_reasonOf_53 : decode cX1_reasonOf 53 = .ok (.ifCond .eq 26, 3) := dk_153 0 26 (dk_at dksX1_reasonOf_2 5 rfl rfl)
theorem dX1_reasonOf_56 : decode cX1_reasonOf 56 = .ok (.aload_n 1, 1) := dk_43 (dk_at dksX1_reasonOf_2 8 rfl rfl)
theorem dX1_reasonOf_57 : decode cX1_reasonOf 57 = .ok (.checkcast 290, 3) := dk_192 1 34 (dk_at dksX1_reasonOf_2 9 rfl rfl)
theorem dX1_reasonOf_60 : decode cX1_reasonOf 60 = .ok (.astore_n 2, 1) := dk_77 (dk_at dksX1_reasonOf_2 12 rfl rfl)
theorem dX1_reasonOf_61 : decode cX1_reasonOf 61 = .ok (.aload_n 0, 1) := dk_42 (dk_at dksX1_reasonOf_2 13 rfl rfl)
theorem dX1_reasonOf_62 : decode cX1_reasonOf 62 = .ok (.getfield 20, 3) := dk_180 0 20 (dk_at dksX1_reasonOf_2 14 rfl rfl)
theorem dX1_reasonOf_65 : decode cX1_reasonOf 65 = .ok (.aload_n 2, 1) := dk_44 (dk_at dksX1_reasonOf_2 17 rfl rfl)
theorem dX1_reasonOf_66 : decode cX1_reasonOf 66 = .ok (.getfield 292, 3) := dk_180 1 36 (dk_at dksX1_reasonOf_2 18 rfl rfl)
theorem dX1_reasonOf_69 : decode cX1_reasonOf 69 = .ok (.aload_n 2, 1) := dk_44 (dk_at dksX1_reasonOf_2 21 rfl rfl)
theorem dX1_reasonOf_70 : decode cX1_reasonOf 70 = .ok (.getfield 293, 3) := dk_180 1 37 (dk_at dksX1_reasonOf_3 0 rfl rfl)
theorem dX1_reasonOf_73 : decode cX1_reasonOf 73 = .ok (.invokevirtual 144, 3) := dk_182 0 144 (dk_at dksX1_reasonOf_3 3 rfl rfl)
theorem dX1_reasonOf_76 : decode cX1_reasonOf 76 = .ok (.goto 4, 3) := dk_167 0 4 (dk_at dksX1_reasonOf_3 6 rfl rfl)
theorem dX1_reasonOf_79 : decode cX1_reasonOf 79 = .ok (.iconst 0, 1) := dk_3 (dk_at dksX1_reasonOf_3 9 rfl rfl)
theorem dX1_reasonOf_80 : decode cX1_reasonOf 80 = .ok (.ireturn, 1) := dk_172 (dk_at dksX1_reasonOf_3 10 rfl rfl)
abbrev cX1_does : ByteArray := prog_1_method_39_code
def yX1_does : MethodName := ⟨RX1, "does", "(LKiteRoofs$Order;)V"⟩
def dkwX1_does_8 : List UInt8 := [182, 0, 243, 87, 132, 7, 1, 167, 255, 235, 177]
abbrev dktX1_does_8 : List UInt8 := dkwX1_does_8 ++ []
def dkwX1_does_7 : List UInt8 := [192, 1, 40, 58, 6, 3, 54, 7, 21, 7, 25, 6, 180, 1, 42, 162, 0, 17, 42, 180, 0, 20]
abbrev dktX1_does_7 : List UInt8 := dkwX1_does_7 ++ dktX1_does_8
def dkwX1_does_6 : List UInt8 := [180, 1, 36, 25, 5, 180, 1, 37, 182, 0, 148, 87, 167, 0, 43, 43, 193, 1, 40, 153, 0, 36, 43]
abbrev dktX1_does_6 : List UInt8 := dkwX1_does_6 ++ dktX1_does_7
def dkwX1_does_5 : List UInt8 := [167, 0, 77, 43, 193, 1, 34, 153, 0, 30, 43, 192, 1, 34, 58, 5, 42, 180, 0, 20, 25, 5]
abbrev dktX1_does_5 : List UInt8 := dkwX1_does_5 ++ dktX1_does_6
def dkwX1_does_4 : List UInt8 := [153, 0, 25, 43, 192, 1, 29, 58, 4, 42, 180, 0, 20, 25, 4, 180, 1, 31, 182, 0, 141, 87]
abbrev dktX1_does_4 : List UInt8 := dkwX1_does_4 ++ dktX1_does_5
def dkwX1_does_3 : List UInt8 := [180, 1, 14, 45, 180, 1, 15, 45, 180, 1, 16, 182, 0, 133, 87, 167, 0, 106, 43, 193, 1, 29]
abbrev dktX1_does_3 : List UInt8 := dkwX1_does_3 ++ dktX1_does_4
def dkwX1_does_2 : List UInt8 := [193, 1, 10, 153, 0, 38, 43, 192, 1, 10, 78, 42, 180, 0, 20, 45, 180, 1, 9, 184, 0, 127, 45]
abbrev dktX1_does_2 : List UInt8 := dkwX1_does_2 ++ dktX1_does_3
def dkwX1_does_1 : List UInt8 := [180, 1, 19, 79, 42, 180, 0, 20, 180, 0, 113, 44, 180, 1, 45, 44, 180, 1, 22, 79, 167, 0, 148, 43]
abbrev dktX1_does_1 : List UInt8 := dkwX1_does_1 ++ dktX1_does_2
def dkwX1_does_0 : List UInt8 := [43, 193, 1, 17, 153, 0, 43, 43, 192, 1, 17, 77, 42, 180, 0, 20, 180, 0, 109, 44, 180, 1, 45, 44]
abbrev dktX1_does_0 : List UInt8 := dkwX1_does_0 ++ dktX1_does_1
theorem dksX1_does_0 : cX1_does.data.toList.drop 0 = dktX1_does_0 := by decide +kernel
theorem dksX1_does_1 : cX1_does.data.toList.drop 24 = dktX1_does_1 := dk_seg dksX1_does_0 24 rfl rfl
theorem dksX1_does_2 : cX1_does.data.toList.drop 48 = dktX1_does_2 := dk_seg dksX1_does_1 24 rfl rfl
theorem dksX1_does_3 : cX1_does.data.toList.drop 71 = dktX1_does_3 := dk_seg dksX1_does_2 23 rfl rfl
theorem dksX1_does_4 : cX1_does.data.toList.drop 93 = dktX1_does_4 := dk_seg dksX1_does_3 22 rfl rfl
theorem dksX1_does_5 : cX1_does.data.toList.drop 115 = dktX1_does_5 := dk_seg dksX1_does_4 22 rfl rfl
theorem dksX1_does_6 : cX1_does.data.toList.drop 137 = dktX1_does_6 := dk_seg dksX1_does_5 22 rfl rfl
theorem dksX1_does_7 : cX1_does.data.toList.drop 160 = dktX1_does_7 := dk_seg dksX1_does_6 23 rfl rfl
theorem dksX1_does_8 : cX1_does.data.toList.drop 182 = dktX1_does_8 := dk_seg dksX1_does_7 22 rfl rfl
theorem dX1_does_0 : decode cX1_does 0 = .ok (.aload_n 1, 1) := dk_43 (dk_at dksX1_does_0 0 rfl rfl)
theorem dX1_does_1 : decode cX1_does 1 = .ok (.instanceof 273, 3) := dk_193 1 17 (dk_at dksX1_does_0 1 rfl rfl)
theorem dX1_does_4 : decode cX1_does 4 = .ok (.ifCond .eq 43, 3) := dk_153 0 43 (dk_at dksX1_does_0 4 rfl rfl)
theorem dX1_does_7 : decode cX1_does 7 = .ok (.aload_n 1, 1) := dk_43 (dk_at dksX1_does_0 7 rfl rfl)
theorem dX1_does_8 : decode cX1_does 8 = .ok (.checkcast 273, 3) := dk_192 1 17 (dk_at dksX1_does_0 8 rfl rfl)
theorem dX1_does_11 : decode cX1_does 11 = .ok (.astore_n 2, 1) := dk_77 (dk_at dksX1_does_0 11 rfl rfl)
theorem dX1_does_12 : decode cX1_does 12 = .ok (.aload_n 0, 1) := dk_42 (dk_at dksX1_does_0 12 rfl rfl)
theorem dX1_does_13 : decode cX1_does 13 = .ok (.getfield 20, 3) := dk_180 0 20 (dk_at dksX1_does_0 13 rfl rfl)
theorem dX1_does_16 : decode cX1_does 16 = .ok (.getfield 109, 3) := dk_180 0 109 (dk_at dksX1_does_0 16 rfl rfl)
theorem dX1_does_19 : decode cX1_does 19 = .ok (.aload_n 2, 1) := dk_44 (dk_at dksX1_does_0 19 rfl rfl)
theorem dX1_does_20 : decode cX1_does 20 = .ok (.getfield 301, 3) := dk_180 1 45 (dk_at dksX1_does_0 20 rfl rfl)
theorem dX1_does_23 : decode cX1_does 23 = .ok (.aload_n 2, 1) := dk_44 (dk_at dksX1_does_0 23 rfl rfl)
theorem dX1_does_24 : decode cX1_does 24 = .ok (.getfield 275, 3) := dk_180 1 19 (dk_at dksX1_does_1 0 rfl rfl)
theorem dX1_does_27 : decode cX1_does 27 = .ok (.iastore, 1) := dk_79 (dk_at dksX1_does_1 3 rfl rfl)
theorem dX1_does_28 : decode cX1_does 28 = .ok (.aload_n 0, 1) := dk_42 (dk_at dksX1_does_1 4 rfl rfl)
theorem dX1_does_29 : decode cX1_does 29 = .ok (.getfield 20, 3) := dk_180 0 20 (dk_at dksX1_does_1 5 rfl rfl)
theorem dX1_does_32 : decode cX1_does 32 = .ok (.getfield 113, 3) := dk_180 0 113 (dk_at dksX1_does_1 8 rfl rfl)
theorem dX1_does_35 : decode cX1_does 35 = .ok (.aload_n 2, 1) := dk_44 (dk_at dksX1_does_1 11 rfl rfl)
theorem dX1_does_36 : decode cX1_does 36 = .ok (.getfield 301, 3) := dk_180 1 45 (dk_at dksX1_does_1 12 rfl rfl)
theorem dX1_does_39 : decode cX1_does 39 = .ok (.aload_n 2, 1) := dk_44 (dk_at dksX1_does_1 15 rfl rfl)
theorem dX1_does_40 : decode cX1_does 40 = .ok (.getfield 278, 3) := dk_180 1 22 (dk_at dksX1_does_1 16 rfl rfl)
theorem dX1_does_43 : decode cX1_does 43 = .ok (.iastore, 1) := dk_79 (dk_at dksX1_does_1 19 rfl rfl)
theorem dX1_does_44 : decode cX1_does 44 = .ok (.goto 148, 3) := dk_167 0 148 (dk_at dksX1_does_1 20 rfl rfl)
theorem dX1_does_47 : decode cX1_does 47 = .ok (.aload_n 1, 1) := dk_43 (dk_at dksX1_does_1 23 rfl rfl)
theorem dX1_does_48 : decode cX1_does 48 = .ok (.instanceof 266, 3) := dk_193 1 10 (dk_at dksX1_does_2 0 rfl rfl)
theorem dX1_does_51 : decode cX1_does 51 = .ok (.ifCond .eq 38, 3) := dk_153 0 38 (dk_at dksX1_does_2 3 rfl rfl)
theorem dX1_does_54 : decode cX1_does 54 = .ok (.aload_n 1, 1) := dk_43 (dk_at dksX1_does_2 6 rfl rfl)
theorem dX1_does_55 : decode cX1_does 55 = .ok (.checkcast 266, 3) := dk_192 1 10 (dk_at dksX1_does_2 7 rfl rfl)
theorem dX1_does_58 : decode cX1_does 58 = .ok (.astore_n 3, 1) := dk_78 (dk_at dksX1_does_2 10 rfl rfl)
theorem dX1_does_59 : decode cX1_does 59 = .ok (.aload_n 0, 1) := dk_42 (dk_at dksX1_does_2 11 rfl rfl)
theorem dX1_does_60 : decode cX1_does 60 = .ok (.getfield 20, 3) := dk_180 0 20 (dk_at dksX1_does_2 12 rfl rfl)
theorem dX1_does_63 : decode cX1_does 63 = .ok (.aload_n 3, 1) := dk_45 (dk_at dksX1_does_2 15 rfl rfl)
theorem dX1_does_64 : decode cX1_does 64 = .ok (.getfield 265, 3) := dk_180 1 9 (dk_at dksX1_does_2 16 rfl rfl)
theorem dX1_does_67 : decode cX1_does 67 = .ok (.invokestatic 127, 3) := dk_184 0 127 (dk_at dksX1_does_2 19 rfl rfl)
theorem dX1_does_70 : decode cX1_does 70 = .ok (.aload_n 3, 1) := dk_45 (dk_at dksX1_does_2 22 rfl rfl)
theorem dX1_does_71 : decode cX1_does 71 = .ok (.getfield 270, 3) := dk_180 1 14 (dk_at dksX1_does_3 0 rfl rfl)
theorem dX1_does_74 : decode cX1_does 74 = .ok (.aload_n 3, 1) := dk_45 (dk_at dksX1_does_3 3 rfl rfl)
theorem dX1_does_75 : decode cX1_does 75 = .ok (.getfield 271, 3) := dk_180 1 15 (dk_at dksX1_does_3 4 rfl rfl)
theorem dX1_does_78 : decode cX1_does 78 = .ok (.aload_n 3, 1) := dk_45 (dk_at dksX1_does_3 7 rfl rfl)
theorem dX1_does_79 : decode cX1_does 79 = .ok (.getfield 272, 3) := dk_180 1 16 (dk_at dksX1_does_3 8 rfl rfl)
theorem dX1_does_82 : decode cX1_does 82 = .ok (.invokevirtual 133, 3) := dk_182 0 133 (dk_at dksX1_does_3 11 rfl rfl)
theorem dX1_does_85 : decode cX1_does 85 = .ok (.pop, 1) := dk_87 (dk_at dksX1_does_3 14 rfl rfl)
theorem dX1_does_86 : decode cX1_does 86 = .ok (.goto 106, 3) := dk_167 0 106 (dk_at dksX1_does_3 15 rfl rfl)
theorem dX1_does_89 : decode cX1_does 89 = .ok (.aload_n 1, 1) := dk_43 (dk_at dksX1_does_3 18 rfl rfl)
theorem dX1_does_90 : decode cX1_does 90 = .ok (.instanceof 285, 3) := dk_193 1 29 (dk_at dksX1_does_3 19 rfl rfl)
theorem dX1_does_93 : decode cX1_does 93 = .ok (.ifCond .eq 25, 3) := dk_153 0 25 (dk_at dksX1_does_4 0 rfl rfl)
theorem dX1_does_96 : decode cX1_does 96 = .ok (.aload_n 1, 1) := dk_43 (dk_at dksX1_does_4 3 rfl rfl)
theorem dX1_does_97 : decode cX1_does 97 = .ok (.checkcast 285, 3) := dk_192 1 29 (dk_at dksX1_does_4 4 rfl rfl)
theorem dX1_does_100 : decode cX1_does 100 = .ok (.astore 4, 2) := dk_58 4 (dk_at dksX1_does_4 7 rfl rfl)
theorem dX1_does_102 : decode cX1_does 102 = .ok (.aload_n 0, 1) := dk_42 (dk_at dksX1_does_4 9 rfl rfl)
theorem dX1_does_103 : decode cX1_does 103 = .ok (.getfield 20, 3) := dk_180 0 20 (dk_at dksX1_does_4 10 rfl rfl)
theorem dX1_does_106 : decode cX1_does 106 = .ok (.aload 4, 2) := dk_25 4 (dk_at dksX1_does_4 13 rfl rfl)
theorem dX1_does_108 : decode cX1_does 108 = .ok (.getfield 287, 3) := dk_180 1 31 (dk_at dksX1_does_4 15 rfl rfl)
theorem dX1_does_111 : decode cX1_does 111 = .ok (.invokevirtual 141, 3) := dk_182 0 141 (dk_at dksX1_does_4 18 rfl rfl)
theorem dX1_does_114 : decode cX1_does 114 = .ok (.pop, 1) := dk_87 (dk_at dksX1_does_4 21 rfl rfl)
theorem dX1_does_115 : decode cX1_does 115 = .ok (.goto 77, 3) := dk_167 0 77 (dk_at dksX1_does_5 0 rfl rfl)
theorem dX1_does_118 : decode cX1_does 118 = .ok (.aload_n 1, 1) := dk_43 (dk_at dksX1_does_5 3 rfl rfl)
theorem dX1_does_119 : decode cX1_does 119 = .ok (.instanceof 290, 3) := dk_193 1 34 (dk_at dksX1_does_5 4 rfl rfl)
theorem dX1_does_122 : decode cX1_does 122 = .ok (.ifCond .eq 30, 3) := dk_153 0 30 (dk_at dksX1_does_5 7 rfl rfl)
theorem dX1_does_125 : decode cX1_does 125 = .ok (.aload_n 1, 1) := dk_43 (dk_at dksX1_does_5 10 rfl rfl)
theorem dX1_does_126 : decode cX1_does 126 = .ok (.checkcast 290, 3) := dk_192 1 34 (dk_at dksX1_does_5 11 rfl rfl)
theorem dX1_does_129 : decode cX1_does 129 = .ok (.astore 5, 2) := dk_58 5 (dk_at dksX1_does_5 14 rfl rfl)
theorem dX1_does_131 : decode cX1_does 131 = .ok (.aload_n 0, 1) := dk_42 (dk_at dksX1_does_5 16 rfl rfl)
theorem dX1_does_132 : decode cX1_does 132 = .ok (.getfield 20, 3) := dk_180 0 20 (dk_at dksX1_does_5 17 rfl rfl)
theorem dX1_does_135 : decode cX1_does 135 = .ok (.aload 5, 2) := dk_25 5 (dk_at dksX1_does_5 20 rfl rfl)
theorem dX1_does_137 : decode cX1_does 137 = .ok (.getfield 292, 3) := dk_180 1 36 (dk_at dksX1_does_6 0 rfl rfl)
theorem dX1_does_140 : decode cX1_does 140 = .ok (.aload 5, 2) := dk_25 5 (dk_at dksX1_does_6 3 rfl rfl)
theorem dX1_does_142 : decode cX1_does 142 = .ok (.getfield 293, 3) := dk_180 1 37 (dk_at dksX1_does_6 5 rfl rfl)
theorem dX1_does_145 : decode cX1_does 145 = .ok (.invokevirtual 148, 3) := dk_182 0 148 (dk_at dksX1_does_6 8 rfl rfl)
theorem dX1_does_148 : decode cX1_does 148 = .ok (.pop, 1) := dk_87 (dk_at dksX1_does_6 11 rfl rfl)
theorem dX1_does_149 : decode cX1_does 149 = .ok (.goto 43, 3) := dk_167 0 43 (dk_at dksX1_does_6 12 rfl rfl)
theorem dX1_does_152 : decode cX1_does 152 = .ok (.aload_n 1, 1) := dk_43 (dk_at dksX1_does_6 15 rfl rfl)
theorem dX1_does_153 : decode cX1_does 153 = .ok (.instanceof 296, 3) := dk_193 1 40 (dk_at dksX1_does_6 16 rfl rfl)
theorem dX1_does_156 : decode cX1_does 156 = .ok (.ifCond .eq 36, 3) := dk_153 0 36 (dk_at dksX1_does_6 19 rfl rfl)
theorem dX1_does_159 : decode cX1_does 159 = .ok (.aload_n 1, 1) := dk_43 (dk_at dksX1_does_6 22 rfl rfl)
theorem dX1_does_160 : decode cX1_does 160 = .ok (.checkcast 296, 3) := dk_192 1 40 (dk_at dksX1_does_7 0 rfl rfl)
theorem dX1_does_163 : decode cX1_does 163 = .ok (.astore 6, 2) := dk_58 6 (dk_at dksX1_does_7 3 rfl rfl)
theorem dX1_does_165 : decode cX1_does 165 = .ok (.iconst 0, 1) := dk_3 (dk_at dksX1_does_7 5 rfl rfl)
theorem dX1_does_166 : decode cX1_does 166 = .ok (.istore 7, 2) := dk_54 7 (dk_at dksX1_does_7 6 rfl rfl)
theorem dX1_does_168 : decode cX1_does 168 = .ok (.iload 7, 2) := dk_21 7 (dk_at dksX1_does_7 8 rfl rfl)
theorem dX1_does_170 : decode cX1_does 170 = .ok (.aload 6, 2) := dk_25 6 (dk_at dksX1_does_7 10 rfl rfl)
theorem dX1_does_172 : decode cX1_does 172 = .ok (.getfield 298, 3) := dk_180 1 42 (dk_at dksX1_does_7 12 rfl rfl)
theorem dX1_does_175 : decode cX1_does 175 = .ok (.if_icmp .ge 17, 3) := dk_162 0 17 (dk_at dksX1_does_7 15 rfl rfl)
theorem dX1_does_178 : decode cX1_does 178 = .ok (.aload_n 0, 1) := dk_42 (dk_at dksX1_does_7 18 rfl rfl)
theorem dX1_does_179 : decode cX1_does 179 = .ok (.getfield 20, 3) := dk_180 0 20 (dk_at dksX1_does_7 19 rfl rfl)
theorem dX1_does_182 : decode cX1_does 182 = .ok (.invokevirtual 243, 3) := dk_182 0 243 (dk_at dksX1_does_8 0 rfl rfl)
theorem dX1_does_185 : decode cX1_does 185 = .ok (.pop, 1) := dk_87 (dk_at dksX1_does_8 3 rfl rfl)
theorem dX1_does_186 : decode cX1_does 186 = .ok (.iinc 7 1, 3) := dk_132 7 1 (dk_at dksX1_does_8 4 rfl rfl)
theorem dX1_does_189 : decode cX1_does 189 = .ok (.goto (-21), 3) := dk_167 255 235 (dk_at dksX1_does_8 7 rfl rfl)
theorem dX1_does_192 : decode cX1_does 192 = .ok (.return_, 1) := dk_177 (dk_at dksX1_does_8 10 rfl rfl)
abbrev cX1_refusal : ByteArray := prog_1_method_42_code
def yX1_refusal : MethodName := ⟨RX1, "refusal", "(Z)I"⟩
def dkwX1_refusal_1 : List UInt8 := [167, 0, 7, 42, 180, 0, 62, 172]
abbrev dktX1_refusal_1 : List UInt8 := dkwX1_refusal_1 ++ []
def dkwX1_refusal_0 : List UInt8 := [42, 180, 0, 62, 158, 0, 7, 4, 167, 0, 4, 3, 184, 0, 231, 27, 153, 0, 10, 42, 180, 0, 44]
abbrev dktX1_refusal_0 : List UInt8 := dkwX1_refusal_0 ++ dktX1_refusal_1
theorem dksX1_refusal_0 : cX1_refusal.data.toList.drop 0 = dktX1_refusal_0 := by decide +kernel
theorem dksX1_refusal_1 : cX1_refusal.data.toList.drop 23 = dktX1_refusal_1 := dk_seg dksX1_refusal_0 23 rfl rfl
theorem dX1_refusal_0 : decode cX1_refusal 0 = .ok (.aload_n 0, 1) := dk_42 (dk_at dksX1_refusal_0 0 rfl rfl)
theorem dX1_refusal_1 : decode cX1_refusal 1 = .ok (.getfield 62, 3) := dk_180 0 62 (dk_at dksX1_refusal_0 1 rfl rfl)
theorem dX1_refusal_4 : decode cX1_refusal 4 = .ok (.ifCond .le 7, 3) := dk_158 0 7 (dk_at dksX1_refusal_0 4 rfl rfl)
theorem dX1_refusal_7 : decode cX1_refusal 7 = .ok (.iconst 1, 1) := dk_4 (dk_at dksX1_refusal_0 7 rfl rfl)
theorem dX1_refusal_8 : decode cX1_refusal 8 = .ok (.goto 4, 3) := dk_167 0 4 (dk_at dksX1_refusal_0 8 rfl rfl)
theorem dX1_refusal_11 : decode cX1_refusal 11 = .ok (.iconst 0, 1) := dk_3 (dk_at dksX1_refusal_0 11 rfl rfl)
theorem dX1_refusal_12 : decode cX1_refusal 12 = .ok (.invokestatic 231, 3) := dk_184 0 231 (dk_at dksX1_refusal_0 12 rfl rfl)
theorem dX1_refusal_15 : decode cX1_refusal 15 = .ok (.iload_n 1, 1) := dk_27 (dk_at dksX1_refusal_0 15 rfl rfl)
theorem dX1_refusal_16 : decode cX1_refusal 16 = .ok (.ifCond .eq 10, 3) := dk_153 0 10 (dk_at dksX1_refusal_0 16 rfl rfl)
theorem dX1_refusal_19 : decode cX1_refusal 19 = .ok (.aload_n 0, 1) := dk_42 (dk_at dksX1_refusal_0 19 rfl rfl)
theorem dX1_refusal_20 : decode cX1_refusal 20 = .ok (.getfield 44, 3) := dk_180 0 44 (dk_at dksX1_refusal_0 20 rfl rfl)
theorem dX1_refusal_23 : decode cX1_refusal 23 = .ok (.goto 7, 3) := dk_167 0 7 (dk_at dksX1_refusal_1 0 rfl rfl)
theorem dX1_refusal_26 : decode cX1_refusal 26 = .ok (.aload_n 0, 1) := dk_42 (dk_at dksX1_refusal_1 3 rfl rfl)
theorem dX1_refusal_27 : decode cX1_refusal 27 = .ok (.getfield 62, 3) := dk_180 0 62 (dk_at dksX1_refusal_1 4 rfl rfl)
theorem dX1_refusal_30 : decode cX1_refusal 30 = .ok (.ireturn, 1) := dk_172 (dk_at dksX1_refusal_1 7 rfl rfl)
abbrev cX1_account : ByteArray := prog_1_method_43_code
def yX1_account : MethodName := ⟨RX1, "account", "(I)I"⟩
def dkwX1_account_6 : List UInt8 := [182, 0, 80, 172]
abbrev dktX1_account_6 : List UInt8 := dkwX1_account_6 ++ []
def dkwX1_account_5 : List UInt8 := [182, 1, 101, 172, 42, 180, 0, 16, 182, 1, 104, 172, 42, 180, 0, 36, 182, 0, 255, 172, 42, 180, 0, 29]
abbrev dktX1_account_5 : List UInt8 := dkwX1_account_5 ++ dktX1_account_6
def dkwX1_account_4 : List UInt8 := [180, 1, 92, 172, 42, 180, 0, 16, 180, 1, 95, 172, 42, 180, 0, 16, 180, 1, 98, 172, 42, 180, 0, 16]
abbrev dktX1_account_4 : List UInt8 := dkwX1_account_4 ++ dktX1_account_5
def dkwX1_account_3 : List UInt8 := [180, 1, 85, 172, 42, 180, 0, 16, 180, 1, 88, 172, 42, 180, 0, 16, 182, 1, 91, 172, 42, 180, 0, 16]
abbrev dktX1_account_3 : List UInt8 := dkwX1_account_3 ++ dktX1_account_4
def dkwX1_account_2 : List UInt8 := [42, 180, 0, 16, 180, 0, 120, 172, 42, 180, 0, 16, 27, 4, 100, 182, 1, 82, 172, 42, 180, 0, 16]
abbrev dktX1_account_2 : List UInt8 := dkwX1_account_2 ++ dktX1_account_3
def dkwX1_account_1 : List UInt8 := [170, 0, 0, 0, 156, 0, 0, 0, 0, 0, 0, 0, 12, 0, 0, 0, 65, 0, 0, 0, 73, 0, 0, 0, 73, 0, 0, 0, 73, 0, 0, 0, 84, 0, 0, 0, 92, 0, 0, 0, 100, 0, 0, 0, 108, 0, 0, 0, 116, 0, 0, 0, 124, 0, 0, 0, 132, 0, 0, 0, 140, 0, 0, 0, 148]
abbrev dktX1_account_1 : List UInt8 := dkwX1_account_1 ++ dktX1_account_2
def dkwX1_account_0 : List UInt8 := [27, 3, 16, 13, 184, 0, 3, 184, 0, 103, 27]
abbrev dktX1_account_0 : List UInt8 := dkwX1_account_0 ++ dktX1_account_1
theorem dksX1_account_0 : cX1_account.data.toList.drop 0 = dktX1_account_0 := by decide +kernel
theorem dksX1_account_1 : cX1_account.data.toList.drop 11 = dktX1_account_1 := dk_seg dksX1_account_0 11 rfl rfl
theorem dksX1_account_2 : cX1_account.data.toList.drop 76 = dktX1_account_2 := dk_seg dksX1_account_1 65 rfl rfl
theorem dksX1_account_3 : cX1_account.data.toList.drop 99 = dktX1_account_3 := dk_seg dksX1_account_2 23 rfl rfl
theorem dksX1_account_4 : cX1_account.data.toList.drop 123 = dktX1_account_4 := dk_seg dksX1_account_3 24 rfl rfl
theorem dksX1_account_5 : cX1_account.data.toList.drop 147 = dktX1_account_5 := dk_seg dksX1_account_4 24 rfl rfl
theorem dksX1_account_6 : cX1_account.data.toList.drop 171 = dktX1_account_6 := dk_seg dksX1_account_5 24 rfl rfl
theorem dX1_account_0 : decode cX1_account 0 = .ok (.iload_n 1, 1) := dk_27 (dk_at dksX1_account_0 0 rfl rfl)
theorem dX1_account_1 : decode cX1_account 1 = .ok (.iconst 0, 1) := dk_3 (dk_at dksX1_account_0 1 rfl rfl)
theorem dX1_account_2 : decode cX1_account 2 = .ok (.bipush 13, 2) := dk_16 13 (dk_at dksX1_account_0 2 rfl rfl)
theorem dX1_account_4 : decode cX1_account 4 = .ok (.invokestatic 3, 3) := dk_184 0 3 (dk_at dksX1_account_0 4 rfl rfl)
theorem dX1_account_7 : decode cX1_account 7 = .ok (.invokestatic 103, 3) := dk_184 0 103 (dk_at dksX1_account_0 7 rfl rfl)
theorem dX1_account_10 : decode cX1_account 10 = .ok (.iload_n 1, 1) := dk_27 (dk_at dksX1_account_0 10 rfl rfl)
theorem dX1_account_11 : decode cX1_account 11 = .ok (.tableswitch 156 0 12 #[65, 73, 73, 73, 84, 92, 100, 108, 116, 124, 132, 140, 148], 65) := by decide +kernel
theorem dX1_account_76 : decode cX1_account 76 = .ok (.aload_n 0, 1) := dk_42 (dk_at dksX1_account_2 0 rfl rfl)
theorem dX1_account_77 : decode cX1_account 77 = .ok (.getfield 16, 3) := dk_180 0 16 (dk_at dksX1_account_2 1 rfl rfl)
theorem dX1_account_80 : decode cX1_account 80 = .ok (.getfield 120, 3) := dk_180 0 120 (dk_at dksX1_account_2 4 rfl rfl)
theorem dX1_account_83 : decode cX1_account 83 = .ok (.ireturn, 1) := dk_172 (dk_at dksX1_account_2 7 rfl rfl)
theorem dX1_account_84 : decode cX1_account 84 = .ok (.aload_n 0, 1) := dk_42 (dk_at dksX1_account_2 8 rfl rfl)
theorem dX1_account_85 : decode cX1_account 85 = .ok (.getfield 16, 3) := dk_180 0 16 (dk_at dksX1_account_2 9 rfl rfl)
theorem dX1_account_88 : decode cX1_account 88 = .ok (.iload_n 1, 1) := dk_27 (dk_at dksX1_account_2 12 rfl rfl)
theorem dX1_account_89 : decode cX1_account 89 = .ok (.iconst 1, 1) := dk_4 (dk_at dksX1_account_2 13 rfl rfl)
theorem dX1_account_90 : decode cX1_account 90 = .ok (.isub, 1) := dk_100 (dk_at dksX1_account_2 14 rfl rfl)
theorem dX1_account_91 : decode cX1_account 91 = .ok (.invokevirtual 338, 3) := dk_182 1 82 (dk_at dksX1_account_2 15 rfl rfl)
theorem dX1_account_94 : decode cX1_account 94 = .ok (.ireturn, 1) := dk_172 (dk_at dksX1_account_2 18 rfl rfl)
theorem dX1_account_95 : decode cX1_account 95 = .ok (.aload_n 0, 1) := dk_42 (dk_at dksX1_account_2 19 rfl rfl)
theorem dX1_account_96 : decode cX1_account 96 = .ok (.getfield 16, 3) := dk_180 0 16 (dk_at dksX1_account_2 20 rfl rfl)
theorem dX1_account_99 : decode cX1_account 99 = .ok (.getfield 341, 3) := dk_180 1 85 (dk_at dksX1_account_3 0 rfl rfl)
theorem dX1_account_102 : decode cX1_account 102 = .ok (.ireturn, 1) := dk_172 (dk_at dksX1_account_3 3 rfl rfl)
theorem dX1_account_103 : decode cX1_account 103 = .ok (.aload_n 0, 1) := dk_42 (dk_at dksX1_account_3 4 rfl rfl)
theorem dX1_account_104 : decode cX1_account 104 = .ok (.getfield 16, 3) := dk_180 0 16 (dk_at dksX1_account_3 5 rfl rfl)
theorem dX1_account_107 : decode cX1_account 107 = .ok (.getfield 344, 3) := dk_180 1 88 (dk_at dksX1_account_3 8 rfl rfl)
theorem dX1_account_110 : decode cX1_account 110 = .ok (.ireturn, 1) := dk_172 (dk_at dksX1_account_3 11 rfl rfl)
theorem dX1_account_111 : decode cX1_account 111 = .ok (.aload_n 0, 1) := dk_42 (dk_at dksX1_account_3 12 rfl rfl)
theorem dX1_account_112 : decode cX1_account 112 = .ok (.getfield 16, 3) := dk_180 0 16 (dk_at dksX1_account_3 13 rfl rfl)
theorem dX1_account_115 : decode cX1_account 115 = .ok (.invokevirtual 347, 3) := dk_182 1 91 (dk_at dksX1_account_3 16 rfl rfl)
theorem dX1_account_118 : decode cX1_account 118 = .ok (.ireturn, 1) := dk_172 (dk_at dksX1_account_3 19 rfl rfl)
theorem dX1_account_119 : decode cX1_account 119 = .ok (.aload_n 0, 1) := dk_42 (dk_at dksX1_account_3 20 rfl rfl)
theorem dX1_account_120 : decode cX1_account 120 = .ok (.getfield 16, 3) := dk_180 0 16 (dk_at dksX1_account_3 21 rfl rfl)
theorem dX1_account_123 : decode cX1_account 123 = .ok (.getfield 348, 3) := dk_180 1 92 (dk_at dksX1_account_4 0 rfl rfl)
theorem dX1_account_126 : decode cX1_account 126 = .ok (.ireturn, 1) := dk_172 (dk_at dksX1_account_4 3 rfl rfl)
theorem dX1_account_127 : decode cX1_account 127 = .ok (.aload_n 0, 1) := dk_42 (dk_at dksX1_account_4 4 rfl rfl)
theorem dX1_account_128 : decode cX1_account 128 = .ok (.getfield 16, 3) := dk_180 0 16 (dk_at dksX1_account_4 5 rfl rfl)
theorem dX1_account_131 : decode cX1_account 131 = .ok (.getfield 351, 3) := dk_180 1 95 (dk_at dksX1_account_4 8 rfl rfl)
theorem dX1_account_134 : decode cX1_account 134 = .ok (.ireturn, 1) := dk_172 (dk_at dksX1_account_4 11 rfl rfl)
theorem dX1_account_135 : decode cX1_account 135 = .ok (.aload_n 0, 1) := dk_42 (dk_at dksX1_account_4 12 rfl rfl)
theorem dX1_account_136 : decode cX1_account 136 = .ok (.getfield 16, 3) := dk_180 0 16 (dk_at dksX1_account_4 13 rfl rfl)
theorem dX1_account_139 : decode cX1_account 139 = .ok (.getfield 354, 3) := dk_180 1 98 (dk_at dksX1_account_4 16 rfl rfl)
theorem dX1_account_142 : decode cX1_account 142 = .ok (.ireturn, 1) := dk_172 (dk_at dksX1_account_4 19 rfl rfl)
theorem dX1_account_143 : decode cX1_account 143 = .ok (.aload_n 0, 1) := dk_42 (dk_at dksX1_account_4 20 rfl rfl)
theorem dX1_account_144 : decode cX1_account 144 = .ok (.getfield 16, 3) := dk_180 0 16 (dk_at dksX1_account_4 21 rfl rfl)
theorem dX1_account_147 : decode cX1_account 147 = .ok (.invokevirtual 357, 3) := dk_182 1 101 (dk_at dksX1_account_5 0 rfl rfl)
theorem dX1_account_150 : decode cX1_account 150 = .ok (.ireturn, 1) := dk_172 (dk_at dksX1_account_5 3 rfl rfl)
theorem dX1_account_151 : decode cX1_account 151 = .ok (.aload_n 0, 1) := dk_42 (dk_at dksX1_account_5 4 rfl rfl)
theorem dX1_account_152 : decode cX1_account 152 = .ok (.getfield 16, 3) := dk_180 0 16 (dk_at dksX1_account_5 5 rfl rfl)
theorem dX1_account_155 : decode cX1_account 155 = .ok (.invokevirtual 360, 3) := dk_182 1 104 (dk_at dksX1_account_5 8 rfl rfl)
theorem dX1_account_158 : decode cX1_account 158 = .ok (.ireturn, 1) := dk_172 (dk_at dksX1_account_5 11 rfl rfl)
theorem dX1_account_159 : decode cX1_account 159 = .ok (.aload_n 0, 1) := dk_42 (dk_at dksX1_account_5 12 rfl rfl)
theorem dX1_account_160 : decode cX1_account 160 = .ok (.getfield 36, 3) := dk_180 0 36 (dk_at dksX1_account_5 13 rfl rfl)
theorem dX1_account_163 : decode cX1_account 163 = .ok (.invokevirtual 255, 3) := dk_182 0 255 (dk_at dksX1_account_5 16 rfl rfl)
theorem dX1_account_166 : decode cX1_account 166 = .ok (.ireturn, 1) := dk_172 (dk_at dksX1_account_5 19 rfl rfl)
theorem dX1_account_167 : decode cX1_account 167 = .ok (.aload_n 0, 1) := dk_42 (dk_at dksX1_account_5 20 rfl rfl)
theorem dX1_account_168 : decode cX1_account 168 = .ok (.getfield 29, 3) := dk_180 0 29 (dk_at dksX1_account_5 21 rfl rfl)
theorem dX1_account_171 : decode cX1_account 171 = .ok (.invokevirtual 80, 3) := dk_182 0 80 (dk_at dksX1_account_6 0 rfl rfl)
theorem dX1_account_174 : decode cX1_account 174 = .ok (.ireturn, 1) := dk_172 (dk_at dksX1_account_6 3 rfl rfl)
abbrev cX1_meanTension : ByteArray := prog_1_method_45_code
def yX1_meanTension : MethodName := ⟨RX1, "meanTension", "()D"⟩
def dkwX1_meanTension_1 : List UInt8 := [180, 0, 16, 182, 1, 112, 135, 27, 135, 111, 175]
abbrev dktX1_meanTension_1 : List UInt8 := dkwX1_meanTension_1 ++ []
def dkwX1_meanTension_0 : List UInt8 := [42, 180, 0, 16, 4, 182, 1, 82, 60, 27, 158, 0, 7, 4, 167, 0, 4, 3, 184, 1, 109, 42]
abbrev dktX1_meanTension_0 : List UInt8 := dkwX1_meanTension_0 ++ dktX1_meanTension_1
theorem dksX1_meanTension_0 : cX1_meanTension.data.toList.drop 0 = dktX1_meanTension_0 := by decide +kernel
theorem dksX1_meanTension_1 : cX1_meanTension.data.toList.drop 22 = dktX1_meanTension_1 := dk_seg dksX1_meanTension_0 22 rfl rfl
theorem dX1_meanTension_0 : decode cX1_meanTension 0 = .ok (.aload_n 0, 1) := dk_42 (dk_at dksX1_meanTension_0 0 rfl rfl)
theorem dX1_meanTension_1 : decode cX1_meanTension 1 = .ok (.getfield 16, 3) := dk_180 0 16 (dk_at dksX1_meanTension_0 1 rfl rfl)
theorem dX1_meanTension_4 : decode cX1_meanTension 4 = .ok (.iconst 1, 1) := dk_4 (dk_at dksX1_meanTension_0 4 rfl rfl)
theorem dX1_meanTension_5 : decode cX1_meanTension 5 = .ok (.invokevirtual 338, 3) := dk_182 1 82 (dk_at dksX1_meanTension_0 5 rfl rfl)
theorem dX1_meanTension_8 : decode cX1_meanTension 8 = .ok (.istore_n 1, 1) := dk_60 (dk_at dksX1_meanTension_0 8 rfl rfl)
theorem dX1_meanTension_9 : decode cX1_meanTension 9 = .ok (.iload_n 1, 1) := dk_27 (dk_at dksX1_meanTension_0 9 rfl rfl)
theorem dX1_meanTension_10 : decode cX1_meanTension 10 = .ok (.ifCond .le 7, 3) := dk_158 0 7 (dk_at dksX1_meanTension_0 10 rfl rfl)
theorem dX1_meanTension_13 : decode cX1_meanTension 13 = .ok (.iconst 1, 1) := dk_4 (dk_at dksX1_meanTension_0 13 rfl rfl)
theorem dX1_meanTension_14 : decode cX1_meanTension 14 = .ok (.goto 4, 3) := dk_167 0 4 (dk_at dksX1_meanTension_0 14 rfl rfl)
theorem dX1_meanTension_17 : decode cX1_meanTension 17 = .ok (.iconst 0, 1) := dk_3 (dk_at dksX1_meanTension_0 17 rfl rfl)
theorem dX1_meanTension_18 : decode cX1_meanTension 18 = .ok (.invokestatic 365, 3) := dk_184 1 109 (dk_at dksX1_meanTension_0 18 rfl rfl)
theorem dX1_meanTension_21 : decode cX1_meanTension 21 = .ok (.aload_n 0, 1) := dk_42 (dk_at dksX1_meanTension_0 21 rfl rfl)
theorem dX1_meanTension_22 : decode cX1_meanTension 22 = .ok (.getfield 16, 3) := dk_180 0 16 (dk_at dksX1_meanTension_1 0 rfl rfl)
theorem dX1_meanTension_25 : decode cX1_meanTension 25 = .ok (.invokevirtual 368, 3) := dk_182 1 112 (dk_at dksX1_meanTension_1 3 rfl rfl)
theorem dX1_meanTension_28 : decode cX1_meanTension 28 = .ok (.i2d, 1) := dk_135 (dk_at dksX1_meanTension_1 6 rfl rfl)
theorem dX1_meanTension_29 : decode cX1_meanTension 29 = .ok (.iload_n 1, 1) := dk_27 (dk_at dksX1_meanTension_1 7 rfl rfl)
theorem dX1_meanTension_30 : decode cX1_meanTension 30 = .ok (.i2d, 1) := dk_135 (dk_at dksX1_meanTension_1 8 rfl rfl)
theorem dX1_meanTension_31 : decode cX1_meanTension 31 = .ok (.ddiv, 1) := dk_111 (dk_at dksX1_meanTension_1 9 rfl rfl)
theorem dX1_meanTension_32 : decode cX1_meanTension 32 = .ok (.dreturn, 1) := dk_175 (dk_at dksX1_meanTension_1 10 rfl rfl)
abbrev cX1_checkAny : ByteArray := prog_1_method_9_code
def yX1_checkAny : MethodName := ⟨RX1, "checkAny", "(Z)V"⟩
def dkwX1_checkAny_0 : List UInt8 := [26, 154, 0, 11, 187, 0, 59, 89, 183, 0, 61, 191, 177]
abbrev dktX1_checkAny_0 : List UInt8 := dkwX1_checkAny_0 ++ []
theorem dksX1_checkAny_0 : cX1_checkAny.data.toList.drop 0 = dktX1_checkAny_0 := by decide +kernel
theorem dX1_checkAny_0 : decode cX1_checkAny 0 = .ok (.iload_n 0, 1) := dk_26 (dk_at dksX1_checkAny_0 0 rfl rfl)
theorem dX1_checkAny_1 : decode cX1_checkAny 1 = .ok (.ifCond .ne 11, 3) := dk_154 0 11 (dk_at dksX1_checkAny_0 1 rfl rfl)
theorem dX1_checkAny_4 : decode cX1_checkAny 4 = .ok (.new 59, 3) := dk_187 0 59 (dk_at dksX1_checkAny_0 4 rfl rfl)
theorem dX1_checkAny_7 : decode cX1_checkAny 7 = .ok (.dup, 1) := dk_89 (dk_at dksX1_checkAny_0 7 rfl rfl)
theorem dX1_checkAny_8 : decode cX1_checkAny 8 = .ok (.invokespecial 61, 3) := dk_183 0 61 (dk_at dksX1_checkAny_0 8 rfl rfl)
theorem dX1_checkAny_11 : decode cX1_checkAny 11 = .ok (.athrow, 1) := dk_191 (dk_at dksX1_checkAny_0 11 rfl rfl)
theorem dX1_checkAny_12 : decode cX1_checkAny 12 = .ok (.return_, 1) := dk_177 (dk_at dksX1_checkAny_0 12 rfl rfl)
abbrev cX1_outShare : ByteArray := prog_1_method_46_code
def yX1_outShare : MethodName := ⟨RX1, "outShare", "()F"⟩
def dkwX1_outShare_1 : List UInt8 := [182, 1, 91, 134, 27, 134, 110, 174]
abbrev dktX1_outShare_1 : List UInt8 := dkwX1_outShare_1 ++ []
def dkwX1_outShare_0 : List UInt8 := [42, 180, 0, 16, 182, 1, 115, 60, 27, 158, 0, 7, 4, 167, 0, 4, 3, 184, 1, 109, 42, 180, 0, 16]
abbrev dktX1_outShare_0 : List UInt8 := dkwX1_outShare_0 ++ dktX1_outShare_1
theorem dksX1_outShare_0 : cX1_outShare.data.toList.drop 0 = dktX1_outShare_0 := by decide +kernel
theorem dksX1_outShare_1 : cX1_outShare.data.toList.drop 24 = dktX1_outShare_1 := dk_seg dksX1_outShare_0 24 rfl rfl
theorem dX1_outShare_0 : decode cX1_outShare 0 = .ok (.aload_n 0, 1) := dk_42 (dk_at dksX1_outShare_0 0 rfl rfl)
theorem dX1_outShare_1 : decode cX1_outShare 1 = .ok (.getfield 16, 3) := dk_180 0 16 (dk_at dksX1_outShare_0 1 rfl rfl)
theorem dX1_outShare_4 : decode cX1_outShare 4 = .ok (.invokevirtual 371, 3) := dk_182 1 115 (dk_at dksX1_outShare_0 4 rfl rfl)
theorem dX1_outShare_7 : decode cX1_outShare 7 = .ok (.istore_n 1, 1) := dk_60 (dk_at dksX1_outShare_0 7 rfl rfl)
theorem dX1_outShare_8 : decode cX1_outShare 8 = .ok (.iload_n 1, 1) := dk_27 (dk_at dksX1_outShare_0 8 rfl rfl)
theorem dX1_outShare_9 : decode cX1_outShare 9 = .ok (.ifCond .le 7, 3) := dk_158 0 7 (dk_at dksX1_outShare_0 9 rfl rfl)
theorem dX1_outShare_12 : decode cX1_outShare 12 = .ok (.iconst 1, 1) := dk_4 (dk_at dksX1_outShare_0 12 rfl rfl)
theorem dX1_outShare_13 : decode cX1_outShare 13 = .ok (.goto 4, 3) := dk_167 0 4 (dk_at dksX1_outShare_0 13 rfl rfl)
theorem dX1_outShare_16 : decode cX1_outShare 16 = .ok (.iconst 0, 1) := dk_3 (dk_at dksX1_outShare_0 16 rfl rfl)
theorem dX1_outShare_17 : decode cX1_outShare 17 = .ok (.invokestatic 365, 3) := dk_184 1 109 (dk_at dksX1_outShare_0 17 rfl rfl)
theorem dX1_outShare_20 : decode cX1_outShare 20 = .ok (.aload_n 0, 1) := dk_42 (dk_at dksX1_outShare_0 20 rfl rfl)
theorem dX1_outShare_21 : decode cX1_outShare 21 = .ok (.getfield 16, 3) := dk_180 0 16 (dk_at dksX1_outShare_0 21 rfl rfl)
theorem dX1_outShare_24 : decode cX1_outShare 24 = .ok (.invokevirtual 347, 3) := dk_182 1 91 (dk_at dksX1_outShare_1 0 rfl rfl)
theorem dX1_outShare_27 : decode cX1_outShare 27 = .ok (.i2f, 1) := dk_134 (dk_at dksX1_outShare_1 3 rfl rfl)
theorem dX1_outShare_28 : decode cX1_outShare 28 = .ok (.iload_n 1, 1) := dk_27 (dk_at dksX1_outShare_1 4 rfl rfl)
theorem dX1_outShare_29 : decode cX1_outShare 29 = .ok (.i2f, 1) := dk_134 (dk_at dksX1_outShare_1 5 rfl rfl)
theorem dX1_outShare_30 : decode cX1_outShare 30 = .ok (.fdiv, 1) := dk_110 (dk_at dksX1_outShare_1 6 rfl rfl)
theorem dX1_outShare_31 : decode cX1_outShare 31 = .ok (.freturn, 1) := dk_174 (dk_at dksX1_outShare_1 7 rfl rfl)
abbrev cX1_undo : ByteArray := prog_1_method_47_code
def yX1_undo : MethodName := ⟨RX1, "undo", "()I"⟩
def dkwX1_undo_1 : List UInt8 := [180, 0, 29, 182, 1, 121, 192, 0, 13, 182, 0, 88, 42, 180, 0, 29, 182, 0, 80, 172]
abbrev dktX1_undo_1 : List UInt8 := dkwX1_undo_1 ++ []
def dkwX1_undo_0 : List UInt8 := [42, 180, 0, 29, 182, 1, 118, 154, 0, 7, 4, 167, 0, 4, 3, 184, 1, 2, 42, 180, 0, 16, 42]
abbrev dktX1_undo_0 : List UInt8 := dkwX1_undo_0 ++ dktX1_undo_1
theorem dksX1_undo_0 : cX1_undo.data.toList.drop 0 = dktX1_undo_0 := by decide +kernel
theorem dksX1_undo_1 : cX1_undo.data.toList.drop 23 = dktX1_undo_1 := dk_seg dksX1_undo_0 23 rfl rfl
theorem dX1_undo_0 : decode cX1_undo 0 = .ok (.aload_n 0, 1) := dk_42 (dk_at dksX1_undo_0 0 rfl rfl)
theorem dX1_undo_1 : decode cX1_undo 1 = .ok (.getfield 29, 3) := dk_180 0 29 (dk_at dksX1_undo_0 1 rfl rfl)
theorem dX1_undo_4 : decode cX1_undo 4 = .ok (.invokevirtual 374, 3) := dk_182 1 118 (dk_at dksX1_undo_0 4 rfl rfl)
theorem dX1_undo_7 : decode cX1_undo 7 = .ok (.ifCond .ne 7, 3) := dk_154 0 7 (dk_at dksX1_undo_0 7 rfl rfl)
theorem dX1_undo_10 : decode cX1_undo 10 = .ok (.iconst 1, 1) := dk_4 (dk_at dksX1_undo_0 10 rfl rfl)
theorem dX1_undo_11 : decode cX1_undo 11 = .ok (.goto 4, 3) := dk_167 0 4 (dk_at dksX1_undo_0 11 rfl rfl)
theorem dX1_undo_14 : decode cX1_undo 14 = .ok (.iconst 0, 1) := dk_3 (dk_at dksX1_undo_0 14 rfl rfl)
theorem dX1_undo_15 : decode cX1_undo 15 = .ok (.invokestatic 258, 3) := dk_184 1 2 (dk_at dksX1_undo_0 15 rfl rfl)
theorem dX1_undo_18 : decode cX1_undo 18 = .ok (.aload_n 0, 1) := dk_42 (dk_at dksX1_undo_0 18 rfl rfl)
theorem dX1_undo_19 : decode cX1_undo 19 = .ok (.getfield 16, 3) := dk_180 0 16 (dk_at dksX1_undo_0 19 rfl rfl)
theorem dX1_undo_22 : decode cX1_undo 22 = .ok (.aload_n 0, 1) := dk_42 (dk_at dksX1_undo_0 22 rfl rfl)
theorem dX1_undo_23 : decode cX1_undo 23 = .ok (.getfield 29, 3) := dk_180 0 29 (dk_at dksX1_undo_1 0 rfl rfl)
theorem dX1_undo_26 : decode cX1_undo 26 = .ok (.invokevirtual 377, 3) := dk_182 1 121 (dk_at dksX1_undo_1 3 rfl rfl)
theorem dX1_undo_29 : decode cX1_undo 29 = .ok (.checkcast 13, 3) := dk_192 0 13 (dk_at dksX1_undo_1 6 rfl rfl)
theorem dX1_undo_32 : decode cX1_undo 32 = .ok (.invokevirtual 88, 3) := dk_182 0 88 (dk_at dksX1_undo_1 9 rfl rfl)
theorem dX1_undo_35 : decode cX1_undo 35 = .ok (.aload_n 0, 1) := dk_42 (dk_at dksX1_undo_1 12 rfl rfl)
theorem dX1_undo_36 : decode cX1_undo 36 = .ok (.getfield 29, 3) := dk_180 0 29 (dk_at dksX1_undo_1 13 rfl rfl)
theorem dX1_undo_39 : decode cX1_undo 39 = .ok (.invokevirtual 80, 3) := dk_182 0 80 (dk_at dksX1_undo_1 16 rfl rfl)
theorem dX1_undo_42 : decode cX1_undo 42 = .ok (.ireturn, 1) := dk_172 (dk_at dksX1_undo_1 19 rfl rfl)
abbrev cX1_restore : ByteArray := prog_1_method_49_code
def yX1_restore : MethodName := ⟨RX1, "restore", "()I"⟩
def dkwX1_restore_1 : List UInt8 := [182, 1, 128, 42, 180, 0, 16, 180, 1, 85, 172]
abbrev dktX1_restore_1 : List UInt8 := dkwX1_restore_1 ++ []
def dkwX1_restore_0 : List UInt8 := [42, 180, 1, 124, 184, 1, 2, 42, 180, 0, 16, 42, 180, 0, 23, 182, 0, 88, 42, 180, 0, 29]
abbrev dktX1_restore_0 : List UInt8 := dkwX1_restore_0 ++ dktX1_restore_1
theorem dksX1_restore_0 : cX1_restore.data.toList.drop 0 = dktX1_restore_0 := by decide +kernel
theorem dksX1_restore_1 : cX1_restore.data.toList.drop 22 = dktX1_restore_1 := dk_seg dksX1_restore_0 22 rfl rfl
theorem dX1_restore_0 : decode cX1_restore 0 = .ok (.aload_n 0, 1) := dk_42 (dk_at dksX1_restore_0 0 rfl rfl)
theorem dX1_restore_1 : decode cX1_restore 1 = .ok (.getfield 380, 3) := dk_180 1 124 (dk_at dksX1_restore_0 1 rfl rfl)
theorem dX1_restore_4 : decode cX1_restore 4 = .ok (.invokestatic 258, 3) := dk_184 1 2 (dk_at dksX1_restore_0 4 rfl rfl)
theorem dX1_restore_7 : decode cX1_restore 7 = .ok (.aload_n 0, 1) := dk_42 (dk_at dksX1_restore_0 7 rfl rfl)
theorem dX1_restore_8 : decode cX1_restore 8 = .ok (.getfield 16, 3) := dk_180 0 16 (dk_at dksX1_restore_0 8 rfl rfl)
theorem dX1_restore_11 : decode cX1_restore 11 = .ok (.aload_n 0, 1) := dk_42 (dk_at dksX1_restore_0 11 rfl rfl)
theorem dX1_restore_12 : decode cX1_restore 12 = .ok (.getfield 23, 3) := dk_180 0 23 (dk_at dksX1_restore_0 12 rfl rfl)
theorem dX1_restore_15 : decode cX1_restore 15 = .ok (.invokevirtual 88, 3) := dk_182 0 88 (dk_at dksX1_restore_0 15 rfl rfl)
theorem dX1_restore_18 : decode cX1_restore 18 = .ok (.aload_n 0, 1) := dk_42 (dk_at dksX1_restore_0 18 rfl rfl)
theorem dX1_restore_19 : decode cX1_restore 19 = .ok (.getfield 29, 3) := dk_180 0 29 (dk_at dksX1_restore_0 19 rfl rfl)
theorem dX1_restore_22 : decode cX1_restore 22 = .ok (.invokevirtual 384, 3) := dk_182 1 128 (dk_at dksX1_restore_1 0 rfl rfl)
theorem dX1_restore_25 : decode cX1_restore 25 = .ok (.aload_n 0, 1) := dk_42 (dk_at dksX1_restore_1 3 rfl rfl)
theorem dX1_restore_26 : decode cX1_restore 26 = .ok (.getfield 16, 3) := dk_180 0 16 (dk_at dksX1_restore_1 4 rfl rfl)
theorem dX1_restore_29 : decode cX1_restore 29 = .ok (.getfield 341, 3) := dk_180 1 85 (dk_at dksX1_restore_1 7 rfl rfl)
theorem dX1_restore_32 : decode cX1_restore 32 = .ok (.ireturn, 1) := dk_172 (dk_at dksX1_restore_1 10 rfl rfl)
theorem q69 : (Jvm.Cond.initialized "KiteRoofs") ∈ lw_all := lw_g (lw_at lw_m1 1 rfl) rfl
theorem q110 : (Jvm.Cond.instantiable "KiteRoofs" (9 : Nat)) ∈ lw_all := lw_g (lw_at lw_m1 42 rfl) rfl
theorem q112 : (Jvm.Cond.instanceMethod ({ cls := "KiteRoofs", name := "<init>", desc := "()V" } : Jvm.MethodName)) ∈ lw_all := lw_g (lw_at lw_m1 44 rfl) rfl
theorem q113 : (Jvm.Cond.code ({ cls := "KiteRoofs", name := "<init>", desc := "()V" } : Jvm.MethodName) prog_1_method_4_code (1 : Nat) (Option.none : Option Jvm.ClassFile.FieldType)) ∈ lw_all := lw_g (lw_at lw_m1 45 rfl) rfl
theorem q114 : (Jvm.Cond.methodLink "KiteRoofs" (7 : Nat) ({ cls := "java/lang/Object", name := "<init>", desc := "()V" } : Jvm.MethodName)) ∈ lw_all := lw_g (lw_at lw_m1 46 rfl) rfl
theorem q117 : (Jvm.Cond.classLink "KiteRoofs" (13 : Nat) "KiteRoofs$Town") ∈ lw_all := lw_g (lw_at lw_m1 49 rfl) rfl
theorem q119 : (Jvm.Cond.methodLink "KiteRoofs" (15 : Nat) ({ cls := "KiteRoofs$Town", name := "<init>", desc := "()V" } : Jvm.MethodName)) ∈ lw_all := lw_g (lw_at lw_m1 51 rfl) rfl
theorem q142 : (Jvm.Cond.fieldLinkNest "KiteRoofs" (201 : Nat) "KiteRoofs$Kite" "make" "LKiteRoofs$Make;" "KiteRoofs") ∈ lw_tbl := lw_at lw_m1 74 rfl
theorem q145 : (Jvm.Cond.fieldLinkNest "KiteRoofs" (208 : Nat) "KiteRoofs$Kite" "roof" "I" "KiteRoofs") ∈ lw_tbl := lw_at lw_m1 77 rfl
theorem q148 : (Jvm.Cond.fieldLinkNest "KiteRoofs" (211 : Nat) "KiteRoofs$Kite" "spool" "I" "KiteRoofs") ∈ lw_tbl := lw_at lw_m1 80 rfl
theorem q153 : (Jvm.Cond.fieldLinkNest "KiteRoofs" (214 : Nat) "KiteRoofs$Kite" "glass" "I" "KiteRoofs") ∈ lw_tbl := lw_at lw_m1 85 rfl
theorem q155 : (Jvm.Cond.fieldLinkNest "KiteRoofs" (155 : Nat) "KiteRoofs$Kite" "speed" "I" "KiteRoofs") ∈ lw_tbl := lw_at lw_m1 87 rfl
theorem q159 : (Jvm.Cond.fieldLinkNest "KiteRoofs" (217 : Nat) "KiteRoofs$Kite" "points" "I" "KiteRoofs") ∈ lw_tbl := lw_at lw_m1 91 rfl
theorem q162 : (Jvm.Cond.fieldLinkNest "KiteRoofs" (192 : Nat) "KiteRoofs$Kite" "state" "LKiteRoofs$State;" "KiteRoofs") ∈ lw_tbl := lw_at lw_m1 94 rfl
theorem q181 : (Jvm.Cond.fieldLinkNest "KiteRoofs" (109 : Nat) "KiteRoofs$Town" "strengths" "[I" "KiteRoofs") ∈ lw_tbl := lw_at lw_m1 113 rfl
theorem q183 : (Jvm.Cond.fieldLinkNest "KiteRoofs" (113 : Nat) "KiteRoofs$Town" "drifts" "[I" "KiteRoofs") ∈ lw_tbl := lw_at lw_m1 115 rfl
theorem q185 : (Jvm.Cond.fieldLinkNest "KiteRoofs" (76 : Nat) "KiteRoofs$Town" "kites" "[LKiteRoofs$Kite;" "KiteRoofs") ∈ lw_tbl := lw_at lw_m1 117 rfl
theorem q187 : (Jvm.Cond.fieldLinkNest "KiteRoofs" (120 : Nat) "KiteRoofs$Town" "many" "I" "KiteRoofs") ∈ lw_tbl := lw_at lw_m1 119 rfl
theorem q189 : (Jvm.Cond.fieldLinkNest "KiteRoofs" (341 : Nat) "KiteRoofs$Town" "rounds" "I" "KiteRoofs") ∈ lw_tbl := lw_at lw_m1 121 rfl
theorem q191 : (Jvm.Cond.fieldLinkNest "KiteRoofs" (344 : Nat) "KiteRoofs$Town" "letOut" "I" "KiteRoofs") ∈ lw_tbl := lw_at lw_m1 123 rfl
theorem q193 : (Jvm.Cond.fieldLinkNest "KiteRoofs" (351 : Nat) "KiteRoofs$Town" "woundIn" "I" "KiteRoofs") ∈ lw_tbl := lw_at lw_m1 125 rfl
theorem q195 : (Jvm.Cond.fieldLinkNest "KiteRoofs" (348 : Nat) "KiteRoofs$Town" "cutOff" "I" "KiteRoofs") ∈ lw_tbl := lw_at lw_m1 127 rfl
theorem q197 : (Jvm.Cond.fieldLinkNest "KiteRoofs" (354 : Nat) "KiteRoofs$Town" "cuts" "I" "KiteRoofs") ∈ lw_tbl := lw_at lw_m1 129 rfl
theorem q223 : (Jvm.Cond.classLink "KiteRoofs" (26 : Nat) "java/util/ArrayDeque") ∈ lw_all := lw_g (lw_at lw_m1 155 rfl) rfl
theorem q225 : (Jvm.Cond.methodLink "KiteRoofs" (28 : Nat) ({ cls := "java/util/ArrayDeque", name := "<init>", desc := "()V" } : Jvm.MethodName)) ∈ lw_all := lw_g (lw_at lw_m1 157 rfl) rfl
theorem q244 : (Jvm.Cond.classLink "KiteRoofs" (33 : Nat) "java/lang/StringBuilder") ∈ lw_all := lw_g (lw_at lw_m1 176 rfl) rfl
theorem q246 : (Jvm.Cond.methodLink "KiteRoofs" (35 : Nat) ({ cls := "java/lang/StringBuilder", name := "<init>", desc := "()V" } : Jvm.MethodName)) ∈ lw_all := lw_g (lw_at lw_m1 178 rfl) rfl
theorem q276 : (Jvm.Cond.fieldLink "KiteRoofs" (16 : Nat) "KiteRoofs" "town" "LKiteRoofs$Town;") ∈ lw_all := lw_g (lw_at lw_m1 208 rfl) rfl
theorem q277 : (Jvm.Cond.fieldLink "KiteRoofs" (20 : Nat) "KiteRoofs" "tried" "LKiteRoofs$Town;") ∈ lw_all := lw_g (lw_at lw_m1 209 rfl) rfl
theorem q278 : (Jvm.Cond.fieldLink "KiteRoofs" (23 : Nat) "KiteRoofs" "saved" "LKiteRoofs$Town;") ∈ lw_all := lw_g (lw_at lw_m1 210 rfl) rfl
theorem q279 : (Jvm.Cond.fieldLink "KiteRoofs" (380 : Nat) "KiteRoofs" "hasSaved" "Z") ∈ lw_all := lw_g (lw_at lw_m1 211 rfl) rfl
theorem q280 : (Jvm.Cond.fieldLink "KiteRoofs" (29 : Nat) "KiteRoofs" "kept" "Ljava/util/ArrayDeque;") ∈ lw_all := lw_g (lw_at lw_m1 212 rfl) rfl
theorem q281 : (Jvm.Cond.fieldLink "KiteRoofs" (36 : Nat) "KiteRoofs" "buffer" "Ljava/lang/StringBuilder;") ∈ lw_all := lw_g (lw_at lw_m1 213 rfl) rfl
theorem q282 : (Jvm.Cond.fieldLink "KiteRoofs" (40 : Nat) "KiteRoofs" "fault" "I") ∈ lw_all := lw_g (lw_at lw_m1 214 rfl) rfl
theorem q283 : (Jvm.Cond.fieldLink "KiteRoofs" (62 : Nat) "KiteRoofs" "refused" "I") ∈ lw_all := lw_g (lw_at lw_m1 215 rfl) rfl
theorem q284 : (Jvm.Cond.fieldLink "KiteRoofs" (44 : Nat) "KiteRoofs" "refusedOrder" "I") ∈ lw_all := lw_g (lw_at lw_m1 216 rfl) rfl
theorem q285 : (Jvm.Cond.laysFinal "KiteRoofs" "KiteRoofs" "town" "LKiteRoofs$Town;") ∈ lw_all := lw_g (lw_at lw_m1 217 rfl) rfl
theorem q286 : (Jvm.Cond.soleField "KiteRoofs" "town") ∈ lw_all := lw_g (lw_at lw_m1 218 rfl) rfl
theorem q287 : (Jvm.Cond.laysFinal "KiteRoofs" "KiteRoofs" "tried" "LKiteRoofs$Town;") ∈ lw_all := lw_g (lw_at lw_m1 219 rfl) rfl
theorem q288 : (Jvm.Cond.soleField "KiteRoofs" "tried") ∈ lw_all := lw_g (lw_at lw_m1 220 rfl) rfl
theorem q289 : (Jvm.Cond.laysFinal "KiteRoofs" "KiteRoofs" "saved" "LKiteRoofs$Town;") ∈ lw_all := lw_g (lw_at lw_m1 221 rfl) rfl
theorem q290 : (Jvm.Cond.soleField "KiteRoofs" "saved") ∈ lw_all := lw_g (lw_at lw_m1 222 rfl) rfl
theorem q291 : (Jvm.Cond.lays "KiteRoofs" "KiteRoofs" "hasSaved" "Z") ∈ lw_all := lw_g (lw_at lw_m1 223 rfl) rfl
theorem q292 : (Jvm.Cond.soleField "KiteRoofs" "hasSaved") ∈ lw_all := lw_g (lw_at lw_m1 224 rfl) rfl
theorem q293 : (Jvm.Cond.laysFinal "KiteRoofs" "KiteRoofs" "kept" "Ljava/util/ArrayDeque;") ∈ lw_all := lw_g (lw_at lw_m1 225 rfl) rfl
theorem q294 : (Jvm.Cond.soleField "KiteRoofs" "kept") ∈ lw_all := lw_g (lw_at lw_m1 226 rfl) rfl
theorem q295 : (Jvm.Cond.lays "KiteRoofs" "KiteRoofs" "buffer" "Ljava/lang/StringBuilder;") ∈ lw_all := lw_g (lw_at lw_m1 227 rfl) rfl
theorem q296 : (Jvm.Cond.soleField "KiteRoofs" "buffer") ∈ lw_all := lw_g (lw_at lw_m1 228 rfl) rfl
theorem q297 : (Jvm.Cond.lays "KiteRoofs" "KiteRoofs" "fault" "I") ∈ lw_all := lw_g (lw_at lw_m1 229 rfl) rfl
theorem q298 : (Jvm.Cond.soleField "KiteRoofs" "fault") ∈ lw_all := lw_g (lw_at lw_m1 230 rfl) rfl
theorem q299 : (Jvm.Cond.lays "KiteRoofs" "KiteRoofs" "refused" "I") ∈ lw_all := lw_g (lw_at lw_m1 231 rfl) rfl
theorem q300 : (Jvm.Cond.soleField "KiteRoofs" "refused") ∈ lw_all := lw_g (lw_at lw_m1 232 rfl) rfl
theorem q301 : (Jvm.Cond.lays "KiteRoofs" "KiteRoofs" "refusedOrder" "I") ∈ lw_all := lw_g (lw_at lw_m1 233 rfl) rfl
theorem q302 : (Jvm.Cond.soleField "KiteRoofs" "refusedOrder") ∈ lw_all := lw_g (lw_at lw_m1 234 rfl) rfl
theorem q303 : (Jvm.Cond.superclass "KiteRoofs" "java/lang/Object") ∈ lw_all := lw_g (lw_at lw_m1 235 rfl) rfl
theorem q305 : (Jvm.Cond.instanceMethod ({ cls := "KiteRoofs", name := "faultPosition", desc := "()I" } : Jvm.MethodName)) ∈ lw_all := lw_g (lw_at lw_m1 237 rfl) rfl
theorem q306 : (Jvm.Cond.selects "KiteRoofs" ({ cls := "KiteRoofs", name := "faultPosition", desc := "()I" } : Jvm.MethodName) ({ cls := "KiteRoofs", name := "faultPosition", desc := "()I" } : Jvm.MethodName)) ∈ lw_all := lw_g (lw_at lw_m1 238 rfl) rfl
theorem q307 : (Jvm.Cond.code ({ cls := "KiteRoofs", name := "faultPosition", desc := "()I" } : Jvm.MethodName) prog_1_method_41_code (1 : Nat) (Option.some Jvm.ClassFile.FieldType.int)) ∈ lw_all := lw_g (lw_at lw_m1 239 rfl) rfl
theorem q309 : (Jvm.Cond.instanceMethod ({ cls := "KiteRoofs", name := "isBalanced", desc := "()Z" } : Jvm.MethodName)) ∈ lw_all := lw_g (lw_at lw_m2 1 rfl) rfl
theorem q310 : (Jvm.Cond.selects "KiteRoofs" ({ cls := "KiteRoofs", name := "isBalanced", desc := "()Z" } : Jvm.MethodName) ({ cls := "KiteRoofs", name := "isBalanced", desc := "()Z" } : Jvm.MethodName)) ∈ lw_all := lw_g (lw_at lw_m2 2 rfl) rfl
theorem q311 : (Jvm.Cond.code ({ cls := "KiteRoofs", name := "isBalanced", desc := "()Z" } : Jvm.MethodName) prog_1_method_44_code (1 : Nat) (Option.some Jvm.ClassFile.FieldType.boolean)) ∈ lw_all := lw_g (lw_at lw_m2 3 rfl) rfl
theorem q312 : (Jvm.Cond.methodLink "KiteRoofs" (362 : Nat) ({ cls := "KiteRoofs$Town", name := "isBalanced", desc := "()Z" } : Jvm.MethodName)) ∈ lw_all := lw_g (lw_at lw_m2 4 rfl) rfl
theorem q326 : (Jvm.Cond.instanceMethod ({ cls := "KiteRoofs", name := "save", desc := "()I" } : Jvm.MethodName)) ∈ lw_all := lw_g (lw_at lw_m2 18 rfl) rfl
theorem q327 : (Jvm.Cond.selects "KiteRoofs" ({ cls := "KiteRoofs", name := "save", desc := "()I" } : Jvm.MethodName) ({ cls := "KiteRoofs", name := "save", desc := "()I" } : Jvm.MethodName)) ∈ lw_all := lw_g (lw_at lw_m2 19 rfl) rfl
theorem q328 : (Jvm.Cond.code ({ cls := "KiteRoofs", name := "save", desc := "()I" } : Jvm.MethodName) prog_1_method_48_code (1 : Nat) (Option.some Jvm.ClassFile.FieldType.int)) ∈ lw_all := lw_g (lw_at lw_m2 20 rfl) rfl
theorem q329 : (Jvm.Cond.methodLink "KiteRoofs" (88 : Nat) ({ cls := "KiteRoofs$Town", name := "take", desc := "(LKiteRoofs$Town;)V" } : Jvm.MethodName)) ∈ lw_all := lw_g (lw_at lw_m2 21 rfl) rfl
theorem q447 : (Jvm.Cond.instanceMethod ({ cls := "KiteRoofs", name := "wind", desc := "(III)I" } : Jvm.MethodName)) ∈ lw_all := lw_g (lw_at lw_m2 139 rfl) rfl
theorem q448 : (Jvm.Cond.selects "KiteRoofs" ({ cls := "KiteRoofs", name := "wind", desc := "(III)I" } : Jvm.MethodName) ({ cls := "KiteRoofs", name := "wind", desc := "(III)I" } : Jvm.MethodName)) ∈ lw_all := lw_g (lw_at lw_m2 140 rfl) rfl
theorem q449 : (Jvm.Cond.code ({ cls := "KiteRoofs", name := "wind", desc := "(III)I" } : Jvm.MethodName) prog_1_method_13_code (5 : Nat) (Option.some Jvm.ClassFile.FieldType.int)) ∈ lw_all := lw_g (lw_at lw_m2 141 rfl) rfl
theorem q450 : (Jvm.Cond.methodLink "KiteRoofs" (96 : Nat) ({ cls := "KiteRoofs", name := "isLayer", desc := "(I)Z" } : Jvm.MethodName)) ∈ lw_all := lw_g (lw_at lw_m2 142 rfl) rfl
theorem q451 : (Jvm.Cond.static ({ cls := "KiteRoofs", name := "isLayer", desc := "(I)Z" } : Jvm.MethodName)) ∈ lw_all := lw_g (lw_at lw_m2 143 rfl) rfl
theorem q452 : (Jvm.Cond.code ({ cls := "KiteRoofs", name := "isLayer", desc := "(I)Z" } : Jvm.MethodName) prog_1_method_2_code (1 : Nat) (Option.some Jvm.ClassFile.FieldType.boolean)) ∈ lw_all := lw_g (lw_at lw_m2 144 rfl) rfl
theorem q453 : (Jvm.Cond.methodLink "KiteRoofs" (3 : Nat) ({ cls := "KiteRoofs", name := "in", desc := "(III)Z" } : Jvm.MethodName)) ∈ lw_all := lw_g (lw_at lw_m2 145 rfl) rfl
theorem q454 : (Jvm.Cond.static ({ cls := "KiteRoofs", name := "in", desc := "(III)Z" } : Jvm.MethodName)) ∈ lw_all := lw_g (lw_at lw_m2 146 rfl) rfl
theorem q455 : (Jvm.Cond.code ({ cls := "KiteRoofs", name := "in", desc := "(III)Z" } : Jvm.MethodName) prog_1_method_1_code (3 : Nat) (Option.some Jvm.ClassFile.FieldType.boolean)) ∈ lw_all := lw_g (lw_at lw_m2 147 rfl) rfl
theorem q456 : (Jvm.Cond.methodLink "KiteRoofs" (72 : Nat) ({ cls := "KiteRoofs", name := "checkIndex", desc := "(Z)V" } : Jvm.MethodName)) ∈ lw_all := lw_g (lw_at lw_m2 148 rfl) rfl
theorem q457 : (Jvm.Cond.static ({ cls := "KiteRoofs", name := "checkIndex", desc := "(Z)V" } : Jvm.MethodName)) ∈ lw_all := lw_g (lw_at lw_m2 149 rfl) rfl
theorem q458 : (Jvm.Cond.code ({ cls := "KiteRoofs", name := "checkIndex", desc := "(Z)V" } : Jvm.MethodName) prog_1_method_8_code (1 : Nat) (Option.none : Option Jvm.ClassFile.FieldType)) ∈ lw_all := lw_g (lw_at lw_m2 150 rfl) rfl
theorem q459 : (Jvm.Cond.classLink "KiteRoofs" (56 : Nat) "java/lang/IndexOutOfBoundsException") ∈ lw_all := lw_g (lw_at lw_m2 151 rfl) rfl
theorem q468 : (Jvm.Cond.methodLink "KiteRoofs" (58 : Nat) ({ cls := "java/lang/IndexOutOfBoundsException", name := "<init>", desc := "()V" } : Jvm.MethodName)) ∈ lw_all := lw_g (lw_at lw_m2 160 rfl) rfl
theorem q480 : (Jvm.Cond.methodLink "KiteRoofs" (99 : Nat) ({ cls := "KiteRoofs", name := "isWind", desc := "(II)Z" } : Jvm.MethodName)) ∈ lw_all := lw_g (lw_at lw_m2 172 rfl) rfl
theorem q481 : (Jvm.Cond.static ({ cls := "KiteRoofs", name := "isWind", desc := "(II)Z" } : Jvm.MethodName)) ∈ lw_all := lw_g (lw_at lw_m2 173 rfl) rfl
theorem q482 : (Jvm.Cond.code ({ cls := "KiteRoofs", name := "isWind", desc := "(II)Z" } : Jvm.MethodName) prog_1_method_3_code (2 : Nat) (Option.some Jvm.ClassFile.FieldType.boolean)) ∈ lw_all := lw_g (lw_at lw_m2 174 rfl) rfl
theorem q483 : (Jvm.Cond.methodLink "KiteRoofs" (103 : Nat) ({ cls := "KiteRoofs", name := "check", desc := "(Z)V" } : Jvm.MethodName)) ∈ lw_all := lw_g (lw_at lw_m2 175 rfl) rfl
theorem q484 : (Jvm.Cond.static ({ cls := "KiteRoofs", name := "check", desc := "(Z)V" } : Jvm.MethodName)) ∈ lw_all := lw_g (lw_at lw_m2 176 rfl) rfl
theorem q485 : (Jvm.Cond.code ({ cls := "KiteRoofs", name := "check", desc := "(Z)V" } : Jvm.MethodName) prog_1_method_5_code (1 : Nat) (Option.none : Option Jvm.ClassFile.FieldType)) ∈ lw_all := lw_g (lw_at lw_m2 177 rfl) rfl
theorem q486 : (Jvm.Cond.classLink "KiteRoofs" (47 : Nat) "java/lang/IllegalArgumentException") ∈ lw_all := lw_g (lw_at lw_m2 178 rfl) rfl
theorem q495 : (Jvm.Cond.methodLink "KiteRoofs" (49 : Nat) ({ cls := "java/lang/IllegalArgumentException", name := "<init>", desc := "()V" } : Jvm.MethodName)) ∈ lw_all := lw_g (lw_at lw_m2 187 rfl) rfl
theorem q501 : (Jvm.Cond.methodLink "KiteRoofs" (106 : Nat) ({ cls := "KiteRoofs", name := "keep", desc := "()V" } : Jvm.MethodName)) ∈ lw_all := lw_g (lw_at lw_m2 193 rfl) rfl
theorem q502 : (Jvm.Cond.privateMethod ({ cls := "KiteRoofs", name := "keep", desc := "()V" } : Jvm.MethodName)) ∈ lw_tbl := lw_at lw_m2 194 rfl
theorem q503 : (Jvm.Cond.instanceMethod ({ cls := "KiteRoofs", name := "keep", desc := "()V" } : Jvm.MethodName)) ∈ lw_all := lw_g (lw_at lw_m2 195 rfl) rfl
theorem q504 : (Jvm.Cond.code ({ cls := "KiteRoofs", name := "keep", desc := "()V" } : Jvm.MethodName) prog_1_method_12_code (2 : Nat) (Option.none : Option Jvm.ClassFile.FieldType)) ∈ lw_all := lw_g (lw_at lw_m2 196 rfl) rfl
theorem q505 : (Jvm.Cond.methodLink "KiteRoofs" (80 : Nat) ({ cls := "java/util/ArrayDeque", name := "size", desc := "()I" } : Jvm.MethodName)) ∈ lw_all := lw_g (lw_at lw_m2 197 rfl) rfl
theorem q512 : (Jvm.Cond.methodLink "KiteRoofs" (84 : Nat) ({ cls := "java/util/ArrayDeque", name := "pollFirst", desc := "()Ljava/lang/Object;" } : Jvm.MethodName)) ∈ lw_all := lw_g (lw_at lw_m2 204 rfl) rfl
theorem q522 : (Jvm.Cond.methodLink "KiteRoofs" (92 : Nat) ({ cls := "java/util/ArrayDeque", name := "addLast", desc := "(Ljava/lang/Object;)V" } : Jvm.MethodName)) ∈ lw_all := lw_g (lw_at lw_m2 214 rfl) rfl
theorem q558 : (Jvm.Cond.selects "KiteRoofs" ({ cls := "java/lang/Object", name := "getClass", desc := "()Ljava/lang/Class;" } : Jvm.MethodName) ({ cls := "java/lang/Object", name := "getClass", desc := "()Ljava/lang/Class;" } : Jvm.MethodName)) ∈ lw_all := lw_g (lw_at lw_m3 10 rfl) rfl
theorem q600 : (Jvm.Cond.instanceMethod ({ cls := "KiteRoofs", name := "windOf", desc := "(IZ)I" } : Jvm.MethodName)) ∈ lw_all := lw_g (lw_at lw_m3 52 rfl) rfl
theorem q601 : (Jvm.Cond.selects "KiteRoofs" ({ cls := "KiteRoofs", name := "windOf", desc := "(IZ)I" } : Jvm.MethodName) ({ cls := "KiteRoofs", name := "windOf", desc := "(IZ)I" } : Jvm.MethodName)) ∈ lw_all := lw_g (lw_at lw_m3 53 rfl) rfl
theorem q602 : (Jvm.Cond.code ({ cls := "KiteRoofs", name := "windOf", desc := "(IZ)I" } : Jvm.MethodName) prog_1_method_14_code (3 : Nat) (Option.some Jvm.ClassFile.FieldType.int)) ∈ lw_all := lw_g (lw_at lw_m3 54 rfl) rfl
theorem q608 : (Jvm.Cond.instanceMethod ({ cls := "KiteRoofs", name := "kite", desc := "(IIII)I" } : Jvm.MethodName)) ∈ lw_all := lw_g (lw_at lw_m3 60 rfl) rfl
theorem q609 : (Jvm.Cond.selects "KiteRoofs" ({ cls := "KiteRoofs", name := "kite", desc := "(IIII)I" } : Jvm.MethodName) ({ cls := "KiteRoofs", name := "kite", desc := "(IIII)I" } : Jvm.MethodName)) ∈ lw_all := lw_g (lw_at lw_m3 61 rfl) rfl
theorem q610 : (Jvm.Cond.code ({ cls := "KiteRoofs", name := "kite", desc := "(IIII)I" } : Jvm.MethodName) prog_1_method_16_code (5 : Nat) (Option.some Jvm.ClassFile.FieldType.int)) ∈ lw_all := lw_g (lw_at lw_m3 62 rfl) rfl
theorem q611 : (Jvm.Cond.methodLink "KiteRoofs" (116 : Nat) ({ cls := "KiteRoofs", name := "mayBeKite", desc := "(IIII)Z" } : Jvm.MethodName)) ∈ lw_all := lw_g (lw_at lw_m3 63 rfl) rfl
theorem q612 : (Jvm.Cond.static ({ cls := "KiteRoofs", name := "mayBeKite", desc := "(IIII)Z" } : Jvm.MethodName)) ∈ lw_all := lw_g (lw_at lw_m3 64 rfl) rfl
theorem q613 : (Jvm.Cond.code ({ cls := "KiteRoofs", name := "mayBeKite", desc := "(IIII)Z" } : Jvm.MethodName) prog_1_method_15_code (4 : Nat) (Option.some Jvm.ClassFile.FieldType.boolean)) ∈ lw_all := lw_g (lw_at lw_m3 65 rfl) rfl
theorem q614 : (Jvm.Cond.methodLink "KiteRoofs" (123 : Nat) ({ cls := "KiteRoofs", name := "checkSupported", desc := "(II)V" } : Jvm.MethodName)) ∈ lw_all := lw_g (lw_at lw_m3 66 rfl) rfl
theorem q615 : (Jvm.Cond.privateMethod ({ cls := "KiteRoofs", name := "checkSupported", desc := "(II)V" } : Jvm.MethodName)) ∈ lw_tbl := lw_at lw_m3 67 rfl
theorem q616 : (Jvm.Cond.instanceMethod ({ cls := "KiteRoofs", name := "checkSupported", desc := "(II)V" } : Jvm.MethodName)) ∈ lw_all := lw_g (lw_at lw_m3 68 rfl) rfl
theorem q617 : (Jvm.Cond.code ({ cls := "KiteRoofs", name := "checkSupported", desc := "(II)V" } : Jvm.MethodName) prog_1_method_10_code (3 : Nat) (Option.none : Option Jvm.ClassFile.FieldType)) ∈ lw_all := lw_g (lw_at lw_m3 69 rfl) rfl
theorem q618 : (Jvm.Cond.classLink "KiteRoofs" (65 : Nat) "java/lang/UnsupportedOperationException") ∈ lw_all := lw_g (lw_at lw_m3 70 rfl) rfl
theorem q627 : (Jvm.Cond.methodLink "KiteRoofs" (67 : Nat) ({ cls := "java/lang/UnsupportedOperationException", name := "<init>", desc := "()V" } : Jvm.MethodName)) ∈ lw_all := lw_g (lw_at lw_m3 79 rfl) rfl
theorem q633 : (Jvm.Cond.methodLink "KiteRoofs" (127 : Nat) ({ cls := "KiteRoofs$Make", name := "of", desc := "(I)LKiteRoofs$Make;" } : Jvm.MethodName)) ∈ lw_all := lw_g (lw_at lw_m3 85 rfl) rfl
theorem q641 : (Jvm.Cond.methodLink "KiteRoofs" (133 : Nat) ({ cls := "KiteRoofs$Town", name := "add", desc := "(LKiteRoofs$Make;III)I" } : Jvm.MethodName)) ∈ lw_all := lw_g (lw_at lw_m3 93 rfl) rfl
theorem q653 : (Jvm.Cond.instanceMethod ({ cls := "KiteRoofs", name := "launch", desc := "(I)I" } : Jvm.MethodName)) ∈ lw_all := lw_g (lw_at lw_m3 105 rfl) rfl
theorem q654 : (Jvm.Cond.selects "KiteRoofs" ({ cls := "KiteRoofs", name := "launch", desc := "(I)I" } : Jvm.MethodName) ({ cls := "KiteRoofs", name := "launch", desc := "(I)I" } : Jvm.MethodName)) ∈ lw_all := lw_g (lw_at lw_m3 106 rfl) rfl
theorem q655 : (Jvm.Cond.code ({ cls := "KiteRoofs", name := "launch", desc := "(I)I" } : Jvm.MethodName) prog_1_method_17_code (2 : Nat) (Option.some Jvm.ClassFile.FieldType.int)) ∈ lw_all := lw_g (lw_at lw_m3 107 rfl) rfl
theorem q656 : (Jvm.Cond.methodLink "KiteRoofs" (68 : Nat) ({ cls := "KiteRoofs$Town", name := "isKite", desc := "(I)Z" } : Jvm.MethodName)) ∈ lw_all := lw_g (lw_at lw_m3 108 rfl) rfl
theorem q661 : (Jvm.Cond.methodLink "KiteRoofs" (137 : Nat) ({ cls := "KiteRoofs$Town", name := "reasonToLaunch", desc := "(I)I" } : Jvm.MethodName)) ∈ lw_all := lw_g (lw_at lw_m3 113 rfl) rfl
theorem q669 : (Jvm.Cond.methodLink "KiteRoofs" (141 : Nat) ({ cls := "KiteRoofs$Town", name := "launch", desc := "(I)I" } : Jvm.MethodName)) ∈ lw_all := lw_g (lw_at lw_m3 121 rfl) rfl
theorem q705 : (Jvm.Cond.instanceMethod ({ cls := "KiteRoofs", name := "reel", desc := "(II)I" } : Jvm.MethodName)) ∈ lw_all := lw_g (lw_at lw_m3 157 rfl) rfl
theorem q706 : (Jvm.Cond.selects "KiteRoofs" ({ cls := "KiteRoofs", name := "reel", desc := "(II)I" } : Jvm.MethodName) ({ cls := "KiteRoofs", name := "reel", desc := "(II)I" } : Jvm.MethodName)) ∈ lw_all := lw_g (lw_at lw_m3 158 rfl) rfl
theorem q707 : (Jvm.Cond.code ({ cls := "KiteRoofs", name := "reel", desc := "(II)I" } : Jvm.MethodName) prog_1_method_18_code (3 : Nat) (Option.some Jvm.ClassFile.FieldType.int)) ∈ lw_all := lw_g (lw_at lw_m3 159 rfl) rfl
theorem q708 : (Jvm.Cond.methodLink "KiteRoofs" (144 : Nat) ({ cls := "KiteRoofs$Town", name := "reasonToReel", desc := "(II)I" } : Jvm.MethodName)) ∈ lw_all := lw_g (lw_at lw_m3 160 rfl) rfl
theorem q716 : (Jvm.Cond.methodLink "KiteRoofs" (148 : Nat) ({ cls := "KiteRoofs$Town", name := "reel", desc := "(II)I" } : Jvm.MethodName)) ∈ lw_all := lw_g (lw_at lw_m3 168 rfl) rfl
theorem q740 : (Jvm.Cond.instanceMethod ({ cls := "KiteRoofs", name := "setSpeed", desc := "(II)I" } : Jvm.MethodName)) ∈ lw_all := lw_g (lw_at lw_m3 192 rfl) rfl
theorem q741 : (Jvm.Cond.selects "KiteRoofs" ({ cls := "KiteRoofs", name := "setSpeed", desc := "(II)I" } : Jvm.MethodName) ({ cls := "KiteRoofs", name := "setSpeed", desc := "(II)I" } : Jvm.MethodName)) ∈ lw_all := lw_g (lw_at lw_m3 193 rfl) rfl
theorem q742 : (Jvm.Cond.code ({ cls := "KiteRoofs", name := "setSpeed", desc := "(II)I" } : Jvm.MethodName) prog_1_method_19_code (5 : Nat) (Option.some Jvm.ClassFile.FieldType.int)) ∈ lw_all := lw_g (lw_at lw_m3 194 rfl) rfl
theorem q743 : (Jvm.Cond.methodLink "KiteRoofs" (151 : Nat) ({ cls := "KiteRoofs", name := "kiteAt", desc := "(I)LKiteRoofs$Kite;" } : Jvm.MethodName)) ∈ lw_all := lw_g (lw_at lw_m3 195 rfl) rfl
theorem q744 : (Jvm.Cond.privateMethod ({ cls := "KiteRoofs", name := "kiteAt", desc := "(I)LKiteRoofs$Kite;" } : Jvm.MethodName)) ∈ lw_tbl := lw_at lw_m3 196 rfl
theorem q745 : (Jvm.Cond.instanceMethod ({ cls := "KiteRoofs", name := "kiteAt", desc := "(I)LKiteRoofs$Kite;" } : Jvm.MethodName)) ∈ lw_all := lw_g (lw_at lw_m3 197 rfl) rfl
theorem q746 : (Jvm.Cond.code ({ cls := "KiteRoofs", name := "kiteAt", desc := "(I)LKiteRoofs$Kite;" } : Jvm.MethodName) prog_1_method_11_code (2 : Nat) (Option.some (Jvm.ClassFile.FieldType.object "KiteRoofs$Kite"))) ∈ lw_all := lw_g (lw_at lw_m3 198 rfl) rfl
theorem q751 : (Jvm.Cond.instanceMethod ({ cls := "KiteRoofs", name := "land", desc := "(I)I" } : Jvm.MethodName)) ∈ lw_all := lw_g (lw_at lw_m3 203 rfl) rfl
theorem q752 : (Jvm.Cond.selects "KiteRoofs" ({ cls := "KiteRoofs", name := "land", desc := "(I)I" } : Jvm.MethodName) ({ cls := "KiteRoofs", name := "land", desc := "(I)I" } : Jvm.MethodName)) ∈ lw_all := lw_g (lw_at lw_m3 204 rfl) rfl
theorem q753 : (Jvm.Cond.code ({ cls := "KiteRoofs", name := "land", desc := "(I)I" } : Jvm.MethodName) prog_1_method_20_code (3 : Nat) (Option.some Jvm.ClassFile.FieldType.int)) ∈ lw_all := lw_g (lw_at lw_m3 205 rfl) rfl
theorem q754 : (Jvm.Cond.methodLink "KiteRoofs" (160 : Nat) ({ cls := "KiteRoofs$Kite", name := "isUp", desc := "()Z" } : Jvm.MethodName)) ∈ lw_all := lw_g (lw_at lw_m3 206 rfl) rfl
theorem q755 : (Jvm.Cond.methodLink "KiteRoofs" (164 : Nat) ({ cls := "KiteRoofs$Town", name := "land", desc := "(I)I" } : Jvm.MethodName)) ∈ lw_all := lw_g (lw_at lw_m3 207 rfl) rfl
theorem q765 : (Jvm.Cond.instanceMethod ({ cls := "KiteRoofs", name := "tie", desc := "(I)I" } : Jvm.MethodName)) ∈ lw_all := lw_g (lw_at lw_m3 217 rfl) rfl
theorem q766 : (Jvm.Cond.selects "KiteRoofs" ({ cls := "KiteRoofs", name := "tie", desc := "(I)I" } : Jvm.MethodName) ({ cls := "KiteRoofs", name := "tie", desc := "(I)I" } : Jvm.MethodName)) ∈ lw_all := lw_g (lw_at lw_m3 218 rfl) rfl
theorem q767 : (Jvm.Cond.code ({ cls := "KiteRoofs", name := "tie", desc := "(I)I" } : Jvm.MethodName) prog_1_method_21_code (2 : Nat) (Option.some Jvm.ClassFile.FieldType.int)) ∈ lw_all := lw_g (lw_at lw_m3 219 rfl) rfl
theorem q768 : (Jvm.Cond.methodLink "KiteRoofs" (167 : Nat) ({ cls := "KiteRoofs$Town", name := "reasonToTie", desc := "(I)I" } : Jvm.MethodName)) ∈ lw_all := lw_g (lw_at lw_m3 220 rfl) rfl
theorem q773 : (Jvm.Cond.methodLink "KiteRoofs" (170 : Nat) ({ cls := "KiteRoofs$Town", name := "tie", desc := "(I)I" } : Jvm.MethodName)) ∈ lw_all := lw_g (lw_at lw_m3 225 rfl) rfl
theorem q781 : (Jvm.Cond.instanceMethod ({ cls := "KiteRoofs", name := "kiteOf", desc := "(II)I" } : Jvm.MethodName)) ∈ lw_all := lw_g (lw_at lw_m3 233 rfl) rfl
theorem q782 : (Jvm.Cond.selects "KiteRoofs" ({ cls := "KiteRoofs", name := "kiteOf", desc := "(II)I" } : Jvm.MethodName) ({ cls := "KiteRoofs", name := "kiteOf", desc := "(II)I" } : Jvm.MethodName)) ∈ lw_all := lw_g (lw_at lw_m3 234 rfl) rfl
theorem q783 : (Jvm.Cond.code ({ cls := "KiteRoofs", name := "kiteOf", desc := "(II)I" } : Jvm.MethodName) prog_1_method_23_code (4 : Nat) (Option.some Jvm.ClassFile.FieldType.int)) ∈ lw_all := lw_g (lw_at lw_m3 235 rfl) rfl
theorem q784 : (Jvm.Cond.interfaceEntry "KiteRoofs" (196 : Nat)) ∈ lw_tbl := lw_at lw_m3 236 rfl
theorem q785 : (Jvm.Cond.methodLink "KiteRoofs" (196 : Nat) ({ cls := "KiteRoofs$State", name := "number", desc := "()I" } : Jvm.MethodName)) ∈ lw_all := lw_g (lw_at lw_m3 237 rfl) rfl
theorem q786 : (Jvm.Cond.methodLink "KiteRoofs" (205 : Nat) ({ cls := "KiteRoofs$Make", name := "ordinal", desc := "()I" } : Jvm.MethodName)) ∈ lw_all := lw_g (lw_at lw_m3 238 rfl) rfl
theorem q794 : (Jvm.Cond.methodLink "KiteRoofs" (220 : Nat) ({ cls := "KiteRoofs", name := "ofLine", desc := "(LKiteRoofs$Kite;I)I" } : Jvm.MethodName)) ∈ lw_all := lw_g (lw_at lw_m4 6 rfl) rfl
theorem q795 : (Jvm.Cond.privateMethod ({ cls := "KiteRoofs", name := "ofLine", desc := "(LKiteRoofs$Kite;I)I" } : Jvm.MethodName)) ∈ lw_tbl := lw_at lw_m4 7 rfl
theorem q796 : (Jvm.Cond.instanceMethod ({ cls := "KiteRoofs", name := "ofLine", desc := "(LKiteRoofs$Kite;I)I" } : Jvm.MethodName)) ∈ lw_all := lw_g (lw_at lw_m4 8 rfl) rfl
theorem q797 : (Jvm.Cond.code ({ cls := "KiteRoofs", name := "ofLine", desc := "(LKiteRoofs$Kite;I)I" } : Jvm.MethodName) prog_1_method_22_code (3 : Nat) (Option.some Jvm.ClassFile.FieldType.int)) ∈ lw_all := lw_g (lw_at lw_m4 9 rfl) rfl
theorem q798 : (Jvm.Cond.methodLink "KiteRoofs" (173 : Nat) ({ cls := "KiteRoofs$Kite", name := "out", desc := "()I" } : Jvm.MethodName)) ∈ lw_all := lw_g (lw_at lw_m4 10 rfl) rfl
theorem q799 : (Jvm.Cond.methodLink "KiteRoofs" (176 : Nat) ({ cls := "KiteRoofs$Kite", name := "wear", desc := "()I" } : Jvm.MethodName)) ∈ lw_all := lw_g (lw_at lw_m4 11 rfl) rfl
theorem q803 : (Jvm.Cond.methodLink "KiteRoofs" (179 : Nat) ({ cls := "KiteRoofs$Town", name := "height", desc := "(LKiteRoofs$Kite;)I" } : Jvm.MethodName)) ∈ lw_all := lw_g (lw_at lw_m4 15 rfl) rfl
theorem q823 : (Jvm.Cond.methodLink "KiteRoofs" (183 : Nat) ({ cls := "KiteRoofs$Town", name := "tension", desc := "(LKiteRoofs$Kite;)I" } : Jvm.MethodName)) ∈ lw_all := lw_g (lw_at lw_m4 35 rfl) rfl
theorem q840 : (Jvm.Cond.methodLink "KiteRoofs" (186 : Nat) ({ cls := "KiteRoofs$Town", name := "placeNow", desc := "(LKiteRoofs$Kite;)I" } : Jvm.MethodName)) ∈ lw_all := lw_g (lw_at lw_m4 52 rfl) rfl
theorem q848 : (Jvm.Cond.methodLink "KiteRoofs" (189 : Nat) ({ cls := "KiteRoofs$Town", name := "slack", desc := "(LKiteRoofs$Kite;)I" } : Jvm.MethodName)) ∈ lw_all := lw_g (lw_at lw_m4 60 rfl) rfl
theorem q860 : (Jvm.Cond.instanceMethod ({ cls := "KiteRoofs", name := "state", desc := "(I)C" } : Jvm.MethodName)) ∈ lw_all := lw_g (lw_at lw_m4 72 rfl) rfl
theorem q861 : (Jvm.Cond.selects "KiteRoofs" ({ cls := "KiteRoofs", name := "state", desc := "(I)C" } : Jvm.MethodName) ({ cls := "KiteRoofs", name := "state", desc := "(I)C" } : Jvm.MethodName)) ∈ lw_all := lw_g (lw_at lw_m4 73 rfl) rfl
theorem q862 : (Jvm.Cond.code ({ cls := "KiteRoofs", name := "state", desc := "(I)C" } : Jvm.MethodName) prog_1_method_24_code (2 : Nat) (Option.some Jvm.ClassFile.FieldType.char)) ∈ lw_all := lw_g (lw_at lw_m4 74 rfl) rfl
theorem q863 : (Jvm.Cond.interfaceEntry "KiteRoofs" (224 : Nat)) ∈ lw_tbl := lw_at lw_m4 75 rfl
theorem q864 : (Jvm.Cond.methodLink "KiteRoofs" (224 : Nat) ({ cls := "KiteRoofs$State", name := "sign", desc := "()C" } : Jvm.MethodName)) ∈ lw_all := lw_g (lw_at lw_m4 76 rfl) rfl
theorem q886 : (Jvm.Cond.instanceMethod ({ cls := "KiteRoofs", name := "heightAgain", desc := "(I)I" } : Jvm.MethodName)) ∈ lw_all := lw_g (lw_at lw_m4 98 rfl) rfl
theorem q887 : (Jvm.Cond.selects "KiteRoofs" ({ cls := "KiteRoofs", name := "heightAgain", desc := "(I)I" } : Jvm.MethodName) ({ cls := "KiteRoofs", name := "heightAgain", desc := "(I)I" } : Jvm.MethodName)) ∈ lw_all := lw_g (lw_at lw_m4 99 rfl) rfl
theorem q888 : (Jvm.Cond.code ({ cls := "KiteRoofs", name := "heightAgain", desc := "(I)I" } : Jvm.MethodName) prog_1_method_25_code (2 : Nat) (Option.some Jvm.ClassFile.FieldType.int)) ∈ lw_all := lw_g (lw_at lw_m4 100 rfl) rfl
theorem q889 : (Jvm.Cond.methodLink "KiteRoofs" (228 : Nat) ({ cls := "KiteRoofs$Town", name := "heightAgain", desc := "(LKiteRoofs$Kite;)I" } : Jvm.MethodName)) ∈ lw_all := lw_g (lw_at lw_m4 101 rfl) rfl
theorem q898 : (Jvm.Cond.instanceMethod ({ cls := "KiteRoofs", name := "placeAt", desc := "(II)I" } : Jvm.MethodName)) ∈ lw_all := lw_g (lw_at lw_m4 110 rfl) rfl
theorem q899 : (Jvm.Cond.selects "KiteRoofs" ({ cls := "KiteRoofs", name := "placeAt", desc := "(II)I" } : Jvm.MethodName) ({ cls := "KiteRoofs", name := "placeAt", desc := "(II)I" } : Jvm.MethodName)) ∈ lw_all := lw_g (lw_at lw_m4 111 rfl) rfl
theorem q900 : (Jvm.Cond.code ({ cls := "KiteRoofs", name := "placeAt", desc := "(II)I" } : Jvm.MethodName) prog_1_method_26_code (4 : Nat) (Option.some Jvm.ClassFile.FieldType.int)) ∈ lw_all := lw_g (lw_at lw_m4 112 rfl) rfl
theorem q901 : (Jvm.Cond.methodLink "KiteRoofs" (231 : Nat) ({ cls := "KiteRoofs", name := "checkElement", desc := "(Z)V" } : Jvm.MethodName)) ∈ lw_all := lw_g (lw_at lw_m4 113 rfl) rfl
theorem q902 : (Jvm.Cond.static ({ cls := "KiteRoofs", name := "checkElement", desc := "(Z)V" } : Jvm.MethodName)) ∈ lw_all := lw_g (lw_at lw_m4 114 rfl) rfl
theorem q903 : (Jvm.Cond.code ({ cls := "KiteRoofs", name := "checkElement", desc := "(Z)V" } : Jvm.MethodName) prog_1_method_6_code (1 : Nat) (Option.none : Option Jvm.ClassFile.FieldType)) ∈ lw_all := lw_g (lw_at lw_m4 115 rfl) rfl
theorem q904 : (Jvm.Cond.classLink "KiteRoofs" (50 : Nat) "java/util/NoSuchElementException") ∈ lw_all := lw_g (lw_at lw_m4 116 rfl) rfl
theorem q913 : (Jvm.Cond.methodLink "KiteRoofs" (52 : Nat) ({ cls := "java/util/NoSuchElementException", name := "<init>", desc := "()V" } : Jvm.MethodName)) ∈ lw_all := lw_g (lw_at lw_m4 125 rfl) rfl
theorem q919 : (Jvm.Cond.methodLinkNest "KiteRoofs" (234 : Nat) ({ cls := "KiteRoofs$Town", name := "place", desc := "(LKiteRoofs$Kite;I)I" } : Jvm.MethodName) "KiteRoofs") ∈ lw_tbl := lw_at lw_m4 131 rfl
theorem q924 : (Jvm.Cond.instanceMethod ({ cls := "KiteRoofs", name := "crossing", desc := "(II)I" } : Jvm.MethodName)) ∈ lw_all := lw_g (lw_at lw_m4 136 rfl) rfl
theorem q925 : (Jvm.Cond.selects "KiteRoofs" ({ cls := "KiteRoofs", name := "crossing", desc := "(II)I" } : Jvm.MethodName) ({ cls := "KiteRoofs", name := "crossing", desc := "(II)I" } : Jvm.MethodName)) ∈ lw_all := lw_g (lw_at lw_m4 137 rfl) rfl
theorem q926 : (Jvm.Cond.code ({ cls := "KiteRoofs", name := "crossing", desc := "(II)I" } : Jvm.MethodName) prog_1_method_27_code (3 : Nat) (Option.some Jvm.ClassFile.FieldType.int)) ∈ lw_all := lw_g (lw_at lw_m4 138 rfl) rfl
theorem q927 : (Jvm.Cond.methodLink "KiteRoofs" (237 : Nat) ({ cls := "KiteRoofs$Town", name := "crossing", desc := "(II)I" } : Jvm.MethodName)) ∈ lw_all := lw_g (lw_at lw_m4 139 rfl) rfl
theorem q940 : (Jvm.Cond.instanceMethod ({ cls := "KiteRoofs", name := "wears", desc := "(I)I" } : Jvm.MethodName)) ∈ lw_all := lw_g (lw_at lw_m4 152 rfl) rfl
theorem q941 : (Jvm.Cond.selects "KiteRoofs" ({ cls := "KiteRoofs", name := "wears", desc := "(I)I" } : Jvm.MethodName) ({ cls := "KiteRoofs", name := "wears", desc := "(I)I" } : Jvm.MethodName)) ∈ lw_all := lw_g (lw_at lw_m4 153 rfl) rfl
theorem q942 : (Jvm.Cond.code ({ cls := "KiteRoofs", name := "wears", desc := "(I)I" } : Jvm.MethodName) prog_1_method_28_code (2 : Nat) (Option.some Jvm.ClassFile.FieldType.int)) ∈ lw_all := lw_g (lw_at lw_m4 154 rfl) rfl
theorem q943 : (Jvm.Cond.methodLink "KiteRoofs" (240 : Nat) ({ cls := "KiteRoofs$Town", name := "wears", desc := "(I)I" } : Jvm.MethodName)) ∈ lw_all := lw_g (lw_at lw_m4 155 rfl) rfl
theorem q957 : (Jvm.Cond.instanceMethod ({ cls := "KiteRoofs", name := "round", desc := "(I)I" } : Jvm.MethodName)) ∈ lw_all := lw_g (lw_at lw_m4 169 rfl) rfl
theorem q958 : (Jvm.Cond.selects "KiteRoofs" ({ cls := "KiteRoofs", name := "round", desc := "(I)I" } : Jvm.MethodName) ({ cls := "KiteRoofs", name := "round", desc := "(I)I" } : Jvm.MethodName)) ∈ lw_all := lw_g (lw_at lw_m4 170 rfl) rfl
theorem q959 : (Jvm.Cond.code ({ cls := "KiteRoofs", name := "round", desc := "(I)I" } : Jvm.MethodName) prog_1_method_29_code (4 : Nat) (Option.some Jvm.ClassFile.FieldType.int)) ∈ lw_all := lw_g (lw_at lw_m4 171 rfl) rfl
theorem q960 : (Jvm.Cond.methodLink "KiteRoofs" (243 : Nat) ({ cls := "KiteRoofs$Town", name := "round", desc := "()I" } : Jvm.MethodName)) ∈ lw_all := lw_g (lw_at lw_m4 172 rfl) rfl
theorem q1036 : (Jvm.Cond.instanceMethod ({ cls := "KiteRoofs", name := "cutIn", desc := "(II)I" } : Jvm.MethodName)) ∈ lw_all := lw_g (lw_at lw_m5 8 rfl) rfl
theorem q1037 : (Jvm.Cond.selects "KiteRoofs" ({ cls := "KiteRoofs", name := "cutIn", desc := "(II)I" } : Jvm.MethodName) ({ cls := "KiteRoofs", name := "cutIn", desc := "(II)I" } : Jvm.MethodName)) ∈ lw_all := lw_g (lw_at lw_m5 9 rfl) rfl
theorem q1038 : (Jvm.Cond.code ({ cls := "KiteRoofs", name := "cutIn", desc := "(II)I" } : Jvm.MethodName) prog_1_method_30_code (5 : Nat) (Option.some Jvm.ClassFile.FieldType.int)) ∈ lw_all := lw_g (lw_at lw_m5 10 rfl) rfl
theorem q1043 : (Jvm.Cond.instanceMethod ({ cls := "KiteRoofs", name := "bestSpeed", desc := "(II)I" } : Jvm.MethodName)) ∈ lw_all := lw_g (lw_at lw_m5 15 rfl) rfl
theorem q1044 : (Jvm.Cond.selects "KiteRoofs" ({ cls := "KiteRoofs", name := "bestSpeed", desc := "(II)I" } : Jvm.MethodName) ({ cls := "KiteRoofs", name := "bestSpeed", desc := "(II)I" } : Jvm.MethodName)) ∈ lw_all := lw_g (lw_at lw_m5 16 rfl) rfl
theorem q1045 : (Jvm.Cond.code ({ cls := "KiteRoofs", name := "bestSpeed", desc := "(II)I" } : Jvm.MethodName) prog_1_method_32_code (8 : Nat) (Option.some Jvm.ClassFile.FieldType.int)) ∈ lw_all := lw_g (lw_at lw_m5 17 rfl) rfl
theorem q1046 : (Jvm.Cond.methodLink "KiteRoofs" (246 : Nat) ({ cls := "KiteRoofs", name := "pointsWith", desc := "(III)I" } : Jvm.MethodName)) ∈ lw_all := lw_g (lw_at lw_m5 18 rfl) rfl
theorem q1047 : (Jvm.Cond.privateMethod ({ cls := "KiteRoofs", name := "pointsWith", desc := "(III)I" } : Jvm.MethodName)) ∈ lw_tbl := lw_at lw_m5 19 rfl
theorem q1048 : (Jvm.Cond.instanceMethod ({ cls := "KiteRoofs", name := "pointsWith", desc := "(III)I" } : Jvm.MethodName)) ∈ lw_all := lw_g (lw_at lw_m5 20 rfl) rfl
theorem q1049 : (Jvm.Cond.code ({ cls := "KiteRoofs", name := "pointsWith", desc := "(III)I" } : Jvm.MethodName) prog_1_method_31_code (5 : Nat) (Option.some Jvm.ClassFile.FieldType.int)) ∈ lw_all := lw_g (lw_at lw_m5 21 rfl) rfl
theorem q1054 : (Jvm.Cond.instanceMethod ({ cls := "KiteRoofs", name := "cause", desc := "(II)I" } : Jvm.MethodName)) ∈ lw_all := lw_g (lw_at lw_m5 26 rfl) rfl
theorem q1055 : (Jvm.Cond.selects "KiteRoofs" ({ cls := "KiteRoofs", name := "cause", desc := "(II)I" } : Jvm.MethodName) ({ cls := "KiteRoofs", name := "cause", desc := "(II)I" } : Jvm.MethodName)) ∈ lw_all := lw_g (lw_at lw_m5 27 rfl) rfl
theorem q1056 : (Jvm.Cond.code ({ cls := "KiteRoofs", name := "cause", desc := "(II)I" } : Jvm.MethodName) prog_1_method_33_code (7 : Nat) (Option.some Jvm.ClassFile.FieldType.int)) ∈ lw_all := lw_g (lw_at lw_m5 28 rfl) rfl
theorem q1057 : (Jvm.Cond.classLink "KiteRoofs" (250 : Nat) "KiteRoofs$Cut") ∈ lw_all := lw_g (lw_at lw_m5 29 rfl) rfl
theorem q1058 : (Jvm.Cond.methodLink "KiteRoofs" (252 : Nat) ({ cls := "KiteRoofs$Cut", name := "known", desc := "(I)I" } : Jvm.MethodName)) ∈ lw_all := lw_g (lw_at lw_m5 30 rfl) rfl
theorem q1066 : (Jvm.Cond.instanceMethod ({ cls := "KiteRoofs", name := "leader", desc := "()I" } : Jvm.MethodName)) ∈ lw_all := lw_g (lw_at lw_m5 38 rfl) rfl
theorem q1067 : (Jvm.Cond.selects "KiteRoofs" ({ cls := "KiteRoofs", name := "leader", desc := "()I" } : Jvm.MethodName) ({ cls := "KiteRoofs", name := "leader", desc := "()I" } : Jvm.MethodName)) ∈ lw_all := lw_g (lw_at lw_m5 39 rfl) rfl
theorem q1068 : (Jvm.Cond.code ({ cls := "KiteRoofs", name := "leader", desc := "()I" } : Jvm.MethodName) prog_1_method_34_code (3 : Nat) (Option.some Jvm.ClassFile.FieldType.int)) ∈ lw_all := lw_g (lw_at lw_m5 40 rfl) rfl
theorem q1074 : (Jvm.Cond.instanceMethod ({ cls := "KiteRoofs", name := "append", desc := "(C)I" } : Jvm.MethodName)) ∈ lw_all := lw_g (lw_at lw_m5 46 rfl) rfl
theorem q1075 : (Jvm.Cond.selects "KiteRoofs" ({ cls := "KiteRoofs", name := "append", desc := "(C)I" } : Jvm.MethodName) ({ cls := "KiteRoofs", name := "append", desc := "(C)I" } : Jvm.MethodName)) ∈ lw_all := lw_g (lw_at lw_m5 47 rfl) rfl
theorem q1076 : (Jvm.Cond.code ({ cls := "KiteRoofs", name := "append", desc := "(C)I" } : Jvm.MethodName) prog_1_method_35_code (2 : Nat) (Option.some Jvm.ClassFile.FieldType.int)) ∈ lw_all := lw_g (lw_at lw_m5 48 rfl) rfl
theorem q1077 : (Jvm.Cond.methodLink "KiteRoofs" (255 : Nat) ({ cls := "java/lang/StringBuilder", name := "length", desc := "()I" } : Jvm.MethodName)) ∈ lw_all := lw_g (lw_at lw_m5 49 rfl) rfl
theorem q1084 : (Jvm.Cond.methodLink "KiteRoofs" (258 : Nat) ({ cls := "KiteRoofs", name := "checkState", desc := "(Z)V" } : Jvm.MethodName)) ∈ lw_all := lw_g (lw_at lw_m5 56 rfl) rfl
theorem q1085 : (Jvm.Cond.static ({ cls := "KiteRoofs", name := "checkState", desc := "(Z)V" } : Jvm.MethodName)) ∈ lw_all := lw_g (lw_at lw_m5 57 rfl) rfl
theorem q1086 : (Jvm.Cond.code ({ cls := "KiteRoofs", name := "checkState", desc := "(Z)V" } : Jvm.MethodName) prog_1_method_7_code (1 : Nat) (Option.none : Option Jvm.ClassFile.FieldType)) ∈ lw_all := lw_g (lw_at lw_m5 58 rfl) rfl
theorem q1087 : (Jvm.Cond.classLink "KiteRoofs" (53 : Nat) "java/lang/IllegalStateException") ∈ lw_all := lw_g (lw_at lw_m5 59 rfl) rfl
theorem q1088 : (Jvm.Cond.methodLink "KiteRoofs" (55 : Nat) ({ cls := "java/lang/IllegalStateException", name := "<init>", desc := "()V" } : Jvm.MethodName)) ∈ lw_all := lw_g (lw_at lw_m5 60 rfl) rfl
theorem q1092 : (Jvm.Cond.methodLink "KiteRoofs" (261 : Nat) ({ cls := "java/lang/StringBuilder", name := "append", desc := "(C)Ljava/lang/StringBuilder;" } : Jvm.MethodName)) ∈ lw_all := lw_g (lw_at lw_m5 64 rfl) rfl
theorem q1183 : (Jvm.Cond.instanceMethod ({ cls := "KiteRoofs", name := "read", desc := "()I" } : Jvm.MethodName)) ∈ lw_all := lw_g (lw_at lw_m5 155 rfl) rfl
theorem q1184 : (Jvm.Cond.selects "KiteRoofs" ({ cls := "KiteRoofs", name := "read", desc := "()I" } : Jvm.MethodName) ({ cls := "KiteRoofs", name := "read", desc := "()I" } : Jvm.MethodName)) ∈ lw_all := lw_g (lw_at lw_m5 156 rfl) rfl
theorem q1185 : (Jvm.Cond.codeWith ({ cls := "KiteRoofs", name := "read", desc := "()I" } : Jvm.MethodName) prog_1_method_40_code (3 : Nat) (Option.some Jvm.ClassFile.FieldType.int) [((31 : Nat), (35 : Nat), (38 : Nat), (316 : Nat))]) ∈ lw_all := lw_g (lw_at lw_m5 157 rfl) rfl
theorem q1186 : (Jvm.Cond.classLink "KiteRoofs" (316 : Nat) "KiteRoofs$Fault") ∈ lw_all := lw_g (lw_at lw_m5 158 rfl) rfl
theorem q1187 : (Jvm.Cond.classLink "KiteRoofs" (304 : Nat) "KiteRoofs$Reader") ∈ lw_all := lw_g (lw_at lw_m5 159 rfl) rfl
theorem q1189 : (Jvm.Cond.methodLink "KiteRoofs" (306 : Nat) ({ cls := "java/lang/StringBuilder", name := "toString", desc := "()Ljava/lang/String;" } : Jvm.MethodName)) ∈ lw_all := lw_g (lw_at lw_m5 161 rfl) rfl
theorem q1318 : (Jvm.Cond.methodLink "KiteRoofs" (310 : Nat) ({ cls := "KiteRoofs$Reader", name := "<init>", desc := "(Ljava/lang/String;)V" } : Jvm.MethodName)) ∈ lw_all := lw_g (lw_at lw_m6 50 rfl) rfl
theorem q1327 : (Jvm.Cond.fieldLinkNest "KiteRoofs" (322 : Nat) "KiteRoofs$Reader" "orders" "[LKiteRoofs$Order;" "KiteRoofs") ∈ lw_tbl := lw_at lw_m6 59 rfl
theorem q1329 : (Jvm.Cond.fieldLinkNest "KiteRoofs" (321 : Nat) "KiteRoofs$Reader" "many" "I" "KiteRoofs") ∈ lw_tbl := lw_at lw_m6 61 rfl
theorem q1339 : (Jvm.Cond.methodLink "KiteRoofs" (313 : Nat) ({ cls := "KiteRoofs$Reader", name := "read", desc := "()V" } : Jvm.MethodName)) ∈ lw_all := lw_g (lw_at lw_m6 71 rfl) rfl
theorem q1394 : (Jvm.Cond.fieldLinkNest "KiteRoofs" (318 : Nat) "KiteRoofs$Fault" "position" "I" "KiteRoofs") ∈ lw_tbl := lw_at lw_m6 126 rfl
theorem q1410 : (Jvm.Cond.fieldLinkNest "KiteRoofs" (301 : Nat) "KiteRoofs$Wind" "layer" "I" "KiteRoofs") ∈ lw_tbl := lw_at lw_m6 142 rfl
theorem q1412 : (Jvm.Cond.fieldLinkNest "KiteRoofs" (275 : Nat) "KiteRoofs$Wind" "strength" "I" "KiteRoofs") ∈ lw_tbl := lw_at lw_m6 144 rfl
theorem q1414 : (Jvm.Cond.fieldLinkNest "KiteRoofs" (278 : Nat) "KiteRoofs$Wind" "drift" "I" "KiteRoofs") ∈ lw_tbl := lw_at lw_m6 146 rfl
theorem q1441 : (Jvm.Cond.fieldLinkNest "KiteRoofs" (265 : Nat) "KiteRoofs$NewKite" "kind" "I" "KiteRoofs") ∈ lw_tbl := lw_at lw_m6 173 rfl
theorem q1443 : (Jvm.Cond.fieldLinkNest "KiteRoofs" (270 : Nat) "KiteRoofs$NewKite" "roof" "I" "KiteRoofs") ∈ lw_tbl := lw_at lw_m6 175 rfl
theorem q1445 : (Jvm.Cond.fieldLinkNest "KiteRoofs" (271 : Nat) "KiteRoofs$NewKite" "spool" "I" "KiteRoofs") ∈ lw_tbl := lw_at lw_m6 177 rfl
theorem q1447 : (Jvm.Cond.fieldLinkNest "KiteRoofs" (272 : Nat) "KiteRoofs$NewKite" "glass" "I" "KiteRoofs") ∈ lw_tbl := lw_at lw_m6 179 rfl
theorem q1464 : (Jvm.Cond.fieldLinkNest "KiteRoofs" (287 : Nat) "KiteRoofs$Launch" "kite" "I" "KiteRoofs") ∈ lw_tbl := lw_at lw_m6 196 rfl
theorem q1475 : (Jvm.Cond.fieldLinkNest "KiteRoofs" (292 : Nat) "KiteRoofs$Reel" "kite" "I" "KiteRoofs") ∈ lw_tbl := lw_at lw_m6 207 rfl
theorem q1477 : (Jvm.Cond.fieldLinkNest "KiteRoofs" (293 : Nat) "KiteRoofs$Reel" "by" "I" "KiteRoofs") ∈ lw_tbl := lw_at lw_m6 209 rfl
theorem q1490 : (Jvm.Cond.fieldLinkNest "KiteRoofs" (298 : Nat) "KiteRoofs$Rounds" "count" "I" "KiteRoofs") ∈ lw_tbl := lw_at lw_m6 222 rfl
theorem q1494 : (Jvm.Cond.methodLink "KiteRoofs" (326 : Nat) ({ cls := "KiteRoofs", name := "mayBe", desc := "(LKiteRoofs$Order;)Z" } : Jvm.MethodName)) ∈ lw_all := lw_g (lw_at lw_m6 226 rfl) rfl
theorem q1495 : (Jvm.Cond.privateMethod ({ cls := "KiteRoofs", name := "mayBe", desc := "(LKiteRoofs$Order;)Z" } : Jvm.MethodName)) ∈ lw_tbl := lw_at lw_m6 227 rfl
theorem q1496 : (Jvm.Cond.instanceMethod ({ cls := "KiteRoofs", name := "mayBe", desc := "(LKiteRoofs$Order;)Z" } : Jvm.MethodName)) ∈ lw_all := lw_g (lw_at lw_m6 228 rfl) rfl
theorem q1497 : (Jvm.Cond.code ({ cls := "KiteRoofs", name := "mayBe", desc := "(LKiteRoofs$Order;)Z" } : Jvm.MethodName) prog_1_method_37_code (3 : Nat) (Option.some Jvm.ClassFile.FieldType.boolean)) ∈ lw_all := lw_g (lw_at lw_m6 229 rfl) rfl
theorem q1498 : (Jvm.Cond.classLink "KiteRoofs" (273 : Nat) "KiteRoofs$Wind") ∈ lw_all := lw_g (lw_at lw_m6 230 rfl) rfl
theorem q1499 : (Jvm.Cond.classLink "KiteRoofs" (266 : Nat) "KiteRoofs$NewKite") ∈ lw_all := lw_g (lw_at lw_m6 231 rfl) rfl
theorem q1500 : (Jvm.Cond.methodLink "KiteRoofs" (281 : Nat) ({ cls := "KiteRoofs", name := "mayBeKiteOf", desc := "(LKiteRoofs$NewKite;)Z" } : Jvm.MethodName)) ∈ lw_all := lw_g (lw_at lw_m6 232 rfl) rfl
theorem q1501 : (Jvm.Cond.static ({ cls := "KiteRoofs", name := "mayBeKiteOf", desc := "(LKiteRoofs$NewKite;)Z" } : Jvm.MethodName)) ∈ lw_all := lw_g (lw_at lw_m6 233 rfl) rfl
theorem q1502 : (Jvm.Cond.code ({ cls := "KiteRoofs", name := "mayBeKiteOf", desc := "(LKiteRoofs$NewKite;)Z" } : Jvm.MethodName) prog_1_method_36_code (1 : Nat) (Option.some Jvm.ClassFile.FieldType.boolean)) ∈ lw_all := lw_g (lw_at lw_m6 234 rfl) rfl
theorem q1503 : (Jvm.Cond.classLink "KiteRoofs" (285 : Nat) "KiteRoofs$Launch") ∈ lw_all := lw_g (lw_at lw_m6 235 rfl) rfl
theorem q1504 : (Jvm.Cond.classLink "KiteRoofs" (290 : Nat) "KiteRoofs$Reel") ∈ lw_all := lw_g (lw_at lw_m6 236 rfl) rfl
theorem q1505 : (Jvm.Cond.classLink "KiteRoofs" (296 : Nat) "KiteRoofs$Rounds") ∈ lw_all := lw_g (lw_at lw_m6 237 rfl) rfl
theorem q1506 : (Jvm.Cond.methodLink "KiteRoofs" (330 : Nat) ({ cls := "KiteRoofs", name := "reasonOf", desc := "(LKiteRoofs$Order;)I" } : Jvm.MethodName)) ∈ lw_all := lw_g (lw_at lw_m6 238 rfl) rfl
theorem q1507 : (Jvm.Cond.privateMethod ({ cls := "KiteRoofs", name := "reasonOf", desc := "(LKiteRoofs$Order;)I" } : Jvm.MethodName)) ∈ lw_tbl := lw_at lw_m6 239 rfl
theorem q1508 : (Jvm.Cond.instanceMethod ({ cls := "KiteRoofs", name := "reasonOf", desc := "(LKiteRoofs$Order;)I" } : Jvm.MethodName)) ∈ lw_all := lw_g (lw_at lw_m7 0 rfl) rfl
theorem q1509 : (Jvm.Cond.code ({ cls := "KiteRoofs", name := "reasonOf", desc := "(LKiteRoofs$Order;)I" } : Jvm.MethodName) prog_1_method_38_code (3 : Nat) (Option.some Jvm.ClassFile.FieldType.int)) ∈ lw_all := lw_g (lw_at lw_m7 1 rfl) rfl
theorem q1510 : (Jvm.Cond.methodLink "KiteRoofs" (334 : Nat) ({ cls := "KiteRoofs", name := "does", desc := "(LKiteRoofs$Order;)V" } : Jvm.MethodName)) ∈ lw_all := lw_g (lw_at lw_m7 2 rfl) rfl
theorem q1511 : (Jvm.Cond.privateMethod ({ cls := "KiteRoofs", name := "does", desc := "(LKiteRoofs$Order;)V" } : Jvm.MethodName)) ∈ lw_tbl := lw_at lw_m7 3 rfl
theorem q1512 : (Jvm.Cond.instanceMethod ({ cls := "KiteRoofs", name := "does", desc := "(LKiteRoofs$Order;)V" } : Jvm.MethodName)) ∈ lw_all := lw_g (lw_at lw_m7 4 rfl) rfl
theorem q1513 : (Jvm.Cond.code ({ cls := "KiteRoofs", name := "does", desc := "(LKiteRoofs$Order;)V" } : Jvm.MethodName) prog_1_method_39_code (8 : Nat) (Option.none : Option Jvm.ClassFile.FieldType)) ∈ lw_all := lw_g (lw_at lw_m7 5 rfl) rfl
theorem q1518 : (Jvm.Cond.instanceMethod ({ cls := "KiteRoofs", name := "refusal", desc := "(Z)I" } : Jvm.MethodName)) ∈ lw_all := lw_g (lw_at lw_m7 10 rfl) rfl
theorem q1519 : (Jvm.Cond.selects "KiteRoofs" ({ cls := "KiteRoofs", name := "refusal", desc := "(Z)I" } : Jvm.MethodName) ({ cls := "KiteRoofs", name := "refusal", desc := "(Z)I" } : Jvm.MethodName)) ∈ lw_all := lw_g (lw_at lw_m7 11 rfl) rfl
theorem q1520 : (Jvm.Cond.code ({ cls := "KiteRoofs", name := "refusal", desc := "(Z)I" } : Jvm.MethodName) prog_1_method_42_code (2 : Nat) (Option.some Jvm.ClassFile.FieldType.int)) ∈ lw_all := lw_g (lw_at lw_m7 12 rfl) rfl
theorem q1525 : (Jvm.Cond.instanceMethod ({ cls := "KiteRoofs", name := "account", desc := "(I)I" } : Jvm.MethodName)) ∈ lw_all := lw_g (lw_at lw_m7 17 rfl) rfl
theorem q1526 : (Jvm.Cond.selects "KiteRoofs" ({ cls := "KiteRoofs", name := "account", desc := "(I)I" } : Jvm.MethodName) ({ cls := "KiteRoofs", name := "account", desc := "(I)I" } : Jvm.MethodName)) ∈ lw_all := lw_g (lw_at lw_m7 18 rfl) rfl
theorem q1527 : (Jvm.Cond.code ({ cls := "KiteRoofs", name := "account", desc := "(I)I" } : Jvm.MethodName) prog_1_method_43_code (2 : Nat) (Option.some Jvm.ClassFile.FieldType.int)) ∈ lw_all := lw_g (lw_at lw_m7 19 rfl) rfl
theorem q1528 : (Jvm.Cond.methodLink "KiteRoofs" (338 : Nat) ({ cls := "KiteRoofs$Town", name := "inState", desc := "(I)I" } : Jvm.MethodName)) ∈ lw_all := lw_g (lw_at lw_m7 20 rfl) rfl
theorem q1529 : (Jvm.Cond.methodLink "KiteRoofs" (347 : Nat) ({ cls := "KiteRoofs$Town", name := "out", desc := "()I" } : Jvm.MethodName)) ∈ lw_all := lw_g (lw_at lw_m7 21 rfl) rfl
theorem q1530 : (Jvm.Cond.methodLink "KiteRoofs" (357 : Nat) ({ cls := "KiteRoofs$Town", name := "crossings", desc := "()I" } : Jvm.MethodName)) ∈ lw_all := lw_g (lw_at lw_m7 22 rfl) rfl
theorem q1534 : (Jvm.Cond.methodLink "KiteRoofs" (360 : Nat) ({ cls := "KiteRoofs$Town", name := "points", desc := "()I" } : Jvm.MethodName)) ∈ lw_all := lw_g (lw_at lw_m7 26 rfl) rfl
theorem q1556 : (Jvm.Cond.instanceMethod ({ cls := "KiteRoofs", name := "meanTension", desc := "()D" } : Jvm.MethodName)) ∈ lw_all := lw_g (lw_at lw_m7 48 rfl) rfl
theorem q1557 : (Jvm.Cond.selects "KiteRoofs" ({ cls := "KiteRoofs", name := "meanTension", desc := "()D" } : Jvm.MethodName) ({ cls := "KiteRoofs", name := "meanTension", desc := "()D" } : Jvm.MethodName)) ∈ lw_all := lw_g (lw_at lw_m7 49 rfl) rfl
theorem q1558 : (Jvm.Cond.code ({ cls := "KiteRoofs", name := "meanTension", desc := "()D" } : Jvm.MethodName) prog_1_method_45_code (2 : Nat) (Option.some Jvm.ClassFile.FieldType.double)) ∈ lw_all := lw_g (lw_at lw_m7 50 rfl) rfl
theorem q1559 : (Jvm.Cond.methodLink "KiteRoofs" (365 : Nat) ({ cls := "KiteRoofs", name := "checkAny", desc := "(Z)V" } : Jvm.MethodName)) ∈ lw_all := lw_g (lw_at lw_m7 51 rfl) rfl
theorem q1560 : (Jvm.Cond.static ({ cls := "KiteRoofs", name := "checkAny", desc := "(Z)V" } : Jvm.MethodName)) ∈ lw_all := lw_g (lw_at lw_m7 52 rfl) rfl
theorem q1561 : (Jvm.Cond.code ({ cls := "KiteRoofs", name := "checkAny", desc := "(Z)V" } : Jvm.MethodName) prog_1_method_9_code (1 : Nat) (Option.none : Option Jvm.ClassFile.FieldType)) ∈ lw_all := lw_g (lw_at lw_m7 53 rfl) rfl
theorem q1562 : (Jvm.Cond.classLink "KiteRoofs" (59 : Nat) "java/lang/ArithmeticException") ∈ lw_all := lw_g (lw_at lw_m7 54 rfl) rfl
theorem q1563 : (Jvm.Cond.methodLink "KiteRoofs" (61 : Nat) ({ cls := "java/lang/ArithmeticException", name := "<init>", desc := "()V" } : Jvm.MethodName)) ∈ lw_all := lw_g (lw_at lw_m7 55 rfl) rfl
theorem q1567 : (Jvm.Cond.methodLink "KiteRoofs" (368 : Nat) ({ cls := "KiteRoofs$Town", name := "tensions", desc := "()I" } : Jvm.MethodName)) ∈ lw_all := lw_g (lw_at lw_m7 59 rfl) rfl
theorem q1575 : (Jvm.Cond.instanceMethod ({ cls := "KiteRoofs", name := "outShare", desc := "()F" } : Jvm.MethodName)) ∈ lw_all := lw_g (lw_at lw_m7 67 rfl) rfl
theorem q1576 : (Jvm.Cond.selects "KiteRoofs" ({ cls := "KiteRoofs", name := "outShare", desc := "()F" } : Jvm.MethodName) ({ cls := "KiteRoofs", name := "outShare", desc := "()F" } : Jvm.MethodName)) ∈ lw_all := lw_g (lw_at lw_m7 68 rfl) rfl
theorem q1577 : (Jvm.Cond.code ({ cls := "KiteRoofs", name := "outShare", desc := "()F" } : Jvm.MethodName) prog_1_method_46_code (2 : Nat) (Option.some Jvm.ClassFile.FieldType.float)) ∈ lw_all := lw_g (lw_at lw_m7 69 rfl) rfl
theorem q1578 : (Jvm.Cond.methodLink "KiteRoofs" (371 : Nat) ({ cls := "KiteRoofs$Town", name := "spools", desc := "()I" } : Jvm.MethodName)) ∈ lw_all := lw_g (lw_at lw_m7 70 rfl) rfl
theorem q1586 : (Jvm.Cond.instanceMethod ({ cls := "KiteRoofs", name := "undo", desc := "()I" } : Jvm.MethodName)) ∈ lw_all := lw_g (lw_at lw_m7 78 rfl) rfl
theorem q1587 : (Jvm.Cond.selects "KiteRoofs" ({ cls := "KiteRoofs", name := "undo", desc := "()I" } : Jvm.MethodName) ({ cls := "KiteRoofs", name := "undo", desc := "()I" } : Jvm.MethodName)) ∈ lw_all := lw_g (lw_at lw_m7 79 rfl) rfl
theorem q1588 : (Jvm.Cond.code ({ cls := "KiteRoofs", name := "undo", desc := "()I" } : Jvm.MethodName) prog_1_method_47_code (1 : Nat) (Option.some Jvm.ClassFile.FieldType.int)) ∈ lw_all := lw_g (lw_at lw_m7 80 rfl) rfl
theorem q1589 : (Jvm.Cond.methodLink "KiteRoofs" (374 : Nat) ({ cls := "java/util/ArrayDeque", name := "isEmpty", desc := "()Z" } : Jvm.MethodName)) ∈ lw_all := lw_g (lw_at lw_m7 81 rfl) rfl
theorem q1593 : (Jvm.Cond.methodLink "KiteRoofs" (377 : Nat) ({ cls := "java/util/ArrayDeque", name := "pollLast", desc := "()Ljava/lang/Object;" } : Jvm.MethodName)) ∈ lw_all := lw_g (lw_at lw_m7 85 rfl) rfl
theorem q1604 : (Jvm.Cond.instanceMethod ({ cls := "KiteRoofs", name := "restore", desc := "()I" } : Jvm.MethodName)) ∈ lw_all := lw_g (lw_at lw_m7 96 rfl) rfl
theorem q1605 : (Jvm.Cond.selects "KiteRoofs" ({ cls := "KiteRoofs", name := "restore", desc := "()I" } : Jvm.MethodName) ({ cls := "KiteRoofs", name := "restore", desc := "()I" } : Jvm.MethodName)) ∈ lw_all := lw_g (lw_at lw_m7 97 rfl) rfl
theorem q1606 : (Jvm.Cond.code ({ cls := "KiteRoofs", name := "restore", desc := "()I" } : Jvm.MethodName) prog_1_method_49_code (1 : Nat) (Option.some Jvm.ClassFile.FieldType.int)) ∈ lw_all := lw_g (lw_at lw_m7 98 rfl) rfl
theorem q1607 : (Jvm.Cond.methodLink "KiteRoofs" (384 : Nat) ({ cls := "java/util/ArrayDeque", name := "clear", desc := "()V" } : Jvm.MethodName)) ∈ lw_all := lw_g (lw_at lw_m7 99 rfl) rfl
theorem q1975 : (Jvm.Cond.castable "KiteRoofs" "java/lang/Object") ∈ lw_tbl := lw_at lw_m8 227 rfl
theorem in_X1 : ∀ w ∈ wsX10, w ∈ lw_all := lw_in wsX10 [285, 287, 289, 291, 293, 295, 297, 299, 301] (by decide +kernel) (by decide +kernel)
