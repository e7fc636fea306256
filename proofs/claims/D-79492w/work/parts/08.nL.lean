/-! KiteRoofsLaw -/
set_option maxRecDepth 100000
def RX0 : String := "KiteRoofsLaw"
abbrev cX0_wind : ByteArray := method_3_code
def yX0_wind : MethodName := ⟨RX0, "wind", "(LKiteRoofs;III[J)I"⟩
def dkwX0_wind_1 : List UInt8 := [172]
abbrev dktX0_wind_1 : List UInt8 := dkwX0_wind_1 ++ []
def dkwX0_wind_0 : List UInt8 := [25, 4, 3, 42, 27, 28, 29, 182, 0, 7, 133, 80, 167, 0, 11, 58, 5, 4, 172, 58, 5, 5, 172, 3]
abbrev dktX0_wind_0 : List UInt8 := dkwX0_wind_0 ++ dktX0_wind_1
theorem dksX0_wind_0 : cX0_wind.data.toList.drop 0 = dktX0_wind_0 := by decide +kernel
theorem dksX0_wind_1 : cX0_wind.data.toList.drop 24 = dktX0_wind_1 := dk_seg dksX0_wind_0 24 rfl rfl
theorem dX0_wind_0 : decode cX0_wind 0 = .ok (.aload 4, 2) := dk_25 4 (dk_at dksX0_wind_0 0 rfl rfl)
theorem dX0_wind_2 : decode cX0_wind 2 = .ok (.iconst 0, 1) := dk_3 (dk_at dksX0_wind_0 2 rfl rfl)
theorem dX0_wind_3 : decode cX0_wind 3 = .ok (.aload_n 0, 1) := dk_42 (dk_at dksX0_wind_0 3 rfl rfl)
theorem dX0_wind_4 : decode cX0_wind 4 = .ok (.iload_n 1, 1) := dk_27 (dk_at dksX0_wind_0 4 rfl rfl)
theorem dX0_wind_5 : decode cX0_wind 5 = .ok (.iload_n 2, 1) := dk_28 (dk_at dksX0_wind_0 5 rfl rfl)
theorem dX0_wind_6 : decode cX0_wind 6 = .ok (.iload_n 3, 1) := dk_29 (dk_at dksX0_wind_0 6 rfl rfl)
theorem dX0_wind_7 : decode cX0_wind 7 = .ok (.invokevirtual 7, 3) := dk_182 0 7 (dk_at dksX0_wind_0 7 rfl rfl)
theorem dX0_wind_10 : decode cX0_wind 10 = .ok (.i2l, 1) := dk_133 (dk_at dksX0_wind_0 10 rfl rfl)
theorem dX0_wind_11 : decode cX0_wind 11 = .ok (.lastore, 1) := dk_80 (dk_at dksX0_wind_0 11 rfl rfl)
theorem dX0_wind_12 : decode cX0_wind 12 = .ok (.goto 11, 3) := dk_167 0 11 (dk_at dksX0_wind_0 12 rfl rfl)
theorem dX0_wind_15 : decode cX0_wind 15 = .ok (.astore 5, 2) := dk_58 5 (dk_at dksX0_wind_0 15 rfl rfl)
theorem dX0_wind_17 : decode cX0_wind 17 = .ok (.iconst 1, 1) := dk_4 (dk_at dksX0_wind_0 17 rfl rfl)
theorem dX0_wind_18 : decode cX0_wind 18 = .ok (.ireturn, 1) := dk_172 (dk_at dksX0_wind_0 18 rfl rfl)
theorem dX0_wind_19 : decode cX0_wind 19 = .ok (.astore 5, 2) := dk_58 5 (dk_at dksX0_wind_0 19 rfl rfl)
theorem dX0_wind_21 : decode cX0_wind 21 = .ok (.iconst 2, 1) := dk_5 (dk_at dksX0_wind_0 21 rfl rfl)
theorem dX0_wind_22 : decode cX0_wind 22 = .ok (.ireturn, 1) := dk_172 (dk_at dksX0_wind_0 22 rfl rfl)
theorem dX0_wind_23 : decode cX0_wind 23 = .ok (.iconst 0, 1) := dk_3 (dk_at dksX0_wind_0 23 rfl rfl)
theorem dX0_wind_24 : decode cX0_wind 24 = .ok (.ireturn, 1) := dk_172 (dk_at dksX0_wind_1 0 rfl rfl)
abbrev cX0_windOf : ByteArray := method_4_code
def yX0_windOf : MethodName := ⟨RX0, "windOf", "(LKiteRoofs;IZ[J)I"⟩
def dkwX0_windOf_0 : List UInt8 := [45, 3, 42, 27, 28, 182, 0, 17, 133, 80, 167, 0, 7, 58, 4, 4, 172, 3, 172]
abbrev dktX0_windOf_0 : List UInt8 := dkwX0_windOf_0 ++ []
theorem dksX0_windOf_0 : cX0_windOf.data.toList.drop 0 = dktX0_windOf_0 := by decide +kernel
theorem dX0_windOf_0 : decode cX0_windOf 0 = .ok (.aload_n 3, 1) := dk_45 (dk_at dksX0_windOf_0 0 rfl rfl)
theorem dX0_windOf_1 : decode cX0_windOf 1 = .ok (.iconst 0, 1) := dk_3 (dk_at dksX0_windOf_0 1 rfl rfl)
theorem dX0_windOf_2 : decode cX0_windOf 2 = .ok (.aload_n 0, 1) := dk_42 (dk_at dksX0_windOf_0 2 rfl rfl)
theorem dX0_windOf_3 : decode cX0_windOf 3 = .ok (.iload_n 1, 1) := dk_27 (dk_at dksX0_windOf_0 3 rfl rfl)
theorem dX0_windOf_4 : decode cX0_windOf 4 = .ok (.iload_n 2, 1) := dk_28 (dk_at dksX0_windOf_0 4 rfl rfl)
theorem dX0_windOf_5 : decode cX0_windOf 5 = .ok (.invokevirtual 17, 3) := dk_182 0 17 (dk_at dksX0_windOf_0 5 rfl rfl)
theorem dX0_windOf_8 : decode cX0_windOf 8 = .ok (.i2l, 1) := dk_133 (dk_at dksX0_windOf_0 8 rfl rfl)
theorem dX0_windOf_9 : decode cX0_windOf 9 = .ok (.lastore, 1) := dk_80 (dk_at dksX0_windOf_0 9 rfl rfl)
theorem dX0_windOf_10 : decode cX0_windOf 10 = .ok (.goto 7, 3) := dk_167 0 7 (dk_at dksX0_windOf_0 10 rfl rfl)
theorem dX0_windOf_13 : decode cX0_windOf 13 = .ok (.astore 4, 2) := dk_58 4 (dk_at dksX0_windOf_0 13 rfl rfl)
theorem dX0_windOf_15 : decode cX0_windOf 15 = .ok (.iconst 1, 1) := dk_4 (dk_at dksX0_windOf_0 15 rfl rfl)
theorem dX0_windOf_16 : decode cX0_windOf 16 = .ok (.ireturn, 1) := dk_172 (dk_at dksX0_windOf_0 16 rfl rfl)
theorem dX0_windOf_17 : decode cX0_windOf 17 = .ok (.iconst 0, 1) := dk_3 (dk_at dksX0_windOf_0 17 rfl rfl)
theorem dX0_windOf_18 : decode cX0_windOf 18 = .ok (.ireturn, 1) := dk_172 (dk_at dksX0_windOf_0 18 rfl rfl)
abbrev cX0_kite : ByteArray := method_5_code
def yX0_kite : MethodName := ⟨RX0, "kite", "(LKiteRoofs;IIII[J)I"⟩
def dkwX0_kite_1 : List UInt8 := [172, 3, 172]
abbrev dktX0_kite_1 : List UInt8 := dkwX0_kite_1 ++ []
def dkwX0_kite_0 : List UInt8 := [25, 5, 3, 42, 27, 28, 29, 21, 4, 182, 0, 21, 133, 80, 167, 0, 11, 58, 6, 4, 172, 58, 6, 5]
abbrev dktX0_kite_0 : List UInt8 := dkwX0_kite_0 ++ dktX0_kite_1
theorem dksX0_kite_0 : cX0_kite.data.toList.drop 0 = dktX0_kite_0 := by decide +kernel
theorem dksX0_kite_1 : cX0_kite.data.toList.drop 24 = dktX0_kite_1 := dk_seg dksX0_kite_0 24 rfl rfl
theorem dX0_kite_0 : decode cX0_kite 0 = .ok (.aload 5, 2) := dk_25 5 (dk_at dksX0_kite_0 0 rfl rfl)
theorem dX0_kite_2 : decode cX0_kite 2 = .ok (.iconst 0, 1) := dk_3 (dk_at dksX0_kite_0 2 rfl rfl)
theorem dX0_kite_3 : decode cX0_kite 3 = .ok (.aload_n 0, 1) := dk_42 (dk_at dksX0_kite_0 3 rfl rfl)
theorem dX0_kite_4 : decode cX0_kite 4 = .ok (.iload_n 1, 1) := dk_27 (dk_at dksX0_kite_0 4 rfl rfl)
theorem dX0_kite_5 : decode cX0_kite 5 = .ok (.iload_n 2, 1) := dk_28 (dk_at dksX0_kite_0 5 rfl rfl)
theorem dX0_kite_6 : decode cX0_kite 6 = .ok (.iload_n 3, 1) := dk_29 (dk_at dksX0_kite_0 6 rfl rfl)
theorem dX0_kite_7 : decode cX0_kite 7 = .ok (.iload 4, 2) := dk_21 4 (dk_at dksX0_kite_0 7 rfl rfl)
theorem dX0_kite_9 : decode cX0_kite 9 = .ok (.invokevirtual 21, 3) := dk_182 0 21 (dk_at dksX0_kite_0 9 rfl rfl)
theorem dX0_kite_12 : decode cX0_kite 12 = .ok (.i2l, 1) := dk_133 (dk_at dksX0_kite_0 12 rfl rfl)
theorem dX0_kite_13 : decode cX0_kite 13 = .ok (.lastore, 1) := dk_80 (dk_at dksX0_kite_0 13 rfl rfl)
theorem dX0_kite_14 : decode cX0_kite 14 = .ok (.goto 11, 3) := dk_167 0 11 (dk_at dksX0_kite_0 14 rfl rfl)
theorem dX0_kite_17 : decode cX0_kite 17 = .ok (.astore 6, 2) := dk_58 6 (dk_at dksX0_kite_0 17 rfl rfl)
theorem dX0_kite_19 : decode cX0_kite 19 = .ok (.iconst 1, 1) := dk_4 (dk_at dksX0_kite_0 19 rfl rfl)
theorem dX0_kite_20 : decode cX0_kite 20 = .ok (.ireturn, 1) := dk_172 (dk_at dksX0_kite_0 20 rfl rfl)
theorem dX0_kite_21 : decode cX0_kite 21 = .ok (.astore 6, 2) := dk_58 6 (dk_at dksX0_kite_0 21 rfl rfl)
theorem dX0_kite_23 : decode cX0_kite 23 = .ok (.iconst 2, 1) := dk_5 (dk_at dksX0_kite_0 23 rfl rfl)
theorem dX0_kite_24 : decode cX0_kite 24 = .ok (.ireturn, 1) := dk_172 (dk_at dksX0_kite_1 0 rfl rfl)
theorem dX0_kite_25 : decode cX0_kite 25 = .ok (.iconst 0, 1) := dk_3 (dk_at dksX0_kite_1 1 rfl rfl)
theorem dX0_kite_26 : decode cX0_kite 26 = .ok (.ireturn, 1) := dk_172 (dk_at dksX0_kite_1 2 rfl rfl)
abbrev cX0_launch : ByteArray := method_6_code
def yX0_launch : MethodName := ⟨RX0, "launch", "(LKiteRoofs;I[J)I"⟩
def dkwX0_launch_0 : List UInt8 := [44, 3, 42, 27, 182, 0, 27, 133, 80, 167, 0, 9, 78, 4, 172, 78, 5, 172, 3, 172]
abbrev dktX0_launch_0 : List UInt8 := dkwX0_launch_0 ++ []
theorem dksX0_launch_0 : cX0_launch.data.toList.drop 0 = dktX0_launch_0 := by decide +kernel
theorem dX0_launch_0 : decode cX0_launch 0 = .ok (.aload_n 2, 1) := dk_44 (dk_at dksX0_launch_0 0 rfl rfl)
theorem dX0_launch_1 : decode cX0_launch 1 = .ok (.iconst 0, 1) := dk_3 (dk_at dksX0_launch_0 1 rfl rfl)
theorem dX0_launch_2 : decode cX0_launch 2 = .ok (.aload_n 0, 1) := dk_42 (dk_at dksX0_launch_0 2 rfl rfl)
theorem dX0_launch_3 : decode cX0_launch 3 = .ok (.iload_n 1, 1) := dk_27 (dk_at dksX0_launch_0 3 rfl rfl)
theorem dX0_launch_4 : decode cX0_launch 4 = .ok (.invokevirtual 27, 3) := dk_182 0 27 (dk_at dksX0_launch_0 4 rfl rfl)
theorem dX0_launch_7 : decode cX0_launch 7 = .ok (.i2l, 1) := dk_133 (dk_at dksX0_launch_0 7 rfl rfl)
theorem dX0_launch_8 : decode cX0_launch 8 = .ok (.lastore, 1) := dk_80 (dk_at dksX0_launch_0 8 rfl rfl)
theorem dX0_launch_9 : decode cX0_launch 9 = .ok (.goto 9, 3) := dk_167 0 9 (dk_at dksX0_launch_0 9 rfl rfl)
theorem dX0_launch_12 : decode cX0_launch 12 = .ok (.astore_n 3, 1) := dk_78 (dk_at dksX0_launch_0 12 rfl rfl)
theorem dX0_launch_13 : decode cX0_launch 13 = .ok (.iconst 1, 1) := dk_4 (dk_at dksX0_launch_0 13 rfl rfl)
theorem dX0_launch_14 : decode cX0_launch 14 = .ok (.ireturn, 1) := dk_172 (dk_at dksX0_launch_0 14 rfl rfl)
theorem dX0_launch_15 : decode cX0_launch 15 = .ok (.astore_n 3, 1) := dk_78 (dk_at dksX0_launch_0 15 rfl rfl)
theorem dX0_launch_16 : decode cX0_launch 16 = .ok (.iconst 2, 1) := dk_5 (dk_at dksX0_launch_0 16 rfl rfl)
theorem dX0_launch_17 : decode cX0_launch 17 = .ok (.ireturn, 1) := dk_172 (dk_at dksX0_launch_0 17 rfl rfl)
theorem dX0_launch_18 : decode cX0_launch 18 = .ok (.iconst 0, 1) := dk_3 (dk_at dksX0_launch_0 18 rfl rfl)
theorem dX0_launch_19 : decode cX0_launch 19 = .ok (.ireturn, 1) := dk_172 (dk_at dksX0_launch_0 19 rfl rfl)
abbrev cX0_reel : ByteArray := method_7_code
def yX0_reel : MethodName := ⟨RX0, "reel", "(LKiteRoofs;II[J)I"⟩
def dkwX0_reel_1 : List UInt8 := [172, 3, 172]
abbrev dktX0_reel_1 : List UInt8 := dkwX0_reel_1 ++ []
def dkwX0_reel_0 : List UInt8 := [45, 3, 42, 27, 28, 182, 0, 31, 133, 80, 167, 0, 15, 58, 4, 4, 172, 58, 4, 5, 172, 58, 4, 6]
abbrev dktX0_reel_0 : List UInt8 := dkwX0_reel_0 ++ dktX0_reel_1
theorem dksX0_reel_0 : cX0_reel.data.toList.drop 0 = dktX0_reel_0 := by decide +kernel
theorem dksX0_reel_1 : cX0_reel.data.toList.drop 24 = dktX0_reel_1 := dk_seg dksX0_reel_0 24 rfl rfl
theorem dX0_reel_0 : decode cX0_reel 0 = .ok (.aload_n 3, 1) := dk_45 (dk_at dksX0_reel_0 0 rfl rfl)
theorem dX0_reel_1 : decode cX0_reel 1 = .ok (.iconst 0, 1) := dk_3 (dk_at dksX0_reel_0 1 rfl rfl)
theorem dX0_reel_2 : decode cX0_reel 2 = .ok (.aload_n 0, 1) := dk_42 (dk_at dksX0_reel_0 2 rfl rfl)
theorem dX0_reel_3 : decode cX0_reel 3 = .ok (.iload_n 1, 1) := dk_27 (dk_at dksX0_reel_0 3 rfl rfl)
theorem dX0_reel_4 : decode cX0_reel 4 = .ok (.iload_n 2, 1) := dk_28 (dk_at dksX0_reel_0 4 rfl rfl)
theorem dX0_reel_5 : decode cX0_reel 5 = .ok (.invokevirtual 31, 3) := dk_182 0 31 (dk_at dksX0_reel_0 5 rfl rfl)
theorem dX0_reel_8 : decode cX0_reel 8 = .ok (.i2l, 1) := dk_133 (dk_at dksX0_reel_0 8 rfl rfl)
theorem dX0_reel_9 : decode cX0_reel 9 = .ok (.lastore, 1) := dk_80 (dk_at dksX0_reel_0 9 rfl rfl)
theorem dX0_reel_10 : decode cX0_reel 10 = .ok (.goto 15, 3) := dk_167 0 15 (dk_at dksX0_reel_0 10 rfl rfl)
theorem dX0_reel_13 : decode cX0_reel 13 = .ok (.astore 4, 2) := dk_58 4 (dk_at dksX0_reel_0 13 rfl rfl)
theorem dX0_reel_15 : decode cX0_reel 15 = .ok (.iconst 1, 1) := dk_4 (dk_at dksX0_reel_0 15 rfl rfl)
theorem dX0_reel_16 : decode cX0_reel 16 = .ok (.ireturn, 1) := dk_172 (dk_at dksX0_reel_0 16 rfl rfl)
theorem dX0_reel_17 : decode cX0_reel 17 = .ok (.astore 4, 2) := dk_58 4 (dk_at dksX0_reel_0 17 rfl rfl)
theorem dX0_reel_19 : decode cX0_reel 19 = .ok (.iconst 2, 1) := dk_5 (dk_at dksX0_reel_0 19 rfl rfl)
theorem dX0_reel_20 : decode cX0_reel 20 = .ok (.ireturn, 1) := dk_172 (dk_at dksX0_reel_0 20 rfl rfl)
theorem dX0_reel_21 : decode cX0_reel 21 = .ok (.astore 4, 2) := dk_58 4 (dk_at dksX0_reel_0 21 rfl rfl)
theorem dX0_reel_23 : decode cX0_reel 23 = .ok (.iconst 3, 1) := dk_6 (dk_at dksX0_reel_0 23 rfl rfl)
theorem dX0_reel_24 : decode cX0_reel 24 = .ok (.ireturn, 1) := dk_172 (dk_at dksX0_reel_1 0 rfl rfl)
theorem dX0_reel_25 : decode cX0_reel 25 = .ok (.iconst 0, 1) := dk_3 (dk_at dksX0_reel_1 1 rfl rfl)
theorem dX0_reel_26 : decode cX0_reel 26 = .ok (.ireturn, 1) := dk_172 (dk_at dksX0_reel_1 2 rfl rfl)
abbrev cX0_setSpeed : ByteArray := method_8_code
def yX0_setSpeed : MethodName := ⟨RX0, "setSpeed", "(LKiteRoofs;II[J)I"⟩
def dkwX0_setSpeed_0 : List UInt8 := [45, 3, 42, 27, 28, 182, 0, 35, 133, 80, 167, 0, 11, 58, 4, 4, 172, 58, 4, 5, 172, 3, 172]
abbrev dktX0_setSpeed_0 : List UInt8 := dkwX0_setSpeed_0 ++ []
theorem dksX0_setSpeed_0 : cX0_setSpeed.data.toList.drop 0 = dktX0_setSpeed_0 := by decide +kernel
theorem dX0_setSpeed_0 : decode cX0_setSpeed 0 = .ok (.aload_n 3, 1) := dk_45 (dk_at dksX0_setSpeed_0 0 rfl rfl)
theorem dX0_setSpeed_1 : decode cX0_setSpeed 1 = .ok (.iconst 0, 1) := dk_3 (dk_at dksX0_setSpeed_0 1 rfl rfl)
theorem dX0_setSpeed_2 : decode cX0_setSpeed 2 = .ok (.aload_n 0, 1) := dk_42 (dk_at dksX0_setSpeed_0 2 rfl rfl)
theorem dX0_setSpeed_3 : decode cX0_setSpeed 3 = .ok (.iload_n 1, 1) := dk_27 (dk_at dksX0_setSpeed_0 3 rfl rfl)
theorem dX0_setSpeed_4 : decode cX0_setSpeed 4 = .ok (.iload_n 2, 1) := dk_28 (dk_at dksX0_setSpeed_0 4 rfl rfl)
theorem dX0_setSpeed_5 : decode cX0_setSpeed 5 = .ok (.invokevirtual 35, 3) := dk_182 0 35 (dk_at dksX0_setSpeed_0 5 rfl rfl)
theorem dX0_setSpeed_8 : decode cX0_setSpeed 8 = .ok (.i2l, 1) := dk_133 (dk_at dksX0_setSpeed_0 8 rfl rfl)
theorem dX0_setSpeed_9 : decode cX0_setSpeed 9 = .ok (.lastore, 1) := dk_80 (dk_at dksX0_setSpeed_0 9 rfl rfl)
theorem dX0_setSpeed_10 : decode cX0_setSpeed 10 = .ok (.goto 11, 3) := dk_167 0 11 (dk_at dksX0_setSpeed_0 10 rfl rfl)
theorem dX0_setSpeed_13 : decode cX0_setSpeed 13 = .ok (.astore 4, 2) := dk_58 4 (dk_at dksX0_setSpeed_0 13 rfl rfl)
theorem dX0_setSpeed_15 : decode cX0_setSpeed 15 = .ok (.iconst 1, 1) := dk_4 (dk_at dksX0_setSpeed_0 15 rfl rfl)
theorem dX0_setSpeed_16 : decode cX0_setSpeed 16 = .ok (.ireturn, 1) := dk_172 (dk_at dksX0_setSpeed_0 16 rfl rfl)
theorem dX0_setSpeed_17 : decode cX0_setSpeed 17 = .ok (.astore 4, 2) := dk_58 4 (dk_at dksX0_setSpeed_0 17 rfl rfl)
theorem dX0_setSpeed_19 : decode cX0_setSpeed 19 = .ok (.iconst 2, 1) := dk_5 (dk_at dksX0_setSpeed_0 19 rfl rfl)
theorem dX0_setSpeed_20 : decode cX0_setSpeed 20 = .ok (.ireturn, 1) := dk_172 (dk_at dksX0_setSpeed_0 20 rfl rfl)
theorem dX0_setSpeed_21 : decode cX0_setSpeed 21 = .ok (.iconst 0, 1) := dk_3 (dk_at dksX0_setSpeed_0 21 rfl rfl)
theorem dX0_setSpeed_22 : decode cX0_setSpeed 22 = .ok (.ireturn, 1) := dk_172 (dk_at dksX0_setSpeed_0 22 rfl rfl)
abbrev cX0_land : ByteArray := method_9_code
def yX0_land : MethodName := ⟨RX0, "land", "(LKiteRoofs;I[J)I"⟩
def dkwX0_land_0 : List UInt8 := [44, 3, 42, 27, 182, 0, 38, 133, 80, 167, 0, 9, 78, 4, 172, 78, 5, 172, 3, 172]
abbrev dktX0_land_0 : List UInt8 := dkwX0_land_0 ++ []
theorem dksX0_land_0 : cX0_land.data.toList.drop 0 = dktX0_land_0 := by decide +kernel
theorem dX0_land_0 : decode cX0_land 0 = .ok (.aload_n 2, 1) := dk_44 (dk_at dksX0_land_0 0 rfl rfl)
theorem dX0_land_1 : decode cX0_land 1 = .ok (.iconst 0, 1) := dk_3 (dk_at dksX0_land_0 1 rfl rfl)
theorem dX0_land_2 : decode cX0_land 2 = .ok (.aload_n 0, 1) := dk_42 (dk_at dksX0_land_0 2 rfl rfl)
theorem dX0_land_3 : decode cX0_land 3 = .ok (.iload_n 1, 1) := dk_27 (dk_at dksX0_land_0 3 rfl rfl)
theorem dX0_land_4 : decode cX0_land 4 = .ok (.invokevirtual 38, 3) := dk_182 0 38 (dk_at dksX0_land_0 4 rfl rfl)
theorem dX0_land_7 : decode cX0_land 7 = .ok (.i2l, 1) := dk_133 (dk_at dksX0_land_0 7 rfl rfl)
theorem dX0_land_8 : decode cX0_land 8 = .ok (.lastore, 1) := dk_80 (dk_at dksX0_land_0 8 rfl rfl)
theorem dX0_land_9 : decode cX0_land 9 = .ok (.goto 9, 3) := dk_167 0 9 (dk_at dksX0_land_0 9 rfl rfl)
theorem dX0_land_12 : decode cX0_land 12 = .ok (.astore_n 3, 1) := dk_78 (dk_at dksX0_land_0 12 rfl rfl)
theorem dX0_land_13 : decode cX0_land 13 = .ok (.iconst 1, 1) := dk_4 (dk_at dksX0_land_0 13 rfl rfl)
theorem dX0_land_14 : decode cX0_land 14 = .ok (.ireturn, 1) := dk_172 (dk_at dksX0_land_0 14 rfl rfl)
theorem dX0_land_15 : decode cX0_land 15 = .ok (.astore_n 3, 1) := dk_78 (dk_at dksX0_land_0 15 rfl rfl)
theorem dX0_land_16 : decode cX0_land 16 = .ok (.iconst 2, 1) := dk_5 (dk_at dksX0_land_0 16 rfl rfl)
theorem dX0_land_17 : decode cX0_land 17 = .ok (.ireturn, 1) := dk_172 (dk_at dksX0_land_0 17 rfl rfl)
theorem dX0_land_18 : decode cX0_land 18 = .ok (.iconst 0, 1) := dk_3 (dk_at dksX0_land_0 18 rfl rfl)
theorem dX0_land_19 : decode cX0_land 19 = .ok (.ireturn, 1) := dk_172 (dk_at dksX0_land_0 19 rfl rfl)
abbrev cX0_tie : ByteArray := method_10_code
def yX0_tie : MethodName := ⟨RX0, "tie", "(LKiteRoofs;I[J)I"⟩
def dkwX0_tie_0 : List UInt8 := [44, 3, 42, 27, 182, 0, 41, 133, 80, 167, 0, 9, 78, 4, 172, 78, 5, 172, 3, 172]
abbrev dktX0_tie_0 : List UInt8 := dkwX0_tie_0 ++ []
theorem dksX0_tie_0 : cX0_tie.data.toList.drop 0 = dktX0_tie_0 := by decide +kernel
theorem dX0_tie_0 : decode cX0_tie 0 = .ok (.aload_n 2, 1) := dk_44 (dk_at dksX0_tie_0 0 rfl rfl)
theorem dX0_tie_1 : decode cX0_tie 1 = .ok (.iconst 0, 1) := dk_3 (dk_at dksX0_tie_0 1 rfl rfl)
theorem dX0_tie_2 : decode cX0_tie 2 = .ok (.aload_n 0, 1) := dk_42 (dk_at dksX0_tie_0 2 rfl rfl)
theorem dX0_tie_3 : decode cX0_tie 3 = .ok (.iload_n 1, 1) := dk_27 (dk_at dksX0_tie_0 3 rfl rfl)
theorem dX0_tie_4 : decode cX0_tie 4 = .ok (.invokevirtual 41, 3) := dk_182 0 41 (dk_at dksX0_tie_0 4 rfl rfl)
theorem dX0_tie_7 : decode cX0_tie 7 = .ok (.i2l, 1) := dk_133 (dk_at dksX0_tie_0 7 rfl rfl)
theorem dX0_tie_8 : decode cX0_tie 8 = .ok (.lastore, 1) := dk_80 (dk_at dksX0_tie_0 8 rfl rfl)
theorem dX0_tie_9 : decode cX0_tie 9 = .ok (.goto 9, 3) := dk_167 0 9 (dk_at dksX0_tie_0 9 rfl rfl)
theorem dX0_tie_12 : decode cX0_tie 12 = .ok (.astore_n 3, 1) := dk_78 (dk_at dksX0_tie_0 12 rfl rfl)
theorem dX0_tie_13 : decode cX0_tie 13 = .ok (.iconst 1, 1) := dk_4 (dk_at dksX0_tie_0 13 rfl rfl)
theorem dX0_tie_14 : decode cX0_tie 14 = .ok (.ireturn, 1) := dk_172 (dk_at dksX0_tie_0 14 rfl rfl)
theorem dX0_tie_15 : decode cX0_tie 15 = .ok (.astore_n 3, 1) := dk_78 (dk_at dksX0_tie_0 15 rfl rfl)
theorem dX0_tie_16 : decode cX0_tie 16 = .ok (.iconst 2, 1) := dk_5 (dk_at dksX0_tie_0 16 rfl rfl)
theorem dX0_tie_17 : decode cX0_tie 17 = .ok (.ireturn, 1) := dk_172 (dk_at dksX0_tie_0 17 rfl rfl)
theorem dX0_tie_18 : decode cX0_tie 18 = .ok (.iconst 0, 1) := dk_3 (dk_at dksX0_tie_0 18 rfl rfl)
theorem dX0_tie_19 : decode cX0_tie 19 = .ok (.ireturn, 1) := dk_172 (dk_at dksX0_tie_0 19 rfl rfl)
abbrev cX0_kiteOf : ByteArray := method_11_code
def yX0_kiteOf : MethodName := ⟨RX0, "kiteOf", "(LKiteRoofs;II[J)I"⟩
def dkwX0_kiteOf_0 : List UInt8 := [45, 3, 42, 27, 28, 182, 0, 44, 133, 80, 167, 0, 11, 58, 4, 4, 172, 58, 4, 5, 172, 3, 172]
abbrev dktX0_kiteOf_0 : List UInt8 := dkwX0_kiteOf_0 ++ []
theorem dksX0_kiteOf_0 : cX0_kiteOf.data.toList.drop 0 = dktX0_kiteOf_0 := by decide +kernel
theorem dX0_kiteOf_0 : decode cX0_kiteOf 0 = .ok (.aload_n 3, 1) := dk_45 (dk_at dksX0_kiteOf_0 0 rfl rfl)
theorem dX0_kiteOf_1 : decode cX0_kiteOf 1 = .ok (.iconst 0, 1) := dk_3 (dk_at dksX0_kiteOf_0 1 rfl rfl)
theorem dX0_kiteOf_2 : decode cX0_kiteOf 2 = .ok (.aload_n 0, 1) := dk_42 (dk_at dksX0_kiteOf_0 2 rfl rfl)
theorem dX0_kiteOf_3 : decode cX0_kiteOf 3 = .ok (.iload_n 1, 1) := dk_27 (dk_at dksX0_kiteOf_0 3 rfl rfl)
theorem dX0_kiteOf_4 : decode cX0_kiteOf 4 = .ok (.iload_n 2, 1) := dk_28 (dk_at dksX0_kiteOf_0 4 rfl rfl)
theorem dX0_kiteOf_5 : decode cX0_kiteOf 5 = .ok (.invokevirtual 44, 3) := dk_182 0 44 (dk_at dksX0_kiteOf_0 5 rfl rfl)
theorem dX0_kiteOf_8 : decode cX0_kiteOf 8 = .ok (.i2l, 1) := dk_133 (dk_at dksX0_kiteOf_0 8 rfl rfl)
theorem dX0_kiteOf_9 : decode cX0_kiteOf 9 = .ok (.lastore, 1) := dk_80 (dk_at dksX0_kiteOf_0 9 rfl rfl)
theorem dX0_kiteOf_10 : decode cX0_kiteOf 10 = .ok (.goto 11, 3) := dk_167 0 11 (dk_at dksX0_kiteOf_0 10 rfl rfl)
theorem dX0_kiteOf_13 : decode cX0_kiteOf 13 = .ok (.astore 4, 2) := dk_58 4 (dk_at dksX0_kiteOf_0 13 rfl rfl)
theorem dX0_kiteOf_15 : decode cX0_kiteOf 15 = .ok (.iconst 1, 1) := dk_4 (dk_at dksX0_kiteOf_0 15 rfl rfl)
theorem dX0_kiteOf_16 : decode cX0_kiteOf 16 = .ok (.ireturn, 1) := dk_172 (dk_at dksX0_kiteOf_0 16 rfl rfl)
theorem dX0_kiteOf_17 : decode cX0_kiteOf 17 = .ok (.astore 4, 2) := dk_58 4 (dk_at dksX0_kiteOf_0 17 rfl rfl)
theorem dX0_kiteOf_19 : decode cX0_kiteOf 19 = .ok (.iconst 2, 1) := dk_5 (dk_at dksX0_kiteOf_0 19 rfl rfl)
theorem dX0_kiteOf_20 : decode cX0_kiteOf 20 = .ok (.ireturn, 1) := dk_172 (dk_at dksX0_kiteOf_0 20 rfl rfl)
theorem dX0_kiteOf_21 : decode cX0_kiteOf 21 = .ok (.iconst 0, 1) := dk_3 (dk_at dksX0_kiteOf_0 21 rfl rfl)
theorem dX0_kiteOf_22 : decode cX0_kiteOf 22 = .ok (.ireturn, 1) := dk_172 (dk_at dksX0_kiteOf_0 22 rfl rfl)
abbrev cX0_state : ByteArray := method_12_code
def yX0_state : MethodName := ⟨RX0, "state", "(LKiteRoofs;I[J)I"⟩
def dkwX0_state_0 : List UInt8 := [44, 3, 42, 27, 182, 0, 47, 133, 80, 167, 0, 6, 78, 4, 172, 3, 172]
abbrev dktX0_state_0 : List UInt8 := dkwX0_state_0 ++ []
theorem dksX0_state_0 : cX0_state.data.toList.drop 0 = dktX0_state_0 := by decide +kernel
theorem dX0_state_0 : decode cX0_state 0 = .ok (.aload_n 2, 1) := dk_44 (dk_at dksX0_state_0 0 rfl rfl)
theorem dX0_state_1 : decode cX0_state 1 = .ok (.iconst 0, 1) := dk_3 (dk_at dksX0_state_0 1 rfl rfl)
theorem dX0_state_2 : decode cX0_state 2 = .ok (.aload_n 0, 1) := dk_42 (dk_at dksX0_state_0 2 rfl rfl)
theorem dX0_state_3 : decode cX0_state 3 = .ok (.iload_n 1, 1) := dk_27 (dk_at dksX0_state_0 3 rfl rfl)
theorem dX0_state_4 : decode cX0_state 4 = .ok (.invokevirtual 47, 3) := dk_182 0 47 (dk_at dksX0_state_0 4 rfl rfl)
theorem dX0_state_7 : decode cX0_state 7 = .ok (.i2l, 1) := dk_133 (dk_at dksX0_state_0 7 rfl rfl)
theorem dX0_state_8 : decode cX0_state 8 = .ok (.lastore, 1) := dk_80 (dk_at dksX0_state_0 8 rfl rfl)
theorem dX0_state_9 : decode cX0_state 9 = .ok (.goto 6, 3) := dk_167 0 6 (dk_at dksX0_state_0 9 rfl rfl)
theorem dX0_state_12 : decode cX0_state 12 = .ok (.astore_n 3, 1) := dk_78 (dk_at dksX0_state_0 12 rfl rfl)
theorem dX0_state_13 : decode cX0_state 13 = .ok (.iconst 1, 1) := dk_4 (dk_at dksX0_state_0 13 rfl rfl)
theorem dX0_state_14 : decode cX0_state 14 = .ok (.ireturn, 1) := dk_172 (dk_at dksX0_state_0 14 rfl rfl)
theorem dX0_state_15 : decode cX0_state 15 = .ok (.iconst 0, 1) := dk_3 (dk_at dksX0_state_0 15 rfl rfl)
theorem dX0_state_16 : decode cX0_state 16 = .ok (.ireturn, 1) := dk_172 (dk_at dksX0_state_0 16 rfl rfl)
abbrev cX0_heightAgain : ByteArray := method_13_code
def yX0_heightAgain : MethodName := ⟨RX0, "heightAgain", "(LKiteRoofs;I[J)I"⟩
def dkwX0_heightAgain_0 : List UInt8 := [44, 3, 42, 27, 182, 0, 51, 133, 80, 167, 0, 6, 78, 4, 172, 3, 172]
abbrev dktX0_heightAgain_0 : List UInt8 := dkwX0_heightAgain_0 ++ []
theorem dksX0_heightAgain_0 : cX0_heightAgain.data.toList.drop 0 = dktX0_heightAgain_0 := by decide +kernel
theorem dX0_heightAgain_0 : decode cX0_heightAgain 0 = .ok (.aload_n 2, 1) := dk_44 (dk_at dksX0_heightAgain_0 0 rfl rfl)
theorem dX0_heightAgain_1 : decode cX0_heightAgain 1 = .ok (.iconst 0, 1) := dk_3 (dk_at dksX0_heightAgain_0 1 rfl rfl)
theorem dX0_heightAgain_2 : decode cX0_heightAgain 2 = .ok (.aload_n 0, 1) := dk_42 (dk_at dksX0_heightAgain_0 2 rfl rfl)
theorem dX0_heightAgain_3 : decode cX0_heightAgain 3 = .ok (.iload_n 1, 1) := dk_27 (dk_at dksX0_heightAgain_0 3 rfl rfl)
theorem dX0_heightAgain_4 : decode cX0_heightAgain 4 = .ok (.invokevirtual 51, 3) := dk_182 0 51 (dk_at dksX0_heightAgain_0 4 rfl rfl)
theorem dX0_heightAgain_7 : decode cX0_heightAgain 7 = .ok (.i2l, 1) := dk_133 (dk_at dksX0_heightAgain_0 7 rfl rfl)
theorem dX0_heightAgain_8 : decode cX0_heightAgain 8 = .ok (.lastore, 1) := dk_80 (dk_at dksX0_heightAgain_0 8 rfl rfl)
theorem dX0_heightAgain_9 : decode cX0_heightAgain 9 = .ok (.goto 6, 3) := dk_167 0 6 (dk_at dksX0_heightAgain_0 9 rfl rfl)
theorem dX0_heightAgain_12 : decode cX0_heightAgain 12 = .ok (.astore_n 3, 1) := dk_78 (dk_at dksX0_heightAgain_0 12 rfl rfl)
theorem dX0_heightAgain_13 : decode cX0_heightAgain 13 = .ok (.iconst 1, 1) := dk_4 (dk_at dksX0_heightAgain_0 13 rfl rfl)
theorem dX0_heightAgain_14 : decode cX0_heightAgain 14 = .ok (.ireturn, 1) := dk_172 (dk_at dksX0_heightAgain_0 14 rfl rfl)
theorem dX0_heightAgain_15 : decode cX0_heightAgain 15 = .ok (.iconst 0, 1) := dk_3 (dk_at dksX0_heightAgain_0 15 rfl rfl)
theorem dX0_heightAgain_16 : decode cX0_heightAgain 16 = .ok (.ireturn, 1) := dk_172 (dk_at dksX0_heightAgain_0 16 rfl rfl)
abbrev cX0_placeAt : ByteArray := method_14_code
def yX0_placeAt : MethodName := ⟨RX0, "placeAt", "(LKiteRoofs;II[J)I"⟩
def dkwX0_placeAt_0 : List UInt8 := [45, 3, 42, 27, 28, 182, 0, 54, 133, 80, 167, 0, 11, 58, 4, 4, 172, 58, 4, 5, 172, 3, 172]
abbrev dktX0_placeAt_0 : List UInt8 := dkwX0_placeAt_0 ++ []
theorem dksX0_placeAt_0 : cX0_placeAt.data.toList.drop 0 = dktX0_placeAt_0 := by decide +kernel
theorem dX0_placeAt_0 : decode cX0_placeAt 0 = .ok (.aload_n 3, 1) := dk_45 (dk_at dksX0_placeAt_0 0 rfl rfl)
theorem dX0_placeAt_1 : decode cX0_placeAt 1 = .ok (.iconst 0, 1) := dk_3 (dk_at dksX0_placeAt_0 1 rfl rfl)
theorem dX0_placeAt_2 : decode cX0_placeAt 2 = .ok (.aload_n 0, 1) := dk_42 (dk_at dksX0_placeAt_0 2 rfl rfl)
theorem dX0_placeAt_3 : decode cX0_placeAt 3 = .ok (.iload_n 1, 1) := dk_27 (dk_at dksX0_placeAt_0 3 rfl rfl)
theorem dX0_placeAt_4 : decode cX0_placeAt 4 = .ok (.iload_n 2, 1) := dk_28 (dk_at dksX0_placeAt_0 4 rfl rfl)
theorem dX0_placeAt_5 : decode cX0_placeAt 5 = .ok (.invokevirtual 54, 3) := dk_182 0 54 (dk_at dksX0_placeAt_0 5 rfl rfl)
theorem dX0_placeAt_8 : decode cX0_placeAt 8 = .ok (.i2l, 1) := dk_133 (dk_at dksX0_placeAt_0 8 rfl rfl)
theorem dX0_placeAt_9 : decode cX0_placeAt 9 = .ok (.lastore, 1) := dk_80 (dk_at dksX0_placeAt_0 9 rfl rfl)
theorem dX0_placeAt_10 : decode cX0_placeAt 10 = .ok (.goto 11, 3) := dk_167 0 11 (dk_at dksX0_placeAt_0 10 rfl rfl)
theorem dX0_placeAt_13 : decode cX0_placeAt 13 = .ok (.astore 4, 2) := dk_58 4 (dk_at dksX0_placeAt_0 13 rfl rfl)
theorem dX0_placeAt_15 : decode cX0_placeAt 15 = .ok (.iconst 1, 1) := dk_4 (dk_at dksX0_placeAt_0 15 rfl rfl)
theorem dX0_placeAt_16 : decode cX0_placeAt 16 = .ok (.ireturn, 1) := dk_172 (dk_at dksX0_placeAt_0 16 rfl rfl)
theorem dX0_placeAt_17 : decode cX0_placeAt 17 = .ok (.astore 4, 2) := dk_58 4 (dk_at dksX0_placeAt_0 17 rfl rfl)
theorem dX0_placeAt_19 : decode cX0_placeAt 19 = .ok (.iconst 2, 1) := dk_5 (dk_at dksX0_placeAt_0 19 rfl rfl)
theorem dX0_placeAt_20 : decode cX0_placeAt 20 = .ok (.ireturn, 1) := dk_172 (dk_at dksX0_placeAt_0 20 rfl rfl)
theorem dX0_placeAt_21 : decode cX0_placeAt 21 = .ok (.iconst 0, 1) := dk_3 (dk_at dksX0_placeAt_0 21 rfl rfl)
theorem dX0_placeAt_22 : decode cX0_placeAt 22 = .ok (.ireturn, 1) := dk_172 (dk_at dksX0_placeAt_0 22 rfl rfl)
abbrev cX0_crossing : ByteArray := method_15_code
def yX0_crossing : MethodName := ⟨RX0, "crossing", "(LKiteRoofs;II[J)I"⟩
def dkwX0_crossing_0 : List UInt8 := [45, 3, 42, 27, 28, 182, 0, 59, 133, 80, 167, 0, 7, 58, 4, 4, 172, 3, 172]
abbrev dktX0_crossing_0 : List UInt8 := dkwX0_crossing_0 ++ []
theorem dksX0_crossing_0 : cX0_crossing.data.toList.drop 0 = dktX0_crossing_0 := by decide +kernel
theorem dX0_crossing_0 : decode cX0_crossing 0 = .ok (.aload_n 3, 1) := dk_45 (dk_at dksX0_crossing_0 0 rfl rfl)
theorem dX0_crossing_1 : decode cX0_crossing 1 = .ok (.iconst 0, 1) := dk_3 (dk_at dksX0_crossing_0 1 rfl rfl)
theorem dX0_crossing_2 : decode cX0_crossing 2 = .ok (.aload_n 0, 1) := dk_42 (dk_at dksX0_crossing_0 2 rfl rfl)
theorem dX0_crossing_3 : decode cX0_crossing 3 = .ok (.iload_n 1, 1) := dk_27 (dk_at dksX0_crossing_0 3 rfl rfl)
theorem dX0_crossing_4 : decode cX0_crossing 4 = .ok (.iload_n 2, 1) := dk_28 (dk_at dksX0_crossing_0 4 rfl rfl)
theorem dX0_crossing_5 : decode cX0_crossing 5 = .ok (.invokevirtual 59, 3) := dk_182 0 59 (dk_at dksX0_crossing_0 5 rfl rfl)
theorem dX0_crossing_8 : decode cX0_crossing 8 = .ok (.i2l, 1) := dk_133 (dk_at dksX0_crossing_0 8 rfl rfl)
theorem dX0_crossing_9 : decode cX0_crossing 9 = .ok (.lastore, 1) := dk_80 (dk_at dksX0_crossing_0 9 rfl rfl)
theorem dX0_crossing_10 : decode cX0_crossing 10 = .ok (.goto 7, 3) := dk_167 0 7 (dk_at dksX0_crossing_0 10 rfl rfl)
theorem dX0_crossing_13 : decode cX0_crossing 13 = .ok (.astore 4, 2) := dk_58 4 (dk_at dksX0_crossing_0 13 rfl rfl)
theorem dX0_crossing_15 : decode cX0_crossing 15 = .ok (.iconst 1, 1) := dk_4 (dk_at dksX0_crossing_0 15 rfl rfl)
theorem dX0_crossing_16 : decode cX0_crossing 16 = .ok (.ireturn, 1) := dk_172 (dk_at dksX0_crossing_0 16 rfl rfl)
theorem dX0_crossing_17 : decode cX0_crossing 17 = .ok (.iconst 0, 1) := dk_3 (dk_at dksX0_crossing_0 17 rfl rfl)
theorem dX0_crossing_18 : decode cX0_crossing 18 = .ok (.ireturn, 1) := dk_172 (dk_at dksX0_crossing_0 18 rfl rfl)
abbrev cX0_wears : ByteArray := method_16_code
def yX0_wears : MethodName := ⟨RX0, "wears", "(LKiteRoofs;I[J)I"⟩
def dkwX0_wears_0 : List UInt8 := [44, 3, 42, 27, 182, 0, 62, 133, 80, 167, 0, 6, 78, 4, 172, 3, 172]
abbrev dktX0_wears_0 : List UInt8 := dkwX0_wears_0 ++ []
theorem dksX0_wears_0 : cX0_wears.data.toList.drop 0 = dktX0_wears_0 := by decide +kernel
theorem dX0_wears_0 : decode cX0_wears 0 = .ok (.aload_n 2, 1) := dk_44 (dk_at dksX0_wears_0 0 rfl rfl)
theorem dX0_wears_1 : decode cX0_wears 1 = .ok (.iconst 0, 1) := dk_3 (dk_at dksX0_wears_0 1 rfl rfl)
theorem dX0_wears_2 : decode cX0_wears 2 = .ok (.aload_n 0, 1) := dk_42 (dk_at dksX0_wears_0 2 rfl rfl)
theorem dX0_wears_3 : decode cX0_wears 3 = .ok (.iload_n 1, 1) := dk_27 (dk_at dksX0_wears_0 3 rfl rfl)
theorem dX0_wears_4 : decode cX0_wears 4 = .ok (.invokevirtual 62, 3) := dk_182 0 62 (dk_at dksX0_wears_0 4 rfl rfl)
theorem dX0_wears_7 : decode cX0_wears 7 = .ok (.i2l, 1) := dk_133 (dk_at dksX0_wears_0 7 rfl rfl)
theorem dX0_wears_8 : decode cX0_wears 8 = .ok (.lastore, 1) := dk_80 (dk_at dksX0_wears_0 8 rfl rfl)
theorem dX0_wears_9 : decode cX0_wears 9 = .ok (.goto 6, 3) := dk_167 0 6 (dk_at dksX0_wears_0 9 rfl rfl)
theorem dX0_wears_12 : decode cX0_wears 12 = .ok (.astore_n 3, 1) := dk_78 (dk_at dksX0_wears_0 12 rfl rfl)
theorem dX0_wears_13 : decode cX0_wears 13 = .ok (.iconst 1, 1) := dk_4 (dk_at dksX0_wears_0 13 rfl rfl)
theorem dX0_wears_14 : decode cX0_wears 14 = .ok (.ireturn, 1) := dk_172 (dk_at dksX0_wears_0 14 rfl rfl)
theorem dX0_wears_15 : decode cX0_wears 15 = .ok (.iconst 0, 1) := dk_3 (dk_at dksX0_wears_0 15 rfl rfl)
theorem dX0_wears_16 : decode cX0_wears 16 = .ok (.ireturn, 1) := dk_172 (dk_at dksX0_wears_0 16 rfl rfl)
abbrev cX0_round : ByteArray := method_17_code
def yX0_round : MethodName := ⟨RX0, "round", "(LKiteRoofs;I[J)I"⟩
def dkwX0_round_0 : List UInt8 := [44, 3, 42, 27, 182, 0, 65, 133, 80, 167, 0, 6, 78, 4, 172, 3, 172]
abbrev dktX0_round_0 : List UInt8 := dkwX0_round_0 ++ []
theorem dksX0_round_0 : cX0_round.data.toList.drop 0 = dktX0_round_0 := by decide +kernel
theorem dX0_round_0 : decode cX0_round 0 = .ok (.aload_n 2, 1) := dk_44 (dk_at dksX0_round_0 0 rfl rfl)
theorem dX0_round_1 : decode cX0_round 1 = .ok (.iconst 0, 1) := dk_3 (dk_at dksX0_round_0 1 rfl rfl)
theorem dX0_round_2 : decode cX0_round 2 = .ok (.aload_n 0, 1) := dk_42 (dk_at dksX0_round_0 2 rfl rfl)
theorem dX0_round_3 : decode cX0_round 3 = .ok (.iload_n 1, 1) := dk_27 (dk_at dksX0_round_0 3 rfl rfl)
theorem dX0_round_4 : decode cX0_round 4 = .ok (.invokevirtual 65, 3) := dk_182 0 65 (dk_at dksX0_round_0 4 rfl rfl)
theorem dX0_round_7 : decode cX0_round 7 = .ok (.i2l, 1) := dk_133 (dk_at dksX0_round_0 7 rfl rfl)
theorem dX0_round_8 : decode cX0_round 8 = .ok (.lastore, 1) := dk_80 (dk_at dksX0_round_0 8 rfl rfl)
theorem dX0_round_9 : decode cX0_round 9 = .ok (.goto 6, 3) := dk_167 0 6 (dk_at dksX0_round_0 9 rfl rfl)
theorem dX0_round_12 : decode cX0_round 12 = .ok (.astore_n 3, 1) := dk_78 (dk_at dksX0_round_0 12 rfl rfl)
theorem dX0_round_13 : decode cX0_round 13 = .ok (.iconst 1, 1) := dk_4 (dk_at dksX0_round_0 13 rfl rfl)
theorem dX0_round_14 : decode cX0_round 14 = .ok (.ireturn, 1) := dk_172 (dk_at dksX0_round_0 14 rfl rfl)
theorem dX0_round_15 : decode cX0_round 15 = .ok (.iconst 0, 1) := dk_3 (dk_at dksX0_round_0 15 rfl rfl)
theorem dX0_round_16 : decode cX0_round 16 = .ok (.ireturn, 1) := dk_172 (dk_at dksX0_round_0 16 rfl rfl)
abbrev cX0_cutIn : ByteArray := method_18_code
def yX0_cutIn : MethodName := ⟨RX0, "cutIn", "(LKiteRoofs;II[J)I"⟩
def dkwX0_cutIn_1 : List UInt8 := [172, 3, 172]
abbrev dktX0_cutIn_1 : List UInt8 := dkwX0_cutIn_1 ++ []
def dkwX0_cutIn_0 : List UInt8 := [45, 3, 42, 27, 28, 182, 0, 68, 133, 80, 167, 0, 15, 58, 4, 4, 172, 58, 4, 5, 172, 58, 4, 6]
abbrev dktX0_cutIn_0 : List UInt8 := dkwX0_cutIn_0 ++ dktX0_cutIn_1
theorem dksX0_cutIn_0 : cX0_cutIn.data.toList.drop 0 = dktX0_cutIn_0 := by decide +kernel
theorem dksX0_cutIn_1 : cX0_cutIn.data.toList.drop 24 = dktX0_cutIn_1 := dk_seg dksX0_cutIn_0 24 rfl rfl
theorem dX0_cutIn_0 : decode cX0_cutIn 0 = .ok (.aload_n 3, 1) := dk_45 (dk_at dksX0_cutIn_0 0 rfl rfl)
theorem dX0_cutIn_1 : decode cX0_cutIn 1 = .ok (.iconst 0, 1) := dk_3 (dk_at dksX0_cutIn_0 1 rfl rfl)
theorem dX0_cutIn_2 : decode cX0_cutIn 2 = .ok (.aload_n 0, 1) := dk_42 (dk_at dksX0_cutIn_0 2 rfl rfl)
theorem dX0_cutIn_3 : decode cX0_cutIn 3 = .ok (.iload_n 1, 1) := dk_27 (dk_at dksX0_cutIn_0 3 rfl rfl)
theorem dX0_cutIn_4 : decode cX0_cutIn 4 = .ok (.iload_n 2, 1) := dk_28 (dk_at dksX0_cutIn_0 4 rfl rfl)
theorem dX0_cutIn_5 : decode cX0_cutIn 5 = .ok (.invokevirtual 68, 3) := dk_182 0 68 (dk_at dksX0_cutIn_0 5 rfl rfl)
theorem dX0_cutIn_8 : decode cX0_cutIn 8 = .ok (.i2l, 1) := dk_133 (dk_at dksX0_cutIn_0 8 rfl rfl)
theorem dX0_cutIn_9 : decode cX0_cutIn 9 = .ok (.lastore, 1) := dk_80 (dk_at dksX0_cutIn_0 9 rfl rfl)
theorem dX0_cutIn_10 : decode cX0_cutIn 10 = .ok (.goto 15, 3) := dk_167 0 15 (dk_at dksX0_cutIn_0 10 rfl rfl)
theorem dX0_cutIn_13 : decode cX0_cutIn 13 = .ok (.astore 4, 2) := dk_58 4 (dk_at dksX0_cutIn_0 13 rfl rfl)
theorem dX0_cutIn_15 : decode cX0_cutIn 15 = .ok (.iconst 1, 1) := dk_4 (dk_at dksX0_cutIn_0 15 rfl rfl)
theorem dX0_cutIn_16 : decode cX0_cutIn 16 = .ok (.ireturn, 1) := dk_172 (dk_at dksX0_cutIn_0 16 rfl rfl)
theorem dX0_cutIn_17 : decode cX0_cutIn 17 = .ok (.astore 4, 2) := dk_58 4 (dk_at dksX0_cutIn_0 17 rfl rfl)
theorem dX0_cutIn_19 : decode cX0_cutIn 19 = .ok (.iconst 2, 1) := dk_5 (dk_at dksX0_cutIn_0 19 rfl rfl)
theorem dX0_cutIn_20 : decode cX0_cutIn 20 = .ok (.ireturn, 1) := dk_172 (dk_at dksX0_cutIn_0 20 rfl rfl)
theorem dX0_cutIn_21 : decode cX0_cutIn 21 = .ok (.astore 4, 2) := dk_58 4 (dk_at dksX0_cutIn_0 21 rfl rfl)
theorem dX0_cutIn_23 : decode cX0_cutIn 23 = .ok (.iconst 3, 1) := dk_6 (dk_at dksX0_cutIn_0 23 rfl rfl)
theorem dX0_cutIn_24 : decode cX0_cutIn 24 = .ok (.ireturn, 1) := dk_172 (dk_at dksX0_cutIn_1 0 rfl rfl)
theorem dX0_cutIn_25 : decode cX0_cutIn 25 = .ok (.iconst 0, 1) := dk_3 (dk_at dksX0_cutIn_1 1 rfl rfl)
theorem dX0_cutIn_26 : decode cX0_cutIn 26 = .ok (.ireturn, 1) := dk_172 (dk_at dksX0_cutIn_1 2 rfl rfl)
abbrev cX0_bestSpeed : ByteArray := method_19_code
def yX0_bestSpeed : MethodName := ⟨RX0, "bestSpeed", "(LKiteRoofs;II[J)I"⟩
def dkwX0_bestSpeed_1 : List UInt8 := [172, 3, 172]
abbrev dktX0_bestSpeed_1 : List UInt8 := dkwX0_bestSpeed_1 ++ []
def dkwX0_bestSpeed_0 : List UInt8 := [45, 3, 42, 27, 28, 182, 0, 71, 133, 80, 167, 0, 15, 58, 4, 4, 172, 58, 4, 5, 172, 58, 4, 6]
abbrev dktX0_bestSpeed_0 : List UInt8 := dkwX0_bestSpeed_0 ++ dktX0_bestSpeed_1
theorem dksX0_bestSpeed_0 : cX0_bestSpeed.data.toList.drop 0 = dktX0_bestSpeed_0 := by decide +kernel
theorem dksX0_bestSpeed_1 : cX0_bestSpeed.data.toList.drop 24 = dktX0_bestSpeed_1 := dk_seg dksX0_bestSpeed_0 24 rfl rfl
theorem dX0_bestSpeed_0 : decode cX0_bestSpeed 0 = .ok (.aload_n 3, 1) := dk_45 (dk_at dksX0_bestSpeed_0 0 rfl rfl)
theorem dX0_bestSpeed_1 : decode cX0_bestSpeed 1 = .ok (.iconst 0, 1) := dk_3 (dk_at dksX0_bestSpeed_0 1 rfl rfl)
theorem dX0_bestSpeed_2 : decode cX0_bestSpeed 2 = .ok (.aload_n 0, 1) := dk_42 (dk_at dksX0_bestSpeed_0 2 rfl rfl)
theorem dX0_bestSpeed_3 : decode cX0_bestSpeed 3 = .ok (.iload_n 1, 1) := dk_27 (dk_at dksX0_bestSpeed_0 3 rfl rfl)
theorem dX0_bestSpeed_4 : decode cX0_bestSpeed 4 = .ok (.iload_n 2, 1) := dk_28 (dk_at dksX0_bestSpeed_0 4 rfl rfl)
theorem dX0_bestSpeed_5 : decode cX0_bestSpeed 5 = .ok (.invokevirtual 71, 3) := dk_182 0 71 (dk_at dksX0_bestSpeed_0 5 rfl rfl)
theorem dX0_bestSpeed_8 : decode cX0_bestSpeed 8 = .ok (.i2l, 1) := dk_133 (dk_at dksX0_bestSpeed_0 8 rfl rfl)
theorem dX0_bestSpeed_9 : decode cX0_bestSpeed 9 = .ok (.lastore, 1) := dk_80 (dk_at dksX0_bestSpeed_0 9 rfl rfl)
theorem dX0_bestSpeed_10 : decode cX0_bestSpeed 10 = .ok (.goto 15, 3) := dk_167 0 15 (dk_at dksX0_bestSpeed_0 10 rfl rfl)
theorem dX0_bestSpeed_13 : decode cX0_bestSpeed 13 = .ok (.astore 4, 2) := dk_58 4 (dk_at dksX0_bestSpeed_0 13 rfl rfl)
theorem dX0_bestSpeed_15 : decode cX0_bestSpeed 15 = .ok (.iconst 1, 1) := dk_4 (dk_at dksX0_bestSpeed_0 15 rfl rfl)
theorem dX0_bestSpeed_16 : decode cX0_bestSpeed 16 = .ok (.ireturn, 1) := dk_172 (dk_at dksX0_bestSpeed_0 16 rfl rfl)
theorem dX0_bestSpeed_17 : decode cX0_bestSpeed 17 = .ok (.astore 4, 2) := dk_58 4 (dk_at dksX0_bestSpeed_0 17 rfl rfl)
theorem dX0_bestSpeed_19 : decode cX0_bestSpeed 19 = .ok (.iconst 2, 1) := dk_5 (dk_at dksX0_bestSpeed_0 19 rfl rfl)
theorem dX0_bestSpeed_20 : decode cX0_bestSpeed 20 = .ok (.ireturn, 1) := dk_172 (dk_at dksX0_bestSpeed_0 20 rfl rfl)
theorem dX0_bestSpeed_21 : decode cX0_bestSpeed 21 = .ok (.astore 4, 2) := dk_58 4 (dk_at dksX0_bestSpeed_0 21 rfl rfl)
theorem dX0_bestSpeed_23 : decode cX0_bestSpeed 23 = .ok (.iconst 3, 1) := dk_6 (dk_at dksX0_bestSpeed_0 23 rfl rfl)
theorem dX0_bestSpeed_24 : decode cX0_bestSpeed 24 = .ok (.ireturn, 1) := dk_172 (dk_at dksX0_bestSpeed_1 0 rfl rfl)
theorem dX0_bestSpeed_25 : decode cX0_bestSpeed 25 = .ok (.iconst 0, 1) := dk_3 (dk_at dksX0_bestSpeed_1 1 rfl rfl)
theorem dX0_bestSpeed_26 : decode cX0_bestSpeed 26 = .ok (.ireturn, 1) := dk_172 (dk_at dksX0_bestSpeed_1 2 rfl rfl)
abbrev cX0_cause : ByteArray := method_20_code
def yX0_cause : MethodName := ⟨RX0, "cause", "(LKiteRoofs;II[J)I"⟩
def dkwX0_cause_0 : List UInt8 := [45, 3, 42, 27, 28, 182, 0, 74, 133, 80, 167, 0, 11, 58, 4, 4, 172, 58, 4, 5, 172, 3, 172]
abbrev dktX0_cause_0 : List UInt8 := dkwX0_cause_0 ++ []
theorem dksX0_cause_0 : cX0_cause.data.toList.drop 0 = dktX0_cause_0 := by decide +kernel
theorem dX0_cause_0 : decode cX0_cause 0 = .ok (.aload_n 3, 1) := dk_45 (dk_at dksX0_cause_0 0 rfl rfl)
theorem dX0_cause_1 : decode cX0_cause 1 = .ok (.iconst 0, 1) := dk_3 (dk_at dksX0_cause_0 1 rfl rfl)
theorem dX0_cause_2 : decode cX0_cause 2 = .ok (.aload_n 0, 1) := dk_42 (dk_at dksX0_cause_0 2 rfl rfl)
theorem dX0_cause_3 : decode cX0_cause 3 = .ok (.iload_n 1, 1) := dk_27 (dk_at dksX0_cause_0 3 rfl rfl)
theorem dX0_cause_4 : decode cX0_cause 4 = .ok (.iload_n 2, 1) := dk_28 (dk_at dksX0_cause_0 4 rfl rfl)
theorem dX0_cause_5 : decode cX0_cause 5 = .ok (.invokevirtual 74, 3) := dk_182 0 74 (dk_at dksX0_cause_0 5 rfl rfl)
theorem dX0_cause_8 : decode cX0_cause 8 = .ok (.i2l, 1) := dk_133 (dk_at dksX0_cause_0 8 rfl rfl)
theorem dX0_cause_9 : decode cX0_cause 9 = .ok (.lastore, 1) := dk_80 (dk_at dksX0_cause_0 9 rfl rfl)
theorem dX0_cause_10 : decode cX0_cause 10 = .ok (.goto 11, 3) := dk_167 0 11 (dk_at dksX0_cause_0 10 rfl rfl)
theorem dX0_cause_13 : decode cX0_cause 13 = .ok (.astore 4, 2) := dk_58 4 (dk_at dksX0_cause_0 13 rfl rfl)
theorem dX0_cause_15 : decode cX0_cause 15 = .ok (.iconst 1, 1) := dk_4 (dk_at dksX0_cause_0 15 rfl rfl)
theorem dX0_cause_16 : decode cX0_cause 16 = .ok (.ireturn, 1) := dk_172 (dk_at dksX0_cause_0 16 rfl rfl)
theorem dX0_cause_17 : decode cX0_cause 17 = .ok (.astore 4, 2) := dk_58 4 (dk_at dksX0_cause_0 17 rfl rfl)
theorem dX0_cause_19 : decode cX0_cause 19 = .ok (.iconst 2, 1) := dk_5 (dk_at dksX0_cause_0 19 rfl rfl)
theorem dX0_cause_20 : decode cX0_cause 20 = .ok (.ireturn, 1) := dk_172 (dk_at dksX0_cause_0 20 rfl rfl)
theorem dX0_cause_21 : decode cX0_cause 21 = .ok (.iconst 0, 1) := dk_3 (dk_at dksX0_cause_0 21 rfl rfl)
theorem dX0_cause_22 : decode cX0_cause 22 = .ok (.ireturn, 1) := dk_172 (dk_at dksX0_cause_0 22 rfl rfl)
abbrev cX0_leader : ByteArray := method_21_code
def yX0_leader : MethodName := ⟨RX0, "leader", "(LKiteRoofs;[J)I"⟩
def dkwX0_leader_0 : List UInt8 := [43, 3, 42, 182, 0, 77, 133, 80, 167, 0, 6, 77, 4, 172, 3, 172]
abbrev dktX0_leader_0 : List UInt8 := dkwX0_leader_0 ++ []
theorem dksX0_leader_0 : cX0_leader.data.toList.drop 0 = dktX0_leader_0 := by decide +kernel
theorem dX0_leader_0 : decode cX0_leader 0 = .ok (.aload_n 1, 1) := dk_43 (dk_at dksX0_leader_0 0 rfl rfl)
theorem dX0_leader_1 : decode cX0_leader 1 = .ok (.iconst 0, 1) := dk_3 (dk_at dksX0_leader_0 1 rfl rfl)
theorem dX0_leader_2 : decode cX0_leader 2 = .ok (.aload_n 0, 1) := dk_42 (dk_at dksX0_leader_0 2 rfl rfl)
theorem dX0_leader_3 : decode cX0_leader 3 = .ok (.invokevirtual 77, 3) := dk_182 0 77 (dk_at dksX0_leader_0 3 rfl rfl)
theorem dX0_leader_6 : decode cX0_leader 6 = .ok (.i2l, 1) := dk_133 (dk_at dksX0_leader_0 6 rfl rfl)
theorem dX0_leader_7 : decode cX0_leader 7 = .ok (.lastore, 1) := dk_80 (dk_at dksX0_leader_0 7 rfl rfl)
theorem dX0_leader_8 : decode cX0_leader 8 = .ok (.goto 6, 3) := dk_167 0 6 (dk_at dksX0_leader_0 8 rfl rfl)
theorem dX0_leader_11 : decode cX0_leader 11 = .ok (.astore_n 2, 1) := dk_77 (dk_at dksX0_leader_0 11 rfl rfl)
theorem dX0_leader_12 : decode cX0_leader 12 = .ok (.iconst 1, 1) := dk_4 (dk_at dksX0_leader_0 12 rfl rfl)
theorem dX0_leader_13 : decode cX0_leader 13 = .ok (.ireturn, 1) := dk_172 (dk_at dksX0_leader_0 13 rfl rfl)
theorem dX0_leader_14 : decode cX0_leader 14 = .ok (.iconst 0, 1) := dk_3 (dk_at dksX0_leader_0 14 rfl rfl)
theorem dX0_leader_15 : decode cX0_leader 15 = .ok (.ireturn, 1) := dk_172 (dk_at dksX0_leader_0 15 rfl rfl)
abbrev cX0_append : ByteArray := method_22_code
def yX0_append : MethodName := ⟨RX0, "append", "(LKiteRoofs;C[J)I"⟩
def dkwX0_append_0 : List UInt8 := [44, 3, 42, 27, 182, 0, 81, 133, 80, 167, 0, 6, 78, 4, 172, 3, 172]
abbrev dktX0_append_0 : List UInt8 := dkwX0_append_0 ++ []
theorem dksX0_append_0 : cX0_append.data.toList.drop 0 = dktX0_append_0 := by decide +kernel
theorem dX0_append_0 : decode cX0_append 0 = .ok (.aload_n 2, 1) := dk_44 (dk_at dksX0_append_0 0 rfl rfl)
theorem dX0_append_1 : decode cX0_append 1 = .ok (.iconst 0, 1) := dk_3 (dk_at dksX0_append_0 1 rfl rfl)
theorem dX0_append_2 : decode cX0_append 2 = .ok (.aload_n 0, 1) := dk_42 (dk_at dksX0_append_0 2 rfl rfl)
theorem dX0_append_3 : decode cX0_append 3 = .ok (.iload_n 1, 1) := dk_27 (dk_at dksX0_append_0 3 rfl rfl)
theorem dX0_append_4 : decode cX0_append 4 = .ok (.invokevirtual 81, 3) := dk_182 0 81 (dk_at dksX0_append_0 4 rfl rfl)
theorem dX0_append_7 : decode cX0_append 7 = .ok (.i2l, 1) := dk_133 (dk_at dksX0_append_0 7 rfl rfl)
theorem dX0_append_8 : decode cX0_append 8 = .ok (.lastore, 1) := dk_80 (dk_at dksX0_append_0 8 rfl rfl)
theorem dX0_append_9 : decode cX0_append 9 = .ok (.goto 6, 3) := dk_167 0 6 (dk_at dksX0_append_0 9 rfl rfl)
theorem dX0_append_12 : decode cX0_append 12 = .ok (.astore_n 3, 1) := dk_78 (dk_at dksX0_append_0 12 rfl rfl)
theorem dX0_append_13 : decode cX0_append 13 = .ok (.iconst 1, 1) := dk_4 (dk_at dksX0_append_0 13 rfl rfl)
theorem dX0_append_14 : decode cX0_append 14 = .ok (.ireturn, 1) := dk_172 (dk_at dksX0_append_0 14 rfl rfl)
theorem dX0_append_15 : decode cX0_append 15 = .ok (.iconst 0, 1) := dk_3 (dk_at dksX0_append_0 15 rfl rfl)
theorem dX0_append_16 : decode cX0_append 16 = .ok (.ireturn, 1) := dk_172 (dk_at dksX0_append_0 16 rfl rfl)
abbrev cX0_read : ByteArray := method_23_code
def yX0_read : MethodName := ⟨RX0, "read", "(LKiteRoofs;[J)I"⟩
def dkwX0_read_0 : List UInt8 := [43, 3, 42, 182, 0, 87, 133, 80, 167, 0, 9, 77, 4, 172, 77, 5, 172, 3, 172]
abbrev dktX0_read_0 : List UInt8 := dkwX0_read_0 ++ []
theorem dksX0_read_0 : cX0_read.data.toList.drop 0 = dktX0_read_0 := by decide +kernel
theorem dX0_read_0 : decode cX0_read 0 = .ok (.aload_n 1, 1) := dk_43 (dk_at dksX0_read_0 0 rfl rfl)
theorem dX0_read_1 : decode cX0_read 1 = .ok (.iconst 0, 1) := dk_3 (dk_at dksX0_read_0 1 rfl rfl)
theorem dX0_read_2 : decode cX0_read 2 = .ok (.aload_n 0, 1) := dk_42 (dk_at dksX0_read_0 2 rfl rfl)
theorem dX0_read_3 : decode cX0_read 3 = .ok (.invokevirtual 87, 3) := dk_182 0 87 (dk_at dksX0_read_0 3 rfl rfl)
theorem dX0_read_6 : decode cX0_read 6 = .ok (.i2l, 1) := dk_133 (dk_at dksX0_read_0 6 rfl rfl)
theorem dX0_read_7 : decode cX0_read 7 = .ok (.lastore, 1) := dk_80 (dk_at dksX0_read_0 7 rfl rfl)
theorem dX0_read_8 : decode cX0_read 8 = .ok (.goto 9, 3) := dk_167 0 9 (dk_at dksX0_read_0 8 rfl rfl)
theorem dX0_read_11 : decode cX0_read 11 = .ok (.astore_n 2, 1) := dk_77 (dk_at dksX0_read_0 11 rfl rfl)
theorem dX0_read_12 : decode cX0_read 12 = .ok (.iconst 1, 1) := dk_4 (dk_at dksX0_read_0 12 rfl rfl)
theorem dX0_read_13 : decode cX0_read 13 = .ok (.ireturn, 1) := dk_172 (dk_at dksX0_read_0 13 rfl rfl)
theorem dX0_read_14 : decode cX0_read 14 = .ok (.astore_n 2, 1) := dk_77 (dk_at dksX0_read_0 14 rfl rfl)
theorem dX0_read_15 : decode cX0_read 15 = .ok (.iconst 2, 1) := dk_5 (dk_at dksX0_read_0 15 rfl rfl)
theorem dX0_read_16 : decode cX0_read 16 = .ok (.ireturn, 1) := dk_172 (dk_at dksX0_read_0 16 rfl rfl)
theorem dX0_read_17 : decode cX0_read 17 = .ok (.iconst 0, 1) := dk_3 (dk_at dksX0_read_0 17 rfl rfl)
theorem dX0_read_18 : decode cX0_read 18 = .ok (.ireturn, 1) := dk_172 (dk_at dksX0_read_0 18 rfl rfl)
abbrev cX0_refusal : ByteArray := method_24_code
def yX0_refusal : MethodName := ⟨RX0, "refusal", "(LKiteRoofs;Z[J)I"⟩
def dkwX0_refusal_0 : List UInt8 := [44, 3, 42, 27, 182, 0, 90, 133, 80, 167, 0, 6, 78, 4, 172, 3, 172]
abbrev dktX0_refusal_0 : List UInt8 := dkwX0_refusal_0 ++ []
theorem dksX0_refusal_0 : cX0_refusal.data.toList.drop 0 = dktX0_refusal_0 := by decide +kernel
theorem dX0_refusal_0 : decode cX0_refusal 0 = .ok (.aload_n 2, 1) := dk_44 (dk_at dksX0_refusal_0 0 rfl rfl)
theorem dX0_refusal_1 : decode cX0_refusal 1 = .ok (.iconst 0, 1) := dk_3 (dk_at dksX0_refusal_0 1 rfl rfl)
theorem dX0_refusal_2 : decode cX0_refusal 2 = .ok (.aload_n 0, 1) := dk_42 (dk_at dksX0_refusal_0 2 rfl rfl)
theorem dX0_refusal_3 : decode cX0_refusal 3 = .ok (.iload_n 1, 1) := dk_27 (dk_at dksX0_refusal_0 3 rfl rfl)
theorem dX0_refusal_4 : decode cX0_refusal 4 = .ok (.invokevirtual 90, 3) := dk_182 0 90 (dk_at dksX0_refusal_0 4 rfl rfl)
theorem dX0_refusal_7 : decode cX0_refusal 7 = .ok (.i2l, 1) := dk_133 (dk_at dksX0_refusal_0 7 rfl rfl)
theorem dX0_refusal_8 : decode cX0_refusal 8 = .ok (.lastore, 1) := dk_80 (dk_at dksX0_refusal_0 8 rfl rfl)
theorem dX0_refusal_9 : decode cX0_refusal 9 = .ok (.goto 6, 3) := dk_167 0 6 (dk_at dksX0_refusal_0 9 rfl rfl)
theorem dX0_refusal_12 : decode cX0_refusal 12 = .ok (.astore_n 3, 1) := dk_78 (dk_at dksX0_refusal_0 12 rfl rfl)
theorem dX0_refusal_13 : decode cX0_refusal 13 = .ok (.iconst 1, 1) := dk_4 (dk_at dksX0_refusal_0 13 rfl rfl)
theorem dX0_refusal_14 : decode cX0_refusal 14 = .ok (.ireturn, 1) := dk_172 (dk_at dksX0_refusal_0 14 rfl rfl)
theorem dX0_refusal_15 : decode cX0_refusal 15 = .ok (.iconst 0, 1) := dk_3 (dk_at dksX0_refusal_0 15 rfl rfl)
theorem dX0_refusal_16 : decode cX0_refusal 16 = .ok (.ireturn, 1) := dk_172 (dk_at dksX0_refusal_0 16 rfl rfl)
abbrev cX0_account : ByteArray := method_25_code
def yX0_account : MethodName := ⟨RX0, "account", "(LKiteRoofs;I[J)I"⟩
def dkwX0_account_0 : List UInt8 := [44, 3, 42, 27, 182, 0, 94, 133, 80, 167, 0, 6, 78, 4, 172, 3, 172]
abbrev dktX0_account_0 : List UInt8 := dkwX0_account_0 ++ []
theorem dksX0_account_0 : cX0_account.data.toList.drop 0 = dktX0_account_0 := by decide +kernel
theorem dX0_account_0 : decode cX0_account 0 = .ok (.aload_n 2, 1) := dk_44 (dk_at dksX0_account_0 0 rfl rfl)
theorem dX0_account_1 : decode cX0_account 1 = .ok (.iconst 0, 1) := dk_3 (dk_at dksX0_account_0 1 rfl rfl)
theorem dX0_account_2 : decode cX0_account 2 = .ok (.aload_n 0, 1) := dk_42 (dk_at dksX0_account_0 2 rfl rfl)
theorem dX0_account_3 : decode cX0_account 3 = .ok (.iload_n 1, 1) := dk_27 (dk_at dksX0_account_0 3 rfl rfl)
theorem dX0_account_4 : decode cX0_account 4 = .ok (.invokevirtual 94, 3) := dk_182 0 94 (dk_at dksX0_account_0 4 rfl rfl)
theorem dX0_account_7 : decode cX0_account 7 = .ok (.i2l, 1) := dk_133 (dk_at dksX0_account_0 7 rfl rfl)
theorem dX0_account_8 : decode cX0_account 8 = .ok (.lastore, 1) := dk_80 (dk_at dksX0_account_0 8 rfl rfl)
theorem dX0_account_9 : decode cX0_account 9 = .ok (.goto 6, 3) := dk_167 0 6 (dk_at dksX0_account_0 9 rfl rfl)
theorem dX0_account_12 : decode cX0_account 12 = .ok (.astore_n 3, 1) := dk_78 (dk_at dksX0_account_0 12 rfl rfl)
theorem dX0_account_13 : decode cX0_account 13 = .ok (.iconst 1, 1) := dk_4 (dk_at dksX0_account_0 13 rfl rfl)
theorem dX0_account_14 : decode cX0_account 14 = .ok (.ireturn, 1) := dk_172 (dk_at dksX0_account_0 14 rfl rfl)
theorem dX0_account_15 : decode cX0_account 15 = .ok (.iconst 0, 1) := dk_3 (dk_at dksX0_account_0 15 rfl rfl)
theorem dX0_account_16 : decode cX0_account 16 = .ok (.ireturn, 1) := dk_172 (dk_at dksX0_account_0 16 rfl rfl)
abbrev cX0_meanTension : ByteArray := method_26_code
def yX0_meanTension : MethodName := ⟨RX0, "meanTension", "(LKiteRoofs;[D)I"⟩
def dkwX0_meanTension_0 : List UInt8 := [43, 3, 42, 182, 0, 97, 82, 167, 0, 6, 77, 4, 172, 3, 172]
abbrev dktX0_meanTension_0 : List UInt8 := dkwX0_meanTension_0 ++ []
theorem dksX0_meanTension_0 : cX0_meanTension.data.toList.drop 0 = dktX0_meanTension_0 := by decide +kernel
theorem dX0_meanTension_0 : decode cX0_meanTension 0 = .ok (.aload_n 1, 1) := dk_43 (dk_at dksX0_meanTension_0 0 rfl rfl)
theorem dX0_meanTension_1 : decode cX0_meanTension 1 = .ok (.iconst 0, 1) := dk_3 (dk_at dksX0_meanTension_0 1 rfl rfl)
theorem dX0_meanTension_2 : decode cX0_meanTension 2 = .ok (.aload_n 0, 1) := dk_42 (dk_at dksX0_meanTension_0 2 rfl rfl)
theorem dX0_meanTension_3 : decode cX0_meanTension 3 = .ok (.invokevirtual 97, 3) := dk_182 0 97 (dk_at dksX0_meanTension_0 3 rfl rfl)
theorem dX0_meanTension_6 : decode cX0_meanTension 6 = .ok (.dastore, 1) := dk_82 (dk_at dksX0_meanTension_0 6 rfl rfl)
theorem dX0_meanTension_7 : decode cX0_meanTension 7 = .ok (.goto 6, 3) := dk_167 0 6 (dk_at dksX0_meanTension_0 7 rfl rfl)
theorem dX0_meanTension_10 : decode cX0_meanTension 10 = .ok (.astore_n 2, 1) := dk_77 (dk_at dksX0_meanTension_0 10 rfl rfl)
theorem dX0_meanTension_11 : decode cX0_meanTension 11 = .ok (.iconst 1, 1) := dk_4 (dk_at dksX0_meanTension_0 11 rfl rfl)
theorem dX0_meanTension_12 : decode cX0_meanTension 12 = .ok (.ireturn, 1) := dk_172 (dk_at dksX0_meanTension_0 12 rfl rfl)
theorem dX0_meanTension_13 : decode cX0_meanTension 13 = .ok (.iconst 0, 1) := dk_3 (dk_at dksX0_meanTension_0 13 rfl rfl)
theorem dX0_meanTension_14 : decode cX0_meanTension 14 = .ok (.ireturn, 1) := dk_172 (dk_at dksX0_meanTension_0 14 rfl rfl)
abbrev cX0_outShare : ByteArray := method_27_code
def yX0_outShare : MethodName := ⟨RX0, "outShare", "(LKiteRoofs;[D)I"⟩
def dkwX0_outShare_0 : List UInt8 := [43, 3, 42, 182, 0, 103, 141, 82, 167, 0, 6, 77, 4, 172, 3, 172]
abbrev dktX0_outShare_0 : List UInt8 := dkwX0_outShare_0 ++ []
theorem dksX0_outShare_0 : cX0_outShare.data.toList.drop 0 = dktX0_outShare_0 := by decide +kernel
theorem dX0_outShare_0 : decode cX0_outShare 0 = .ok (.aload_n 1, 1) := dk_43 (dk_at dksX0_outShare_0 0 rfl rfl)
theorem dX0_outShare_1 : decode cX0_outShare 1 = .ok (.iconst 0, 1) := dk_3 (dk_at dksX0_outShare_0 1 rfl rfl)
theorem dX0_outShare_2 : decode cX0_outShare 2 = .ok (.aload_n 0, 1) := dk_42 (dk_at dksX0_outShare_0 2 rfl rfl)
theorem dX0_outShare_3 : decode cX0_outShare 3 = .ok (.invokevirtual 103, 3) := dk_182 0 103 (dk_at dksX0_outShare_0 3 rfl rfl)
theorem dX0_outShare_6 : decode cX0_outShare 6 = .ok (.f2d, 1) := dk_141 (dk_at dksX0_outShare_0 6 rfl rfl)
theorem dX0_outShare_7 : decode cX0_outShare 7 = .ok (.dastore, 1) := dk_82 (dk_at dksX0_outShare_0 7 rfl rfl)
theorem dX0_outShare_8 : decode cX0_outShare 8 = .ok (.goto 6, 3) := dk_167 0 6 (dk_at dksX0_outShare_0 8 rfl rfl)
theorem dX0_outShare_11 : decode cX0_outShare 11 = .ok (.astore_n 2, 1) := dk_77 (dk_at dksX0_outShare_0 11 rfl rfl)
theorem dX0_outShare_12 : decode cX0_outShare 12 = .ok (.iconst 1, 1) := dk_4 (dk_at dksX0_outShare_0 12 rfl rfl)
theorem dX0_outShare_13 : decode cX0_outShare 13 = .ok (.ireturn, 1) := dk_172 (dk_at dksX0_outShare_0 13 rfl rfl)
theorem dX0_outShare_14 : decode cX0_outShare 14 = .ok (.iconst 0, 1) := dk_3 (dk_at dksX0_outShare_0 14 rfl rfl)
theorem dX0_outShare_15 : decode cX0_outShare 15 = .ok (.ireturn, 1) := dk_172 (dk_at dksX0_outShare_0 15 rfl rfl)
abbrev cX0_undo : ByteArray := method_28_code
def yX0_undo : MethodName := ⟨RX0, "undo", "(LKiteRoofs;[J)I"⟩
def dkwX0_undo_0 : List UInt8 := [43, 3, 42, 182, 0, 107, 133, 80, 167, 0, 6, 77, 4, 172, 3, 172]
abbrev dktX0_undo_0 : List UInt8 := dkwX0_undo_0 ++ []
theorem dksX0_undo_0 : cX0_undo.data.toList.drop 0 = dktX0_undo_0 := by decide +kernel
theorem dX0_undo_0 : decode cX0_undo 0 = .ok (.aload_n 1, 1) := dk_43 (dk_at dksX0_undo_0 0 rfl rfl)
theorem dX0_undo_1 : decode cX0_undo 1 = .ok (.iconst 0, 1) := dk_3 (dk_at dksX0_undo_0 1 rfl rfl)
theorem dX0_undo_2 : decode cX0_undo 2 = .ok (.aload_n 0, 1) := dk_42 (dk_at dksX0_undo_0 2 rfl rfl)
theorem dX0_undo_3 : decode cX0_undo 3 = .ok (.invokevirtual 107, 3) := dk_182 0 107 (dk_at dksX0_undo_0 3 rfl rfl)
theorem dX0_undo_6 : decode cX0_undo 6 = .ok (.i2l, 1) := dk_133 (dk_at dksX0_undo_0 6 rfl rfl)
theorem dX0_undo_7 : decode cX0_undo 7 = .ok (.lastore, 1) := dk_80 (dk_at dksX0_undo_0 7 rfl rfl)
theorem dX0_undo_8 : decode cX0_undo 8 = .ok (.goto 6, 3) := dk_167 0 6 (dk_at dksX0_undo_0 8 rfl rfl)
theorem dX0_undo_11 : decode cX0_undo 11 = .ok (.astore_n 2, 1) := dk_77 (dk_at dksX0_undo_0 11 rfl rfl)
theorem dX0_undo_12 : decode cX0_undo 12 = .ok (.iconst 1, 1) := dk_4 (dk_at dksX0_undo_0 12 rfl rfl)
theorem dX0_undo_13 : decode cX0_undo 13 = .ok (.ireturn, 1) := dk_172 (dk_at dksX0_undo_0 13 rfl rfl)
theorem dX0_undo_14 : decode cX0_undo 14 = .ok (.iconst 0, 1) := dk_3 (dk_at dksX0_undo_0 14 rfl rfl)
theorem dX0_undo_15 : decode cX0_undo 15 = .ok (.ireturn, 1) := dk_172 (dk_at dksX0_undo_0 15 rfl rfl)
abbrev cX0_restore : ByteArray := method_29_code
def yX0_restore : MethodName := ⟨RX0, "restore", "(LKiteRoofs;[J)I"⟩
def dkwX0_restore_0 : List UInt8 := [43, 3, 42, 182, 0, 110, 133, 80, 167, 0, 6, 77, 4, 172, 3, 172]
abbrev dktX0_restore_0 : List UInt8 := dkwX0_restore_0 ++ []
theorem dksX0_restore_0 : cX0_restore.data.toList.drop 0 = dktX0_restore_0 := by decide +kernel
theorem dX0_restore_0 : decode cX0_restore 0 = .ok (.aload_n 1, 1) := dk_43 (dk_at dksX0_restore_0 0 rfl rfl)
theorem dX0_restore_1 : decode cX0_restore 1 = .ok (.iconst 0, 1) := dk_3 (dk_at dksX0_restore_0 1 rfl rfl)
theorem dX0_restore_2 : decode cX0_restore 2 = .ok (.aload_n 0, 1) := dk_42 (dk_at dksX0_restore_0 2 rfl rfl)
theorem dX0_restore_3 : decode cX0_restore 3 = .ok (.invokevirtual 110, 3) := dk_182 0 110 (dk_at dksX0_restore_0 3 rfl rfl)
theorem dX0_restore_6 : decode cX0_restore 6 = .ok (.i2l, 1) := dk_133 (dk_at dksX0_restore_0 6 rfl rfl)
theorem dX0_restore_7 : decode cX0_restore 7 = .ok (.lastore, 1) := dk_80 (dk_at dksX0_restore_0 7 rfl rfl)
theorem dX0_restore_8 : decode cX0_restore 8 = .ok (.goto 6, 3) := dk_167 0 6 (dk_at dksX0_restore_0 8 rfl rfl)
theorem dX0_restore_11 : decode cX0_restore 11 = .ok (.astore_n 2, 1) := dk_77 (dk_at dksX0_restore_0 11 rfl rfl)
theorem dX0_restore_12 : decode cX0_restore 12 = .ok (.iconst 1, 1) := dk_4 (dk_at dksX0_restore_0 12 rfl rfl)
theorem dX0_restore_13 : decode cX0_restore 13 = .ok (.ireturn, 1) := dk_172 (dk_at dksX0_restore_0 13 rfl rfl)
theorem dX0_restore_14 : decode cX0_restore 14 = .ok (.iconst 0, 1) := dk_3 (dk_at dksX0_restore_0 14 rfl rfl)
theorem dX0_restore_15 : decode cX0_restore 15 = .ok (.ireturn, 1) := dk_172 (dk_at dksX0_restore_0 15 rfl rfl)
theorem q68 : (Jvm.Cond.initialized "KiteRoofsLaw") ∈ lw_all := lw_g (lw_at lw_m1 0 rfl) rfl
theorem q109 : (Jvm.Cond.classLink "KiteRoofsLaw" (8 : Nat) "KiteRoofs") ∈ lw_all := lw_g (lw_at lw_m1 41 rfl) rfl
theorem q111 : (Jvm.Cond.methodLink "KiteRoofsLaw" (113 : Nat) ({ cls := "KiteRoofs", name := "<init>", desc := "()V" } : Jvm.MethodName)) ∈ lw_all := lw_g (lw_at lw_m1 43 rfl) rfl
theorem q304 : (Jvm.Cond.methodLink "KiteRoofsLaw" (192 : Nat) ({ cls := "KiteRoofs", name := "faultPosition", desc := "()I" } : Jvm.MethodName)) ∈ lw_all := lw_g (lw_at lw_m1 236 rfl) rfl
theorem q308 : (Jvm.Cond.methodLink "KiteRoofsLaw" (203 : Nat) ({ cls := "KiteRoofs", name := "isBalanced", desc := "()Z" } : Jvm.MethodName)) ∈ lw_all := lw_g (lw_at lw_m2 0 rfl) rfl
theorem q325 : (Jvm.Cond.methodLink "KiteRoofsLaw" (218 : Nat) ({ cls := "KiteRoofs", name := "save", desc := "()I" } : Jvm.MethodName)) ∈ lw_all := lw_g (lw_at lw_m2 17 rfl) rfl
theorem q362 : (Jvm.Cond.methodLink "KiteRoofsLaw" (117 : Nat) ({ cls := "KiteRoofsLaw", name := "wind", desc := "(LKiteRoofs;III[J)I" } : Jvm.MethodName)) ∈ lw_all := lw_g (lw_at lw_m2 54 rfl) rfl
theorem q363 : (Jvm.Cond.static ({ cls := "KiteRoofsLaw", name := "wind", desc := "(LKiteRoofs;III[J)I" } : Jvm.MethodName)) ∈ lw_all := lw_g (lw_at lw_m2 55 rfl) rfl
theorem q364 : (Jvm.Cond.codeWith ({ cls := "KiteRoofsLaw", name := "wind", desc := "(LKiteRoofs;III[J)I" } : Jvm.MethodName) method_3_code (6 : Nat) (Option.some Jvm.ClassFile.FieldType.int) [((0 : Nat), (12 : Nat), (15 : Nat), (13 : Nat)), ((0 : Nat), (12 : Nat), (19 : Nat), (15 : Nat))]) ∈ lw_all := lw_g (lw_at lw_m2 56 rfl) rfl
theorem q365 : (Jvm.Cond.classLink "KiteRoofsLaw" (13 : Nat) "java/lang/IndexOutOfBoundsException") ∈ lw_all := lw_g (lw_at lw_m2 57 rfl) rfl
theorem q445 : (Jvm.Cond.classLink "KiteRoofsLaw" (15 : Nat) "java/lang/IllegalArgumentException") ∈ lw_all := lw_g (lw_at lw_m2 137 rfl) rfl
theorem q446 : (Jvm.Cond.methodLink "KiteRoofsLaw" (7 : Nat) ({ cls := "KiteRoofs", name := "wind", desc := "(III)I" } : Jvm.MethodName)) ∈ lw_all := lw_g (lw_at lw_m2 138 rfl) rfl
theorem q596 : (Jvm.Cond.methodLink "KiteRoofsLaw" (126 : Nat) ({ cls := "KiteRoofsLaw", name := "windOf", desc := "(LKiteRoofs;IZ[J)I" } : Jvm.MethodName)) ∈ lw_all := lw_g (lw_at lw_m3 48 rfl) rfl
theorem q597 : (Jvm.Cond.static ({ cls := "KiteRoofsLaw", name := "windOf", desc := "(LKiteRoofs;IZ[J)I" } : Jvm.MethodName)) ∈ lw_all := lw_g (lw_at lw_m3 49 rfl) rfl
theorem q598 : (Jvm.Cond.codeWith ({ cls := "KiteRoofsLaw", name := "windOf", desc := "(LKiteRoofs;IZ[J)I" } : Jvm.MethodName) method_4_code (5 : Nat) (Option.some Jvm.ClassFile.FieldType.int) [((0 : Nat), (10 : Nat), (13 : Nat), (13 : Nat))]) ∈ lw_all := lw_g (lw_at lw_m3 50 rfl) rfl
theorem q599 : (Jvm.Cond.methodLink "KiteRoofsLaw" (17 : Nat) ({ cls := "KiteRoofs", name := "windOf", desc := "(IZ)I" } : Jvm.MethodName)) ∈ lw_all := lw_g (lw_at lw_m3 51 rfl) rfl
theorem q603 : (Jvm.Cond.methodLink "KiteRoofsLaw" (130 : Nat) ({ cls := "KiteRoofsLaw", name := "kite", desc := "(LKiteRoofs;IIII[J)I" } : Jvm.MethodName)) ∈ lw_all := lw_g (lw_at lw_m3 55 rfl) rfl
theorem q604 : (Jvm.Cond.static ({ cls := "KiteRoofsLaw", name := "kite", desc := "(LKiteRoofs;IIII[J)I" } : Jvm.MethodName)) ∈ lw_all := lw_g (lw_at lw_m3 56 rfl) rfl
theorem q605 : (Jvm.Cond.codeWith ({ cls := "KiteRoofsLaw", name := "kite", desc := "(LKiteRoofs;IIII[J)I" } : Jvm.MethodName) method_5_code (7 : Nat) (Option.some Jvm.ClassFile.FieldType.int) [((0 : Nat), (14 : Nat), (17 : Nat), (15 : Nat)), ((0 : Nat), (14 : Nat), (21 : Nat), (25 : Nat))]) ∈ lw_all := lw_g (lw_at lw_m3 57 rfl) rfl
theorem q606 : (Jvm.Cond.classLink "KiteRoofsLaw" (25 : Nat) "java/lang/UnsupportedOperationException") ∈ lw_all := lw_g (lw_at lw_m3 58 rfl) rfl
theorem q607 : (Jvm.Cond.methodLink "KiteRoofsLaw" (21 : Nat) ({ cls := "KiteRoofs", name := "kite", desc := "(IIII)I" } : Jvm.MethodName)) ∈ lw_all := lw_g (lw_at lw_m3 59 rfl) rfl
theorem q649 : (Jvm.Cond.methodLink "KiteRoofsLaw" (134 : Nat) ({ cls := "KiteRoofsLaw", name := "launch", desc := "(LKiteRoofs;I[J)I" } : Jvm.MethodName)) ∈ lw_all := lw_g (lw_at lw_m3 101 rfl) rfl
theorem q650 : (Jvm.Cond.static ({ cls := "KiteRoofsLaw", name := "launch", desc := "(LKiteRoofs;I[J)I" } : Jvm.MethodName)) ∈ lw_all := lw_g (lw_at lw_m3 102 rfl) rfl
theorem q651 : (Jvm.Cond.codeWith ({ cls := "KiteRoofsLaw", name := "launch", desc := "(LKiteRoofs;I[J)I" } : Jvm.MethodName) method_6_code (4 : Nat) (Option.some Jvm.ClassFile.FieldType.int) [((0 : Nat), (9 : Nat), (12 : Nat), (13 : Nat)), ((0 : Nat), (9 : Nat), (15 : Nat), (25 : Nat))]) ∈ lw_all := lw_g (lw_at lw_m3 103 rfl) rfl
theorem q652 : (Jvm.Cond.methodLink "KiteRoofsLaw" (27 : Nat) ({ cls := "KiteRoofs", name := "launch", desc := "(I)I" } : Jvm.MethodName)) ∈ lw_all := lw_g (lw_at lw_m3 104 rfl) rfl
theorem q701 : (Jvm.Cond.methodLink "KiteRoofsLaw" (138 : Nat) ({ cls := "KiteRoofsLaw", name := "reel", desc := "(LKiteRoofs;II[J)I" } : Jvm.MethodName)) ∈ lw_all := lw_g (lw_at lw_m3 153 rfl) rfl
theorem q702 : (Jvm.Cond.static ({ cls := "KiteRoofsLaw", name := "reel", desc := "(LKiteRoofs;II[J)I" } : Jvm.MethodName)) ∈ lw_all := lw_g (lw_at lw_m3 154 rfl) rfl
theorem q703 : (Jvm.Cond.codeWith ({ cls := "KiteRoofsLaw", name := "reel", desc := "(LKiteRoofs;II[J)I" } : Jvm.MethodName) method_7_code (5 : Nat) (Option.some Jvm.ClassFile.FieldType.int) [((0 : Nat), (10 : Nat), (13 : Nat), (13 : Nat)), ((0 : Nat), (10 : Nat), (17 : Nat), (15 : Nat)), ((0 : Nat), (10 : Nat), (21 : Nat), (25 : Nat))]) ∈ lw_all := lw_g (lw_at lw_m3 155 rfl) rfl
theorem q704 : (Jvm.Cond.methodLink "KiteRoofsLaw" (31 : Nat) ({ cls := "KiteRoofs", name := "reel", desc := "(II)I" } : Jvm.MethodName)) ∈ lw_all := lw_g (lw_at lw_m3 156 rfl) rfl
theorem q736 : (Jvm.Cond.methodLink "KiteRoofsLaw" (142 : Nat) ({ cls := "KiteRoofsLaw", name := "setSpeed", desc := "(LKiteRoofs;II[J)I" } : Jvm.MethodName)) ∈ lw_all := lw_g (lw_at lw_m3 188 rfl) rfl
theorem q737 : (Jvm.Cond.static ({ cls := "KiteRoofsLaw", name := "setSpeed", desc := "(LKiteRoofs;II[J)I" } : Jvm.MethodName)) ∈ lw_all := lw_g (lw_at lw_m3 189 rfl) rfl
theorem q738 : (Jvm.Cond.codeWith ({ cls := "KiteRoofsLaw", name := "setSpeed", desc := "(LKiteRoofs;II[J)I" } : Jvm.MethodName) method_8_code (5 : Nat) (Option.some Jvm.ClassFile.FieldType.int) [((0 : Nat), (10 : Nat), (13 : Nat), (13 : Nat)), ((0 : Nat), (10 : Nat), (17 : Nat), (15 : Nat))]) ∈ lw_all := lw_g (lw_at lw_m3 190 rfl) rfl
theorem q739 : (Jvm.Cond.methodLink "KiteRoofsLaw" (35 : Nat) ({ cls := "KiteRoofs", name := "setSpeed", desc := "(II)I" } : Jvm.MethodName)) ∈ lw_all := lw_g (lw_at lw_m3 191 rfl) rfl
theorem q747 : (Jvm.Cond.methodLink "KiteRoofsLaw" (145 : Nat) ({ cls := "KiteRoofsLaw", name := "land", desc := "(LKiteRoofs;I[J)I" } : Jvm.MethodName)) ∈ lw_all := lw_g (lw_at lw_m3 199 rfl) rfl
theorem q748 : (Jvm.Cond.static ({ cls := "KiteRoofsLaw", name := "land", desc := "(LKiteRoofs;I[J)I" } : Jvm.MethodName)) ∈ lw_all := lw_g (lw_at lw_m3 200 rfl) rfl
theorem q749 : (Jvm.Cond.codeWith ({ cls := "KiteRoofsLaw", name := "land", desc := "(LKiteRoofs;I[J)I" } : Jvm.MethodName) method_9_code (4 : Nat) (Option.some Jvm.ClassFile.FieldType.int) [((0 : Nat), (9 : Nat), (12 : Nat), (13 : Nat)), ((0 : Nat), (9 : Nat), (15 : Nat), (25 : Nat))]) ∈ lw_all := lw_g (lw_at lw_m3 201 rfl) rfl
theorem q750 : (Jvm.Cond.methodLink "KiteRoofsLaw" (38 : Nat) ({ cls := "KiteRoofs", name := "land", desc := "(I)I" } : Jvm.MethodName)) ∈ lw_all := lw_g (lw_at lw_m3 202 rfl) rfl
theorem q761 : (Jvm.Cond.methodLink "KiteRoofsLaw" (148 : Nat) ({ cls := "KiteRoofsLaw", name := "tie", desc := "(LKiteRoofs;I[J)I" } : Jvm.MethodName)) ∈ lw_all := lw_g (lw_at lw_m3 213 rfl) rfl
theorem q762 : (Jvm.Cond.static ({ cls := "KiteRoofsLaw", name := "tie", desc := "(LKiteRoofs;I[J)I" } : Jvm.MethodName)) ∈ lw_all := lw_g (lw_at lw_m3 214 rfl) rfl
theorem q763 : (Jvm.Cond.codeWith ({ cls := "KiteRoofsLaw", name := "tie", desc := "(LKiteRoofs;I[J)I" } : Jvm.MethodName) method_10_code (4 : Nat) (Option.some Jvm.ClassFile.FieldType.int) [((0 : Nat), (9 : Nat), (12 : Nat), (13 : Nat)), ((0 : Nat), (9 : Nat), (15 : Nat), (25 : Nat))]) ∈ lw_all := lw_g (lw_at lw_m3 215 rfl) rfl
theorem q764 : (Jvm.Cond.methodLink "KiteRoofsLaw" (41 : Nat) ({ cls := "KiteRoofs", name := "tie", desc := "(I)I" } : Jvm.MethodName)) ∈ lw_all := lw_g (lw_at lw_m3 216 rfl) rfl
theorem q777 : (Jvm.Cond.methodLink "KiteRoofsLaw" (151 : Nat) ({ cls := "KiteRoofsLaw", name := "kiteOf", desc := "(LKiteRoofs;II[J)I" } : Jvm.MethodName)) ∈ lw_all := lw_g (lw_at lw_m3 229 rfl) rfl
theorem q778 : (Jvm.Cond.static ({ cls := "KiteRoofsLaw", name := "kiteOf", desc := "(LKiteRoofs;II[J)I" } : Jvm.MethodName)) ∈ lw_all := lw_g (lw_at lw_m3 230 rfl) rfl
theorem q779 : (Jvm.Cond.codeWith ({ cls := "KiteRoofsLaw", name := "kiteOf", desc := "(LKiteRoofs;II[J)I" } : Jvm.MethodName) method_11_code (5 : Nat) (Option.some Jvm.ClassFile.FieldType.int) [((0 : Nat), (10 : Nat), (13 : Nat), (13 : Nat)), ((0 : Nat), (10 : Nat), (17 : Nat), (15 : Nat))]) ∈ lw_all := lw_g (lw_at lw_m3 231 rfl) rfl
theorem q780 : (Jvm.Cond.methodLink "KiteRoofsLaw" (44 : Nat) ({ cls := "KiteRoofs", name := "kiteOf", desc := "(II)I" } : Jvm.MethodName)) ∈ lw_all := lw_g (lw_at lw_m3 232 rfl) rfl
theorem q856 : (Jvm.Cond.methodLink "KiteRoofsLaw" (154 : Nat) ({ cls := "KiteRoofsLaw", name := "state", desc := "(LKiteRoofs;I[J)I" } : Jvm.MethodName)) ∈ lw_all := lw_g (lw_at lw_m4 68 rfl) rfl
theorem q857 : (Jvm.Cond.static ({ cls := "KiteRoofsLaw", name := "state", desc := "(LKiteRoofs;I[J)I" } : Jvm.MethodName)) ∈ lw_all := lw_g (lw_at lw_m4 69 rfl) rfl
theorem q858 : (Jvm.Cond.codeWith ({ cls := "KiteRoofsLaw", name := "state", desc := "(LKiteRoofs;I[J)I" } : Jvm.MethodName) method_12_code (4 : Nat) (Option.some Jvm.ClassFile.FieldType.int) [((0 : Nat), (9 : Nat), (12 : Nat), (13 : Nat))]) ∈ lw_all := lw_g (lw_at lw_m4 70 rfl) rfl
theorem q859 : (Jvm.Cond.methodLink "KiteRoofsLaw" (47 : Nat) ({ cls := "KiteRoofs", name := "state", desc := "(I)C" } : Jvm.MethodName)) ∈ lw_all := lw_g (lw_at lw_m4 71 rfl) rfl
theorem q882 : (Jvm.Cond.methodLink "KiteRoofsLaw" (157 : Nat) ({ cls := "KiteRoofsLaw", name := "heightAgain", desc := "(LKiteRoofs;I[J)I" } : Jvm.MethodName)) ∈ lw_all := lw_g (lw_at lw_m4 94 rfl) rfl
theorem q883 : (Jvm.Cond.static ({ cls := "KiteRoofsLaw", name := "heightAgain", desc := "(LKiteRoofs;I[J)I" } : Jvm.MethodName)) ∈ lw_all := lw_g (lw_at lw_m4 95 rfl) rfl
theorem q884 : (Jvm.Cond.codeWith ({ cls := "KiteRoofsLaw", name := "heightAgain", desc := "(LKiteRoofs;I[J)I" } : Jvm.MethodName) method_13_code (4 : Nat) (Option.some Jvm.ClassFile.FieldType.int) [((0 : Nat), (9 : Nat), (12 : Nat), (13 : Nat))]) ∈ lw_all := lw_g (lw_at lw_m4 96 rfl) rfl
theorem q885 : (Jvm.Cond.methodLink "KiteRoofsLaw" (51 : Nat) ({ cls := "KiteRoofs", name := "heightAgain", desc := "(I)I" } : Jvm.MethodName)) ∈ lw_all := lw_g (lw_at lw_m4 97 rfl) rfl
theorem q893 : (Jvm.Cond.methodLink "KiteRoofsLaw" (160 : Nat) ({ cls := "KiteRoofsLaw", name := "placeAt", desc := "(LKiteRoofs;II[J)I" } : Jvm.MethodName)) ∈ lw_all := lw_g (lw_at lw_m4 105 rfl) rfl
theorem q894 : (Jvm.Cond.static ({ cls := "KiteRoofsLaw", name := "placeAt", desc := "(LKiteRoofs;II[J)I" } : Jvm.MethodName)) ∈ lw_all := lw_g (lw_at lw_m4 106 rfl) rfl
theorem q895 : (Jvm.Cond.codeWith ({ cls := "KiteRoofsLaw", name := "placeAt", desc := "(LKiteRoofs;II[J)I" } : Jvm.MethodName) method_14_code (5 : Nat) (Option.some Jvm.ClassFile.FieldType.int) [((0 : Nat), (10 : Nat), (13 : Nat), (13 : Nat)), ((0 : Nat), (10 : Nat), (17 : Nat), (57 : Nat))]) ∈ lw_all := lw_g (lw_at lw_m4 107 rfl) rfl
theorem q896 : (Jvm.Cond.classLink "KiteRoofsLaw" (57 : Nat) "java/util/NoSuchElementException") ∈ lw_all := lw_g (lw_at lw_m4 108 rfl) rfl
theorem q897 : (Jvm.Cond.methodLink "KiteRoofsLaw" (54 : Nat) ({ cls := "KiteRoofs", name := "placeAt", desc := "(II)I" } : Jvm.MethodName)) ∈ lw_all := lw_g (lw_at lw_m4 109 rfl) rfl
theorem q920 : (Jvm.Cond.methodLink "KiteRoofsLaw" (163 : Nat) ({ cls := "KiteRoofsLaw", name := "crossing", desc := "(LKiteRoofs;II[J)I" } : Jvm.MethodName)) ∈ lw_all := lw_g (lw_at lw_m4 132 rfl) rfl
theorem q921 : (Jvm.Cond.static ({ cls := "KiteRoofsLaw", name := "crossing", desc := "(LKiteRoofs;II[J)I" } : Jvm.MethodName)) ∈ lw_all := lw_g (lw_at lw_m4 133 rfl) rfl
theorem q922 : (Jvm.Cond.codeWith ({ cls := "KiteRoofsLaw", name := "crossing", desc := "(LKiteRoofs;II[J)I" } : Jvm.MethodName) method_15_code (5 : Nat) (Option.some Jvm.ClassFile.FieldType.int) [((0 : Nat), (10 : Nat), (13 : Nat), (13 : Nat))]) ∈ lw_all := lw_g (lw_at lw_m4 134 rfl) rfl
theorem q923 : (Jvm.Cond.methodLink "KiteRoofsLaw" (59 : Nat) ({ cls := "KiteRoofs", name := "crossing", desc := "(II)I" } : Jvm.MethodName)) ∈ lw_all := lw_g (lw_at lw_m4 135 rfl) rfl
theorem q936 : (Jvm.Cond.methodLink "KiteRoofsLaw" (166 : Nat) ({ cls := "KiteRoofsLaw", name := "wears", desc := "(LKiteRoofs;I[J)I" } : Jvm.MethodName)) ∈ lw_all := lw_g (lw_at lw_m4 148 rfl) rfl
theorem q937 : (Jvm.Cond.static ({ cls := "KiteRoofsLaw", name := "wears", desc := "(LKiteRoofs;I[J)I" } : Jvm.MethodName)) ∈ lw_all := lw_g (lw_at lw_m4 149 rfl) rfl
theorem q938 : (Jvm.Cond.codeWith ({ cls := "KiteRoofsLaw", name := "wears", desc := "(LKiteRoofs;I[J)I" } : Jvm.MethodName) method_16_code (4 : Nat) (Option.some Jvm.ClassFile.FieldType.int) [((0 : Nat), (9 : Nat), (12 : Nat), (13 : Nat))]) ∈ lw_all := lw_g (lw_at lw_m4 150 rfl) rfl
theorem q939 : (Jvm.Cond.methodLink "KiteRoofsLaw" (62 : Nat) ({ cls := "KiteRoofs", name := "wears", desc := "(I)I" } : Jvm.MethodName)) ∈ lw_all := lw_g (lw_at lw_m4 151 rfl) rfl
theorem q953 : (Jvm.Cond.methodLink "KiteRoofsLaw" (169 : Nat) ({ cls := "KiteRoofsLaw", name := "round", desc := "(LKiteRoofs;I[J)I" } : Jvm.MethodName)) ∈ lw_all := lw_g (lw_at lw_m4 165 rfl) rfl
theorem q954 : (Jvm.Cond.static ({ cls := "KiteRoofsLaw", name := "round", desc := "(LKiteRoofs;I[J)I" } : Jvm.MethodName)) ∈ lw_all := lw_g (lw_at lw_m4 166 rfl) rfl
theorem q955 : (Jvm.Cond.codeWith ({ cls := "KiteRoofsLaw", name := "round", desc := "(LKiteRoofs;I[J)I" } : Jvm.MethodName) method_17_code (4 : Nat) (Option.some Jvm.ClassFile.FieldType.int) [((0 : Nat), (9 : Nat), (12 : Nat), (15 : Nat))]) ∈ lw_all := lw_g (lw_at lw_m4 167 rfl) rfl
theorem q956 : (Jvm.Cond.methodLink "KiteRoofsLaw" (65 : Nat) ({ cls := "KiteRoofs", name := "round", desc := "(I)I" } : Jvm.MethodName)) ∈ lw_all := lw_g (lw_at lw_m4 168 rfl) rfl
theorem q1032 : (Jvm.Cond.methodLink "KiteRoofsLaw" (172 : Nat) ({ cls := "KiteRoofsLaw", name := "cutIn", desc := "(LKiteRoofs;II[J)I" } : Jvm.MethodName)) ∈ lw_all := lw_g (lw_at lw_m5 4 rfl) rfl
theorem q1033 : (Jvm.Cond.static ({ cls := "KiteRoofsLaw", name := "cutIn", desc := "(LKiteRoofs;II[J)I" } : Jvm.MethodName)) ∈ lw_all := lw_g (lw_at lw_m5 5 rfl) rfl
theorem q1034 : (Jvm.Cond.codeWith ({ cls := "KiteRoofsLaw", name := "cutIn", desc := "(LKiteRoofs;II[J)I" } : Jvm.MethodName) method_18_code (5 : Nat) (Option.some Jvm.ClassFile.FieldType.int) [((0 : Nat), (10 : Nat), (13 : Nat), (13 : Nat)), ((0 : Nat), (10 : Nat), (17 : Nat), (15 : Nat)), ((0 : Nat), (10 : Nat), (21 : Nat), (25 : Nat))]) ∈ lw_all := lw_g (lw_at lw_m5 6 rfl) rfl
theorem q1035 : (Jvm.Cond.methodLink "KiteRoofsLaw" (68 : Nat) ({ cls := "KiteRoofs", name := "cutIn", desc := "(II)I" } : Jvm.MethodName)) ∈ lw_all := lw_g (lw_at lw_m5 7 rfl) rfl
theorem q1039 : (Jvm.Cond.methodLink "KiteRoofsLaw" (175 : Nat) ({ cls := "KiteRoofsLaw", name := "bestSpeed", desc := "(LKiteRoofs;II[J)I" } : Jvm.MethodName)) ∈ lw_all := lw_g (lw_at lw_m5 11 rfl) rfl
theorem q1040 : (Jvm.Cond.static ({ cls := "KiteRoofsLaw", name := "bestSpeed", desc := "(LKiteRoofs;II[J)I" } : Jvm.MethodName)) ∈ lw_all := lw_g (lw_at lw_m5 12 rfl) rfl
theorem q1041 : (Jvm.Cond.codeWith ({ cls := "KiteRoofsLaw", name := "bestSpeed", desc := "(LKiteRoofs;II[J)I" } : Jvm.MethodName) method_19_code (5 : Nat) (Option.some Jvm.ClassFile.FieldType.int) [((0 : Nat), (10 : Nat), (13 : Nat), (13 : Nat)), ((0 : Nat), (10 : Nat), (17 : Nat), (15 : Nat)), ((0 : Nat), (10 : Nat), (21 : Nat), (25 : Nat))]) ∈ lw_all := lw_g (lw_at lw_m5 13 rfl) rfl
theorem q1042 : (Jvm.Cond.methodLink "KiteRoofsLaw" (71 : Nat) ({ cls := "KiteRoofs", name := "bestSpeed", desc := "(II)I" } : Jvm.MethodName)) ∈ lw_all := lw_g (lw_at lw_m5 14 rfl) rfl
theorem q1050 : (Jvm.Cond.methodLink "KiteRoofsLaw" (178 : Nat) ({ cls := "KiteRoofsLaw", name := "cause", desc := "(LKiteRoofs;II[J)I" } : Jvm.MethodName)) ∈ lw_all := lw_g (lw_at lw_m5 22 rfl) rfl
theorem q1051 : (Jvm.Cond.static ({ cls := "KiteRoofsLaw", name := "cause", desc := "(LKiteRoofs;II[J)I" } : Jvm.MethodName)) ∈ lw_all := lw_g (lw_at lw_m5 23 rfl) rfl
theorem q1052 : (Jvm.Cond.codeWith ({ cls := "KiteRoofsLaw", name := "cause", desc := "(LKiteRoofs;II[J)I" } : Jvm.MethodName) method_20_code (5 : Nat) (Option.some Jvm.ClassFile.FieldType.int) [((0 : Nat), (10 : Nat), (13 : Nat), (13 : Nat)), ((0 : Nat), (10 : Nat), (17 : Nat), (57 : Nat))]) ∈ lw_all := lw_g (lw_at lw_m5 24 rfl) rfl
theorem q1053 : (Jvm.Cond.methodLink "KiteRoofsLaw" (74 : Nat) ({ cls := "KiteRoofs", name := "cause", desc := "(II)I" } : Jvm.MethodName)) ∈ lw_all := lw_g (lw_at lw_m5 25 rfl) rfl
theorem q1062 : (Jvm.Cond.methodLink "KiteRoofsLaw" (181 : Nat) ({ cls := "KiteRoofsLaw", name := "leader", desc := "(LKiteRoofs;[J)I" } : Jvm.MethodName)) ∈ lw_all := lw_g (lw_at lw_m5 34 rfl) rfl
theorem q1063 : (Jvm.Cond.static ({ cls := "KiteRoofsLaw", name := "leader", desc := "(LKiteRoofs;[J)I" } : Jvm.MethodName)) ∈ lw_all := lw_g (lw_at lw_m5 35 rfl) rfl
theorem q1064 : (Jvm.Cond.codeWith ({ cls := "KiteRoofsLaw", name := "leader", desc := "(LKiteRoofs;[J)I" } : Jvm.MethodName) method_21_code (3 : Nat) (Option.some Jvm.ClassFile.FieldType.int) [((0 : Nat), (8 : Nat), (11 : Nat), (57 : Nat))]) ∈ lw_all := lw_g (lw_at lw_m5 36 rfl) rfl
theorem q1065 : (Jvm.Cond.methodLink "KiteRoofsLaw" (77 : Nat) ({ cls := "KiteRoofs", name := "leader", desc := "()I" } : Jvm.MethodName)) ∈ lw_all := lw_g (lw_at lw_m5 37 rfl) rfl
theorem q1069 : (Jvm.Cond.methodLink "KiteRoofsLaw" (185 : Nat) ({ cls := "KiteRoofsLaw", name := "append", desc := "(LKiteRoofs;C[J)I" } : Jvm.MethodName)) ∈ lw_all := lw_g (lw_at lw_m5 41 rfl) rfl
theorem q1070 : (Jvm.Cond.static ({ cls := "KiteRoofsLaw", name := "append", desc := "(LKiteRoofs;C[J)I" } : Jvm.MethodName)) ∈ lw_all := lw_g (lw_at lw_m5 42 rfl) rfl
theorem q1071 : (Jvm.Cond.codeWith ({ cls := "KiteRoofsLaw", name := "append", desc := "(LKiteRoofs;C[J)I" } : Jvm.MethodName) method_22_code (4 : Nat) (Option.some Jvm.ClassFile.FieldType.int) [((0 : Nat), (9 : Nat), (12 : Nat), (85 : Nat))]) ∈ lw_all := lw_g (lw_at lw_m5 43 rfl) rfl
theorem q1072 : (Jvm.Cond.classLink "KiteRoofsLaw" (85 : Nat) "java/lang/IllegalStateException") ∈ lw_all := lw_g (lw_at lw_m5 44 rfl) rfl
theorem q1073 : (Jvm.Cond.methodLink "KiteRoofsLaw" (81 : Nat) ({ cls := "KiteRoofs", name := "append", desc := "(C)I" } : Jvm.MethodName)) ∈ lw_all := lw_g (lw_at lw_m5 45 rfl) rfl
theorem q1179 : (Jvm.Cond.methodLink "KiteRoofsLaw" (189 : Nat) ({ cls := "KiteRoofsLaw", name := "read", desc := "(LKiteRoofs;[J)I" } : Jvm.MethodName)) ∈ lw_all := lw_g (lw_at lw_m5 151 rfl) rfl
theorem q1180 : (Jvm.Cond.static ({ cls := "KiteRoofsLaw", name := "read", desc := "(LKiteRoofs;[J)I" } : Jvm.MethodName)) ∈ lw_all := lw_g (lw_at lw_m5 152 rfl) rfl
theorem q1181 : (Jvm.Cond.codeWith ({ cls := "KiteRoofsLaw", name := "read", desc := "(LKiteRoofs;[J)I" } : Jvm.MethodName) method_23_code (3 : Nat) (Option.some Jvm.ClassFile.FieldType.int) [((0 : Nat), (8 : Nat), (11 : Nat), (15 : Nat)), ((0 : Nat), (8 : Nat), (14 : Nat), (25 : Nat))]) ∈ lw_all := lw_g (lw_at lw_m5 153 rfl) rfl
theorem q1182 : (Jvm.Cond.methodLink "KiteRoofsLaw" (87 : Nat) ({ cls := "KiteRoofs", name := "read", desc := "()I" } : Jvm.MethodName)) ∈ lw_all := lw_g (lw_at lw_m5 154 rfl) rfl
theorem q1514 : (Jvm.Cond.methodLink "KiteRoofsLaw" (196 : Nat) ({ cls := "KiteRoofsLaw", name := "refusal", desc := "(LKiteRoofs;Z[J)I" } : Jvm.MethodName)) ∈ lw_all := lw_g (lw_at lw_m7 6 rfl) rfl
theorem q1515 : (Jvm.Cond.static ({ cls := "KiteRoofsLaw", name := "refusal", desc := "(LKiteRoofs;Z[J)I" } : Jvm.MethodName)) ∈ lw_all := lw_g (lw_at lw_m7 7 rfl) rfl
theorem q1516 : (Jvm.Cond.codeWith ({ cls := "KiteRoofsLaw", name := "refusal", desc := "(LKiteRoofs;Z[J)I" } : Jvm.MethodName) method_24_code (4 : Nat) (Option.some Jvm.ClassFile.FieldType.int) [((0 : Nat), (9 : Nat), (12 : Nat), (57 : Nat))]) ∈ lw_all := lw_g (lw_at lw_m7 8 rfl) rfl
theorem q1517 : (Jvm.Cond.methodLink "KiteRoofsLaw" (90 : Nat) ({ cls := "KiteRoofs", name := "refusal", desc := "(Z)I" } : Jvm.MethodName)) ∈ lw_all := lw_g (lw_at lw_m7 9 rfl) rfl
theorem q1521 : (Jvm.Cond.methodLink "KiteRoofsLaw" (200 : Nat) ({ cls := "KiteRoofsLaw", name := "account", desc := "(LKiteRoofs;I[J)I" } : Jvm.MethodName)) ∈ lw_all := lw_g (lw_at lw_m7 13 rfl) rfl
theorem q1522 : (Jvm.Cond.static ({ cls := "KiteRoofsLaw", name := "account", desc := "(LKiteRoofs;I[J)I" } : Jvm.MethodName)) ∈ lw_all := lw_g (lw_at lw_m7 14 rfl) rfl
theorem q1523 : (Jvm.Cond.codeWith ({ cls := "KiteRoofsLaw", name := "account", desc := "(LKiteRoofs;I[J)I" } : Jvm.MethodName) method_25_code (4 : Nat) (Option.some Jvm.ClassFile.FieldType.int) [((0 : Nat), (9 : Nat), (12 : Nat), (15 : Nat))]) ∈ lw_all := lw_g (lw_at lw_m7 15 rfl) rfl
theorem q1524 : (Jvm.Cond.methodLink "KiteRoofsLaw" (94 : Nat) ({ cls := "KiteRoofs", name := "account", desc := "(I)I" } : Jvm.MethodName)) ∈ lw_all := lw_g (lw_at lw_m7 16 rfl) rfl
theorem q1538 : (Jvm.Cond.methodLink "KiteRoofsLaw" (208 : Nat) ({ cls := "KiteRoofsLaw", name := "meanTension", desc := "(LKiteRoofs;[D)I" } : Jvm.MethodName)) ∈ lw_all := lw_g (lw_at lw_m7 30 rfl) rfl
theorem q1539 : (Jvm.Cond.static ({ cls := "KiteRoofsLaw", name := "meanTension", desc := "(LKiteRoofs;[D)I" } : Jvm.MethodName)) ∈ lw_all := lw_g (lw_at lw_m7 31 rfl) rfl
theorem q1540 : (Jvm.Cond.codeWith ({ cls := "KiteRoofsLaw", name := "meanTension", desc := "(LKiteRoofs;[D)I" } : Jvm.MethodName) method_26_code (3 : Nat) (Option.some Jvm.ClassFile.FieldType.int) [((0 : Nat), (7 : Nat), (10 : Nat), (101 : Nat))]) ∈ lw_all := lw_g (lw_at lw_m7 32 rfl) rfl
theorem q1541 : (Jvm.Cond.classLink "KiteRoofsLaw" (101 : Nat) "java/lang/ArithmeticException") ∈ lw_all := lw_g (lw_at lw_m7 33 rfl) rfl
theorem q1555 : (Jvm.Cond.methodLink "KiteRoofsLaw" (97 : Nat) ({ cls := "KiteRoofs", name := "meanTension", desc := "()D" } : Jvm.MethodName)) ∈ lw_all := lw_g (lw_at lw_m7 47 rfl) rfl
theorem q1571 : (Jvm.Cond.methodLink "KiteRoofsLaw" (212 : Nat) ({ cls := "KiteRoofsLaw", name := "outShare", desc := "(LKiteRoofs;[D)I" } : Jvm.MethodName)) ∈ lw_all := lw_g (lw_at lw_m7 63 rfl) rfl
theorem q1572 : (Jvm.Cond.static ({ cls := "KiteRoofsLaw", name := "outShare", desc := "(LKiteRoofs;[D)I" } : Jvm.MethodName)) ∈ lw_all := lw_g (lw_at lw_m7 64 rfl) rfl
theorem q1573 : (Jvm.Cond.codeWith ({ cls := "KiteRoofsLaw", name := "outShare", desc := "(LKiteRoofs;[D)I" } : Jvm.MethodName) method_27_code (3 : Nat) (Option.some Jvm.ClassFile.FieldType.int) [((0 : Nat), (8 : Nat), (11 : Nat), (101 : Nat))]) ∈ lw_all := lw_g (lw_at lw_m7 65 rfl) rfl
theorem q1574 : (Jvm.Cond.methodLink "KiteRoofsLaw" (103 : Nat) ({ cls := "KiteRoofs", name := "outShare", desc := "()F" } : Jvm.MethodName)) ∈ lw_all := lw_g (lw_at lw_m7 66 rfl) rfl
theorem q1582 : (Jvm.Cond.methodLink "KiteRoofsLaw" (215 : Nat) ({ cls := "KiteRoofsLaw", name := "undo", desc := "(LKiteRoofs;[J)I" } : Jvm.MethodName)) ∈ lw_all := lw_g (lw_at lw_m7 74 rfl) rfl
theorem q1583 : (Jvm.Cond.static ({ cls := "KiteRoofsLaw", name := "undo", desc := "(LKiteRoofs;[J)I" } : Jvm.MethodName)) ∈ lw_all := lw_g (lw_at lw_m7 75 rfl) rfl
theorem q1584 : (Jvm.Cond.codeWith ({ cls := "KiteRoofsLaw", name := "undo", desc := "(LKiteRoofs;[J)I" } : Jvm.MethodName) method_28_code (3 : Nat) (Option.some Jvm.ClassFile.FieldType.int) [((0 : Nat), (8 : Nat), (11 : Nat), (85 : Nat))]) ∈ lw_all := lw_g (lw_at lw_m7 76 rfl) rfl
theorem q1585 : (Jvm.Cond.methodLink "KiteRoofsLaw" (107 : Nat) ({ cls := "KiteRoofs", name := "undo", desc := "()I" } : Jvm.MethodName)) ∈ lw_all := lw_g (lw_at lw_m7 77 rfl) rfl
theorem q1600 : (Jvm.Cond.methodLink "KiteRoofsLaw" (222 : Nat) ({ cls := "KiteRoofsLaw", name := "restore", desc := "(LKiteRoofs;[J)I" } : Jvm.MethodName)) ∈ lw_all := lw_g (lw_at lw_m7 92 rfl) rfl
theorem q1601 : (Jvm.Cond.static ({ cls := "KiteRoofsLaw", name := "restore", desc := "(LKiteRoofs;[J)I" } : Jvm.MethodName)) ∈ lw_all := lw_g (lw_at lw_m7 93 rfl) rfl
theorem q1602 : (Jvm.Cond.codeWith ({ cls := "KiteRoofsLaw", name := "restore", desc := "(LKiteRoofs;[J)I" } : Jvm.MethodName) method_29_code (3 : Nat) (Option.some Jvm.ClassFile.FieldType.int) [((0 : Nat), (8 : Nat), (11 : Nat), (85 : Nat))]) ∈ lw_all := lw_g (lw_at lw_m7 94 rfl) rfl
theorem q1603 : (Jvm.Cond.methodLink "KiteRoofsLaw" (110 : Nat) ({ cls := "KiteRoofs", name := "restore", desc := "()I" } : Jvm.MethodName)) ∈ lw_all := lw_g (lw_at lw_m7 95 rfl) rfl
theorem q1614 : (Jvm.Cond.classLink "KiteRoofsLaw" (114 : Nat) "KiteRoofsModel") ∈ lw_all := lw_g (lw_at lw_m7 106 rfl) rfl
theorem q1616 : (Jvm.Cond.methodLink "KiteRoofsLaw" (116 : Nat) ({ cls := "KiteRoofsModel", name := "<init>", desc := "()V" } : Jvm.MethodName)) ∈ lw_all := lw_g (lw_at lw_m7 108 rfl) rfl
theorem q1681 : (Jvm.Cond.methodLink "KiteRoofsLaw" (123 : Nat) ({ cls := "KiteRoofsModel", name := "thrown", desc := "()I" } : Jvm.MethodName)) ∈ lw_all := lw_g (lw_at lw_m7 173 rfl) rfl
theorem q1685 : (Jvm.Cond.methodLink "KiteRoofsLaw" (122 : Nat) ({ cls := "KiteRoofsModel", name := "wind", desc := "(III)I" } : Jvm.MethodName)) ∈ lw_all := lw_g (lw_at lw_m7 177 rfl) rfl
theorem q1706 : (Jvm.Cond.methodLink "KiteRoofsLaw" (129 : Nat) ({ cls := "KiteRoofsModel", name := "windOf", desc := "(IZ)I" } : Jvm.MethodName)) ∈ lw_all := lw_g (lw_at lw_m7 198 rfl) rfl
theorem q1710 : (Jvm.Cond.methodLink "KiteRoofsLaw" (133 : Nat) ({ cls := "KiteRoofsModel", name := "kite", desc := "(IIII)I" } : Jvm.MethodName)) ∈ lw_all := lw_g (lw_at lw_m7 202 rfl) rfl
theorem q1722 : (Jvm.Cond.methodLink "KiteRoofsLaw" (137 : Nat) ({ cls := "KiteRoofsModel", name := "launch", desc := "(I)I" } : Jvm.MethodName)) ∈ lw_all := lw_g (lw_at lw_m7 214 rfl) rfl
theorem q1738 : (Jvm.Cond.methodLink "KiteRoofsLaw" (141 : Nat) ({ cls := "KiteRoofsModel", name := "reel", desc := "(II)I" } : Jvm.MethodName)) ∈ lw_all := lw_g (lw_at lw_m7 230 rfl) rfl
theorem q1750 : (Jvm.Cond.methodLink "KiteRoofsLaw" (144 : Nat) ({ cls := "KiteRoofsModel", name := "setSpeed", desc := "(II)I" } : Jvm.MethodName)) ∈ lw_all := lw_g (lw_at lw_m8 2 rfl) rfl
theorem q1754 : (Jvm.Cond.methodLink "KiteRoofsLaw" (147 : Nat) ({ cls := "KiteRoofsModel", name := "land", desc := "(I)I" } : Jvm.MethodName)) ∈ lw_all := lw_g (lw_at lw_m8 6 rfl) rfl
theorem q1758 : (Jvm.Cond.methodLink "KiteRoofsLaw" (150 : Nat) ({ cls := "KiteRoofsModel", name := "tie", desc := "(I)I" } : Jvm.MethodName)) ∈ lw_all := lw_g (lw_at lw_m8 10 rfl) rfl
theorem q1762 : (Jvm.Cond.methodLink "KiteRoofsLaw" (153 : Nat) ({ cls := "KiteRoofsModel", name := "kiteOf", desc := "(II)I" } : Jvm.MethodName)) ∈ lw_all := lw_g (lw_at lw_m8 14 rfl) rfl
theorem q1797 : (Jvm.Cond.methodLink "KiteRoofsLaw" (156 : Nat) ({ cls := "KiteRoofsModel", name := "state", desc := "(I)C" } : Jvm.MethodName)) ∈ lw_all := lw_g (lw_at lw_m8 49 rfl) rfl
theorem q1801 : (Jvm.Cond.methodLink "KiteRoofsLaw" (159 : Nat) ({ cls := "KiteRoofsModel", name := "heightAgain", desc := "(I)I" } : Jvm.MethodName)) ∈ lw_all := lw_g (lw_at lw_m8 53 rfl) rfl
theorem q1805 : (Jvm.Cond.methodLink "KiteRoofsLaw" (162 : Nat) ({ cls := "KiteRoofsModel", name := "placeAt", desc := "(II)I" } : Jvm.MethodName)) ∈ lw_all := lw_g (lw_at lw_m8 57 rfl) rfl
theorem q1809 : (Jvm.Cond.methodLink "KiteRoofsLaw" (165 : Nat) ({ cls := "KiteRoofsModel", name := "crossing", desc := "(II)I" } : Jvm.MethodName)) ∈ lw_all := lw_g (lw_at lw_m8 61 rfl) rfl
theorem q1820 : (Jvm.Cond.methodLink "KiteRoofsLaw" (168 : Nat) ({ cls := "KiteRoofsModel", name := "wears", desc := "(I)I" } : Jvm.MethodName)) ∈ lw_all := lw_g (lw_at lw_m8 72 rfl) rfl
theorem q1832 : (Jvm.Cond.methodLink "KiteRoofsLaw" (171 : Nat) ({ cls := "KiteRoofsModel", name := "round", desc := "(I)I" } : Jvm.MethodName)) ∈ lw_all := lw_g (lw_at lw_m8 84 rfl) rfl
theorem q1852 : (Jvm.Cond.methodLink "KiteRoofsLaw" (174 : Nat) ({ cls := "KiteRoofsModel", name := "cutIn", desc := "(II)I" } : Jvm.MethodName)) ∈ lw_all := lw_g (lw_at lw_m8 104 rfl) rfl
theorem q1856 : (Jvm.Cond.methodLink "KiteRoofsLaw" (177 : Nat) ({ cls := "KiteRoofsModel", name := "bestSpeed", desc := "(II)I" } : Jvm.MethodName)) ∈ lw_all := lw_g (lw_at lw_m8 108 rfl) rfl
theorem q1860 : (Jvm.Cond.methodLink "KiteRoofsLaw" (180 : Nat) ({ cls := "KiteRoofsModel", name := "cause", desc := "(II)I" } : Jvm.MethodName)) ∈ lw_all := lw_g (lw_at lw_m8 112 rfl) rfl
theorem q1864 : (Jvm.Cond.methodLink "KiteRoofsLaw" (184 : Nat) ({ cls := "KiteRoofsModel", name := "leader", desc := "()I" } : Jvm.MethodName)) ∈ lw_all := lw_g (lw_at lw_m8 116 rfl) rfl
theorem q1868 : (Jvm.Cond.methodLink "KiteRoofsLaw" (188 : Nat) ({ cls := "KiteRoofsModel", name := "append", desc := "(C)I" } : Jvm.MethodName)) ∈ lw_all := lw_g (lw_at lw_m8 120 rfl) rfl
theorem q1872 : (Jvm.Cond.methodLink "KiteRoofsLaw" (191 : Nat) ({ cls := "KiteRoofsModel", name := "read", desc := "()I" } : Jvm.MethodName)) ∈ lw_all := lw_g (lw_at lw_m8 124 rfl) rfl
theorem q1913 : (Jvm.Cond.methodLink "KiteRoofsLaw" (195 : Nat) ({ cls := "KiteRoofsModel", name := "faultPosition", desc := "()I" } : Jvm.MethodName)) ∈ lw_all := lw_g (lw_at lw_m8 165 rfl) rfl
theorem q1917 : (Jvm.Cond.methodLink "KiteRoofsLaw" (199 : Nat) ({ cls := "KiteRoofsModel", name := "refusal", desc := "(Z)I" } : Jvm.MethodName)) ∈ lw_all := lw_g (lw_at lw_m8 169 rfl) rfl
theorem q1921 : (Jvm.Cond.methodLink "KiteRoofsLaw" (202 : Nat) ({ cls := "KiteRoofsModel", name := "account", desc := "(I)I" } : Jvm.MethodName)) ∈ lw_all := lw_g (lw_at lw_m8 173 rfl) rfl
theorem q1933 : (Jvm.Cond.methodLink "KiteRoofsLaw" (207 : Nat) ({ cls := "KiteRoofsModel", name := "isBalanced", desc := "()Z" } : Jvm.MethodName)) ∈ lw_all := lw_g (lw_at lw_m8 185 rfl) rfl
theorem q1937 : (Jvm.Cond.methodLink "KiteRoofsLaw" (211 : Nat) ({ cls := "KiteRoofsModel", name := "meanTension", desc := "()D" } : Jvm.MethodName)) ∈ lw_all := lw_g (lw_at lw_m8 189 rfl) rfl
theorem q1941 : (Jvm.Cond.methodLink "KiteRoofsLaw" (214 : Nat) ({ cls := "KiteRoofsModel", name := "outShare", desc := "()F" } : Jvm.MethodName)) ∈ lw_all := lw_g (lw_at lw_m8 193 rfl) rfl
theorem q1945 : (Jvm.Cond.methodLink "KiteRoofsLaw" (217 : Nat) ({ cls := "KiteRoofsModel", name := "undo", desc := "()I" } : Jvm.MethodName)) ∈ lw_all := lw_g (lw_at lw_m8 197 rfl) rfl
theorem q1949 : (Jvm.Cond.methodLink "KiteRoofsLaw" (221 : Nat) ({ cls := "KiteRoofsModel", name := "save", desc := "()I" } : Jvm.MethodName)) ∈ lw_all := lw_g (lw_at lw_m8 201 rfl) rfl
theorem q1953 : (Jvm.Cond.methodLink "KiteRoofsLaw" (224 : Nat) ({ cls := "KiteRoofsModel", name := "restore", desc := "()I" } : Jvm.MethodName)) ∈ lw_all := lw_g (lw_at lw_m8 205 rfl) rfl

theorem q1974 : (Jvm.Cond.castable "KiteRoofs$Order" "java/lang/Object") ∈ lw_tbl := lw_at lw_m8 226 rfl
set_option maxRecDepth 100000
theorem q681 : (Jvm.Cond.interfaceMethod "KiteRoofs$State" "KiteRoofs$State" "number" "()I") ∈ lw_tbl := lw_at lw_m3 133 rfl
set_option maxRecDepth 100000
theorem q682 : (Jvm.Cond.declares ({ cls := "KiteRoofs$State", name := "number", desc := "()I" } : Jvm.MethodName)) ∈ lw_tbl := lw_at lw_m3 134 rfl
theorem q865 : (Jvm.Cond.interfaceMethod "KiteRoofs$State" "KiteRoofs$State" "sign" "()C") ∈ lw_tbl := lw_at lw_m4 77 rfl
theorem q866 : (Jvm.Cond.declares ({ cls := "KiteRoofs$State", name := "sign", desc := "()C" } : Jvm.MethodName)) ∈ lw_tbl := lw_at lw_m4 78 rfl
theorem q1120 : (Jvm.Cond.sameMethod "[B" "java/lang/Object" "clone" "()Ljava/lang/Object;") ∈ lw_all := lw_g (lw_at lw_m5 92 rfl) rfl
set_option maxRecDepth 100000
theorem q1123 : (Jvm.Cond.selects "[B" ({ cls := "[B", name := "clone", desc := "()Ljava/lang/Object;" } : Jvm.MethodName) ({ cls := "java/lang/Object", name := "clone", desc := "()Ljava/lang/Object;" } : Jvm.MethodName)) ∈ lw_all := lw_g (lw_at lw_m5 95 rfl) rfl
theorem q1124 : (Jvm.Cond.castable "[B" "java/lang/Cloneable") ∈ lw_tbl := lw_at lw_m5 96 rfl
theorem q2014 : (Jvm.Cond.castable "[B" "java/lang/Object") ∈ lw_tbl := lw_at lw_m9 26 rfl
theorem q2017 : (Jvm.Cond.castable "[D" "java/lang/Object") ∈ lw_tbl := lw_at lw_m9 29 rfl
set_option maxRecDepth 100000
theorem q2012 : (Jvm.Cond.castable "[I" "java/lang/Object") ∈ lw_tbl := lw_at lw_m9 24 rfl
set_option maxRecDepth 100000
theorem q2016 : (Jvm.Cond.castable "[J" "java/lang/Object") ∈ lw_tbl := lw_at lw_m9 28 rfl
set_option maxRecDepth 100000
theorem q2011 : (Jvm.Cond.castable "[LKiteRoofs$Kite;" "java/lang/Object") ∈ lw_tbl := lw_at lw_m9 23 rfl
set_option maxRecDepth 100000
theorem q2015 : (Jvm.Cond.castable "[LKiteRoofs$Order;" "java/lang/Object") ∈ lw_tbl := lw_at lw_m9 27 rfl
set_option maxRecDepth 100000
theorem q2007 : (Jvm.Cond.sameMethod "[Ljava/lang/Object;" "java/lang/Object" "getClass" "()Ljava/lang/Class;") ∈ lw_all := lw_g (lw_at lw_m9 19 rfl) rfl
set_option maxRecDepth 100000
theorem q2008 : (Jvm.Cond.selects "[Ljava/lang/Object;" ({ cls := "java/lang/Object", name := "getClass", desc := "()Ljava/lang/Class;" } : Jvm.MethodName) ({ cls := "java/lang/Object", name := "getClass", desc := "()Ljava/lang/Class;" } : Jvm.MethodName)) ∈ lw_all := lw_g (lw_at lw_m9 20 rfl) rfl
theorem q2013 : (Jvm.Cond.castable "[Ljava/lang/Object;" "java/lang/Object") ∈ lw_tbl := lw_at lw_m9 25 rfl
theorem q100 : (Jvm.Cond.initialized "java/lang/Number") ∈ lw_all := lw_g (lw_at lw_m1 32 rfl) rfl
set_option maxRecDepth 100000
theorem q88 : (Jvm.Cond.initialized "java/lang/System") ∈ lw_all := lw_g (lw_at lw_m1 20 rfl) rfl
set_option maxRecDepth 100000
theorem q334 : (Jvm.Cond.static ({ cls := "java/lang/System", name := "arraycopy", desc := "(Ljava/lang/Object;ILjava/lang/Object;II)V" } : Jvm.MethodName)) ∈ lw_all := lw_g (lw_at lw_m2 26 rfl) rfl
theorem q335 : (Jvm.Cond.native ({ cls := "java/lang/System", name := "arraycopy", desc := "(Ljava/lang/Object;ILjava/lang/Object;II)V" } : Jvm.MethodName)) ∈ lw_all := lw_g (lw_at lw_m2 27 rfl) rfl
theorem q124 : (Jvm.Cond.arrayOver (Jvm.ClassFile.FieldType.object "KiteRoofs$Kite")) ∈ lw_tbl := lw_at lw_m1 56 rfl
set_option maxRecDepth 100000
theorem q139 : (Jvm.Cond.arrayClass Jvm.ClassFile.FieldType.int) ∈ lw_all := lw_g (lw_at lw_m1 71 rfl) rfl
theorem q233 : (Jvm.Cond.arrayOver (Jvm.ClassFile.FieldType.object "java/lang/Object")) ∈ lw_tbl := lw_at lw_m1 165 rfl
theorem q275 : (Jvm.Cond.arrayClass Jvm.ClassFile.FieldType.byte) ∈ lw_all := lw_g (lw_at lw_m1 207 rfl) rfl
theorem q1323 : (Jvm.Cond.arrayOver (Jvm.ClassFile.FieldType.object "KiteRoofs$Order")) ∈ lw_tbl := lw_at lw_m6 55 rfl
theorem q1957 : (Jvm.Cond.arrayClass Jvm.ClassFile.FieldType.long) ∈ lw_all := lw_g (lw_at lw_m8 209 rfl) rfl
theorem q1958 : (Jvm.Cond.arrayClass Jvm.ClassFile.FieldType.double) ∈ lw_all := lw_g (lw_at lw_m8 210 rfl) rfl
/-! the law's own entry -/
set_option maxRecDepth 100000
abbrev cL_law : ByteArray := code
def dkwL_law_77 : List UInt8 := [153, 0, 5, 3, 172, 167, 0, 3, 132, 5, 5, 167, 248, 169, 4, 172]
abbrev dktL_law_77 : List UInt8 := dkwL_law_77 ++ []
def dkwL_law_76 : List UInt8 := [182, 0, 123, 21, 6, 159, 0, 5, 3, 172, 21, 6, 154, 0, 15, 45, 3, 47, 21, 7, 133, 148]
abbrev dktL_law_76 : List UInt8 := dkwL_law_76 ++ dktL_law_77
def dkwL_law_75 : List UInt8 := [182, 0, 221, 159, 0, 49, 3, 172, 43, 45, 184, 0, 222, 54, 6, 44, 182, 0, 224, 54, 7, 44]
abbrev dktL_law_75 : List UInt8 := dkwL_law_75 ++ dktL_law_76
def dkwL_law_74 : List UInt8 := [154, 0, 15, 45, 3, 47, 21, 7, 133, 148, 153, 0, 5, 3, 172, 167, 0, 60, 43, 182, 0, 218, 44]
abbrev dktL_law_74 : List UInt8 := dkwL_law_74 ++ dktL_law_75
def dkwL_law_73 : List UInt8 := [184, 0, 215, 54, 6, 44, 182, 0, 217, 54, 7, 44, 182, 0, 123, 21, 6, 159, 0, 5, 3, 172, 21, 6]
abbrev dktL_law_73 : List UInt8 := dkwL_law_73 ++ dktL_law_74
def dkwL_law_72 : List UInt8 := [49, 25, 4, 3, 49, 151, 153, 0, 11, 23, 7, 23, 7, 149, 154, 0, 5, 3, 172, 167, 0, 104, 43, 45]
abbrev dktL_law_72 : List UInt8 := dkwL_law_72 ++ dktL_law_73
def dkwL_law_71 : List UInt8 := [159, 0, 5, 3, 172, 21, 6, 154, 0, 36, 25, 4, 3, 49, 23, 7, 141, 151, 153, 0, 25, 25, 4, 3]
abbrev dktL_law_71 : List UInt8 := dkwL_law_71 ++ dktL_law_72
def dkwL_law_70 : List UInt8 := [172, 167, 0, 170, 43, 25, 4, 184, 0, 212, 54, 6, 44, 182, 0, 214, 56, 7, 44, 182, 0, 123, 21, 6]
abbrev dktL_law_70 : List UInt8 := dkwL_law_70 ++ dktL_law_71
def dkwL_law_69 : List UInt8 := [153, 0, 25, 25, 4, 3, 49, 25, 4, 3, 49, 151, 153, 0, 11, 24, 7, 24, 7, 151, 154, 0, 5, 3]
abbrev dktL_law_69 : List UInt8 := dkwL_law_69 ++ dktL_law_70
def dkwL_law_68 : List UInt8 := [182, 0, 123, 21, 6, 159, 0, 5, 3, 172, 21, 6, 154, 0, 35, 25, 4, 3, 49, 24, 7, 151]
abbrev dktL_law_68 : List UInt8 := dkwL_law_68 ++ dktL_law_69
def dkwL_law_67 : List UInt8 := [182, 0, 207, 159, 0, 237, 3, 172, 43, 25, 4, 184, 0, 208, 54, 6, 44, 182, 0, 211, 57, 7, 44]
abbrev dktL_law_67 : List UInt8 := dkwL_law_67 ++ dktL_law_68
def dkwL_law_66 : List UInt8 := [154, 0, 15, 45, 3, 47, 21, 7, 133, 148, 153, 0, 5, 3, 172, 167, 0, 248, 43, 182, 0, 203, 44]
abbrev dktL_law_66 : List UInt8 := dkwL_law_66 ++ dktL_law_67
def dkwL_law_65 : List UInt8 := [21, 5, 4, 96, 46, 182, 0, 202, 54, 7, 44, 182, 0, 123, 21, 6, 159, 0, 5, 3, 172, 21, 6]
abbrev dktL_law_65 : List UInt8 := dkwL_law_65 ++ dktL_law_66
def dkwL_law_64 : List UInt8 := [153, 0, 5, 3, 172, 167, 1, 48, 43, 42, 21, 5, 4, 96, 46, 45, 184, 0, 200, 54, 6, 44, 42]
abbrev dktL_law_64 : List UInt8 := dkwL_law_64 ++ dktL_law_65
def dkwL_law_63 : List UInt8 := [182, 0, 123, 21, 6, 159, 0, 5, 3, 172, 21, 6, 154, 0, 15, 45, 3, 47, 21, 7, 133, 148]
abbrev dktL_law_63 : List UInt8 := dkwL_law_63 ++ dktL_law_64
def dkwL_law_62 : List UInt8 := [54, 6, 44, 42, 21, 5, 4, 96, 46, 153, 0, 7, 4, 167, 0, 4, 3, 182, 0, 199, 54, 7, 44]
abbrev dktL_law_62 : List UInt8 := dkwL_law_62 ++ dktL_law_63
def dkwL_law_61 : List UInt8 := [159, 1, 122, 3, 172, 43, 42, 21, 5, 4, 96, 46, 153, 0, 7, 4, 167, 0, 4, 3, 45, 184, 0, 196]
abbrev dktL_law_61 : List UInt8 := dkwL_law_61 ++ dktL_law_62
def dkwL_law_60 : List UInt8 := [45, 3, 47, 21, 7, 133, 148, 153, 0, 5, 3, 172, 167, 1, 133, 43, 182, 0, 192, 44, 182, 0, 195]
abbrev dktL_law_60 : List UInt8 := dkwL_law_60 ++ dktL_law_61
def dkwL_law_59 : List UInt8 := [54, 6, 44, 182, 0, 191, 54, 7, 44, 182, 0, 123, 21, 6, 159, 0, 5, 3, 172, 21, 6, 154, 0, 15]
abbrev dktL_law_59 : List UInt8 := dkwL_law_59 ++ dktL_law_60
def dkwL_law_58 : List UInt8 := [154, 0, 15, 45, 3, 47, 21, 7, 133, 148, 153, 0, 5, 3, 172, 167, 1, 177, 43, 45, 184, 0, 189]
abbrev dktL_law_58 : List UInt8 := dkwL_law_58 ++ dktL_law_59
def dkwL_law_57 : List UInt8 := [21, 5, 4, 96, 46, 146, 182, 0, 188, 54, 7, 44, 182, 0, 123, 21, 6, 159, 0, 5, 3, 172, 21, 6]
abbrev dktL_law_57 : List UInt8 := dkwL_law_57 ++ dktL_law_58
def dkwL_law_56 : List UInt8 := [153, 0, 5, 3, 172, 167, 1, 235, 43, 42, 21, 5, 4, 96, 46, 146, 45, 184, 0, 185, 54, 6, 44, 42]
abbrev dktL_law_56 : List UInt8 := dkwL_law_56 ++ dktL_law_57
def dkwL_law_55 : List UInt8 := [182, 0, 123, 21, 6, 159, 0, 5, 3, 172, 21, 6, 154, 0, 15, 45, 3, 47, 21, 7, 133, 148]
abbrev dktL_law_55 : List UInt8 := dkwL_law_55 ++ dktL_law_56
def dkwL_law_54 : List UInt8 := [153, 0, 5, 3, 172, 167, 2, 23, 43, 45, 184, 0, 181, 54, 6, 44, 182, 0, 184, 54, 7, 44]
abbrev dktL_law_54 : List UInt8 := dkwL_law_54 ++ dktL_law_55
def dkwL_law_53 : List UInt8 := [182, 0, 123, 21, 6, 159, 0, 5, 3, 172, 21, 6, 154, 0, 15, 45, 3, 47, 21, 7, 133, 148]
abbrev dktL_law_53 : List UInt8 := dkwL_law_53 ++ dktL_law_54
def dkwL_law_52 : List UInt8 := [184, 0, 178, 54, 6, 44, 42, 21, 5, 4, 96, 46, 42, 21, 5, 5, 96, 46, 182, 0, 180, 54, 7, 44]
abbrev dktL_law_52 : List UInt8 := dkwL_law_52 ++ dktL_law_53
def dkwL_law_51 : List UInt8 := [153, 0, 5, 3, 172, 167, 2, 91, 43, 42, 21, 5, 4, 96, 46, 42, 21, 5, 5, 96, 46, 45]
abbrev dktL_law_51 : List UInt8 := dkwL_law_51 ++ dktL_law_52
def dkwL_law_50 : List UInt8 := [182, 0, 123, 21, 6, 159, 0, 5, 3, 172, 21, 6, 154, 0, 15, 45, 3, 47, 21, 7, 133, 148]
abbrev dktL_law_50 : List UInt8 := dkwL_law_50 ++ dktL_law_51
def dkwL_law_49 : List UInt8 := [184, 0, 175, 54, 6, 44, 42, 21, 5, 4, 96, 46, 42, 21, 5, 5, 96, 46, 182, 0, 177, 54, 7, 44]
abbrev dktL_law_49 : List UInt8 := dkwL_law_49 ++ dktL_law_50
def dkwL_law_48 : List UInt8 := [148, 153, 0, 5, 3, 172, 167, 2, 159, 43, 42, 21, 5, 4, 96, 46, 42, 21, 5, 5, 96, 46, 45]
abbrev dktL_law_48 : List UInt8 := dkwL_law_48 ++ dktL_law_49
def dkwL_law_47 : List UInt8 := [54, 7, 44, 182, 0, 123, 21, 6, 159, 0, 5, 3, 172, 21, 6, 154, 0, 15, 45, 3, 47, 21, 7, 133]
abbrev dktL_law_47 : List UInt8 := dkwL_law_47 ++ dktL_law_48
def dkwL_law_46 : List UInt8 := [46, 45, 184, 0, 172, 54, 6, 44, 42, 21, 5, 4, 96, 46, 42, 21, 5, 5, 96, 46, 182, 0, 174]
abbrev dktL_law_46 : List UInt8 := dkwL_law_46 ++ dktL_law_47
def dkwL_law_45 : List UInt8 := [21, 7, 133, 148, 153, 0, 5, 3, 172, 167, 2, 227, 43, 42, 21, 5, 4, 96, 46, 42, 21, 5, 5, 96]
abbrev dktL_law_45 : List UInt8 := dkwL_law_45 ++ dktL_law_46
def dkwL_law_44 : List UInt8 := [182, 0, 171, 54, 7, 44, 182, 0, 123, 21, 6, 159, 0, 5, 3, 172, 21, 6, 154, 0, 15, 45, 3, 47]
abbrev dktL_law_44 : List UInt8 := dkwL_law_44 ++ dktL_law_45
def dkwL_law_43 : List UInt8 := [167, 3, 27, 43, 42, 21, 5, 4, 96, 46, 45, 184, 0, 169, 54, 6, 44, 42, 21, 5, 4, 96, 46]
abbrev dktL_law_43 : List UInt8 := dkwL_law_43 ++ dktL_law_44
def dkwL_law_42 : List UInt8 := [159, 0, 5, 3, 172, 21, 6, 154, 0, 15, 45, 3, 47, 21, 7, 133, 148, 153, 0, 5, 3, 172]
abbrev dktL_law_42 : List UInt8 := dkwL_law_42 ++ dktL_law_43
def dkwL_law_41 : List UInt8 := [184, 0, 166, 54, 6, 44, 42, 21, 5, 4, 96, 46, 182, 0, 168, 54, 7, 44, 182, 0, 123, 21, 6]
abbrev dktL_law_41 : List UInt8 := dkwL_law_41 ++ dktL_law_42
def dkwL_law_40 : List UInt8 := [3, 47, 21, 7, 133, 148, 153, 0, 5, 3, 172, 167, 3, 83, 43, 42, 21, 5, 4, 96, 46, 45]
abbrev dktL_law_40 : List UInt8 := dkwL_law_40 ++ dktL_law_41
def dkwL_law_39 : List UInt8 := [96, 46, 182, 0, 165, 54, 7, 44, 182, 0, 123, 21, 6, 159, 0, 5, 3, 172, 21, 6, 154, 0, 15, 45]
abbrev dktL_law_39 : List UInt8 := dkwL_law_39 ++ dktL_law_40
def dkwL_law_38 : List UInt8 := [46, 42, 21, 5, 5, 96, 46, 45, 184, 0, 163, 54, 6, 44, 42, 21, 5, 4, 96, 46, 42, 21, 5, 5]
abbrev dktL_law_38 : List UInt8 := dkwL_law_38 ++ dktL_law_39
def dkwL_law_37 : List UInt8 := [154, 0, 15, 45, 3, 47, 21, 7, 133, 148, 153, 0, 5, 3, 172, 167, 3, 151, 43, 42, 21, 5, 4, 96]
abbrev dktL_law_37 : List UInt8 := dkwL_law_37 ++ dktL_law_38
def dkwL_law_36 : List UInt8 := [42, 21, 5, 5, 96, 46, 182, 0, 162, 54, 7, 44, 182, 0, 123, 21, 6, 159, 0, 5, 3, 172, 21, 6]
abbrev dktL_law_36 : List UInt8 := dkwL_law_36 ++ dktL_law_37
def dkwL_law_35 : List UInt8 := [21, 5, 4, 96, 46, 42, 21, 5, 5, 96, 46, 45, 184, 0, 160, 54, 6, 44, 42, 21, 5, 4, 96, 46]
abbrev dktL_law_35 : List UInt8 := dkwL_law_35 ++ dktL_law_36
def dkwL_law_34 : List UInt8 := [172, 21, 6, 154, 0, 15, 45, 3, 47, 21, 7, 133, 148, 153, 0, 5, 3, 172, 167, 3, 219, 43, 42]
abbrev dktL_law_34 : List UInt8 := dkwL_law_34 ++ dktL_law_35
def dkwL_law_33 : List UInt8 := [54, 6, 44, 42, 21, 5, 4, 96, 46, 182, 0, 159, 54, 7, 44, 182, 0, 123, 21, 6, 159, 0, 5, 3]
abbrev dktL_law_33 : List UInt8 := dkwL_law_33 ++ dktL_law_34
def dkwL_law_32 : List UInt8 := [21, 7, 133, 148, 153, 0, 5, 3, 172, 167, 4, 19, 43, 42, 21, 5, 4, 96, 46, 45, 184, 0, 157]
abbrev dktL_law_32 : List UInt8 := dkwL_law_32 ++ dktL_law_33
def dkwL_law_31 : List UInt8 := [182, 0, 156, 54, 7, 44, 182, 0, 123, 21, 6, 159, 0, 5, 3, 172, 21, 6, 154, 0, 15, 45, 3, 47]
abbrev dktL_law_31 : List UInt8 := dkwL_law_31 ++ dktL_law_32
def dkwL_law_30 : List UInt8 := [167, 4, 75, 43, 42, 21, 5, 4, 96, 46, 45, 184, 0, 154, 54, 6, 44, 42, 21, 5, 4, 96, 46]
abbrev dktL_law_30 : List UInt8 := dkwL_law_30 ++ dktL_law_31
def dkwL_law_29 : List UInt8 := [159, 0, 5, 3, 172, 21, 6, 154, 0, 15, 45, 3, 47, 21, 7, 133, 148, 153, 0, 5, 3, 172]
abbrev dktL_law_29 : List UInt8 := dkwL_law_29 ++ dktL_law_30
def dkwL_law_28 : List UInt8 := [21, 5, 4, 96, 46, 42, 21, 5, 5, 96, 46, 182, 0, 153, 54, 7, 44, 182, 0, 123, 21, 6]
abbrev dktL_law_28 : List UInt8 := dkwL_law_28 ++ dktL_law_29
def dkwL_law_27 : List UInt8 := [167, 4, 143, 43, 42, 21, 5, 4, 96, 46, 42, 21, 5, 5, 96, 46, 45, 184, 0, 151, 54, 6, 44, 42]
abbrev dktL_law_27 : List UInt8 := dkwL_law_27 ++ dktL_law_28
def dkwL_law_26 : List UInt8 := [21, 6, 159, 0, 5, 3, 172, 21, 6, 154, 0, 15, 45, 3, 47, 21, 7, 133, 148, 153, 0, 5, 3, 172]
abbrev dktL_law_26 : List UInt8 := dkwL_law_26 ++ dktL_law_27
def dkwL_law_25 : List UInt8 := [46, 45, 184, 0, 148, 54, 6, 44, 42, 21, 5, 4, 96, 46, 182, 0, 150, 54, 7, 44, 182, 0, 123]
abbrev dktL_law_25 : List UInt8 := dkwL_law_25 ++ dktL_law_26
def dkwL_law_24 : List UInt8 := [154, 0, 15, 45, 3, 47, 21, 7, 133, 148, 153, 0, 5, 3, 172, 167, 4, 199, 43, 42, 21, 5, 4, 96]
abbrev dktL_law_24 : List UInt8 := dkwL_law_24 ++ dktL_law_25
def dkwL_law_23 : List UInt8 := [21, 5, 4, 96, 46, 182, 0, 147, 54, 7, 44, 182, 0, 123, 21, 6, 159, 0, 5, 3, 172, 21, 6]
abbrev dktL_law_23 : List UInt8 := dkwL_law_23 ++ dktL_law_24
def dkwL_law_22 : List UInt8 := [153, 0, 5, 3, 172, 167, 4, 255, 43, 42, 21, 5, 4, 96, 46, 45, 184, 0, 145, 54, 6, 44, 42]
abbrev dktL_law_22 : List UInt8 := dkwL_law_22 ++ dktL_law_23
def dkwL_law_21 : List UInt8 := [182, 0, 123, 21, 6, 159, 0, 5, 3, 172, 21, 6, 154, 0, 15, 45, 3, 47, 21, 7, 133, 148]
abbrev dktL_law_21 : List UInt8 := dkwL_law_21 ++ dktL_law_22
def dkwL_law_20 : List UInt8 := [184, 0, 142, 54, 6, 44, 42, 21, 5, 4, 96, 46, 42, 21, 5, 5, 96, 46, 182, 0, 144, 54, 7, 44]
abbrev dktL_law_20 : List UInt8 := dkwL_law_20 ++ dktL_law_21
def dkwL_law_19 : List UInt8 := [148, 153, 0, 5, 3, 172, 167, 5, 67, 43, 42, 21, 5, 4, 96, 46, 42, 21, 5, 5, 96, 46, 45]
abbrev dktL_law_19 : List UInt8 := dkwL_law_19 ++ dktL_law_20
def dkwL_law_18 : List UInt8 := [54, 7, 44, 182, 0, 123, 21, 6, 159, 0, 5, 3, 172, 21, 6, 154, 0, 15, 45, 3, 47, 21, 7, 133]
abbrev dktL_law_18 : List UInt8 := dkwL_law_18 ++ dktL_law_19
def dkwL_law_17 : List UInt8 := [46, 45, 184, 0, 138, 54, 6, 44, 42, 21, 5, 4, 96, 46, 42, 21, 5, 5, 96, 46, 182, 0, 141]
abbrev dktL_law_17 : List UInt8 := dkwL_law_17 ++ dktL_law_18
def dkwL_law_16 : List UInt8 := [21, 7, 133, 148, 153, 0, 5, 3, 172, 167, 5, 135, 43, 42, 21, 5, 4, 96, 46, 42, 21, 5, 5, 96]
abbrev dktL_law_16 : List UInt8 := dkwL_law_16 ++ dktL_law_17
def dkwL_law_15 : List UInt8 := [182, 0, 137, 54, 7, 44, 182, 0, 123, 21, 6, 159, 0, 5, 3, 172, 21, 6, 154, 0, 15, 45, 3, 47]
abbrev dktL_law_15 : List UInt8 := dkwL_law_15 ++ dktL_law_16
def dkwL_law_14 : List UInt8 := [167, 5, 191, 43, 42, 21, 5, 4, 96, 46, 45, 184, 0, 134, 54, 6, 44, 42, 21, 5, 4, 96, 46]
abbrev dktL_law_14 : List UInt8 := dkwL_law_14 ++ dktL_law_15
def dkwL_law_13 : List UInt8 := [159, 0, 5, 3, 172, 21, 6, 154, 0, 15, 45, 3, 47, 21, 7, 133, 148, 153, 0, 5, 3, 172]
abbrev dktL_law_13 : List UInt8 := dkwL_law_13 ++ dktL_law_14
def dkwL_law_12 : List UInt8 := [42, 21, 5, 6, 96, 46, 42, 21, 5, 7, 96, 46, 182, 0, 133, 54, 7, 44, 182, 0, 123, 21, 6]
abbrev dktL_law_12 : List UInt8 := dkwL_law_12 ++ dktL_law_13
def dkwL_law_11 : List UInt8 := [21, 5, 7, 96, 46, 45, 184, 0, 130, 54, 6, 44, 42, 21, 5, 4, 96, 46, 42, 21, 5, 5, 96, 46]
abbrev dktL_law_11 : List UInt8 := dkwL_law_11 ++ dktL_law_12
def dkwL_law_10 : List UInt8 := [167, 6, 27, 43, 42, 21, 5, 4, 96, 46, 42, 21, 5, 5, 96, 46, 42, 21, 5, 6, 96, 46, 42]
abbrev dktL_law_10 : List UInt8 := dkwL_law_10 ++ dktL_law_11
def dkwL_law_9 : List UInt8 := [159, 0, 5, 3, 172, 21, 6, 154, 0, 15, 45, 3, 47, 21, 7, 133, 148, 153, 0, 5, 3, 172]
abbrev dktL_law_9 : List UInt8 := dkwL_law_9 ++ dktL_law_10
def dkwL_law_8 : List UInt8 := [5, 96, 46, 153, 0, 7, 4, 167, 0, 4, 3, 182, 0, 129, 54, 7, 44, 182, 0, 123, 21, 6]
abbrev dktL_law_8 : List UInt8 := dkwL_law_8 ++ dktL_law_9
def dkwL_law_7 : List UInt8 := [153, 0, 7, 4, 167, 0, 4, 3, 45, 184, 0, 126, 54, 6, 44, 42, 21, 5, 4, 96, 46, 42, 21, 5]
abbrev dktL_law_7 : List UInt8 := dkwL_law_7 ++ dktL_law_8
def dkwL_law_6 : List UInt8 := [148, 153, 0, 5, 3, 172, 167, 6, 111, 43, 42, 21, 5, 4, 96, 46, 42, 21, 5, 5, 96, 46]
abbrev dktL_law_6 : List UInt8 := dkwL_law_6 ++ dktL_law_7
def dkwL_law_5 : List UInt8 := [54, 7, 44, 182, 0, 123, 21, 6, 159, 0, 5, 3, 172, 21, 6, 154, 0, 15, 45, 3, 47, 21, 7, 133]
abbrev dktL_law_5 : List UInt8 := dkwL_law_5 ++ dktL_law_6
def dkwL_law_4 : List UInt8 := [54, 6, 44, 42, 21, 5, 4, 96, 46, 42, 21, 5, 5, 96, 46, 42, 21, 5, 6, 96, 46, 182, 0, 122]
abbrev dktL_law_4 : List UInt8 := dkwL_law_4 ++ dktL_law_5
def dkwL_law_3 : List UInt8 := [43, 42, 21, 5, 4, 96, 46, 42, 21, 5, 5, 96, 46, 42, 21, 5, 6, 96, 46, 45, 184, 0, 117]
abbrev dktL_law_3 : List UInt8 := dkwL_law_3 ++ dktL_law_4
def dkwL_law_2 : List UInt8 := [170, 0, 0, 0, 0, 0, 7, 68, 0, 0, 0, 0, 0, 0, 0, 29, 0, 0, 0, 136, 0, 0, 0, 216, 0, 0, 1, 44, 0, 0, 1, 136, 0, 0, 1, 192, 0, 0, 2, 4, 0, 0, 2, 72, 0, 0, 2, 128, 0, 0, 2, 184, 0, 0, 2, 252, 0, 0, 3, 52, 0, 0, 3, 108, 0, 0, 3, 176, 0, 0, 3, 244, 0, 0, 4, 44, 0, 0, 4, 100, 0, 0, 4, 168, 0, 0, 4, 236, 0, 0, 5, 48, 0, 0, 5, 92, 0, 0, 5, 150, 0, 0, 5, 194, 0, 0, 5, 207, 0, 0, 6, 23, 0, 0, 6, 79, 0, 0, 6, 92, 0, 0, 6, 157, 0, 0, 6, 223, 0, 0, 7, 11, 0, 0, 7, 24]
abbrev dktL_law_2 : List UInt8 := dkwL_law_2 ++ dktL_law_3
def dkwL_law_1 : List UInt8 := [58, 4, 3, 54, 5, 21, 5, 42, 190, 8, 100, 163, 7, 84, 42, 21, 5, 46, 16, 31, 126]
abbrev dktL_law_1 : List UInt8 := dkwL_law_1 ++ dktL_law_2
def dkwL_law_0 : List UInt8 := [187, 0, 8, 89, 183, 0, 113, 76, 187, 0, 114, 89, 183, 0, 116, 77, 4, 188, 11, 78, 4, 188, 7]
abbrev dktL_law_0 : List UInt8 := dkwL_law_0 ++ dktL_law_1
theorem dksL_law_0 : cL_law.data.toList.drop 0 = dktL_law_0 := by decide +kernel
theorem dksL_law_1 : cL_law.data.toList.drop 23 = dktL_law_1 := dk_seg dksL_law_0 23 rfl rfl
theorem dksL_law_2 : cL_law.data.toList.drop 44 = dktL_law_2 := dk_seg dksL_law_1 21 rfl rfl
theorem dksL_law_3 : cL_law.data.toList.drop 180 = dktL_law_3 := dk_seg dksL_law_2 136 rfl rfl
theorem dksL_law_4 : cL_law.data.toList.drop 203 = dktL_law_4 := dk_seg dksL_law_3 23 rfl rfl
theorem dksL_law_5 : cL_law.data.toList.drop 227 = dktL_law_5 := dk_seg dksL_law_4 24 rfl rfl
theorem dksL_law_6 : cL_law.data.toList.drop 251 = dktL_law_6 := dk_seg dksL_law_5 24 rfl rfl
theorem dksL_law_7 : cL_law.data.toList.drop 273 = dktL_law_7 := dk_seg dksL_law_6 22 rfl rfl
theorem dksL_law_8 : cL_law.data.toList.drop 297 = dktL_law_8 := dk_seg dksL_law_7 24 rfl rfl
theorem dksL_law_9 : cL_law.data.toList.drop 319 = dktL_law_9 := dk_seg dksL_law_8 22 rfl rfl
theorem dksL_law_10 : cL_law.data.toList.drop 341 = dktL_law_10 := dk_seg dksL_law_9 22 rfl rfl
theorem dksL_law_11 : cL_law.data.toList.drop 364 = dktL_law_11 := dk_seg dksL_law_10 23 rfl rfl
theorem dksL_law_12 : cL_law.data.toList.drop 388 = dktL_law_12 := dk_seg dksL_law_11 24 rfl rfl
theorem dksL_law_13 : cL_law.data.toList.drop 411 = dktL_law_13 := dk_seg dksL_law_12 23 rfl rfl
theorem dksL_law_14 : cL_law.data.toList.drop 433 = dktL_law_14 := dk_seg dksL_law_13 22 rfl rfl
theorem dksL_law_15 : cL_law.data.toList.drop 456 = dktL_law_15 := dk_seg dksL_law_14 23 rfl rfl
theorem dksL_law_16 : cL_law.data.toList.drop 480 = dktL_law_16 := dk_seg dksL_law_15 24 rfl rfl
theorem dksL_law_17 : cL_law.data.toList.drop 504 = dktL_law_17 := dk_seg dksL_law_16 24 rfl rfl
theorem dksL_law_18 : cL_law.data.toList.drop 527 = dktL_law_18 := dk_seg dksL_law_17 23 rfl rfl
theorem dksL_law_19 : cL_law.data.toList.drop 551 = dktL_law_19 := dk_seg dksL_law_18 24 rfl rfl
theorem dksL_law_20 : cL_law.data.toList.drop 574 = dktL_law_20 := dk_seg dksL_law_19 23 rfl rfl
theorem dksL_law_21 : cL_law.data.toList.drop 598 = dktL_law_21 := dk_seg dksL_law_20 24 rfl rfl
theorem dksL_law_22 : cL_law.data.toList.drop 620 = dktL_law_22 := dk_seg dksL_law_21 22 rfl rfl
theorem dksL_law_23 : cL_law.data.toList.drop 643 = dktL_law_23 := dk_seg dksL_law_22 23 rfl rfl
theorem dksL_law_24 : cL_law.data.toList.drop 666 = dktL_law_24 := dk_seg dksL_law_23 23 rfl rfl
theorem dksL_law_25 : cL_law.data.toList.drop 690 = dktL_law_25 := dk_seg dksL_law_24 24 rfl rfl
theorem dksL_law_26 : cL_law.data.toList.drop 713 = dktL_law_26 := dk_seg dksL_law_25 23 rfl rfl
theorem dksL_law_27 : cL_law.data.toList.drop 737 = dktL_law_27 := dk_seg dksL_law_26 24 rfl rfl
theorem dksL_law_28 : cL_law.data.toList.drop 761 = dktL_law_28 := dk_seg dksL_law_27 24 rfl rfl
theorem dksL_law_29 : cL_law.data.toList.drop 783 = dktL_law_29 := dk_seg dksL_law_28 22 rfl rfl
theorem dksL_law_30 : cL_law.data.toList.drop 805 = dktL_law_30 := dk_seg dksL_law_29 22 rfl rfl
theorem dksL_law_31 : cL_law.data.toList.drop 828 = dktL_law_31 := dk_seg dksL_law_30 23 rfl rfl
theorem dksL_law_32 : cL_law.data.toList.drop 852 = dktL_law_32 := dk_seg dksL_law_31 24 rfl rfl
theorem dksL_law_33 : cL_law.data.toList.drop 875 = dktL_law_33 := dk_seg dksL_law_32 23 rfl rfl
theorem dksL_law_34 : cL_law.data.toList.drop 899 = dktL_law_34 := dk_seg dksL_law_33 24 rfl rfl
theorem dksL_law_35 : cL_law.data.toList.drop 922 = dktL_law_35 := dk_seg dksL_law_34 23 rfl rfl
theorem dksL_law_36 : cL_law.data.toList.drop 946 = dktL_law_36 := dk_seg dksL_law_35 24 rfl rfl
theorem dksL_law_37 : cL_law.data.toList.drop 970 = dktL_law_37 := dk_seg dksL_law_36 24 rfl rfl
theorem dksL_law_38 : cL_law.data.toList.drop 994 = dktL_law_38 := dk_seg dksL_law_37 24 rfl rfl
theorem dksL_law_39 : cL_law.data.toList.drop 1018 = dktL_law_39 := dk_seg dksL_law_38 24 rfl rfl
theorem dksL_law_40 : cL_law.data.toList.drop 1042 = dktL_law_40 := dk_seg dksL_law_39 24 rfl rfl
theorem dksL_law_41 : cL_law.data.toList.drop 1064 = dktL_law_41 := dk_seg dksL_law_40 22 rfl rfl
theorem dksL_law_42 : cL_law.data.toList.drop 1087 = dktL_law_42 := dk_seg dksL_law_41 23 rfl rfl
theorem dksL_law_43 : cL_law.data.toList.drop 1109 = dktL_law_43 := dk_seg dksL_law_42 22 rfl rfl
theorem dksL_law_44 : cL_law.data.toList.drop 1132 = dktL_law_44 := dk_seg dksL_law_43 23 rfl rfl
theorem dksL_law_45 : cL_law.data.toList.drop 1156 = dktL_law_45 := dk_seg dksL_law_44 24 rfl rfl
theorem dksL_law_46 : cL_law.data.toList.drop 1180 = dktL_law_46 := dk_seg dksL_law_45 24 rfl rfl
theorem dksL_law_47 : cL_law.data.toList.drop 1203 = dktL_law_47 := dk_seg dksL_law_46 23 rfl rfl
theorem dksL_law_48 : cL_law.data.toList.drop 1227 = dktL_law_48 := dk_seg dksL_law_47 24 rfl rfl
theorem dksL_law_49 : cL_law.data.toList.drop 1250 = dktL_law_49 := dk_seg dksL_law_48 23 rfl rfl
theorem dksL_law_50 : cL_law.data.toList.drop 1274 = dktL_law_50 := dk_seg dksL_law_49 24 rfl rfl
theorem dksL_law_51 : cL_law.data.toList.drop 1296 = dktL_law_51 := dk_seg dksL_law_50 22 rfl rfl
theorem dksL_law_52 : cL_law.data.toList.drop 1318 = dktL_law_52 := dk_seg dksL_law_51 22 rfl rfl
theorem dksL_law_53 : cL_law.data.toList.drop 1342 = dktL_law_53 := dk_seg dksL_law_52 24 rfl rfl
theorem dksL_law_54 : cL_law.data.toList.drop 1364 = dktL_law_54 := dk_seg dksL_law_53 22 rfl rfl
theorem dksL_law_55 : cL_law.data.toList.drop 1386 = dktL_law_55 := dk_seg dksL_law_54 22 rfl rfl
theorem dksL_law_56 : cL_law.data.toList.drop 1408 = dktL_law_56 := dk_seg dksL_law_55 22 rfl rfl
theorem dksL_law_57 : cL_law.data.toList.drop 1432 = dktL_law_57 := dk_seg dksL_law_56 24 rfl rfl
theorem dksL_law_58 : cL_law.data.toList.drop 1456 = dktL_law_58 := dk_seg dksL_law_57 24 rfl rfl
theorem dksL_law_59 : cL_law.data.toList.drop 1479 = dktL_law_59 := dk_seg dksL_law_58 23 rfl rfl
theorem dksL_law_60 : cL_law.data.toList.drop 1503 = dktL_law_60 := dk_seg dksL_law_59 24 rfl rfl
theorem dksL_law_61 : cL_law.data.toList.drop 1526 = dktL_law_61 := dk_seg dksL_law_60 23 rfl rfl
theorem dksL_law_62 : cL_law.data.toList.drop 1550 = dktL_law_62 := dk_seg dksL_law_61 24 rfl rfl
theorem dksL_law_63 : cL_law.data.toList.drop 1573 = dktL_law_63 := dk_seg dksL_law_62 23 rfl rfl
theorem dksL_law_64 : cL_law.data.toList.drop 1595 = dktL_law_64 := dk_seg dksL_law_63 22 rfl rfl
theorem dksL_law_65 : cL_law.data.toList.drop 1618 = dktL_law_65 := dk_seg dksL_law_64 23 rfl rfl
theorem dksL_law_66 : cL_law.data.toList.drop 1641 = dktL_law_66 := dk_seg dksL_law_65 23 rfl rfl
theorem dksL_law_67 : cL_law.data.toList.drop 1664 = dktL_law_67 := dk_seg dksL_law_66 23 rfl rfl
theorem dksL_law_68 : cL_law.data.toList.drop 1687 = dktL_law_68 := dk_seg dksL_law_67 23 rfl rfl
theorem dksL_law_69 : cL_law.data.toList.drop 1709 = dktL_law_69 := dk_seg dksL_law_68 22 rfl rfl
theorem dksL_law_70 : cL_law.data.toList.drop 1733 = dktL_law_70 := dk_seg dksL_law_69 24 rfl rfl
theorem dksL_law_71 : cL_law.data.toList.drop 1757 = dktL_law_71 := dk_seg dksL_law_70 24 rfl rfl
theorem dksL_law_72 : cL_law.data.toList.drop 1781 = dktL_law_72 := dk_seg dksL_law_71 24 rfl rfl
theorem dksL_law_73 : cL_law.data.toList.drop 1805 = dktL_law_73 := dk_seg dksL_law_72 24 rfl rfl
theorem dksL_law_74 : cL_law.data.toList.drop 1829 = dktL_law_74 := dk_seg dksL_law_73 24 rfl rfl
theorem dksL_law_75 : cL_law.data.toList.drop 1852 = dktL_law_75 := dk_seg dksL_law_74 23 rfl rfl
theorem dksL_law_76 : cL_law.data.toList.drop 1874 = dktL_law_76 := dk_seg dksL_law_75 22 rfl rfl
theorem dksL_law_77 : cL_law.data.toList.drop 1896 = dktL_law_77 := dk_seg dksL_law_76 22 rfl rfl
theorem dL_law_0 : decode cL_law 0 = .ok (.new 8, 3) := dk_187 0 8 (dk_at dksL_law_0 0 rfl rfl)
theorem dL_law_3 : decode cL_law 3 = .ok (.dup, 1) := dk_89 (dk_at dksL_law_0 3 rfl rfl)
theorem dL_law_4 : decode cL_law 4 = .ok (.invokespecial 113, 3) := dk_183 0 113 (dk_at dksL_law_0 4 rfl rfl)
theorem dL_law_7 : decode cL_law 7 = .ok (.astore_n 1, 1) := dk_76 (dk_at dksL_law_0 7 rfl rfl)
theorem dL_law_8 : decode cL_law 8 = .ok (.new 114, 3) := dk_187 0 114 (dk_at dksL_law_0 8 rfl rfl)
theorem dL_law_11 : decode cL_law 11 = .ok (.dup, 1) := dk_89 (dk_at dksL_law_0 11 rfl rfl)
theorem dL_law_12 : decode cL_law 12 = .ok (.invokespecial 116, 3) := dk_183 0 116 (dk_at dksL_law_0 12 rfl rfl)
theorem dL_law_15 : decode cL_law 15 = .ok (.astore_n 2, 1) := dk_77 (dk_at dksL_law_0 15 rfl rfl)
theorem dL_law_16 : decode cL_law 16 = .ok (.iconst 1, 1) := dk_4 (dk_at dksL_law_0 16 rfl rfl)
theorem dL_law_17 : decode cL_law 17 = .ok (.newarray .long, 2) := dk_188_11 (dk_at dksL_law_0 17 rfl rfl)
theorem dL_law_19 : decode cL_law 19 = .ok (.astore_n 3, 1) := dk_78 (dk_at dksL_law_0 19 rfl rfl)
theorem dL_law_20 : decode cL_law 20 = .ok (.iconst 1, 1) := dk_4 (dk_at dksL_law_0 20 rfl rfl)
theorem dL_law_21 : decode cL_law 21 = .ok (.newarray .double, 2) := dk_188_7 (dk_at dksL_law_0 21 rfl rfl)
theorem dL_law_23 : decode cL_law 23 = .ok (.astore 4, 2) := dk_58 4 (dk_at dksL_law_1 0 rfl rfl)
theorem dL_law_25 : decode cL_law 25 = .ok (.iconst 0, 1) := dk_3 (dk_at dksL_law_1 2 rfl rfl)
theorem dL_law_26 : decode cL_law 26 = .ok (.istore 5, 2) := dk_54 5 (dk_at dksL_law_1 3 rfl rfl)
theorem dL_law_28 : decode cL_law 28 = .ok (.iload 5, 2) := dk_21 5 (dk_at dksL_law_1 5 rfl rfl)
theorem dL_law_30 : decode cL_law 30 = .ok (.aload_n 0, 1) := dk_42 (dk_at dksL_law_1 7 rfl rfl)
theorem dL_law_31 : decode cL_law 31 = .ok (.arraylength, 1) := dk_190 (dk_at dksL_law_1 8 rfl rfl)
theorem dL_law_32 : decode cL_law 32 = .ok (.iconst 5, 1) := dk_8 (dk_at dksL_law_1 9 rfl rfl)
theorem dL_law_33 : decode cL_law 33 = .ok (.isub, 1) := dk_100 (dk_at dksL_law_1 10 rfl rfl)
theorem dL_law_34 : decode cL_law 34 = .ok (.if_icmp .gt 1876, 3) := dk_163 7 84 (dk_at dksL_law_1 11 rfl rfl)
theorem dL_law_37 : decode cL_law 37 = .ok (.aload_n 0, 1) := dk_42 (dk_at dksL_law_1 14 rfl rfl)
theorem dL_law_38 : decode cL_law 38 = .ok (.iload 5, 2) := dk_21 5 (dk_at dksL_law_1 15 rfl rfl)
theorem dL_law_40 : decode cL_law 40 = .ok (.iaload, 1) := dk_46 (dk_at dksL_law_1 17 rfl rfl)
theorem dL_law_41 : decode cL_law 41 = .ok (.bipush 31, 2) := dk_16 31 (dk_at dksL_law_1 18 rfl rfl)
theorem dL_law_43 : decode cL_law 43 = .ok (.iand, 1) := dk_126 (dk_at dksL_law_1 20 rfl rfl)
theorem dL_law_44 : decode cL_law 44 = .ok (.tableswitch 1860 0 29 #[136, 216, 300, 392, 448, 516, 584, 640, 696, 764, 820, 876, 944, 1012, 1068, 1124, 1192, 1260, 1328, 1372, 1430, 1474, 1487, 1559, 1615, 1628, 1693, 1759, 1803, 1816], 136) := by decide +kernel
theorem dL_law_180 : decode cL_law 180 = .ok (.aload_n 1, 1) := dk_43 (dk_at dksL_law_3 0 rfl rfl)
theorem dL_law_181 : decode cL_law 181 = .ok (.aload_n 0, 1) := dk_42 (dk_at dksL_law_3 1 rfl rfl)
theorem dL_law_182 : decode cL_law 182 = .ok (.iload 5, 2) := dk_21 5 (dk_at dksL_law_3 2 rfl rfl)
theorem dL_law_184 : decode cL_law 184 = .ok (.iconst 1, 1) := dk_4 (dk_at dksL_law_3 4 rfl rfl)
theorem dL_law_185 : decode cL_law 185 = .ok (.iadd, 1) := dk_96 (dk_at dksL_law_3 5 rfl rfl)
theorem dL_law_186 : decode cL_law 186 = .ok (.iaload, 1) := dk_46 (dk_at dksL_law_3 6 rfl rfl)
theorem dL_law_187 : decode cL_law 187 = .ok (.aload_n 0, 1) := dk_42 (dk_at dksL_law_3 7 rfl rfl)
theorem dL_law_188 : decode cL_law 188 = .ok (.iload 5, 2) := dk_21 5 (dk_at dksL_law_3 8 rfl rfl)
theorem dL_law_190 : decode cL_law 190 = .ok (.iconst 2, 1) := dk_5 (dk_at dksL_law_3 10 rfl rfl)
theorem dL_law_191 : decode cL_law 191 = .ok (.iadd, 1) := dk_96 (dk_at dksL_law_3 11 rfl rfl)
theorem dL_law_192 : decode cL_law 192 = .ok (.iaload, 1) := dk_46 (dk_at dksL_law_3 12 rfl rfl)
theorem dL_law_193 : decode cL_law 193 = .ok (.aload_n 0, 1) := dk_42 (dk_at dksL_law_3 13 rfl rfl)
theorem dL_law_194 : decode cL_law 194 = .ok (.iload 5, 2) := dk_21 5 (dk_at dksL_law_3 14 rfl rfl)
theorem dL_law_196 : decode cL_law 196 = .ok (.iconst 3, 1) := dk_6 (dk_at dksL_law_3 16 rfl rfl)
theorem dL_law_197 : decode cL_law 197 = .ok (.iadd, 1) := dk_96 (dk_at dksL_law_3 17 rfl rfl)
theorem dL_law_198 : decode cL_law 198 = .ok (.iaload, 1) := dk_46 (dk_at dksL_law_3 18 rfl rfl)
theorem dL_law_199 : decode cL_law 199 = .ok (.aload_n 3, 1) := dk_45 (dk_at dksL_law_3 19 rfl rfl)
theorem dL_law_200 : decode cL_law 200 = .ok (.invokestatic 117, 3) := dk_184 0 117 (dk_at dksL_law_3 20 rfl rfl)
theorem dL_law_203 : decode cL_law 203 = .ok (.istore 6, 2) := dk_54 6 (dk_at dksL_law_4 0 rfl rfl)
theorem dL_law_205 : decode cL_law 205 = .ok (.aload_n 2, 1) := dk_44 (dk_at dksL_law_4 2 rfl rfl)
theorem dL_law_206 : decode cL_law 206 = .ok (.aload_n 0, 1) := dk_42 (dk_at dksL_law_4 3 rfl rfl)
theorem dL_law_207 : decode cL_law 207 = .ok (.iload 5, 2) := dk_21 5 (dk_at dksL_law_4 4 rfl rfl)
theorem dL_law_209 : decode cL_law 209 = .ok (.iconst 1, 1) := dk_4 (dk_at dksL_law_4 6 rfl rfl)
theorem dL_law_210 : decode cL_law 210 = .ok (.iadd, 1) := dk_96 (dk_at dksL_law_4 7 rfl rfl)
theorem dL_law_211 : decode cL_law 211 = .ok (.iaload, 1) := dk_46 (dk_at dksL_law_4 8 rfl rfl)
theorem dL_law_212 : decode cL_law 212 = .ok (.aload_n 0, 1) := dk_42 (dk_at dksL_law_4 9 rfl rfl)
theorem dL_law_213 : decode cL_law 213 = .ok (.iload 5, 2) := dk_21 5 (dk_at dksL_law_4 10 rfl rfl)
theorem dL_law_215 : decode cL_law 215 = .ok (.iconst 2, 1) := dk_5 (dk_at dksL_law_4 12 rfl rfl)
theorem dL_law_216 : decode cL_law 216 = .ok (.iadd, 1) := dk_96 (dk_at dksL_law_4 13 rfl rfl)
theorem dL_law_217 : decode cL_law 217 = .ok (.iaload, 1) := dk_46 (dk_at dksL_law_4 14 rfl rfl)
theorem dL_law_218 : decode cL_law 218 = .ok (.aload_n 0, 1) := dk_42 (dk_at dksL_law_4 15 rfl rfl)
theorem dL_law_219 : decode cL_law 219 = .ok (.iload 5, 2) := dk_21 5 (dk_at dksL_law_4 16 rfl rfl)
theorem dL_law_221 : decode cL_law 221 = .ok (.iconst 3, 1) := dk_6 (dk_at dksL_law_4 18 rfl rfl)
theorem dL_law_222 : decode cL_law 222 = .ok (.iadd, 1) := dk_96 (dk_at dksL_law_4 19 rfl rfl)
theorem dL_law_223 : decode cL_law 223 = .ok (.iaload, 1) := dk_46 (dk_at dksL_law_4 20 rfl rfl)
theorem dL_law_224 : decode cL_law 224 = .ok (.invokevirtual 122, 3) := dk_182 0 122 (dk_at dksL_law_4 21 rfl rfl)
theorem dL_law_227 : decode cL_law 227 = .ok (.istore 7, 2) := dk_54 7 (dk_at dksL_law_5 0 rfl rfl)
theorem dL_law_229 : decode cL_law 229 = .ok (.aload_n 2, 1) := dk_44 (dk_at dksL_law_5 2 rfl rfl)
theorem dL_law_230 : decode cL_law 230 = .ok (.invokevirtual 123, 3) := dk_182 0 123 (dk_at dksL_law_5 3 rfl rfl)
theorem dL_law_233 : decode cL_law 233 = .ok (.iload 6, 2) := dk_21 6 (dk_at dksL_law_5 6 rfl rfl)
theorem dL_law_235 : decode cL_law 235 = .ok (.if_icmp .eq 5, 3) := dk_159 0 5 (dk_at dksL_law_5 8 rfl rfl)
theorem dL_law_238 : decode cL_law 238 = .ok (.iconst 0, 1) := dk_3 (dk_at dksL_law_5 11 rfl rfl)
theorem dL_law_239 : decode cL_law 239 = .ok (.ireturn, 1) := dk_172 (dk_at dksL_law_5 12 rfl rfl)
theorem dL_law_240 : decode cL_law 240 = .ok (.iload 6, 2) := dk_21 6 (dk_at dksL_law_5 13 rfl rfl)
theorem dL_law_242 : decode cL_law 242 = .ok (.ifCond .ne 15, 3) := dk_154 0 15 (dk_at dksL_law_5 15 rfl rfl)
theorem dL_law_245 : decode cL_law 245 = .ok (.aload_n 3, 1) := dk_45 (dk_at dksL_law_5 18 rfl rfl)
theorem dL_law_246 : decode cL_law 246 = .ok (.iconst 0, 1) := dk_3 (dk_at dksL_law_5 19 rfl rfl)
theorem dL_law_247 : decode cL_law 247 = .ok (.laload, 1) := dk_47 (dk_at dksL_law_5 20 rfl rfl)
theorem dL_law_248 : decode cL_law 248 = .ok (.iload 7, 2) := dk_21 7 (dk_at dksL_law_5 21 rfl rfl)
theorem dL_law_250 : decode cL_law 250 = .ok (.i2l, 1) := dk_133 (dk_at dksL_law_5 23 rfl rfl)
theorem dL_law_251 : decode cL_law 251 = .ok (.lcmp, 1) := dk_148 (dk_at dksL_law_6 0 rfl rfl)
theorem dL_law_252 : decode cL_law 252 = .ok (.ifCond .eq 5, 3) := dk_153 0 5 (dk_at dksL_law_6 1 rfl rfl)
theorem dL_law_255 : decode cL_law 255 = .ok (.iconst 0, 1) := dk_3 (dk_at dksL_law_6 4 rfl rfl)
theorem dL_law_256 : decode cL_law 256 = .ok (.ireturn, 1) := dk_172 (dk_at dksL_law_6 5 rfl rfl)
theorem dL_law_257 : decode cL_law 257 = .ok (.goto 1647, 3) := dk_167 6 111 (dk_at dksL_law_6 6 rfl rfl)
theorem dL_law_260 : decode cL_law 260 = .ok (.aload_n 1, 1) := dk_43 (dk_at dksL_law_6 9 rfl rfl)
theorem dL_law_261 : decode cL_law 261 = .ok (.aload_n 0, 1) := dk_42 (dk_at dksL_law_6 10 rfl rfl)
theorem dL_law_262 : decode cL_law 262 = .ok (.iload 5, 2) := dk_21 5 (dk_at dksL_law_6 11 rfl rfl)
theorem dL_law_264 : decode cL_law 264 = .ok (.iconst 1, 1) := dk_4 (dk_at dksL_law_6 13 rfl rfl)
theorem dL_law_265 : decode cL_law 265 = .ok (.iadd, 1) := dk_96 (dk_at dksL_law_6 14 rfl rfl)
theorem dL_law_266 : decode cL_law 266 = .ok (.iaload, 1) := dk_46 (dk_at dksL_law_6 15 rfl rfl)
theorem dL_law_267 : decode cL_law 267 = .ok (.aload_n 0, 1) := dk_42 (dk_at dksL_law_6 16 rfl rfl)
theorem dL_law_268 : decode cL_law 268 = .ok (.iload 5, 2) := dk_21 5 (dk_at dksL_law_6 17 rfl rfl)
theorem dL_law_270 : decode cL_law 270 = .ok (.iconst 2, 1) := dk_5 (dk_at dksL_law_6 19 rfl rfl)
theorem dL_law_271 : decode cL_law 271 = .ok (.iadd, 1) := dk_96 (dk_at dksL_law_6 20 rfl rfl)
theorem dL_law_272 : decode cL_law 272 = .ok (.iaload, 1) := dk_46 (dk_at dksL_law_6 21 rfl rfl)
theorem dL_law_273 : decode cL_law 273 = .ok (.ifCond .eq 7, 3) := dk_153 0 7 (dk_at dksL_law_7 0 rfl rfl)
theorem dL_law_276 : decode cL_law 276 = .ok (.iconst 1, 1) := dk_4 (dk_at dksL_law_7 3 rfl rfl)
theorem dL_law_277 : decode cL_law 277 = .ok (.goto 4, 3) := dk_167 0 4 (dk_at dksL_law_7 4 rfl rfl)
theorem dL_law_280 : decode cL_law 280 = .ok (.iconst 0, 1) := dk_3 (dk_at dksL_law_7 7 rfl rfl)
theorem dL_law_281 : decode cL_law 281 = .ok (.aload_n 3, 1) := dk_45 (dk_at dksL_law_7 8 rfl rfl)
theorem dL_law_282 : decode cL_law 282 = .ok (.invokestatic 126, 3) := dk_184 0 126 (dk_at dksL_law_7 9 rfl rfl)
theorem dL_law_285 : decode cL_law 285 = .ok (.istore 6, 2) := dk_54 6 (dk_at dksL_law_7 12 rfl rfl)
theorem dL_law_287 : decode cL_law 287 = .ok (.aload_n 2, 1) := dk_44 (dk_at dksL_law_7 14 rfl rfl)
theorem dL_law_288 : decode cL_law 288 = .ok (.aload_n 0, 1) := dk_42 (dk_at dksL_law_7 15 rfl rfl)
theorem dL_law_289 : decode cL_law 289 = .ok (.iload 5, 2) := dk_21 5 (dk_at dksL_law_7 16 rfl rfl)
theorem dL_law_291 : decode cL_law 291 = .ok (.iconst 1, 1) := dk_4 (dk_at dksL_law_7 18 rfl rfl)
theorem dL_law_292 : decode cL_law 292 = .ok (.iadd, 1) := dk_96 (dk_at dksL_law_7 19 rfl rfl)
theorem dL_law_293 : decode cL_law 293 = .ok (.iaload, 1) := dk_46 (dk_at dksL_law_7 20 rfl rfl)
theorem dL_law_294 : decode cL_law 294 = .ok (.aload_n 0, 1) := dk_42 (dk_at dksL_law_7 21 rfl rfl)
theorem dL_law_295 : decode cL_law 295 = .ok (.iload 5, 2) := dk_21 5 (dk_at dksL_law_7 22 rfl rfl)
theorem dL_law_297 : decode cL_law 297 = .ok (.iconst 2, 1) := dk_5 (dk_at dksL_law_8 0 rfl rfl)
theorem dL_law_298 : decode cL_law 298 = .ok (.iadd, 1) := dk_96 (dk_at dksL_law_8 1 rfl rfl)
theorem dL_law_299 : decode cL_law 299 = .ok (.iaload, 1) := dk_46 (dk_at dksL_law_8 2 rfl rfl)
theorem dL_law_300 : decode cL_law 300 = .ok (.ifCond .eq 7, 3) := dk_153 0 7 (dk_at dksL_law_8 3 rfl rfl)
theorem dL_law_303 : decode cL_law 303 = .ok (.iconst 1, 1) := dk_4 (dk_at dksL_law_8 6 rfl rfl)
theorem dL_law_304 : decode cL_law 304 = .ok (.goto 4, 3) := dk_167 0 4 (dk_at dksL_law_8 7 rfl rfl)
theorem dL_law_307 : decode cL_law 307 = .ok (.iconst 0, 1) := dk_3 (dk_at dksL_law_8 10 rfl rfl)
theorem dL_law_308 : decode cL_law 308 = .ok (.invokevirtual 129, 3) := dk_182 0 129 (dk_at dksL_law_8 11 rfl rfl)
theorem dL_law_311 : decode cL_law 311 = .ok (.istore 7, 2) := dk_54 7 (dk_at dksL_law_8 14 rfl rfl)
theorem dL_law_313 : decode cL_law 313 = .ok (.aload_n 2, 1) := dk_44 (dk_at dksL_law_8 16 rfl rfl)
theorem dL_law_314 : decode cL_law 314 = .ok (.invokevirtual 123, 3) := dk_182 0 123 (dk_at dksL_law_8 17 rfl rfl)
theorem dL_law_317 : decode cL_law 317 = .ok (.iload 6, 2) := dk_21 6 (dk_at dksL_law_8 20 rfl rfl)
theorem dL_law_319 : decode cL_law 319 = .ok (.if_icmp .eq 5, 3) := dk_159 0 5 (dk_at dksL_law_9 0 rfl rfl)
theorem dL_law_322 : decode cL_law 322 = .ok (.iconst 0, 1) := dk_3 (dk_at dksL_law_9 3 rfl rfl)
theorem dL_law_323 : decode cL_law 323 = .ok (.ireturn, 1) := dk_172 (dk_at dksL_law_9 4 rfl rfl)
theorem dL_law_324 : decode cL_law 324 = .ok (.iload 6, 2) := dk_21 6 (dk_at dksL_law_9 5 rfl rfl)
theorem dL_law_326 : decode cL_law 326 = .ok (.ifCond .ne 15, 3) := dk_154 0 15 (dk_at dksL_law_9 7 rfl rfl)
theorem dL_law_329 : decode cL_law 329 = .ok (.aload_n 3, 1) := dk_45 (dk_at dksL_law_9 10 rfl rfl)
theorem dL_law_330 : decode cL_law 330 = .ok (.iconst 0, 1) := dk_3 (dk_at dksL_law_9 11 rfl rfl)
theorem dL_law_331 : decode cL_law 331 = .ok (.laload, 1) := dk_47 (dk_at dksL_law_9 12 rfl rfl)
theorem dL_law_332 : decode cL_law 332 = .ok (.iload 7, 2) := dk_21 7 (dk_at dksL_law_9 13 rfl rfl)
theorem dL_law_334 : decode cL_law 334 = .ok (.i2l, 1) := dk_133 (dk_at dksL_law_9 15 rfl rfl)
theorem dL_law_335 : decode cL_law 335 = .ok (.lcmp, 1) := dk_148 (dk_at dksL_law_9 16 rfl rfl)
theorem dL_law_336 : decode cL_law 336 = .ok (.ifCond .eq 5, 3) := dk_153 0 5 (dk_at dksL_law_9 17 rfl rfl)
theorem dL_law_339 : decode cL_law 339 = .ok (.iconst 0, 1) := dk_3 (dk_at dksL_law_9 20 rfl rfl)
theorem dL_law_340 : decode cL_law 340 = .ok (.ireturn, 1) := dk_172 (dk_at dksL_law_9 21 rfl rfl)
theorem dL_law_341 : decode cL_law 341 = .ok (.goto 1563, 3) := dk_167 6 27 (dk_at dksL_law_10 0 rfl rfl)
theorem dL_law_344 : decode cL_law 344 = .ok (.aload_n 1, 1) := dk_43 (dk_at dksL_law_10 3 rfl rfl)
theorem dL_law_345 : decode cL_law 345 = .ok (.aload_n 0, 1) := dk_42 (dk_at dksL_law_10 4 rfl rfl)
theorem dL_law_346 : decode cL_law 346 = .ok (.iload 5, 2) := dk_21 5 (dk_at dksL_law_10 5 rfl rfl)
theorem dL_law_348 : decode cL_law 348 = .ok (.iconst 1, 1) := dk_4 (dk_at dksL_law_10 7 rfl rfl)
theorem dL_law_349 : decode cL_law 349 = .ok (.iadd, 1) := dk_96 (dk_at dksL_law_10 8 rfl rfl)
theorem dL_law_350 : decode cL_law 350 = .ok (.iaload, 1) := dk_46 (dk_at dksL_law_10 9 rfl rfl)
theorem dL_law_351 : decode cL_law 351 = .ok (.aload_n 0, 1) := dk_42 (dk_at dksL_law_10 10 rfl rfl)
theorem dL_law_352 : decode cL_law 352 = .ok (.iload 5, 2) := dk_21 5 (dk_at dksL_law_10 11 rfl rfl)
theorem dL_law_354 : decode cL_law 354 = .ok (.iconst 2, 1) := dk_5 (dk_at dksL_law_10 13 rfl rfl)
theorem dL_law_355 : decode cL_law 355 = .ok (.iadd, 1) := dk_96 (dk_at dksL_law_10 14 rfl rfl)
theorem dL_law_356 : decode cL_law 356 = .ok (.iaload, 1) := dk_46 (dk_at dksL_law_10 15 rfl rfl)
theorem dL_law_357 : decode cL_law 357 = .ok (.aload_n 0, 1) := dk_42 (dk_at dksL_law_10 16 rfl rfl)
theorem dL_law_358 : decode cL_law 358 = .ok (.iload 5, 2) := dk_21 5 (dk_at dksL_law_10 17 rfl rfl)
theorem dL_law_360 : decode cL_law 360 = .ok (.iconst 3, 1) := dk_6 (dk_at dksL_law_10 19 rfl rfl)
theorem dL_law_361 : decode cL_law 361 = .ok (.iadd, 1) := dk_96 (dk_at dksL_law_10 20 rfl rfl)
theorem dL_law_362 : decode cL_law 362 = .ok (.iaload, 1) := dk_46 (dk_at dksL_law_10 21 rfl rfl)
theorem dL_law_363 : decode cL_law 363 = .ok (.aload_n 0, 1) := dk_42 (dk_at dksL_law_10 22 rfl rfl)
theorem dL_law_364 : decode cL_law 364 = .ok (.iload 5, 2) := dk_21 5 (dk_at dksL_law_11 0 rfl rfl)
theorem dL_law_366 : decode cL_law 366 = .ok (.iconst 4, 1) := dk_7 (dk_at dksL_law_11 2 rfl rfl)
theorem dL_law_367 : decode cL_law 367 = .ok (.iadd, 1) := dk_96 (dk_at dksL_law_11 3 rfl rfl)
theorem dL_law_368 : decode cL_law 368 = .ok (.iaload, 1) := dk_46 (dk_at dksL_law_11 4 rfl rfl)
theorem dL_law_369 : decode cL_law 369 = .ok (.aload_n 3, 1) := dk_45 (dk_at dksL_law_11 5 rfl rfl)
theorem dL_law_370 : decode cL_law 370 = .ok (.invokestatic 130, 3) := dk_184 0 130 (dk_at dksL_law_11 6 rfl rfl)
theorem dL_law_373 : decode cL_law 373 = .ok (.istore 6, 2) := dk_54 6 (dk_at dksL_law_11 9 rfl rfl)
theorem dL_law_375 : decode cL_law 375 = .ok (.aload_n 2, 1) := dk_44 (dk_at dksL_law_11 11 rfl rfl)
theorem dL_law_376 : decode cL_law 376 = .ok (.aload_n 0, 1) := dk_42 (dk_at dksL_law_11 12 rfl rfl)
theorem dL_law_377 : decode cL_law 377 = .ok (.iload 5, 2) := dk_21 5 (dk_at dksL_law_11 13 rfl rfl)
theorem dL_law_379 : decode cL_law 379 = .ok (.iconst 1, 1) := dk_4 (dk_at dksL_law_11 15 rfl rfl)
theorem dL_law_380 : decode cL_law 380 = .ok (.iadd, 1) := dk_96 (dk_at dksL_law_11 16 rfl rfl)
theorem dL_law_381 : decode cL_law 381 = .ok (.iaload, 1) := dk_46 (dk_at dksL_law_11 17 rfl rfl)
theorem dL_law_382 : decode cL_law 382 = .ok (.aload_n 0, 1) := dk_42 (dk_at dksL_law_11 18 rfl rfl)
theorem dL_law_383 : decode cL_law 383 = .ok (.iload 5, 2) := dk_21 5 (dk_at dksL_law_11 19 rfl rfl)
theorem dL_law_385 : decode cL_law 385 = .ok (.iconst 2, 1) := dk_5 (dk_at dksL_law_11 21 rfl rfl)
theorem dL_law_386 : decode cL_law 386 = .ok (.iadd, 1) := dk_96 (dk_at dksL_law_11 22 rfl rfl)
theorem dL_law_387 : decode cL_law 387 = .ok (.iaload, 1) := dk_46 (dk_at dksL_law_11 23 rfl rfl)
theorem dL_law_388 : decode cL_law 388 = .ok (.aload_n 0, 1) := dk_42 (dk_at dksL_law_12 0 rfl rfl)
theorem dL_law_389 : decode cL_law 389 = .ok (.iload 5, 2) := dk_21 5 (dk_at dksL_law_12 1 rfl rfl)
theorem dL_law_391 : decode cL_law 391 = .ok (.iconst 3, 1) := dk_6 (dk_at dksL_law_12 3 rfl rfl)
theorem dL_law_392 : decode cL_law 392 = .ok (.iadd, 1) := dk_96 (dk_at dksL_law_12 4 rfl rfl)
theorem dL_law_393 : decode cL_law 393 = .ok (.iaload, 1) := dk_46 (dk_at dksL_law_12 5 rfl rfl)
theorem dL_law_394 : decode cL_law 394 = .ok (.aload_n 0, 1) := dk_42 (dk_at dksL_law_12 6 rfl rfl)
theorem dL_law_395 : decode cL_law 395 = .ok (.iload 5, 2) := dk_21 5 (dk_at dksL_law_12 7 rfl rfl)
theorem dL_law_397 : decode cL_law 397 = .ok (.iconst 4, 1) := dk_7 (dk_at dksL_law_12 9 rfl rfl)
theorem dL_law_398 : decode cL_law 398 = .ok (.iadd, 1) := dk_96 (dk_at dksL_law_12 10 rfl rfl)
theorem dL_law_399 : decode cL_law 399 = .ok (.iaload, 1) := dk_46 (dk_at dksL_law_12 11 rfl rfl)
theorem dL_law_400 : decode cL_law 400 = .ok (.invokevirtual 133, 3) := dk_182 0 133 (dk_at dksL_law_12 12 rfl rfl)
theorem dL_law_403 : decode cL_law 403 = .ok (.istore 7, 2) := dk_54 7 (dk_at dksL_law_12 15 rfl rfl)
theorem dL_law_405 : decode cL_law 405 = .ok (.aload_n 2, 1) := dk_44 (dk_at dksL_law_12 17 rfl rfl)
theorem dL_law_406 : decode cL_law 406 = .ok (.invokevirtual 123, 3) := dk_182 0 123 (dk_at dksL_law_12 18 rfl rfl)
theorem dL_law_409 : decode cL_law 409 = .ok (.iload 6, 2) := dk_21 6 (dk_at dksL_law_12 21 rfl rfl)
theorem dL_law_411 : decode cL_law 411 = .ok (.if_icmp .eq 5, 3) := dk_159 0 5 (dk_at dksL_law_13 0 rfl rfl)
theorem dL_law_414 : decode cL_law 414 = .ok (.iconst 0, 1) := dk_3 (dk_at dksL_law_13 3 rfl rfl)
theorem dL_law_415 : decode cL_law 415 = .ok (.ireturn, 1) := dk_172 (dk_at dksL_law_13 4 rfl rfl)
theorem dL_law_416 : decode cL_law 416 = .ok (.iload 6, 2) := dk_21 6 (dk_at dksL_law_13 5 rfl rfl)
theorem dL_law_418 : decode cL_law 418 = .ok (.ifCond .ne 15, 3) := dk_154 0 15 (dk_at dksL_law_13 7 rfl rfl)
theorem dL_law_421 : decode cL_law 421 = .ok (.aload_n 3, 1) := dk_45 (dk_at dksL_law_13 10 rfl rfl)
theorem dL_law_422 : decode cL_law 422 = .ok (.iconst 0, 1) := dk_3 (dk_at dksL_law_13 11 rfl rfl)
theorem dL_law_423 : decode cL_law 423 = .ok (.laload, 1) := dk_47 (dk_at dksL_law_13 12 rfl rfl)
theorem dL_law_424 : decode cL_law 424 = .ok (.iload 7, 2) := dk_21 7 (dk_at dksL_law_13 13 rfl rfl)
theorem dL_law_426 : decode cL_law 426 = .ok (.i2l, 1) := dk_133 (dk_at dksL_law_13 15 rfl rfl)
theorem dL_law_427 : decode cL_law 427 = .ok (.lcmp, 1) := dk_148 (dk_at dksL_law_13 16 rfl rfl)
theorem dL_law_428 : decode cL_law 428 = .ok (.ifCond .eq 5, 3) := dk_153 0 5 (dk_at dksL_law_13 17 rfl rfl)
theorem dL_law_431 : decode cL_law 431 = .ok (.iconst 0, 1) := dk_3 (dk_at dksL_law_13 20 rfl rfl)
theorem dL_law_432 : decode cL_law 432 = .ok (.ireturn, 1) := dk_172 (dk_at dksL_law_13 21 rfl rfl)
theorem dL_law_433 : decode cL_law 433 = .ok (.goto 1471, 3) := dk_167 5 191 (dk_at dksL_law_14 0 rfl rfl)
theorem dL_law_436 : decode cL_law 436 = .ok (.aload_n 1, 1) := dk_43 (dk_at dksL_law_14 3 rfl rfl)
theorem dL_law_437 : decode cL_law 437 = .ok (.aload_n 0, 1) := dk_42 (dk_at dksL_law_14 4 rfl rfl)
theorem dL_law_438 : decode cL_law 438 = .ok (.iload 5, 2) := dk_21 5 (dk_at dksL_law_14 5 rfl rfl)
theorem dL_law_440 : decode cL_law 440 = .ok (.iconst 1, 1) := dk_4 (dk_at dksL_law_14 7 rfl rfl)
theorem dL_law_441 : decode cL_law 441 = .ok (.iadd, 1) := dk_96 (dk_at dksL_law_14 8 rfl rfl)
theorem dL_law_442 : decode cL_law 442 = .ok (.iaload, 1) := dk_46 (dk_at dksL_law_14 9 rfl rfl)
theorem dL_law_443 : decode cL_law 443 = .ok (.aload_n 3, 1) := dk_45 (dk_at dksL_law_14 10 rfl rfl)
theorem dL_law_444 : decode cL_law 444 = .ok (.invokestatic 134, 3) := dk_184 0 134 (dk_at dksL_law_14 11 rfl rfl)
theorem dL_law_447 : decode cL_law 447 = .ok (.istore 6, 2) := dk_54 6 (dk_at dksL_law_14 14 rfl rfl)
theorem dL_law_449 : decode cL_law 449 = .ok (.aload_n 2, 1) := dk_44 (dk_at dksL_law_14 16 rfl rfl)
theorem dL_law_450 : decode cL_law 450 = .ok (.aload_n 0, 1) := dk_42 (dk_at dksL_law_14 17 rfl rfl)
theorem dL_law_451 : decode cL_law 451 = .ok (.iload 5, 2) := dk_21 5 (dk_at dksL_law_14 18 rfl rfl)
theorem dL_law_453 : decode cL_law 453 = .ok (.iconst 1, 1) := dk_4 (dk_at dksL_law_14 20 rfl rfl)
theorem dL_law_454 : decode cL_law 454 = .ok (.iadd, 1) := dk_96 (dk_at dksL_law_14 21 rfl rfl)
theorem dL_law_455 : decode cL_law 455 = .ok (.iaload, 1) := dk_46 (dk_at dksL_law_14 22 rfl rfl)
theorem dL_law_456 : decode cL_law 456 = .ok (.invokevirtual 137, 3) := dk_182 0 137 (dk_at dksL_law_15 0 rfl rfl)
theorem dL_law_459 : decode cL_law 459 = .ok (.istore 7, 2) := dk_54 7 (dk_at dksL_law_15 3 rfl rfl)
theorem dL_law_461 : decode cL_law 461 = .ok (.aload_n 2, 1) := dk_44 (dk_at dksL_law_15 5 rfl rfl)
theorem dL_law_462 : decode cL_law 462 = .ok (.invokevirtual 123, 3) := dk_182 0 123 (dk_at dksL_law_15 6 rfl rfl)
theorem dL_law_465 : decode cL_law 465 = .ok (.iload 6, 2) := dk_21 6 (dk_at dksL_law_15 9 rfl rfl)
theorem dL_law_467 : decode cL_law 467 = .ok (.if_icmp .eq 5, 3) := dk_159 0 5 (dk_at dksL_law_15 11 rfl rfl)
theorem dL_law_470 : decode cL_law 470 = .ok (.iconst 0, 1) := dk_3 (dk_at dksL_law_15 14 rfl rfl)
theorem dL_law_471 : decode cL_law 471 = .ok (.ireturn, 1) := dk_172 (dk_at dksL_law_15 15 rfl rfl)
theorem dL_law_472 : decode cL_law 472 = .ok (.iload 6, 2) := dk_21 6 (dk_at dksL_law_15 16 rfl rfl)
theorem dL_law_474 : decode cL_law 474 = .ok (.ifCond .ne 15, 3) := dk_154 0 15 (dk_at dksL_law_15 18 rfl rfl)
theorem dL_law_477 : decode cL_law 477 = .ok (.aload_n 3, 1) := dk_45 (dk_at dksL_law_15 21 rfl rfl)
theorem dL_law_478 : decode cL_law 478 = .ok (.iconst 0, 1) := dk_3 (dk_at dksL_law_15 22 rfl rfl)
theorem dL_law_479 : decode cL_law 479 = .ok (.laload, 1) := dk_47 (dk_at dksL_law_15 23 rfl rfl)
theorem dL_law_480 : decode cL_law 480 = .ok (.iload 7, 2) := dk_21 7 (dk_at dksL_law_16 0 rfl rfl)
theorem dL_law_482 : decode cL_law 482 = .ok (.i2l, 1) := dk_133 (dk_at dksL_law_16 2 rfl rfl)
theorem dL_law_483 : decode cL_law 483 = .ok (.lcmp, 1) := dk_148 (dk_at dksL_law_16 3 rfl rfl)
theorem dL_law_484 : decode cL_law 484 = .ok (.ifCond .eq 5, 3) := dk_153 0 5 (dk_at dksL_law_16 4 rfl rfl)
theorem dL_law_487 : decode cL_law 487 = .ok (.iconst 0, 1) := dk_3 (dk_at dksL_law_16 7 rfl rfl)
theorem dL_law_488 : decode cL_law 488 = .ok (.ireturn, 1) := dk_172 (dk_at dksL_law_16 8 rfl rfl)
theorem dL_law_489 : decode cL_law 489 = .ok (.goto 1415, 3) := dk_167 5 135 (dk_at dksL_law_16 9 rfl rfl)
theorem dL_law_492 : decode cL_law 492 = .ok (.aload_n 1, 1) := dk_43 (dk_at dksL_law_16 12 rfl rfl)
theorem dL_law_493 : decode cL_law 493 = .ok (.aload_n 0, 1) := dk_42 (dk_at dksL_law_16 13 rfl rfl)
theorem dL_law_494 : decode cL_law 494 = .ok (.iload 5, 2) := dk_21 5 (dk_at dksL_law_16 14 rfl rfl)
theorem dL_law_496 : decode cL_law 496 = .ok (.iconst 1, 1) := dk_4 (dk_at dksL_law_16 16 rfl rfl)
theorem dL_law_497 : decode cL_law 497 = .ok (.iadd, 1) := dk_96 (dk_at dksL_law_16 17 rfl rfl)
theorem dL_law_498 : decode cL_law 498 = .ok (.iaload, 1) := dk_46 (dk_at dksL_law_16 18 rfl rfl)
theorem dL_law_499 : decode cL_law 499 = .ok (.aload_n 0, 1) := dk_42 (dk_at dksL_law_16 19 rfl rfl)
theorem dL_law_500 : decode cL_law 500 = .ok (.iload 5, 2) := dk_21 5 (dk_at dksL_law_16 20 rfl rfl)
theorem dL_law_502 : decode cL_law 502 = .ok (.iconst 2, 1) := dk_5 (dk_at dksL_law_16 22 rfl rfl)
theorem dL_law_503 : decode cL_law 503 = .ok (.iadd, 1) := dk_96 (dk_at dksL_law_16 23 rfl rfl)
theorem dL_law_504 : decode cL_law 504 = .ok (.iaload, 1) := dk_46 (dk_at dksL_law_17 0 rfl rfl)
theorem dL_law_505 : decode cL_law 505 = .ok (.aload_n 3, 1) := dk_45 (dk_at dksL_law_17 1 rfl rfl)
theorem dL_law_506 : decode cL_law 506 = .ok (.invokestatic 138, 3) := dk_184 0 138 (dk_at dksL_law_17 2 rfl rfl)
theorem dL_law_509 : decode cL_law 509 = .ok (.istore 6, 2) := dk_54 6 (dk_at dksL_law_17 5 rfl rfl)
theorem dL_law_511 : decode cL_law 511 = .ok (.aload_n 2, 1) := dk_44 (dk_at dksL_law_17 7 rfl rfl)
theorem dL_law_512 : decode cL_law 512 = .ok (.aload_n 0, 1) := dk_42 (dk_at dksL_law_17 8 rfl rfl)
theorem dL_law_513 : decode cL_law 513 = .ok (.iload 5, 2) := dk_21 5 (dk_at dksL_law_17 9 rfl rfl)
theorem dL_law_515 : decode cL_law 515 = .ok (.iconst 1, 1) := dk_4 (dk_at dksL_law_17 11 rfl rfl)
theorem dL_law_516 : decode cL_law 516 = .ok (.iadd, 1) := dk_96 (dk_at dksL_law_17 12 rfl rfl)
theorem dL_law_517 : decode cL_law 517 = .ok (.iaload, 1) := dk_46 (dk_at dksL_law_17 13 rfl rfl)
theorem dL_law_518 : decode cL_law 518 = .ok (.aload_n 0, 1) := dk_42 (dk_at dksL_law_17 14 rfl rfl)
theorem dL_law_519 : decode cL_law 519 = .ok (.iload 5, 2) := dk_21 5 (dk_at dksL_law_17 15 rfl rfl)
theorem dL_law_521 : decode cL_law 521 = .ok (.iconst 2, 1) := dk_5 (dk_at dksL_law_17 17 rfl rfl)
theorem dL_law_522 : decode cL_law 522 = .ok (.iadd, 1) := dk_96 (dk_at dksL_law_17 18 rfl rfl)
theorem dL_law_523 : decode cL_law 523 = .ok (.iaload, 1) := dk_46 (dk_at dksL_law_17 19 rfl rfl)
theorem dL_law_524 : decode cL_law 524 = .ok (.invokevirtual 141, 3) := dk_182 0 141 (dk_at dksL_law_17 20 rfl rfl)
theorem dL_law_527 : decode cL_law 527 = .ok (.istore 7, 2) := dk_54 7 (dk_at dksL_law_18 0 rfl rfl)
theorem dL_law_529 : decode cL_law 529 = .ok (.aload_n 2, 1) := dk_44 (dk_at dksL_law_18 2 rfl rfl)
theorem dL_law_530 : decode cL_law 530 = .ok (.invokevirtual 123, 3) := dk_182 0 123 (dk_at dksL_law_18 3 rfl rfl)
theorem dL_law_533 : decode cL_law 533 = .ok (.iload 6, 2) := dk_21 6 (dk_at dksL_law_18 6 rfl rfl)
theorem dL_law_535 : decode cL_law 535 = .ok (.if_icmp .eq 5, 3) := dk_159 0 5 (dk_at dksL_law_18 8 rfl rfl)
theorem dL_law_538 : decode cL_law 538 = .ok (.iconst 0, 1) := dk_3 (dk_at dksL_law_18 11 rfl rfl)
theorem dL_law_539 : decode cL_law 539 = .ok (.ireturn, 1) := dk_172 (dk_at dksL_law_18 12 rfl rfl)
theorem dL_law_540 : decode cL_law 540 = .ok (.iload 6, 2) := dk_21 6 (dk_at dksL_law_18 13 rfl rfl)
theorem dL_law_542 : decode cL_law 542 = .ok (.ifCond .ne 15, 3) := dk_154 0 15 (dk_at dksL_law_18 15 rfl rfl)
theorem dL_law_545 : decode cL_law 545 = .ok (.aload_n 3, 1) := dk_45 (dk_at dksL_law_18 18 rfl rfl)
theorem dL_law_546 : decode cL_law 546 = .ok (.iconst 0, 1) := dk_3 (dk_at dksL_law_18 19 rfl rfl)
theorem dL_law_547 : decode cL_law 547 = .ok (.laload, 1) := dk_47 (dk_at dksL_law_18 20 rfl rfl)
theorem dL_law_548 : decode cL_law 548 = .ok (.iload 7, 2) := dk_21 7 (dk_at dksL_law_18 21 rfl rfl)
theorem dL_law_550 : decode cL_law 550 = .ok (.i2l, 1) := dk_133 (dk_at dksL_law_18 23 rfl rfl)
theorem dL_law_551 : decode cL_law 551 = .ok (.lcmp, 1) := dk_148 (dk_at dksL_law_19 0 rfl rfl)
theorem dL_law_552 : decode cL_law 552 = .ok (.ifCond .eq 5, 3) := dk_153 0 5 (dk_at dksL_law_19 1 rfl rfl)
theorem dL_law_555 : decode cL_law 555 = .ok (.iconst 0, 1) := dk_3 (dk_at dksL_law_19 4 rfl rfl)
theorem dL_law_556 : decode cL_law 556 = .ok (.ireturn, 1) := dk_172 (dk_at dksL_law_19 5 rfl rfl)
theorem dL_law_557 : decode cL_law 557 = .ok (.goto 1347, 3) := dk_167 5 67 (dk_at dksL_law_19 6 rfl rfl)
theorem dL_law_560 : decode cL_law 560 = .ok (.aload_n 1, 1) := dk_43 (dk_at dksL_law_19 9 rfl rfl)
theorem dL_law_561 : decode cL_law 561 = .ok (.aload_n 0, 1) := dk_42 (dk_at dksL_law_19 10 rfl rfl)
theorem dL_law_562 : decode cL_law 562 = .ok (.iload 5, 2) := dk_21 5 (dk_at dksL_law_19 11 rfl rfl)
theorem dL_law_564 : decode cL_law 564 = .ok (.iconst 1, 1) := dk_4 (dk_at dksL_law_19 13 rfl rfl)
theorem dL_law_565 : decode cL_law 565 = .ok (.iadd, 1) := dk_96 (dk_at dksL_law_19 14 rfl rfl)
theorem dL_law_566 : decode cL_law 566 = .ok (.iaload, 1) := dk_46 (dk_at dksL_law_19 15 rfl rfl)
theorem dL_law_567 : decode cL_law 567 = .ok (.aload_n 0, 1) := dk_42 (dk_at dksL_law_19 16 rfl rfl)
theorem dL_law_568 : decode cL_law 568 = .ok (.iload 5, 2) := dk_21 5 (dk_at dksL_law_19 17 rfl rfl)
theorem dL_law_570 : decode cL_law 570 = .ok (.iconst 2, 1) := dk_5 (dk_at dksL_law_19 19 rfl rfl)
theorem dL_law_571 : decode cL_law 571 = .ok (.iadd, 1) := dk_96 (dk_at dksL_law_19 20 rfl rfl)
theorem dL_law_572 : decode cL_law 572 = .ok (.iaload, 1) := dk_46 (dk_at dksL_law_19 21 rfl rfl)
theorem dL_law_573 : decode cL_law 573 = .ok (.aload_n 3, 1) := dk_45 (dk_at dksL_law_19 22 rfl rfl)
theorem dL_law_574 : decode cL_law 574 = .ok (.invokestatic 142, 3) := dk_184 0 142 (dk_at dksL_law_20 0 rfl rfl)
theorem dL_law_577 : decode cL_law 577 = .ok (.istore 6, 2) := dk_54 6 (dk_at dksL_law_20 3 rfl rfl)
theorem dL_law_579 : decode cL_law 579 = .ok (.aload_n 2, 1) := dk_44 (dk_at dksL_law_20 5 rfl rfl)
theorem dL_law_580 : decode cL_law 580 = .ok (.aload_n 0, 1) := dk_42 (dk_at dksL_law_20 6 rfl rfl)
theorem dL_law_581 : decode cL_law 581 = .ok (.iload 5, 2) := dk_21 5 (dk_at dksL_law_20 7 rfl rfl)
theorem dL_law_583 : decode cL_law 583 = .ok (.iconst 1, 1) := dk_4 (dk_at dksL_law_20 9 rfl rfl)
theorem dL_law_584 : decode cL_law 584 = .ok (.iadd, 1) := dk_96 (dk_at dksL_law_20 10 rfl rfl)
theorem dL_law_585 : decode cL_law 585 = .ok (.iaload, 1) := dk_46 (dk_at dksL_law_20 11 rfl rfl)
theorem dL_law_586 : decode cL_law 586 = .ok (.aload_n 0, 1) := dk_42 (dk_at dksL_law_20 12 rfl rfl)
theorem dL_law_587 : decode cL_law 587 = .ok (.iload 5, 2) := dk_21 5 (dk_at dksL_law_20 13 rfl rfl)
theorem dL_law_589 : decode cL_law 589 = .ok (.iconst 2, 1) := dk_5 (dk_at dksL_law_20 15 rfl rfl)
theorem dL_law_590 : decode cL_law 590 = .ok (.iadd, 1) := dk_96 (dk_at dksL_law_20 16 rfl rfl)
theorem dL_law_591 : decode cL_law 591 = .ok (.iaload, 1) := dk_46 (dk_at dksL_law_20 17 rfl rfl)
theorem dL_law_592 : decode cL_law 592 = .ok (.invokevirtual 144, 3) := dk_182 0 144 (dk_at dksL_law_20 18 rfl rfl)
theorem dL_law_595 : decode cL_law 595 = .ok (.istore 7, 2) := dk_54 7 (dk_at dksL_law_20 21 rfl rfl)
theorem dL_law_597 : decode cL_law 597 = .ok (.aload_n 2, 1) := dk_44 (dk_at dksL_law_20 23 rfl rfl)
theorem dL_law_598 : decode cL_law 598 = .ok (.invokevirtual 123, 3) := dk_182 0 123 (dk_at dksL_law_21 0 rfl rfl)
theorem dL_law_601 : decode cL_law 601 = .ok (.iload 6, 2) := dk_21 6 (dk_at dksL_law_21 3 rfl rfl)
theorem dL_law_603 : decode cL_law 603 = .ok (.if_icmp .eq 5, 3) := dk_159 0 5 (dk_at dksL_law_21 5 rfl rfl)
theorem dL_law_606 : decode cL_law 606 = .ok (.iconst 0, 1) := dk_3 (dk_at dksL_law_21 8 rfl rfl)
theorem dL_law_607 : decode cL_law 607 = .ok (.ireturn, 1) := dk_172 (dk_at dksL_law_21 9 rfl rfl)
theorem dL_law_608 : decode cL_law 608 = .ok (.iload 6, 2) := dk_21 6 (dk_at dksL_law_21 10 rfl rfl)
theorem dL_law_610 : decode cL_law 610 = .ok (.ifCond .ne 15, 3) := dk_154 0 15 (dk_at dksL_law_21 12 rfl rfl)
theorem dL_law_613 : decode cL_law 613 = .ok (.aload_n 3, 1) := dk_45 (dk_at dksL_law_21 15 rfl rfl)
theorem dL_law_614 : decode cL_law 614 = .ok (.iconst 0, 1) := dk_3 (dk_at dksL_law_21 16 rfl rfl)
theorem dL_law_615 : decode cL_law 615 = .ok (.laload, 1) := dk_47 (dk_at dksL_law_21 17 rfl rfl)
theorem dL_law_616 : decode cL_law 616 = .ok (.iload 7, 2) := dk_21 7 (dk_at dksL_law_21 18 rfl rfl)
theorem dL_law_618 : decode cL_law 618 = .ok (.i2l, 1) := dk_133 (dk_at dksL_law_21 20 rfl rfl)
theorem dL_law_619 : decode cL_law 619 = .ok (.lcmp, 1) := dk_148 (dk_at dksL_law_21 21 rfl rfl)
theorem dL_law_620 : decode cL_law 620 = .ok (.ifCond .eq 5, 3) := dk_153 0 5 (dk_at dksL_law_22 0 rfl rfl)
theorem dL_law_623 : decode cL_law 623 = .ok (.iconst 0, 1) := dk_3 (dk_at dksL_law_22 3 rfl rfl)
theorem dL_law_624 : decode cL_law 624 = .ok (.ireturn, 1) := dk_172 (dk_at dksL_law_22 4 rfl rfl)
theorem dL_law_625 : decode cL_law 625 = .ok (.goto 1279, 3) := dk_167 4 255 (dk_at dksL_law_22 5 rfl rfl)
theorem dL_law_628 : decode cL_law 628 = .ok (.aload_n 1, 1) := dk_43 (dk_at dksL_law_22 8 rfl rfl)
theorem dL_law_629 : decode cL_law 629 = .ok (.aload_n 0, 1) := dk_42 (dk_at dksL_law_22 9 rfl rfl)
theorem dL_law_630 : decode cL_law 630 = .ok (.iload 5, 2) := dk_21 5 (dk_at dksL_law_22 10 rfl rfl)
theorem dL_law_632 : decode cL_law 632 = .ok (.iconst 1, 1) := dk_4 (dk_at dksL_law_22 12 rfl rfl)
theorem dL_law_633 : decode cL_law 633 = .ok (.iadd, 1) := dk_96 (dk_at dksL_law_22 13 rfl rfl)
theorem dL_law_634 : decode cL_law 634 = .ok (.iaload, 1) := dk_46 (dk_at dksL_law_22 14 rfl rfl)
theorem dL_law_635 : decode cL_law 635 = .ok (.aload_n 3, 1) := dk_45 (dk_at dksL_law_22 15 rfl rfl)
theorem dL_law_636 : decode cL_law 636 = .ok (.invokestatic 145, 3) := dk_184 0 145 (dk_at dksL_law_22 16 rfl rfl)
theorem dL_law_639 : decode cL_law 639 = .ok (.istore 6, 2) := dk_54 6 (dk_at dksL_law_22 19 rfl rfl)
theorem dL_law_641 : decode cL_law 641 = .ok (.aload_n 2, 1) := dk_44 (dk_at dksL_law_22 21 rfl rfl)
theorem dL_law_642 : decode cL_law 642 = .ok (.aload_n 0, 1) := dk_42 (dk_at dksL_law_22 22 rfl rfl)
theorem dL_law_643 : decode cL_law 643 = .ok (.iload 5, 2) := dk_21 5 (dk_at dksL_law_23 0 rfl rfl)
theorem dL_law_645 : decode cL_law 645 = .ok (.iconst 1, 1) := dk_4 (dk_at dksL_law_23 2 rfl rfl)
theorem dL_law_646 : decode cL_law 646 = .ok (.iadd, 1) := dk_96 (dk_at dksL_law_23 3 rfl rfl)
theorem dL_law_647 : decode cL_law 647 = .ok (.iaload, 1) := dk_46 (dk_at dksL_law_23 4 rfl rfl)
theorem dL_law_648 : decode cL_law 648 = .ok (.invokevirtual 147, 3) := dk_182 0 147 (dk_at dksL_law_23 5 rfl rfl)
theorem dL_law_651 : decode cL_law 651 = .ok (.istore 7, 2) := dk_54 7 (dk_at dksL_law_23 8 rfl rfl)
theorem dL_law_653 : decode cL_law 653 = .ok (.aload_n 2, 1) := dk_44 (dk_at dksL_law_23 10 rfl rfl)
theorem dL_law_654 : decode cL_law 654 = .ok (.invokevirtual 123, 3) := dk_182 0 123 (dk_at dksL_law_23 11 rfl rfl)
theorem dL_law_657 : decode cL_law 657 = .ok (.iload 6, 2) := dk_21 6 (dk_at dksL_law_23 14 rfl rfl)
theorem dL_law_659 : decode cL_law 659 = .ok (.if_icmp .eq 5, 3) := dk_159 0 5 (dk_at dksL_law_23 16 rfl rfl)
theorem dL_law_662 : decode cL_law 662 = .ok (.iconst 0, 1) := dk_3 (dk_at dksL_law_23 19 rfl rfl)
theorem dL_law_663 : decode cL_law 663 = .ok (.ireturn, 1) := dk_172 (dk_at dksL_law_23 20 rfl rfl)
theorem dL_law_664 : decode cL_law 664 = .ok (.iload 6, 2) := dk_21 6 (dk_at dksL_law_23 21 rfl rfl)
theorem dL_law_666 : decode cL_law 666 = .ok (.ifCond .ne 15, 3) := dk_154 0 15 (dk_at dksL_law_24 0 rfl rfl)
theorem dL_law_669 : decode cL_law 669 = .ok (.aload_n 3, 1) := dk_45 (dk_at dksL_law_24 3 rfl rfl)
theorem dL_law_670 : decode cL_law 670 = .ok (.iconst 0, 1) := dk_3 (dk_at dksL_law_24 4 rfl rfl)
theorem dL_law_671 : decode cL_law 671 = .ok (.laload, 1) := dk_47 (dk_at dksL_law_24 5 rfl rfl)
theorem dL_law_672 : decode cL_law 672 = .ok (.iload 7, 2) := dk_21 7 (dk_at dksL_law_24 6 rfl rfl)
theorem dL_law_674 : decode cL_law 674 = .ok (.i2l, 1) := dk_133 (dk_at dksL_law_24 8 rfl rfl)
theorem dL_law_675 : decode cL_law 675 = .ok (.lcmp, 1) := dk_148 (dk_at dksL_law_24 9 rfl rfl)
theorem dL_law_676 : decode cL_law 676 = .ok (.ifCond .eq 5, 3) := dk_153 0 5 (dk_at dksL_law_24 10 rfl rfl)
theorem dL_law_679 : decode cL_law 679 = .ok (.iconst 0, 1) := dk_3 (dk_at dksL_law_24 13 rfl rfl)
theorem dL_law_680 : decode cL_law 680 = .ok (.ireturn, 1) := dk_172 (dk_at dksL_law_24 14 rfl rfl)
theorem dL_law_681 : decode cL_law 681 = .ok (.goto 1223, 3) := dk_167 4 199 (dk_at dksL_law_24 15 rfl rfl)
theorem dL_law_684 : decode cL_law 684 = .ok (.aload_n 1, 1) := dk_43 (dk_at dksL_law_24 18 rfl rfl)
theorem dL_law_685 : decode cL_law 685 = .ok (.aload_n 0, 1) := dk_42 (dk_at dksL_law_24 19 rfl rfl)
theorem dL_law_686 : decode cL_law 686 = .ok (.iload 5, 2) := dk_21 5 (dk_at dksL_law_24 20 rfl rfl)
theorem dL_law_688 : decode cL_law 688 = .ok (.iconst 1, 1) := dk_4 (dk_at dksL_law_24 22 rfl rfl)
theorem dL_law_689 : decode cL_law 689 = .ok (.iadd, 1) := dk_96 (dk_at dksL_law_24 23 rfl rfl)
theorem dL_law_690 : decode cL_law 690 = .ok (.iaload, 1) := dk_46 (dk_at dksL_law_25 0 rfl rfl)
theorem dL_law_691 : decode cL_law 691 = .ok (.aload_n 3, 1) := dk_45 (dk_at dksL_law_25 1 rfl rfl)
theorem dL_law_692 : decode cL_law 692 = .ok (.invokestatic 148, 3) := dk_184 0 148 (dk_at dksL_law_25 2 rfl rfl)
theorem dL_law_695 : decode cL_law 695 = .ok (.istore 6, 2) := dk_54 6 (dk_at dksL_law_25 5 rfl rfl)
theorem dL_law_697 : decode cL_law 697 = .ok (.aload_n 2, 1) := dk_44 (dk_at dksL_law_25 7 rfl rfl)
theorem dL_law_698 : decode cL_law 698 = .ok (.aload_n 0, 1) := dk_42 (dk_at dksL_law_25 8 rfl rfl)
theorem dL_law_699 : decode cL_law 699 = .ok (.iload 5, 2) := dk_21 5 (dk_at dksL_law_25 9 rfl rfl)
theorem dL_law_701 : decode cL_law 701 = .ok (.iconst 1, 1) := dk_4 (dk_at dksL_law_25 11 rfl rfl)
theorem dL_law_702 : decode cL_law 702 = .ok (.iadd, 1) := dk_96 (dk_at dksL_law_25 12 rfl rfl)
theorem dL_law_703 : decode cL_law 703 = .ok (.iaload, 1) := dk_46 (dk_at dksL_law_25 13 rfl rfl)
theorem dL_law_704 : decode cL_law 704 = .ok (.invokevirtual 150, 3) := dk_182 0 150 (dk_at dksL_law_25 14 rfl rfl)
theorem dL_law_707 : decode cL_law 707 = .ok (.istore 7, 2) := dk_54 7 (dk_at dksL_law_25 17 rfl rfl)
theorem dL_law_709 : decode cL_law 709 = .ok (.aload_n 2, 1) := dk_44 (dk_at dksL_law_25 19 rfl rfl)
theorem dL_law_710 : decode cL_law 710 = .ok (.invokevirtual 123, 3) := dk_182 0 123 (dk_at dksL_law_25 20 rfl rfl)
theorem dL_law_713 : decode cL_law 713 = .ok (.iload 6, 2) := dk_21 6 (dk_at dksL_law_26 0 rfl rfl)
theorem dL_law_715 : decode cL_law 715 = .ok (.if_icmp .eq 5, 3) := dk_159 0 5 (dk_at dksL_law_26 2 rfl rfl)
theorem dL_law_718 : decode cL_law 718 = .ok (.iconst 0, 1) := dk_3 (dk_at dksL_law_26 5 rfl rfl)
theorem dL_law_719 : decode cL_law 719 = .ok (.ireturn, 1) := dk_172 (dk_at dksL_law_26 6 rfl rfl)
theorem dL_law_720 : decode cL_law 720 = .ok (.iload 6, 2) := dk_21 6 (dk_at dksL_law_26 7 rfl rfl)
theorem dL_law_722 : decode cL_law 722 = .ok (.ifCond .ne 15, 3) := dk_154 0 15 (dk_at dksL_law_26 9 rfl rfl)
theorem dL_law_725 : decode cL_law 725 = .ok (.aload_n 3, 1) := dk_45 (dk_at dksL_law_26 12 rfl rfl)
theorem dL_law_726 : decode cL_law 726 = .ok (.iconst 0, 1) := dk_3 (dk_at dksL_law_26 13 rfl rfl)
theorem dL_law_727 : decode cL_law 727 = .ok (.laload, 1) := dk_47 (dk_at dksL_law_26 14 rfl rfl)
theorem dL_law_728 : decode cL_law 728 = .ok (.iload 7, 2) := dk_21 7 (dk_at dksL_law_26 15 rfl rfl)
theorem dL_law_730 : decode cL_law 730 = .ok (.i2l, 1) := dk_133 (dk_at dksL_law_26 17 rfl rfl)
theorem dL_law_731 : decode cL_law 731 = .ok (.lcmp, 1) := dk_148 (dk_at dksL_law_26 18 rfl rfl)
theorem dL_law_732 : decode cL_law 732 = .ok (.ifCond .eq 5, 3) := dk_153 0 5 (dk_at dksL_law_26 19 rfl rfl)
theorem dL_law_735 : decode cL_law 735 = .ok (.iconst 0, 1) := dk_3 (dk_at dksL_law_26 22 rfl rfl)
theorem dL_law_736 : decode cL_law 736 = .ok (.ireturn, 1) := dk_172 (dk_at dksL_law_26 23 rfl rfl)
theorem dL_law_737 : decode cL_law 737 = .ok (.goto 1167, 3) := dk_167 4 143 (dk_at dksL_law_27 0 rfl rfl)
theorem dL_law_740 : decode cL_law 740 = .ok (.aload_n 1, 1) := dk_43 (dk_at dksL_law_27 3 rfl rfl)
theorem dL_law_741 : decode cL_law 741 = .ok (.aload_n 0, 1) := dk_42 (dk_at dksL_law_27 4 rfl rfl)
theorem dL_law_742 : decode cL_law 742 = .ok (.iload 5, 2) := dk_21 5 (dk_at dksL_law_27 5 rfl rfl)
theorem dL_law_744 : decode cL_law 744 = .ok (.iconst 1, 1) := dk_4 (dk_at dksL_law_27 7 rfl rfl)
theorem dL_law_745 : decode cL_law 745 = .ok (.iadd, 1) := dk_96 (dk_at dksL_law_27 8 rfl rfl)
theorem dL_law_746 : decode cL_law 746 = .ok (.iaload, 1) := dk_46 (dk_at dksL_law_27 9 rfl rfl)
theorem dL_law_747 : decode cL_law 747 = .ok (.aload_n 0, 1) := dk_42 (dk_at dksL_law_27 10 rfl rfl)
theorem dL_law_748 : decode cL_law 748 = .ok (.iload 5, 2) := dk_21 5 (dk_at dksL_law_27 11 rfl rfl)
theorem dL_law_750 : decode cL_law 750 = .ok (.iconst 2, 1) := dk_5 (dk_at dksL_law_27 13 rfl rfl)
theorem dL_law_751 : decode cL_law 751 = .ok (.iadd, 1) := dk_96 (dk_at dksL_law_27 14 rfl rfl)
theorem dL_law_752 : decode cL_law 752 = .ok (.iaload, 1) := dk_46 (dk_at dksL_law_27 15 rfl rfl)
theorem dL_law_753 : decode cL_law 753 = .ok (.aload_n 3, 1) := dk_45 (dk_at dksL_law_27 16 rfl rfl)
theorem dL_law_754 : decode cL_law 754 = .ok (.invokestatic 151, 3) := dk_184 0 151 (dk_at dksL_law_27 17 rfl rfl)
theorem dL_law_757 : decode cL_law 757 = .ok (.istore 6, 2) := dk_54 6 (dk_at dksL_law_27 20 rfl rfl)
theorem dL_law_759 : decode cL_law 759 = .ok (.aload_n 2, 1) := dk_44 (dk_at dksL_law_27 22 rfl rfl)
theorem dL_law_760 : decode cL_law 760 = .ok (.aload_n 0, 1) := dk_42 (dk_at dksL_law_27 23 rfl rfl)
theorem dL_law_761 : decode cL_law 761 = .ok (.iload 5, 2) := dk_21 5 (dk_at dksL_law_28 0 rfl rfl)
theorem dL_law_763 : decode cL_law 763 = .ok (.iconst 1, 1) := dk_4 (dk_at dksL_law_28 2 rfl rfl)
theorem dL_law_764 : decode cL_law 764 = .ok (.iadd, 1) := dk_96 (dk_at dksL_law_28 3 rfl rfl)
theorem dL_law_765 : decode cL_law 765 = .ok (.iaload, 1) := dk_46 (dk_at dksL_law_28 4 rfl rfl)
theorem dL_law_766 : decode cL_law 766 = .ok (.aload_n 0, 1) := dk_42 (dk_at dksL_law_28 5 rfl rfl)
theorem dL_law_767 : decode cL_law 767 = .ok (.iload 5, 2) := dk_21 5 (dk_at dksL_law_28 6 rfl rfl)
theorem dL_law_769 : decode cL_law 769 = .ok (.iconst 2, 1) := dk_5 (dk_at dksL_law_28 8 rfl rfl)
theorem dL_law_770 : decode cL_law 770 = .ok (.iadd, 1) := dk_96 (dk_at dksL_law_28 9 rfl rfl)
theorem dL_law_771 : decode cL_law 771 = .ok (.iaload, 1) := dk_46 (dk_at dksL_law_28 10 rfl rfl)
theorem dL_law_772 : decode cL_law 772 = .ok (.invokevirtual 153, 3) := dk_182 0 153 (dk_at dksL_law_28 11 rfl rfl)
theorem dL_law_775 : decode cL_law 775 = .ok (.istore 7, 2) := dk_54 7 (dk_at dksL_law_28 14 rfl rfl)
theorem dL_law_777 : decode cL_law 777 = .ok (.aload_n 2, 1) := dk_44 (dk_at dksL_law_28 16 rfl rfl)
theorem dL_law_778 : decode cL_law 778 = .ok (.invokevirtual 123, 3) := dk_182 0 123 (dk_at dksL_law_28 17 rfl rfl)
theorem dL_law_781 : decode cL_law 781 = .ok (.iload 6, 2) := dk_21 6 (dk_at dksL_law_28 20 rfl rfl)
theorem dL_law_783 : decode cL_law 783 = .ok (.if_icmp .eq 5, 3) := dk_159 0 5 (dk_at dksL_law_29 0 rfl rfl)
theorem dL_law_786 : decode cL_law 786 = .ok (.iconst 0, 1) := dk_3 (dk_at dksL_law_29 3 rfl rfl)
theorem dL_law_787 : decode cL_law 787 = .ok (.ireturn, 1) := dk_172 (dk_at dksL_law_29 4 rfl rfl)
theorem dL_law_788 : decode cL_law 788 = .ok (.iload 6, 2) := dk_21 6 (dk_at dksL_law_29 5 rfl rfl)
theorem dL_law_790 : decode cL_law 790 = .ok (.ifCond .ne 15, 3) := dk_154 0 15 (dk_at dksL_law_29 7 rfl rfl)
theorem dL_law_793 : decode cL_law 793 = .ok (.aload_n 3, 1) := dk_45 (dk_at dksL_law_29 10 rfl rfl)
theorem dL_law_794 : decode cL_law 794 = .ok (.iconst 0, 1) := dk_3 (dk_at dksL_law_29 11 rfl rfl)
theorem dL_law_795 : decode cL_law 795 = .ok (.laload, 1) := dk_47 (dk_at dksL_law_29 12 rfl rfl)
theorem dL_law_796 : decode cL_law 796 = .ok (.iload 7, 2) := dk_21 7 (dk_at dksL_law_29 13 rfl rfl)
theorem dL_law_798 : decode cL_law 798 = .ok (.i2l, 1) := dk_133 (dk_at dksL_law_29 15 rfl rfl)
theorem dL_law_799 : decode cL_law 799 = .ok (.lcmp, 1) := dk_148 (dk_at dksL_law_29 16 rfl rfl)
theorem dL_law_800 : decode cL_law 800 = .ok (.ifCond .eq 5, 3) := dk_153 0 5 (dk_at dksL_law_29 17 rfl rfl)
theorem dL_law_803 : decode cL_law 803 = .ok (.iconst 0, 1) := dk_3 (dk_at dksL_law_29 20 rfl rfl)
theorem dL_law_804 : decode cL_law 804 = .ok (.ireturn, 1) := dk_172 (dk_at dksL_law_29 21 rfl rfl)
theorem dL_law_805 : decode cL_law 805 = .ok (.goto 1099, 3) := dk_167 4 75 (dk_at dksL_law_30 0 rfl rfl)
theorem dL_law_808 : decode cL_law 808 = .ok (.aload_n 1, 1) := dk_43 (dk_at dksL_law_30 3 rfl rfl)
theorem dL_law_809 : decode cL_law 809 = .ok (.aload_n 0, 1) := dk_42 (dk_at dksL_law_30 4 rfl rfl)
theorem dL_law_810 : decode cL_law 810 = .ok (.iload 5, 2) := dk_21 5 (dk_at dksL_law_30 5 rfl rfl)
theorem dL_law_812 : decode cL_law 812 = .ok (.iconst 1, 1) := dk_4 (dk_at dksL_law_30 7 rfl rfl)
theorem dL_law_813 : decode cL_law 813 = .ok (.iadd, 1) := dk_96 (dk_at dksL_law_30 8 rfl rfl)
theorem dL_law_814 : decode cL_law 814 = .ok (.iaload, 1) := dk_46 (dk_at dksL_law_30 9 rfl rfl)
theorem dL_law_815 : decode cL_law 815 = .ok (.aload_n 3, 1) := dk_45 (dk_at dksL_law_30 10 rfl rfl)
theorem dL_law_816 : decode cL_law 816 = .ok (.invokestatic 154, 3) := dk_184 0 154 (dk_at dksL_law_30 11 rfl rfl)
theorem dL_law_819 : decode cL_law 819 = .ok (.istore 6, 2) := dk_54 6 (dk_at dksL_law_30 14 rfl rfl)
theorem dL_law_821 : decode cL_law 821 = .ok (.aload_n 2, 1) := dk_44 (dk_at dksL_law_30 16 rfl rfl)
theorem dL_law_822 : decode cL_law 822 = .ok (.aload_n 0, 1) := dk_42 (dk_at dksL_law_30 17 rfl rfl)
theorem dL_law_823 : decode cL_law 823 = .ok (.iload 5, 2) := dk_21 5 (dk_at dksL_law_30 18 rfl rfl)
theorem dL_law_825 : decode cL_law 825 = .ok (.iconst 1, 1) := dk_4 (dk_at dksL_law_30 20 rfl rfl)
theorem dL_law_826 : decode cL_law 826 = .ok (.iadd, 1) := dk_96 (dk_at dksL_law_30 21 rfl rfl)
theorem dL_law_827 : decode cL_law 827 = .ok (.iaload, 1) := dk_46 (dk_at dksL_law_30 22 rfl rfl)
theorem dL_law_828 : decode cL_law 828 = .ok (.invokevirtual 156, 3) := dk_182 0 156 (dk_at dksL_law_31 0 rfl rfl)
theorem dL_law_831 : decode cL_law 831 = .ok (.istore 7, 2) := dk_54 7 (dk_at dksL_law_31 3 rfl rfl)
theorem dL_law_833 : decode cL_law 833 = .ok (.aload_n 2, 1) := dk_44 (dk_at dksL_law_31 5 rfl rfl)
theorem dL_law_834 : decode cL_law 834 = .ok (.invokevirtual 123, 3) := dk_182 0 123 (dk_at dksL_law_31 6 rfl rfl)
theorem dL_law_837 : decode cL_law 837 = .ok (.iload 6, 2) := dk_21 6 (dk_at dksL_law_31 9 rfl rfl)
theorem dL_law_839 : decode cL_law 839 = .ok (.if_icmp .eq 5, 3) := dk_159 0 5 (dk_at dksL_law_31 11 rfl rfl)
theorem dL_law_842 : decode cL_law 842 = .ok (.iconst 0, 1) := dk_3 (dk_at dksL_law_31 14 rfl rfl)
theorem dL_law_843 : decode cL_law 843 = .ok (.ireturn, 1) := dk_172 (dk_at dksL_law_31 15 rfl rfl)
theorem dL_law_844 : decode cL_law 844 = .ok (.iload 6, 2) := dk_21 6 (dk_at dksL_law_31 16 rfl rfl)
theorem dL_law_846 : decode cL_law 846 = .ok (.ifCond .ne 15, 3) := dk_154 0 15 (dk_at dksL_law_31 18 rfl rfl)
theorem dL_law_849 : decode cL_law 849 = .ok (.aload_n 3, 1) := dk_45 (dk_at dksL_law_31 21 rfl rfl)
theorem dL_law_850 : decode cL_law 850 = .ok (.iconst 0, 1) := dk_3 (dk_at dksL_law_31 22 rfl rfl)
theorem dL_law_851 : decode cL_law 851 = .ok (.laload, 1) := dk_47 (dk_at dksL_law_31 23 rfl rfl)
theorem dL_law_852 : decode cL_law 852 = .ok (.iload 7, 2) := dk_21 7 (dk_at dksL_law_32 0 rfl rfl)
theorem dL_law_854 : decode cL_law 854 = .ok (.i2l, 1) := dk_133 (dk_at dksL_law_32 2 rfl rfl)
theorem dL_law_855 : decode cL_law 855 = .ok (.lcmp, 1) := dk_148 (dk_at dksL_law_32 3 rfl rfl)
theorem dL_law_856 : decode cL_law 856 = .ok (.ifCond .eq 5, 3) := dk_153 0 5 (dk_at dksL_law_32 4 rfl rfl)
theorem dL_law_859 : decode cL_law 859 = .ok (.iconst 0, 1) := dk_3 (dk_at dksL_law_32 7 rfl rfl)
theorem dL_law_860 : decode cL_law 860 = .ok (.ireturn, 1) := dk_172 (dk_at dksL_law_32 8 rfl rfl)
theorem dL_law_861 : decode cL_law 861 = .ok (.goto 1043, 3) := dk_167 4 19 (dk_at dksL_law_32 9 rfl rfl)
theorem dL_law_864 : decode cL_law 864 = .ok (.aload_n 1, 1) := dk_43 (dk_at dksL_law_32 12 rfl rfl)
theorem dL_law_865 : decode cL_law 865 = .ok (.aload_n 0, 1) := dk_42 (dk_at dksL_law_32 13 rfl rfl)
theorem dL_law_866 : decode cL_law 866 = .ok (.iload 5, 2) := dk_21 5 (dk_at dksL_law_32 14 rfl rfl)
theorem dL_law_868 : decode cL_law 868 = .ok (.iconst 1, 1) := dk_4 (dk_at dksL_law_32 16 rfl rfl)
theorem dL_law_869 : decode cL_law 869 = .ok (.iadd, 1) := dk_96 (dk_at dksL_law_32 17 rfl rfl)
theorem dL_law_870 : decode cL_law 870 = .ok (.iaload, 1) := dk_46 (dk_at dksL_law_32 18 rfl rfl)
theorem dL_law_871 : decode cL_law 871 = .ok (.aload_n 3, 1) := dk_45 (dk_at dksL_law_32 19 rfl rfl)
theorem dL_law_872 : decode cL_law 872 = .ok (.invokestatic 157, 3) := dk_184 0 157 (dk_at dksL_law_32 20 rfl rfl)
theorem dL_law_875 : decode cL_law 875 = .ok (.istore 6, 2) := dk_54 6 (dk_at dksL_law_33 0 rfl rfl)
theorem dL_law_877 : decode cL_law 877 = .ok (.aload_n 2, 1) := dk_44 (dk_at dksL_law_33 2 rfl rfl)
theorem dL_law_878 : decode cL_law 878 = .ok (.aload_n 0, 1) := dk_42 (dk_at dksL_law_33 3 rfl rfl)
theorem dL_law_879 : decode cL_law 879 = .ok (.iload 5, 2) := dk_21 5 (dk_at dksL_law_33 4 rfl rfl)
theorem dL_law_881 : decode cL_law 881 = .ok (.iconst 1, 1) := dk_4 (dk_at dksL_law_33 6 rfl rfl)
theorem dL_law_882 : decode cL_law 882 = .ok (.iadd, 1) := dk_96 (dk_at dksL_law_33 7 rfl rfl)
theorem dL_law_883 : decode cL_law 883 = .ok (.iaload, 1) := dk_46 (dk_at dksL_law_33 8 rfl rfl)
theorem dL_law_884 : decode cL_law 884 = .ok (.invokevirtual 159, 3) := dk_182 0 159 (dk_at dksL_law_33 9 rfl rfl)
theorem dL_law_887 : decode cL_law 887 = .ok (.istore 7, 2) := dk_54 7 (dk_at dksL_law_33 12 rfl rfl)
theorem dL_law_889 : decode cL_law 889 = .ok (.aload_n 2, 1) := dk_44 (dk_at dksL_law_33 14 rfl rfl)
theorem dL_law_890 : decode cL_law 890 = .ok (.invokevirtual 123, 3) := dk_182 0 123 (dk_at dksL_law_33 15 rfl rfl)
theorem dL_law_893 : decode cL_law 893 = .ok (.iload 6, 2) := dk_21 6 (dk_at dksL_law_33 18 rfl rfl)
theorem dL_law_895 : decode cL_law 895 = .ok (.if_icmp .eq 5, 3) := dk_159 0 5 (dk_at dksL_law_33 20 rfl rfl)
theorem dL_law_898 : decode cL_law 898 = .ok (.iconst 0, 1) := dk_3 (dk_at dksL_law_33 23 rfl rfl)
theorem dL_law_899 : decode cL_law 899 = .ok (.ireturn, 1) := dk_172 (dk_at dksL_law_34 0 rfl rfl)
theorem dL_law_900 : decode cL_law 900 = .ok (.iload 6, 2) := dk_21 6 (dk_at dksL_law_34 1 rfl rfl)
theorem dL_law_902 : decode cL_law 902 = .ok (.ifCond .ne 15, 3) := dk_154 0 15 (dk_at dksL_law_34 3 rfl rfl)
theorem dL_law_905 : decode cL_law 905 = .ok (.aload_n 3, 1) := dk_45 (dk_at dksL_law_34 6 rfl rfl)
theorem dL_law_906 : decode cL_law 906 = .ok (.iconst 0, 1) := dk_3 (dk_at dksL_law_34 7 rfl rfl)
theorem dL_law_907 : decode cL_law 907 = .ok (.laload, 1) := dk_47 (dk_at dksL_law_34 8 rfl rfl)
theorem dL_law_908 : decode cL_law 908 = .ok (.iload 7, 2) := dk_21 7 (dk_at dksL_law_34 9 rfl rfl)
theorem dL_law_910 : decode cL_law 910 = .ok (.i2l, 1) := dk_133 (dk_at dksL_law_34 11 rfl rfl)
theorem dL_law_911 : decode cL_law 911 = .ok (.lcmp, 1) := dk_148 (dk_at dksL_law_34 12 rfl rfl)
theorem dL_law_912 : decode cL_law 912 = .ok (.ifCond .eq 5, 3) := dk_153 0 5 (dk_at dksL_law_34 13 rfl rfl)
theorem dL_law_915 : decode cL_law 915 = .ok (.iconst 0, 1) := dk_3 (dk_at dksL_law_34 16 rfl rfl)
theorem dL_law_916 : decode cL_law 916 = .ok (.ireturn, 1) := dk_172 (dk_at dksL_law_34 17 rfl rfl)
theorem dL_law_917 : decode cL_law 917 = .ok (.goto 987, 3) := dk_167 3 219 (dk_at dksL_law_34 18 rfl rfl)
theorem dL_law_920 : decode cL_law 920 = .ok (.aload_n 1, 1) := dk_43 (dk_at dksL_law_34 21 rfl rfl)
theorem dL_law_921 : decode cL_law 921 = .ok (.aload_n 0, 1) := dk_42 (dk_at dksL_law_34 22 rfl rfl)
theorem dL_law_922 : decode cL_law 922 = .ok (.iload 5, 2) := dk_21 5 (dk_at dksL_law_35 0 rfl rfl)
theorem dL_law_924 : decode cL_law 924 = .ok (.iconst 1, 1) := dk_4 (dk_at dksL_law_35 2 rfl rfl)
theorem dL_law_925 : decode cL_law 925 = .ok (.iadd, 1) := dk_96 (dk_at dksL_law_35 3 rfl rfl)
theorem dL_law_926 : decode cL_law 926 = .ok (.iaload, 1) := dk_46 (dk_at dksL_law_35 4 rfl rfl)
theorem dL_law_927 : decode cL_law 927 = .ok (.aload_n 0, 1) := dk_42 (dk_at dksL_law_35 5 rfl rfl)
theorem dL_law_928 : decode cL_law 928 = .ok (.iload 5, 2) := dk_21 5 (dk_at dksL_law_35 6 rfl rfl)
theorem dL_law_930 : decode cL_law 930 = .ok (.iconst 2, 1) := dk_5 (dk_at dksL_law_35 8 rfl rfl)
theorem dL_law_931 : decode cL_law 931 = .ok (.iadd, 1) := dk_96 (dk_at dksL_law_35 9 rfl rfl)
theorem dL_law_932 : decode cL_law 932 = .ok (.iaload, 1) := dk_46 (dk_at dksL_law_35 10 rfl rfl)
theorem dL_law_933 : decode cL_law 933 = .ok (.aload_n 3, 1) := dk_45 (dk_at dksL_law_35 11 rfl rfl)
theorem dL_law_934 : decode cL_law 934 = .ok (.invokestatic 160, 3) := dk_184 0 160 (dk_at dksL_law_35 12 rfl rfl)
theorem dL_law_937 : decode cL_law 937 = .ok (.istore 6, 2) := dk_54 6 (dk_at dksL_law_35 15 rfl rfl)
theorem dL_law_939 : decode cL_law 939 = .ok (.aload_n 2, 1) := dk_44 (dk_at dksL_law_35 17 rfl rfl)
theorem dL_law_940 : decode cL_law 940 = .ok (.aload_n 0, 1) := dk_42 (dk_at dksL_law_35 18 rfl rfl)
theorem dL_law_941 : decode cL_law 941 = .ok (.iload 5, 2) := dk_21 5 (dk_at dksL_law_35 19 rfl rfl)
theorem dL_law_943 : decode cL_law 943 = .ok (.iconst 1, 1) := dk_4 (dk_at dksL_law_35 21 rfl rfl)
theorem dL_law_944 : decode cL_law 944 = .ok (.iadd, 1) := dk_96 (dk_at dksL_law_35 22 rfl rfl)
theorem dL_law_945 : decode cL_law 945 = .ok (.iaload, 1) := dk_46 (dk_at dksL_law_35 23 rfl rfl)
theorem dL_law_946 : decode cL_law 946 = .ok (.aload_n 0, 1) := dk_42 (dk_at dksL_law_36 0 rfl rfl)
theorem dL_law_947 : decode cL_law 947 = .ok (.iload 5, 2) := dk_21 5 (dk_at dksL_law_36 1 rfl rfl)
theorem dL_law_949 : decode cL_law 949 = .ok (.iconst 2, 1) := dk_5 (dk_at dksL_law_36 3 rfl rfl)
theorem dL_law_950 : decode cL_law 950 = .ok (.iadd, 1) := dk_96 (dk_at dksL_law_36 4 rfl rfl)
theorem dL_law_951 : decode cL_law 951 = .ok (.iaload, 1) := dk_46 (dk_at dksL_law_36 5 rfl rfl)
theorem dL_law_952 : decode cL_law 952 = .ok (.invokevirtual 162, 3) := dk_182 0 162 (dk_at dksL_law_36 6 rfl rfl)
theorem dL_law_955 : decode cL_law 955 = .ok (.istore 7, 2) := dk_54 7 (dk_at dksL_law_36 9 rfl rfl)
theorem dL_law_957 : decode cL_law 957 = .ok (.aload_n 2, 1) := dk_44 (dk_at dksL_law_36 11 rfl rfl)
theorem dL_law_958 : decode cL_law 958 = .ok (.invokevirtual 123, 3) := dk_182 0 123 (dk_at dksL_law_36 12 rfl rfl)
theorem dL_law_961 : decode cL_law 961 = .ok (.iload 6, 2) := dk_21 6 (dk_at dksL_law_36 15 rfl rfl)
theorem dL_law_963 : decode cL_law 963 = .ok (.if_icmp .eq 5, 3) := dk_159 0 5 (dk_at dksL_law_36 17 rfl rfl)
theorem dL_law_966 : decode cL_law 966 = .ok (.iconst 0, 1) := dk_3 (dk_at dksL_law_36 20 rfl rfl)
theorem dL_law_967 : decode cL_law 967 = .ok (.ireturn, 1) := dk_172 (dk_at dksL_law_36 21 rfl rfl)
theorem dL_law_968 : decode cL_law 968 = .ok (.iload 6, 2) := dk_21 6 (dk_at dksL_law_36 22 rfl rfl)
theorem dL_law_970 : decode cL_law 970 = .ok (.ifCond .ne 15, 3) := dk_154 0 15 (dk_at dksL_law_37 0 rfl rfl)
theorem dL_law_973 : decode cL_law 973 = .ok (.aload_n 3, 1) := dk_45 (dk_at dksL_law_37 3 rfl rfl)
theorem dL_law_974 : decode cL_law 974 = .ok (.iconst 0, 1) := dk_3 (dk_at dksL_law_37 4 rfl rfl)
theorem dL_law_975 : decode cL_law 975 = .ok (.laload, 1) := dk_47 (dk_at dksL_law_37 5 rfl rfl)
theorem dL_law_976 : decode cL_law 976 = .ok (.iload 7, 2) := dk_21 7 (dk_at dksL_law_37 6 rfl rfl)
theorem dL_law_978 : decode cL_law 978 = .ok (.i2l, 1) := dk_133 (dk_at dksL_law_37 8 rfl rfl)
theorem dL_law_979 : decode cL_law 979 = .ok (.lcmp, 1) := dk_148 (dk_at dksL_law_37 9 rfl rfl)
theorem dL_law_980 : decode cL_law 980 = .ok (.ifCond .eq 5, 3) := dk_153 0 5 (dk_at dksL_law_37 10 rfl rfl)
theorem dL_law_983 : decode cL_law 983 = .ok (.iconst 0, 1) := dk_3 (dk_at dksL_law_37 13 rfl rfl)
theorem dL_law_984 : decode cL_law 984 = .ok (.ireturn, 1) := dk_172 (dk_at dksL_law_37 14 rfl rfl)
theorem dL_law_985 : decode cL_law 985 = .ok (.goto 919, 3) := dk_167 3 151 (dk_at dksL_law_37 15 rfl rfl)
theorem dL_law_988 : decode cL_law 988 = .ok (.aload_n 1, 1) := dk_43 (dk_at dksL_law_37 18 rfl rfl)
theorem dL_law_989 : decode cL_law 989 = .ok (.aload_n 0, 1) := dk_42 (dk_at dksL_law_37 19 rfl rfl)
theorem dL_law_990 : decode cL_law 990 = .ok (.iload 5, 2) := dk_21 5 (dk_at dksL_law_37 20 rfl rfl)
theorem dL_law_992 : decode cL_law 992 = .ok (.iconst 1, 1) := dk_4 (dk_at dksL_law_37 22 rfl rfl)
theorem dL_law_993 : decode cL_law 993 = .ok (.iadd, 1) := dk_96 (dk_at dksL_law_37 23 rfl rfl)
theorem dL_law_994 : decode cL_law 994 = .ok (.iaload, 1) := dk_46 (dk_at dksL_law_38 0 rfl rfl)
theorem dL_law_995 : decode cL_law 995 = .ok (.aload_n 0, 1) := dk_42 (dk_at dksL_law_38 1 rfl rfl)
theorem dL_law_996 : decode cL_law 996 = .ok (.iload 5, 2) := dk_21 5 (dk_at dksL_law_38 2 rfl rfl)
theorem dL_law_998 : decode cL_law 998 = .ok (.iconst 2, 1) := dk_5 (dk_at dksL_law_38 4 rfl rfl)
theorem dL_law_999 : decode cL_law 999 = .ok (.iadd, 1) := dk_96 (dk_at dksL_law_38 5 rfl rfl)
theorem dL_law_1000 : decode cL_law 1000 = .ok (.iaload, 1) := dk_46 (dk_at dksL_law_38 6 rfl rfl)
theorem dL_law_1001 : decode cL_law 1001 = .ok (.aload_n 3, 1) := dk_45 (dk_at dksL_law_38 7 rfl rfl)
theorem dL_law_1002 : decode cL_law 1002 = .ok (.invokestatic 163, 3) := dk_184 0 163 (dk_at dksL_law_38 8 rfl rfl)
theorem dL_law_1005 : decode cL_law 1005 = .ok (.istore 6, 2) := dk_54 6 (dk_at dksL_law_38 11 rfl rfl)
theorem dL_law_1007 : decode cL_law 1007 = .ok (.aload_n 2, 1) := dk_44 (dk_at dksL_law_38 13 rfl rfl)
theorem dL_law_1008 : decode cL_law 1008 = .ok (.aload_n 0, 1) := dk_42 (dk_at dksL_law_38 14 rfl rfl)
theorem dL_law_1009 : decode cL_law 1009 = .ok (.iload 5, 2) := dk_21 5 (dk_at dksL_law_38 15 rfl rfl)
theorem dL_law_1011 : decode cL_law 1011 = .ok (.iconst 1, 1) := dk_4 (dk_at dksL_law_38 17 rfl rfl)
theorem dL_law_1012 : decode cL_law 1012 = .ok (.iadd, 1) := dk_96 (dk_at dksL_law_38 18 rfl rfl)
theorem dL_law_1013 : decode cL_law 1013 = .ok (.iaload, 1) := dk_46 (dk_at dksL_law_38 19 rfl rfl)
theorem dL_law_1014 : decode cL_law 1014 = .ok (.aload_n 0, 1) := dk_42 (dk_at dksL_law_38 20 rfl rfl)
theorem dL_law_1015 : decode cL_law 1015 = .ok (.iload 5, 2) := dk_21 5 (dk_at dksL_law_38 21 rfl rfl)
theorem dL_law_1017 : decode cL_law 1017 = .ok (.iconst 2, 1) := dk_5 (dk_at dksL_law_38 23 rfl rfl)
theorem dL_law_1018 : decode cL_law 1018 = .ok (.iadd, 1) := dk_96 (dk_at dksL_law_39 0 rfl rfl)
theorem dL_law_1019 : decode cL_law 1019 = .ok (.iaload, 1) := dk_46 (dk_at dksL_law_39 1 rfl rfl)
theorem dL_law_1020 : decode cL_law 1020 = .ok (.invokevirtual 165, 3) := dk_182 0 165 (dk_at dksL_law_39 2 rfl rfl)
theorem dL_law_1023 : decode cL_law 1023 = .ok (.istore 7, 2) := dk_54 7 (dk_at dksL_law_39 5 rfl rfl)
theorem dL_law_1025 : decode cL_law 1025 = .ok (.aload_n 2, 1) := dk_44 (dk_at dksL_law_39 7 rfl rfl)
theorem dL_law_1026 : decode cL_law 1026 = .ok (.invokevirtual 123, 3) := dk_182 0 123 (dk_at dksL_law_39 8 rfl rfl)
theorem dL_law_1029 : decode cL_law 1029 = .ok (.iload 6, 2) := dk_21 6 (dk_at dksL_law_39 11 rfl rfl)
theorem dL_law_1031 : decode cL_law 1031 = .ok (.if_icmp .eq 5, 3) := dk_159 0 5 (dk_at dksL_law_39 13 rfl rfl)
theorem dL_law_1034 : decode cL_law 1034 = .ok (.iconst 0, 1) := dk_3 (dk_at dksL_law_39 16 rfl rfl)
theorem dL_law_1035 : decode cL_law 1035 = .ok (.ireturn, 1) := dk_172 (dk_at dksL_law_39 17 rfl rfl)
theorem dL_law_1036 : decode cL_law 1036 = .ok (.iload 6, 2) := dk_21 6 (dk_at dksL_law_39 18 rfl rfl)
theorem dL_law_1038 : decode cL_law 1038 = .ok (.ifCond .ne 15, 3) := dk_154 0 15 (dk_at dksL_law_39 20 rfl rfl)
theorem dL_law_1041 : decode cL_law 1041 = .ok (.aload_n 3, 1) := dk_45 (dk_at dksL_law_39 23 rfl rfl)
theorem dL_law_1042 : decode cL_law 1042 = .ok (.iconst 0, 1) := dk_3 (dk_at dksL_law_40 0 rfl rfl)
theorem dL_law_1043 : decode cL_law 1043 = .ok (.laload, 1) := dk_47 (dk_at dksL_law_40 1 rfl rfl)
theorem dL_law_1044 : decode cL_law 1044 = .ok (.iload 7, 2) := dk_21 7 (dk_at dksL_law_40 2 rfl rfl)
theorem dL_law_1046 : decode cL_law 1046 = .ok (.i2l, 1) := dk_133 (dk_at dksL_law_40 4 rfl rfl)
theorem dL_law_1047 : decode cL_law 1047 = .ok (.lcmp, 1) := dk_148 (dk_at dksL_law_40 5 rfl rfl)
theorem dL_law_1048 : decode cL_law 1048 = .ok (.ifCond .eq 5, 3) := dk_153 0 5 (dk_at dksL_law_40 6 rfl rfl)
theorem dL_law_1051 : decode cL_law 1051 = .ok (.iconst 0, 1) := dk_3 (dk_at dksL_law_40 9 rfl rfl)
theorem dL_law_1052 : decode cL_law 1052 = .ok (.ireturn, 1) := dk_172 (dk_at dksL_law_40 10 rfl rfl)
theorem dL_law_1053 : decode cL_law 1053 = .ok (.goto 851, 3) := dk_167 3 83 (dk_at dksL_law_40 11 rfl rfl)
theorem dL_law_1056 : decode cL_law 1056 = .ok (.aload_n 1, 1) := dk_43 (dk_at dksL_law_40 14 rfl rfl)
theorem dL_law_1057 : decode cL_law 1057 = .ok (.aload_n 0, 1) := dk_42 (dk_at dksL_law_40 15 rfl rfl)
theorem dL_law_1058 : decode cL_law 1058 = .ok (.iload 5, 2) := dk_21 5 (dk_at dksL_law_40 16 rfl rfl)
theorem dL_law_1060 : decode cL_law 1060 = .ok (.iconst 1, 1) := dk_4 (dk_at dksL_law_40 18 rfl rfl)
theorem dL_law_1061 : decode cL_law 1061 = .ok (.iadd, 1) := dk_96 (dk_at dksL_law_40 19 rfl rfl)
theorem dL_law_1062 : decode cL_law 1062 = .ok (.iaload, 1) := dk_46 (dk_at dksL_law_40 20 rfl rfl)
theorem dL_law_1063 : decode cL_law 1063 = .ok (.aload_n 3, 1) := dk_45 (dk_at dksL_law_40 21 rfl rfl)
theorem dL_law_1064 : decode cL_law 1064 = .ok (.invokestatic 166, 3) := dk_184 0 166 (dk_at dksL_law_41 0 rfl rfl)
theorem dL_law_1067 : decode cL_law 1067 = .ok (.istore 6, 2) := dk_54 6 (dk_at dksL_law_41 3 rfl rfl)
theorem dL_law_1069 : decode cL_law 1069 = .ok (.aload_n 2, 1) := dk_44 (dk_at dksL_law_41 5 rfl rfl)
theorem dL_law_1070 : decode cL_law 1070 = .ok (.aload_n 0, 1) := dk_42 (dk_at dksL_law_41 6 rfl rfl)
theorem dL_law_1071 : decode cL_law 1071 = .ok (.iload 5, 2) := dk_21 5 (dk_at dksL_law_41 7 rfl rfl)
theorem dL_law_1073 : decode cL_law 1073 = .ok (.iconst 1, 1) := dk_4 (dk_at dksL_law_41 9 rfl rfl)
theorem dL_law_1074 : decode cL_law 1074 = .ok (.iadd, 1) := dk_96 (dk_at dksL_law_41 10 rfl rfl)
theorem dL_law_1075 : decode cL_law 1075 = .ok (.iaload, 1) := dk_46 (dk_at dksL_law_41 11 rfl rfl)
theorem dL_law_1076 : decode cL_law 1076 = .ok (.invokevirtual 168, 3) := dk_182 0 168 (dk_at dksL_law_41 12 rfl rfl)
theorem dL_law_1079 : decode cL_law 1079 = .ok (.istore 7, 2) := dk_54 7 (dk_at dksL_law_41 15 rfl rfl)
theorem dL_law_1081 : decode cL_law 1081 = .ok (.aload_n 2, 1) := dk_44 (dk_at dksL_law_41 17 rfl rfl)
theorem dL_law_1082 : decode cL_law 1082 = .ok (.invokevirtual 123, 3) := dk_182 0 123 (dk_at dksL_law_41 18 rfl rfl)
theorem dL_law_1085 : decode cL_law 1085 = .ok (.iload 6, 2) := dk_21 6 (dk_at dksL_law_41 21 rfl rfl)
theorem dL_law_1087 : decode cL_law 1087 = .ok (.if_icmp .eq 5, 3) := dk_159 0 5 (dk_at dksL_law_42 0 rfl rfl)
theorem dL_law_1090 : decode cL_law 1090 = .ok (.iconst 0, 1) := dk_3 (dk_at dksL_law_42 3 rfl rfl)
theorem dL_law_1091 : decode cL_law 1091 = .ok (.ireturn, 1) := dk_172 (dk_at dksL_law_42 4 rfl rfl)
theorem dL_law_1092 : decode cL_law 1092 = .ok (.iload 6, 2) := dk_21 6 (dk_at dksL_law_42 5 rfl rfl)
theorem dL_law_1094 : decode cL_law 1094 = .ok (.ifCond .ne 15, 3) := dk_154 0 15 (dk_at dksL_law_42 7 rfl rfl)
theorem dL_law_1097 : decode cL_law 1097 = .ok (.aload_n 3, 1) := dk_45 (dk_at dksL_law_42 10 rfl rfl)
theorem dL_law_1098 : decode cL_law 1098 = .ok (.iconst 0, 1) := dk_3 (dk_at dksL_law_42 11 rfl rfl)
theorem dL_law_1099 : decode cL_law 1099 = .ok (.laload, 1) := dk_47 (dk_at dksL_law_42 12 rfl rfl)
theorem dL_law_1100 : decode cL_law 1100 = .ok (.iload 7, 2) := dk_21 7 (dk_at dksL_law_42 13 rfl rfl)
theorem dL_law_1102 : decode cL_law 1102 = .ok (.i2l, 1) := dk_133 (dk_at dksL_law_42 15 rfl rfl)
theorem dL_law_1103 : decode cL_law 1103 = .ok (.lcmp, 1) := dk_148 (dk_at dksL_law_42 16 rfl rfl)
theorem dL_law_1104 : decode cL_law 1104 = .ok (.ifCond .eq 5, 3) := dk_153 0 5 (dk_at dksL_law_42 17 rfl rfl)
theorem dL_law_1107 : decode cL_law 1107 = .ok (.iconst 0, 1) := dk_3 (dk_at dksL_law_42 20 rfl rfl)
theorem dL_law_1108 : decode cL_law 1108 = .ok (.ireturn, 1) := dk_172 (dk_at dksL_law_42 21 rfl rfl)
theorem dL_law_1109 : decode cL_law 1109 = .ok (.goto 795, 3) := dk_167 3 27 (dk_at dksL_law_43 0 rfl rfl)
theorem dL_law_1112 : decode cL_law 1112 = .ok (.aload_n 1, 1) := dk_43 (dk_at dksL_law_43 3 rfl rfl)
theorem dL_law_1113 : decode cL_law 1113 = .ok (.aload_n 0, 1) := dk_42 (dk_at dksL_law_43 4 rfl rfl)
theorem dL_law_1114 : decode cL_law 1114 = .ok (.iload 5, 2) := dk_21 5 (dk_at dksL_law_43 5 rfl rfl)
theorem dL_law_1116 : decode cL_law 1116 = .ok (.iconst 1, 1) := dk_4 (dk_at dksL_law_43 7 rfl rfl)
theorem dL_law_1117 : decode cL_law 1117 = .ok (.iadd, 1) := dk_96 (dk_at dksL_law_43 8 rfl rfl)
theorem dL_law_1118 : decode cL_law 1118 = .ok (.iaload, 1) := dk_46 (dk_at dksL_law_43 9 rfl rfl)
theorem dL_law_1119 : decode cL_law 1119 = .ok (.aload_n 3, 1) := dk_45 (dk_at dksL_law_43 10 rfl rfl)
theorem dL_law_1120 : decode cL_law 1120 = .ok (.invokestatic 169, 3) := dk_184 0 169 (dk_at dksL_law_43 11 rfl rfl)
theorem dL_law_1123 : decode cL_law 1123 = .ok (.istore 6, 2) := dk_54 6 (dk_at dksL_law_43 14 rfl rfl)
theorem dL_law_1125 : decode cL_law 1125 = .ok (.aload_n 2, 1) := dk_44 (dk_at dksL_law_43 16 rfl rfl)
theorem dL_law_1126 : decode cL_law 1126 = .ok (.aload_n 0, 1) := dk_42 (dk_at dksL_law_43 17 rfl rfl)
theorem dL_law_1127 : decode cL_law 1127 = .ok (.iload 5, 2) := dk_21 5 (dk_at dksL_law_43 18 rfl rfl)
theorem dL_law_1129 : decode cL_law 1129 = .ok (.iconst 1, 1) := dk_4 (dk_at dksL_law_43 20 rfl rfl)
theorem dL_law_1130 : decode cL_law 1130 = .ok (.iadd, 1) := dk_96 (dk_at dksL_law_43 21 rfl rfl)
theorem dL_law_1131 : decode cL_law 1131 = .ok (.iaload, 1) := dk_46 (dk_at dksL_law_43 22 rfl rfl)
theorem dL_law_1132 : decode cL_law 1132 = .ok (.invokevirtual 171, 3) := dk_182 0 171 (dk_at dksL_law_44 0 rfl rfl)
theorem dL_law_1135 : decode cL_law 1135 = .ok (.istore 7, 2) := dk_54 7 (dk_at dksL_law_44 3 rfl rfl)
theorem dL_law_1137 : decode cL_law 1137 = .ok (.aload_n 2, 1) := dk_44 (dk_at dksL_law_44 5 rfl rfl)
theorem dL_law_1138 : decode cL_law 1138 = .ok (.invokevirtual 123, 3) := dk_182 0 123 (dk_at dksL_law_44 6 rfl rfl)
theorem dL_law_1141 : decode cL_law 1141 = .ok (.iload 6, 2) := dk_21 6 (dk_at dksL_law_44 9 rfl rfl)
theorem dL_law_1143 : decode cL_law 1143 = .ok (.if_icmp .eq 5, 3) := dk_159 0 5 (dk_at dksL_law_44 11 rfl rfl)
theorem dL_law_1146 : decode cL_law 1146 = .ok (.iconst 0, 1) := dk_3 (dk_at dksL_law_44 14 rfl rfl)
theorem dL_law_1147 : decode cL_law 1147 = .ok (.ireturn, 1) := dk_172 (dk_at dksL_law_44 15 rfl rfl)
theorem dL_law_1148 : decode cL_law 1148 = .ok (.iload 6, 2) := dk_21 6 (dk_at dksL_law_44 16 rfl rfl)
theorem dL_law_1150 : decode cL_law 1150 = .ok (.ifCond .ne 15, 3) := dk_154 0 15 (dk_at dksL_law_44 18 rfl rfl)
theorem dL_law_1153 : decode cL_law 1153 = .ok (.aload_n 3, 1) := dk_45 (dk_at dksL_law_44 21 rfl rfl)
theorem dL_law_1154 : decode cL_law 1154 = .ok (.iconst 0, 1) := dk_3 (dk_at dksL_law_44 22 rfl rfl)
theorem dL_law_1155 : decode cL_law 1155 = .ok (.laload, 1) := dk_47 (dk_at dksL_law_44 23 rfl rfl)
theorem dL_law_1156 : decode cL_law 1156 = .ok (.iload 7, 2) := dk_21 7 (dk_at dksL_law_45 0 rfl rfl)
theorem dL_law_1158 : decode cL_law 1158 = .ok (.i2l, 1) := dk_133 (dk_at dksL_law_45 2 rfl rfl)
theorem dL_law_1159 : decode cL_law 1159 = .ok (.lcmp, 1) := dk_148 (dk_at dksL_law_45 3 rfl rfl)
theorem dL_law_1160 : decode cL_law 1160 = .ok (.ifCond .eq 5, 3) := dk_153 0 5 (dk_at dksL_law_45 4 rfl rfl)
theorem dL_law_1163 : decode cL_law 1163 = .ok (.iconst 0, 1) := dk_3 (dk_at dksL_law_45 7 rfl rfl)
theorem dL_law_1164 : decode cL_law 1164 = .ok (.ireturn, 1) := dk_172 (dk_at dksL_law_45 8 rfl rfl)
theorem dL_law_1165 : decode cL_law 1165 = .ok (.goto 739, 3) := dk_167 2 227 (dk_at dksL_law_45 9 rfl rfl)
theorem dL_law_1168 : decode cL_law 1168 = .ok (.aload_n 1, 1) := dk_43 (dk_at dksL_law_45 12 rfl rfl)
theorem dL_law_1169 : decode cL_law 1169 = .ok (.aload_n 0, 1) := dk_42 (dk_at dksL_law_45 13 rfl rfl)
theorem dL_law_1170 : decode cL_law 1170 = .ok (.iload 5, 2) := dk_21 5 (dk_at dksL_law_45 14 rfl rfl)
theorem dL_law_1172 : decode cL_law 1172 = .ok (.iconst 1, 1) := dk_4 (dk_at dksL_law_45 16 rfl rfl)
theorem dL_law_1173 : decode cL_law 1173 = .ok (.iadd, 1) := dk_96 (dk_at dksL_law_45 17 rfl rfl)
theorem dL_law_1174 : decode cL_law 1174 = .ok (.iaload, 1) := dk_46 (dk_at dksL_law_45 18 rfl rfl)
theorem dL_law_1175 : decode cL_law 1175 = .ok (.aload_n 0, 1) := dk_42 (dk_at dksL_law_45 19 rfl rfl)
theorem dL_law_1176 : decode cL_law 1176 = .ok (.iload 5, 2) := dk_21 5 (dk_at dksL_law_45 20 rfl rfl)
theorem dL_law_1178 : decode cL_law 1178 = .ok (.iconst 2, 1) := dk_5 (dk_at dksL_law_45 22 rfl rfl)
theorem dL_law_1179 : decode cL_law 1179 = .ok (.iadd, 1) := dk_96 (dk_at dksL_law_45 23 rfl rfl)
theorem dL_law_1180 : decode cL_law 1180 = .ok (.iaload, 1) := dk_46 (dk_at dksL_law_46 0 rfl rfl)
theorem dL_law_1181 : decode cL_law 1181 = .ok (.aload_n 3, 1) := dk_45 (dk_at dksL_law_46 1 rfl rfl)
theorem dL_law_1182 : decode cL_law 1182 = .ok (.invokestatic 172, 3) := dk_184 0 172 (dk_at dksL_law_46 2 rfl rfl)
theorem dL_law_1185 : decode cL_law 1185 = .ok (.istore 6, 2) := dk_54 6 (dk_at dksL_law_46 5 rfl rfl)
theorem dL_law_1187 : decode cL_law 1187 = .ok (.aload_n 2, 1) := dk_44 (dk_at dksL_law_46 7 rfl rfl)
theorem dL_law_1188 : decode cL_law 1188 = .ok (.aload_n 0, 1) := dk_42 (dk_at dksL_law_46 8 rfl rfl)
theorem dL_law_1189 : decode cL_law 1189 = .ok (.iload 5, 2) := dk_21 5 (dk_at dksL_law_46 9 rfl rfl)
theorem dL_law_1191 : decode cL_law 1191 = .ok (.iconst 1, 1) := dk_4 (dk_at dksL_law_46 11 rfl rfl)
theorem dL_law_1192 : decode cL_law 1192 = .ok (.iadd, 1) := dk_96 (dk_at dksL_law_46 12 rfl rfl)
theorem dL_law_1193 : decode cL_law 1193 = .ok (.iaload, 1) := dk_46 (dk_at dksL_law_46 13 rfl rfl)
theorem dL_law_1194 : decode cL_law 1194 = .ok (.aload_n 0, 1) := dk_42 (dk_at dksL_law_46 14 rfl rfl)
theorem dL_law_1195 : decode cL_law 1195 = .ok (.iload 5, 2) := dk_21 5 (dk_at dksL_law_46 15 rfl rfl)
theorem dL_law_1197 : decode cL_law 1197 = .ok (.iconst 2, 1) := dk_5 (dk_at dksL_law_46 17 rfl rfl)
theorem dL_law_1198 : decode cL_law 1198 = .ok (.iadd, 1) := dk_96 (dk_at dksL_law_46 18 rfl rfl)
theorem dL_law_1199 : decode cL_law 1199 = .ok (.iaload, 1) := dk_46 (dk_at dksL_law_46 19 rfl rfl)
theorem dL_law_1200 : decode cL_law 1200 = .ok (.invokevirtual 174, 3) := dk_182 0 174 (dk_at dksL_law_46 20 rfl rfl)
theorem dL_law_1203 : decode cL_law 1203 = .ok (.istore 7, 2) := dk_54 7 (dk_at dksL_law_47 0 rfl rfl)
theorem dL_law_1205 : decode cL_law 1205 = .ok (.aload_n 2, 1) := dk_44 (dk_at dksL_law_47 2 rfl rfl)
theorem dL_law_1206 : decode cL_law 1206 = .ok (.invokevirtual 123, 3) := dk_182 0 123 (dk_at dksL_law_47 3 rfl rfl)
theorem dL_law_1209 : decode cL_law 1209 = .ok (.iload 6, 2) := dk_21 6 (dk_at dksL_law_47 6 rfl rfl)
theorem dL_law_1211 : decode cL_law 1211 = .ok (.if_icmp .eq 5, 3) := dk_159 0 5 (dk_at dksL_law_47 8 rfl rfl)
theorem dL_law_1214 : decode cL_law 1214 = .ok (.iconst 0, 1) := dk_3 (dk_at dksL_law_47 11 rfl rfl)
theorem dL_law_1215 : decode cL_law 1215 = .ok (.ireturn, 1) := dk_172 (dk_at dksL_law_47 12 rfl rfl)
theorem dL_law_1216 : decode cL_law 1216 = .ok (.iload 6, 2) := dk_21 6 (dk_at dksL_law_47 13 rfl rfl)
theorem dL_law_1218 : decode cL_law 1218 = .ok (.ifCond .ne 15, 3) := dk_154 0 15 (dk_at dksL_law_47 15 rfl rfl)
theorem dL_law_1221 : decode cL_law 1221 = .ok (.aload_n 3, 1) := dk_45 (dk_at dksL_law_47 18 rfl rfl)
theorem dL_law_1222 : decode cL_law 1222 = .ok (.iconst 0, 1) := dk_3 (dk_at dksL_law_47 19 rfl rfl)
theorem dL_law_1223 : decode cL_law 1223 = .ok (.laload, 1) := dk_47 (dk_at dksL_law_47 20 rfl rfl)
theorem dL_law_1224 : decode cL_law 1224 = .ok (.iload 7, 2) := dk_21 7 (dk_at dksL_law_47 21 rfl rfl)
theorem dL_law_1226 : decode cL_law 1226 = .ok (.i2l, 1) := dk_133 (dk_at dksL_law_47 23 rfl rfl)
theorem dL_law_1227 : decode cL_law 1227 = .ok (.lcmp, 1) := dk_148 (dk_at dksL_law_48 0 rfl rfl)
theorem dL_law_1228 : decode cL_law 1228 = .ok (.ifCond .eq 5, 3) := dk_153 0 5 (dk_at dksL_law_48 1 rfl rfl)
theorem dL_law_1231 : decode cL_law 1231 = .ok (.iconst 0, 1) := dk_3 (dk_at dksL_law_48 4 rfl rfl)
theorem dL_law_1232 : decode cL_law 1232 = .ok (.ireturn, 1) := dk_172 (dk_at dksL_law_48 5 rfl rfl)
theorem dL_law_1233 : decode cL_law 1233 = .ok (.goto 671, 3) := dk_167 2 159 (dk_at dksL_law_48 6 rfl rfl)
theorem dL_law_1236 : decode cL_law 1236 = .ok (.aload_n 1, 1) := dk_43 (dk_at dksL_law_48 9 rfl rfl)
theorem dL_law_1237 : decode cL_law 1237 = .ok (.aload_n 0, 1) := dk_42 (dk_at dksL_law_48 10 rfl rfl)
theorem dL_law_1238 : decode cL_law 1238 = .ok (.iload 5, 2) := dk_21 5 (dk_at dksL_law_48 11 rfl rfl)
theorem dL_law_1240 : decode cL_law 1240 = .ok (.iconst 1, 1) := dk_4 (dk_at dksL_law_48 13 rfl rfl)
theorem dL_law_1241 : decode cL_law 1241 = .ok (.iadd, 1) := dk_96 (dk_at dksL_law_48 14 rfl rfl)
theorem dL_law_1242 : decode cL_law 1242 = .ok (.iaload, 1) := dk_46 (dk_at dksL_law_48 15 rfl rfl)
theorem dL_law_1243 : decode cL_law 1243 = .ok (.aload_n 0, 1) := dk_42 (dk_at dksL_law_48 16 rfl rfl)
theorem dL_law_1244 : decode cL_law 1244 = .ok (.iload 5, 2) := dk_21 5 (dk_at dksL_law_48 17 rfl rfl)
theorem dL_law_1246 : decode cL_law 1246 = .ok (.iconst 2, 1) := dk_5 (dk_at dksL_law_48 19 rfl rfl)
theorem dL_law_1247 : decode cL_law 1247 = .ok (.iadd, 1) := dk_96 (dk_at dksL_law_48 20 rfl rfl)
theorem dL_law_1248 : decode cL_law 1248 = .ok (.iaload, 1) := dk_46 (dk_at dksL_law_48 21 rfl rfl)
theorem dL_law_1249 : decode cL_law 1249 = .ok (.aload_n 3, 1) := dk_45 (dk_at dksL_law_48 22 rfl rfl)
theorem dL_law_1250 : decode cL_law 1250 = .ok (.invokestatic 175, 3) := dk_184 0 175 (dk_at dksL_law_49 0 rfl rfl)
theorem dL_law_1253 : decode cL_law 1253 = .ok (.istore 6, 2) := dk_54 6 (dk_at dksL_law_49 3 rfl rfl)
theorem dL_law_1255 : decode cL_law 1255 = .ok (.aload_n 2, 1) := dk_44 (dk_at dksL_law_49 5 rfl rfl)
theorem dL_law_1256 : decode cL_law 1256 = .ok (.aload_n 0, 1) := dk_42 (dk_at dksL_law_49 6 rfl rfl)
theorem dL_law_1257 : decode cL_law 1257 = .ok (.iload 5, 2) := dk_21 5 (dk_at dksL_law_49 7 rfl rfl)
theorem dL_law_1259 : decode cL_law 1259 = .ok (.iconst 1, 1) := dk_4 (dk_at dksL_law_49 9 rfl rfl)
theorem dL_law_1260 : decode cL_law 1260 = .ok (.iadd, 1) := dk_96 (dk_at dksL_law_49 10 rfl rfl)
theorem dL_law_1261 : decode cL_law 1261 = .ok (.iaload, 1) := dk_46 (dk_at dksL_law_49 11 rfl rfl)
theorem dL_law_1262 : decode cL_law 1262 = .ok (.aload_n 0, 1) := dk_42 (dk_at dksL_law_49 12 rfl rfl)
theorem dL_law_1263 : decode cL_law 1263 = .ok (.iload 5, 2) := dk_21 5 (dk_at dksL_law_49 13 rfl rfl)
theorem dL_law_1265 : decode cL_law 1265 = .ok (.iconst 2, 1) := dk_5 (dk_at dksL_law_49 15 rfl rfl)
theorem dL_law_1266 : decode cL_law 1266 = .ok (.iadd, 1) := dk_96 (dk_at dksL_law_49 16 rfl rfl)
theorem dL_law_1267 : decode cL_law 1267 = .ok (.iaload, 1) := dk_46 (dk_at dksL_law_49 17 rfl rfl)
theorem dL_law_1268 : decode cL_law 1268 = .ok (.invokevirtual 177, 3) := dk_182 0 177 (dk_at dksL_law_49 18 rfl rfl)
theorem dL_law_1271 : decode cL_law 1271 = .ok (.istore 7, 2) := dk_54 7 (dk_at dksL_law_49 21 rfl rfl)
theorem dL_law_1273 : decode cL_law 1273 = .ok (.aload_n 2, 1) := dk_44 (dk_at dksL_law_49 23 rfl rfl)
theorem dL_law_1274 : decode cL_law 1274 = .ok (.invokevirtual 123, 3) := dk_182 0 123 (dk_at dksL_law_50 0 rfl rfl)
theorem dL_law_1277 : decode cL_law 1277 = .ok (.iload 6, 2) := dk_21 6 (dk_at dksL_law_50 3 rfl rfl)
theorem dL_law_1279 : decode cL_law 1279 = .ok (.if_icmp .eq 5, 3) := dk_159 0 5 (dk_at dksL_law_50 5 rfl rfl)
theorem dL_law_1282 : decode cL_law 1282 = .ok (.iconst 0, 1) := dk_3 (dk_at dksL_law_50 8 rfl rfl)
theorem dL_law_1283 : decode cL_law 1283 = .ok (.ireturn, 1) := dk_172 (dk_at dksL_law_50 9 rfl rfl)
theorem dL_law_1284 : decode cL_law 1284 = .ok (.iload 6, 2) := dk_21 6 (dk_at dksL_law_50 10 rfl rfl)
theorem dL_law_1286 : decode cL_law 1286 = .ok (.ifCond .ne 15, 3) := dk_154 0 15 (dk_at dksL_law_50 12 rfl rfl)
theorem dL_law_1289 : decode cL_law 1289 = .ok (.aload_n 3, 1) := dk_45 (dk_at dksL_law_50 15 rfl rfl)
theorem dL_law_1290 : decode cL_law 1290 = .ok (.iconst 0, 1) := dk_3 (dk_at dksL_law_50 16 rfl rfl)
theorem dL_law_1291 : decode cL_law 1291 = .ok (.laload, 1) := dk_47 (dk_at dksL_law_50 17 rfl rfl)
theorem dL_law_1292 : decode cL_law 1292 = .ok (.iload 7, 2) := dk_21 7 (dk_at dksL_law_50 18 rfl rfl)
theorem dL_law_1294 : decode cL_law 1294 = .ok (.i2l, 1) := dk_133 (dk_at dksL_law_50 20 rfl rfl)
theorem dL_law_1295 : decode cL_law 1295 = .ok (.lcmp, 1) := dk_148 (dk_at dksL_law_50 21 rfl rfl)
theorem dL_law_1296 : decode cL_law 1296 = .ok (.ifCond .eq 5, 3) := dk_153 0 5 (dk_at dksL_law_51 0 rfl rfl)
theorem dL_law_1299 : decode cL_law 1299 = .ok (.iconst 0, 1) := dk_3 (dk_at dksL_law_51 3 rfl rfl)
theorem dL_law_1300 : decode cL_law 1300 = .ok (.ireturn, 1) := dk_172 (dk_at dksL_law_51 4 rfl rfl)
theorem dL_law_1301 : decode cL_law 1301 = .ok (.goto 603, 3) := dk_167 2 91 (dk_at dksL_law_51 5 rfl rfl)
theorem dL_law_1304 : decode cL_law 1304 = .ok (.aload_n 1, 1) := dk_43 (dk_at dksL_law_51 8 rfl rfl)
theorem dL_law_1305 : decode cL_law 1305 = .ok (.aload_n 0, 1) := dk_42 (dk_at dksL_law_51 9 rfl rfl)
theorem dL_law_1306 : decode cL_law 1306 = .ok (.iload 5, 2) := dk_21 5 (dk_at dksL_law_51 10 rfl rfl)
theorem dL_law_1308 : decode cL_law 1308 = .ok (.iconst 1, 1) := dk_4 (dk_at dksL_law_51 12 rfl rfl)
theorem dL_law_1309 : decode cL_law 1309 = .ok (.iadd, 1) := dk_96 (dk_at dksL_law_51 13 rfl rfl)
theorem dL_law_1310 : decode cL_law 1310 = .ok (.iaload, 1) := dk_46 (dk_at dksL_law_51 14 rfl rfl)
theorem dL_law_1311 : decode cL_law 1311 = .ok (.aload_n 0, 1) := dk_42 (dk_at dksL_law_51 15 rfl rfl)
theorem dL_law_1312 : decode cL_law 1312 = .ok (.iload 5, 2) := dk_21 5 (dk_at dksL_law_51 16 rfl rfl)
theorem dL_law_1314 : decode cL_law 1314 = .ok (.iconst 2, 1) := dk_5 (dk_at dksL_law_51 18 rfl rfl)
theorem dL_law_1315 : decode cL_law 1315 = .ok (.iadd, 1) := dk_96 (dk_at dksL_law_51 19 rfl rfl)
theorem dL_law_1316 : decode cL_law 1316 = .ok (.iaload, 1) := dk_46 (dk_at dksL_law_51 20 rfl rfl)
theorem dL_law_1317 : decode cL_law 1317 = .ok (.aload_n 3, 1) := dk_45 (dk_at dksL_law_51 21 rfl rfl)
theorem dL_law_1318 : decode cL_law 1318 = .ok (.invokestatic 178, 3) := dk_184 0 178 (dk_at dksL_law_52 0 rfl rfl)
theorem dL_law_1321 : decode cL_law 1321 = .ok (.istore 6, 2) := dk_54 6 (dk_at dksL_law_52 3 rfl rfl)
theorem dL_law_1323 : decode cL_law 1323 = .ok (.aload_n 2, 1) := dk_44 (dk_at dksL_law_52 5 rfl rfl)
theorem dL_law_1324 : decode cL_law 1324 = .ok (.aload_n 0, 1) := dk_42 (dk_at dksL_law_52 6 rfl rfl)
theorem dL_law_1325 : decode cL_law 1325 = .ok (.iload 5, 2) := dk_21 5 (dk_at dksL_law_52 7 rfl rfl)
theorem dL_law_1327 : decode cL_law 1327 = .ok (.iconst 1, 1) := dk_4 (dk_at dksL_law_52 9 rfl rfl)
theorem dL_law_1328 : decode cL_law 1328 = .ok (.iadd, 1) := dk_96 (dk_at dksL_law_52 10 rfl rfl)
theorem dL_law_1329 : decode cL_law 1329 = .ok (.iaload, 1) := dk_46 (dk_at dksL_law_52 11 rfl rfl)
theorem dL_law_1330 : decode cL_law 1330 = .ok (.aload_n 0, 1) := dk_42 (dk_at dksL_law_52 12 rfl rfl)
theorem dL_law_1331 : decode cL_law 1331 = .ok (.iload 5, 2) := dk_21 5 (dk_at dksL_law_52 13 rfl rfl)
theorem dL_law_1333 : decode cL_law 1333 = .ok (.iconst 2, 1) := dk_5 (dk_at dksL_law_52 15 rfl rfl)
theorem dL_law_1334 : decode cL_law 1334 = .ok (.iadd, 1) := dk_96 (dk_at dksL_law_52 16 rfl rfl)
theorem dL_law_1335 : decode cL_law 1335 = .ok (.iaload, 1) := dk_46 (dk_at dksL_law_52 17 rfl rfl)
theorem dL_law_1336 : decode cL_law 1336 = .ok (.invokevirtual 180, 3) := dk_182 0 180 (dk_at dksL_law_52 18 rfl rfl)
theorem dL_law_1339 : decode cL_law 1339 = .ok (.istore 7, 2) := dk_54 7 (dk_at dksL_law_52 21 rfl rfl)
theorem dL_law_1341 : decode cL_law 1341 = .ok (.aload_n 2, 1) := dk_44 (dk_at dksL_law_52 23 rfl rfl)
theorem dL_law_1342 : decode cL_law 1342 = .ok (.invokevirtual 123, 3) := dk_182 0 123 (dk_at dksL_law_53 0 rfl rfl)
theorem dL_law_1345 : decode cL_law 1345 = .ok (.iload 6, 2) := dk_21 6 (dk_at dksL_law_53 3 rfl rfl)
theorem dL_law_1347 : decode cL_law 1347 = .ok (.if_icmp .eq 5, 3) := dk_159 0 5 (dk_at dksL_law_53 5 rfl rfl)
theorem dL_law_1350 : decode cL_law 1350 = .ok (.iconst 0, 1) := dk_3 (dk_at dksL_law_53 8 rfl rfl)
theorem dL_law_1351 : decode cL_law 1351 = .ok (.ireturn, 1) := dk_172 (dk_at dksL_law_53 9 rfl rfl)
theorem dL_law_1352 : decode cL_law 1352 = .ok (.iload 6, 2) := dk_21 6 (dk_at dksL_law_53 10 rfl rfl)
theorem dL_law_1354 : decode cL_law 1354 = .ok (.ifCond .ne 15, 3) := dk_154 0 15 (dk_at dksL_law_53 12 rfl rfl)
theorem dL_law_1357 : decode cL_law 1357 = .ok (.aload_n 3, 1) := dk_45 (dk_at dksL_law_53 15 rfl rfl)
theorem dL_law_1358 : decode cL_law 1358 = .ok (.iconst 0, 1) := dk_3 (dk_at dksL_law_53 16 rfl rfl)
theorem dL_law_1359 : decode cL_law 1359 = .ok (.laload, 1) := dk_47 (dk_at dksL_law_53 17 rfl rfl)
theorem dL_law_1360 : decode cL_law 1360 = .ok (.iload 7, 2) := dk_21 7 (dk_at dksL_law_53 18 rfl rfl)
theorem dL_law_1362 : decode cL_law 1362 = .ok (.i2l, 1) := dk_133 (dk_at dksL_law_53 20 rfl rfl)
theorem dL_law_1363 : decode cL_law 1363 = .ok (.lcmp, 1) := dk_148 (dk_at dksL_law_53 21 rfl rfl)
theorem dL_law_1364 : decode cL_law 1364 = .ok (.ifCond .eq 5, 3) := dk_153 0 5 (dk_at dksL_law_54 0 rfl rfl)
theorem dL_law_1367 : decode cL_law 1367 = .ok (.iconst 0, 1) := dk_3 (dk_at dksL_law_54 3 rfl rfl)
theorem dL_law_1368 : decode cL_law 1368 = .ok (.ireturn, 1) := dk_172 (dk_at dksL_law_54 4 rfl rfl)
theorem dL_law_1369 : decode cL_law 1369 = .ok (.goto 535, 3) := dk_167 2 23 (dk_at dksL_law_54 5 rfl rfl)
theorem dL_law_1372 : decode cL_law 1372 = .ok (.aload_n 1, 1) := dk_43 (dk_at dksL_law_54 8 rfl rfl)
theorem dL_law_1373 : decode cL_law 1373 = .ok (.aload_n 3, 1) := dk_45 (dk_at dksL_law_54 9 rfl rfl)
theorem dL_law_1374 : decode cL_law 1374 = .ok (.invokestatic 181, 3) := dk_184 0 181 (dk_at dksL_law_54 10 rfl rfl)
theorem dL_law_1377 : decode cL_law 1377 = .ok (.istore 6, 2) := dk_54 6 (dk_at dksL_law_54 13 rfl rfl)
theorem dL_law_1379 : decode cL_law 1379 = .ok (.aload_n 2, 1) := dk_44 (dk_at dksL_law_54 15 rfl rfl)
theorem dL_law_1380 : decode cL_law 1380 = .ok (.invokevirtual 184, 3) := dk_182 0 184 (dk_at dksL_law_54 16 rfl rfl)
theorem dL_law_1383 : decode cL_law 1383 = .ok (.istore 7, 2) := dk_54 7 (dk_at dksL_law_54 19 rfl rfl)
theorem dL_law_1385 : decode cL_law 1385 = .ok (.aload_n 2, 1) := dk_44 (dk_at dksL_law_54 21 rfl rfl)
theorem dL_law_1386 : decode cL_law 1386 = .ok (.invokevirtual 123, 3) := dk_182 0 123 (dk_at dksL_law_55 0 rfl rfl)
theorem dL_law_1389 : decode cL_law 1389 = .ok (.iload 6, 2) := dk_21 6 (dk_at dksL_law_55 3 rfl rfl)
theorem dL_law_1391 : decode cL_law 1391 = .ok (.if_icmp .eq 5, 3) := dk_159 0 5 (dk_at dksL_law_55 5 rfl rfl)
theorem dL_law_1394 : decode cL_law 1394 = .ok (.iconst 0, 1) := dk_3 (dk_at dksL_law_55 8 rfl rfl)
theorem dL_law_1395 : decode cL_law 1395 = .ok (.ireturn, 1) := dk_172 (dk_at dksL_law_55 9 rfl rfl)
theorem dL_law_1396 : decode cL_law 1396 = .ok (.iload 6, 2) := dk_21 6 (dk_at dksL_law_55 10 rfl rfl)
theorem dL_law_1398 : decode cL_law 1398 = .ok (.ifCond .ne 15, 3) := dk_154 0 15 (dk_at dksL_law_55 12 rfl rfl)
theorem dL_law_1401 : decode cL_law 1401 = .ok (.aload_n 3, 1) := dk_45 (dk_at dksL_law_55 15 rfl rfl)
theorem dL_law_1402 : decode cL_law 1402 = .ok (.iconst 0, 1) := dk_3 (dk_at dksL_law_55 16 rfl rfl)
theorem dL_law_1403 : decode cL_law 1403 = .ok (.laload, 1) := dk_47 (dk_at dksL_law_55 17 rfl rfl)
theorem dL_law_1404 : decode cL_law 1404 = .ok (.iload 7, 2) := dk_21 7 (dk_at dksL_law_55 18 rfl rfl)
theorem dL_law_1406 : decode cL_law 1406 = .ok (.i2l, 1) := dk_133 (dk_at dksL_law_55 20 rfl rfl)
theorem dL_law_1407 : decode cL_law 1407 = .ok (.lcmp, 1) := dk_148 (dk_at dksL_law_55 21 rfl rfl)
theorem dL_law_1408 : decode cL_law 1408 = .ok (.ifCond .eq 5, 3) := dk_153 0 5 (dk_at dksL_law_56 0 rfl rfl)
theorem dL_law_1411 : decode cL_law 1411 = .ok (.iconst 0, 1) := dk_3 (dk_at dksL_law_56 3 rfl rfl)
theorem dL_law_1412 : decode cL_law 1412 = .ok (.ireturn, 1) := dk_172 (dk_at dksL_law_56 4 rfl rfl)
theorem dL_law_1413 : decode cL_law 1413 = .ok (.goto 491, 3) := dk_167 1 235 (dk_at dksL_law_56 5 rfl rfl)
theorem dL_law_1416 : decode cL_law 1416 = .ok (.aload_n 1, 1) := dk_43 (dk_at dksL_law_56 8 rfl rfl)
theorem dL_law_1417 : decode cL_law 1417 = .ok (.aload_n 0, 1) := dk_42 (dk_at dksL_law_56 9 rfl rfl)
theorem dL_law_1418 : decode cL_law 1418 = .ok (.iload 5, 2) := dk_21 5 (dk_at dksL_law_56 10 rfl rfl)
theorem dL_law_1420 : decode cL_law 1420 = .ok (.iconst 1, 1) := dk_4 (dk_at dksL_law_56 12 rfl rfl)
theorem dL_law_1421 : decode cL_law 1421 = .ok (.iadd, 1) := dk_96 (dk_at dksL_law_56 13 rfl rfl)
theorem dL_law_1422 : decode cL_law 1422 = .ok (.iaload, 1) := dk_46 (dk_at dksL_law_56 14 rfl rfl)
theorem dL_law_1423 : decode cL_law 1423 = .ok (.i2c, 1) := dk_146 (dk_at dksL_law_56 15 rfl rfl)
theorem dL_law_1424 : decode cL_law 1424 = .ok (.aload_n 3, 1) := dk_45 (dk_at dksL_law_56 16 rfl rfl)
theorem dL_law_1425 : decode cL_law 1425 = .ok (.invokestatic 185, 3) := dk_184 0 185 (dk_at dksL_law_56 17 rfl rfl)
theorem dL_law_1428 : decode cL_law 1428 = .ok (.istore 6, 2) := dk_54 6 (dk_at dksL_law_56 20 rfl rfl)
theorem dL_law_1430 : decode cL_law 1430 = .ok (.aload_n 2, 1) := dk_44 (dk_at dksL_law_56 22 rfl rfl)
theorem dL_law_1431 : decode cL_law 1431 = .ok (.aload_n 0, 1) := dk_42 (dk_at dksL_law_56 23 rfl rfl)
theorem dL_law_1432 : decode cL_law 1432 = .ok (.iload 5, 2) := dk_21 5 (dk_at dksL_law_57 0 rfl rfl)
theorem dL_law_1434 : decode cL_law 1434 = .ok (.iconst 1, 1) := dk_4 (dk_at dksL_law_57 2 rfl rfl)
theorem dL_law_1435 : decode cL_law 1435 = .ok (.iadd, 1) := dk_96 (dk_at dksL_law_57 3 rfl rfl)
theorem dL_law_1436 : decode cL_law 1436 = .ok (.iaload, 1) := dk_46 (dk_at dksL_law_57 4 rfl rfl)
theorem dL_law_1437 : decode cL_law 1437 = .ok (.i2c, 1) := dk_146 (dk_at dksL_law_57 5 rfl rfl)
theorem dL_law_1438 : decode cL_law 1438 = .ok (.invokevirtual 188, 3) := dk_182 0 188 (dk_at dksL_law_57 6 rfl rfl)
theorem dL_law_1441 : decode cL_law 1441 = .ok (.istore 7, 2) := dk_54 7 (dk_at dksL_law_57 9 rfl rfl)
theorem dL_law_1443 : decode cL_law 1443 = .ok (.aload_n 2, 1) := dk_44 (dk_at dksL_law_57 11 rfl rfl)
theorem dL_law_1444 : decode cL_law 1444 = .ok (.invokevirtual 123, 3) := dk_182 0 123 (dk_at dksL_law_57 12 rfl rfl)
theorem dL_law_1447 : decode cL_law 1447 = .ok (.iload 6, 2) := dk_21 6 (dk_at dksL_law_57 15 rfl rfl)
theorem dL_law_1449 : decode cL_law 1449 = .ok (.if_icmp .eq 5, 3) := dk_159 0 5 (dk_at dksL_law_57 17 rfl rfl)
theorem dL_law_1452 : decode cL_law 1452 = .ok (.iconst 0, 1) := dk_3 (dk_at dksL_law_57 20 rfl rfl)
theorem dL_law_1453 : decode cL_law 1453 = .ok (.ireturn, 1) := dk_172 (dk_at dksL_law_57 21 rfl rfl)
theorem dL_law_1454 : decode cL_law 1454 = .ok (.iload 6, 2) := dk_21 6 (dk_at dksL_law_57 22 rfl rfl)
theorem dL_law_1456 : decode cL_law 1456 = .ok (.ifCond .ne 15, 3) := dk_154 0 15 (dk_at dksL_law_58 0 rfl rfl)
theorem dL_law_1459 : decode cL_law 1459 = .ok (.aload_n 3, 1) := dk_45 (dk_at dksL_law_58 3 rfl rfl)
theorem dL_law_1460 : decode cL_law 1460 = .ok (.iconst 0, 1) := dk_3 (dk_at dksL_law_58 4 rfl rfl)
theorem dL_law_1461 : decode cL_law 1461 = .ok (.laload, 1) := dk_47 (dk_at dksL_law_58 5 rfl rfl)
theorem dL_law_1462 : decode cL_law 1462 = .ok (.iload 7, 2) := dk_21 7 (dk_at dksL_law_58 6 rfl rfl)
theorem dL_law_1464 : decode cL_law 1464 = .ok (.i2l, 1) := dk_133 (dk_at dksL_law_58 8 rfl rfl)
theorem dL_law_1465 : decode cL_law 1465 = .ok (.lcmp, 1) := dk_148 (dk_at dksL_law_58 9 rfl rfl)
theorem dL_law_1466 : decode cL_law 1466 = .ok (.ifCond .eq 5, 3) := dk_153 0 5 (dk_at dksL_law_58 10 rfl rfl)
theorem dL_law_1469 : decode cL_law 1469 = .ok (.iconst 0, 1) := dk_3 (dk_at dksL_law_58 13 rfl rfl)
theorem dL_law_1470 : decode cL_law 1470 = .ok (.ireturn, 1) := dk_172 (dk_at dksL_law_58 14 rfl rfl)
theorem dL_law_1471 : decode cL_law 1471 = .ok (.goto 433, 3) := dk_167 1 177 (dk_at dksL_law_58 15 rfl rfl)
theorem dL_law_1474 : decode cL_law 1474 = .ok (.aload_n 1, 1) := dk_43 (dk_at dksL_law_58 18 rfl rfl)
theorem dL_law_1475 : decode cL_law 1475 = .ok (.aload_n 3, 1) := dk_45 (dk_at dksL_law_58 19 rfl rfl)
theorem dL_law_1476 : decode cL_law 1476 = .ok (.invokestatic 189, 3) := dk_184 0 189 (dk_at dksL_law_58 20 rfl rfl)
theorem dL_law_1479 : decode cL_law 1479 = .ok (.istore 6, 2) := dk_54 6 (dk_at dksL_law_59 0 rfl rfl)
theorem dL_law_1481 : decode cL_law 1481 = .ok (.aload_n 2, 1) := dk_44 (dk_at dksL_law_59 2 rfl rfl)
theorem dL_law_1482 : decode cL_law 1482 = .ok (.invokevirtual 191, 3) := dk_182 0 191 (dk_at dksL_law_59 3 rfl rfl)
theorem dL_law_1485 : decode cL_law 1485 = .ok (.istore 7, 2) := dk_54 7 (dk_at dksL_law_59 6 rfl rfl)
theorem dL_law_1487 : decode cL_law 1487 = .ok (.aload_n 2, 1) := dk_44 (dk_at dksL_law_59 8 rfl rfl)
theorem dL_law_1488 : decode cL_law 1488 = .ok (.invokevirtual 123, 3) := dk_182 0 123 (dk_at dksL_law_59 9 rfl rfl)
theorem dL_law_1491 : decode cL_law 1491 = .ok (.iload 6, 2) := dk_21 6 (dk_at dksL_law_59 12 rfl rfl)
theorem dL_law_1493 : decode cL_law 1493 = .ok (.if_icmp .eq 5, 3) := dk_159 0 5 (dk_at dksL_law_59 14 rfl rfl)
theorem dL_law_1496 : decode cL_law 1496 = .ok (.iconst 0, 1) := dk_3 (dk_at dksL_law_59 17 rfl rfl)
theorem dL_law_1497 : decode cL_law 1497 = .ok (.ireturn, 1) := dk_172 (dk_at dksL_law_59 18 rfl rfl)
theorem dL_law_1498 : decode cL_law 1498 = .ok (.iload 6, 2) := dk_21 6 (dk_at dksL_law_59 19 rfl rfl)
theorem dL_law_1500 : decode cL_law 1500 = .ok (.ifCond .ne 15, 3) := dk_154 0 15 (dk_at dksL_law_59 21 rfl rfl)
theorem dL_law_1503 : decode cL_law 1503 = .ok (.aload_n 3, 1) := dk_45 (dk_at dksL_law_60 0 rfl rfl)
theorem dL_law_1504 : decode cL_law 1504 = .ok (.iconst 0, 1) := dk_3 (dk_at dksL_law_60 1 rfl rfl)
theorem dL_law_1505 : decode cL_law 1505 = .ok (.laload, 1) := dk_47 (dk_at dksL_law_60 2 rfl rfl)
theorem dL_law_1506 : decode cL_law 1506 = .ok (.iload 7, 2) := dk_21 7 (dk_at dksL_law_60 3 rfl rfl)
theorem dL_law_1508 : decode cL_law 1508 = .ok (.i2l, 1) := dk_133 (dk_at dksL_law_60 5 rfl rfl)
theorem dL_law_1509 : decode cL_law 1509 = .ok (.lcmp, 1) := dk_148 (dk_at dksL_law_60 6 rfl rfl)
theorem dL_law_1510 : decode cL_law 1510 = .ok (.ifCond .eq 5, 3) := dk_153 0 5 (dk_at dksL_law_60 7 rfl rfl)
theorem dL_law_1513 : decode cL_law 1513 = .ok (.iconst 0, 1) := dk_3 (dk_at dksL_law_60 10 rfl rfl)
theorem dL_law_1514 : decode cL_law 1514 = .ok (.ireturn, 1) := dk_172 (dk_at dksL_law_60 11 rfl rfl)
theorem dL_law_1515 : decode cL_law 1515 = .ok (.goto 389, 3) := dk_167 1 133 (dk_at dksL_law_60 12 rfl rfl)
theorem dL_law_1518 : decode cL_law 1518 = .ok (.aload_n 1, 1) := dk_43 (dk_at dksL_law_60 15 rfl rfl)
theorem dL_law_1519 : decode cL_law 1519 = .ok (.invokevirtual 192, 3) := dk_182 0 192 (dk_at dksL_law_60 16 rfl rfl)
theorem dL_law_1522 : decode cL_law 1522 = .ok (.aload_n 2, 1) := dk_44 (dk_at dksL_law_60 19 rfl rfl)
theorem dL_law_1523 : decode cL_law 1523 = .ok (.invokevirtual 195, 3) := dk_182 0 195 (dk_at dksL_law_60 20 rfl rfl)
theorem dL_law_1526 : decode cL_law 1526 = .ok (.if_icmp .eq 378, 3) := dk_159 1 122 (dk_at dksL_law_61 0 rfl rfl)
theorem dL_law_1529 : decode cL_law 1529 = .ok (.iconst 0, 1) := dk_3 (dk_at dksL_law_61 3 rfl rfl)
theorem dL_law_1530 : decode cL_law 1530 = .ok (.ireturn, 1) := dk_172 (dk_at dksL_law_61 4 rfl rfl)
theorem dL_law_1531 : decode cL_law 1531 = .ok (.aload_n 1, 1) := dk_43 (dk_at dksL_law_61 5 rfl rfl)
theorem dL_law_1532 : decode cL_law 1532 = .ok (.aload_n 0, 1) := dk_42 (dk_at dksL_law_61 6 rfl rfl)
theorem dL_law_1533 : decode cL_law 1533 = .ok (.iload 5, 2) := dk_21 5 (dk_at dksL_law_61 7 rfl rfl)
theorem dL_law_1535 : decode cL_law 1535 = .ok (.iconst 1, 1) := dk_4 (dk_at dksL_law_61 9 rfl rfl)
theorem dL_law_1536 : decode cL_law 1536 = .ok (.iadd, 1) := dk_96 (dk_at dksL_law_61 10 rfl rfl)
theorem dL_law_1537 : decode cL_law 1537 = .ok (.iaload, 1) := dk_46 (dk_at dksL_law_61 11 rfl rfl)
theorem dL_law_1538 : decode cL_law 1538 = .ok (.ifCond .eq 7, 3) := dk_153 0 7 (dk_at dksL_law_61 12 rfl rfl)
theorem dL_law_1541 : decode cL_law 1541 = .ok (.iconst 1, 1) := dk_4 (dk_at dksL_law_61 15 rfl rfl)
theorem dL_law_1542 : decode cL_law 1542 = .ok (.goto 4, 3) := dk_167 0 4 (dk_at dksL_law_61 16 rfl rfl)
theorem dL_law_1545 : decode cL_law 1545 = .ok (.iconst 0, 1) := dk_3 (dk_at dksL_law_61 19 rfl rfl)
theorem dL_law_1546 : decode cL_law 1546 = .ok (.aload_n 3, 1) := dk_45 (dk_at dksL_law_61 20 rfl rfl)
theorem dL_law_1547 : decode cL_law 1547 = .ok (.invokestatic 196, 3) := dk_184 0 196 (dk_at dksL_law_61 21 rfl rfl)
theorem dL_law_1550 : decode cL_law 1550 = .ok (.istore 6, 2) := dk_54 6 (dk_at dksL_law_62 0 rfl rfl)
theorem dL_law_1552 : decode cL_law 1552 = .ok (.aload_n 2, 1) := dk_44 (dk_at dksL_law_62 2 rfl rfl)
theorem dL_law_1553 : decode cL_law 1553 = .ok (.aload_n 0, 1) := dk_42 (dk_at dksL_law_62 3 rfl rfl)
theorem dL_law_1554 : decode cL_law 1554 = .ok (.iload 5, 2) := dk_21 5 (dk_at dksL_law_62 4 rfl rfl)
theorem dL_law_1556 : decode cL_law 1556 = .ok (.iconst 1, 1) := dk_4 (dk_at dksL_law_62 6 rfl rfl)
theorem dL_law_1557 : decode cL_law 1557 = .ok (.iadd, 1) := dk_96 (dk_at dksL_law_62 7 rfl rfl)
theorem dL_law_1558 : decode cL_law 1558 = .ok (.iaload, 1) := dk_46 (dk_at dksL_law_62 8 rfl rfl)
theorem dL_law_1559 : decode cL_law 1559 = .ok (.ifCond .eq 7, 3) := dk_153 0 7 (dk_at dksL_law_62 9 rfl rfl)
theorem dL_law_1562 : decode cL_law 1562 = .ok (.iconst 1, 1) := dk_4 (dk_at dksL_law_62 12 rfl rfl)
theorem dL_law_1563 : decode cL_law 1563 = .ok (.goto 4, 3) := dk_167 0 4 (dk_at dksL_law_62 13 rfl rfl)
theorem dL_law_1566 : decode cL_law 1566 = .ok (.iconst 0, 1) := dk_3 (dk_at dksL_law_62 16 rfl rfl)
theorem dL_law_1567 : decode cL_law 1567 = .ok (.invokevirtual 199, 3) := dk_182 0 199 (dk_at dksL_law_62 17 rfl rfl)
theorem dL_law_1570 : decode cL_law 1570 = .ok (.istore 7, 2) := dk_54 7 (dk_at dksL_law_62 20 rfl rfl)
theorem dL_law_1572 : decode cL_law 1572 = .ok (.aload_n 2, 1) := dk_44 (dk_at dksL_law_62 22 rfl rfl)
theorem dL_law_1573 : decode cL_law 1573 = .ok (.invokevirtual 123, 3) := dk_182 0 123 (dk_at dksL_law_63 0 rfl rfl)
theorem dL_law_1576 : decode cL_law 1576 = .ok (.iload 6, 2) := dk_21 6 (dk_at dksL_law_63 3 rfl rfl)
theorem dL_law_1578 : decode cL_law 1578 = .ok (.if_icmp .eq 5, 3) := dk_159 0 5 (dk_at dksL_law_63 5 rfl rfl)
theorem dL_law_1581 : decode cL_law 1581 = .ok (.iconst 0, 1) := dk_3 (dk_at dksL_law_63 8 rfl rfl)
theorem dL_law_1582 : decode cL_law 1582 = .ok (.ireturn, 1) := dk_172 (dk_at dksL_law_63 9 rfl rfl)
theorem dL_law_1583 : decode cL_law 1583 = .ok (.iload 6, 2) := dk_21 6 (dk_at dksL_law_63 10 rfl rfl)
theorem dL_law_1585 : decode cL_law 1585 = .ok (.ifCond .ne 15, 3) := dk_154 0 15 (dk_at dksL_law_63 12 rfl rfl)
theorem dL_law_1588 : decode cL_law 1588 = .ok (.aload_n 3, 1) := dk_45 (dk_at dksL_law_63 15 rfl rfl)
theorem dL_law_1589 : decode cL_law 1589 = .ok (.iconst 0, 1) := dk_3 (dk_at dksL_law_63 16 rfl rfl)
theorem dL_law_1590 : decode cL_law 1590 = .ok (.laload, 1) := dk_47 (dk_at dksL_law_63 17 rfl rfl)
theorem dL_law_1591 : decode cL_law 1591 = .ok (.iload 7, 2) := dk_21 7 (dk_at dksL_law_63 18 rfl rfl)
theorem dL_law_1593 : decode cL_law 1593 = .ok (.i2l, 1) := dk_133 (dk_at dksL_law_63 20 rfl rfl)
theorem dL_law_1594 : decode cL_law 1594 = .ok (.lcmp, 1) := dk_148 (dk_at dksL_law_63 21 rfl rfl)
theorem dL_law_1595 : decode cL_law 1595 = .ok (.ifCond .eq 5, 3) := dk_153 0 5 (dk_at dksL_law_64 0 rfl rfl)
theorem dL_law_1598 : decode cL_law 1598 = .ok (.iconst 0, 1) := dk_3 (dk_at dksL_law_64 3 rfl rfl)
theorem dL_law_1599 : decode cL_law 1599 = .ok (.ireturn, 1) := dk_172 (dk_at dksL_law_64 4 rfl rfl)
theorem dL_law_1600 : decode cL_law 1600 = .ok (.goto 304, 3) := dk_167 1 48 (dk_at dksL_law_64 5 rfl rfl)
theorem dL_law_1603 : decode cL_law 1603 = .ok (.aload_n 1, 1) := dk_43 (dk_at dksL_law_64 8 rfl rfl)
theorem dL_law_1604 : decode cL_law 1604 = .ok (.aload_n 0, 1) := dk_42 (dk_at dksL_law_64 9 rfl rfl)
theorem dL_law_1605 : decode cL_law 1605 = .ok (.iload 5, 2) := dk_21 5 (dk_at dksL_law_64 10 rfl rfl)
theorem dL_law_1607 : decode cL_law 1607 = .ok (.iconst 1, 1) := dk_4 (dk_at dksL_law_64 12 rfl rfl)
theorem dL_law_1608 : decode cL_law 1608 = .ok (.iadd, 1) := dk_96 (dk_at dksL_law_64 13 rfl rfl)
theorem dL_law_1609 : decode cL_law 1609 = .ok (.iaload, 1) := dk_46 (dk_at dksL_law_64 14 rfl rfl)
theorem dL_law_1610 : decode cL_law 1610 = .ok (.aload_n 3, 1) := dk_45 (dk_at dksL_law_64 15 rfl rfl)
theorem dL_law_1611 : decode cL_law 1611 = .ok (.invokestatic 200, 3) := dk_184 0 200 (dk_at dksL_law_64 16 rfl rfl)
theorem dL_law_1614 : decode cL_law 1614 = .ok (.istore 6, 2) := dk_54 6 (dk_at dksL_law_64 19 rfl rfl)
theorem dL_law_1616 : decode cL_law 1616 = .ok (.aload_n 2, 1) := dk_44 (dk_at dksL_law_64 21 rfl rfl)
theorem dL_law_1617 : decode cL_law 1617 = .ok (.aload_n 0, 1) := dk_42 (dk_at dksL_law_64 22 rfl rfl)
theorem dL_law_1618 : decode cL_law 1618 = .ok (.iload 5, 2) := dk_21 5 (dk_at dksL_law_65 0 rfl rfl)
theorem dL_law_1620 : decode cL_law 1620 = .ok (.iconst 1, 1) := dk_4 (dk_at dksL_law_65 2 rfl rfl)
theorem dL_law_1621 : decode cL_law 1621 = .ok (.iadd, 1) := dk_96 (dk_at dksL_law_65 3 rfl rfl)
theorem dL_law_1622 : decode cL_law 1622 = .ok (.iaload, 1) := dk_46 (dk_at dksL_law_65 4 rfl rfl)
theorem dL_law_1623 : decode cL_law 1623 = .ok (.invokevirtual 202, 3) := dk_182 0 202 (dk_at dksL_law_65 5 rfl rfl)
theorem dL_law_1626 : decode cL_law 1626 = .ok (.istore 7, 2) := dk_54 7 (dk_at dksL_law_65 8 rfl rfl)
theorem dL_law_1628 : decode cL_law 1628 = .ok (.aload_n 2, 1) := dk_44 (dk_at dksL_law_65 10 rfl rfl)
theorem dL_law_1629 : decode cL_law 1629 = .ok (.invokevirtual 123, 3) := dk_182 0 123 (dk_at dksL_law_65 11 rfl rfl)
theorem dL_law_1632 : decode cL_law 1632 = .ok (.iload 6, 2) := dk_21 6 (dk_at dksL_law_65 14 rfl rfl)
theorem dL_law_1634 : decode cL_law 1634 = .ok (.if_icmp .eq 5, 3) := dk_159 0 5 (dk_at dksL_law_65 16 rfl rfl)
theorem dL_law_1637 : decode cL_law 1637 = .ok (.iconst 0, 1) := dk_3 (dk_at dksL_law_65 19 rfl rfl)
theorem dL_law_1638 : decode cL_law 1638 = .ok (.ireturn, 1) := dk_172 (dk_at dksL_law_65 20 rfl rfl)
theorem dL_law_1639 : decode cL_law 1639 = .ok (.iload 6, 2) := dk_21 6 (dk_at dksL_law_65 21 rfl rfl)
theorem dL_law_1641 : decode cL_law 1641 = .ok (.ifCond .ne 15, 3) := dk_154 0 15 (dk_at dksL_law_66 0 rfl rfl)
theorem dL_law_1644 : decode cL_law 1644 = .ok (.aload_n 3, 1) := dk_45 (dk_at dksL_law_66 3 rfl rfl)
theorem dL_law_1645 : decode cL_law 1645 = .ok (.iconst 0, 1) := dk_3 (dk_at dksL_law_66 4 rfl rfl)
theorem dL_law_1646 : decode cL_law 1646 = .ok (.laload, 1) := dk_47 (dk_at dksL_law_66 5 rfl rfl)
theorem dL_law_1647 : decode cL_law 1647 = .ok (.iload 7, 2) := dk_21 7 (dk_at dksL_law_66 6 rfl rfl)
theorem dL_law_1649 : decode cL_law 1649 = .ok (.i2l, 1) := dk_133 (dk_at dksL_law_66 8 rfl rfl)
theorem dL_law_1650 : decode cL_law 1650 = .ok (.lcmp, 1) := dk_148 (dk_at dksL_law_66 9 rfl rfl)
theorem dL_law_1651 : decode cL_law 1651 = .ok (.ifCond .eq 5, 3) := dk_153 0 5 (dk_at dksL_law_66 10 rfl rfl)
theorem dL_law_1654 : decode cL_law 1654 = .ok (.iconst 0, 1) := dk_3 (dk_at dksL_law_66 13 rfl rfl)
theorem dL_law_1655 : decode cL_law 1655 = .ok (.ireturn, 1) := dk_172 (dk_at dksL_law_66 14 rfl rfl)
theorem dL_law_1656 : decode cL_law 1656 = .ok (.goto 248, 3) := dk_167 0 248 (dk_at dksL_law_66 15 rfl rfl)
theorem dL_law_1659 : decode cL_law 1659 = .ok (.aload_n 1, 1) := dk_43 (dk_at dksL_law_66 18 rfl rfl)
theorem dL_law_1660 : decode cL_law 1660 = .ok (.invokevirtual 203, 3) := dk_182 0 203 (dk_at dksL_law_66 19 rfl rfl)
theorem dL_law_1663 : decode cL_law 1663 = .ok (.aload_n 2, 1) := dk_44 (dk_at dksL_law_66 22 rfl rfl)
theorem dL_law_1664 : decode cL_law 1664 = .ok (.invokevirtual 207, 3) := dk_182 0 207 (dk_at dksL_law_67 0 rfl rfl)
theorem dL_law_1667 : decode cL_law 1667 = .ok (.if_icmp .eq 237, 3) := dk_159 0 237 (dk_at dksL_law_67 3 rfl rfl)
theorem dL_law_1670 : decode cL_law 1670 = .ok (.iconst 0, 1) := dk_3 (dk_at dksL_law_67 6 rfl rfl)
theorem dL_law_1671 : decode cL_law 1671 = .ok (.ireturn, 1) := dk_172 (dk_at dksL_law_67 7 rfl rfl)
theorem dL_law_1672 : decode cL_law 1672 = .ok (.aload_n 1, 1) := dk_43 (dk_at dksL_law_67 8 rfl rfl)
theorem dL_law_1673 : decode cL_law 1673 = .ok (.aload 4, 2) := dk_25 4 (dk_at dksL_law_67 9 rfl rfl)
theorem dL_law_1675 : decode cL_law 1675 = .ok (.invokestatic 208, 3) := dk_184 0 208 (dk_at dksL_law_67 11 rfl rfl)
theorem dL_law_1678 : decode cL_law 1678 = .ok (.istore 6, 2) := dk_54 6 (dk_at dksL_law_67 14 rfl rfl)
theorem dL_law_1680 : decode cL_law 1680 = .ok (.aload_n 2, 1) := dk_44 (dk_at dksL_law_67 16 rfl rfl)
theorem dL_law_1681 : decode cL_law 1681 = .ok (.invokevirtual 211, 3) := dk_182 0 211 (dk_at dksL_law_67 17 rfl rfl)
theorem dL_law_1684 : decode cL_law 1684 = .ok (.dstore 7, 2) := dk_57 7 (dk_at dksL_law_67 20 rfl rfl)
theorem dL_law_1686 : decode cL_law 1686 = .ok (.aload_n 2, 1) := dk_44 (dk_at dksL_law_67 22 rfl rfl)
theorem dL_law_1687 : decode cL_law 1687 = .ok (.invokevirtual 123, 3) := dk_182 0 123 (dk_at dksL_law_68 0 rfl rfl)
theorem dL_law_1690 : decode cL_law 1690 = .ok (.iload 6, 2) := dk_21 6 (dk_at dksL_law_68 3 rfl rfl)
theorem dL_law_1692 : decode cL_law 1692 = .ok (.if_icmp .eq 5, 3) := dk_159 0 5 (dk_at dksL_law_68 5 rfl rfl)
theorem dL_law_1695 : decode cL_law 1695 = .ok (.iconst 0, 1) := dk_3 (dk_at dksL_law_68 8 rfl rfl)
theorem dL_law_1696 : decode cL_law 1696 = .ok (.ireturn, 1) := dk_172 (dk_at dksL_law_68 9 rfl rfl)
theorem dL_law_1697 : decode cL_law 1697 = .ok (.iload 6, 2) := dk_21 6 (dk_at dksL_law_68 10 rfl rfl)
theorem dL_law_1699 : decode cL_law 1699 = .ok (.ifCond .ne 35, 3) := dk_154 0 35 (dk_at dksL_law_68 12 rfl rfl)
theorem dL_law_1702 : decode cL_law 1702 = .ok (.aload 4, 2) := dk_25 4 (dk_at dksL_law_68 15 rfl rfl)
theorem dL_law_1704 : decode cL_law 1704 = .ok (.iconst 0, 1) := dk_3 (dk_at dksL_law_68 17 rfl rfl)
theorem dL_law_1705 : decode cL_law 1705 = .ok (.daload, 1) := dk_49 (dk_at dksL_law_68 18 rfl rfl)
theorem dL_law_1706 : decode cL_law 1706 = .ok (.dload 7, 2) := dk_24 7 (dk_at dksL_law_68 19 rfl rfl)
theorem dL_law_1708 : decode cL_law 1708 = .ok (.dcmp .l, 1) := dk_151 (dk_at dksL_law_68 21 rfl rfl)
theorem dL_law_1709 : decode cL_law 1709 = .ok (.ifCond .eq 25, 3) := dk_153 0 25 (dk_at dksL_law_69 0 rfl rfl)
theorem dL_law_1712 : decode cL_law 1712 = .ok (.aload 4, 2) := dk_25 4 (dk_at dksL_law_69 3 rfl rfl)
theorem dL_law_1714 : decode cL_law 1714 = .ok (.iconst 0, 1) := dk_3 (dk_at dksL_law_69 5 rfl rfl)
theorem dL_law_1715 : decode cL_law 1715 = .ok (.daload, 1) := dk_49 (dk_at dksL_law_69 6 rfl rfl)
theorem dL_law_1716 : decode cL_law 1716 = .ok (.aload 4, 2) := dk_25 4 (dk_at dksL_law_69 7 rfl rfl)
theorem dL_law_1718 : decode cL_law 1718 = .ok (.iconst 0, 1) := dk_3 (dk_at dksL_law_69 9 rfl rfl)
theorem dL_law_1719 : decode cL_law 1719 = .ok (.daload, 1) := dk_49 (dk_at dksL_law_69 10 rfl rfl)
theorem dL_law_1720 : decode cL_law 1720 = .ok (.dcmp .l, 1) := dk_151 (dk_at dksL_law_69 11 rfl rfl)
theorem dL_law_1721 : decode cL_law 1721 = .ok (.ifCond .eq 11, 3) := dk_153 0 11 (dk_at dksL_law_69 12 rfl rfl)
theorem dL_law_1724 : decode cL_law 1724 = .ok (.dload 7, 2) := dk_24 7 (dk_at dksL_law_69 15 rfl rfl)
theorem dL_law_1726 : decode cL_law 1726 = .ok (.dload 7, 2) := dk_24 7 (dk_at dksL_law_69 17 rfl rfl)
theorem dL_law_1728 : decode cL_law 1728 = .ok (.dcmp .l, 1) := dk_151 (dk_at dksL_law_69 19 rfl rfl)
theorem dL_law_1729 : decode cL_law 1729 = .ok (.ifCond .ne 5, 3) := dk_154 0 5 (dk_at dksL_law_69 20 rfl rfl)
theorem dL_law_1732 : decode cL_law 1732 = .ok (.iconst 0, 1) := dk_3 (dk_at dksL_law_69 23 rfl rfl)
theorem dL_law_1733 : decode cL_law 1733 = .ok (.ireturn, 1) := dk_172 (dk_at dksL_law_70 0 rfl rfl)
theorem dL_law_1734 : decode cL_law 1734 = .ok (.goto 170, 3) := dk_167 0 170 (dk_at dksL_law_70 1 rfl rfl)
theorem dL_law_1737 : decode cL_law 1737 = .ok (.aload_n 1, 1) := dk_43 (dk_at dksL_law_70 4 rfl rfl)
theorem dL_law_1738 : decode cL_law 1738 = .ok (.aload 4, 2) := dk_25 4 (dk_at dksL_law_70 5 rfl rfl)
theorem dL_law_1740 : decode cL_law 1740 = .ok (.invokestatic 212, 3) := dk_184 0 212 (dk_at dksL_law_70 7 rfl rfl)
theorem dL_law_1743 : decode cL_law 1743 = .ok (.istore 6, 2) := dk_54 6 (dk_at dksL_law_70 10 rfl rfl)
theorem dL_law_1745 : decode cL_law 1745 = .ok (.aload_n 2, 1) := dk_44 (dk_at dksL_law_70 12 rfl rfl)
theorem dL_law_1746 : decode cL_law 1746 = .ok (.invokevirtual 214, 3) := dk_182 0 214 (dk_at dksL_law_70 13 rfl rfl)
theorem dL_law_1749 : decode cL_law 1749 = .ok (.fstore 7, 2) := dk_56 7 (dk_at dksL_law_70 16 rfl rfl)
theorem dL_law_1751 : decode cL_law 1751 = .ok (.aload_n 2, 1) := dk_44 (dk_at dksL_law_70 18 rfl rfl)
theorem dL_law_1752 : decode cL_law 1752 = .ok (.invokevirtual 123, 3) := dk_182 0 123 (dk_at dksL_law_70 19 rfl rfl)
theorem dL_law_1755 : decode cL_law 1755 = .ok (.iload 6, 2) := dk_21 6 (dk_at dksL_law_70 22 rfl rfl)
theorem dL_law_1757 : decode cL_law 1757 = .ok (.if_icmp .eq 5, 3) := dk_159 0 5 (dk_at dksL_law_71 0 rfl rfl)
theorem dL_law_1760 : decode cL_law 1760 = .ok (.iconst 0, 1) := dk_3 (dk_at dksL_law_71 3 rfl rfl)
theorem dL_law_1761 : decode cL_law 1761 = .ok (.ireturn, 1) := dk_172 (dk_at dksL_law_71 4 rfl rfl)
theorem dL_law_1762 : decode cL_law 1762 = .ok (.iload 6, 2) := dk_21 6 (dk_at dksL_law_71 5 rfl rfl)
theorem dL_law_1764 : decode cL_law 1764 = .ok (.ifCond .ne 36, 3) := dk_154 0 36 (dk_at dksL_law_71 7 rfl rfl)
theorem dL_law_1767 : decode cL_law 1767 = .ok (.aload 4, 2) := dk_25 4 (dk_at dksL_law_71 10 rfl rfl)
theorem dL_law_1769 : decode cL_law 1769 = .ok (.iconst 0, 1) := dk_3 (dk_at dksL_law_71 12 rfl rfl)
theorem dL_law_1770 : decode cL_law 1770 = .ok (.daload, 1) := dk_49 (dk_at dksL_law_71 13 rfl rfl)
theorem dL_law_1771 : decode cL_law 1771 = .ok (.fload 7, 2) := dk_23 7 (dk_at dksL_law_71 14 rfl rfl)
theorem dL_law_1773 : decode cL_law 1773 = .ok (.f2d, 1) := dk_141 (dk_at dksL_law_71 16 rfl rfl)
theorem dL_law_1774 : decode cL_law 1774 = .ok (.dcmp .l, 1) := dk_151 (dk_at dksL_law_71 17 rfl rfl)
theorem dL_law_1775 : decode cL_law 1775 = .ok (.ifCond .eq 25, 3) := dk_153 0 25 (dk_at dksL_law_71 18 rfl rfl)
theorem dL_law_1778 : decode cL_law 1778 = .ok (.aload 4, 2) := dk_25 4 (dk_at dksL_law_71 21 rfl rfl)
theorem dL_law_1780 : decode cL_law 1780 = .ok (.iconst 0, 1) := dk_3 (dk_at dksL_law_71 23 rfl rfl)
theorem dL_law_1781 : decode cL_law 1781 = .ok (.daload, 1) := dk_49 (dk_at dksL_law_72 0 rfl rfl)
theorem dL_law_1782 : decode cL_law 1782 = .ok (.aload 4, 2) := dk_25 4 (dk_at dksL_law_72 1 rfl rfl)
theorem dL_law_1784 : decode cL_law 1784 = .ok (.iconst 0, 1) := dk_3 (dk_at dksL_law_72 3 rfl rfl)
theorem dL_law_1785 : decode cL_law 1785 = .ok (.daload, 1) := dk_49 (dk_at dksL_law_72 4 rfl rfl)
theorem dL_law_1786 : decode cL_law 1786 = .ok (.dcmp .l, 1) := dk_151 (dk_at dksL_law_72 5 rfl rfl)
theorem dL_law_1787 : decode cL_law 1787 = .ok (.ifCond .eq 11, 3) := dk_153 0 11 (dk_at dksL_law_72 6 rfl rfl)
theorem dL_law_1790 : decode cL_law 1790 = .ok (.fload 7, 2) := dk_23 7 (dk_at dksL_law_72 9 rfl rfl)
theorem dL_law_1792 : decode cL_law 1792 = .ok (.fload 7, 2) := dk_23 7 (dk_at dksL_law_72 11 rfl rfl)
theorem dL_law_1794 : decode cL_law 1794 = .ok (.fcmp .l, 1) := dk_149 (dk_at dksL_law_72 13 rfl rfl)
theorem dL_law_1795 : decode cL_law 1795 = .ok (.ifCond .ne 5, 3) := dk_154 0 5 (dk_at dksL_law_72 14 rfl rfl)
theorem dL_law_1798 : decode cL_law 1798 = .ok (.iconst 0, 1) := dk_3 (dk_at dksL_law_72 17 rfl rfl)
theorem dL_law_1799 : decode cL_law 1799 = .ok (.ireturn, 1) := dk_172 (dk_at dksL_law_72 18 rfl rfl)
theorem dL_law_1800 : decode cL_law 1800 = .ok (.goto 104, 3) := dk_167 0 104 (dk_at dksL_law_72 19 rfl rfl)
theorem dL_law_1803 : decode cL_law 1803 = .ok (.aload_n 1, 1) := dk_43 (dk_at dksL_law_72 22 rfl rfl)
theorem dL_law_1804 : decode cL_law 1804 = .ok (.aload_n 3, 1) := dk_45 (dk_at dksL_law_72 23 rfl rfl)
theorem dL_law_1805 : decode cL_law 1805 = .ok (.invokestatic 215, 3) := dk_184 0 215 (dk_at dksL_law_73 0 rfl rfl)
theorem dL_law_1808 : decode cL_law 1808 = .ok (.istore 6, 2) := dk_54 6 (dk_at dksL_law_73 3 rfl rfl)
theorem dL_law_1810 : decode cL_law 1810 = .ok (.aload_n 2, 1) := dk_44 (dk_at dksL_law_73 5 rfl rfl)
theorem dL_law_1811 : decode cL_law 1811 = .ok (.invokevirtual 217, 3) := dk_182 0 217 (dk_at dksL_law_73 6 rfl rfl)
theorem dL_law_1814 : decode cL_law 1814 = .ok (.istore 7, 2) := dk_54 7 (dk_at dksL_law_73 9 rfl rfl)
theorem dL_law_1816 : decode cL_law 1816 = .ok (.aload_n 2, 1) := dk_44 (dk_at dksL_law_73 11 rfl rfl)
theorem dL_law_1817 : decode cL_law 1817 = .ok (.invokevirtual 123, 3) := dk_182 0 123 (dk_at dksL_law_73 12 rfl rfl)
theorem dL_law_1820 : decode cL_law 1820 = .ok (.iload 6, 2) := dk_21 6 (dk_at dksL_law_73 15 rfl rfl)
theorem dL_law_1822 : decode cL_law 1822 = .ok (.if_icmp .eq 5, 3) := dk_159 0 5 (dk_at dksL_law_73 17 rfl rfl)
theorem dL_law_1825 : decode cL_law 1825 = .ok (.iconst 0, 1) := dk_3 (dk_at dksL_law_73 20 rfl rfl)
theorem dL_law_1826 : decode cL_law 1826 = .ok (.ireturn, 1) := dk_172 (dk_at dksL_law_73 21 rfl rfl)
theorem dL_law_1827 : decode cL_law 1827 = .ok (.iload 6, 2) := dk_21 6 (dk_at dksL_law_73 22 rfl rfl)
theorem dL_law_1829 : decode cL_law 1829 = .ok (.ifCond .ne 15, 3) := dk_154 0 15 (dk_at dksL_law_74 0 rfl rfl)
theorem dL_law_1832 : decode cL_law 1832 = .ok (.aload_n 3, 1) := dk_45 (dk_at dksL_law_74 3 rfl rfl)
theorem dL_law_1833 : decode cL_law 1833 = .ok (.iconst 0, 1) := dk_3 (dk_at dksL_law_74 4 rfl rfl)
theorem dL_law_1834 : decode cL_law 1834 = .ok (.laload, 1) := dk_47 (dk_at dksL_law_74 5 rfl rfl)
theorem dL_law_1835 : decode cL_law 1835 = .ok (.iload 7, 2) := dk_21 7 (dk_at dksL_law_74 6 rfl rfl)
theorem dL_law_1837 : decode cL_law 1837 = .ok (.i2l, 1) := dk_133 (dk_at dksL_law_74 8 rfl rfl)
theorem dL_law_1838 : decode cL_law 1838 = .ok (.lcmp, 1) := dk_148 (dk_at dksL_law_74 9 rfl rfl)
theorem dL_law_1839 : decode cL_law 1839 = .ok (.ifCond .eq 5, 3) := dk_153 0 5 (dk_at dksL_law_74 10 rfl rfl)
theorem dL_law_1842 : decode cL_law 1842 = .ok (.iconst 0, 1) := dk_3 (dk_at dksL_law_74 13 rfl rfl)
theorem dL_law_1843 : decode cL_law 1843 = .ok (.ireturn, 1) := dk_172 (dk_at dksL_law_74 14 rfl rfl)
theorem dL_law_1844 : decode cL_law 1844 = .ok (.goto 60, 3) := dk_167 0 60 (dk_at dksL_law_74 15 rfl rfl)
theorem dL_law_1847 : decode cL_law 1847 = .ok (.aload_n 1, 1) := dk_43 (dk_at dksL_law_74 18 rfl rfl)
theorem dL_law_1848 : decode cL_law 1848 = .ok (.invokevirtual 218, 3) := dk_182 0 218 (dk_at dksL_law_74 19 rfl rfl)
theorem dL_law_1851 : decode cL_law 1851 = .ok (.aload_n 2, 1) := dk_44 (dk_at dksL_law_74 22 rfl rfl)
theorem dL_law_1852 : decode cL_law 1852 = .ok (.invokevirtual 221, 3) := dk_182 0 221 (dk_at dksL_law_75 0 rfl rfl)
theorem dL_law_1855 : decode cL_law 1855 = .ok (.if_icmp .eq 49, 3) := dk_159 0 49 (dk_at dksL_law_75 3 rfl rfl)
theorem dL_law_1858 : decode cL_law 1858 = .ok (.iconst 0, 1) := dk_3 (dk_at dksL_law_75 6 rfl rfl)
theorem dL_law_1859 : decode cL_law 1859 = .ok (.ireturn, 1) := dk_172 (dk_at dksL_law_75 7 rfl rfl)
theorem dL_law_1860 : decode cL_law 1860 = .ok (.aload_n 1, 1) := dk_43 (dk_at dksL_law_75 8 rfl rfl)
theorem dL_law_1861 : decode cL_law 1861 = .ok (.aload_n 3, 1) := dk_45 (dk_at dksL_law_75 9 rfl rfl)
theorem dL_law_1862 : decode cL_law 1862 = .ok (.invokestatic 222, 3) := dk_184 0 222 (dk_at dksL_law_75 10 rfl rfl)
theorem dL_law_1865 : decode cL_law 1865 = .ok (.istore 6, 2) := dk_54 6 (dk_at dksL_law_75 13 rfl rfl)
theorem dL_law_1867 : decode cL_law 1867 = .ok (.aload_n 2, 1) := dk_44 (dk_at dksL_law_75 15 rfl rfl)
theorem dL_law_1868 : decode cL_law 1868 = .ok (.invokevirtual 224, 3) := dk_182 0 224 (dk_at dksL_law_75 16 rfl rfl)
theorem dL_law_1871 : decode cL_law 1871 = .ok (.istore 7, 2) := dk_54 7 (dk_at dksL_law_75 19 rfl rfl)
theorem dL_law_1873 : decode cL_law 1873 = .ok (.aload_n 2, 1) := dk_44 (dk_at dksL_law_75 21 rfl rfl)
theorem dL_law_1874 : decode cL_law 1874 = .ok (.invokevirtual 123, 3) := dk_182 0 123 (dk_at dksL_law_76 0 rfl rfl)
theorem dL_law_1877 : decode cL_law 1877 = .ok (.iload 6, 2) := dk_21 6 (dk_at dksL_law_76 3 rfl rfl)
theorem dL_law_1879 : decode cL_law 1879 = .ok (.if_icmp .eq 5, 3) := dk_159 0 5 (dk_at dksL_law_76 5 rfl rfl)
theorem dL_law_1882 : decode cL_law 1882 = .ok (.iconst 0, 1) := dk_3 (dk_at dksL_law_76 8 rfl rfl)
theorem dL_law_1883 : decode cL_law 1883 = .ok (.ireturn, 1) := dk_172 (dk_at dksL_law_76 9 rfl rfl)
theorem dL_law_1884 : decode cL_law 1884 = .ok (.iload 6, 2) := dk_21 6 (dk_at dksL_law_76 10 rfl rfl)
theorem dL_law_1886 : decode cL_law 1886 = .ok (.ifCond .ne 15, 3) := dk_154 0 15 (dk_at dksL_law_76 12 rfl rfl)
theorem dL_law_1889 : decode cL_law 1889 = .ok (.aload_n 3, 1) := dk_45 (dk_at dksL_law_76 15 rfl rfl)
theorem dL_law_1890 : decode cL_law 1890 = .ok (.iconst 0, 1) := dk_3 (dk_at dksL_law_76 16 rfl rfl)
theorem dL_law_1891 : decode cL_law 1891 = .ok (.laload, 1) := dk_47 (dk_at dksL_law_76 17 rfl rfl)
theorem dL_law_1892 : decode cL_law 1892 = .ok (.iload 7, 2) := dk_21 7 (dk_at dksL_law_76 18 rfl rfl)
theorem dL_law_1894 : decode cL_law 1894 = .ok (.i2l, 1) := dk_133 (dk_at dksL_law_76 20 rfl rfl)
theorem dL_law_1895 : decode cL_law 1895 = .ok (.lcmp, 1) := dk_148 (dk_at dksL_law_76 21 rfl rfl)
theorem dL_law_1896 : decode cL_law 1896 = .ok (.ifCond .eq 5, 3) := dk_153 0 5 (dk_at dksL_law_77 0 rfl rfl)
theorem dL_law_1899 : decode cL_law 1899 = .ok (.iconst 0, 1) := dk_3 (dk_at dksL_law_77 3 rfl rfl)
theorem dL_law_1900 : decode cL_law 1900 = .ok (.ireturn, 1) := dk_172 (dk_at dksL_law_77 4 rfl rfl)
theorem dL_law_1901 : decode cL_law 1901 = .ok (.goto 3, 3) := dk_167 0 3 (dk_at dksL_law_77 5 rfl rfl)
theorem dL_law_1904 : decode cL_law 1904 = .ok (.iinc 5 5, 3) := dk_132 5 5 (dk_at dksL_law_77 8 rfl rfl)
theorem dL_law_1907 : decode cL_law 1907 = .ok (.goto (-1879), 3) := dk_167 248 169 (dk_at dksL_law_77 11 rfl rfl)
theorem dL_law_1910 : decode cL_law 1910 = .ok (.iconst 1, 1) := dk_4 (dk_at dksL_law_77 14 rfl rfl)
theorem dL_law_1911 : decode cL_law 1911 = .ok (.ireturn, 1) := dk_172 (dk_at dksL_law_77 15 rfl rfl)
