/-! MaltDrumsLaw -/
set_option maxRecDepth 100000
def RX0 : String := "MaltDrumsLaw"
abbrev cX0_add : ByteArray := method_3_code
def yX0_add : MethodName := ⟨RX0, "add", "(LMaltDrums;I[J)I"⟩
def dkwX0_add_0 : List UInt8 := [44, 3, 42, 27, 182, 0, 7, 133, 80, 167, 0, 9, 78, 4, 172, 78, 5, 172, 3, 172]
abbrev dktX0_add_0 : List UInt8 := dkwX0_add_0 ++ []
theorem dksX0_add_0 : cX0_add.data.toList.drop 0 = dktX0_add_0 := by decide +kernel
theorem dX0_add_0 : decode cX0_add 0 = .ok (.aload_n 2, 1) := dk_44 (dk_at dksX0_add_0 0 rfl rfl)
theorem dX0_add_1 : decode cX0_add 1 = .ok (.iconst 0, 1) := dk_3 (dk_at dksX0_add_0 1 rfl rfl)
theorem dX0_add_2 : decode cX0_add 2 = .ok (.aload_n 0, 1) := dk_42 (dk_at dksX0_add_0 2 rfl rfl)
theorem dX0_add_3 : decode cX0_add 3 = .ok (.iload_n 1, 1) := dk_27 (dk_at dksX0_add_0 3 rfl rfl)
theorem dX0_add_4 : decode cX0_add 4 = .ok (.invokevirtual 7, 3) := dk_182 0 7 (dk_at dksX0_add_0 4 rfl rfl)
theorem dX0_add_7 : decode cX0_add 7 = .ok (.i2l, 1) := dk_133 (dk_at dksX0_add_0 7 rfl rfl)
theorem dX0_add_8 : decode cX0_add 8 = .ok (.lastore, 1) := dk_80 (dk_at dksX0_add_0 8 rfl rfl)
theorem dX0_add_9 : decode cX0_add 9 = .ok (.goto 9, 3) := dk_167 0 9 (dk_at dksX0_add_0 9 rfl rfl)
theorem dX0_add_12 : decode cX0_add 12 = .ok (.astore_n 3, 1) := dk_78 (dk_at dksX0_add_0 12 rfl rfl)
theorem dX0_add_13 : decode cX0_add 13 = .ok (.iconst 1, 1) := dk_4 (dk_at dksX0_add_0 13 rfl rfl)
theorem dX0_add_14 : decode cX0_add 14 = .ok (.ireturn, 1) := dk_172 (dk_at dksX0_add_0 14 rfl rfl)
theorem dX0_add_15 : decode cX0_add 15 = .ok (.astore_n 3, 1) := dk_78 (dk_at dksX0_add_0 15 rfl rfl)
theorem dX0_add_16 : decode cX0_add 16 = .ok (.iconst 2, 1) := dk_5 (dk_at dksX0_add_0 16 rfl rfl)
theorem dX0_add_17 : decode cX0_add 17 = .ok (.ireturn, 1) := dk_172 (dk_at dksX0_add_0 17 rfl rfl)
theorem dX0_add_18 : decode cX0_add 18 = .ok (.iconst 0, 1) := dk_3 (dk_at dksX0_add_0 18 rfl rfl)
theorem dX0_add_19 : decode cX0_add 19 = .ok (.ireturn, 1) := dk_172 (dk_at dksX0_add_0 19 rfl rfl)
abbrev cX0_steep : ByteArray := method_4_code
def yX0_steep : MethodName := ⟨RX0, "steep", "(LMaltDrums;I[J)I"⟩
def dkwX0_steep_0 : List UInt8 := [44, 3, 42, 27, 182, 0, 17, 133, 80, 167, 0, 9, 78, 4, 172, 78, 5, 172, 3, 172]
abbrev dktX0_steep_0 : List UInt8 := dkwX0_steep_0 ++ []
theorem dksX0_steep_0 : cX0_steep.data.toList.drop 0 = dktX0_steep_0 := by decide +kernel
theorem dX0_steep_0 : decode cX0_steep 0 = .ok (.aload_n 2, 1) := dk_44 (dk_at dksX0_steep_0 0 rfl rfl)
theorem dX0_steep_1 : decode cX0_steep 1 = .ok (.iconst 0, 1) := dk_3 (dk_at dksX0_steep_0 1 rfl rfl)
theorem dX0_steep_2 : decode cX0_steep 2 = .ok (.aload_n 0, 1) := dk_42 (dk_at dksX0_steep_0 2 rfl rfl)
theorem dX0_steep_3 : decode cX0_steep 3 = .ok (.iload_n 1, 1) := dk_27 (dk_at dksX0_steep_0 3 rfl rfl)
theorem dX0_steep_4 : decode cX0_steep 4 = .ok (.invokevirtual 17, 3) := dk_182 0 17 (dk_at dksX0_steep_0 4 rfl rfl)
theorem dX0_steep_7 : decode cX0_steep 7 = .ok (.i2l, 1) := dk_133 (dk_at dksX0_steep_0 7 rfl rfl)
theorem dX0_steep_8 : decode cX0_steep 8 = .ok (.lastore, 1) := dk_80 (dk_at dksX0_steep_0 8 rfl rfl)
theorem dX0_steep_9 : decode cX0_steep 9 = .ok (.goto 9, 3) := dk_167 0 9 (dk_at dksX0_steep_0 9 rfl rfl)
theorem dX0_steep_12 : decode cX0_steep 12 = .ok (.astore_n 3, 1) := dk_78 (dk_at dksX0_steep_0 12 rfl rfl)
theorem dX0_steep_13 : decode cX0_steep 13 = .ok (.iconst 1, 1) := dk_4 (dk_at dksX0_steep_0 13 rfl rfl)
theorem dX0_steep_14 : decode cX0_steep 14 = .ok (.ireturn, 1) := dk_172 (dk_at dksX0_steep_0 14 rfl rfl)
theorem dX0_steep_15 : decode cX0_steep 15 = .ok (.astore_n 3, 1) := dk_78 (dk_at dksX0_steep_0 15 rfl rfl)
theorem dX0_steep_16 : decode cX0_steep 16 = .ok (.iconst 2, 1) := dk_5 (dk_at dksX0_steep_0 16 rfl rfl)
theorem dX0_steep_17 : decode cX0_steep 17 = .ok (.ireturn, 1) := dk_172 (dk_at dksX0_steep_0 17 rfl rfl)
theorem dX0_steep_18 : decode cX0_steep 18 = .ok (.iconst 0, 1) := dk_3 (dk_at dksX0_steep_0 18 rfl rfl)
theorem dX0_steep_19 : decode cX0_steep 19 = .ok (.ireturn, 1) := dk_172 (dk_at dksX0_steep_0 19 rfl rfl)
abbrev cX0_toDrum : ByteArray := method_5_code
def yX0_toDrum : MethodName := ⟨RX0, "toDrum", "(LMaltDrums;II[J)I"⟩
def dkwX0_toDrum_0 : List UInt8 := [45, 3, 42, 27, 28, 182, 0, 22, 133, 80, 167, 0, 11, 58, 4, 4, 172, 58, 4, 5, 172, 3, 172]
abbrev dktX0_toDrum_0 : List UInt8 := dkwX0_toDrum_0 ++ []
theorem dksX0_toDrum_0 : cX0_toDrum.data.toList.drop 0 = dktX0_toDrum_0 := by decide +kernel
theorem dX0_toDrum_0 : decode cX0_toDrum 0 = .ok (.aload_n 3, 1) := dk_45 (dk_at dksX0_toDrum_0 0 rfl rfl)
theorem dX0_toDrum_1 : decode cX0_toDrum 1 = .ok (.iconst 0, 1) := dk_3 (dk_at dksX0_toDrum_0 1 rfl rfl)
theorem dX0_toDrum_2 : decode cX0_toDrum 2 = .ok (.aload_n 0, 1) := dk_42 (dk_at dksX0_toDrum_0 2 rfl rfl)
theorem dX0_toDrum_3 : decode cX0_toDrum 3 = .ok (.iload_n 1, 1) := dk_27 (dk_at dksX0_toDrum_0 3 rfl rfl)
theorem dX0_toDrum_4 : decode cX0_toDrum 4 = .ok (.iload_n 2, 1) := dk_28 (dk_at dksX0_toDrum_0 4 rfl rfl)
theorem dX0_toDrum_5 : decode cX0_toDrum 5 = .ok (.invokevirtual 22, 3) := dk_182 0 22 (dk_at dksX0_toDrum_0 5 rfl rfl)
theorem dX0_toDrum_8 : decode cX0_toDrum 8 = .ok (.i2l, 1) := dk_133 (dk_at dksX0_toDrum_0 8 rfl rfl)
theorem dX0_toDrum_9 : decode cX0_toDrum 9 = .ok (.lastore, 1) := dk_80 (dk_at dksX0_toDrum_0 9 rfl rfl)
theorem dX0_toDrum_10 : decode cX0_toDrum 10 = .ok (.goto 11, 3) := dk_167 0 11 (dk_at dksX0_toDrum_0 10 rfl rfl)
theorem dX0_toDrum_13 : decode cX0_toDrum 13 = .ok (.astore 4, 2) := dk_58 4 (dk_at dksX0_toDrum_0 13 rfl rfl)
theorem dX0_toDrum_15 : decode cX0_toDrum 15 = .ok (.iconst 1, 1) := dk_4 (dk_at dksX0_toDrum_0 15 rfl rfl)
theorem dX0_toDrum_16 : decode cX0_toDrum 16 = .ok (.ireturn, 1) := dk_172 (dk_at dksX0_toDrum_0 16 rfl rfl)
theorem dX0_toDrum_17 : decode cX0_toDrum 17 = .ok (.astore 4, 2) := dk_58 4 (dk_at dksX0_toDrum_0 17 rfl rfl)
theorem dX0_toDrum_19 : decode cX0_toDrum 19 = .ok (.iconst 2, 1) := dk_5 (dk_at dksX0_toDrum_0 19 rfl rfl)
theorem dX0_toDrum_20 : decode cX0_toDrum 20 = .ok (.ireturn, 1) := dk_172 (dk_at dksX0_toDrum_0 20 rfl rfl)
theorem dX0_toDrum_21 : decode cX0_toDrum 21 = .ok (.iconst 0, 1) := dk_3 (dk_at dksX0_toDrum_0 21 rfl rfl)
theorem dX0_toDrum_22 : decode cX0_toDrum 22 = .ok (.ireturn, 1) := dk_172 (dk_at dksX0_toDrum_0 22 rfl rfl)
abbrev cX0_toHeap : ByteArray := method_6_code
def yX0_toHeap : MethodName := ⟨RX0, "toHeap", "(LMaltDrums;I[J)I"⟩
def dkwX0_toHeap_0 : List UInt8 := [44, 3, 42, 27, 182, 0, 26, 133, 80, 167, 0, 9, 78, 4, 172, 78, 5, 172, 3, 172]
abbrev dktX0_toHeap_0 : List UInt8 := dkwX0_toHeap_0 ++ []
theorem dksX0_toHeap_0 : cX0_toHeap.data.toList.drop 0 = dktX0_toHeap_0 := by decide +kernel
theorem dX0_toHeap_0 : decode cX0_toHeap 0 = .ok (.aload_n 2, 1) := dk_44 (dk_at dksX0_toHeap_0 0 rfl rfl)
theorem dX0_toHeap_1 : decode cX0_toHeap 1 = .ok (.iconst 0, 1) := dk_3 (dk_at dksX0_toHeap_0 1 rfl rfl)
theorem dX0_toHeap_2 : decode cX0_toHeap 2 = .ok (.aload_n 0, 1) := dk_42 (dk_at dksX0_toHeap_0 2 rfl rfl)
theorem dX0_toHeap_3 : decode cX0_toHeap 3 = .ok (.iload_n 1, 1) := dk_27 (dk_at dksX0_toHeap_0 3 rfl rfl)
theorem dX0_toHeap_4 : decode cX0_toHeap 4 = .ok (.invokevirtual 26, 3) := dk_182 0 26 (dk_at dksX0_toHeap_0 4 rfl rfl)
theorem dX0_toHeap_7 : decode cX0_toHeap 7 = .ok (.i2l, 1) := dk_133 (dk_at dksX0_toHeap_0 7 rfl rfl)
theorem dX0_toHeap_8 : decode cX0_toHeap 8 = .ok (.lastore, 1) := dk_80 (dk_at dksX0_toHeap_0 8 rfl rfl)
theorem dX0_toHeap_9 : decode cX0_toHeap 9 = .ok (.goto 9, 3) := dk_167 0 9 (dk_at dksX0_toHeap_0 9 rfl rfl)
theorem dX0_toHeap_12 : decode cX0_toHeap 12 = .ok (.astore_n 3, 1) := dk_78 (dk_at dksX0_toHeap_0 12 rfl rfl)
theorem dX0_toHeap_13 : decode cX0_toHeap 13 = .ok (.iconst 1, 1) := dk_4 (dk_at dksX0_toHeap_0 13 rfl rfl)
theorem dX0_toHeap_14 : decode cX0_toHeap 14 = .ok (.ireturn, 1) := dk_172 (dk_at dksX0_toHeap_0 14 rfl rfl)
theorem dX0_toHeap_15 : decode cX0_toHeap 15 = .ok (.astore_n 3, 1) := dk_78 (dk_at dksX0_toHeap_0 15 rfl rfl)
theorem dX0_toHeap_16 : decode cX0_toHeap 16 = .ok (.iconst 2, 1) := dk_5 (dk_at dksX0_toHeap_0 16 rfl rfl)
theorem dX0_toHeap_17 : decode cX0_toHeap 17 = .ok (.ireturn, 1) := dk_172 (dk_at dksX0_toHeap_0 17 rfl rfl)
theorem dX0_toHeap_18 : decode cX0_toHeap 18 = .ok (.iconst 0, 1) := dk_3 (dk_at dksX0_toHeap_0 18 rfl rfl)
theorem dX0_toHeap_19 : decode cX0_toHeap 19 = .ok (.ireturn, 1) := dk_172 (dk_at dksX0_toHeap_0 19 rfl rfl)
abbrev cX0_load : ByteArray := method_7_code
def yX0_load : MethodName := ⟨RX0, "load", "(LMaltDrums;I[J)I"⟩
def dkwX0_load_0 : List UInt8 := [44, 3, 42, 27, 182, 0, 29, 133, 80, 167, 0, 9, 78, 4, 172, 78, 5, 172, 3, 172]
abbrev dktX0_load_0 : List UInt8 := dkwX0_load_0 ++ []
theorem dksX0_load_0 : cX0_load.data.toList.drop 0 = dktX0_load_0 := by decide +kernel
theorem dX0_load_0 : decode cX0_load 0 = .ok (.aload_n 2, 1) := dk_44 (dk_at dksX0_load_0 0 rfl rfl)
theorem dX0_load_1 : decode cX0_load 1 = .ok (.iconst 0, 1) := dk_3 (dk_at dksX0_load_0 1 rfl rfl)
theorem dX0_load_2 : decode cX0_load 2 = .ok (.aload_n 0, 1) := dk_42 (dk_at dksX0_load_0 2 rfl rfl)
theorem dX0_load_3 : decode cX0_load 3 = .ok (.iload_n 1, 1) := dk_27 (dk_at dksX0_load_0 3 rfl rfl)
theorem dX0_load_4 : decode cX0_load 4 = .ok (.invokevirtual 29, 3) := dk_182 0 29 (dk_at dksX0_load_0 4 rfl rfl)
theorem dX0_load_7 : decode cX0_load 7 = .ok (.i2l, 1) := dk_133 (dk_at dksX0_load_0 7 rfl rfl)
theorem dX0_load_8 : decode cX0_load 8 = .ok (.lastore, 1) := dk_80 (dk_at dksX0_load_0 8 rfl rfl)
theorem dX0_load_9 : decode cX0_load 9 = .ok (.goto 9, 3) := dk_167 0 9 (dk_at dksX0_load_0 9 rfl rfl)
theorem dX0_load_12 : decode cX0_load 12 = .ok (.astore_n 3, 1) := dk_78 (dk_at dksX0_load_0 12 rfl rfl)
theorem dX0_load_13 : decode cX0_load 13 = .ok (.iconst 1, 1) := dk_4 (dk_at dksX0_load_0 13 rfl rfl)
theorem dX0_load_14 : decode cX0_load 14 = .ok (.ireturn, 1) := dk_172 (dk_at dksX0_load_0 14 rfl rfl)
theorem dX0_load_15 : decode cX0_load 15 = .ok (.astore_n 3, 1) := dk_78 (dk_at dksX0_load_0 15 rfl rfl)
theorem dX0_load_16 : decode cX0_load 16 = .ok (.iconst 2, 1) := dk_5 (dk_at dksX0_load_0 16 rfl rfl)
theorem dX0_load_17 : decode cX0_load 17 = .ok (.ireturn, 1) := dk_172 (dk_at dksX0_load_0 17 rfl rfl)
theorem dX0_load_18 : decode cX0_load 18 = .ok (.iconst 0, 1) := dk_3 (dk_at dksX0_load_0 18 rfl rfl)
theorem dX0_load_19 : decode cX0_load 19 = .ok (.ireturn, 1) := dk_172 (dk_at dksX0_load_0 19 rfl rfl)
abbrev cX0_light : ByteArray := method_8_code
def yX0_light : MethodName := ⟨RX0, "light", "(LMaltDrums;[J)I"⟩
def dkwX0_light_0 : List UInt8 := [43, 3, 42, 182, 0, 32, 133, 80, 167, 0, 6, 77, 4, 172, 3, 172]
abbrev dktX0_light_0 : List UInt8 := dkwX0_light_0 ++ []
theorem dksX0_light_0 : cX0_light.data.toList.drop 0 = dktX0_light_0 := by decide +kernel
theorem dX0_light_0 : decode cX0_light 0 = .ok (.aload_n 1, 1) := dk_43 (dk_at dksX0_light_0 0 rfl rfl)
theorem dX0_light_1 : decode cX0_light 1 = .ok (.iconst 0, 1) := dk_3 (dk_at dksX0_light_0 1 rfl rfl)
theorem dX0_light_2 : decode cX0_light 2 = .ok (.aload_n 0, 1) := dk_42 (dk_at dksX0_light_0 2 rfl rfl)
theorem dX0_light_3 : decode cX0_light 3 = .ok (.invokevirtual 32, 3) := dk_182 0 32 (dk_at dksX0_light_0 3 rfl rfl)
theorem dX0_light_6 : decode cX0_light 6 = .ok (.i2l, 1) := dk_133 (dk_at dksX0_light_0 6 rfl rfl)
theorem dX0_light_7 : decode cX0_light 7 = .ok (.lastore, 1) := dk_80 (dk_at dksX0_light_0 7 rfl rfl)
theorem dX0_light_8 : decode cX0_light 8 = .ok (.goto 6, 3) := dk_167 0 6 (dk_at dksX0_light_0 8 rfl rfl)
theorem dX0_light_11 : decode cX0_light 11 = .ok (.astore_n 2, 1) := dk_77 (dk_at dksX0_light_0 11 rfl rfl)
theorem dX0_light_12 : decode cX0_light 12 = .ok (.iconst 1, 1) := dk_4 (dk_at dksX0_light_0 12 rfl rfl)
theorem dX0_light_13 : decode cX0_light 13 = .ok (.ireturn, 1) := dk_172 (dk_at dksX0_light_0 13 rfl rfl)
theorem dX0_light_14 : decode cX0_light 14 = .ok (.iconst 0, 1) := dk_3 (dk_at dksX0_light_0 14 rfl rfl)
theorem dX0_light_15 : decode cX0_light 15 = .ok (.ireturn, 1) := dk_172 (dk_at dksX0_light_0 15 rfl rfl)
abbrev cX0_spray : ByteArray := method_9_code
def yX0_spray : MethodName := ⟨RX0, "spray", "(LMaltDrums;I[J)I"⟩
def dkwX0_spray_0 : List UInt8 := [44, 3, 42, 27, 182, 0, 36, 133, 80, 167, 0, 9, 78, 4, 172, 78, 5, 172, 3, 172]
abbrev dktX0_spray_0 : List UInt8 := dkwX0_spray_0 ++ []
theorem dksX0_spray_0 : cX0_spray.data.toList.drop 0 = dktX0_spray_0 := by decide +kernel
theorem dX0_spray_0 : decode cX0_spray 0 = .ok (.aload_n 2, 1) := dk_44 (dk_at dksX0_spray_0 0 rfl rfl)
theorem dX0_spray_1 : decode cX0_spray 1 = .ok (.iconst 0, 1) := dk_3 (dk_at dksX0_spray_0 1 rfl rfl)
theorem dX0_spray_2 : decode cX0_spray 2 = .ok (.aload_n 0, 1) := dk_42 (dk_at dksX0_spray_0 2 rfl rfl)
theorem dX0_spray_3 : decode cX0_spray 3 = .ok (.iload_n 1, 1) := dk_27 (dk_at dksX0_spray_0 3 rfl rfl)
theorem dX0_spray_4 : decode cX0_spray 4 = .ok (.invokevirtual 36, 3) := dk_182 0 36 (dk_at dksX0_spray_0 4 rfl rfl)
theorem dX0_spray_7 : decode cX0_spray 7 = .ok (.i2l, 1) := dk_133 (dk_at dksX0_spray_0 7 rfl rfl)
theorem dX0_spray_8 : decode cX0_spray 8 = .ok (.lastore, 1) := dk_80 (dk_at dksX0_spray_0 8 rfl rfl)
theorem dX0_spray_9 : decode cX0_spray 9 = .ok (.goto 9, 3) := dk_167 0 9 (dk_at dksX0_spray_0 9 rfl rfl)
theorem dX0_spray_12 : decode cX0_spray 12 = .ok (.astore_n 3, 1) := dk_78 (dk_at dksX0_spray_0 12 rfl rfl)
theorem dX0_spray_13 : decode cX0_spray 13 = .ok (.iconst 1, 1) := dk_4 (dk_at dksX0_spray_0 13 rfl rfl)
theorem dX0_spray_14 : decode cX0_spray 14 = .ok (.ireturn, 1) := dk_172 (dk_at dksX0_spray_0 14 rfl rfl)
theorem dX0_spray_15 : decode cX0_spray 15 = .ok (.astore_n 3, 1) := dk_78 (dk_at dksX0_spray_0 15 rfl rfl)
theorem dX0_spray_16 : decode cX0_spray 16 = .ok (.iconst 2, 1) := dk_5 (dk_at dksX0_spray_0 16 rfl rfl)
theorem dX0_spray_17 : decode cX0_spray 17 = .ok (.ireturn, 1) := dk_172 (dk_at dksX0_spray_0 17 rfl rfl)
theorem dX0_spray_18 : decode cX0_spray 18 = .ok (.iconst 0, 1) := dk_3 (dk_at dksX0_spray_0 18 rfl rfl)
theorem dX0_spray_19 : decode cX0_spray 19 = .ok (.ireturn, 1) := dk_172 (dk_at dksX0_spray_0 19 rfl rfl)
abbrev cX0_setAir : ByteArray := method_10_code
def yX0_setAir : MethodName := ⟨RX0, "setAir", "(LMaltDrums;II[J)I"⟩
def dkwX0_setAir_0 : List UInt8 := [45, 3, 42, 27, 28, 182, 0, 39, 133, 80, 167, 0, 11, 58, 4, 4, 172, 58, 4, 5, 172, 3, 172]
abbrev dktX0_setAir_0 : List UInt8 := dkwX0_setAir_0 ++ []
theorem dksX0_setAir_0 : cX0_setAir.data.toList.drop 0 = dktX0_setAir_0 := by decide +kernel
theorem dX0_setAir_0 : decode cX0_setAir 0 = .ok (.aload_n 3, 1) := dk_45 (dk_at dksX0_setAir_0 0 rfl rfl)
theorem dX0_setAir_1 : decode cX0_setAir 1 = .ok (.iconst 0, 1) := dk_3 (dk_at dksX0_setAir_0 1 rfl rfl)
theorem dX0_setAir_2 : decode cX0_setAir 2 = .ok (.aload_n 0, 1) := dk_42 (dk_at dksX0_setAir_0 2 rfl rfl)
theorem dX0_setAir_3 : decode cX0_setAir 3 = .ok (.iload_n 1, 1) := dk_27 (dk_at dksX0_setAir_0 3 rfl rfl)
theorem dX0_setAir_4 : decode cX0_setAir 4 = .ok (.iload_n 2, 1) := dk_28 (dk_at dksX0_setAir_0 4 rfl rfl)
theorem dX0_setAir_5 : decode cX0_setAir 5 = .ok (.invokevirtual 39, 3) := dk_182 0 39 (dk_at dksX0_setAir_0 5 rfl rfl)
theorem dX0_setAir_8 : decode cX0_setAir 8 = .ok (.i2l, 1) := dk_133 (dk_at dksX0_setAir_0 8 rfl rfl)
theorem dX0_setAir_9 : decode cX0_setAir 9 = .ok (.lastore, 1) := dk_80 (dk_at dksX0_setAir_0 9 rfl rfl)
theorem dX0_setAir_10 : decode cX0_setAir 10 = .ok (.goto 11, 3) := dk_167 0 11 (dk_at dksX0_setAir_0 10 rfl rfl)
theorem dX0_setAir_13 : decode cX0_setAir 13 = .ok (.astore 4, 2) := dk_58 4 (dk_at dksX0_setAir_0 13 rfl rfl)
theorem dX0_setAir_15 : decode cX0_setAir 15 = .ok (.iconst 1, 1) := dk_4 (dk_at dksX0_setAir_0 15 rfl rfl)
theorem dX0_setAir_16 : decode cX0_setAir 16 = .ok (.ireturn, 1) := dk_172 (dk_at dksX0_setAir_0 16 rfl rfl)
theorem dX0_setAir_17 : decode cX0_setAir 17 = .ok (.astore 4, 2) := dk_58 4 (dk_at dksX0_setAir_0 17 rfl rfl)
theorem dX0_setAir_19 : decode cX0_setAir 19 = .ok (.iconst 2, 1) := dk_5 (dk_at dksX0_setAir_0 19 rfl rfl)
theorem dX0_setAir_20 : decode cX0_setAir 20 = .ok (.ireturn, 1) := dk_172 (dk_at dksX0_setAir_0 20 rfl rfl)
theorem dX0_setAir_21 : decode cX0_setAir 21 = .ok (.iconst 0, 1) := dk_3 (dk_at dksX0_setAir_0 21 rfl rfl)
theorem dX0_setAir_22 : decode cX0_setAir 22 = .ok (.ireturn, 1) := dk_172 (dk_at dksX0_setAir_0 22 rfl rfl)
abbrev cX0_setDew : ByteArray := method_11_code
def yX0_setDew : MethodName := ⟨RX0, "setDew", "(LMaltDrums;II[J)I"⟩
def dkwX0_setDew_0 : List UInt8 := [45, 3, 42, 27, 28, 182, 0, 42, 133, 80, 167, 0, 11, 58, 4, 4, 172, 58, 4, 5, 172, 3, 172]
abbrev dktX0_setDew_0 : List UInt8 := dkwX0_setDew_0 ++ []
theorem dksX0_setDew_0 : cX0_setDew.data.toList.drop 0 = dktX0_setDew_0 := by decide +kernel
theorem dX0_setDew_0 : decode cX0_setDew 0 = .ok (.aload_n 3, 1) := dk_45 (dk_at dksX0_setDew_0 0 rfl rfl)
theorem dX0_setDew_1 : decode cX0_setDew 1 = .ok (.iconst 0, 1) := dk_3 (dk_at dksX0_setDew_0 1 rfl rfl)
theorem dX0_setDew_2 : decode cX0_setDew 2 = .ok (.aload_n 0, 1) := dk_42 (dk_at dksX0_setDew_0 2 rfl rfl)
theorem dX0_setDew_3 : decode cX0_setDew 3 = .ok (.iload_n 1, 1) := dk_27 (dk_at dksX0_setDew_0 3 rfl rfl)
theorem dX0_setDew_4 : decode cX0_setDew 4 = .ok (.iload_n 2, 1) := dk_28 (dk_at dksX0_setDew_0 4 rfl rfl)
theorem dX0_setDew_5 : decode cX0_setDew 5 = .ok (.invokevirtual 42, 3) := dk_182 0 42 (dk_at dksX0_setDew_0 5 rfl rfl)
theorem dX0_setDew_8 : decode cX0_setDew 8 = .ok (.i2l, 1) := dk_133 (dk_at dksX0_setDew_0 8 rfl rfl)
theorem dX0_setDew_9 : decode cX0_setDew 9 = .ok (.lastore, 1) := dk_80 (dk_at dksX0_setDew_0 9 rfl rfl)
theorem dX0_setDew_10 : decode cX0_setDew 10 = .ok (.goto 11, 3) := dk_167 0 11 (dk_at dksX0_setDew_0 10 rfl rfl)
theorem dX0_setDew_13 : decode cX0_setDew 13 = .ok (.astore 4, 2) := dk_58 4 (dk_at dksX0_setDew_0 13 rfl rfl)
theorem dX0_setDew_15 : decode cX0_setDew 15 = .ok (.iconst 1, 1) := dk_4 (dk_at dksX0_setDew_0 15 rfl rfl)
theorem dX0_setDew_16 : decode cX0_setDew 16 = .ok (.ireturn, 1) := dk_172 (dk_at dksX0_setDew_0 16 rfl rfl)
theorem dX0_setDew_17 : decode cX0_setDew 17 = .ok (.astore 4, 2) := dk_58 4 (dk_at dksX0_setDew_0 17 rfl rfl)
theorem dX0_setDew_19 : decode cX0_setDew 19 = .ok (.iconst 2, 1) := dk_5 (dk_at dksX0_setDew_0 19 rfl rfl)
theorem dX0_setDew_20 : decode cX0_setDew 20 = .ok (.ireturn, 1) := dk_172 (dk_at dksX0_setDew_0 20 rfl rfl)
theorem dX0_setDew_21 : decode cX0_setDew 21 = .ok (.iconst 0, 1) := dk_3 (dk_at dksX0_setDew_0 21 rfl rfl)
theorem dX0_setDew_22 : decode cX0_setDew 22 = .ok (.ireturn, 1) := dk_172 (dk_at dksX0_setDew_0 22 rfl rfl)
abbrev cX0_setTurn : ByteArray := method_12_code
def yX0_setTurn : MethodName := ⟨RX0, "setTurn", "(LMaltDrums;II[J)I"⟩
def dkwX0_setTurn_0 : List UInt8 := [45, 3, 42, 27, 28, 182, 0, 45, 133, 80, 167, 0, 11, 58, 4, 4, 172, 58, 4, 5, 172, 3, 172]
abbrev dktX0_setTurn_0 : List UInt8 := dkwX0_setTurn_0 ++ []
theorem dksX0_setTurn_0 : cX0_setTurn.data.toList.drop 0 = dktX0_setTurn_0 := by decide +kernel
theorem dX0_setTurn_0 : decode cX0_setTurn 0 = .ok (.aload_n 3, 1) := dk_45 (dk_at dksX0_setTurn_0 0 rfl rfl)
theorem dX0_setTurn_1 : decode cX0_setTurn 1 = .ok (.iconst 0, 1) := dk_3 (dk_at dksX0_setTurn_0 1 rfl rfl)
theorem dX0_setTurn_2 : decode cX0_setTurn 2 = .ok (.aload_n 0, 1) := dk_42 (dk_at dksX0_setTurn_0 2 rfl rfl)
theorem dX0_setTurn_3 : decode cX0_setTurn 3 = .ok (.iload_n 1, 1) := dk_27 (dk_at dksX0_setTurn_0 3 rfl rfl)
theorem dX0_setTurn_4 : decode cX0_setTurn 4 = .ok (.iload_n 2, 1) := dk_28 (dk_at dksX0_setTurn_0 4 rfl rfl)
theorem dX0_setTurn_5 : decode cX0_setTurn 5 = .ok (.invokevirtual 45, 3) := dk_182 0 45 (dk_at dksX0_setTurn_0 5 rfl rfl)
theorem dX0_setTurn_8 : decode cX0_setTurn 8 = .ok (.i2l, 1) := dk_133 (dk_at dksX0_setTurn_0 8 rfl rfl)
theorem dX0_setTurn_9 : decode cX0_setTurn 9 = .ok (.lastore, 1) := dk_80 (dk_at dksX0_setTurn_0 9 rfl rfl)
theorem dX0_setTurn_10 : decode cX0_setTurn 10 = .ok (.goto 11, 3) := dk_167 0 11 (dk_at dksX0_setTurn_0 10 rfl rfl)
theorem dX0_setTurn_13 : decode cX0_setTurn 13 = .ok (.astore 4, 2) := dk_58 4 (dk_at dksX0_setTurn_0 13 rfl rfl)
theorem dX0_setTurn_15 : decode cX0_setTurn 15 = .ok (.iconst 1, 1) := dk_4 (dk_at dksX0_setTurn_0 15 rfl rfl)
theorem dX0_setTurn_16 : decode cX0_setTurn 16 = .ok (.ireturn, 1) := dk_172 (dk_at dksX0_setTurn_0 16 rfl rfl)
theorem dX0_setTurn_17 : decode cX0_setTurn 17 = .ok (.astore 4, 2) := dk_58 4 (dk_at dksX0_setTurn_0 17 rfl rfl)
theorem dX0_setTurn_19 : decode cX0_setTurn 19 = .ok (.iconst 2, 1) := dk_5 (dk_at dksX0_setTurn_0 19 rfl rfl)
theorem dX0_setTurn_20 : decode cX0_setTurn 20 = .ok (.ireturn, 1) := dk_172 (dk_at dksX0_setTurn_0 20 rfl rfl)
theorem dX0_setTurn_21 : decode cX0_setTurn 21 = .ok (.iconst 0, 1) := dk_3 (dk_at dksX0_setTurn_0 21 rfl rfl)
theorem dX0_setTurn_22 : decode cX0_setTurn 22 = .ok (.ireturn, 1) := dk_172 (dk_at dksX0_setTurn_0 22 rfl rfl)
abbrev cX0_setHeats : ByteArray := method_13_code
def yX0_setHeats : MethodName := ⟨RX0, "setHeats", "(LMaltDrums;II[J)I"⟩
def dkwX0_setHeats_0 : List UInt8 := [45, 3, 42, 27, 28, 182, 0, 48, 133, 80, 167, 0, 11, 58, 4, 4, 172, 58, 4, 5, 172, 3, 172]
abbrev dktX0_setHeats_0 : List UInt8 := dkwX0_setHeats_0 ++ []
theorem dksX0_setHeats_0 : cX0_setHeats.data.toList.drop 0 = dktX0_setHeats_0 := by decide +kernel
theorem dX0_setHeats_0 : decode cX0_setHeats 0 = .ok (.aload_n 3, 1) := dk_45 (dk_at dksX0_setHeats_0 0 rfl rfl)
theorem dX0_setHeats_1 : decode cX0_setHeats 1 = .ok (.iconst 0, 1) := dk_3 (dk_at dksX0_setHeats_0 1 rfl rfl)
theorem dX0_setHeats_2 : decode cX0_setHeats 2 = .ok (.aload_n 0, 1) := dk_42 (dk_at dksX0_setHeats_0 2 rfl rfl)
theorem dX0_setHeats_3 : decode cX0_setHeats 3 = .ok (.iload_n 1, 1) := dk_27 (dk_at dksX0_setHeats_0 3 rfl rfl)
theorem dX0_setHeats_4 : decode cX0_setHeats 4 = .ok (.iload_n 2, 1) := dk_28 (dk_at dksX0_setHeats_0 4 rfl rfl)
theorem dX0_setHeats_5 : decode cX0_setHeats 5 = .ok (.invokevirtual 48, 3) := dk_182 0 48 (dk_at dksX0_setHeats_0 5 rfl rfl)
theorem dX0_setHeats_8 : decode cX0_setHeats 8 = .ok (.i2l, 1) := dk_133 (dk_at dksX0_setHeats_0 8 rfl rfl)
theorem dX0_setHeats_9 : decode cX0_setHeats 9 = .ok (.lastore, 1) := dk_80 (dk_at dksX0_setHeats_0 9 rfl rfl)
theorem dX0_setHeats_10 : decode cX0_setHeats 10 = .ok (.goto 11, 3) := dk_167 0 11 (dk_at dksX0_setHeats_0 10 rfl rfl)
theorem dX0_setHeats_13 : decode cX0_setHeats 13 = .ok (.astore 4, 2) := dk_58 4 (dk_at dksX0_setHeats_0 13 rfl rfl)
theorem dX0_setHeats_15 : decode cX0_setHeats 15 = .ok (.iconst 1, 1) := dk_4 (dk_at dksX0_setHeats_0 15 rfl rfl)
theorem dX0_setHeats_16 : decode cX0_setHeats 16 = .ok (.ireturn, 1) := dk_172 (dk_at dksX0_setHeats_0 16 rfl rfl)
theorem dX0_setHeats_17 : decode cX0_setHeats 17 = .ok (.astore 4, 2) := dk_58 4 (dk_at dksX0_setHeats_0 17 rfl rfl)
theorem dX0_setHeats_19 : decode cX0_setHeats 19 = .ok (.iconst 2, 1) := dk_5 (dk_at dksX0_setHeats_0 19 rfl rfl)
theorem dX0_setHeats_20 : decode cX0_setHeats 20 = .ok (.ireturn, 1) := dk_172 (dk_at dksX0_setHeats_0 20 rfl rfl)
theorem dX0_setHeats_21 : decode cX0_setHeats 21 = .ok (.iconst 0, 1) := dk_3 (dk_at dksX0_setHeats_0 21 rfl rfl)
theorem dX0_setHeats_22 : decode cX0_setHeats 22 = .ok (.ireturn, 1) := dk_172 (dk_at dksX0_setHeats_0 22 rfl rfl)
abbrev cX0_setSprays : ByteArray := method_14_code
def yX0_setSprays : MethodName := ⟨RX0, "setSprays", "(LMaltDrums;I[J)I"⟩
def dkwX0_setSprays_0 : List UInt8 := [44, 3, 42, 27, 182, 0, 51, 133, 80, 167, 0, 6, 78, 4, 172, 3, 172]
abbrev dktX0_setSprays_0 : List UInt8 := dkwX0_setSprays_0 ++ []
theorem dksX0_setSprays_0 : cX0_setSprays.data.toList.drop 0 = dktX0_setSprays_0 := by decide +kernel
theorem dX0_setSprays_0 : decode cX0_setSprays 0 = .ok (.aload_n 2, 1) := dk_44 (dk_at dksX0_setSprays_0 0 rfl rfl)
theorem dX0_setSprays_1 : decode cX0_setSprays 1 = .ok (.iconst 0, 1) := dk_3 (dk_at dksX0_setSprays_0 1 rfl rfl)
theorem dX0_setSprays_2 : decode cX0_setSprays 2 = .ok (.aload_n 0, 1) := dk_42 (dk_at dksX0_setSprays_0 2 rfl rfl)
theorem dX0_setSprays_3 : decode cX0_setSprays 3 = .ok (.iload_n 1, 1) := dk_27 (dk_at dksX0_setSprays_0 3 rfl rfl)
theorem dX0_setSprays_4 : decode cX0_setSprays 4 = .ok (.invokevirtual 51, 3) := dk_182 0 51 (dk_at dksX0_setSprays_0 4 rfl rfl)
theorem dX0_setSprays_7 : decode cX0_setSprays 7 = .ok (.i2l, 1) := dk_133 (dk_at dksX0_setSprays_0 7 rfl rfl)
theorem dX0_setSprays_8 : decode cX0_setSprays 8 = .ok (.lastore, 1) := dk_80 (dk_at dksX0_setSprays_0 8 rfl rfl)
theorem dX0_setSprays_9 : decode cX0_setSprays 9 = .ok (.goto 6, 3) := dk_167 0 6 (dk_at dksX0_setSprays_0 9 rfl rfl)
theorem dX0_setSprays_12 : decode cX0_setSprays 12 = .ok (.astore_n 3, 1) := dk_78 (dk_at dksX0_setSprays_0 12 rfl rfl)
theorem dX0_setSprays_13 : decode cX0_setSprays 13 = .ok (.iconst 1, 1) := dk_4 (dk_at dksX0_setSprays_0 13 rfl rfl)
theorem dX0_setSprays_14 : decode cX0_setSprays 14 = .ok (.ireturn, 1) := dk_172 (dk_at dksX0_setSprays_0 14 rfl rfl)
theorem dX0_setSprays_15 : decode cX0_setSprays 15 = .ok (.iconst 0, 1) := dk_3 (dk_at dksX0_setSprays_0 15 rfl rfl)
theorem dX0_setSprays_16 : decode cX0_setSprays 16 = .ok (.ireturn, 1) := dk_172 (dk_at dksX0_setSprays_0 16 rfl rfl)
abbrev cX0_pass : ByteArray := method_15_code
def yX0_pass : MethodName := ⟨RX0, "pass", "(LMaltDrums;I[J)I"⟩
def dkwX0_pass_0 : List UInt8 := [44, 3, 42, 27, 182, 0, 54, 133, 80, 167, 0, 6, 78, 4, 172, 3, 172]
abbrev dktX0_pass_0 : List UInt8 := dkwX0_pass_0 ++ []
theorem dksX0_pass_0 : cX0_pass.data.toList.drop 0 = dktX0_pass_0 := by decide +kernel
theorem dX0_pass_0 : decode cX0_pass 0 = .ok (.aload_n 2, 1) := dk_44 (dk_at dksX0_pass_0 0 rfl rfl)
theorem dX0_pass_1 : decode cX0_pass 1 = .ok (.iconst 0, 1) := dk_3 (dk_at dksX0_pass_0 1 rfl rfl)
theorem dX0_pass_2 : decode cX0_pass 2 = .ok (.aload_n 0, 1) := dk_42 (dk_at dksX0_pass_0 2 rfl rfl)
theorem dX0_pass_3 : decode cX0_pass 3 = .ok (.iload_n 1, 1) := dk_27 (dk_at dksX0_pass_0 3 rfl rfl)
theorem dX0_pass_4 : decode cX0_pass 4 = .ok (.invokevirtual 54, 3) := dk_182 0 54 (dk_at dksX0_pass_0 4 rfl rfl)
theorem dX0_pass_7 : decode cX0_pass 7 = .ok (.i2l, 1) := dk_133 (dk_at dksX0_pass_0 7 rfl rfl)
theorem dX0_pass_8 : decode cX0_pass 8 = .ok (.lastore, 1) := dk_80 (dk_at dksX0_pass_0 8 rfl rfl)
theorem dX0_pass_9 : decode cX0_pass 9 = .ok (.goto 6, 3) := dk_167 0 6 (dk_at dksX0_pass_0 9 rfl rfl)
theorem dX0_pass_12 : decode cX0_pass 12 = .ok (.astore_n 3, 1) := dk_78 (dk_at dksX0_pass_0 12 rfl rfl)
theorem dX0_pass_13 : decode cX0_pass 13 = .ok (.iconst 1, 1) := dk_4 (dk_at dksX0_pass_0 13 rfl rfl)
theorem dX0_pass_14 : decode cX0_pass 14 = .ok (.ireturn, 1) := dk_172 (dk_at dksX0_pass_0 14 rfl rfl)
theorem dX0_pass_15 : decode cX0_pass 15 = .ok (.iconst 0, 1) := dk_3 (dk_at dksX0_pass_0 15 rfl rfl)
theorem dX0_pass_16 : decode cX0_pass 16 = .ok (.ireturn, 1) := dk_172 (dk_at dksX0_pass_0 16 rfl rfl)
abbrev cX0_append : ByteArray := method_16_code
def yX0_append : MethodName := ⟨RX0, "append", "(LMaltDrums;I[J)I"⟩
def dkwX0_append_0 : List UInt8 := [44, 3, 42, 27, 182, 0, 57, 133, 80, 167, 0, 9, 78, 4, 172, 78, 5, 172, 3, 172]
abbrev dktX0_append_0 : List UInt8 := dkwX0_append_0 ++ []
theorem dksX0_append_0 : cX0_append.data.toList.drop 0 = dktX0_append_0 := by decide +kernel
theorem dX0_append_0 : decode cX0_append 0 = .ok (.aload_n 2, 1) := dk_44 (dk_at dksX0_append_0 0 rfl rfl)
theorem dX0_append_1 : decode cX0_append 1 = .ok (.iconst 0, 1) := dk_3 (dk_at dksX0_append_0 1 rfl rfl)
theorem dX0_append_2 : decode cX0_append 2 = .ok (.aload_n 0, 1) := dk_42 (dk_at dksX0_append_0 2 rfl rfl)
theorem dX0_append_3 : decode cX0_append 3 = .ok (.iload_n 1, 1) := dk_27 (dk_at dksX0_append_0 3 rfl rfl)
theorem dX0_append_4 : decode cX0_append 4 = .ok (.invokevirtual 57, 3) := dk_182 0 57 (dk_at dksX0_append_0 4 rfl rfl)
theorem dX0_append_7 : decode cX0_append 7 = .ok (.i2l, 1) := dk_133 (dk_at dksX0_append_0 7 rfl rfl)
theorem dX0_append_8 : decode cX0_append 8 = .ok (.lastore, 1) := dk_80 (dk_at dksX0_append_0 8 rfl rfl)
theorem dX0_append_9 : decode cX0_append 9 = .ok (.goto 9, 3) := dk_167 0 9 (dk_at dksX0_append_0 9 rfl rfl)
theorem dX0_append_12 : decode cX0_append 12 = .ok (.astore_n 3, 1) := dk_78 (dk_at dksX0_append_0 12 rfl rfl)
theorem dX0_append_13 : decode cX0_append 13 = .ok (.iconst 1, 1) := dk_4 (dk_at dksX0_append_0 13 rfl rfl)
theorem dX0_append_14 : decode cX0_append 14 = .ok (.ireturn, 1) := dk_172 (dk_at dksX0_append_0 14 rfl rfl)
theorem dX0_append_15 : decode cX0_append 15 = .ok (.astore_n 3, 1) := dk_78 (dk_at dksX0_append_0 15 rfl rfl)
theorem dX0_append_16 : decode cX0_append 16 = .ok (.iconst 2, 1) := dk_5 (dk_at dksX0_append_0 16 rfl rfl)
theorem dX0_append_17 : decode cX0_append 17 = .ok (.ireturn, 1) := dk_172 (dk_at dksX0_append_0 17 rfl rfl)
theorem dX0_append_18 : decode cX0_append 18 = .ok (.iconst 0, 1) := dk_3 (dk_at dksX0_append_0 18 rfl rfl)
theorem dX0_append_19 : decode cX0_append 19 = .ok (.ireturn, 1) := dk_172 (dk_at dksX0_append_0 19 rfl rfl)
abbrev cX0_run : ByteArray := method_17_code
def yX0_run : MethodName := ⟨RX0, "run", "(LMaltDrums;[J)I"⟩
def dkwX0_run_0 : List UInt8 := [43, 3, 42, 182, 0, 60, 133, 80, 167, 0, 6, 77, 4, 172, 3, 172]
abbrev dktX0_run_0 : List UInt8 := dkwX0_run_0 ++ []
theorem dksX0_run_0 : cX0_run.data.toList.drop 0 = dktX0_run_0 := by decide +kernel
theorem dX0_run_0 : decode cX0_run 0 = .ok (.aload_n 1, 1) := dk_43 (dk_at dksX0_run_0 0 rfl rfl)
theorem dX0_run_1 : decode cX0_run 1 = .ok (.iconst 0, 1) := dk_3 (dk_at dksX0_run_0 1 rfl rfl)
theorem dX0_run_2 : decode cX0_run 2 = .ok (.aload_n 0, 1) := dk_42 (dk_at dksX0_run_0 2 rfl rfl)
theorem dX0_run_3 : decode cX0_run 3 = .ok (.invokevirtual 60, 3) := dk_182 0 60 (dk_at dksX0_run_0 3 rfl rfl)
theorem dX0_run_6 : decode cX0_run 6 = .ok (.i2l, 1) := dk_133 (dk_at dksX0_run_0 6 rfl rfl)
theorem dX0_run_7 : decode cX0_run 7 = .ok (.lastore, 1) := dk_80 (dk_at dksX0_run_0 7 rfl rfl)
theorem dX0_run_8 : decode cX0_run 8 = .ok (.goto 6, 3) := dk_167 0 6 (dk_at dksX0_run_0 8 rfl rfl)
theorem dX0_run_11 : decode cX0_run 11 = .ok (.astore_n 2, 1) := dk_77 (dk_at dksX0_run_0 11 rfl rfl)
theorem dX0_run_12 : decode cX0_run 12 = .ok (.iconst 1, 1) := dk_4 (dk_at dksX0_run_0 12 rfl rfl)
theorem dX0_run_13 : decode cX0_run 13 = .ok (.ireturn, 1) := dk_172 (dk_at dksX0_run_0 13 rfl rfl)
theorem dX0_run_14 : decode cX0_run 14 = .ok (.iconst 0, 1) := dk_3 (dk_at dksX0_run_0 14 rfl rfl)
theorem dX0_run_15 : decode cX0_run 15 = .ok (.ireturn, 1) := dk_172 (dk_at dksX0_run_0 15 rfl rfl)
abbrev cX0_undo : ByteArray := method_18_code
def yX0_undo : MethodName := ⟨RX0, "undo", "(LMaltDrums;[J)I"⟩
def dkwX0_undo_0 : List UInt8 := [43, 3, 42, 182, 0, 63, 133, 80, 167, 0, 6, 77, 4, 172, 3, 172]
abbrev dktX0_undo_0 : List UInt8 := dkwX0_undo_0 ++ []
theorem dksX0_undo_0 : cX0_undo.data.toList.drop 0 = dktX0_undo_0 := by decide +kernel
theorem dX0_undo_0 : decode cX0_undo 0 = .ok (.aload_n 1, 1) := dk_43 (dk_at dksX0_undo_0 0 rfl rfl)
theorem dX0_undo_1 : decode cX0_undo 1 = .ok (.iconst 0, 1) := dk_3 (dk_at dksX0_undo_0 1 rfl rfl)
theorem dX0_undo_2 : decode cX0_undo 2 = .ok (.aload_n 0, 1) := dk_42 (dk_at dksX0_undo_0 2 rfl rfl)
theorem dX0_undo_3 : decode cX0_undo 3 = .ok (.invokevirtual 63, 3) := dk_182 0 63 (dk_at dksX0_undo_0 3 rfl rfl)
theorem dX0_undo_6 : decode cX0_undo 6 = .ok (.i2l, 1) := dk_133 (dk_at dksX0_undo_0 6 rfl rfl)
theorem dX0_undo_7 : decode cX0_undo 7 = .ok (.lastore, 1) := dk_80 (dk_at dksX0_undo_0 7 rfl rfl)
theorem dX0_undo_8 : decode cX0_undo 8 = .ok (.goto 6, 3) := dk_167 0 6 (dk_at dksX0_undo_0 8 rfl rfl)
theorem dX0_undo_11 : decode cX0_undo 11 = .ok (.astore_n 2, 1) := dk_77 (dk_at dksX0_undo_0 11 rfl rfl)
theorem dX0_undo_12 : decode cX0_undo 12 = .ok (.iconst 1, 1) := dk_4 (dk_at dksX0_undo_0 12 rfl rfl)
theorem dX0_undo_13 : decode cX0_undo 13 = .ok (.ireturn, 1) := dk_172 (dk_at dksX0_undo_0 13 rfl rfl)
theorem dX0_undo_14 : decode cX0_undo 14 = .ok (.iconst 0, 1) := dk_3 (dk_at dksX0_undo_0 14 rfl rfl)
theorem dX0_undo_15 : decode cX0_undo 15 = .ok (.ireturn, 1) := dk_172 (dk_at dksX0_undo_0 15 rfl rfl)
abbrev cX0_restore : ByteArray := method_19_code
def yX0_restore : MethodName := ⟨RX0, "restore", "(LMaltDrums;[J)I"⟩
def dkwX0_restore_0 : List UInt8 := [43, 3, 42, 182, 0, 66, 133, 80, 167, 0, 6, 77, 4, 172, 3, 172]
abbrev dktX0_restore_0 : List UInt8 := dkwX0_restore_0 ++ []
theorem dksX0_restore_0 : cX0_restore.data.toList.drop 0 = dktX0_restore_0 := by decide +kernel
theorem dX0_restore_0 : decode cX0_restore 0 = .ok (.aload_n 1, 1) := dk_43 (dk_at dksX0_restore_0 0 rfl rfl)
theorem dX0_restore_1 : decode cX0_restore 1 = .ok (.iconst 0, 1) := dk_3 (dk_at dksX0_restore_0 1 rfl rfl)
theorem dX0_restore_2 : decode cX0_restore 2 = .ok (.aload_n 0, 1) := dk_42 (dk_at dksX0_restore_0 2 rfl rfl)
theorem dX0_restore_3 : decode cX0_restore 3 = .ok (.invokevirtual 66, 3) := dk_182 0 66 (dk_at dksX0_restore_0 3 rfl rfl)
theorem dX0_restore_6 : decode cX0_restore 6 = .ok (.i2l, 1) := dk_133 (dk_at dksX0_restore_0 6 rfl rfl)
theorem dX0_restore_7 : decode cX0_restore 7 = .ok (.lastore, 1) := dk_80 (dk_at dksX0_restore_0 7 rfl rfl)
theorem dX0_restore_8 : decode cX0_restore 8 = .ok (.goto 6, 3) := dk_167 0 6 (dk_at dksX0_restore_0 8 rfl rfl)
theorem dX0_restore_11 : decode cX0_restore 11 = .ok (.astore_n 2, 1) := dk_77 (dk_at dksX0_restore_0 11 rfl rfl)
theorem dX0_restore_12 : decode cX0_restore 12 = .ok (.iconst 1, 1) := dk_4 (dk_at dksX0_restore_0 12 rfl rfl)
theorem dX0_restore_13 : decode cX0_restore 13 = .ok (.ireturn, 1) := dk_172 (dk_at dksX0_restore_0 13 rfl rfl)
theorem dX0_restore_14 : decode cX0_restore 14 = .ok (.iconst 0, 1) := dk_3 (dk_at dksX0_restore_0 14 rfl rfl)
theorem dX0_restore_15 : decode cX0_restore 15 = .ok (.ireturn, 1) := dk_172 (dk_at dksX0_restore_0 15 rfl rfl)
abbrev cX0_placeOf : ByteArray := method_20_code
def yX0_placeOf : MethodName := ⟨RX0, "placeOf", "(LMaltDrums;I[J)I"⟩
def dkwX0_placeOf_0 : List UInt8 := [44, 3, 42, 27, 182, 0, 69, 133, 80, 167, 0, 6, 78, 4, 172, 3, 172]
abbrev dktX0_placeOf_0 : List UInt8 := dkwX0_placeOf_0 ++ []
theorem dksX0_placeOf_0 : cX0_placeOf.data.toList.drop 0 = dktX0_placeOf_0 := by decide +kernel
theorem dX0_placeOf_0 : decode cX0_placeOf 0 = .ok (.aload_n 2, 1) := dk_44 (dk_at dksX0_placeOf_0 0 rfl rfl)
theorem dX0_placeOf_1 : decode cX0_placeOf 1 = .ok (.iconst 0, 1) := dk_3 (dk_at dksX0_placeOf_0 1 rfl rfl)
theorem dX0_placeOf_2 : decode cX0_placeOf 2 = .ok (.aload_n 0, 1) := dk_42 (dk_at dksX0_placeOf_0 2 rfl rfl)
theorem dX0_placeOf_3 : decode cX0_placeOf 3 = .ok (.iload_n 1, 1) := dk_27 (dk_at dksX0_placeOf_0 3 rfl rfl)
theorem dX0_placeOf_4 : decode cX0_placeOf 4 = .ok (.invokevirtual 69, 3) := dk_182 0 69 (dk_at dksX0_placeOf_0 4 rfl rfl)
theorem dX0_placeOf_7 : decode cX0_placeOf 7 = .ok (.i2l, 1) := dk_133 (dk_at dksX0_placeOf_0 7 rfl rfl)
theorem dX0_placeOf_8 : decode cX0_placeOf 8 = .ok (.lastore, 1) := dk_80 (dk_at dksX0_placeOf_0 8 rfl rfl)
theorem dX0_placeOf_9 : decode cX0_placeOf 9 = .ok (.goto 6, 3) := dk_167 0 6 (dk_at dksX0_placeOf_0 9 rfl rfl)
theorem dX0_placeOf_12 : decode cX0_placeOf 12 = .ok (.astore_n 3, 1) := dk_78 (dk_at dksX0_placeOf_0 12 rfl rfl)
theorem dX0_placeOf_13 : decode cX0_placeOf 13 = .ok (.iconst 1, 1) := dk_4 (dk_at dksX0_placeOf_0 13 rfl rfl)
theorem dX0_placeOf_14 : decode cX0_placeOf 14 = .ok (.ireturn, 1) := dk_172 (dk_at dksX0_placeOf_0 14 rfl rfl)
theorem dX0_placeOf_15 : decode cX0_placeOf 15 = .ok (.iconst 0, 1) := dk_3 (dk_at dksX0_placeOf_0 15 rfl rfl)
theorem dX0_placeOf_16 : decode cX0_placeOf 16 = .ok (.ireturn, 1) := dk_172 (dk_at dksX0_placeOf_0 16 rfl rfl)
abbrev cX0_drumOf : ByteArray := method_21_code
def yX0_drumOf : MethodName := ⟨RX0, "drumOf", "(LMaltDrums;I[J)I"⟩
def dkwX0_drumOf_0 : List UInt8 := [44, 3, 42, 27, 182, 0, 72, 133, 80, 167, 0, 6, 78, 4, 172, 3, 172]
abbrev dktX0_drumOf_0 : List UInt8 := dkwX0_drumOf_0 ++ []
theorem dksX0_drumOf_0 : cX0_drumOf.data.toList.drop 0 = dktX0_drumOf_0 := by decide +kernel
theorem dX0_drumOf_0 : decode cX0_drumOf 0 = .ok (.aload_n 2, 1) := dk_44 (dk_at dksX0_drumOf_0 0 rfl rfl)
theorem dX0_drumOf_1 : decode cX0_drumOf 1 = .ok (.iconst 0, 1) := dk_3 (dk_at dksX0_drumOf_0 1 rfl rfl)
theorem dX0_drumOf_2 : decode cX0_drumOf 2 = .ok (.aload_n 0, 1) := dk_42 (dk_at dksX0_drumOf_0 2 rfl rfl)
theorem dX0_drumOf_3 : decode cX0_drumOf 3 = .ok (.iload_n 1, 1) := dk_27 (dk_at dksX0_drumOf_0 3 rfl rfl)
theorem dX0_drumOf_4 : decode cX0_drumOf 4 = .ok (.invokevirtual 72, 3) := dk_182 0 72 (dk_at dksX0_drumOf_0 4 rfl rfl)
theorem dX0_drumOf_7 : decode cX0_drumOf 7 = .ok (.i2l, 1) := dk_133 (dk_at dksX0_drumOf_0 7 rfl rfl)
theorem dX0_drumOf_8 : decode cX0_drumOf 8 = .ok (.lastore, 1) := dk_80 (dk_at dksX0_drumOf_0 8 rfl rfl)
theorem dX0_drumOf_9 : decode cX0_drumOf 9 = .ok (.goto 6, 3) := dk_167 0 6 (dk_at dksX0_drumOf_0 9 rfl rfl)
theorem dX0_drumOf_12 : decode cX0_drumOf 12 = .ok (.astore_n 3, 1) := dk_78 (dk_at dksX0_drumOf_0 12 rfl rfl)
theorem dX0_drumOf_13 : decode cX0_drumOf 13 = .ok (.iconst 1, 1) := dk_4 (dk_at dksX0_drumOf_0 13 rfl rfl)
theorem dX0_drumOf_14 : decode cX0_drumOf 14 = .ok (.ireturn, 1) := dk_172 (dk_at dksX0_drumOf_0 14 rfl rfl)
theorem dX0_drumOf_15 : decode cX0_drumOf 15 = .ok (.iconst 0, 1) := dk_3 (dk_at dksX0_drumOf_0 15 rfl rfl)
theorem dX0_drumOf_16 : decode cX0_drumOf 16 = .ok (.ireturn, 1) := dk_172 (dk_at dksX0_drumOf_0 16 rfl rfl)
abbrev cX0_weightOf : ByteArray := method_22_code
def yX0_weightOf : MethodName := ⟨RX0, "weightOf", "(LMaltDrums;I[J)I"⟩
def dkwX0_weightOf_0 : List UInt8 := [44, 3, 42, 27, 182, 0, 75, 133, 80, 167, 0, 6, 78, 4, 172, 3, 172]
abbrev dktX0_weightOf_0 : List UInt8 := dkwX0_weightOf_0 ++ []
theorem dksX0_weightOf_0 : cX0_weightOf.data.toList.drop 0 = dktX0_weightOf_0 := by decide +kernel
theorem dX0_weightOf_0 : decode cX0_weightOf 0 = .ok (.aload_n 2, 1) := dk_44 (dk_at dksX0_weightOf_0 0 rfl rfl)
theorem dX0_weightOf_1 : decode cX0_weightOf 1 = .ok (.iconst 0, 1) := dk_3 (dk_at dksX0_weightOf_0 1 rfl rfl)
theorem dX0_weightOf_2 : decode cX0_weightOf 2 = .ok (.aload_n 0, 1) := dk_42 (dk_at dksX0_weightOf_0 2 rfl rfl)
theorem dX0_weightOf_3 : decode cX0_weightOf 3 = .ok (.iload_n 1, 1) := dk_27 (dk_at dksX0_weightOf_0 3 rfl rfl)
theorem dX0_weightOf_4 : decode cX0_weightOf 4 = .ok (.invokevirtual 75, 3) := dk_182 0 75 (dk_at dksX0_weightOf_0 4 rfl rfl)
theorem dX0_weightOf_7 : decode cX0_weightOf 7 = .ok (.i2l, 1) := dk_133 (dk_at dksX0_weightOf_0 7 rfl rfl)
theorem dX0_weightOf_8 : decode cX0_weightOf 8 = .ok (.lastore, 1) := dk_80 (dk_at dksX0_weightOf_0 8 rfl rfl)
theorem dX0_weightOf_9 : decode cX0_weightOf 9 = .ok (.goto 6, 3) := dk_167 0 6 (dk_at dksX0_weightOf_0 9 rfl rfl)
theorem dX0_weightOf_12 : decode cX0_weightOf 12 = .ok (.astore_n 3, 1) := dk_78 (dk_at dksX0_weightOf_0 12 rfl rfl)
theorem dX0_weightOf_13 : decode cX0_weightOf 13 = .ok (.iconst 1, 1) := dk_4 (dk_at dksX0_weightOf_0 13 rfl rfl)
theorem dX0_weightOf_14 : decode cX0_weightOf 14 = .ok (.ireturn, 1) := dk_172 (dk_at dksX0_weightOf_0 14 rfl rfl)
theorem dX0_weightOf_15 : decode cX0_weightOf 15 = .ok (.iconst 0, 1) := dk_3 (dk_at dksX0_weightOf_0 15 rfl rfl)
theorem dX0_weightOf_16 : decode cX0_weightOf 16 = .ok (.ireturn, 1) := dk_172 (dk_at dksX0_weightOf_0 16 rfl rfl)
abbrev cX0_wetnessOf : ByteArray := method_23_code
def yX0_wetnessOf : MethodName := ⟨RX0, "wetnessOf", "(LMaltDrums;I[J)I"⟩
def dkwX0_wetnessOf_0 : List UInt8 := [44, 3, 42, 27, 182, 0, 78, 133, 80, 167, 0, 6, 78, 4, 172, 3, 172]
abbrev dktX0_wetnessOf_0 : List UInt8 := dkwX0_wetnessOf_0 ++ []
theorem dksX0_wetnessOf_0 : cX0_wetnessOf.data.toList.drop 0 = dktX0_wetnessOf_0 := by decide +kernel
theorem dX0_wetnessOf_0 : decode cX0_wetnessOf 0 = .ok (.aload_n 2, 1) := dk_44 (dk_at dksX0_wetnessOf_0 0 rfl rfl)
theorem dX0_wetnessOf_1 : decode cX0_wetnessOf 1 = .ok (.iconst 0, 1) := dk_3 (dk_at dksX0_wetnessOf_0 1 rfl rfl)
theorem dX0_wetnessOf_2 : decode cX0_wetnessOf 2 = .ok (.aload_n 0, 1) := dk_42 (dk_at dksX0_wetnessOf_0 2 rfl rfl)
theorem dX0_wetnessOf_3 : decode cX0_wetnessOf 3 = .ok (.iload_n 1, 1) := dk_27 (dk_at dksX0_wetnessOf_0 3 rfl rfl)
theorem dX0_wetnessOf_4 : decode cX0_wetnessOf 4 = .ok (.invokevirtual 78, 3) := dk_182 0 78 (dk_at dksX0_wetnessOf_0 4 rfl rfl)
theorem dX0_wetnessOf_7 : decode cX0_wetnessOf 7 = .ok (.i2l, 1) := dk_133 (dk_at dksX0_wetnessOf_0 7 rfl rfl)
theorem dX0_wetnessOf_8 : decode cX0_wetnessOf 8 = .ok (.lastore, 1) := dk_80 (dk_at dksX0_wetnessOf_0 8 rfl rfl)
theorem dX0_wetnessOf_9 : decode cX0_wetnessOf 9 = .ok (.goto 6, 3) := dk_167 0 6 (dk_at dksX0_wetnessOf_0 9 rfl rfl)
theorem dX0_wetnessOf_12 : decode cX0_wetnessOf 12 = .ok (.astore_n 3, 1) := dk_78 (dk_at dksX0_wetnessOf_0 12 rfl rfl)
theorem dX0_wetnessOf_13 : decode cX0_wetnessOf 13 = .ok (.iconst 1, 1) := dk_4 (dk_at dksX0_wetnessOf_0 13 rfl rfl)
theorem dX0_wetnessOf_14 : decode cX0_wetnessOf 14 = .ok (.ireturn, 1) := dk_172 (dk_at dksX0_wetnessOf_0 14 rfl rfl)
theorem dX0_wetnessOf_15 : decode cX0_wetnessOf 15 = .ok (.iconst 0, 1) := dk_3 (dk_at dksX0_wetnessOf_0 15 rfl rfl)
theorem dX0_wetnessOf_16 : decode cX0_wetnessOf 16 = .ok (.ireturn, 1) := dk_172 (dk_at dksX0_wetnessOf_0 16 rfl rfl)
abbrev cX0_growthOf : ByteArray := method_24_code
def yX0_growthOf : MethodName := ⟨RX0, "growthOf", "(LMaltDrums;I[J)I"⟩
def dkwX0_growthOf_0 : List UInt8 := [44, 3, 42, 27, 182, 0, 81, 133, 80, 167, 0, 6, 78, 4, 172, 3, 172]
abbrev dktX0_growthOf_0 : List UInt8 := dkwX0_growthOf_0 ++ []
theorem dksX0_growthOf_0 : cX0_growthOf.data.toList.drop 0 = dktX0_growthOf_0 := by decide +kernel
theorem dX0_growthOf_0 : decode cX0_growthOf 0 = .ok (.aload_n 2, 1) := dk_44 (dk_at dksX0_growthOf_0 0 rfl rfl)
theorem dX0_growthOf_1 : decode cX0_growthOf 1 = .ok (.iconst 0, 1) := dk_3 (dk_at dksX0_growthOf_0 1 rfl rfl)
theorem dX0_growthOf_2 : decode cX0_growthOf 2 = .ok (.aload_n 0, 1) := dk_42 (dk_at dksX0_growthOf_0 2 rfl rfl)
theorem dX0_growthOf_3 : decode cX0_growthOf 3 = .ok (.iload_n 1, 1) := dk_27 (dk_at dksX0_growthOf_0 3 rfl rfl)
theorem dX0_growthOf_4 : decode cX0_growthOf 4 = .ok (.invokevirtual 81, 3) := dk_182 0 81 (dk_at dksX0_growthOf_0 4 rfl rfl)
theorem dX0_growthOf_7 : decode cX0_growthOf 7 = .ok (.i2l, 1) := dk_133 (dk_at dksX0_growthOf_0 7 rfl rfl)
theorem dX0_growthOf_8 : decode cX0_growthOf 8 = .ok (.lastore, 1) := dk_80 (dk_at dksX0_growthOf_0 8 rfl rfl)
theorem dX0_growthOf_9 : decode cX0_growthOf 9 = .ok (.goto 6, 3) := dk_167 0 6 (dk_at dksX0_growthOf_0 9 rfl rfl)
theorem dX0_growthOf_12 : decode cX0_growthOf 12 = .ok (.astore_n 3, 1) := dk_78 (dk_at dksX0_growthOf_0 12 rfl rfl)
theorem dX0_growthOf_13 : decode cX0_growthOf 13 = .ok (.iconst 1, 1) := dk_4 (dk_at dksX0_growthOf_0 13 rfl rfl)
theorem dX0_growthOf_14 : decode cX0_growthOf 14 = .ok (.ireturn, 1) := dk_172 (dk_at dksX0_growthOf_0 14 rfl rfl)
theorem dX0_growthOf_15 : decode cX0_growthOf 15 = .ok (.iconst 0, 1) := dk_3 (dk_at dksX0_growthOf_0 15 rfl rfl)
theorem dX0_growthOf_16 : decode cX0_growthOf 16 = .ok (.ireturn, 1) := dk_172 (dk_at dksX0_growthOf_0 16 rfl rfl)
abbrev cX0_heatOf : ByteArray := method_25_code
def yX0_heatOf : MethodName := ⟨RX0, "heatOf", "(LMaltDrums;I[J)I"⟩
def dkwX0_heatOf_0 : List UInt8 := [44, 3, 42, 27, 182, 0, 84, 133, 80, 167, 0, 6, 78, 4, 172, 3, 172]
abbrev dktX0_heatOf_0 : List UInt8 := dkwX0_heatOf_0 ++ []
theorem dksX0_heatOf_0 : cX0_heatOf.data.toList.drop 0 = dktX0_heatOf_0 := by decide +kernel
theorem dX0_heatOf_0 : decode cX0_heatOf 0 = .ok (.aload_n 2, 1) := dk_44 (dk_at dksX0_heatOf_0 0 rfl rfl)
theorem dX0_heatOf_1 : decode cX0_heatOf 1 = .ok (.iconst 0, 1) := dk_3 (dk_at dksX0_heatOf_0 1 rfl rfl)
theorem dX0_heatOf_2 : decode cX0_heatOf 2 = .ok (.aload_n 0, 1) := dk_42 (dk_at dksX0_heatOf_0 2 rfl rfl)
theorem dX0_heatOf_3 : decode cX0_heatOf 3 = .ok (.iload_n 1, 1) := dk_27 (dk_at dksX0_heatOf_0 3 rfl rfl)
theorem dX0_heatOf_4 : decode cX0_heatOf 4 = .ok (.invokevirtual 84, 3) := dk_182 0 84 (dk_at dksX0_heatOf_0 4 rfl rfl)
theorem dX0_heatOf_7 : decode cX0_heatOf 7 = .ok (.i2l, 1) := dk_133 (dk_at dksX0_heatOf_0 7 rfl rfl)
theorem dX0_heatOf_8 : decode cX0_heatOf 8 = .ok (.lastore, 1) := dk_80 (dk_at dksX0_heatOf_0 8 rfl rfl)
theorem dX0_heatOf_9 : decode cX0_heatOf 9 = .ok (.goto 6, 3) := dk_167 0 6 (dk_at dksX0_heatOf_0 9 rfl rfl)
theorem dX0_heatOf_12 : decode cX0_heatOf 12 = .ok (.astore_n 3, 1) := dk_78 (dk_at dksX0_heatOf_0 12 rfl rfl)
theorem dX0_heatOf_13 : decode cX0_heatOf 13 = .ok (.iconst 1, 1) := dk_4 (dk_at dksX0_heatOf_0 13 rfl rfl)
theorem dX0_heatOf_14 : decode cX0_heatOf 14 = .ok (.ireturn, 1) := dk_172 (dk_at dksX0_heatOf_0 14 rfl rfl)
theorem dX0_heatOf_15 : decode cX0_heatOf 15 = .ok (.iconst 0, 1) := dk_3 (dk_at dksX0_heatOf_0 15 rfl rfl)
theorem dX0_heatOf_16 : decode cX0_heatOf 16 = .ok (.ireturn, 1) := dk_172 (dk_at dksX0_heatOf_0 16 rfl rfl)
abbrev cX0_feltOf : ByteArray := method_26_code
def yX0_feltOf : MethodName := ⟨RX0, "feltOf", "(LMaltDrums;I[J)I"⟩
def dkwX0_feltOf_0 : List UInt8 := [44, 3, 42, 27, 182, 0, 87, 133, 80, 167, 0, 6, 78, 4, 172, 3, 172]
abbrev dktX0_feltOf_0 : List UInt8 := dkwX0_feltOf_0 ++ []
theorem dksX0_feltOf_0 : cX0_feltOf.data.toList.drop 0 = dktX0_feltOf_0 := by decide +kernel
theorem dX0_feltOf_0 : decode cX0_feltOf 0 = .ok (.aload_n 2, 1) := dk_44 (dk_at dksX0_feltOf_0 0 rfl rfl)
theorem dX0_feltOf_1 : decode cX0_feltOf 1 = .ok (.iconst 0, 1) := dk_3 (dk_at dksX0_feltOf_0 1 rfl rfl)
theorem dX0_feltOf_2 : decode cX0_feltOf 2 = .ok (.aload_n 0, 1) := dk_42 (dk_at dksX0_feltOf_0 2 rfl rfl)
theorem dX0_feltOf_3 : decode cX0_feltOf 3 = .ok (.iload_n 1, 1) := dk_27 (dk_at dksX0_feltOf_0 3 rfl rfl)
theorem dX0_feltOf_4 : decode cX0_feltOf 4 = .ok (.invokevirtual 87, 3) := dk_182 0 87 (dk_at dksX0_feltOf_0 4 rfl rfl)
theorem dX0_feltOf_7 : decode cX0_feltOf 7 = .ok (.i2l, 1) := dk_133 (dk_at dksX0_feltOf_0 7 rfl rfl)
theorem dX0_feltOf_8 : decode cX0_feltOf 8 = .ok (.lastore, 1) := dk_80 (dk_at dksX0_feltOf_0 8 rfl rfl)
theorem dX0_feltOf_9 : decode cX0_feltOf 9 = .ok (.goto 6, 3) := dk_167 0 6 (dk_at dksX0_feltOf_0 9 rfl rfl)
theorem dX0_feltOf_12 : decode cX0_feltOf 12 = .ok (.astore_n 3, 1) := dk_78 (dk_at dksX0_feltOf_0 12 rfl rfl)
theorem dX0_feltOf_13 : decode cX0_feltOf 13 = .ok (.iconst 1, 1) := dk_4 (dk_at dksX0_feltOf_0 13 rfl rfl)
theorem dX0_feltOf_14 : decode cX0_feltOf 14 = .ok (.ireturn, 1) := dk_172 (dk_at dksX0_feltOf_0 14 rfl rfl)
theorem dX0_feltOf_15 : decode cX0_feltOf 15 = .ok (.iconst 0, 1) := dk_3 (dk_at dksX0_feltOf_0 15 rfl rfl)
theorem dX0_feltOf_16 : decode cX0_feltOf 16 = .ok (.ireturn, 1) := dk_172 (dk_at dksX0_feltOf_0 16 rfl rfl)
abbrev cX0_isGlassy : ByteArray := method_27_code
def yX0_isGlassy : MethodName := ⟨RX0, "isGlassy", "(LMaltDrums;I[J)I"⟩
def dkwX0_isGlassy_0 : List UInt8 := [44, 3, 42, 27, 182, 0, 90, 153, 0, 7, 10, 167, 0, 4, 9, 80, 167, 0, 6, 78, 4, 172, 3, 172]
abbrev dktX0_isGlassy_0 : List UInt8 := dkwX0_isGlassy_0 ++ []
theorem dksX0_isGlassy_0 : cX0_isGlassy.data.toList.drop 0 = dktX0_isGlassy_0 := by decide +kernel
theorem dX0_isGlassy_0 : decode cX0_isGlassy 0 = .ok (.aload_n 2, 1) := dk_44 (dk_at dksX0_isGlassy_0 0 rfl rfl)
theorem dX0_isGlassy_1 : decode cX0_isGlassy 1 = .ok (.iconst 0, 1) := dk_3 (dk_at dksX0_isGlassy_0 1 rfl rfl)
theorem dX0_isGlassy_2 : decode cX0_isGlassy 2 = .ok (.aload_n 0, 1) := dk_42 (dk_at dksX0_isGlassy_0 2 rfl rfl)
theorem dX0_isGlassy_3 : decode cX0_isGlassy 3 = .ok (.iload_n 1, 1) := dk_27 (dk_at dksX0_isGlassy_0 3 rfl rfl)
theorem dX0_isGlassy_4 : decode cX0_isGlassy 4 = .ok (.invokevirtual 90, 3) := dk_182 0 90 (dk_at dksX0_isGlassy_0 4 rfl rfl)
theorem dX0_isGlassy_7 : decode cX0_isGlassy 7 = .ok (.ifCond .eq 7, 3) := dk_153 0 7 (dk_at dksX0_isGlassy_0 7 rfl rfl)
theorem dX0_isGlassy_10 : decode cX0_isGlassy 10 = .ok (.lconst 1, 1) := dk_10 (dk_at dksX0_isGlassy_0 10 rfl rfl)
theorem dX0_isGlassy_11 : decode cX0_isGlassy 11 = .ok (.goto 4, 3) := dk_167 0 4 (dk_at dksX0_isGlassy_0 11 rfl rfl)
theorem dX0_isGlassy_14 : decode cX0_isGlassy 14 = .ok (.lconst 0, 1) := dk_9 (dk_at dksX0_isGlassy_0 14 rfl rfl)
theorem dX0_isGlassy_15 : decode cX0_isGlassy 15 = .ok (.lastore, 1) := dk_80 (dk_at dksX0_isGlassy_0 15 rfl rfl)
theorem dX0_isGlassy_16 : decode cX0_isGlassy 16 = .ok (.goto 6, 3) := dk_167 0 6 (dk_at dksX0_isGlassy_0 16 rfl rfl)
theorem dX0_isGlassy_19 : decode cX0_isGlassy 19 = .ok (.astore_n 3, 1) := dk_78 (dk_at dksX0_isGlassy_0 19 rfl rfl)
theorem dX0_isGlassy_20 : decode cX0_isGlassy 20 = .ok (.iconst 1, 1) := dk_4 (dk_at dksX0_isGlassy_0 20 rfl rfl)
theorem dX0_isGlassy_21 : decode cX0_isGlassy 21 = .ok (.ireturn, 1) := dk_172 (dk_at dksX0_isGlassy_0 21 rfl rfl)
theorem dX0_isGlassy_22 : decode cX0_isGlassy 22 = .ok (.iconst 0, 1) := dk_3 (dk_at dksX0_isGlassy_0 22 rfl rfl)
theorem dX0_isGlassy_23 : decode cX0_isGlassy 23 = .ok (.ireturn, 1) := dk_172 (dk_at dksX0_isGlassy_0 23 rfl rfl)
abbrev cX0_paceOf : ByteArray := method_28_code
def yX0_paceOf : MethodName := ⟨RX0, "paceOf", "(LMaltDrums;I[J)I"⟩
def dkwX0_paceOf_0 : List UInt8 := [44, 3, 42, 27, 182, 0, 94, 133, 80, 167, 0, 6, 78, 4, 172, 3, 172]
abbrev dktX0_paceOf_0 : List UInt8 := dkwX0_paceOf_0 ++ []
theorem dksX0_paceOf_0 : cX0_paceOf.data.toList.drop 0 = dktX0_paceOf_0 := by decide +kernel
theorem dX0_paceOf_0 : decode cX0_paceOf 0 = .ok (.aload_n 2, 1) := dk_44 (dk_at dksX0_paceOf_0 0 rfl rfl)
theorem dX0_paceOf_1 : decode cX0_paceOf 1 = .ok (.iconst 0, 1) := dk_3 (dk_at dksX0_paceOf_0 1 rfl rfl)
theorem dX0_paceOf_2 : decode cX0_paceOf 2 = .ok (.aload_n 0, 1) := dk_42 (dk_at dksX0_paceOf_0 2 rfl rfl)
theorem dX0_paceOf_3 : decode cX0_paceOf 3 = .ok (.iload_n 1, 1) := dk_27 (dk_at dksX0_paceOf_0 3 rfl rfl)
theorem dX0_paceOf_4 : decode cX0_paceOf 4 = .ok (.invokevirtual 94, 3) := dk_182 0 94 (dk_at dksX0_paceOf_0 4 rfl rfl)
theorem dX0_paceOf_7 : decode cX0_paceOf 7 = .ok (.i2l, 1) := dk_133 (dk_at dksX0_paceOf_0 7 rfl rfl)
theorem dX0_paceOf_8 : decode cX0_paceOf 8 = .ok (.lastore, 1) := dk_80 (dk_at dksX0_paceOf_0 8 rfl rfl)
theorem dX0_paceOf_9 : decode cX0_paceOf 9 = .ok (.goto 6, 3) := dk_167 0 6 (dk_at dksX0_paceOf_0 9 rfl rfl)
theorem dX0_paceOf_12 : decode cX0_paceOf 12 = .ok (.astore_n 3, 1) := dk_78 (dk_at dksX0_paceOf_0 12 rfl rfl)
theorem dX0_paceOf_13 : decode cX0_paceOf 13 = .ok (.iconst 1, 1) := dk_4 (dk_at dksX0_paceOf_0 13 rfl rfl)
theorem dX0_paceOf_14 : decode cX0_paceOf 14 = .ok (.ireturn, 1) := dk_172 (dk_at dksX0_paceOf_0 14 rfl rfl)
theorem dX0_paceOf_15 : decode cX0_paceOf 15 = .ok (.iconst 0, 1) := dk_3 (dk_at dksX0_paceOf_0 15 rfl rfl)
theorem dX0_paceOf_16 : decode cX0_paceOf 16 = .ok (.ireturn, 1) := dk_172 (dk_at dksX0_paceOf_0 16 rfl rfl)
abbrev cX0_lotsIn : ByteArray := method_29_code
def yX0_lotsIn : MethodName := ⟨RX0, "lotsIn", "(LMaltDrums;I[J)I"⟩
def dkwX0_lotsIn_0 : List UInt8 := [44, 3, 42, 27, 182, 0, 97, 133, 80, 167, 0, 6, 78, 4, 172, 3, 172]
abbrev dktX0_lotsIn_0 : List UInt8 := dkwX0_lotsIn_0 ++ []
theorem dksX0_lotsIn_0 : cX0_lotsIn.data.toList.drop 0 = dktX0_lotsIn_0 := by decide +kernel
theorem dX0_lotsIn_0 : decode cX0_lotsIn 0 = .ok (.aload_n 2, 1) := dk_44 (dk_at dksX0_lotsIn_0 0 rfl rfl)
theorem dX0_lotsIn_1 : decode cX0_lotsIn 1 = .ok (.iconst 0, 1) := dk_3 (dk_at dksX0_lotsIn_0 1 rfl rfl)
theorem dX0_lotsIn_2 : decode cX0_lotsIn 2 = .ok (.aload_n 0, 1) := dk_42 (dk_at dksX0_lotsIn_0 2 rfl rfl)
theorem dX0_lotsIn_3 : decode cX0_lotsIn 3 = .ok (.iload_n 1, 1) := dk_27 (dk_at dksX0_lotsIn_0 3 rfl rfl)
theorem dX0_lotsIn_4 : decode cX0_lotsIn 4 = .ok (.invokevirtual 97, 3) := dk_182 0 97 (dk_at dksX0_lotsIn_0 4 rfl rfl)
theorem dX0_lotsIn_7 : decode cX0_lotsIn 7 = .ok (.i2l, 1) := dk_133 (dk_at dksX0_lotsIn_0 7 rfl rfl)
theorem dX0_lotsIn_8 : decode cX0_lotsIn 8 = .ok (.lastore, 1) := dk_80 (dk_at dksX0_lotsIn_0 8 rfl rfl)
theorem dX0_lotsIn_9 : decode cX0_lotsIn 9 = .ok (.goto 6, 3) := dk_167 0 6 (dk_at dksX0_lotsIn_0 9 rfl rfl)
theorem dX0_lotsIn_12 : decode cX0_lotsIn 12 = .ok (.astore_n 3, 1) := dk_78 (dk_at dksX0_lotsIn_0 12 rfl rfl)
theorem dX0_lotsIn_13 : decode cX0_lotsIn 13 = .ok (.iconst 1, 1) := dk_4 (dk_at dksX0_lotsIn_0 13 rfl rfl)
theorem dX0_lotsIn_14 : decode cX0_lotsIn 14 = .ok (.ireturn, 1) := dk_172 (dk_at dksX0_lotsIn_0 14 rfl rfl)
theorem dX0_lotsIn_15 : decode cX0_lotsIn 15 = .ok (.iconst 0, 1) := dk_3 (dk_at dksX0_lotsIn_0 15 rfl rfl)
theorem dX0_lotsIn_16 : decode cX0_lotsIn 16 = .ok (.ireturn, 1) := dk_172 (dk_at dksX0_lotsIn_0 16 rfl rfl)
abbrev cX0_ripest : ByteArray := method_30_code
def yX0_ripest : MethodName := ⟨RX0, "ripest", "(LMaltDrums;I[J)I"⟩
def dkwX0_ripest_0 : List UInt8 := [44, 3, 42, 27, 182, 0, 100, 133, 80, 167, 0, 6, 78, 4, 172, 3, 172]
abbrev dktX0_ripest_0 : List UInt8 := dkwX0_ripest_0 ++ []
theorem dksX0_ripest_0 : cX0_ripest.data.toList.drop 0 = dktX0_ripest_0 := by decide +kernel
theorem dX0_ripest_0 : decode cX0_ripest 0 = .ok (.aload_n 2, 1) := dk_44 (dk_at dksX0_ripest_0 0 rfl rfl)
theorem dX0_ripest_1 : decode cX0_ripest 1 = .ok (.iconst 0, 1) := dk_3 (dk_at dksX0_ripest_0 1 rfl rfl)
theorem dX0_ripest_2 : decode cX0_ripest 2 = .ok (.aload_n 0, 1) := dk_42 (dk_at dksX0_ripest_0 2 rfl rfl)
theorem dX0_ripest_3 : decode cX0_ripest 3 = .ok (.iload_n 1, 1) := dk_27 (dk_at dksX0_ripest_0 3 rfl rfl)
theorem dX0_ripest_4 : decode cX0_ripest 4 = .ok (.invokevirtual 100, 3) := dk_182 0 100 (dk_at dksX0_ripest_0 4 rfl rfl)
theorem dX0_ripest_7 : decode cX0_ripest 7 = .ok (.i2l, 1) := dk_133 (dk_at dksX0_ripest_0 7 rfl rfl)
theorem dX0_ripest_8 : decode cX0_ripest 8 = .ok (.lastore, 1) := dk_80 (dk_at dksX0_ripest_0 8 rfl rfl)
theorem dX0_ripest_9 : decode cX0_ripest 9 = .ok (.goto 6, 3) := dk_167 0 6 (dk_at dksX0_ripest_0 9 rfl rfl)
theorem dX0_ripest_12 : decode cX0_ripest 12 = .ok (.astore_n 3, 1) := dk_78 (dk_at dksX0_ripest_0 12 rfl rfl)
theorem dX0_ripest_13 : decode cX0_ripest 13 = .ok (.iconst 1, 1) := dk_4 (dk_at dksX0_ripest_0 13 rfl rfl)
theorem dX0_ripest_14 : decode cX0_ripest 14 = .ok (.ireturn, 1) := dk_172 (dk_at dksX0_ripest_0 14 rfl rfl)
theorem dX0_ripest_15 : decode cX0_ripest 15 = .ok (.iconst 0, 1) := dk_3 (dk_at dksX0_ripest_0 15 rfl rfl)
theorem dX0_ripest_16 : decode cX0_ripest 16 = .ok (.ireturn, 1) := dk_172 (dk_at dksX0_ripest_0 16 rfl rfl)
abbrev cX0_lotIn : ByteArray := method_31_code
def yX0_lotIn : MethodName := ⟨RX0, "lotIn", "(LMaltDrums;I[J)I"⟩
def dkwX0_lotIn_0 : List UInt8 := [44, 3, 42, 27, 182, 0, 103, 133, 80, 167, 0, 6, 78, 4, 172, 3, 172]
abbrev dktX0_lotIn_0 : List UInt8 := dkwX0_lotIn_0 ++ []
theorem dksX0_lotIn_0 : cX0_lotIn.data.toList.drop 0 = dktX0_lotIn_0 := by decide +kernel
theorem dX0_lotIn_0 : decode cX0_lotIn 0 = .ok (.aload_n 2, 1) := dk_44 (dk_at dksX0_lotIn_0 0 rfl rfl)
theorem dX0_lotIn_1 : decode cX0_lotIn 1 = .ok (.iconst 0, 1) := dk_3 (dk_at dksX0_lotIn_0 1 rfl rfl)
theorem dX0_lotIn_2 : decode cX0_lotIn 2 = .ok (.aload_n 0, 1) := dk_42 (dk_at dksX0_lotIn_0 2 rfl rfl)
theorem dX0_lotIn_3 : decode cX0_lotIn 3 = .ok (.iload_n 1, 1) := dk_27 (dk_at dksX0_lotIn_0 3 rfl rfl)
theorem dX0_lotIn_4 : decode cX0_lotIn 4 = .ok (.invokevirtual 103, 3) := dk_182 0 103 (dk_at dksX0_lotIn_0 4 rfl rfl)
theorem dX0_lotIn_7 : decode cX0_lotIn 7 = .ok (.i2l, 1) := dk_133 (dk_at dksX0_lotIn_0 7 rfl rfl)
theorem dX0_lotIn_8 : decode cX0_lotIn 8 = .ok (.lastore, 1) := dk_80 (dk_at dksX0_lotIn_0 8 rfl rfl)
theorem dX0_lotIn_9 : decode cX0_lotIn 9 = .ok (.goto 6, 3) := dk_167 0 6 (dk_at dksX0_lotIn_0 9 rfl rfl)
theorem dX0_lotIn_12 : decode cX0_lotIn 12 = .ok (.astore_n 3, 1) := dk_78 (dk_at dksX0_lotIn_0 12 rfl rfl)
theorem dX0_lotIn_13 : decode cX0_lotIn 13 = .ok (.iconst 1, 1) := dk_4 (dk_at dksX0_lotIn_0 13 rfl rfl)
theorem dX0_lotIn_14 : decode cX0_lotIn 14 = .ok (.ireturn, 1) := dk_172 (dk_at dksX0_lotIn_0 14 rfl rfl)
theorem dX0_lotIn_15 : decode cX0_lotIn 15 = .ok (.iconst 0, 1) := dk_3 (dk_at dksX0_lotIn_0 15 rfl rfl)
theorem dX0_lotIn_16 : decode cX0_lotIn 16 = .ok (.ireturn, 1) := dk_172 (dk_at dksX0_lotIn_0 16 rfl rfl)
abbrev cX0_settingsOf : ByteArray := method_32_code
def yX0_settingsOf : MethodName := ⟨RX0, "settingsOf", "(LMaltDrums;I[J)I"⟩
def dkwX0_settingsOf_0 : List UInt8 := [44, 3, 42, 27, 182, 0, 106, 133, 80, 167, 0, 6, 78, 4, 172, 3, 172]
abbrev dktX0_settingsOf_0 : List UInt8 := dkwX0_settingsOf_0 ++ []
theorem dksX0_settingsOf_0 : cX0_settingsOf.data.toList.drop 0 = dktX0_settingsOf_0 := by decide +kernel
theorem dX0_settingsOf_0 : decode cX0_settingsOf 0 = .ok (.aload_n 2, 1) := dk_44 (dk_at dksX0_settingsOf_0 0 rfl rfl)
theorem dX0_settingsOf_1 : decode cX0_settingsOf 1 = .ok (.iconst 0, 1) := dk_3 (dk_at dksX0_settingsOf_0 1 rfl rfl)
theorem dX0_settingsOf_2 : decode cX0_settingsOf 2 = .ok (.aload_n 0, 1) := dk_42 (dk_at dksX0_settingsOf_0 2 rfl rfl)
theorem dX0_settingsOf_3 : decode cX0_settingsOf 3 = .ok (.iload_n 1, 1) := dk_27 (dk_at dksX0_settingsOf_0 3 rfl rfl)
theorem dX0_settingsOf_4 : decode cX0_settingsOf 4 = .ok (.invokevirtual 106, 3) := dk_182 0 106 (dk_at dksX0_settingsOf_0 4 rfl rfl)
theorem dX0_settingsOf_7 : decode cX0_settingsOf 7 = .ok (.i2l, 1) := dk_133 (dk_at dksX0_settingsOf_0 7 rfl rfl)
theorem dX0_settingsOf_8 : decode cX0_settingsOf 8 = .ok (.lastore, 1) := dk_80 (dk_at dksX0_settingsOf_0 8 rfl rfl)
theorem dX0_settingsOf_9 : decode cX0_settingsOf 9 = .ok (.goto 6, 3) := dk_167 0 6 (dk_at dksX0_settingsOf_0 9 rfl rfl)
theorem dX0_settingsOf_12 : decode cX0_settingsOf 12 = .ok (.astore_n 3, 1) := dk_78 (dk_at dksX0_settingsOf_0 12 rfl rfl)
theorem dX0_settingsOf_13 : decode cX0_settingsOf 13 = .ok (.iconst 1, 1) := dk_4 (dk_at dksX0_settingsOf_0 13 rfl rfl)
theorem dX0_settingsOf_14 : decode cX0_settingsOf 14 = .ok (.ireturn, 1) := dk_172 (dk_at dksX0_settingsOf_0 14 rfl rfl)
theorem dX0_settingsOf_15 : decode cX0_settingsOf 15 = .ok (.iconst 0, 1) := dk_3 (dk_at dksX0_settingsOf_0 15 rfl rfl)
theorem dX0_settingsOf_16 : decode cX0_settingsOf 16 = .ok (.ireturn, 1) := dk_172 (dk_at dksX0_settingsOf_0 16 rfl rfl)
abbrev cX0_whyNotSteep : ByteArray := method_33_code
def yX0_whyNotSteep : MethodName := ⟨RX0, "whyNotSteep", "(LMaltDrums;I[J)I"⟩
def dkwX0_whyNotSteep_0 : List UInt8 := [44, 3, 42, 27, 182, 0, 109, 133, 80, 167, 0, 6, 78, 4, 172, 3, 172]
abbrev dktX0_whyNotSteep_0 : List UInt8 := dkwX0_whyNotSteep_0 ++ []
theorem dksX0_whyNotSteep_0 : cX0_whyNotSteep.data.toList.drop 0 = dktX0_whyNotSteep_0 := by decide +kernel
theorem dX0_whyNotSteep_0 : decode cX0_whyNotSteep 0 = .ok (.aload_n 2, 1) := dk_44 (dk_at dksX0_whyNotSteep_0 0 rfl rfl)
theorem dX0_whyNotSteep_1 : decode cX0_whyNotSteep 1 = .ok (.iconst 0, 1) := dk_3 (dk_at dksX0_whyNotSteep_0 1 rfl rfl)
theorem dX0_whyNotSteep_2 : decode cX0_whyNotSteep 2 = .ok (.aload_n 0, 1) := dk_42 (dk_at dksX0_whyNotSteep_0 2 rfl rfl)
theorem dX0_whyNotSteep_3 : decode cX0_whyNotSteep 3 = .ok (.iload_n 1, 1) := dk_27 (dk_at dksX0_whyNotSteep_0 3 rfl rfl)
theorem dX0_whyNotSteep_4 : decode cX0_whyNotSteep 4 = .ok (.invokevirtual 109, 3) := dk_182 0 109 (dk_at dksX0_whyNotSteep_0 4 rfl rfl)
theorem dX0_whyNotSteep_7 : decode cX0_whyNotSteep 7 = .ok (.i2l, 1) := dk_133 (dk_at dksX0_whyNotSteep_0 7 rfl rfl)
theorem dX0_whyNotSteep_8 : decode cX0_whyNotSteep 8 = .ok (.lastore, 1) := dk_80 (dk_at dksX0_whyNotSteep_0 8 rfl rfl)
theorem dX0_whyNotSteep_9 : decode cX0_whyNotSteep 9 = .ok (.goto 6, 3) := dk_167 0 6 (dk_at dksX0_whyNotSteep_0 9 rfl rfl)
theorem dX0_whyNotSteep_12 : decode cX0_whyNotSteep 12 = .ok (.astore_n 3, 1) := dk_78 (dk_at dksX0_whyNotSteep_0 12 rfl rfl)
theorem dX0_whyNotSteep_13 : decode cX0_whyNotSteep 13 = .ok (.iconst 1, 1) := dk_4 (dk_at dksX0_whyNotSteep_0 13 rfl rfl)
theorem dX0_whyNotSteep_14 : decode cX0_whyNotSteep 14 = .ok (.ireturn, 1) := dk_172 (dk_at dksX0_whyNotSteep_0 14 rfl rfl)
theorem dX0_whyNotSteep_15 : decode cX0_whyNotSteep 15 = .ok (.iconst 0, 1) := dk_3 (dk_at dksX0_whyNotSteep_0 15 rfl rfl)
theorem dX0_whyNotSteep_16 : decode cX0_whyNotSteep 16 = .ok (.ireturn, 1) := dk_172 (dk_at dksX0_whyNotSteep_0 16 rfl rfl)
abbrev cX0_whyNotDrum : ByteArray := method_34_code
def yX0_whyNotDrum : MethodName := ⟨RX0, "whyNotDrum", "(LMaltDrums;II[J)I"⟩
def dkwX0_whyNotDrum_0 : List UInt8 := [45, 3, 42, 27, 28, 182, 0, 112, 133, 80, 167, 0, 7, 58, 4, 4, 172, 3, 172]
abbrev dktX0_whyNotDrum_0 : List UInt8 := dkwX0_whyNotDrum_0 ++ []
theorem dksX0_whyNotDrum_0 : cX0_whyNotDrum.data.toList.drop 0 = dktX0_whyNotDrum_0 := by decide +kernel
theorem dX0_whyNotDrum_0 : decode cX0_whyNotDrum 0 = .ok (.aload_n 3, 1) := dk_45 (dk_at dksX0_whyNotDrum_0 0 rfl rfl)
theorem dX0_whyNotDrum_1 : decode cX0_whyNotDrum 1 = .ok (.iconst 0, 1) := dk_3 (dk_at dksX0_whyNotDrum_0 1 rfl rfl)
theorem dX0_whyNotDrum_2 : decode cX0_whyNotDrum 2 = .ok (.aload_n 0, 1) := dk_42 (dk_at dksX0_whyNotDrum_0 2 rfl rfl)
theorem dX0_whyNotDrum_3 : decode cX0_whyNotDrum 3 = .ok (.iload_n 1, 1) := dk_27 (dk_at dksX0_whyNotDrum_0 3 rfl rfl)
theorem dX0_whyNotDrum_4 : decode cX0_whyNotDrum 4 = .ok (.iload_n 2, 1) := dk_28 (dk_at dksX0_whyNotDrum_0 4 rfl rfl)
theorem dX0_whyNotDrum_5 : decode cX0_whyNotDrum 5 = .ok (.invokevirtual 112, 3) := dk_182 0 112 (dk_at dksX0_whyNotDrum_0 5 rfl rfl)
theorem dX0_whyNotDrum_8 : decode cX0_whyNotDrum 8 = .ok (.i2l, 1) := dk_133 (dk_at dksX0_whyNotDrum_0 8 rfl rfl)
theorem dX0_whyNotDrum_9 : decode cX0_whyNotDrum 9 = .ok (.lastore, 1) := dk_80 (dk_at dksX0_whyNotDrum_0 9 rfl rfl)
theorem dX0_whyNotDrum_10 : decode cX0_whyNotDrum 10 = .ok (.goto 7, 3) := dk_167 0 7 (dk_at dksX0_whyNotDrum_0 10 rfl rfl)
theorem dX0_whyNotDrum_13 : decode cX0_whyNotDrum 13 = .ok (.astore 4, 2) := dk_58 4 (dk_at dksX0_whyNotDrum_0 13 rfl rfl)
theorem dX0_whyNotDrum_15 : decode cX0_whyNotDrum 15 = .ok (.iconst 1, 1) := dk_4 (dk_at dksX0_whyNotDrum_0 15 rfl rfl)
theorem dX0_whyNotDrum_16 : decode cX0_whyNotDrum 16 = .ok (.ireturn, 1) := dk_172 (dk_at dksX0_whyNotDrum_0 16 rfl rfl)
theorem dX0_whyNotDrum_17 : decode cX0_whyNotDrum 17 = .ok (.iconst 0, 1) := dk_3 (dk_at dksX0_whyNotDrum_0 17 rfl rfl)
theorem dX0_whyNotDrum_18 : decode cX0_whyNotDrum 18 = .ok (.ireturn, 1) := dk_172 (dk_at dksX0_whyNotDrum_0 18 rfl rfl)
abbrev cX0_whyNotLoad : ByteArray := method_35_code
def yX0_whyNotLoad : MethodName := ⟨RX0, "whyNotLoad", "(LMaltDrums;I[J)I"⟩
def dkwX0_whyNotLoad_0 : List UInt8 := [44, 3, 42, 27, 182, 0, 115, 133, 80, 167, 0, 6, 78, 4, 172, 3, 172]
abbrev dktX0_whyNotLoad_0 : List UInt8 := dkwX0_whyNotLoad_0 ++ []
theorem dksX0_whyNotLoad_0 : cX0_whyNotLoad.data.toList.drop 0 = dktX0_whyNotLoad_0 := by decide +kernel
theorem dX0_whyNotLoad_0 : decode cX0_whyNotLoad 0 = .ok (.aload_n 2, 1) := dk_44 (dk_at dksX0_whyNotLoad_0 0 rfl rfl)
theorem dX0_whyNotLoad_1 : decode cX0_whyNotLoad 1 = .ok (.iconst 0, 1) := dk_3 (dk_at dksX0_whyNotLoad_0 1 rfl rfl)
theorem dX0_whyNotLoad_2 : decode cX0_whyNotLoad 2 = .ok (.aload_n 0, 1) := dk_42 (dk_at dksX0_whyNotLoad_0 2 rfl rfl)
theorem dX0_whyNotLoad_3 : decode cX0_whyNotLoad 3 = .ok (.iload_n 1, 1) := dk_27 (dk_at dksX0_whyNotLoad_0 3 rfl rfl)
theorem dX0_whyNotLoad_4 : decode cX0_whyNotLoad 4 = .ok (.invokevirtual 115, 3) := dk_182 0 115 (dk_at dksX0_whyNotLoad_0 4 rfl rfl)
theorem dX0_whyNotLoad_7 : decode cX0_whyNotLoad 7 = .ok (.i2l, 1) := dk_133 (dk_at dksX0_whyNotLoad_0 7 rfl rfl)
theorem dX0_whyNotLoad_8 : decode cX0_whyNotLoad 8 = .ok (.lastore, 1) := dk_80 (dk_at dksX0_whyNotLoad_0 8 rfl rfl)
theorem dX0_whyNotLoad_9 : decode cX0_whyNotLoad 9 = .ok (.goto 6, 3) := dk_167 0 6 (dk_at dksX0_whyNotLoad_0 9 rfl rfl)
theorem dX0_whyNotLoad_12 : decode cX0_whyNotLoad 12 = .ok (.astore_n 3, 1) := dk_78 (dk_at dksX0_whyNotLoad_0 12 rfl rfl)
theorem dX0_whyNotLoad_13 : decode cX0_whyNotLoad 13 = .ok (.iconst 1, 1) := dk_4 (dk_at dksX0_whyNotLoad_0 13 rfl rfl)
theorem dX0_whyNotLoad_14 : decode cX0_whyNotLoad 14 = .ok (.ireturn, 1) := dk_172 (dk_at dksX0_whyNotLoad_0 14 rfl rfl)
theorem dX0_whyNotLoad_15 : decode cX0_whyNotLoad 15 = .ok (.iconst 0, 1) := dk_3 (dk_at dksX0_whyNotLoad_0 15 rfl rfl)
theorem dX0_whyNotLoad_16 : decode cX0_whyNotLoad 16 = .ok (.ireturn, 1) := dk_172 (dk_at dksX0_whyNotLoad_0 16 rfl rfl)
abbrev cX0_whyNotSpray : ByteArray := method_36_code
def yX0_whyNotSpray : MethodName := ⟨RX0, "whyNotSpray", "(LMaltDrums;I[J)I"⟩
def dkwX0_whyNotSpray_0 : List UInt8 := [44, 3, 42, 27, 182, 0, 118, 133, 80, 167, 0, 6, 78, 4, 172, 3, 172]
abbrev dktX0_whyNotSpray_0 : List UInt8 := dkwX0_whyNotSpray_0 ++ []
theorem dksX0_whyNotSpray_0 : cX0_whyNotSpray.data.toList.drop 0 = dktX0_whyNotSpray_0 := by decide +kernel
theorem dX0_whyNotSpray_0 : decode cX0_whyNotSpray 0 = .ok (.aload_n 2, 1) := dk_44 (dk_at dksX0_whyNotSpray_0 0 rfl rfl)
theorem dX0_whyNotSpray_1 : decode cX0_whyNotSpray 1 = .ok (.iconst 0, 1) := dk_3 (dk_at dksX0_whyNotSpray_0 1 rfl rfl)
theorem dX0_whyNotSpray_2 : decode cX0_whyNotSpray 2 = .ok (.aload_n 0, 1) := dk_42 (dk_at dksX0_whyNotSpray_0 2 rfl rfl)
theorem dX0_whyNotSpray_3 : decode cX0_whyNotSpray 3 = .ok (.iload_n 1, 1) := dk_27 (dk_at dksX0_whyNotSpray_0 3 rfl rfl)
theorem dX0_whyNotSpray_4 : decode cX0_whyNotSpray 4 = .ok (.invokevirtual 118, 3) := dk_182 0 118 (dk_at dksX0_whyNotSpray_0 4 rfl rfl)
theorem dX0_whyNotSpray_7 : decode cX0_whyNotSpray 7 = .ok (.i2l, 1) := dk_133 (dk_at dksX0_whyNotSpray_0 7 rfl rfl)
theorem dX0_whyNotSpray_8 : decode cX0_whyNotSpray 8 = .ok (.lastore, 1) := dk_80 (dk_at dksX0_whyNotSpray_0 8 rfl rfl)
theorem dX0_whyNotSpray_9 : decode cX0_whyNotSpray 9 = .ok (.goto 6, 3) := dk_167 0 6 (dk_at dksX0_whyNotSpray_0 9 rfl rfl)
theorem dX0_whyNotSpray_12 : decode cX0_whyNotSpray 12 = .ok (.astore_n 3, 1) := dk_78 (dk_at dksX0_whyNotSpray_0 12 rfl rfl)
theorem dX0_whyNotSpray_13 : decode cX0_whyNotSpray 13 = .ok (.iconst 1, 1) := dk_4 (dk_at dksX0_whyNotSpray_0 13 rfl rfl)
theorem dX0_whyNotSpray_14 : decode cX0_whyNotSpray 14 = .ok (.ireturn, 1) := dk_172 (dk_at dksX0_whyNotSpray_0 14 rfl rfl)
theorem dX0_whyNotSpray_15 : decode cX0_whyNotSpray 15 = .ok (.iconst 0, 1) := dk_3 (dk_at dksX0_whyNotSpray_0 15 rfl rfl)
theorem dX0_whyNotSpray_16 : decode cX0_whyNotSpray 16 = .ok (.ireturn, 1) := dk_172 (dk_at dksX0_whyNotSpray_0 16 rfl rfl)
abbrev cX0_hoursToGrow : ByteArray := method_37_code
def yX0_hoursToGrow : MethodName := ⟨RX0, "hoursToGrow", "(LMaltDrums;II[J)I"⟩
def dkwX0_hoursToGrow_0 : List UInt8 := [45, 3, 42, 27, 28, 182, 0, 121, 133, 80, 167, 0, 11, 58, 4, 4, 172, 58, 4, 5, 172, 3, 172]
abbrev dktX0_hoursToGrow_0 : List UInt8 := dkwX0_hoursToGrow_0 ++ []
theorem dksX0_hoursToGrow_0 : cX0_hoursToGrow.data.toList.drop 0 = dktX0_hoursToGrow_0 := by decide +kernel
theorem dX0_hoursToGrow_0 : decode cX0_hoursToGrow 0 = .ok (.aload_n 3, 1) := dk_45 (dk_at dksX0_hoursToGrow_0 0 rfl rfl)
theorem dX0_hoursToGrow_1 : decode cX0_hoursToGrow 1 = .ok (.iconst 0, 1) := dk_3 (dk_at dksX0_hoursToGrow_0 1 rfl rfl)
theorem dX0_hoursToGrow_2 : decode cX0_hoursToGrow 2 = .ok (.aload_n 0, 1) := dk_42 (dk_at dksX0_hoursToGrow_0 2 rfl rfl)
theorem dX0_hoursToGrow_3 : decode cX0_hoursToGrow 3 = .ok (.iload_n 1, 1) := dk_27 (dk_at dksX0_hoursToGrow_0 3 rfl rfl)
theorem dX0_hoursToGrow_4 : decode cX0_hoursToGrow 4 = .ok (.iload_n 2, 1) := dk_28 (dk_at dksX0_hoursToGrow_0 4 rfl rfl)
theorem dX0_hoursToGrow_5 : decode cX0_hoursToGrow 5 = .ok (.invokevirtual 121, 3) := dk_182 0 121 (dk_at dksX0_hoursToGrow_0 5 rfl rfl)
theorem dX0_hoursToGrow_8 : decode cX0_hoursToGrow 8 = .ok (.i2l, 1) := dk_133 (dk_at dksX0_hoursToGrow_0 8 rfl rfl)
theorem dX0_hoursToGrow_9 : decode cX0_hoursToGrow 9 = .ok (.lastore, 1) := dk_80 (dk_at dksX0_hoursToGrow_0 9 rfl rfl)
theorem dX0_hoursToGrow_10 : decode cX0_hoursToGrow 10 = .ok (.goto 11, 3) := dk_167 0 11 (dk_at dksX0_hoursToGrow_0 10 rfl rfl)
theorem dX0_hoursToGrow_13 : decode cX0_hoursToGrow 13 = .ok (.astore 4, 2) := dk_58 4 (dk_at dksX0_hoursToGrow_0 13 rfl rfl)
theorem dX0_hoursToGrow_15 : decode cX0_hoursToGrow 15 = .ok (.iconst 1, 1) := dk_4 (dk_at dksX0_hoursToGrow_0 15 rfl rfl)
theorem dX0_hoursToGrow_16 : decode cX0_hoursToGrow 16 = .ok (.ireturn, 1) := dk_172 (dk_at dksX0_hoursToGrow_0 16 rfl rfl)
theorem dX0_hoursToGrow_17 : decode cX0_hoursToGrow 17 = .ok (.astore 4, 2) := dk_58 4 (dk_at dksX0_hoursToGrow_0 17 rfl rfl)
theorem dX0_hoursToGrow_19 : decode cX0_hoursToGrow 19 = .ok (.iconst 2, 1) := dk_5 (dk_at dksX0_hoursToGrow_0 19 rfl rfl)
theorem dX0_hoursToGrow_20 : decode cX0_hoursToGrow 20 = .ok (.ireturn, 1) := dk_172 (dk_at dksX0_hoursToGrow_0 20 rfl rfl)
theorem dX0_hoursToGrow_21 : decode cX0_hoursToGrow 21 = .ok (.iconst 0, 1) := dk_3 (dk_at dksX0_hoursToGrow_0 21 rfl rfl)
theorem dX0_hoursToGrow_22 : decode cX0_hoursToGrow 22 = .ok (.ireturn, 1) := dk_172 (dk_at dksX0_hoursToGrow_0 22 rfl rfl)
abbrev cX0_hoursToSpoil : ByteArray := method_38_code
def yX0_hoursToSpoil : MethodName := ⟨RX0, "hoursToSpoil", "(LMaltDrums;I[J)I"⟩
def dkwX0_hoursToSpoil_0 : List UInt8 := [44, 3, 42, 27, 182, 0, 124, 133, 80, 167, 0, 6, 78, 4, 172, 3, 172]
abbrev dktX0_hoursToSpoil_0 : List UInt8 := dkwX0_hoursToSpoil_0 ++ []
theorem dksX0_hoursToSpoil_0 : cX0_hoursToSpoil.data.toList.drop 0 = dktX0_hoursToSpoil_0 := by decide +kernel
theorem dX0_hoursToSpoil_0 : decode cX0_hoursToSpoil 0 = .ok (.aload_n 2, 1) := dk_44 (dk_at dksX0_hoursToSpoil_0 0 rfl rfl)
theorem dX0_hoursToSpoil_1 : decode cX0_hoursToSpoil 1 = .ok (.iconst 0, 1) := dk_3 (dk_at dksX0_hoursToSpoil_0 1 rfl rfl)
theorem dX0_hoursToSpoil_2 : decode cX0_hoursToSpoil 2 = .ok (.aload_n 0, 1) := dk_42 (dk_at dksX0_hoursToSpoil_0 2 rfl rfl)
theorem dX0_hoursToSpoil_3 : decode cX0_hoursToSpoil 3 = .ok (.iload_n 1, 1) := dk_27 (dk_at dksX0_hoursToSpoil_0 3 rfl rfl)
theorem dX0_hoursToSpoil_4 : decode cX0_hoursToSpoil 4 = .ok (.invokevirtual 124, 3) := dk_182 0 124 (dk_at dksX0_hoursToSpoil_0 4 rfl rfl)
theorem dX0_hoursToSpoil_7 : decode cX0_hoursToSpoil 7 = .ok (.i2l, 1) := dk_133 (dk_at dksX0_hoursToSpoil_0 7 rfl rfl)
theorem dX0_hoursToSpoil_8 : decode cX0_hoursToSpoil 8 = .ok (.lastore, 1) := dk_80 (dk_at dksX0_hoursToSpoil_0 8 rfl rfl)
theorem dX0_hoursToSpoil_9 : decode cX0_hoursToSpoil 9 = .ok (.goto 6, 3) := dk_167 0 6 (dk_at dksX0_hoursToSpoil_0 9 rfl rfl)
theorem dX0_hoursToSpoil_12 : decode cX0_hoursToSpoil 12 = .ok (.astore_n 3, 1) := dk_78 (dk_at dksX0_hoursToSpoil_0 12 rfl rfl)
theorem dX0_hoursToSpoil_13 : decode cX0_hoursToSpoil 13 = .ok (.iconst 1, 1) := dk_4 (dk_at dksX0_hoursToSpoil_0 13 rfl rfl)
theorem dX0_hoursToSpoil_14 : decode cX0_hoursToSpoil 14 = .ok (.ireturn, 1) := dk_172 (dk_at dksX0_hoursToSpoil_0 14 rfl rfl)
theorem dX0_hoursToSpoil_15 : decode cX0_hoursToSpoil 15 = .ok (.iconst 0, 1) := dk_3 (dk_at dksX0_hoursToSpoil_0 15 rfl rfl)
theorem dX0_hoursToSpoil_16 : decode cX0_hoursToSpoil 16 = .ok (.ireturn, 1) := dk_172 (dk_at dksX0_hoursToSpoil_0 16 rfl rfl)
abbrev cX0_bestAir : ByteArray := method_39_code
def yX0_bestAir : MethodName := ⟨RX0, "bestAir", "(LMaltDrums;I[J)I"⟩
def dkwX0_bestAir_0 : List UInt8 := [44, 3, 42, 27, 182, 0, 127, 133, 80, 167, 0, 6, 78, 4, 172, 3, 172]
abbrev dktX0_bestAir_0 : List UInt8 := dkwX0_bestAir_0 ++ []
theorem dksX0_bestAir_0 : cX0_bestAir.data.toList.drop 0 = dktX0_bestAir_0 := by decide +kernel
theorem dX0_bestAir_0 : decode cX0_bestAir 0 = .ok (.aload_n 2, 1) := dk_44 (dk_at dksX0_bestAir_0 0 rfl rfl)
theorem dX0_bestAir_1 : decode cX0_bestAir 1 = .ok (.iconst 0, 1) := dk_3 (dk_at dksX0_bestAir_0 1 rfl rfl)
theorem dX0_bestAir_2 : decode cX0_bestAir 2 = .ok (.aload_n 0, 1) := dk_42 (dk_at dksX0_bestAir_0 2 rfl rfl)
theorem dX0_bestAir_3 : decode cX0_bestAir 3 = .ok (.iload_n 1, 1) := dk_27 (dk_at dksX0_bestAir_0 3 rfl rfl)
theorem dX0_bestAir_4 : decode cX0_bestAir 4 = .ok (.invokevirtual 127, 3) := dk_182 0 127 (dk_at dksX0_bestAir_0 4 rfl rfl)
theorem dX0_bestAir_7 : decode cX0_bestAir 7 = .ok (.i2l, 1) := dk_133 (dk_at dksX0_bestAir_0 7 rfl rfl)
theorem dX0_bestAir_8 : decode cX0_bestAir 8 = .ok (.lastore, 1) := dk_80 (dk_at dksX0_bestAir_0 8 rfl rfl)
theorem dX0_bestAir_9 : decode cX0_bestAir 9 = .ok (.goto 6, 3) := dk_167 0 6 (dk_at dksX0_bestAir_0 9 rfl rfl)
theorem dX0_bestAir_12 : decode cX0_bestAir 12 = .ok (.astore_n 3, 1) := dk_78 (dk_at dksX0_bestAir_0 12 rfl rfl)
theorem dX0_bestAir_13 : decode cX0_bestAir 13 = .ok (.iconst 1, 1) := dk_4 (dk_at dksX0_bestAir_0 13 rfl rfl)
theorem dX0_bestAir_14 : decode cX0_bestAir 14 = .ok (.ireturn, 1) := dk_172 (dk_at dksX0_bestAir_0 14 rfl rfl)
theorem dX0_bestAir_15 : decode cX0_bestAir 15 = .ok (.iconst 0, 1) := dk_3 (dk_at dksX0_bestAir_0 15 rfl rfl)
theorem dX0_bestAir_16 : decode cX0_bestAir 16 = .ok (.ireturn, 1) := dk_172 (dk_at dksX0_bestAir_0 16 rfl rfl)
abbrev cX0_entryAt : ByteArray := method_40_code
def yX0_entryAt : MethodName := ⟨RX0, "entryAt", "(LMaltDrums;I[J)I"⟩
def dkwX0_entryAt_0 : List UInt8 := [44, 3, 42, 27, 182, 0, 130, 133, 80, 167, 0, 6, 78, 4, 172, 3, 172]
abbrev dktX0_entryAt_0 : List UInt8 := dkwX0_entryAt_0 ++ []
theorem dksX0_entryAt_0 : cX0_entryAt.data.toList.drop 0 = dktX0_entryAt_0 := by decide +kernel
theorem dX0_entryAt_0 : decode cX0_entryAt 0 = .ok (.aload_n 2, 1) := dk_44 (dk_at dksX0_entryAt_0 0 rfl rfl)
theorem dX0_entryAt_1 : decode cX0_entryAt 1 = .ok (.iconst 0, 1) := dk_3 (dk_at dksX0_entryAt_0 1 rfl rfl)
theorem dX0_entryAt_2 : decode cX0_entryAt 2 = .ok (.aload_n 0, 1) := dk_42 (dk_at dksX0_entryAt_0 2 rfl rfl)
theorem dX0_entryAt_3 : decode cX0_entryAt 3 = .ok (.iload_n 1, 1) := dk_27 (dk_at dksX0_entryAt_0 3 rfl rfl)
theorem dX0_entryAt_4 : decode cX0_entryAt 4 = .ok (.invokevirtual 130, 3) := dk_182 0 130 (dk_at dksX0_entryAt_0 4 rfl rfl)
theorem dX0_entryAt_7 : decode cX0_entryAt 7 = .ok (.i2l, 1) := dk_133 (dk_at dksX0_entryAt_0 7 rfl rfl)
theorem dX0_entryAt_8 : decode cX0_entryAt 8 = .ok (.lastore, 1) := dk_80 (dk_at dksX0_entryAt_0 8 rfl rfl)
theorem dX0_entryAt_9 : decode cX0_entryAt 9 = .ok (.goto 6, 3) := dk_167 0 6 (dk_at dksX0_entryAt_0 9 rfl rfl)
theorem dX0_entryAt_12 : decode cX0_entryAt 12 = .ok (.astore_n 3, 1) := dk_78 (dk_at dksX0_entryAt_0 12 rfl rfl)
theorem dX0_entryAt_13 : decode cX0_entryAt 13 = .ok (.iconst 1, 1) := dk_4 (dk_at dksX0_entryAt_0 13 rfl rfl)
theorem dX0_entryAt_14 : decode cX0_entryAt 14 = .ok (.ireturn, 1) := dk_172 (dk_at dksX0_entryAt_0 14 rfl rfl)
theorem dX0_entryAt_15 : decode cX0_entryAt 15 = .ok (.iconst 0, 1) := dk_3 (dk_at dksX0_entryAt_0 15 rfl rfl)
theorem dX0_entryAt_16 : decode cX0_entryAt 16 = .ok (.ireturn, 1) := dk_172 (dk_at dksX0_entryAt_0 16 rfl rfl)
theorem q64 : (Jvm.Cond.initialized "MaltDrumsLaw") ∈ lw_all := lw_g (lw_at lw_m1 0 rfl) rfl
theorem q101 : (Jvm.Cond.classLink "MaltDrumsLaw" (8 : Nat) "MaltDrums") ∈ lw_all := lw_g (lw_at lw_m1 37 rfl) rfl
theorem q103 : (Jvm.Cond.methodLink "MaltDrumsLaw" (133 : Nat) ({ cls := "MaltDrums", name := "<init>", desc := "()V" } : Jvm.MethodName)) ∈ lw_all := lw_g (lw_at lw_m1 39 rfl) rfl
theorem q313 : (Jvm.Cond.methodLink "MaltDrumsLaw" (187 : Nat) ({ cls := "MaltDrums", name := "clearText", desc := "()I" } : Jvm.MethodName)) ∈ lw_all := lw_g (lw_at lw_m2 9 rfl) rfl
theorem q664 : (Jvm.Cond.methodLink "MaltDrumsLaw" (191 : Nat) ({ cls := "MaltDrums", name := "fault", desc := "()I" } : Jvm.MethodName)) ∈ lw_all := lw_g (lw_at lw_m3 120 rfl) rfl
theorem q956 : (Jvm.Cond.methodLink "MaltDrumsLaw" (201 : Nat) ({ cls := "MaltDrums", name := "savedStates", desc := "()I" } : Jvm.MethodName)) ∈ lw_all := lw_g (lw_at lw_m4 172 rfl) rfl
theorem q967 : (Jvm.Cond.methodLink "MaltDrumsLaw" (205 : Nat) ({ cls := "MaltDrums", name := "keep", desc := "()I" } : Jvm.MethodName)) ∈ lw_all := lw_g (lw_at lw_m4 183 rfl) rfl
theorem q977 : (Jvm.Cond.methodLink "MaltDrumsLaw" (212 : Nat) ({ cls := "MaltDrums", name := "lots", desc := "()I" } : Jvm.MethodName)) ∈ lw_all := lw_g (lw_at lw_m4 193 rfl) rfl
theorem q981 : (Jvm.Cond.methodLink "MaltDrumsLaw" (255 : Nat) ({ cls := "MaltDrums", name := "isLit", desc := "()Z" } : Jvm.MethodName)) ∈ lw_all := lw_g (lw_at lw_m4 197 rfl) rfl
theorem q985 : (Jvm.Cond.methodLink "MaltDrumsLaw" (260 : Nat) ({ cls := "MaltDrums", name := "litFor", desc := "()I" } : Jvm.MethodName)) ∈ lw_all := lw_g (lw_at lw_m4 201 rfl) rfl
theorem q989 : (Jvm.Cond.methodLink "MaltDrumsLaw" (264 : Nat) ({ cls := "MaltDrums", name := "charge", desc := "()I" } : Jvm.MethodName)) ∈ lw_all := lw_g (lw_at lw_m4 205 rfl) rfl
theorem q1001 : (Jvm.Cond.methodLink "MaltDrumsLaw" (268 : Nat) ({ cls := "MaltDrums", name := "spraysLeft", desc := "()I" } : Jvm.MethodName)) ∈ lw_all := lw_g (lw_at lw_m4 217 rfl) rfl
theorem q1005 : (Jvm.Cond.methodLink "MaltDrumsLaw" (290 : Nat) ({ cls := "MaltDrums", name := "hoursToDry", desc := "(Z)I" } : Jvm.MethodName)) ∈ lw_all := lw_g (lw_at lw_m4 221 rfl) rfl
theorem q1161 : (Jvm.Cond.methodLink "MaltDrumsLaw" (298 : Nat) ({ cls := "MaltDrums", name := "entries", desc := "()I" } : Jvm.MethodName)) ∈ lw_all := lw_g (lw_at lw_m5 137 rfl) rfl
theorem q1170 : (Jvm.Cond.methodLink "MaltDrumsLaw" (305 : Nat) ({ cls := "MaltDrums", name := "time", desc := "()I" } : Jvm.MethodName)) ∈ lw_all := lw_g (lw_at lw_m5 146 rfl) rfl
theorem q1174 : (Jvm.Cond.methodLink "MaltDrumsLaw" (309 : Nat) ({ cls := "MaltDrums", name := "steeped", desc := "(Z)I" } : Jvm.MethodName)) ∈ lw_all := lw_g (lw_at lw_m5 150 rfl) rfl
theorem q1198 : (Jvm.Cond.methodLink "MaltDrumsLaw" (313 : Nat) ({ cls := "MaltDrums", name := "malt", desc := "()I" } : Jvm.MethodName)) ∈ lw_all := lw_g (lw_at lw_m5 174 rfl) rfl
theorem q1199 : (Jvm.Cond.methodLink "MaltDrumsLaw" (317 : Nat) ({ cls := "MaltDrums", name := "culms", desc := "()I" } : Jvm.MethodName)) ∈ lw_all := lw_g (lw_at lw_m5 175 rfl) rfl
theorem q1200 : (Jvm.Cond.methodLink "MaltDrumsLaw" (321 : Nat) ({ cls := "MaltDrums", name := "spoilt", desc := "()I" } : Jvm.MethodName)) ∈ lw_all := lw_g (lw_at lw_m5 176 rfl) rfl
theorem q1201 : (Jvm.Cond.methodLink "MaltDrumsLaw" (325 : Nat) ({ cls := "MaltDrums", name := "breathed", desc := "()I" } : Jvm.MethodName)) ∈ lw_all := lw_g (lw_at lw_m5 177 rfl) rfl
theorem q1202 : (Jvm.Cond.methodLink "MaltDrumsLaw" (329 : Nat) ({ cls := "MaltDrums", name := "sprays", desc := "()I" } : Jvm.MethodName)) ∈ lw_all := lw_g (lw_at lw_m5 178 rfl) rfl
theorem q1206 : (Jvm.Cond.methodLink "MaltDrumsLaw" (333 : Nat) ({ cls := "MaltDrums", name := "meanGrowth", desc := "()D" } : Jvm.MethodName)) ∈ lw_all := lw_g (lw_at lw_m5 182 rfl) rfl
theorem q1216 : (Jvm.Cond.methodLink "MaltDrumsLaw" (338 : Nat) ({ cls := "MaltDrums", name := "meanHeat", desc := "()D" } : Jvm.MethodName)) ∈ lw_all := lw_g (lw_at lw_m5 192 rfl) rfl
theorem q1221 : (Jvm.Cond.methodLink "MaltDrumsLaw" (137 : Nat) ({ cls := "MaltDrumsLaw", name := "add", desc := "(LMaltDrums;I[J)I" } : Jvm.MethodName)) ∈ lw_all := lw_g (lw_at lw_m5 197 rfl) rfl
theorem q1222 : (Jvm.Cond.static ({ cls := "MaltDrumsLaw", name := "add", desc := "(LMaltDrums;I[J)I" } : Jvm.MethodName)) ∈ lw_all := lw_g (lw_at lw_m5 198 rfl) rfl
theorem q1223 : (Jvm.Cond.codeWith ({ cls := "MaltDrumsLaw", name := "add", desc := "(LMaltDrums;I[J)I" } : Jvm.MethodName) method_3_code (4 : Nat) (Option.some Jvm.ClassFile.FieldType.int) [((0 : Nat), (9 : Nat), (12 : Nat), (13 : Nat)), ((0 : Nat), (9 : Nat), (15 : Nat), (15 : Nat))]) ∈ lw_all := lw_g (lw_at lw_m5 199 rfl) rfl
theorem q1224 : (Jvm.Cond.classLink "MaltDrumsLaw" (13 : Nat) "java/lang/IllegalArgumentException") ∈ lw_all := lw_g (lw_at lw_m5 200 rfl) rfl
theorem q1225 : (Jvm.Cond.classLink "MaltDrumsLaw" (15 : Nat) "java/lang/IllegalStateException") ∈ lw_all := lw_g (lw_at lw_m5 201 rfl) rfl
theorem q1226 : (Jvm.Cond.methodLink "MaltDrumsLaw" (7 : Nat) ({ cls := "MaltDrums", name := "add", desc := "(I)I" } : Jvm.MethodName)) ∈ lw_all := lw_g (lw_at lw_m5 202 rfl) rfl
theorem q1297 : (Jvm.Cond.methodLink "MaltDrumsLaw" (146 : Nat) ({ cls := "MaltDrumsLaw", name := "steep", desc := "(LMaltDrums;I[J)I" } : Jvm.MethodName)) ∈ lw_all := lw_g (lw_at lw_m6 33 rfl) rfl
theorem q1298 : (Jvm.Cond.static ({ cls := "MaltDrumsLaw", name := "steep", desc := "(LMaltDrums;I[J)I" } : Jvm.MethodName)) ∈ lw_all := lw_g (lw_at lw_m6 34 rfl) rfl
theorem q1299 : (Jvm.Cond.codeWith ({ cls := "MaltDrumsLaw", name := "steep", desc := "(LMaltDrums;I[J)I" } : Jvm.MethodName) method_4_code (4 : Nat) (Option.some Jvm.ClassFile.FieldType.int) [((0 : Nat), (9 : Nat), (12 : Nat), (20 : Nat)), ((0 : Nat), (9 : Nat), (15 : Nat), (15 : Nat))]) ∈ lw_all := lw_g (lw_at lw_m6 35 rfl) rfl
theorem q1300 : (Jvm.Cond.classLink "MaltDrumsLaw" (20 : Nat) "java/lang/IndexOutOfBoundsException") ∈ lw_all := lw_g (lw_at lw_m6 36 rfl) rfl
theorem q1303 : (Jvm.Cond.methodLink "MaltDrumsLaw" (17 : Nat) ({ cls := "MaltDrums", name := "steep", desc := "(I)I" } : Jvm.MethodName)) ∈ lw_all := lw_g (lw_at lw_m6 39 rfl) rfl
theorem q1341 : (Jvm.Cond.methodLink "MaltDrumsLaw" (149 : Nat) ({ cls := "MaltDrumsLaw", name := "toDrum", desc := "(LMaltDrums;II[J)I" } : Jvm.MethodName)) ∈ lw_all := lw_g (lw_at lw_m6 77 rfl) rfl
theorem q1342 : (Jvm.Cond.static ({ cls := "MaltDrumsLaw", name := "toDrum", desc := "(LMaltDrums;II[J)I" } : Jvm.MethodName)) ∈ lw_all := lw_g (lw_at lw_m6 78 rfl) rfl
theorem q1343 : (Jvm.Cond.codeWith ({ cls := "MaltDrumsLaw", name := "toDrum", desc := "(LMaltDrums;II[J)I" } : Jvm.MethodName) method_5_code (5 : Nat) (Option.some Jvm.ClassFile.FieldType.int) [((0 : Nat), (10 : Nat), (13 : Nat), (20 : Nat)), ((0 : Nat), (10 : Nat), (17 : Nat), (15 : Nat))]) ∈ lw_all := lw_g (lw_at lw_m6 79 rfl) rfl
theorem q1344 : (Jvm.Cond.methodLink "MaltDrumsLaw" (22 : Nat) ({ cls := "MaltDrums", name := "toDrum", desc := "(II)I" } : Jvm.MethodName)) ∈ lw_all := lw_g (lw_at lw_m6 80 rfl) rfl
theorem q1359 : (Jvm.Cond.methodLink "MaltDrumsLaw" (153 : Nat) ({ cls := "MaltDrumsLaw", name := "toHeap", desc := "(LMaltDrums;I[J)I" } : Jvm.MethodName)) ∈ lw_all := lw_g (lw_at lw_m6 95 rfl) rfl
theorem q1360 : (Jvm.Cond.static ({ cls := "MaltDrumsLaw", name := "toHeap", desc := "(LMaltDrums;I[J)I" } : Jvm.MethodName)) ∈ lw_all := lw_g (lw_at lw_m6 96 rfl) rfl
theorem q1361 : (Jvm.Cond.codeWith ({ cls := "MaltDrumsLaw", name := "toHeap", desc := "(LMaltDrums;I[J)I" } : Jvm.MethodName) method_6_code (4 : Nat) (Option.some Jvm.ClassFile.FieldType.int) [((0 : Nat), (9 : Nat), (12 : Nat), (20 : Nat)), ((0 : Nat), (9 : Nat), (15 : Nat), (15 : Nat))]) ∈ lw_all := lw_g (lw_at lw_m6 97 rfl) rfl
theorem q1362 : (Jvm.Cond.methodLink "MaltDrumsLaw" (26 : Nat) ({ cls := "MaltDrums", name := "toHeap", desc := "(I)I" } : Jvm.MethodName)) ∈ lw_all := lw_g (lw_at lw_m6 98 rfl) rfl
theorem q1374 : (Jvm.Cond.methodLink "MaltDrumsLaw" (156 : Nat) ({ cls := "MaltDrumsLaw", name := "load", desc := "(LMaltDrums;I[J)I" } : Jvm.MethodName)) ∈ lw_all := lw_g (lw_at lw_m6 110 rfl) rfl
theorem q1375 : (Jvm.Cond.static ({ cls := "MaltDrumsLaw", name := "load", desc := "(LMaltDrums;I[J)I" } : Jvm.MethodName)) ∈ lw_all := lw_g (lw_at lw_m6 111 rfl) rfl
theorem q1376 : (Jvm.Cond.codeWith ({ cls := "MaltDrumsLaw", name := "load", desc := "(LMaltDrums;I[J)I" } : Jvm.MethodName) method_7_code (4 : Nat) (Option.some Jvm.ClassFile.FieldType.int) [((0 : Nat), (9 : Nat), (12 : Nat), (20 : Nat)), ((0 : Nat), (9 : Nat), (15 : Nat), (15 : Nat))]) ∈ lw_all := lw_g (lw_at lw_m6 112 rfl) rfl
theorem q1377 : (Jvm.Cond.methodLink "MaltDrumsLaw" (29 : Nat) ({ cls := "MaltDrums", name := "load", desc := "(I)I" } : Jvm.MethodName)) ∈ lw_all := lw_g (lw_at lw_m6 113 rfl) rfl
theorem q1390 : (Jvm.Cond.methodLink "MaltDrumsLaw" (159 : Nat) ({ cls := "MaltDrumsLaw", name := "light", desc := "(LMaltDrums;[J)I" } : Jvm.MethodName)) ∈ lw_all := lw_g (lw_at lw_m6 126 rfl) rfl
theorem q1391 : (Jvm.Cond.static ({ cls := "MaltDrumsLaw", name := "light", desc := "(LMaltDrums;[J)I" } : Jvm.MethodName)) ∈ lw_all := lw_g (lw_at lw_m6 127 rfl) rfl
theorem q1392 : (Jvm.Cond.codeWith ({ cls := "MaltDrumsLaw", name := "light", desc := "(LMaltDrums;[J)I" } : Jvm.MethodName) method_8_code (3 : Nat) (Option.some Jvm.ClassFile.FieldType.int) [((0 : Nat), (8 : Nat), (11 : Nat), (15 : Nat))]) ∈ lw_all := lw_g (lw_at lw_m6 128 rfl) rfl
theorem q1393 : (Jvm.Cond.methodLink "MaltDrumsLaw" (32 : Nat) ({ cls := "MaltDrums", name := "light", desc := "()I" } : Jvm.MethodName)) ∈ lw_all := lw_g (lw_at lw_m6 129 rfl) rfl
theorem q1405 : (Jvm.Cond.methodLink "MaltDrumsLaw" (163 : Nat) ({ cls := "MaltDrumsLaw", name := "spray", desc := "(LMaltDrums;I[J)I" } : Jvm.MethodName)) ∈ lw_all := lw_g (lw_at lw_m6 141 rfl) rfl
theorem q1406 : (Jvm.Cond.static ({ cls := "MaltDrumsLaw", name := "spray", desc := "(LMaltDrums;I[J)I" } : Jvm.MethodName)) ∈ lw_all := lw_g (lw_at lw_m6 142 rfl) rfl
theorem q1407 : (Jvm.Cond.codeWith ({ cls := "MaltDrumsLaw", name := "spray", desc := "(LMaltDrums;I[J)I" } : Jvm.MethodName) method_9_code (4 : Nat) (Option.some Jvm.ClassFile.FieldType.int) [((0 : Nat), (9 : Nat), (12 : Nat), (20 : Nat)), ((0 : Nat), (9 : Nat), (15 : Nat), (15 : Nat))]) ∈ lw_all := lw_g (lw_at lw_m6 143 rfl) rfl
theorem q1408 : (Jvm.Cond.methodLink "MaltDrumsLaw" (36 : Nat) ({ cls := "MaltDrums", name := "spray", desc := "(I)I" } : Jvm.MethodName)) ∈ lw_all := lw_g (lw_at lw_m6 144 rfl) rfl
theorem q1420 : (Jvm.Cond.methodLink "MaltDrumsLaw" (166 : Nat) ({ cls := "MaltDrumsLaw", name := "setAir", desc := "(LMaltDrums;II[J)I" } : Jvm.MethodName)) ∈ lw_all := lw_g (lw_at lw_m6 156 rfl) rfl
theorem q1421 : (Jvm.Cond.static ({ cls := "MaltDrumsLaw", name := "setAir", desc := "(LMaltDrums;II[J)I" } : Jvm.MethodName)) ∈ lw_all := lw_g (lw_at lw_m6 157 rfl) rfl
theorem q1422 : (Jvm.Cond.codeWith ({ cls := "MaltDrumsLaw", name := "setAir", desc := "(LMaltDrums;II[J)I" } : Jvm.MethodName) method_10_code (5 : Nat) (Option.some Jvm.ClassFile.FieldType.int) [((0 : Nat), (10 : Nat), (13 : Nat), (20 : Nat)), ((0 : Nat), (10 : Nat), (17 : Nat), (13 : Nat))]) ∈ lw_all := lw_g (lw_at lw_m6 158 rfl) rfl
theorem q1423 : (Jvm.Cond.methodLink "MaltDrumsLaw" (39 : Nat) ({ cls := "MaltDrums", name := "setAir", desc := "(II)I" } : Jvm.MethodName)) ∈ lw_all := lw_g (lw_at lw_m6 159 rfl) rfl
theorem q1430 : (Jvm.Cond.methodLink "MaltDrumsLaw" (169 : Nat) ({ cls := "MaltDrumsLaw", name := "setDew", desc := "(LMaltDrums;II[J)I" } : Jvm.MethodName)) ∈ lw_all := lw_g (lw_at lw_m6 166 rfl) rfl
theorem q1431 : (Jvm.Cond.static ({ cls := "MaltDrumsLaw", name := "setDew", desc := "(LMaltDrums;II[J)I" } : Jvm.MethodName)) ∈ lw_all := lw_g (lw_at lw_m6 167 rfl) rfl
theorem q1432 : (Jvm.Cond.codeWith ({ cls := "MaltDrumsLaw", name := "setDew", desc := "(LMaltDrums;II[J)I" } : Jvm.MethodName) method_11_code (5 : Nat) (Option.some Jvm.ClassFile.FieldType.int) [((0 : Nat), (10 : Nat), (13 : Nat), (20 : Nat)), ((0 : Nat), (10 : Nat), (17 : Nat), (13 : Nat))]) ∈ lw_all := lw_g (lw_at lw_m6 168 rfl) rfl
theorem q1433 : (Jvm.Cond.methodLink "MaltDrumsLaw" (42 : Nat) ({ cls := "MaltDrums", name := "setDew", desc := "(II)I" } : Jvm.MethodName)) ∈ lw_all := lw_g (lw_at lw_m6 169 rfl) rfl
theorem q1437 : (Jvm.Cond.methodLink "MaltDrumsLaw" (172 : Nat) ({ cls := "MaltDrumsLaw", name := "setTurn", desc := "(LMaltDrums;II[J)I" } : Jvm.MethodName)) ∈ lw_all := lw_g (lw_at lw_m6 173 rfl) rfl
theorem q1438 : (Jvm.Cond.static ({ cls := "MaltDrumsLaw", name := "setTurn", desc := "(LMaltDrums;II[J)I" } : Jvm.MethodName)) ∈ lw_all := lw_g (lw_at lw_m6 174 rfl) rfl
theorem q1439 : (Jvm.Cond.codeWith ({ cls := "MaltDrumsLaw", name := "setTurn", desc := "(LMaltDrums;II[J)I" } : Jvm.MethodName) method_12_code (5 : Nat) (Option.some Jvm.ClassFile.FieldType.int) [((0 : Nat), (10 : Nat), (13 : Nat), (20 : Nat)), ((0 : Nat), (10 : Nat), (17 : Nat), (13 : Nat))]) ∈ lw_all := lw_g (lw_at lw_m6 175 rfl) rfl
theorem q1440 : (Jvm.Cond.methodLink "MaltDrumsLaw" (45 : Nat) ({ cls := "MaltDrums", name := "setTurn", desc := "(II)I" } : Jvm.MethodName)) ∈ lw_all := lw_g (lw_at lw_m6 176 rfl) rfl
theorem q1444 : (Jvm.Cond.methodLink "MaltDrumsLaw" (175 : Nat) ({ cls := "MaltDrumsLaw", name := "setHeats", desc := "(LMaltDrums;II[J)I" } : Jvm.MethodName)) ∈ lw_all := lw_g (lw_at lw_m6 180 rfl) rfl
theorem q1445 : (Jvm.Cond.static ({ cls := "MaltDrumsLaw", name := "setHeats", desc := "(LMaltDrums;II[J)I" } : Jvm.MethodName)) ∈ lw_all := lw_g (lw_at lw_m6 181 rfl) rfl
theorem q1446 : (Jvm.Cond.codeWith ({ cls := "MaltDrumsLaw", name := "setHeats", desc := "(LMaltDrums;II[J)I" } : Jvm.MethodName) method_13_code (5 : Nat) (Option.some Jvm.ClassFile.FieldType.int) [((0 : Nat), (10 : Nat), (13 : Nat), (13 : Nat)), ((0 : Nat), (10 : Nat), (17 : Nat), (15 : Nat))]) ∈ lw_all := lw_g (lw_at lw_m6 182 rfl) rfl
theorem q1447 : (Jvm.Cond.methodLink "MaltDrumsLaw" (48 : Nat) ({ cls := "MaltDrums", name := "setHeats", desc := "(II)I" } : Jvm.MethodName)) ∈ lw_all := lw_g (lw_at lw_m6 183 rfl) rfl
theorem q1451 : (Jvm.Cond.methodLink "MaltDrumsLaw" (178 : Nat) ({ cls := "MaltDrumsLaw", name := "setSprays", desc := "(LMaltDrums;I[J)I" } : Jvm.MethodName)) ∈ lw_all := lw_g (lw_at lw_m6 187 rfl) rfl
theorem q1452 : (Jvm.Cond.static ({ cls := "MaltDrumsLaw", name := "setSprays", desc := "(LMaltDrums;I[J)I" } : Jvm.MethodName)) ∈ lw_all := lw_g (lw_at lw_m6 188 rfl) rfl
theorem q1453 : (Jvm.Cond.codeWith ({ cls := "MaltDrumsLaw", name := "setSprays", desc := "(LMaltDrums;I[J)I" } : Jvm.MethodName) method_14_code (4 : Nat) (Option.some Jvm.ClassFile.FieldType.int) [((0 : Nat), (9 : Nat), (12 : Nat), (13 : Nat))]) ∈ lw_all := lw_g (lw_at lw_m6 189 rfl) rfl
theorem q1454 : (Jvm.Cond.methodLink "MaltDrumsLaw" (51 : Nat) ({ cls := "MaltDrums", name := "setSprays", desc := "(I)I" } : Jvm.MethodName)) ∈ lw_all := lw_g (lw_at lw_m6 190 rfl) rfl
theorem q1458 : (Jvm.Cond.methodLink "MaltDrumsLaw" (181 : Nat) ({ cls := "MaltDrumsLaw", name := "pass", desc := "(LMaltDrums;I[J)I" } : Jvm.MethodName)) ∈ lw_all := lw_g (lw_at lw_m6 194 rfl) rfl
theorem q1459 : (Jvm.Cond.static ({ cls := "MaltDrumsLaw", name := "pass", desc := "(LMaltDrums;I[J)I" } : Jvm.MethodName)) ∈ lw_all := lw_g (lw_at lw_m6 195 rfl) rfl
theorem q1460 : (Jvm.Cond.codeWith ({ cls := "MaltDrumsLaw", name := "pass", desc := "(LMaltDrums;I[J)I" } : Jvm.MethodName) method_15_code (4 : Nat) (Option.some Jvm.ClassFile.FieldType.int) [((0 : Nat), (9 : Nat), (12 : Nat), (13 : Nat))]) ∈ lw_all := lw_g (lw_at lw_m6 196 rfl) rfl
theorem q1461 : (Jvm.Cond.methodLink "MaltDrumsLaw" (54 : Nat) ({ cls := "MaltDrums", name := "pass", desc := "(I)I" } : Jvm.MethodName)) ∈ lw_all := lw_g (lw_at lw_m6 197 rfl) rfl
theorem q1470 : (Jvm.Cond.methodLink "MaltDrumsLaw" (184 : Nat) ({ cls := "MaltDrumsLaw", name := "append", desc := "(LMaltDrums;I[J)I" } : Jvm.MethodName)) ∈ lw_all := lw_g (lw_at lw_m6 206 rfl) rfl
theorem q1471 : (Jvm.Cond.static ({ cls := "MaltDrumsLaw", name := "append", desc := "(LMaltDrums;I[J)I" } : Jvm.MethodName)) ∈ lw_all := lw_g (lw_at lw_m6 207 rfl) rfl
theorem q1472 : (Jvm.Cond.codeWith ({ cls := "MaltDrumsLaw", name := "append", desc := "(LMaltDrums;I[J)I" } : Jvm.MethodName) method_16_code (4 : Nat) (Option.some Jvm.ClassFile.FieldType.int) [((0 : Nat), (9 : Nat), (12 : Nat), (13 : Nat)), ((0 : Nat), (9 : Nat), (15 : Nat), (15 : Nat))]) ∈ lw_all := lw_g (lw_at lw_m6 208 rfl) rfl
theorem q1473 : (Jvm.Cond.methodLink "MaltDrumsLaw" (57 : Nat) ({ cls := "MaltDrums", name := "append", desc := "(I)I" } : Jvm.MethodName)) ∈ lw_all := lw_g (lw_at lw_m6 209 rfl) rfl
theorem q1494 : (Jvm.Cond.methodLink "MaltDrumsLaw" (195 : Nat) ({ cls := "MaltDrumsLaw", name := "run", desc := "(LMaltDrums;[J)I" } : Jvm.MethodName)) ∈ lw_all := lw_g (lw_at lw_m6 230 rfl) rfl
theorem q1495 : (Jvm.Cond.static ({ cls := "MaltDrumsLaw", name := "run", desc := "(LMaltDrums;[J)I" } : Jvm.MethodName)) ∈ lw_all := lw_g (lw_at lw_m6 231 rfl) rfl
theorem q1496 : (Jvm.Cond.codeWith ({ cls := "MaltDrumsLaw", name := "run", desc := "(LMaltDrums;[J)I" } : Jvm.MethodName) method_17_code (3 : Nat) (Option.some Jvm.ClassFile.FieldType.int) [((0 : Nat), (8 : Nat), (11 : Nat), (13 : Nat))]) ∈ lw_all := lw_g (lw_at lw_m6 232 rfl) rfl
theorem q1497 : (Jvm.Cond.methodLink "MaltDrumsLaw" (60 : Nat) ({ cls := "MaltDrums", name := "run", desc := "()I" } : Jvm.MethodName)) ∈ lw_all := lw_g (lw_at lw_m6 233 rfl) rfl
theorem q1561 : (Jvm.Cond.methodLink "MaltDrumsLaw" (198 : Nat) ({ cls := "MaltDrumsLaw", name := "undo", desc := "(LMaltDrums;[J)I" } : Jvm.MethodName)) ∈ lw_all := lw_g (lw_at lw_m7 57 rfl) rfl
theorem q1562 : (Jvm.Cond.static ({ cls := "MaltDrumsLaw", name := "undo", desc := "(LMaltDrums;[J)I" } : Jvm.MethodName)) ∈ lw_all := lw_g (lw_at lw_m7 58 rfl) rfl
theorem q1563 : (Jvm.Cond.codeWith ({ cls := "MaltDrumsLaw", name := "undo", desc := "(LMaltDrums;[J)I" } : Jvm.MethodName) method_18_code (3 : Nat) (Option.some Jvm.ClassFile.FieldType.int) [((0 : Nat), (8 : Nat), (11 : Nat), (15 : Nat))]) ∈ lw_all := lw_g (lw_at lw_m7 59 rfl) rfl
theorem q1564 : (Jvm.Cond.methodLink "MaltDrumsLaw" (63 : Nat) ({ cls := "MaltDrums", name := "undo", desc := "()I" } : Jvm.MethodName)) ∈ lw_all := lw_g (lw_at lw_m7 60 rfl) rfl
theorem q1583 : (Jvm.Cond.methodLink "MaltDrumsLaw" (209 : Nat) ({ cls := "MaltDrumsLaw", name := "restore", desc := "(LMaltDrums;[J)I" } : Jvm.MethodName)) ∈ lw_all := lw_g (lw_at lw_m7 79 rfl) rfl
theorem q1584 : (Jvm.Cond.static ({ cls := "MaltDrumsLaw", name := "restore", desc := "(LMaltDrums;[J)I" } : Jvm.MethodName)) ∈ lw_all := lw_g (lw_at lw_m7 80 rfl) rfl
theorem q1585 : (Jvm.Cond.codeWith ({ cls := "MaltDrumsLaw", name := "restore", desc := "(LMaltDrums;[J)I" } : Jvm.MethodName) method_19_code (3 : Nat) (Option.some Jvm.ClassFile.FieldType.int) [((0 : Nat), (8 : Nat), (11 : Nat), (15 : Nat))]) ∈ lw_all := lw_g (lw_at lw_m7 81 rfl) rfl
theorem q1586 : (Jvm.Cond.methodLink "MaltDrumsLaw" (66 : Nat) ({ cls := "MaltDrums", name := "restore", desc := "()I" } : Jvm.MethodName)) ∈ lw_all := lw_g (lw_at lw_m7 82 rfl) rfl
theorem q1590 : (Jvm.Cond.methodLink "MaltDrumsLaw" (216 : Nat) ({ cls := "MaltDrumsLaw", name := "placeOf", desc := "(LMaltDrums;I[J)I" } : Jvm.MethodName)) ∈ lw_all := lw_g (lw_at lw_m7 86 rfl) rfl
theorem q1591 : (Jvm.Cond.static ({ cls := "MaltDrumsLaw", name := "placeOf", desc := "(LMaltDrums;I[J)I" } : Jvm.MethodName)) ∈ lw_all := lw_g (lw_at lw_m7 87 rfl) rfl
theorem q1592 : (Jvm.Cond.codeWith ({ cls := "MaltDrumsLaw", name := "placeOf", desc := "(LMaltDrums;I[J)I" } : Jvm.MethodName) method_20_code (4 : Nat) (Option.some Jvm.ClassFile.FieldType.int) [((0 : Nat), (9 : Nat), (12 : Nat), (20 : Nat))]) ∈ lw_all := lw_g (lw_at lw_m7 88 rfl) rfl
theorem q1593 : (Jvm.Cond.methodLink "MaltDrumsLaw" (69 : Nat) ({ cls := "MaltDrums", name := "placeOf", desc := "(I)I" } : Jvm.MethodName)) ∈ lw_all := lw_g (lw_at lw_m7 89 rfl) rfl
theorem q1597 : (Jvm.Cond.methodLink "MaltDrumsLaw" (219 : Nat) ({ cls := "MaltDrumsLaw", name := "drumOf", desc := "(LMaltDrums;I[J)I" } : Jvm.MethodName)) ∈ lw_all := lw_g (lw_at lw_m7 93 rfl) rfl
theorem q1598 : (Jvm.Cond.static ({ cls := "MaltDrumsLaw", name := "drumOf", desc := "(LMaltDrums;I[J)I" } : Jvm.MethodName)) ∈ lw_all := lw_g (lw_at lw_m7 94 rfl) rfl
theorem q1599 : (Jvm.Cond.codeWith ({ cls := "MaltDrumsLaw", name := "drumOf", desc := "(LMaltDrums;I[J)I" } : Jvm.MethodName) method_21_code (4 : Nat) (Option.some Jvm.ClassFile.FieldType.int) [((0 : Nat), (9 : Nat), (12 : Nat), (20 : Nat))]) ∈ lw_all := lw_g (lw_at lw_m7 95 rfl) rfl
theorem q1600 : (Jvm.Cond.methodLink "MaltDrumsLaw" (72 : Nat) ({ cls := "MaltDrums", name := "drumOf", desc := "(I)I" } : Jvm.MethodName)) ∈ lw_all := lw_g (lw_at lw_m7 96 rfl) rfl
theorem q1605 : (Jvm.Cond.methodLink "MaltDrumsLaw" (222 : Nat) ({ cls := "MaltDrumsLaw", name := "weightOf", desc := "(LMaltDrums;I[J)I" } : Jvm.MethodName)) ∈ lw_all := lw_g (lw_at lw_m7 101 rfl) rfl
theorem q1606 : (Jvm.Cond.static ({ cls := "MaltDrumsLaw", name := "weightOf", desc := "(LMaltDrums;I[J)I" } : Jvm.MethodName)) ∈ lw_all := lw_g (lw_at lw_m7 102 rfl) rfl
theorem q1607 : (Jvm.Cond.codeWith ({ cls := "MaltDrumsLaw", name := "weightOf", desc := "(LMaltDrums;I[J)I" } : Jvm.MethodName) method_22_code (4 : Nat) (Option.some Jvm.ClassFile.FieldType.int) [((0 : Nat), (9 : Nat), (12 : Nat), (20 : Nat))]) ∈ lw_all := lw_g (lw_at lw_m7 103 rfl) rfl
theorem q1608 : (Jvm.Cond.methodLink "MaltDrumsLaw" (75 : Nat) ({ cls := "MaltDrums", name := "weightOf", desc := "(I)I" } : Jvm.MethodName)) ∈ lw_all := lw_g (lw_at lw_m7 104 rfl) rfl
theorem q1612 : (Jvm.Cond.methodLink "MaltDrumsLaw" (225 : Nat) ({ cls := "MaltDrumsLaw", name := "wetnessOf", desc := "(LMaltDrums;I[J)I" } : Jvm.MethodName)) ∈ lw_all := lw_g (lw_at lw_m7 108 rfl) rfl
theorem q1613 : (Jvm.Cond.static ({ cls := "MaltDrumsLaw", name := "wetnessOf", desc := "(LMaltDrums;I[J)I" } : Jvm.MethodName)) ∈ lw_all := lw_g (lw_at lw_m7 109 rfl) rfl
theorem q1614 : (Jvm.Cond.codeWith ({ cls := "MaltDrumsLaw", name := "wetnessOf", desc := "(LMaltDrums;I[J)I" } : Jvm.MethodName) method_23_code (4 : Nat) (Option.some Jvm.ClassFile.FieldType.int) [((0 : Nat), (9 : Nat), (12 : Nat), (20 : Nat))]) ∈ lw_all := lw_g (lw_at lw_m7 110 rfl) rfl
theorem q1615 : (Jvm.Cond.methodLink "MaltDrumsLaw" (78 : Nat) ({ cls := "MaltDrums", name := "wetnessOf", desc := "(I)I" } : Jvm.MethodName)) ∈ lw_all := lw_g (lw_at lw_m7 111 rfl) rfl
theorem q1619 : (Jvm.Cond.methodLink "MaltDrumsLaw" (228 : Nat) ({ cls := "MaltDrumsLaw", name := "growthOf", desc := "(LMaltDrums;I[J)I" } : Jvm.MethodName)) ∈ lw_all := lw_g (lw_at lw_m7 115 rfl) rfl
theorem q1620 : (Jvm.Cond.static ({ cls := "MaltDrumsLaw", name := "growthOf", desc := "(LMaltDrums;I[J)I" } : Jvm.MethodName)) ∈ lw_all := lw_g (lw_at lw_m7 116 rfl) rfl
theorem q1621 : (Jvm.Cond.codeWith ({ cls := "MaltDrumsLaw", name := "growthOf", desc := "(LMaltDrums;I[J)I" } : Jvm.MethodName) method_24_code (4 : Nat) (Option.some Jvm.ClassFile.FieldType.int) [((0 : Nat), (9 : Nat), (12 : Nat), (20 : Nat))]) ∈ lw_all := lw_g (lw_at lw_m7 117 rfl) rfl
theorem q1622 : (Jvm.Cond.methodLink "MaltDrumsLaw" (81 : Nat) ({ cls := "MaltDrums", name := "growthOf", desc := "(I)I" } : Jvm.MethodName)) ∈ lw_all := lw_g (lw_at lw_m7 118 rfl) rfl
theorem q1626 : (Jvm.Cond.methodLink "MaltDrumsLaw" (231 : Nat) ({ cls := "MaltDrumsLaw", name := "heatOf", desc := "(LMaltDrums;I[J)I" } : Jvm.MethodName)) ∈ lw_all := lw_g (lw_at lw_m7 122 rfl) rfl
theorem q1627 : (Jvm.Cond.static ({ cls := "MaltDrumsLaw", name := "heatOf", desc := "(LMaltDrums;I[J)I" } : Jvm.MethodName)) ∈ lw_all := lw_g (lw_at lw_m7 123 rfl) rfl
theorem q1628 : (Jvm.Cond.codeWith ({ cls := "MaltDrumsLaw", name := "heatOf", desc := "(LMaltDrums;I[J)I" } : Jvm.MethodName) method_25_code (4 : Nat) (Option.some Jvm.ClassFile.FieldType.int) [((0 : Nat), (9 : Nat), (12 : Nat), (20 : Nat))]) ∈ lw_all := lw_g (lw_at lw_m7 124 rfl) rfl
theorem q1629 : (Jvm.Cond.methodLink "MaltDrumsLaw" (84 : Nat) ({ cls := "MaltDrums", name := "heatOf", desc := "(I)I" } : Jvm.MethodName)) ∈ lw_all := lw_g (lw_at lw_m7 125 rfl) rfl
theorem q1633 : (Jvm.Cond.methodLink "MaltDrumsLaw" (234 : Nat) ({ cls := "MaltDrumsLaw", name := "feltOf", desc := "(LMaltDrums;I[J)I" } : Jvm.MethodName)) ∈ lw_all := lw_g (lw_at lw_m7 129 rfl) rfl
theorem q1634 : (Jvm.Cond.static ({ cls := "MaltDrumsLaw", name := "feltOf", desc := "(LMaltDrums;I[J)I" } : Jvm.MethodName)) ∈ lw_all := lw_g (lw_at lw_m7 130 rfl) rfl
theorem q1635 : (Jvm.Cond.codeWith ({ cls := "MaltDrumsLaw", name := "feltOf", desc := "(LMaltDrums;I[J)I" } : Jvm.MethodName) method_26_code (4 : Nat) (Option.some Jvm.ClassFile.FieldType.int) [((0 : Nat), (9 : Nat), (12 : Nat), (20 : Nat))]) ∈ lw_all := lw_g (lw_at lw_m7 131 rfl) rfl
theorem q1636 : (Jvm.Cond.methodLink "MaltDrumsLaw" (87 : Nat) ({ cls := "MaltDrums", name := "feltOf", desc := "(I)I" } : Jvm.MethodName)) ∈ lw_all := lw_g (lw_at lw_m7 132 rfl) rfl
theorem q1640 : (Jvm.Cond.methodLink "MaltDrumsLaw" (237 : Nat) ({ cls := "MaltDrumsLaw", name := "isGlassy", desc := "(LMaltDrums;I[J)I" } : Jvm.MethodName)) ∈ lw_all := lw_g (lw_at lw_m7 136 rfl) rfl
theorem q1641 : (Jvm.Cond.static ({ cls := "MaltDrumsLaw", name := "isGlassy", desc := "(LMaltDrums;I[J)I" } : Jvm.MethodName)) ∈ lw_all := lw_g (lw_at lw_m7 137 rfl) rfl
theorem q1642 : (Jvm.Cond.codeWith ({ cls := "MaltDrumsLaw", name := "isGlassy", desc := "(LMaltDrums;I[J)I" } : Jvm.MethodName) method_27_code (4 : Nat) (Option.some Jvm.ClassFile.FieldType.int) [((0 : Nat), (16 : Nat), (19 : Nat), (20 : Nat))]) ∈ lw_all := lw_g (lw_at lw_m7 138 rfl) rfl
theorem q1643 : (Jvm.Cond.methodLink "MaltDrumsLaw" (90 : Nat) ({ cls := "MaltDrums", name := "isGlassy", desc := "(I)Z" } : Jvm.MethodName)) ∈ lw_all := lw_g (lw_at lw_m7 139 rfl) rfl
theorem q1647 : (Jvm.Cond.methodLink "MaltDrumsLaw" (240 : Nat) ({ cls := "MaltDrumsLaw", name := "paceOf", desc := "(LMaltDrums;I[J)I" } : Jvm.MethodName)) ∈ lw_all := lw_g (lw_at lw_m7 143 rfl) rfl
theorem q1648 : (Jvm.Cond.static ({ cls := "MaltDrumsLaw", name := "paceOf", desc := "(LMaltDrums;I[J)I" } : Jvm.MethodName)) ∈ lw_all := lw_g (lw_at lw_m7 144 rfl) rfl
theorem q1649 : (Jvm.Cond.codeWith ({ cls := "MaltDrumsLaw", name := "paceOf", desc := "(LMaltDrums;I[J)I" } : Jvm.MethodName) method_28_code (4 : Nat) (Option.some Jvm.ClassFile.FieldType.int) [((0 : Nat), (9 : Nat), (12 : Nat), (20 : Nat))]) ∈ lw_all := lw_g (lw_at lw_m7 145 rfl) rfl
theorem q1650 : (Jvm.Cond.methodLink "MaltDrumsLaw" (94 : Nat) ({ cls := "MaltDrums", name := "paceOf", desc := "(I)I" } : Jvm.MethodName)) ∈ lw_all := lw_g (lw_at lw_m7 146 rfl) rfl
theorem q1655 : (Jvm.Cond.methodLink "MaltDrumsLaw" (243 : Nat) ({ cls := "MaltDrumsLaw", name := "lotsIn", desc := "(LMaltDrums;I[J)I" } : Jvm.MethodName)) ∈ lw_all := lw_g (lw_at lw_m7 151 rfl) rfl
theorem q1656 : (Jvm.Cond.static ({ cls := "MaltDrumsLaw", name := "lotsIn", desc := "(LMaltDrums;I[J)I" } : Jvm.MethodName)) ∈ lw_all := lw_g (lw_at lw_m7 152 rfl) rfl
theorem q1657 : (Jvm.Cond.codeWith ({ cls := "MaltDrumsLaw", name := "lotsIn", desc := "(LMaltDrums;I[J)I" } : Jvm.MethodName) method_29_code (4 : Nat) (Option.some Jvm.ClassFile.FieldType.int) [((0 : Nat), (9 : Nat), (12 : Nat), (13 : Nat))]) ∈ lw_all := lw_g (lw_at lw_m7 153 rfl) rfl
theorem q1658 : (Jvm.Cond.methodLink "MaltDrumsLaw" (97 : Nat) ({ cls := "MaltDrums", name := "lotsIn", desc := "(I)I" } : Jvm.MethodName)) ∈ lw_all := lw_g (lw_at lw_m7 154 rfl) rfl
theorem q1662 : (Jvm.Cond.methodLink "MaltDrumsLaw" (246 : Nat) ({ cls := "MaltDrumsLaw", name := "ripest", desc := "(LMaltDrums;I[J)I" } : Jvm.MethodName)) ∈ lw_all := lw_g (lw_at lw_m7 158 rfl) rfl
theorem q1663 : (Jvm.Cond.static ({ cls := "MaltDrumsLaw", name := "ripest", desc := "(LMaltDrums;I[J)I" } : Jvm.MethodName)) ∈ lw_all := lw_g (lw_at lw_m7 159 rfl) rfl
theorem q1664 : (Jvm.Cond.codeWith ({ cls := "MaltDrumsLaw", name := "ripest", desc := "(LMaltDrums;I[J)I" } : Jvm.MethodName) method_30_code (4 : Nat) (Option.some Jvm.ClassFile.FieldType.int) [((0 : Nat), (9 : Nat), (12 : Nat), (13 : Nat))]) ∈ lw_all := lw_g (lw_at lw_m7 160 rfl) rfl
theorem q1665 : (Jvm.Cond.methodLink "MaltDrumsLaw" (100 : Nat) ({ cls := "MaltDrums", name := "ripest", desc := "(I)I" } : Jvm.MethodName)) ∈ lw_all := lw_g (lw_at lw_m7 161 rfl) rfl
theorem q1673 : (Jvm.Cond.methodLink "MaltDrumsLaw" (249 : Nat) ({ cls := "MaltDrumsLaw", name := "lotIn", desc := "(LMaltDrums;I[J)I" } : Jvm.MethodName)) ∈ lw_all := lw_g (lw_at lw_m7 169 rfl) rfl
theorem q1674 : (Jvm.Cond.static ({ cls := "MaltDrumsLaw", name := "lotIn", desc := "(LMaltDrums;I[J)I" } : Jvm.MethodName)) ∈ lw_all := lw_g (lw_at lw_m7 170 rfl) rfl
theorem q1675 : (Jvm.Cond.codeWith ({ cls := "MaltDrumsLaw", name := "lotIn", desc := "(LMaltDrums;I[J)I" } : Jvm.MethodName) method_31_code (4 : Nat) (Option.some Jvm.ClassFile.FieldType.int) [((0 : Nat), (9 : Nat), (12 : Nat), (20 : Nat))]) ∈ lw_all := lw_g (lw_at lw_m7 171 rfl) rfl
theorem q1676 : (Jvm.Cond.methodLink "MaltDrumsLaw" (103 : Nat) ({ cls := "MaltDrums", name := "lotIn", desc := "(I)I" } : Jvm.MethodName)) ∈ lw_all := lw_g (lw_at lw_m7 172 rfl) rfl
theorem q1680 : (Jvm.Cond.methodLink "MaltDrumsLaw" (252 : Nat) ({ cls := "MaltDrumsLaw", name := "settingsOf", desc := "(LMaltDrums;I[J)I" } : Jvm.MethodName)) ∈ lw_all := lw_g (lw_at lw_m7 176 rfl) rfl
theorem q1681 : (Jvm.Cond.static ({ cls := "MaltDrumsLaw", name := "settingsOf", desc := "(LMaltDrums;I[J)I" } : Jvm.MethodName)) ∈ lw_all := lw_g (lw_at lw_m7 177 rfl) rfl
theorem q1682 : (Jvm.Cond.codeWith ({ cls := "MaltDrumsLaw", name := "settingsOf", desc := "(LMaltDrums;I[J)I" } : Jvm.MethodName) method_32_code (4 : Nat) (Option.some Jvm.ClassFile.FieldType.int) [((0 : Nat), (9 : Nat), (12 : Nat), (20 : Nat))]) ∈ lw_all := lw_g (lw_at lw_m7 178 rfl) rfl
theorem q1683 : (Jvm.Cond.methodLink "MaltDrumsLaw" (106 : Nat) ({ cls := "MaltDrums", name := "settingsOf", desc := "(I)I" } : Jvm.MethodName)) ∈ lw_all := lw_g (lw_at lw_m7 179 rfl) rfl
theorem q1687 : (Jvm.Cond.methodLink "MaltDrumsLaw" (272 : Nat) ({ cls := "MaltDrumsLaw", name := "whyNotSteep", desc := "(LMaltDrums;I[J)I" } : Jvm.MethodName)) ∈ lw_all := lw_g (lw_at lw_m7 183 rfl) rfl
theorem q1688 : (Jvm.Cond.static ({ cls := "MaltDrumsLaw", name := "whyNotSteep", desc := "(LMaltDrums;I[J)I" } : Jvm.MethodName)) ∈ lw_all := lw_g (lw_at lw_m7 184 rfl) rfl
theorem q1689 : (Jvm.Cond.codeWith ({ cls := "MaltDrumsLaw", name := "whyNotSteep", desc := "(LMaltDrums;I[J)I" } : Jvm.MethodName) method_33_code (4 : Nat) (Option.some Jvm.ClassFile.FieldType.int) [((0 : Nat), (9 : Nat), (12 : Nat), (20 : Nat))]) ∈ lw_all := lw_g (lw_at lw_m7 185 rfl) rfl
theorem q1690 : (Jvm.Cond.methodLink "MaltDrumsLaw" (109 : Nat) ({ cls := "MaltDrums", name := "whyNotSteep", desc := "(I)I" } : Jvm.MethodName)) ∈ lw_all := lw_g (lw_at lw_m7 186 rfl) rfl
theorem q1694 : (Jvm.Cond.methodLink "MaltDrumsLaw" (275 : Nat) ({ cls := "MaltDrumsLaw", name := "whyNotDrum", desc := "(LMaltDrums;II[J)I" } : Jvm.MethodName)) ∈ lw_all := lw_g (lw_at lw_m7 190 rfl) rfl
theorem q1695 : (Jvm.Cond.static ({ cls := "MaltDrumsLaw", name := "whyNotDrum", desc := "(LMaltDrums;II[J)I" } : Jvm.MethodName)) ∈ lw_all := lw_g (lw_at lw_m7 191 rfl) rfl
theorem q1696 : (Jvm.Cond.codeWith ({ cls := "MaltDrumsLaw", name := "whyNotDrum", desc := "(LMaltDrums;II[J)I" } : Jvm.MethodName) method_34_code (5 : Nat) (Option.some Jvm.ClassFile.FieldType.int) [((0 : Nat), (10 : Nat), (13 : Nat), (20 : Nat))]) ∈ lw_all := lw_g (lw_at lw_m7 192 rfl) rfl
theorem q1697 : (Jvm.Cond.methodLink "MaltDrumsLaw" (112 : Nat) ({ cls := "MaltDrums", name := "whyNotDrum", desc := "(II)I" } : Jvm.MethodName)) ∈ lw_all := lw_g (lw_at lw_m7 193 rfl) rfl
theorem q1701 : (Jvm.Cond.methodLink "MaltDrumsLaw" (278 : Nat) ({ cls := "MaltDrumsLaw", name := "whyNotLoad", desc := "(LMaltDrums;I[J)I" } : Jvm.MethodName)) ∈ lw_all := lw_g (lw_at lw_m7 197 rfl) rfl
theorem q1702 : (Jvm.Cond.static ({ cls := "MaltDrumsLaw", name := "whyNotLoad", desc := "(LMaltDrums;I[J)I" } : Jvm.MethodName)) ∈ lw_all := lw_g (lw_at lw_m7 198 rfl) rfl
theorem q1703 : (Jvm.Cond.codeWith ({ cls := "MaltDrumsLaw", name := "whyNotLoad", desc := "(LMaltDrums;I[J)I" } : Jvm.MethodName) method_35_code (4 : Nat) (Option.some Jvm.ClassFile.FieldType.int) [((0 : Nat), (9 : Nat), (12 : Nat), (20 : Nat))]) ∈ lw_all := lw_g (lw_at lw_m7 199 rfl) rfl
theorem q1704 : (Jvm.Cond.methodLink "MaltDrumsLaw" (115 : Nat) ({ cls := "MaltDrums", name := "whyNotLoad", desc := "(I)I" } : Jvm.MethodName)) ∈ lw_all := lw_g (lw_at lw_m7 200 rfl) rfl
theorem q1708 : (Jvm.Cond.methodLink "MaltDrumsLaw" (281 : Nat) ({ cls := "MaltDrumsLaw", name := "whyNotSpray", desc := "(LMaltDrums;I[J)I" } : Jvm.MethodName)) ∈ lw_all := lw_g (lw_at lw_m7 204 rfl) rfl
theorem q1709 : (Jvm.Cond.static ({ cls := "MaltDrumsLaw", name := "whyNotSpray", desc := "(LMaltDrums;I[J)I" } : Jvm.MethodName)) ∈ lw_all := lw_g (lw_at lw_m7 205 rfl) rfl
theorem q1710 : (Jvm.Cond.codeWith ({ cls := "MaltDrumsLaw", name := "whyNotSpray", desc := "(LMaltDrums;I[J)I" } : Jvm.MethodName) method_36_code (4 : Nat) (Option.some Jvm.ClassFile.FieldType.int) [((0 : Nat), (9 : Nat), (12 : Nat), (20 : Nat))]) ∈ lw_all := lw_g (lw_at lw_m7 206 rfl) rfl
theorem q1711 : (Jvm.Cond.methodLink "MaltDrumsLaw" (118 : Nat) ({ cls := "MaltDrums", name := "whyNotSpray", desc := "(I)I" } : Jvm.MethodName)) ∈ lw_all := lw_g (lw_at lw_m7 207 rfl) rfl
theorem q1715 : (Jvm.Cond.methodLink "MaltDrumsLaw" (284 : Nat) ({ cls := "MaltDrumsLaw", name := "hoursToGrow", desc := "(LMaltDrums;II[J)I" } : Jvm.MethodName)) ∈ lw_all := lw_g (lw_at lw_m7 211 rfl) rfl
theorem q1716 : (Jvm.Cond.static ({ cls := "MaltDrumsLaw", name := "hoursToGrow", desc := "(LMaltDrums;II[J)I" } : Jvm.MethodName)) ∈ lw_all := lw_g (lw_at lw_m7 212 rfl) rfl
theorem q1717 : (Jvm.Cond.codeWith ({ cls := "MaltDrumsLaw", name := "hoursToGrow", desc := "(LMaltDrums;II[J)I" } : Jvm.MethodName) method_37_code (5 : Nat) (Option.some Jvm.ClassFile.FieldType.int) [((0 : Nat), (10 : Nat), (13 : Nat), (20 : Nat)), ((0 : Nat), (10 : Nat), (17 : Nat), (13 : Nat))]) ∈ lw_all := lw_g (lw_at lw_m7 213 rfl) rfl
theorem q1718 : (Jvm.Cond.methodLink "MaltDrumsLaw" (121 : Nat) ({ cls := "MaltDrums", name := "hoursToGrow", desc := "(II)I" } : Jvm.MethodName)) ∈ lw_all := lw_g (lw_at lw_m7 214 rfl) rfl
theorem q1722 : (Jvm.Cond.methodLink "MaltDrumsLaw" (287 : Nat) ({ cls := "MaltDrumsLaw", name := "hoursToSpoil", desc := "(LMaltDrums;I[J)I" } : Jvm.MethodName)) ∈ lw_all := lw_g (lw_at lw_m7 218 rfl) rfl
theorem q1723 : (Jvm.Cond.static ({ cls := "MaltDrumsLaw", name := "hoursToSpoil", desc := "(LMaltDrums;I[J)I" } : Jvm.MethodName)) ∈ lw_all := lw_g (lw_at lw_m7 219 rfl) rfl
theorem q1724 : (Jvm.Cond.codeWith ({ cls := "MaltDrumsLaw", name := "hoursToSpoil", desc := "(LMaltDrums;I[J)I" } : Jvm.MethodName) method_38_code (4 : Nat) (Option.some Jvm.ClassFile.FieldType.int) [((0 : Nat), (9 : Nat), (12 : Nat), (20 : Nat))]) ∈ lw_all := lw_g (lw_at lw_m7 220 rfl) rfl
theorem q1725 : (Jvm.Cond.methodLink "MaltDrumsLaw" (124 : Nat) ({ cls := "MaltDrums", name := "hoursToSpoil", desc := "(I)I" } : Jvm.MethodName)) ∈ lw_all := lw_g (lw_at lw_m7 221 rfl) rfl
theorem q1729 : (Jvm.Cond.methodLink "MaltDrumsLaw" (295 : Nat) ({ cls := "MaltDrumsLaw", name := "bestAir", desc := "(LMaltDrums;I[J)I" } : Jvm.MethodName)) ∈ lw_all := lw_g (lw_at lw_m7 225 rfl) rfl
theorem q1730 : (Jvm.Cond.static ({ cls := "MaltDrumsLaw", name := "bestAir", desc := "(LMaltDrums;I[J)I" } : Jvm.MethodName)) ∈ lw_all := lw_g (lw_at lw_m7 226 rfl) rfl
theorem q1731 : (Jvm.Cond.codeWith ({ cls := "MaltDrumsLaw", name := "bestAir", desc := "(LMaltDrums;I[J)I" } : Jvm.MethodName) method_39_code (4 : Nat) (Option.some Jvm.ClassFile.FieldType.int) [((0 : Nat), (9 : Nat), (12 : Nat), (20 : Nat))]) ∈ lw_all := lw_g (lw_at lw_m7 227 rfl) rfl
theorem q1732 : (Jvm.Cond.methodLink "MaltDrumsLaw" (127 : Nat) ({ cls := "MaltDrums", name := "bestAir", desc := "(I)I" } : Jvm.MethodName)) ∈ lw_all := lw_g (lw_at lw_m7 228 rfl) rfl
theorem q1739 : (Jvm.Cond.methodLink "MaltDrumsLaw" (302 : Nat) ({ cls := "MaltDrumsLaw", name := "entryAt", desc := "(LMaltDrums;I[J)I" } : Jvm.MethodName)) ∈ lw_all := lw_g (lw_at lw_m7 235 rfl) rfl
theorem q1740 : (Jvm.Cond.static ({ cls := "MaltDrumsLaw", name := "entryAt", desc := "(LMaltDrums;I[J)I" } : Jvm.MethodName)) ∈ lw_all := lw_g (lw_at lw_m7 236 rfl) rfl
theorem q1741 : (Jvm.Cond.codeWith ({ cls := "MaltDrumsLaw", name := "entryAt", desc := "(LMaltDrums;I[J)I" } : Jvm.MethodName) method_40_code (4 : Nat) (Option.some Jvm.ClassFile.FieldType.int) [((0 : Nat), (9 : Nat), (12 : Nat), (20 : Nat))]) ∈ lw_all := lw_g (lw_at lw_m7 237 rfl) rfl
theorem q1742 : (Jvm.Cond.methodLink "MaltDrumsLaw" (130 : Nat) ({ cls := "MaltDrums", name := "entryAt", desc := "(I)I" } : Jvm.MethodName)) ∈ lw_all := lw_g (lw_at lw_m7 238 rfl) rfl
theorem q1752 : (Jvm.Cond.classLink "MaltDrumsLaw" (134 : Nat) "MaltDrumsModel") ∈ lw_all := lw_g (lw_at lw_m8 8 rfl) rfl
theorem q1754 : (Jvm.Cond.methodLink "MaltDrumsLaw" (136 : Nat) ({ cls := "MaltDrumsModel", name := "<init>", desc := "()V" } : Jvm.MethodName)) ∈ lw_all := lw_g (lw_at lw_m8 10 rfl) rfl
theorem q1786 : (Jvm.Cond.methodLink "MaltDrumsLaw" (143 : Nat) ({ cls := "MaltDrumsModel", name := "thrown", desc := "()I" } : Jvm.MethodName)) ∈ lw_all := lw_g (lw_at lw_m8 42 rfl) rfl
theorem q1790 : (Jvm.Cond.methodLink "MaltDrumsLaw" (200 : Nat) ({ cls := "MaltDrumsModel", name := "undo", desc := "()I" } : Jvm.MethodName)) ∈ lw_all := lw_g (lw_at lw_m8 46 rfl) rfl
theorem q1801 : (Jvm.Cond.methodLink "MaltDrumsLaw" (204 : Nat) ({ cls := "MaltDrumsModel", name := "savedStates", desc := "()I" } : Jvm.MethodName)) ∈ lw_all := lw_g (lw_at lw_m8 57 rfl) rfl
theorem q1805 : (Jvm.Cond.methodLink "MaltDrumsLaw" (208 : Nat) ({ cls := "MaltDrumsModel", name := "keep", desc := "()I" } : Jvm.MethodName)) ∈ lw_all := lw_g (lw_at lw_m8 61 rfl) rfl
theorem q1809 : (Jvm.Cond.methodLink "MaltDrumsLaw" (211 : Nat) ({ cls := "MaltDrumsModel", name := "restore", desc := "()I" } : Jvm.MethodName)) ∈ lw_all := lw_g (lw_at lw_m8 65 rfl) rfl
theorem q1817 : (Jvm.Cond.methodLink "MaltDrumsLaw" (142 : Nat) ({ cls := "MaltDrumsModel", name := "add", desc := "(I)I" } : Jvm.MethodName)) ∈ lw_all := lw_g (lw_at lw_m8 73 rfl) rfl
theorem q1832 : (Jvm.Cond.methodLink "MaltDrumsLaw" (148 : Nat) ({ cls := "MaltDrumsModel", name := "steep", desc := "(I)I" } : Jvm.MethodName)) ∈ lw_all := lw_g (lw_at lw_m8 88 rfl) rfl
theorem q1867 : (Jvm.Cond.methodLink "MaltDrumsLaw" (152 : Nat) ({ cls := "MaltDrumsModel", name := "toDrum", desc := "(II)I" } : Jvm.MethodName)) ∈ lw_all := lw_g (lw_at lw_m8 123 rfl) rfl
theorem q1886 : (Jvm.Cond.methodLink "MaltDrumsLaw" (155 : Nat) ({ cls := "MaltDrumsModel", name := "toHeap", desc := "(I)I" } : Jvm.MethodName)) ∈ lw_all := lw_g (lw_at lw_m8 142 rfl) rfl
theorem q1894 : (Jvm.Cond.methodLink "MaltDrumsLaw" (158 : Nat) ({ cls := "MaltDrumsModel", name := "load", desc := "(I)I" } : Jvm.MethodName)) ∈ lw_all := lw_g (lw_at lw_m8 150 rfl) rfl
theorem q1910 : (Jvm.Cond.methodLink "MaltDrumsLaw" (162 : Nat) ({ cls := "MaltDrumsModel", name := "light", desc := "()I" } : Jvm.MethodName)) ∈ lw_all := lw_g (lw_at lw_m8 166 rfl) rfl
theorem q1918 : (Jvm.Cond.methodLink "MaltDrumsLaw" (165 : Nat) ({ cls := "MaltDrumsModel", name := "spray", desc := "(I)I" } : Jvm.MethodName)) ∈ lw_all := lw_g (lw_at lw_m8 174 rfl) rfl
theorem q1937 : (Jvm.Cond.methodLink "MaltDrumsLaw" (168 : Nat) ({ cls := "MaltDrumsModel", name := "setAir", desc := "(II)I" } : Jvm.MethodName)) ∈ lw_all := lw_g (lw_at lw_m8 193 rfl) rfl
theorem q1945 : (Jvm.Cond.methodLink "MaltDrumsLaw" (171 : Nat) ({ cls := "MaltDrumsModel", name := "setDew", desc := "(II)I" } : Jvm.MethodName)) ∈ lw_all := lw_g (lw_at lw_m8 201 rfl) rfl
theorem q1949 : (Jvm.Cond.methodLink "MaltDrumsLaw" (174 : Nat) ({ cls := "MaltDrumsModel", name := "setTurn", desc := "(II)I" } : Jvm.MethodName)) ∈ lw_all := lw_g (lw_at lw_m8 205 rfl) rfl
theorem q1953 : (Jvm.Cond.methodLink "MaltDrumsLaw" (177 : Nat) ({ cls := "MaltDrumsModel", name := "setHeats", desc := "(II)I" } : Jvm.MethodName)) ∈ lw_all := lw_g (lw_at lw_m8 209 rfl) rfl
theorem q1957 : (Jvm.Cond.methodLink "MaltDrumsLaw" (180 : Nat) ({ cls := "MaltDrumsModel", name := "setSprays", desc := "(I)I" } : Jvm.MethodName)) ∈ lw_all := lw_g (lw_at lw_m8 213 rfl) rfl
theorem q1961 : (Jvm.Cond.methodLink "MaltDrumsLaw" (183 : Nat) ({ cls := "MaltDrumsModel", name := "pass", desc := "(I)I" } : Jvm.MethodName)) ∈ lw_all := lw_g (lw_at lw_m8 217 rfl) rfl
theorem q1993 : (Jvm.Cond.methodLink "MaltDrumsLaw" (186 : Nat) ({ cls := "MaltDrumsModel", name := "append", desc := "(I)I" } : Jvm.MethodName)) ∈ lw_all := lw_g (lw_at lw_m9 9 rfl) rfl
theorem q1997 : (Jvm.Cond.methodLink "MaltDrumsLaw" (190 : Nat) ({ cls := "MaltDrumsModel", name := "clearText", desc := "()I" } : Jvm.MethodName)) ∈ lw_all := lw_g (lw_at lw_m9 13 rfl) rfl
theorem q2001 : (Jvm.Cond.methodLink "MaltDrumsLaw" (194 : Nat) ({ cls := "MaltDrumsModel", name := "fault", desc := "()I" } : Jvm.MethodName)) ∈ lw_all := lw_g (lw_at lw_m9 17 rfl) rfl
theorem q2021 : (Jvm.Cond.methodLink "MaltDrumsLaw" (197 : Nat) ({ cls := "MaltDrumsModel", name := "run", desc := "()I" } : Jvm.MethodName)) ∈ lw_all := lw_g (lw_at lw_m9 37 rfl) rfl
theorem q2033 : (Jvm.Cond.methodLink "MaltDrumsLaw" (215 : Nat) ({ cls := "MaltDrumsModel", name := "lots", desc := "()I" } : Jvm.MethodName)) ∈ lw_all := lw_g (lw_at lw_m9 49 rfl) rfl
theorem q2037 : (Jvm.Cond.methodLink "MaltDrumsLaw" (218 : Nat) ({ cls := "MaltDrumsModel", name := "placeOf", desc := "(I)I" } : Jvm.MethodName)) ∈ lw_all := lw_g (lw_at lw_m9 53 rfl) rfl
theorem q2045 : (Jvm.Cond.methodLink "MaltDrumsLaw" (221 : Nat) ({ cls := "MaltDrumsModel", name := "drumOf", desc := "(I)I" } : Jvm.MethodName)) ∈ lw_all := lw_g (lw_at lw_m9 61 rfl) rfl
theorem q2049 : (Jvm.Cond.methodLink "MaltDrumsLaw" (224 : Nat) ({ cls := "MaltDrumsModel", name := "weightOf", desc := "(I)I" } : Jvm.MethodName)) ∈ lw_all := lw_g (lw_at lw_m9 65 rfl) rfl
theorem q2053 : (Jvm.Cond.methodLink "MaltDrumsLaw" (227 : Nat) ({ cls := "MaltDrumsModel", name := "wetnessOf", desc := "(I)I" } : Jvm.MethodName)) ∈ lw_all := lw_g (lw_at lw_m9 69 rfl) rfl
theorem q2057 : (Jvm.Cond.methodLink "MaltDrumsLaw" (230 : Nat) ({ cls := "MaltDrumsModel", name := "growthOf", desc := "(I)I" } : Jvm.MethodName)) ∈ lw_all := lw_g (lw_at lw_m9 73 rfl) rfl
theorem q2061 : (Jvm.Cond.methodLink "MaltDrumsLaw" (233 : Nat) ({ cls := "MaltDrumsModel", name := "heatOf", desc := "(I)I" } : Jvm.MethodName)) ∈ lw_all := lw_g (lw_at lw_m9 77 rfl) rfl
theorem q2065 : (Jvm.Cond.methodLink "MaltDrumsLaw" (236 : Nat) ({ cls := "MaltDrumsModel", name := "feltOf", desc := "(I)I" } : Jvm.MethodName)) ∈ lw_all := lw_g (lw_at lw_m9 81 rfl) rfl
theorem q2069 : (Jvm.Cond.methodLink "MaltDrumsLaw" (239 : Nat) ({ cls := "MaltDrumsModel", name := "isGlassy", desc := "(I)Z" } : Jvm.MethodName)) ∈ lw_all := lw_g (lw_at lw_m9 85 rfl) rfl
theorem q2073 : (Jvm.Cond.methodLink "MaltDrumsLaw" (242 : Nat) ({ cls := "MaltDrumsModel", name := "paceOf", desc := "(I)I" } : Jvm.MethodName)) ∈ lw_all := lw_g (lw_at lw_m9 89 rfl) rfl
theorem q2077 : (Jvm.Cond.methodLink "MaltDrumsLaw" (245 : Nat) ({ cls := "MaltDrumsModel", name := "lotsIn", desc := "(I)I" } : Jvm.MethodName)) ∈ lw_all := lw_g (lw_at lw_m9 93 rfl) rfl
theorem q2081 : (Jvm.Cond.methodLink "MaltDrumsLaw" (248 : Nat) ({ cls := "MaltDrumsModel", name := "ripest", desc := "(I)I" } : Jvm.MethodName)) ∈ lw_all := lw_g (lw_at lw_m9 97 rfl) rfl
theorem q2089 : (Jvm.Cond.methodLink "MaltDrumsLaw" (251 : Nat) ({ cls := "MaltDrumsModel", name := "lotIn", desc := "(I)I" } : Jvm.MethodName)) ∈ lw_all := lw_g (lw_at lw_m9 105 rfl) rfl
theorem q2093 : (Jvm.Cond.methodLink "MaltDrumsLaw" (254 : Nat) ({ cls := "MaltDrumsModel", name := "settingsOf", desc := "(I)I" } : Jvm.MethodName)) ∈ lw_all := lw_g (lw_at lw_m9 109 rfl) rfl
theorem q2097 : (Jvm.Cond.methodLink "MaltDrumsLaw" (259 : Nat) ({ cls := "MaltDrumsModel", name := "isLit", desc := "()Z" } : Jvm.MethodName)) ∈ lw_all := lw_g (lw_at lw_m9 113 rfl) rfl
theorem q2101 : (Jvm.Cond.methodLink "MaltDrumsLaw" (263 : Nat) ({ cls := "MaltDrumsModel", name := "litFor", desc := "()I" } : Jvm.MethodName)) ∈ lw_all := lw_g (lw_at lw_m9 117 rfl) rfl
theorem q2105 : (Jvm.Cond.methodLink "MaltDrumsLaw" (267 : Nat) ({ cls := "MaltDrumsModel", name := "charge", desc := "()I" } : Jvm.MethodName)) ∈ lw_all := lw_g (lw_at lw_m9 121 rfl) rfl
theorem q2109 : (Jvm.Cond.methodLink "MaltDrumsLaw" (271 : Nat) ({ cls := "MaltDrumsModel", name := "spraysLeft", desc := "()I" } : Jvm.MethodName)) ∈ lw_all := lw_g (lw_at lw_m9 125 rfl) rfl
theorem q2113 : (Jvm.Cond.methodLink "MaltDrumsLaw" (274 : Nat) ({ cls := "MaltDrumsModel", name := "whyNotSteep", desc := "(I)I" } : Jvm.MethodName)) ∈ lw_all := lw_g (lw_at lw_m9 129 rfl) rfl
theorem q2117 : (Jvm.Cond.methodLink "MaltDrumsLaw" (277 : Nat) ({ cls := "MaltDrumsModel", name := "whyNotDrum", desc := "(II)I" } : Jvm.MethodName)) ∈ lw_all := lw_g (lw_at lw_m9 133 rfl) rfl
theorem q2121 : (Jvm.Cond.methodLink "MaltDrumsLaw" (280 : Nat) ({ cls := "MaltDrumsModel", name := "whyNotLoad", desc := "(I)I" } : Jvm.MethodName)) ∈ lw_all := lw_g (lw_at lw_m9 137 rfl) rfl
theorem q2125 : (Jvm.Cond.methodLink "MaltDrumsLaw" (283 : Nat) ({ cls := "MaltDrumsModel", name := "whyNotSpray", desc := "(I)I" } : Jvm.MethodName)) ∈ lw_all := lw_g (lw_at lw_m9 141 rfl) rfl
theorem q2129 : (Jvm.Cond.methodLink "MaltDrumsLaw" (286 : Nat) ({ cls := "MaltDrumsModel", name := "hoursToGrow", desc := "(II)I" } : Jvm.MethodName)) ∈ lw_all := lw_g (lw_at lw_m9 145 rfl) rfl
theorem q2133 : (Jvm.Cond.methodLink "MaltDrumsLaw" (289 : Nat) ({ cls := "MaltDrumsModel", name := "hoursToSpoil", desc := "(I)I" } : Jvm.MethodName)) ∈ lw_all := lw_g (lw_at lw_m9 149 rfl) rfl
theorem q2137 : (Jvm.Cond.methodLink "MaltDrumsLaw" (294 : Nat) ({ cls := "MaltDrumsModel", name := "hoursToDry", desc := "(Z)I" } : Jvm.MethodName)) ∈ lw_all := lw_g (lw_at lw_m9 153 rfl) rfl
theorem q2141 : (Jvm.Cond.methodLink "MaltDrumsLaw" (297 : Nat) ({ cls := "MaltDrumsModel", name := "bestAir", desc := "(I)I" } : Jvm.MethodName)) ∈ lw_all := lw_g (lw_at lw_m9 157 rfl) rfl
theorem q2145 : (Jvm.Cond.methodLink "MaltDrumsLaw" (301 : Nat) ({ cls := "MaltDrumsModel", name := "entries", desc := "()I" } : Jvm.MethodName)) ∈ lw_all := lw_g (lw_at lw_m9 161 rfl) rfl
theorem q2149 : (Jvm.Cond.methodLink "MaltDrumsLaw" (304 : Nat) ({ cls := "MaltDrumsModel", name := "entryAt", desc := "(I)I" } : Jvm.MethodName)) ∈ lw_all := lw_g (lw_at lw_m9 165 rfl) rfl
theorem q2153 : (Jvm.Cond.methodLink "MaltDrumsLaw" (308 : Nat) ({ cls := "MaltDrumsModel", name := "time", desc := "()I" } : Jvm.MethodName)) ∈ lw_all := lw_g (lw_at lw_m9 169 rfl) rfl
theorem q2157 : (Jvm.Cond.methodLink "MaltDrumsLaw" (312 : Nat) ({ cls := "MaltDrumsModel", name := "steeped", desc := "(Z)I" } : Jvm.MethodName)) ∈ lw_all := lw_g (lw_at lw_m9 173 rfl) rfl
theorem q2161 : (Jvm.Cond.methodLink "MaltDrumsLaw" (316 : Nat) ({ cls := "MaltDrumsModel", name := "malt", desc := "()I" } : Jvm.MethodName)) ∈ lw_all := lw_g (lw_at lw_m9 177 rfl) rfl
theorem q2165 : (Jvm.Cond.methodLink "MaltDrumsLaw" (320 : Nat) ({ cls := "MaltDrumsModel", name := "culms", desc := "()I" } : Jvm.MethodName)) ∈ lw_all := lw_g (lw_at lw_m9 181 rfl) rfl
theorem q2169 : (Jvm.Cond.methodLink "MaltDrumsLaw" (324 : Nat) ({ cls := "MaltDrumsModel", name := "spoilt", desc := "()I" } : Jvm.MethodName)) ∈ lw_all := lw_g (lw_at lw_m9 185 rfl) rfl
theorem q2173 : (Jvm.Cond.methodLink "MaltDrumsLaw" (328 : Nat) ({ cls := "MaltDrumsModel", name := "breathed", desc := "()I" } : Jvm.MethodName)) ∈ lw_all := lw_g (lw_at lw_m9 189 rfl) rfl
theorem q2177 : (Jvm.Cond.methodLink "MaltDrumsLaw" (332 : Nat) ({ cls := "MaltDrumsModel", name := "sprays", desc := "()I" } : Jvm.MethodName)) ∈ lw_all := lw_g (lw_at lw_m9 193 rfl) rfl
theorem q2181 : (Jvm.Cond.methodLink "MaltDrumsLaw" (337 : Nat) ({ cls := "MaltDrumsModel", name := "meanGrowth", desc := "()D" } : Jvm.MethodName)) ∈ lw_all := lw_g (lw_at lw_m9 197 rfl) rfl
theorem q2185 : (Jvm.Cond.methodLink "MaltDrumsLaw" (341 : Nat) ({ cls := "MaltDrumsModel", name := "meanHeat", desc := "()D" } : Jvm.MethodName)) ∈ lw_all := lw_g (lw_at lw_m9 201 rfl) rfl
/-! the law's own entry -/
set_option maxRecDepth 100000
abbrev cL_law : ByteArray := code
def dkwL_law_112 : List UInt8 := [132, 4, 3, 167, 245, 9, 4, 172]
abbrev dktL_law_112 : List UInt8 := dkwL_law_112 ++ []
def dkwL_law_111 : List UInt8 := [153, 0, 21, 24, 5, 24, 5, 151, 153, 0, 11, 24, 7, 24, 7, 151, 154, 0, 5, 3, 172, 167, 0, 3]
abbrev dktL_law_111 : List UInt8 := dkwL_law_111 ++ dktL_law_112
def dkwL_law_110 : List UInt8 := [3, 172, 167, 0, 44, 43, 182, 1, 82, 57, 5, 44, 182, 1, 85, 57, 7, 24, 5, 24, 7, 151]
abbrev dktL_law_110 : List UInt8 := dkwL_law_110 ++ dktL_law_111
def dkwL_law_109 : List UInt8 := [24, 5, 24, 7, 151, 153, 0, 21, 24, 5, 24, 5, 151, 153, 0, 11, 24, 7, 24, 7, 151, 154, 0, 5]
abbrev dktL_law_109 : List UInt8 := dkwL_law_109 ++ dktL_law_110
def dkwL_law_108 : List UInt8 := [182, 1, 73, 44, 182, 1, 76, 159, 0, 87, 3, 172, 43, 182, 1, 77, 57, 5, 44, 182, 1, 81, 57, 7]
abbrev dktL_law_108 : List UInt8 := dkwL_law_108 ++ dktL_law_109
def dkwL_law_107 : List UInt8 := [182, 1, 68, 159, 0, 113, 3, 172, 43, 182, 1, 69, 44, 182, 1, 72, 159, 0, 100, 3, 172, 43]
abbrev dktL_law_107 : List UInt8 := dkwL_law_107 ++ dktL_law_108
def dkwL_law_106 : List UInt8 := [159, 0, 139, 3, 172, 43, 182, 1, 61, 44, 182, 1, 64, 159, 0, 126, 3, 172, 43, 182, 1, 65, 44]
abbrev dktL_law_106 : List UInt8 := dkwL_law_106 ++ dktL_law_107
def dkwL_law_105 : List UInt8 := [153, 0, 7, 4, 167, 0, 4, 3, 182, 1, 56, 159, 0, 152, 3, 172, 43, 182, 1, 57, 44, 182, 1, 60]
abbrev dktL_law_105 : List UInt8 := dkwL_law_105 ++ dktL_law_106
def dkwL_law_104 : List UInt8 := [21, 4, 4, 96, 46, 153, 0, 7, 4, 167, 0, 4, 3, 182, 1, 53, 44, 42, 21, 4, 4, 96, 46]
abbrev dktL_law_104 : List UInt8 := dkwL_law_104 ++ dktL_law_105
def dkwL_law_103 : List UInt8 := [153, 0, 5, 3, 172, 167, 0, 204, 43, 182, 1, 49, 44, 182, 1, 52, 159, 0, 193, 3, 172, 43, 42]
abbrev dktL_law_103 : List UInt8 := dkwL_law_103 ++ dktL_law_104
def dkwL_law_102 : List UInt8 := [182, 0, 143, 21, 5, 159, 0, 5, 3, 172, 21, 5, 154, 0, 15, 45, 3, 47, 21, 6, 133, 148]
abbrev dktL_law_102 : List UInt8 := dkwL_law_102 ++ dktL_law_103
def dkwL_law_101 : List UInt8 := [21, 4, 4, 96, 46, 45, 184, 1, 46, 54, 5, 44, 42, 21, 4, 4, 96, 46, 182, 1, 48, 54, 6, 44]
abbrev dktL_law_101 : List UInt8 := dkwL_law_101 ++ dktL_law_102
def dkwL_law_100 : List UInt8 := [153, 0, 5, 3, 172, 167, 1, 17, 43, 182, 1, 42, 44, 182, 1, 45, 159, 1, 6, 3, 172, 43, 42]
abbrev dktL_law_100 : List UInt8 := dkwL_law_100 ++ dktL_law_101
def dkwL_law_99 : List UInt8 := [182, 0, 143, 21, 5, 159, 0, 5, 3, 172, 21, 5, 154, 0, 15, 45, 3, 47, 21, 6, 133, 148]
abbrev dktL_law_99 : List UInt8 := dkwL_law_99 ++ dktL_law_100
def dkwL_law_98 : List UInt8 := [21, 4, 4, 96, 46, 45, 184, 1, 39, 54, 5, 44, 42, 21, 4, 4, 96, 46, 182, 1, 41, 54, 6, 44]
abbrev dktL_law_98 : List UInt8 := dkwL_law_98 ++ dktL_law_99
def dkwL_law_97 : List UInt8 := [21, 4, 4, 96, 46, 153, 0, 7, 4, 167, 0, 4, 3, 182, 1, 38, 159, 1, 75, 3, 172, 43, 42]
abbrev dktL_law_97 : List UInt8 := dkwL_law_97 ++ dktL_law_98
def dkwL_law_96 : List UInt8 := [167, 1, 114, 43, 42, 21, 4, 4, 96, 46, 153, 0, 7, 4, 167, 0, 4, 3, 182, 1, 34, 44, 42]
abbrev dktL_law_96 : List UInt8 := dkwL_law_96 ++ dktL_law_97
def dkwL_law_95 : List UInt8 := [21, 5, 159, 0, 5, 3, 172, 21, 5, 154, 0, 15, 45, 3, 47, 21, 6, 133, 148, 153, 0, 5, 3, 172]
abbrev dktL_law_95 : List UInt8 := dkwL_law_95 ++ dktL_law_96
def dkwL_law_94 : List UInt8 := [46, 45, 184, 1, 31, 54, 5, 44, 42, 21, 4, 4, 96, 46, 182, 1, 33, 54, 6, 44, 182, 0, 143]
abbrev dktL_law_94 : List UInt8 := dkwL_law_94 ++ dktL_law_95
def dkwL_law_93 : List UInt8 := [154, 0, 15, 45, 3, 47, 21, 6, 133, 148, 153, 0, 5, 3, 172, 167, 1, 170, 43, 42, 21, 4, 4, 96]
abbrev dktL_law_93 : List UInt8 := dkwL_law_93 ++ dktL_law_94
def dkwL_law_92 : List UInt8 := [42, 21, 4, 5, 96, 46, 182, 1, 30, 54, 6, 44, 182, 0, 143, 21, 5, 159, 0, 5, 3, 172, 21, 5]
abbrev dktL_law_92 : List UInt8 := dkwL_law_92 ++ dktL_law_93
def dkwL_law_91 : List UInt8 := [21, 4, 4, 96, 46, 42, 21, 4, 5, 96, 46, 45, 184, 1, 28, 54, 5, 44, 42, 21, 4, 4, 96, 46]
abbrev dktL_law_91 : List UInt8 := dkwL_law_91 ++ dktL_law_92
def dkwL_law_90 : List UInt8 := [172, 21, 5, 154, 0, 15, 45, 3, 47, 21, 6, 133, 148, 153, 0, 5, 3, 172, 167, 1, 238, 43, 42]
abbrev dktL_law_90 : List UInt8 := dkwL_law_90 ++ dktL_law_91
def dkwL_law_89 : List UInt8 := [54, 5, 44, 42, 21, 4, 4, 96, 46, 182, 1, 27, 54, 6, 44, 182, 0, 143, 21, 5, 159, 0, 5, 3]
abbrev dktL_law_89 : List UInt8 := dkwL_law_89 ++ dktL_law_90
def dkwL_law_88 : List UInt8 := [21, 6, 133, 148, 153, 0, 5, 3, 172, 167, 2, 38, 43, 42, 21, 4, 4, 96, 46, 45, 184, 1, 25]
abbrev dktL_law_88 : List UInt8 := dkwL_law_88 ++ dktL_law_89
def dkwL_law_87 : List UInt8 := [182, 1, 24, 54, 6, 44, 182, 0, 143, 21, 5, 159, 0, 5, 3, 172, 21, 5, 154, 0, 15, 45, 3, 47]
abbrev dktL_law_87 : List UInt8 := dkwL_law_87 ++ dktL_law_88
def dkwL_law_86 : List UInt8 := [167, 2, 94, 43, 42, 21, 4, 4, 96, 46, 45, 184, 1, 22, 54, 5, 44, 42, 21, 4, 4, 96, 46]
abbrev dktL_law_86 : List UInt8 := dkwL_law_86 ++ dktL_law_87
def dkwL_law_85 : List UInt8 := [159, 0, 5, 3, 172, 21, 5, 154, 0, 15, 45, 3, 47, 21, 6, 133, 148, 153, 0, 5, 3, 172]
abbrev dktL_law_85 : List UInt8 := dkwL_law_85 ++ dktL_law_86
def dkwL_law_84 : List UInt8 := [21, 4, 4, 96, 46, 42, 21, 4, 5, 96, 46, 182, 1, 21, 54, 6, 44, 182, 0, 143, 21, 5]
abbrev dktL_law_84 : List UInt8 := dkwL_law_84 ++ dktL_law_85
def dkwL_law_83 : List UInt8 := [167, 2, 162, 43, 42, 21, 4, 4, 96, 46, 42, 21, 4, 5, 96, 46, 45, 184, 1, 19, 54, 5, 44, 42]
abbrev dktL_law_83 : List UInt8 := dkwL_law_83 ++ dktL_law_84
def dkwL_law_82 : List UInt8 := [159, 0, 5, 3, 172, 21, 5, 154, 0, 15, 45, 3, 47, 21, 6, 133, 148, 153, 0, 5, 3, 172]
abbrev dktL_law_82 : List UInt8 := dkwL_law_82 ++ dktL_law_83
def dkwL_law_81 : List UInt8 := [184, 1, 16, 54, 5, 44, 42, 21, 4, 4, 96, 46, 182, 1, 18, 54, 6, 44, 182, 0, 143, 21, 5]
abbrev dktL_law_81 : List UInt8 := dkwL_law_81 ++ dktL_law_82
def dkwL_law_80 : List UInt8 := [172, 43, 182, 1, 12, 44, 182, 1, 15, 159, 2, 220, 3, 172, 43, 42, 21, 4, 4, 96, 46, 45]
abbrev dktL_law_80 : List UInt8 := dkwL_law_80 ++ dktL_law_81
def dkwL_law_79 : List UInt8 := [182, 1, 4, 44, 182, 1, 7, 159, 2, 246, 3, 172, 43, 182, 1, 8, 44, 182, 1, 11, 159, 2, 233, 3]
abbrev dktL_law_79 : List UInt8 := dkwL_law_79 ++ dktL_law_80
def dkwL_law_78 : List UInt8 := [153, 0, 5, 3, 172, 167, 3, 14, 43, 182, 0, 255, 44, 182, 1, 3, 159, 3, 3, 3, 172, 43]
abbrev dktL_law_78 : List UInt8 := dkwL_law_78 ++ dktL_law_79
def dkwL_law_77 : List UInt8 := [182, 0, 143, 21, 5, 159, 0, 5, 3, 172, 21, 5, 154, 0, 15, 45, 3, 47, 21, 6, 133, 148]
abbrev dktL_law_77 : List UInt8 := dkwL_law_77 ++ dktL_law_78
def dkwL_law_76 : List UInt8 := [21, 4, 4, 96, 46, 45, 184, 0, 252, 54, 5, 44, 42, 21, 4, 4, 96, 46, 182, 0, 254, 54, 6, 44]
abbrev dktL_law_76 : List UInt8 := dkwL_law_76 ++ dktL_law_77
def dkwL_law_75 : List UInt8 := [172, 21, 5, 154, 0, 15, 45, 3, 47, 21, 6, 133, 148, 153, 0, 5, 3, 172, 167, 3, 70, 43, 42]
abbrev dktL_law_75 : List UInt8 := dkwL_law_75 ++ dktL_law_76
def dkwL_law_74 : List UInt8 := [54, 5, 44, 42, 21, 4, 4, 96, 46, 182, 0, 251, 54, 6, 44, 182, 0, 143, 21, 5, 159, 0, 5, 3]
abbrev dktL_law_74 : List UInt8 := dkwL_law_74 ++ dktL_law_75
def dkwL_law_73 : List UInt8 := [21, 6, 133, 148, 153, 0, 5, 3, 172, 167, 3, 126, 43, 42, 21, 4, 4, 96, 46, 45, 184, 0, 249]
abbrev dktL_law_73 : List UInt8 := dkwL_law_73 ++ dktL_law_74
def dkwL_law_72 : List UInt8 := [182, 0, 248, 54, 6, 44, 182, 0, 143, 21, 5, 159, 0, 5, 3, 172, 21, 5, 154, 0, 15, 45, 3, 47]
abbrev dktL_law_72 : List UInt8 := dkwL_law_72 ++ dktL_law_73
def dkwL_law_71 : List UInt8 := [167, 3, 182, 43, 42, 21, 4, 4, 96, 46, 45, 184, 0, 246, 54, 5, 44, 42, 21, 4, 4, 96, 46]
abbrev dktL_law_71 : List UInt8 := dkwL_law_71 ++ dktL_law_72
def dkwL_law_70 : List UInt8 := [21, 5, 159, 0, 5, 3, 172, 21, 5, 154, 0, 15, 45, 3, 47, 21, 6, 133, 148, 153, 0, 5, 3, 172]
abbrev dktL_law_70 : List UInt8 := dkwL_law_70 ++ dktL_law_71
def dkwL_law_69 : List UInt8 := [46, 45, 184, 0, 243, 54, 5, 44, 42, 21, 4, 4, 96, 46, 182, 0, 245, 54, 6, 44, 182, 0, 143]
abbrev dktL_law_69 : List UInt8 := dkwL_law_69 ++ dktL_law_70
def dkwL_law_68 : List UInt8 := [154, 0, 15, 45, 3, 47, 21, 6, 133, 148, 153, 0, 5, 3, 172, 167, 3, 238, 43, 42, 21, 4, 4, 96]
abbrev dktL_law_68 : List UInt8 := dkwL_law_68 ++ dktL_law_69
def dkwL_law_67 : List UInt8 := [42, 21, 4, 4, 96, 46, 182, 0, 242, 54, 6, 44, 182, 0, 143, 21, 5, 159, 0, 5, 3, 172, 21, 5]
abbrev dktL_law_67 : List UInt8 := dkwL_law_67 ++ dktL_law_68
def dkwL_law_66 : List UInt8 := [9, 148, 153, 0, 5, 3, 172, 167, 4, 38, 43, 42, 21, 4, 4, 96, 46, 45, 184, 0, 240, 54, 5, 44]
abbrev dktL_law_66 : List UInt8 := dkwL_law_66 ++ dktL_law_67
def dkwL_law_65 : List UInt8 := [21, 5, 159, 0, 5, 3, 172, 21, 5, 154, 0, 22, 45, 3, 47, 21, 6, 153, 0, 7, 10, 167, 0, 4]
abbrev dktL_law_65 : List UInt8 := dkwL_law_65 ++ dktL_law_66
def dkwL_law_64 : List UInt8 := [46, 45, 184, 0, 237, 54, 5, 44, 42, 21, 4, 4, 96, 46, 182, 0, 239, 54, 6, 44, 182, 0, 143]
abbrev dktL_law_64 : List UInt8 := dkwL_law_64 ++ dktL_law_65
def dkwL_law_63 : List UInt8 := [154, 0, 15, 45, 3, 47, 21, 6, 133, 148, 153, 0, 5, 3, 172, 167, 4, 101, 43, 42, 21, 4, 4, 96]
abbrev dktL_law_63 : List UInt8 := dkwL_law_63 ++ dktL_law_64
def dkwL_law_62 : List UInt8 := [21, 4, 4, 96, 46, 182, 0, 236, 54, 6, 44, 182, 0, 143, 21, 5, 159, 0, 5, 3, 172, 21, 5]
abbrev dktL_law_62 : List UInt8 := dkwL_law_62 ++ dktL_law_63
def dkwL_law_61 : List UInt8 := [153, 0, 5, 3, 172, 167, 4, 157, 43, 42, 21, 4, 4, 96, 46, 45, 184, 0, 234, 54, 5, 44, 42]
abbrev dktL_law_61 : List UInt8 := dkwL_law_61 ++ dktL_law_62
def dkwL_law_60 : List UInt8 := [182, 0, 143, 21, 5, 159, 0, 5, 3, 172, 21, 5, 154, 0, 15, 45, 3, 47, 21, 6, 133, 148]
abbrev dktL_law_60 : List UInt8 := dkwL_law_60 ++ dktL_law_61
def dkwL_law_59 : List UInt8 := [21, 4, 4, 96, 46, 45, 184, 0, 231, 54, 5, 44, 42, 21, 4, 4, 96, 46, 182, 0, 233, 54, 6, 44]
abbrev dktL_law_59 : List UInt8 := dkwL_law_59 ++ dktL_law_60
def dkwL_law_58 : List UInt8 := [172, 21, 5, 154, 0, 15, 45, 3, 47, 21, 6, 133, 148, 153, 0, 5, 3, 172, 167, 4, 213, 43, 42]
abbrev dktL_law_58 : List UInt8 := dkwL_law_58 ++ dktL_law_59
def dkwL_law_57 : List UInt8 := [54, 5, 44, 42, 21, 4, 4, 96, 46, 182, 0, 230, 54, 6, 44, 182, 0, 143, 21, 5, 159, 0, 5, 3]
abbrev dktL_law_57 : List UInt8 := dkwL_law_57 ++ dktL_law_58
def dkwL_law_56 : List UInt8 := [21, 6, 133, 148, 153, 0, 5, 3, 172, 167, 5, 13, 43, 42, 21, 4, 4, 96, 46, 45, 184, 0, 228]
abbrev dktL_law_56 : List UInt8 := dkwL_law_56 ++ dktL_law_57
def dkwL_law_55 : List UInt8 := [182, 0, 227, 54, 6, 44, 182, 0, 143, 21, 5, 159, 0, 5, 3, 172, 21, 5, 154, 0, 15, 45, 3, 47]
abbrev dktL_law_55 : List UInt8 := dkwL_law_55 ++ dktL_law_56
def dkwL_law_54 : List UInt8 := [167, 5, 69, 43, 42, 21, 4, 4, 96, 46, 45, 184, 0, 225, 54, 5, 44, 42, 21, 4, 4, 96, 46]
abbrev dktL_law_54 : List UInt8 := dkwL_law_54 ++ dktL_law_55
def dkwL_law_53 : List UInt8 := [21, 5, 159, 0, 5, 3, 172, 21, 5, 154, 0, 15, 45, 3, 47, 21, 6, 133, 148, 153, 0, 5, 3, 172]
abbrev dktL_law_53 : List UInt8 := dkwL_law_53 ++ dktL_law_54
def dkwL_law_52 : List UInt8 := [46, 45, 184, 0, 222, 54, 5, 44, 42, 21, 4, 4, 96, 46, 182, 0, 224, 54, 6, 44, 182, 0, 143]
abbrev dktL_law_52 : List UInt8 := dkwL_law_52 ++ dktL_law_53
def dkwL_law_51 : List UInt8 := [154, 0, 15, 45, 3, 47, 21, 6, 133, 148, 153, 0, 5, 3, 172, 167, 5, 125, 43, 42, 21, 4, 4, 96]
abbrev dktL_law_51 : List UInt8 := dkwL_law_51 ++ dktL_law_52
def dkwL_law_50 : List UInt8 := [21, 4, 4, 96, 46, 182, 0, 221, 54, 6, 44, 182, 0, 143, 21, 5, 159, 0, 5, 3, 172, 21, 5]
abbrev dktL_law_50 : List UInt8 := dkwL_law_50 ++ dktL_law_51
def dkwL_law_49 : List UInt8 := [153, 0, 5, 3, 172, 167, 5, 181, 43, 42, 21, 4, 4, 96, 46, 45, 184, 0, 219, 54, 5, 44, 42]
abbrev dktL_law_49 : List UInt8 := dkwL_law_49 ++ dktL_law_50
def dkwL_law_48 : List UInt8 := [182, 0, 143, 21, 5, 159, 0, 5, 3, 172, 21, 5, 154, 0, 15, 45, 3, 47, 21, 6, 133, 148]
abbrev dktL_law_48 : List UInt8 := dkwL_law_48 ++ dktL_law_49
def dkwL_law_47 : List UInt8 := [21, 4, 4, 96, 46, 45, 184, 0, 216, 54, 5, 44, 42, 21, 4, 4, 96, 46, 182, 0, 218, 54, 6, 44]
abbrev dktL_law_47 : List UInt8 := dkwL_law_47 ++ dktL_law_48
def dkwL_law_46 : List UInt8 := [148, 153, 0, 5, 3, 172, 167, 5, 250, 43, 182, 0, 212, 44, 182, 0, 215, 159, 5, 239, 3, 172, 43, 42]
abbrev dktL_law_46 : List UInt8 := dkwL_law_46 ++ dktL_law_47
def dkwL_law_45 : List UInt8 := [54, 6, 44, 182, 0, 143, 21, 5, 159, 0, 5, 3, 172, 21, 5, 154, 0, 15, 45, 3, 47, 21, 6, 133]
abbrev dktL_law_45 : List UInt8 := dkwL_law_45 ++ dktL_law_46
def dkwL_law_44 : List UInt8 := [182, 0, 205, 44, 182, 0, 208, 159, 6, 40, 3, 172, 43, 45, 184, 0, 209, 54, 5, 44, 182, 0, 211]
abbrev dktL_law_44 : List UInt8 := dkwL_law_44 ++ dktL_law_45
def dkwL_law_43 : List UInt8 := [148, 153, 0, 5, 3, 172, 167, 6, 64, 43, 182, 0, 201, 44, 182, 0, 204, 159, 6, 53, 3, 172, 43]
abbrev dktL_law_43 : List UInt8 := dkwL_law_43 ++ dktL_law_44
def dkwL_law_42 : List UInt8 := [54, 6, 44, 182, 0, 143, 21, 5, 159, 0, 5, 3, 172, 21, 5, 154, 0, 15, 45, 3, 47, 21, 6, 133]
abbrev dktL_law_42 : List UInt8 := dkwL_law_42 ++ dktL_law_43
def dkwL_law_41 : List UInt8 := [21, 6, 133, 148, 153, 0, 5, 3, 172, 167, 6, 108, 43, 45, 184, 0, 198, 54, 5, 44, 182, 0, 200]
abbrev dktL_law_41 : List UInt8 := dkwL_law_41 ++ dktL_law_42
def dkwL_law_40 : List UInt8 := [182, 0, 197, 54, 6, 44, 182, 0, 143, 21, 5, 159, 0, 5, 3, 172, 21, 5, 154, 0, 15, 45, 3, 47]
abbrev dktL_law_40 : List UInt8 := dkwL_law_40 ++ dktL_law_41
def dkwL_law_39 : List UInt8 := [172, 43, 182, 0, 191, 44, 182, 0, 194, 159, 6, 154, 3, 172, 43, 45, 184, 0, 195, 54, 5, 44]
abbrev dktL_law_39 : List UInt8 := dkwL_law_39 ++ dktL_law_40
def dkwL_law_38 : List UInt8 := [21, 6, 133, 148, 153, 0, 5, 3, 172, 167, 6, 178, 43, 182, 0, 187, 44, 182, 0, 190, 159, 6, 167, 3]
abbrev dktL_law_38 : List UInt8 := dkwL_law_38 ++ dktL_law_39
def dkwL_law_37 : List UInt8 := [182, 0, 186, 54, 6, 44, 182, 0, 143, 21, 5, 159, 0, 5, 3, 172, 21, 5, 154, 0, 15, 45, 3, 47]
abbrev dktL_law_37 : List UInt8 := dkwL_law_37 ++ dktL_law_38
def dkwL_law_36 : List UInt8 := [167, 6, 234, 43, 42, 21, 4, 4, 96, 46, 45, 184, 0, 184, 54, 5, 44, 42, 21, 4, 4, 96, 46]
abbrev dktL_law_36 : List UInt8 := dkwL_law_36 ++ dktL_law_37
def dkwL_law_35 : List UInt8 := [21, 5, 159, 0, 5, 3, 172, 21, 5, 154, 0, 15, 45, 3, 47, 21, 6, 133, 148, 153, 0, 5, 3, 172]
abbrev dktL_law_35 : List UInt8 := dkwL_law_35 ++ dktL_law_36
def dkwL_law_34 : List UInt8 := [46, 45, 184, 0, 181, 54, 5, 44, 42, 21, 4, 4, 96, 46, 182, 0, 183, 54, 6, 44, 182, 0, 143]
abbrev dktL_law_34 : List UInt8 := dkwL_law_34 ++ dktL_law_35
def dkwL_law_33 : List UInt8 := [154, 0, 15, 45, 3, 47, 21, 6, 133, 148, 153, 0, 5, 3, 172, 167, 7, 34, 43, 42, 21, 4, 4, 96]
abbrev dktL_law_33 : List UInt8 := dkwL_law_33 ++ dktL_law_34
def dkwL_law_32 : List UInt8 := [21, 4, 4, 96, 46, 182, 0, 180, 54, 6, 44, 182, 0, 143, 21, 5, 159, 0, 5, 3, 172, 21, 5]
abbrev dktL_law_32 : List UInt8 := dkwL_law_32 ++ dktL_law_33
def dkwL_law_31 : List UInt8 := [153, 0, 5, 3, 172, 167, 7, 90, 43, 42, 21, 4, 4, 96, 46, 45, 184, 0, 178, 54, 5, 44, 42]
abbrev dktL_law_31 : List UInt8 := dkwL_law_31 ++ dktL_law_32
def dkwL_law_30 : List UInt8 := [182, 0, 143, 21, 5, 159, 0, 5, 3, 172, 21, 5, 154, 0, 15, 45, 3, 47, 21, 6, 133, 148]
abbrev dktL_law_30 : List UInt8 := dkwL_law_30 ++ dktL_law_31
def dkwL_law_29 : List UInt8 := [184, 0, 175, 54, 5, 44, 42, 21, 4, 4, 96, 46, 42, 21, 4, 5, 96, 46, 182, 0, 177, 54, 6, 44]
abbrev dktL_law_29 : List UInt8 := dkwL_law_29 ++ dktL_law_30
def dkwL_law_28 : List UInt8 := [148, 153, 0, 5, 3, 172, 167, 7, 158, 43, 42, 21, 4, 4, 96, 46, 42, 21, 4, 5, 96, 46, 45]
abbrev dktL_law_28 : List UInt8 := dkwL_law_28 ++ dktL_law_29
def dkwL_law_27 : List UInt8 := [54, 6, 44, 182, 0, 143, 21, 5, 159, 0, 5, 3, 172, 21, 5, 154, 0, 15, 45, 3, 47, 21, 6, 133]
abbrev dktL_law_27 : List UInt8 := dkwL_law_27 ++ dktL_law_28
def dkwL_law_26 : List UInt8 := [46, 45, 184, 0, 172, 54, 5, 44, 42, 21, 4, 4, 96, 46, 42, 21, 4, 5, 96, 46, 182, 0, 174]
abbrev dktL_law_26 : List UInt8 := dkwL_law_26 ++ dktL_law_27
def dkwL_law_25 : List UInt8 := [21, 6, 133, 148, 153, 0, 5, 3, 172, 167, 7, 226, 43, 42, 21, 4, 4, 96, 46, 42, 21, 4, 5, 96]
abbrev dktL_law_25 : List UInt8 := dkwL_law_25 ++ dktL_law_26
def dkwL_law_24 : List UInt8 := [182, 0, 171, 54, 6, 44, 182, 0, 143, 21, 5, 159, 0, 5, 3, 172, 21, 5, 154, 0, 15, 45, 3, 47]
abbrev dktL_law_24 : List UInt8 := dkwL_law_24 ++ dktL_law_25
def dkwL_law_23 : List UInt8 := [5, 96, 46, 45, 184, 0, 169, 54, 5, 44, 42, 21, 4, 4, 96, 46, 42, 21, 4, 5, 96, 46]
abbrev dktL_law_23 : List UInt8 := dkwL_law_23 ++ dktL_law_24
def dkwL_law_22 : List UInt8 := [3, 47, 21, 6, 133, 148, 153, 0, 5, 3, 172, 167, 8, 38, 43, 42, 21, 4, 4, 96, 46, 42, 21, 4]
abbrev dktL_law_22 : List UInt8 := dkwL_law_22 ++ dktL_law_23
def dkwL_law_21 : List UInt8 := [96, 46, 182, 0, 168, 54, 6, 44, 182, 0, 143, 21, 5, 159, 0, 5, 3, 172, 21, 5, 154, 0, 15, 45]
abbrev dktL_law_21 : List UInt8 := dkwL_law_21 ++ dktL_law_22
def dkwL_law_20 : List UInt8 := [46, 42, 21, 4, 5, 96, 46, 45, 184, 0, 166, 54, 5, 44, 42, 21, 4, 4, 96, 46, 42, 21, 4, 5]
abbrev dktL_law_20 : List UInt8 := dkwL_law_20 ++ dktL_law_21
def dkwL_law_19 : List UInt8 := [154, 0, 15, 45, 3, 47, 21, 6, 133, 148, 153, 0, 5, 3, 172, 167, 8, 106, 43, 42, 21, 4, 4, 96]
abbrev dktL_law_19 : List UInt8 := dkwL_law_19 ++ dktL_law_20
def dkwL_law_18 : List UInt8 := [21, 4, 4, 96, 46, 182, 0, 165, 54, 6, 44, 182, 0, 143, 21, 5, 159, 0, 5, 3, 172, 21, 5]
abbrev dktL_law_18 : List UInt8 := dkwL_law_18 ++ dktL_law_19
def dkwL_law_17 : List UInt8 := [148, 153, 0, 5, 3, 172, 167, 8, 162, 43, 42, 21, 4, 4, 96, 46, 45, 184, 0, 163, 54, 5, 44, 42]
abbrev dktL_law_17 : List UInt8 := dkwL_law_17 ++ dktL_law_18
def dkwL_law_16 : List UInt8 := [54, 6, 44, 182, 0, 143, 21, 5, 159, 0, 5, 3, 172, 21, 5, 154, 0, 15, 45, 3, 47, 21, 6, 133]
abbrev dktL_law_16 : List UInt8 := dkwL_law_16 ++ dktL_law_17
def dkwL_law_15 : List UInt8 := [21, 6, 133, 148, 153, 0, 5, 3, 172, 167, 8, 206, 43, 45, 184, 0, 159, 54, 5, 44, 182, 0, 162]
abbrev dktL_law_15 : List UInt8 := dkwL_law_15 ++ dktL_law_16
def dkwL_law_14 : List UInt8 := [182, 0, 158, 54, 6, 44, 182, 0, 143, 21, 5, 159, 0, 5, 3, 172, 21, 5, 154, 0, 15, 45, 3, 47]
abbrev dktL_law_14 : List UInt8 := dkwL_law_14 ++ dktL_law_15
def dkwL_law_13 : List UInt8 := [167, 9, 6, 43, 42, 21, 4, 4, 96, 46, 45, 184, 0, 156, 54, 5, 44, 42, 21, 4, 4, 96, 46]
abbrev dktL_law_13 : List UInt8 := dkwL_law_13 ++ dktL_law_14
def dkwL_law_12 : List UInt8 := [159, 0, 5, 3, 172, 21, 5, 154, 0, 15, 45, 3, 47, 21, 6, 133, 148, 153, 0, 5, 3, 172]
abbrev dktL_law_12 : List UInt8 := dkwL_law_12 ++ dktL_law_13
def dkwL_law_11 : List UInt8 := [184, 0, 153, 54, 5, 44, 42, 21, 4, 4, 96, 46, 182, 0, 155, 54, 6, 44, 182, 0, 143, 21, 5]
abbrev dktL_law_11 : List UInt8 := dkwL_law_11 ++ dktL_law_12
def dkwL_law_10 : List UInt8 := [3, 47, 21, 6, 133, 148, 153, 0, 5, 3, 172, 167, 9, 62, 43, 42, 21, 4, 4, 96, 46, 45]
abbrev dktL_law_10 : List UInt8 := dkwL_law_10 ++ dktL_law_11
def dkwL_law_9 : List UInt8 := [96, 46, 182, 0, 152, 54, 6, 44, 182, 0, 143, 21, 5, 159, 0, 5, 3, 172, 21, 5, 154, 0, 15, 45]
abbrev dktL_law_9 : List UInt8 := dkwL_law_9 ++ dktL_law_10
def dkwL_law_8 : List UInt8 := [46, 42, 21, 4, 5, 96, 46, 45, 184, 0, 149, 54, 5, 44, 42, 21, 4, 4, 96, 46, 42, 21, 4, 5]
abbrev dktL_law_8 : List UInt8 := dkwL_law_8 ++ dktL_law_9
def dkwL_law_7 : List UInt8 := [154, 0, 15, 45, 3, 47, 21, 6, 133, 148, 153, 0, 5, 3, 172, 167, 9, 130, 43, 42, 21, 4, 4, 96]
abbrev dktL_law_7 : List UInt8 := dkwL_law_7 ++ dktL_law_8
def dkwL_law_6 : List UInt8 := [21, 4, 4, 96, 46, 182, 0, 148, 54, 6, 44, 182, 0, 143, 21, 5, 159, 0, 5, 3, 172, 21, 5]
abbrev dktL_law_6 : List UInt8 := dkwL_law_6 ++ dktL_law_7
def dkwL_law_5 : List UInt8 := [148, 153, 0, 5, 3, 172, 167, 9, 186, 43, 42, 21, 4, 4, 96, 46, 45, 184, 0, 146, 54, 5, 44, 42]
abbrev dktL_law_5 : List UInt8 := dkwL_law_5 ++ dktL_law_6
def dkwL_law_4 : List UInt8 := [54, 6, 44, 182, 0, 143, 21, 5, 159, 0, 5, 3, 172, 21, 5, 154, 0, 15, 45, 3, 47, 21, 6, 133]
abbrev dktL_law_4 : List UInt8 := dkwL_law_4 ++ dktL_law_5
def dkwL_law_3 : List UInt8 := [43, 42, 21, 4, 4, 96, 46, 45, 184, 0, 137, 54, 5, 44, 42, 21, 4, 4, 96, 46, 182, 0, 142]
abbrev dktL_law_3 : List UInt8 := dkwL_law_3 ++ dktL_law_4
def dkwL_law_2 : List UInt8 := [170, 0, 0, 10, 228, 0, 0, 0, 0, 0, 0, 0, 57, 0, 0, 0, 245, 0, 0, 1, 45, 0, 0, 1, 101, 0, 0, 1, 169, 0, 0, 1, 225, 0, 0, 2, 25, 0, 0, 2, 69, 0, 0, 2, 125, 0, 0, 2, 193, 0, 0, 3, 5, 0, 0, 3, 73, 0, 0, 3, 141, 0, 0, 3, 197, 0, 0, 3, 253, 0, 0, 4, 53, 0, 0, 4, 66, 0, 0, 4, 79, 0, 0, 4, 123, 0, 0, 4, 167, 0, 0, 4, 180, 0, 0, 4, 193, 0, 0, 4, 237, 0, 0, 4, 250, 0, 0, 5, 50, 0, 0, 5, 106, 0, 0, 5, 162, 0, 0, 5, 218, 0, 0, 6, 18, 0, 0, 6, 74, 0, 0, 6, 130, 0, 0, 6, 193, 0, 0, 6, 249, 0, 0, 7, 49, 0, 0, 7, 105, 0, 0, 7, 161, 0, 0, 7, 217, 0, 0, 7, 230, 0, 0, 7, 243, 0, 0, 8, 0, 0, 0, 8, 13, 0, 0, 8, 69, 0, 0, 8, 137, 0, 0, 8, 193, 0, 0, 8, 249, 0, 0, 9, 61, 0, 0, 9, 117, 0, 0, 9, 158, 0, 0, 9, 214, 0, 0, 9, 227, 0, 0, 10, 27, 0, 0, 10, 40, 0, 0, 10, 81, 0, 0, 10, 94, 0, 0, 10, 107, 0, 0, 10, 120, 0, 0, 10, 133, 0, 0, 10, 146, 0, 0, 10, 187]
abbrev dktL_law_2 : List UInt8 := dkwL_law_2 ++ dktL_law_3
def dkwL_law_1 : List UInt8 := [21, 4, 42, 190, 6, 100, 163, 10, 244, 42, 21, 4, 46, 16, 63, 126]
abbrev dktL_law_1 : List UInt8 := dkwL_law_1 ++ dktL_law_2
def dkwL_law_0 : List UInt8 := [187, 0, 8, 89, 183, 0, 133, 76, 187, 0, 134, 89, 183, 0, 136, 77, 4, 188, 11, 78, 3, 54, 4]
abbrev dktL_law_0 : List UInt8 := dkwL_law_0 ++ dktL_law_1
theorem dksL_law_0 : cL_law.data.toList.drop 0 = dktL_law_0 := by decide +kernel
theorem dksL_law_1 : cL_law.data.toList.drop 23 = dktL_law_1 := dk_seg dksL_law_0 23 rfl rfl
theorem dksL_law_2 : cL_law.data.toList.drop 39 = dktL_law_2 := dk_seg dksL_law_1 16 rfl rfl
theorem dksL_law_3 : cL_law.data.toList.drop 284 = dktL_law_3 := dk_seg dksL_law_2 245 rfl rfl
theorem dksL_law_4 : cL_law.data.toList.drop 307 = dktL_law_4 := dk_seg dksL_law_3 23 rfl rfl
theorem dksL_law_5 : cL_law.data.toList.drop 331 = dktL_law_5 := dk_seg dksL_law_4 24 rfl rfl
theorem dksL_law_6 : cL_law.data.toList.drop 355 = dktL_law_6 := dk_seg dksL_law_5 24 rfl rfl
theorem dksL_law_7 : cL_law.data.toList.drop 378 = dktL_law_7 := dk_seg dksL_law_6 23 rfl rfl
theorem dksL_law_8 : cL_law.data.toList.drop 402 = dktL_law_8 := dk_seg dksL_law_7 24 rfl rfl
theorem dksL_law_9 : cL_law.data.toList.drop 426 = dktL_law_9 := dk_seg dksL_law_8 24 rfl rfl
theorem dksL_law_10 : cL_law.data.toList.drop 450 = dktL_law_10 := dk_seg dksL_law_9 24 rfl rfl
theorem dksL_law_11 : cL_law.data.toList.drop 472 = dktL_law_11 := dk_seg dksL_law_10 22 rfl rfl
theorem dksL_law_12 : cL_law.data.toList.drop 495 = dktL_law_12 := dk_seg dksL_law_11 23 rfl rfl
theorem dksL_law_13 : cL_law.data.toList.drop 517 = dktL_law_13 := dk_seg dksL_law_12 22 rfl rfl
theorem dksL_law_14 : cL_law.data.toList.drop 540 = dktL_law_14 := dk_seg dksL_law_13 23 rfl rfl
theorem dksL_law_15 : cL_law.data.toList.drop 564 = dktL_law_15 := dk_seg dksL_law_14 24 rfl rfl
theorem dksL_law_16 : cL_law.data.toList.drop 587 = dktL_law_16 := dk_seg dksL_law_15 23 rfl rfl
theorem dksL_law_17 : cL_law.data.toList.drop 611 = dktL_law_17 := dk_seg dksL_law_16 24 rfl rfl
theorem dksL_law_18 : cL_law.data.toList.drop 635 = dktL_law_18 := dk_seg dksL_law_17 24 rfl rfl
theorem dksL_law_19 : cL_law.data.toList.drop 658 = dktL_law_19 := dk_seg dksL_law_18 23 rfl rfl
theorem dksL_law_20 : cL_law.data.toList.drop 682 = dktL_law_20 := dk_seg dksL_law_19 24 rfl rfl
theorem dksL_law_21 : cL_law.data.toList.drop 706 = dktL_law_21 := dk_seg dksL_law_20 24 rfl rfl
theorem dksL_law_22 : cL_law.data.toList.drop 730 = dktL_law_22 := dk_seg dksL_law_21 24 rfl rfl
theorem dksL_law_23 : cL_law.data.toList.drop 754 = dktL_law_23 := dk_seg dksL_law_22 24 rfl rfl
theorem dksL_law_24 : cL_law.data.toList.drop 776 = dktL_law_24 := dk_seg dksL_law_23 22 rfl rfl
theorem dksL_law_25 : cL_law.data.toList.drop 800 = dktL_law_25 := dk_seg dksL_law_24 24 rfl rfl
theorem dksL_law_26 : cL_law.data.toList.drop 824 = dktL_law_26 := dk_seg dksL_law_25 24 rfl rfl
theorem dksL_law_27 : cL_law.data.toList.drop 847 = dktL_law_27 := dk_seg dksL_law_26 23 rfl rfl
theorem dksL_law_28 : cL_law.data.toList.drop 871 = dktL_law_28 := dk_seg dksL_law_27 24 rfl rfl
theorem dksL_law_29 : cL_law.data.toList.drop 894 = dktL_law_29 := dk_seg dksL_law_28 23 rfl rfl
theorem dksL_law_30 : cL_law.data.toList.drop 918 = dktL_law_30 := dk_seg dksL_law_29 24 rfl rfl
theorem dksL_law_31 : cL_law.data.toList.drop 940 = dktL_law_31 := dk_seg dksL_law_30 22 rfl rfl
theorem dksL_law_32 : cL_law.data.toList.drop 963 = dktL_law_32 := dk_seg dksL_law_31 23 rfl rfl
theorem dksL_law_33 : cL_law.data.toList.drop 986 = dktL_law_33 := dk_seg dksL_law_32 23 rfl rfl
theorem dksL_law_34 : cL_law.data.toList.drop 1010 = dktL_law_34 := dk_seg dksL_law_33 24 rfl rfl
theorem dksL_law_35 : cL_law.data.toList.drop 1033 = dktL_law_35 := dk_seg dksL_law_34 23 rfl rfl
theorem dksL_law_36 : cL_law.data.toList.drop 1057 = dktL_law_36 := dk_seg dksL_law_35 24 rfl rfl
theorem dksL_law_37 : cL_law.data.toList.drop 1080 = dktL_law_37 := dk_seg dksL_law_36 23 rfl rfl
theorem dksL_law_38 : cL_law.data.toList.drop 1104 = dktL_law_38 := dk_seg dksL_law_37 24 rfl rfl
theorem dksL_law_39 : cL_law.data.toList.drop 1128 = dktL_law_39 := dk_seg dksL_law_38 24 rfl rfl
theorem dksL_law_40 : cL_law.data.toList.drop 1150 = dktL_law_40 := dk_seg dksL_law_39 22 rfl rfl
theorem dksL_law_41 : cL_law.data.toList.drop 1174 = dktL_law_41 := dk_seg dksL_law_40 24 rfl rfl
theorem dksL_law_42 : cL_law.data.toList.drop 1197 = dktL_law_42 := dk_seg dksL_law_41 23 rfl rfl
theorem dksL_law_43 : cL_law.data.toList.drop 1221 = dktL_law_43 := dk_seg dksL_law_42 24 rfl rfl
theorem dksL_law_44 : cL_law.data.toList.drop 1244 = dktL_law_44 := dk_seg dksL_law_43 23 rfl rfl
theorem dksL_law_45 : cL_law.data.toList.drop 1267 = dktL_law_45 := dk_seg dksL_law_44 23 rfl rfl
theorem dksL_law_46 : cL_law.data.toList.drop 1291 = dktL_law_46 := dk_seg dksL_law_45 24 rfl rfl
theorem dksL_law_47 : cL_law.data.toList.drop 1315 = dktL_law_47 := dk_seg dksL_law_46 24 rfl rfl
theorem dksL_law_48 : cL_law.data.toList.drop 1339 = dktL_law_48 := dk_seg dksL_law_47 24 rfl rfl
theorem dksL_law_49 : cL_law.data.toList.drop 1361 = dktL_law_49 := dk_seg dksL_law_48 22 rfl rfl
theorem dksL_law_50 : cL_law.data.toList.drop 1384 = dktL_law_50 := dk_seg dksL_law_49 23 rfl rfl
theorem dksL_law_51 : cL_law.data.toList.drop 1407 = dktL_law_51 := dk_seg dksL_law_50 23 rfl rfl
theorem dksL_law_52 : cL_law.data.toList.drop 1431 = dktL_law_52 := dk_seg dksL_law_51 24 rfl rfl
theorem dksL_law_53 : cL_law.data.toList.drop 1454 = dktL_law_53 := dk_seg dksL_law_52 23 rfl rfl
theorem dksL_law_54 : cL_law.data.toList.drop 1478 = dktL_law_54 := dk_seg dksL_law_53 24 rfl rfl
theorem dksL_law_55 : cL_law.data.toList.drop 1501 = dktL_law_55 := dk_seg dksL_law_54 23 rfl rfl
theorem dksL_law_56 : cL_law.data.toList.drop 1525 = dktL_law_56 := dk_seg dksL_law_55 24 rfl rfl
theorem dksL_law_57 : cL_law.data.toList.drop 1548 = dktL_law_57 := dk_seg dksL_law_56 23 rfl rfl
theorem dksL_law_58 : cL_law.data.toList.drop 1572 = dktL_law_58 := dk_seg dksL_law_57 24 rfl rfl
theorem dksL_law_59 : cL_law.data.toList.drop 1595 = dktL_law_59 := dk_seg dksL_law_58 23 rfl rfl
theorem dksL_law_60 : cL_law.data.toList.drop 1619 = dktL_law_60 := dk_seg dksL_law_59 24 rfl rfl
theorem dksL_law_61 : cL_law.data.toList.drop 1641 = dktL_law_61 := dk_seg dksL_law_60 22 rfl rfl
theorem dksL_law_62 : cL_law.data.toList.drop 1664 = dktL_law_62 := dk_seg dksL_law_61 23 rfl rfl
theorem dksL_law_63 : cL_law.data.toList.drop 1687 = dktL_law_63 := dk_seg dksL_law_62 23 rfl rfl
theorem dksL_law_64 : cL_law.data.toList.drop 1711 = dktL_law_64 := dk_seg dksL_law_63 24 rfl rfl
theorem dksL_law_65 : cL_law.data.toList.drop 1734 = dktL_law_65 := dk_seg dksL_law_64 23 rfl rfl
theorem dksL_law_66 : cL_law.data.toList.drop 1758 = dktL_law_66 := dk_seg dksL_law_65 24 rfl rfl
theorem dksL_law_67 : cL_law.data.toList.drop 1782 = dktL_law_67 := dk_seg dksL_law_66 24 rfl rfl
theorem dksL_law_68 : cL_law.data.toList.drop 1806 = dktL_law_68 := dk_seg dksL_law_67 24 rfl rfl
theorem dksL_law_69 : cL_law.data.toList.drop 1830 = dktL_law_69 := dk_seg dksL_law_68 24 rfl rfl
theorem dksL_law_70 : cL_law.data.toList.drop 1853 = dktL_law_70 := dk_seg dksL_law_69 23 rfl rfl
theorem dksL_law_71 : cL_law.data.toList.drop 1877 = dktL_law_71 := dk_seg dksL_law_70 24 rfl rfl
theorem dksL_law_72 : cL_law.data.toList.drop 1900 = dktL_law_72 := dk_seg dksL_law_71 23 rfl rfl
theorem dksL_law_73 : cL_law.data.toList.drop 1924 = dktL_law_73 := dk_seg dksL_law_72 24 rfl rfl
theorem dksL_law_74 : cL_law.data.toList.drop 1947 = dktL_law_74 := dk_seg dksL_law_73 23 rfl rfl
theorem dksL_law_75 : cL_law.data.toList.drop 1971 = dktL_law_75 := dk_seg dksL_law_74 24 rfl rfl
theorem dksL_law_76 : cL_law.data.toList.drop 1994 = dktL_law_76 := dk_seg dksL_law_75 23 rfl rfl
theorem dksL_law_77 : cL_law.data.toList.drop 2018 = dktL_law_77 := dk_seg dksL_law_76 24 rfl rfl
theorem dksL_law_78 : cL_law.data.toList.drop 2040 = dktL_law_78 := dk_seg dksL_law_77 22 rfl rfl
theorem dksL_law_79 : cL_law.data.toList.drop 2062 = dktL_law_79 := dk_seg dksL_law_78 22 rfl rfl
theorem dksL_law_80 : cL_law.data.toList.drop 2086 = dktL_law_80 := dk_seg dksL_law_79 24 rfl rfl
theorem dksL_law_81 : cL_law.data.toList.drop 2108 = dktL_law_81 := dk_seg dksL_law_80 22 rfl rfl
theorem dksL_law_82 : cL_law.data.toList.drop 2131 = dktL_law_82 := dk_seg dksL_law_81 23 rfl rfl
theorem dksL_law_83 : cL_law.data.toList.drop 2153 = dktL_law_83 := dk_seg dksL_law_82 22 rfl rfl
theorem dksL_law_84 : cL_law.data.toList.drop 2177 = dktL_law_84 := dk_seg dksL_law_83 24 rfl rfl
theorem dksL_law_85 : cL_law.data.toList.drop 2199 = dktL_law_85 := dk_seg dksL_law_84 22 rfl rfl
theorem dksL_law_86 : cL_law.data.toList.drop 2221 = dktL_law_86 := dk_seg dksL_law_85 22 rfl rfl
theorem dksL_law_87 : cL_law.data.toList.drop 2244 = dktL_law_87 := dk_seg dksL_law_86 23 rfl rfl
theorem dksL_law_88 : cL_law.data.toList.drop 2268 = dktL_law_88 := dk_seg dksL_law_87 24 rfl rfl
theorem dksL_law_89 : cL_law.data.toList.drop 2291 = dktL_law_89 := dk_seg dksL_law_88 23 rfl rfl
theorem dksL_law_90 : cL_law.data.toList.drop 2315 = dktL_law_90 := dk_seg dksL_law_89 24 rfl rfl
theorem dksL_law_91 : cL_law.data.toList.drop 2338 = dktL_law_91 := dk_seg dksL_law_90 23 rfl rfl
theorem dksL_law_92 : cL_law.data.toList.drop 2362 = dktL_law_92 := dk_seg dksL_law_91 24 rfl rfl
theorem dksL_law_93 : cL_law.data.toList.drop 2386 = dktL_law_93 := dk_seg dksL_law_92 24 rfl rfl
theorem dksL_law_94 : cL_law.data.toList.drop 2410 = dktL_law_94 := dk_seg dksL_law_93 24 rfl rfl
theorem dksL_law_95 : cL_law.data.toList.drop 2433 = dktL_law_95 := dk_seg dksL_law_94 23 rfl rfl
theorem dksL_law_96 : cL_law.data.toList.drop 2457 = dktL_law_96 := dk_seg dksL_law_95 24 rfl rfl
theorem dksL_law_97 : cL_law.data.toList.drop 2480 = dktL_law_97 := dk_seg dksL_law_96 23 rfl rfl
theorem dksL_law_98 : cL_law.data.toList.drop 2503 = dktL_law_98 := dk_seg dksL_law_97 23 rfl rfl
theorem dksL_law_99 : cL_law.data.toList.drop 2527 = dktL_law_99 := dk_seg dksL_law_98 24 rfl rfl
theorem dksL_law_100 : cL_law.data.toList.drop 2549 = dktL_law_100 := dk_seg dksL_law_99 22 rfl rfl
theorem dksL_law_101 : cL_law.data.toList.drop 2572 = dktL_law_101 := dk_seg dksL_law_100 23 rfl rfl
theorem dksL_law_102 : cL_law.data.toList.drop 2596 = dktL_law_102 := dk_seg dksL_law_101 24 rfl rfl
theorem dksL_law_103 : cL_law.data.toList.drop 2618 = dktL_law_103 := dk_seg dksL_law_102 22 rfl rfl
theorem dksL_law_104 : cL_law.data.toList.drop 2641 = dktL_law_104 := dk_seg dksL_law_103 23 rfl rfl
theorem dksL_law_105 : cL_law.data.toList.drop 2664 = dktL_law_105 := dk_seg dksL_law_104 23 rfl rfl
theorem dksL_law_106 : cL_law.data.toList.drop 2688 = dktL_law_106 := dk_seg dksL_law_105 24 rfl rfl
theorem dksL_law_107 : cL_law.data.toList.drop 2711 = dktL_law_107 := dk_seg dksL_law_106 23 rfl rfl
theorem dksL_law_108 : cL_law.data.toList.drop 2733 = dktL_law_108 := dk_seg dksL_law_107 22 rfl rfl
theorem dksL_law_109 : cL_law.data.toList.drop 2757 = dktL_law_109 := dk_seg dksL_law_108 24 rfl rfl
theorem dksL_law_110 : cL_law.data.toList.drop 2781 = dktL_law_110 := dk_seg dksL_law_109 24 rfl rfl
theorem dksL_law_111 : cL_law.data.toList.drop 2803 = dktL_law_111 := dk_seg dksL_law_110 22 rfl rfl
theorem dksL_law_112 : cL_law.data.toList.drop 2827 = dktL_law_112 := dk_seg dksL_law_111 24 rfl rfl
theorem dL_law_0 : decode cL_law 0 = .ok (.new 8, 3) := dk_187 0 8 (dk_at dksL_law_0 0 rfl rfl)
theorem dL_law_3 : decode cL_law 3 = .ok (.dup, 1) := dk_89 (dk_at dksL_law_0 3 rfl rfl)
theorem dL_law_4 : decode cL_law 4 = .ok (.invokespecial 133, 3) := dk_183 0 133 (dk_at dksL_law_0 4 rfl rfl)
theorem dL_law_7 : decode cL_law 7 = .ok (.astore_n 1, 1) := dk_76 (dk_at dksL_law_0 7 rfl rfl)
theorem dL_law_8 : decode cL_law 8 = .ok (.new 134, 3) := dk_187 0 134 (dk_at dksL_law_0 8 rfl rfl)
theorem dL_law_11 : decode cL_law 11 = .ok (.dup, 1) := dk_89 (dk_at dksL_law_0 11 rfl rfl)
theorem dL_law_12 : decode cL_law 12 = .ok (.invokespecial 136, 3) := dk_183 0 136 (dk_at dksL_law_0 12 rfl rfl)
theorem dL_law_15 : decode cL_law 15 = .ok (.astore_n 2, 1) := dk_77 (dk_at dksL_law_0 15 rfl rfl)
theorem dL_law_16 : decode cL_law 16 = .ok (.iconst 1, 1) := dk_4 (dk_at dksL_law_0 16 rfl rfl)
theorem dL_law_17 : decode cL_law 17 = .ok (.newarray .long, 2) := dk_188_11 (dk_at dksL_law_0 17 rfl rfl)
theorem dL_law_19 : decode cL_law 19 = .ok (.astore_n 3, 1) := dk_78 (dk_at dksL_law_0 19 rfl rfl)
theorem dL_law_20 : decode cL_law 20 = .ok (.iconst 0, 1) := dk_3 (dk_at dksL_law_0 20 rfl rfl)
theorem dL_law_21 : decode cL_law 21 = .ok (.istore 4, 2) := dk_54 4 (dk_at dksL_law_0 21 rfl rfl)
theorem dL_law_23 : decode cL_law 23 = .ok (.iload 4, 2) := dk_21 4 (dk_at dksL_law_1 0 rfl rfl)
theorem dL_law_25 : decode cL_law 25 = .ok (.aload_n 0, 1) := dk_42 (dk_at dksL_law_1 2 rfl rfl)
theorem dL_law_26 : decode cL_law 26 = .ok (.arraylength, 1) := dk_190 (dk_at dksL_law_1 3 rfl rfl)
theorem dL_law_27 : decode cL_law 27 = .ok (.iconst 3, 1) := dk_6 (dk_at dksL_law_1 4 rfl rfl)
theorem dL_law_28 : decode cL_law 28 = .ok (.isub, 1) := dk_100 (dk_at dksL_law_1 5 rfl rfl)
theorem dL_law_29 : decode cL_law 29 = .ok (.if_icmp .gt 2804, 3) := dk_163 10 244 (dk_at dksL_law_1 6 rfl rfl)
theorem dL_law_32 : decode cL_law 32 = .ok (.aload_n 0, 1) := dk_42 (dk_at dksL_law_1 9 rfl rfl)
theorem dL_law_33 : decode cL_law 33 = .ok (.iload 4, 2) := dk_21 4 (dk_at dksL_law_1 10 rfl rfl)
theorem dL_law_35 : decode cL_law 35 = .ok (.iaload, 1) := dk_46 (dk_at dksL_law_1 12 rfl rfl)
theorem dL_law_36 : decode cL_law 36 = .ok (.bipush 63, 2) := dk_16 63 (dk_at dksL_law_1 13 rfl rfl)
theorem dL_law_38 : decode cL_law 38 = .ok (.iand, 1) := dk_126 (dk_at dksL_law_1 15 rfl rfl)
theorem dL_law_39 : decode cL_law 39 = .ok (.tableswitch 2788 0 57 #[245, 301, 357, 425, 481, 537, 581, 637, 705, 773, 841, 909, 965, 1021, 1077, 1090, 1103, 1147, 1191, 1204, 1217, 1261, 1274, 1330, 1386, 1442, 1498, 1554, 1610, 1666, 1729, 1785, 1841, 1897, 1953, 2009, 2022, 2035, 2048, 2061, 2117, 2185, 2241, 2297, 2365, 2421, 2462, 2518, 2531, 2587, 2600, 2641, 2654, 2667, 2680, 2693, 2706, 2747], 245) := by decide +kernel
theorem dL_law_284 : decode cL_law 284 = .ok (.aload_n 1, 1) := dk_43 (dk_at dksL_law_3 0 rfl rfl)
theorem dL_law_285 : decode cL_law 285 = .ok (.aload_n 0, 1) := dk_42 (dk_at dksL_law_3 1 rfl rfl)
theorem dL_law_286 : decode cL_law 286 = .ok (.iload 4, 2) := dk_21 4 (dk_at dksL_law_3 2 rfl rfl)
theorem dL_law_288 : decode cL_law 288 = .ok (.iconst 1, 1) := dk_4 (dk_at dksL_law_3 4 rfl rfl)
theorem dL_law_289 : decode cL_law 289 = .ok (.iadd, 1) := dk_96 (dk_at dksL_law_3 5 rfl rfl)
theorem dL_law_290 : decode cL_law 290 = .ok (.iaload, 1) := dk_46 (dk_at dksL_law_3 6 rfl rfl)
theorem dL_law_291 : decode cL_law 291 = .ok (.aload_n 3, 1) := dk_45 (dk_at dksL_law_3 7 rfl rfl)
theorem dL_law_292 : decode cL_law 292 = .ok (.invokestatic 137, 3) := dk_184 0 137 (dk_at dksL_law_3 8 rfl rfl)
theorem dL_law_295 : decode cL_law 295 = .ok (.istore 5, 2) := dk_54 5 (dk_at dksL_law_3 11 rfl rfl)
theorem dL_law_297 : decode cL_law 297 = .ok (.aload_n 2, 1) := dk_44 (dk_at dksL_law_3 13 rfl rfl)
theorem dL_law_298 : decode cL_law 298 = .ok (.aload_n 0, 1) := dk_42 (dk_at dksL_law_3 14 rfl rfl)
theorem dL_law_299 : decode cL_law 299 = .ok (.iload 4, 2) := dk_21 4 (dk_at dksL_law_3 15 rfl rfl)
theorem dL_law_301 : decode cL_law 301 = .ok (.iconst 1, 1) := dk_4 (dk_at dksL_law_3 17 rfl rfl)
theorem dL_law_302 : decode cL_law 302 = .ok (.iadd, 1) := dk_96 (dk_at dksL_law_3 18 rfl rfl)
theorem dL_law_303 : decode cL_law 303 = .ok (.iaload, 1) := dk_46 (dk_at dksL_law_3 19 rfl rfl)
theorem dL_law_304 : decode cL_law 304 = .ok (.invokevirtual 142, 3) := dk_182 0 142 (dk_at dksL_law_3 20 rfl rfl)
theorem dL_law_307 : decode cL_law 307 = .ok (.istore 6, 2) := dk_54 6 (dk_at dksL_law_4 0 rfl rfl)
theorem dL_law_309 : decode cL_law 309 = .ok (.aload_n 2, 1) := dk_44 (dk_at dksL_law_4 2 rfl rfl)
theorem dL_law_310 : decode cL_law 310 = .ok (.invokevirtual 143, 3) := dk_182 0 143 (dk_at dksL_law_4 3 rfl rfl)
theorem dL_law_313 : decode cL_law 313 = .ok (.iload 5, 2) := dk_21 5 (dk_at dksL_law_4 6 rfl rfl)
theorem dL_law_315 : decode cL_law 315 = .ok (.if_icmp .eq 5, 3) := dk_159 0 5 (dk_at dksL_law_4 8 rfl rfl)
theorem dL_law_318 : decode cL_law 318 = .ok (.iconst 0, 1) := dk_3 (dk_at dksL_law_4 11 rfl rfl)
theorem dL_law_319 : decode cL_law 319 = .ok (.ireturn, 1) := dk_172 (dk_at dksL_law_4 12 rfl rfl)
theorem dL_law_320 : decode cL_law 320 = .ok (.iload 5, 2) := dk_21 5 (dk_at dksL_law_4 13 rfl rfl)
theorem dL_law_322 : decode cL_law 322 = .ok (.ifCond .ne 15, 3) := dk_154 0 15 (dk_at dksL_law_4 15 rfl rfl)
theorem dL_law_325 : decode cL_law 325 = .ok (.aload_n 3, 1) := dk_45 (dk_at dksL_law_4 18 rfl rfl)
theorem dL_law_326 : decode cL_law 326 = .ok (.iconst 0, 1) := dk_3 (dk_at dksL_law_4 19 rfl rfl)
theorem dL_law_327 : decode cL_law 327 = .ok (.laload, 1) := dk_47 (dk_at dksL_law_4 20 rfl rfl)
theorem dL_law_328 : decode cL_law 328 = .ok (.iload 6, 2) := dk_21 6 (dk_at dksL_law_4 21 rfl rfl)
theorem dL_law_330 : decode cL_law 330 = .ok (.i2l, 1) := dk_133 (dk_at dksL_law_4 23 rfl rfl)
theorem dL_law_331 : decode cL_law 331 = .ok (.lcmp, 1) := dk_148 (dk_at dksL_law_5 0 rfl rfl)
theorem dL_law_332 : decode cL_law 332 = .ok (.ifCond .eq 5, 3) := dk_153 0 5 (dk_at dksL_law_5 1 rfl rfl)
theorem dL_law_335 : decode cL_law 335 = .ok (.iconst 0, 1) := dk_3 (dk_at dksL_law_5 4 rfl rfl)
theorem dL_law_336 : decode cL_law 336 = .ok (.ireturn, 1) := dk_172 (dk_at dksL_law_5 5 rfl rfl)
theorem dL_law_337 : decode cL_law 337 = .ok (.goto 2490, 3) := dk_167 9 186 (dk_at dksL_law_5 6 rfl rfl)
theorem dL_law_340 : decode cL_law 340 = .ok (.aload_n 1, 1) := dk_43 (dk_at dksL_law_5 9 rfl rfl)
theorem dL_law_341 : decode cL_law 341 = .ok (.aload_n 0, 1) := dk_42 (dk_at dksL_law_5 10 rfl rfl)
theorem dL_law_342 : decode cL_law 342 = .ok (.iload 4, 2) := dk_21 4 (dk_at dksL_law_5 11 rfl rfl)
theorem dL_law_344 : decode cL_law 344 = .ok (.iconst 1, 1) := dk_4 (dk_at dksL_law_5 13 rfl rfl)
theorem dL_law_345 : decode cL_law 345 = .ok (.iadd, 1) := dk_96 (dk_at dksL_law_5 14 rfl rfl)
theorem dL_law_346 : decode cL_law 346 = .ok (.iaload, 1) := dk_46 (dk_at dksL_law_5 15 rfl rfl)
theorem dL_law_347 : decode cL_law 347 = .ok (.aload_n 3, 1) := dk_45 (dk_at dksL_law_5 16 rfl rfl)
theorem dL_law_348 : decode cL_law 348 = .ok (.invokestatic 146, 3) := dk_184 0 146 (dk_at dksL_law_5 17 rfl rfl)
theorem dL_law_351 : decode cL_law 351 = .ok (.istore 5, 2) := dk_54 5 (dk_at dksL_law_5 20 rfl rfl)
theorem dL_law_353 : decode cL_law 353 = .ok (.aload_n 2, 1) := dk_44 (dk_at dksL_law_5 22 rfl rfl)
theorem dL_law_354 : decode cL_law 354 = .ok (.aload_n 0, 1) := dk_42 (dk_at dksL_law_5 23 rfl rfl)
theorem dL_law_355 : decode cL_law 355 = .ok (.iload 4, 2) := dk_21 4 (dk_at dksL_law_6 0 rfl rfl)
theorem dL_law_357 : decode cL_law 357 = .ok (.iconst 1, 1) := dk_4 (dk_at dksL_law_6 2 rfl rfl)
theorem dL_law_358 : decode cL_law 358 = .ok (.iadd, 1) := dk_96 (dk_at dksL_law_6 3 rfl rfl)
theorem dL_law_359 : decode cL_law 359 = .ok (.iaload, 1) := dk_46 (dk_at dksL_law_6 4 rfl rfl)
theorem dL_law_360 : decode cL_law 360 = .ok (.invokevirtual 148, 3) := dk_182 0 148 (dk_at dksL_law_6 5 rfl rfl)
theorem dL_law_363 : decode cL_law 363 = .ok (.istore 6, 2) := dk_54 6 (dk_at dksL_law_6 8 rfl rfl)
theorem dL_law_365 : decode cL_law 365 = .ok (.aload_n 2, 1) := dk_44 (dk_at dksL_law_6 10 rfl rfl)
theorem dL_law_366 : decode cL_law 366 = .ok (.invokevirtual 143, 3) := dk_182 0 143 (dk_at dksL_law_6 11 rfl rfl)
theorem dL_law_369 : decode cL_law 369 = .ok (.iload 5, 2) := dk_21 5 (dk_at dksL_law_6 14 rfl rfl)
theorem dL_law_371 : decode cL_law 371 = .ok (.if_icmp .eq 5, 3) := dk_159 0 5 (dk_at dksL_law_6 16 rfl rfl)
theorem dL_law_374 : decode cL_law 374 = .ok (.iconst 0, 1) := dk_3 (dk_at dksL_law_6 19 rfl rfl)
theorem dL_law_375 : decode cL_law 375 = .ok (.ireturn, 1) := dk_172 (dk_at dksL_law_6 20 rfl rfl)
theorem dL_law_376 : decode cL_law 376 = .ok (.iload 5, 2) := dk_21 5 (dk_at dksL_law_6 21 rfl rfl)
theorem dL_law_378 : decode cL_law 378 = .ok (.ifCond .ne 15, 3) := dk_154 0 15 (dk_at dksL_law_7 0 rfl rfl)
theorem dL_law_381 : decode cL_law 381 = .ok (.aload_n 3, 1) := dk_45 (dk_at dksL_law_7 3 rfl rfl)
theorem dL_law_382 : decode cL_law 382 = .ok (.iconst 0, 1) := dk_3 (dk_at dksL_law_7 4 rfl rfl)
theorem dL_law_383 : decode cL_law 383 = .ok (.laload, 1) := dk_47 (dk_at dksL_law_7 5 rfl rfl)
theorem dL_law_384 : decode cL_law 384 = .ok (.iload 6, 2) := dk_21 6 (dk_at dksL_law_7 6 rfl rfl)
theorem dL_law_386 : decode cL_law 386 = .ok (.i2l, 1) := dk_133 (dk_at dksL_law_7 8 rfl rfl)
theorem dL_law_387 : decode cL_law 387 = .ok (.lcmp, 1) := dk_148 (dk_at dksL_law_7 9 rfl rfl)
theorem dL_law_388 : decode cL_law 388 = .ok (.ifCond .eq 5, 3) := dk_153 0 5 (dk_at dksL_law_7 10 rfl rfl)
theorem dL_law_391 : decode cL_law 391 = .ok (.iconst 0, 1) := dk_3 (dk_at dksL_law_7 13 rfl rfl)
theorem dL_law_392 : decode cL_law 392 = .ok (.ireturn, 1) := dk_172 (dk_at dksL_law_7 14 rfl rfl)
theorem dL_law_393 : decode cL_law 393 = .ok (.goto 2434, 3) := dk_167 9 130 (dk_at dksL_law_7 15 rfl rfl)
theorem dL_law_396 : decode cL_law 396 = .ok (.aload_n 1, 1) := dk_43 (dk_at dksL_law_7 18 rfl rfl)
theorem dL_law_397 : decode cL_law 397 = .ok (.aload_n 0, 1) := dk_42 (dk_at dksL_law_7 19 rfl rfl)
theorem dL_law_398 : decode cL_law 398 = .ok (.iload 4, 2) := dk_21 4 (dk_at dksL_law_7 20 rfl rfl)
theorem dL_law_400 : decode cL_law 400 = .ok (.iconst 1, 1) := dk_4 (dk_at dksL_law_7 22 rfl rfl)
theorem dL_law_401 : decode cL_law 401 = .ok (.iadd, 1) := dk_96 (dk_at dksL_law_7 23 rfl rfl)
theorem dL_law_402 : decode cL_law 402 = .ok (.iaload, 1) := dk_46 (dk_at dksL_law_8 0 rfl rfl)
theorem dL_law_403 : decode cL_law 403 = .ok (.aload_n 0, 1) := dk_42 (dk_at dksL_law_8 1 rfl rfl)
theorem dL_law_404 : decode cL_law 404 = .ok (.iload 4, 2) := dk_21 4 (dk_at dksL_law_8 2 rfl rfl)
theorem dL_law_406 : decode cL_law 406 = .ok (.iconst 2, 1) := dk_5 (dk_at dksL_law_8 4 rfl rfl)
theorem dL_law_407 : decode cL_law 407 = .ok (.iadd, 1) := dk_96 (dk_at dksL_law_8 5 rfl rfl)
theorem dL_law_408 : decode cL_law 408 = .ok (.iaload, 1) := dk_46 (dk_at dksL_law_8 6 rfl rfl)
theorem dL_law_409 : decode cL_law 409 = .ok (.aload_n 3, 1) := dk_45 (dk_at dksL_law_8 7 rfl rfl)
theorem dL_law_410 : decode cL_law 410 = .ok (.invokestatic 149, 3) := dk_184 0 149 (dk_at dksL_law_8 8 rfl rfl)
theorem dL_law_413 : decode cL_law 413 = .ok (.istore 5, 2) := dk_54 5 (dk_at dksL_law_8 11 rfl rfl)
theorem dL_law_415 : decode cL_law 415 = .ok (.aload_n 2, 1) := dk_44 (dk_at dksL_law_8 13 rfl rfl)
theorem dL_law_416 : decode cL_law 416 = .ok (.aload_n 0, 1) := dk_42 (dk_at dksL_law_8 14 rfl rfl)
theorem dL_law_417 : decode cL_law 417 = .ok (.iload 4, 2) := dk_21 4 (dk_at dksL_law_8 15 rfl rfl)
theorem dL_law_419 : decode cL_law 419 = .ok (.iconst 1, 1) := dk_4 (dk_at dksL_law_8 17 rfl rfl)
theorem dL_law_420 : decode cL_law 420 = .ok (.iadd, 1) := dk_96 (dk_at dksL_law_8 18 rfl rfl)
theorem dL_law_421 : decode cL_law 421 = .ok (.iaload, 1) := dk_46 (dk_at dksL_law_8 19 rfl rfl)
theorem dL_law_422 : decode cL_law 422 = .ok (.aload_n 0, 1) := dk_42 (dk_at dksL_law_8 20 rfl rfl)
theorem dL_law_423 : decode cL_law 423 = .ok (.iload 4, 2) := dk_21 4 (dk_at dksL_law_8 21 rfl rfl)
theorem dL_law_425 : decode cL_law 425 = .ok (.iconst 2, 1) := dk_5 (dk_at dksL_law_8 23 rfl rfl)
theorem dL_law_426 : decode cL_law 426 = .ok (.iadd, 1) := dk_96 (dk_at dksL_law_9 0 rfl rfl)
theorem dL_law_427 : decode cL_law 427 = .ok (.iaload, 1) := dk_46 (dk_at dksL_law_9 1 rfl rfl)
theorem dL_law_428 : decode cL_law 428 = .ok (.invokevirtual 152, 3) := dk_182 0 152 (dk_at dksL_law_9 2 rfl rfl)
theorem dL_law_431 : decode cL_law 431 = .ok (.istore 6, 2) := dk_54 6 (dk_at dksL_law_9 5 rfl rfl)
theorem dL_law_433 : decode cL_law 433 = .ok (.aload_n 2, 1) := dk_44 (dk_at dksL_law_9 7 rfl rfl)
theorem dL_law_434 : decode cL_law 434 = .ok (.invokevirtual 143, 3) := dk_182 0 143 (dk_at dksL_law_9 8 rfl rfl)
theorem dL_law_437 : decode cL_law 437 = .ok (.iload 5, 2) := dk_21 5 (dk_at dksL_law_9 11 rfl rfl)
theorem dL_law_439 : decode cL_law 439 = .ok (.if_icmp .eq 5, 3) := dk_159 0 5 (dk_at dksL_law_9 13 rfl rfl)
theorem dL_law_442 : decode cL_law 442 = .ok (.iconst 0, 1) := dk_3 (dk_at dksL_law_9 16 rfl rfl)
theorem dL_law_443 : decode cL_law 443 = .ok (.ireturn, 1) := dk_172 (dk_at dksL_law_9 17 rfl rfl)
theorem dL_law_444 : decode cL_law 444 = .ok (.iload 5, 2) := dk_21 5 (dk_at dksL_law_9 18 rfl rfl)
theorem dL_law_446 : decode cL_law 446 = .ok (.ifCond .ne 15, 3) := dk_154 0 15 (dk_at dksL_law_9 20 rfl rfl)
theorem dL_law_449 : decode cL_law 449 = .ok (.aload_n 3, 1) := dk_45 (dk_at dksL_law_9 23 rfl rfl)
theorem dL_law_450 : decode cL_law 450 = .ok (.iconst 0, 1) := dk_3 (dk_at dksL_law_10 0 rfl rfl)
theorem dL_law_451 : decode cL_law 451 = .ok (.laload, 1) := dk_47 (dk_at dksL_law_10 1 rfl rfl)
theorem dL_law_452 : decode cL_law 452 = .ok (.iload 6, 2) := dk_21 6 (dk_at dksL_law_10 2 rfl rfl)
theorem dL_law_454 : decode cL_law 454 = .ok (.i2l, 1) := dk_133 (dk_at dksL_law_10 4 rfl rfl)
theorem dL_law_455 : decode cL_law 455 = .ok (.lcmp, 1) := dk_148 (dk_at dksL_law_10 5 rfl rfl)
theorem dL_law_456 : decode cL_law 456 = .ok (.ifCond .eq 5, 3) := dk_153 0 5 (dk_at dksL_law_10 6 rfl rfl)
theorem dL_law_459 : decode cL_law 459 = .ok (.iconst 0, 1) := dk_3 (dk_at dksL_law_10 9 rfl rfl)
theorem dL_law_460 : decode cL_law 460 = .ok (.ireturn, 1) := dk_172 (dk_at dksL_law_10 10 rfl rfl)
theorem dL_law_461 : decode cL_law 461 = .ok (.goto 2366, 3) := dk_167 9 62 (dk_at dksL_law_10 11 rfl rfl)
theorem dL_law_464 : decode cL_law 464 = .ok (.aload_n 1, 1) := dk_43 (dk_at dksL_law_10 14 rfl rfl)
theorem dL_law_465 : decode cL_law 465 = .ok (.aload_n 0, 1) := dk_42 (dk_at dksL_law_10 15 rfl rfl)
theorem dL_law_466 : decode cL_law 466 = .ok (.iload 4, 2) := dk_21 4 (dk_at dksL_law_10 16 rfl rfl)
theorem dL_law_468 : decode cL_law 468 = .ok (.iconst 1, 1) := dk_4 (dk_at dksL_law_10 18 rfl rfl)
theorem dL_law_469 : decode cL_law 469 = .ok (.iadd, 1) := dk_96 (dk_at dksL_law_10 19 rfl rfl)
theorem dL_law_470 : decode cL_law 470 = .ok (.iaload, 1) := dk_46 (dk_at dksL_law_10 20 rfl rfl)
theorem dL_law_471 : decode cL_law 471 = .ok (.aload_n 3, 1) := dk_45 (dk_at dksL_law_10 21 rfl rfl)
theorem dL_law_472 : decode cL_law 472 = .ok (.invokestatic 153, 3) := dk_184 0 153 (dk_at dksL_law_11 0 rfl rfl)
theorem dL_law_475 : decode cL_law 475 = .ok (.istore 5, 2) := dk_54 5 (dk_at dksL_law_11 3 rfl rfl)
theorem dL_law_477 : decode cL_law 477 = .ok (.aload_n 2, 1) := dk_44 (dk_at dksL_law_11 5 rfl rfl)
theorem dL_law_478 : decode cL_law 478 = .ok (.aload_n 0, 1) := dk_42 (dk_at dksL_law_11 6 rfl rfl)
theorem dL_law_479 : decode cL_law 479 = .ok (.iload 4, 2) := dk_21 4 (dk_at dksL_law_11 7 rfl rfl)
theorem dL_law_481 : decode cL_law 481 = .ok (.iconst 1, 1) := dk_4 (dk_at dksL_law_11 9 rfl rfl)
theorem dL_law_482 : decode cL_law 482 = .ok (.iadd, 1) := dk_96 (dk_at dksL_law_11 10 rfl rfl)
theorem dL_law_483 : decode cL_law 483 = .ok (.iaload, 1) := dk_46 (dk_at dksL_law_11 11 rfl rfl)
theorem dL_law_484 : decode cL_law 484 = .ok (.invokevirtual 155, 3) := dk_182 0 155 (dk_at dksL_law_11 12 rfl rfl)
theorem dL_law_487 : decode cL_law 487 = .ok (.istore 6, 2) := dk_54 6 (dk_at dksL_law_11 15 rfl rfl)
theorem dL_law_489 : decode cL_law 489 = .ok (.aload_n 2, 1) := dk_44 (dk_at dksL_law_11 17 rfl rfl)
theorem dL_law_490 : decode cL_law 490 = .ok (.invokevirtual 143, 3) := dk_182 0 143 (dk_at dksL_law_11 18 rfl rfl)
theorem dL_law_493 : decode cL_law 493 = .ok (.iload 5, 2) := dk_21 5 (dk_at dksL_law_11 21 rfl rfl)
theorem dL_law_495 : decode cL_law 495 = .ok (.if_icmp .eq 5, 3) := dk_159 0 5 (dk_at dksL_law_12 0 rfl rfl)
theorem dL_law_498 : decode cL_law 498 = .ok (.iconst 0, 1) := dk_3 (dk_at dksL_law_12 3 rfl rfl)
theorem dL_law_499 : decode cL_law 499 = .ok (.ireturn, 1) := dk_172 (dk_at dksL_law_12 4 rfl rfl)
theorem dL_law_500 : decode cL_law 500 = .ok (.iload 5, 2) := dk_21 5 (dk_at dksL_law_12 5 rfl rfl)
theorem dL_law_502 : decode cL_law 502 = .ok (.ifCond .ne 15, 3) := dk_154 0 15 (dk_at dksL_law_12 7 rfl rfl)
theorem dL_law_505 : decode cL_law 505 = .ok (.aload_n 3, 1) := dk_45 (dk_at dksL_law_12 10 rfl rfl)
theorem dL_law_506 : decode cL_law 506 = .ok (.iconst 0, 1) := dk_3 (dk_at dksL_law_12 11 rfl rfl)
theorem dL_law_507 : decode cL_law 507 = .ok (.laload, 1) := dk_47 (dk_at dksL_law_12 12 rfl rfl)
theorem dL_law_508 : decode cL_law 508 = .ok (.iload 6, 2) := dk_21 6 (dk_at dksL_law_12 13 rfl rfl)
theorem dL_law_510 : decode cL_law 510 = .ok (.i2l, 1) := dk_133 (dk_at dksL_law_12 15 rfl rfl)
theorem dL_law_511 : decode cL_law 511 = .ok (.lcmp, 1) := dk_148 (dk_at dksL_law_12 16 rfl rfl)
theorem dL_law_512 : decode cL_law 512 = .ok (.ifCond .eq 5, 3) := dk_153 0 5 (dk_at dksL_law_12 17 rfl rfl)
theorem dL_law_515 : decode cL_law 515 = .ok (.iconst 0, 1) := dk_3 (dk_at dksL_law_12 20 rfl rfl)
theorem dL_law_516 : decode cL_law 516 = .ok (.ireturn, 1) := dk_172 (dk_at dksL_law_12 21 rfl rfl)
theorem dL_law_517 : decode cL_law 517 = .ok (.goto 2310, 3) := dk_167 9 6 (dk_at dksL_law_13 0 rfl rfl)
theorem dL_law_520 : decode cL_law 520 = .ok (.aload_n 1, 1) := dk_43 (dk_at dksL_law_13 3 rfl rfl)
theorem dL_law_521 : decode cL_law 521 = .ok (.aload_n 0, 1) := dk_42 (dk_at dksL_law_13 4 rfl rfl)
theorem dL_law_522 : decode cL_law 522 = .ok (.iload 4, 2) := dk_21 4 (dk_at dksL_law_13 5 rfl rfl)
theorem dL_law_524 : decode cL_law 524 = .ok (.iconst 1, 1) := dk_4 (dk_at dksL_law_13 7 rfl rfl)
theorem dL_law_525 : decode cL_law 525 = .ok (.iadd, 1) := dk_96 (dk_at dksL_law_13 8 rfl rfl)
theorem dL_law_526 : decode cL_law 526 = .ok (.iaload, 1) := dk_46 (dk_at dksL_law_13 9 rfl rfl)
theorem dL_law_527 : decode cL_law 527 = .ok (.aload_n 3, 1) := dk_45 (dk_at dksL_law_13 10 rfl rfl)
theorem dL_law_528 : decode cL_law 528 = .ok (.invokestatic 156, 3) := dk_184 0 156 (dk_at dksL_law_13 11 rfl rfl)
theorem dL_law_531 : decode cL_law 531 = .ok (.istore 5, 2) := dk_54 5 (dk_at dksL_law_13 14 rfl rfl)
theorem dL_law_533 : decode cL_law 533 = .ok (.aload_n 2, 1) := dk_44 (dk_at dksL_law_13 16 rfl rfl)
theorem dL_law_534 : decode cL_law 534 = .ok (.aload_n 0, 1) := dk_42 (dk_at dksL_law_13 17 rfl rfl)
theorem dL_law_535 : decode cL_law 535 = .ok (.iload 4, 2) := dk_21 4 (dk_at dksL_law_13 18 rfl rfl)
theorem dL_law_537 : decode cL_law 537 = .ok (.iconst 1, 1) := dk_4 (dk_at dksL_law_13 20 rfl rfl)
theorem dL_law_538 : decode cL_law 538 = .ok (.iadd, 1) := dk_96 (dk_at dksL_law_13 21 rfl rfl)
theorem dL_law_539 : decode cL_law 539 = .ok (.iaload, 1) := dk_46 (dk_at dksL_law_13 22 rfl rfl)
theorem dL_law_540 : decode cL_law 540 = .ok (.invokevirtual 158, 3) := dk_182 0 158 (dk_at dksL_law_14 0 rfl rfl)
theorem dL_law_543 : decode cL_law 543 = .ok (.istore 6, 2) := dk_54 6 (dk_at dksL_law_14 3 rfl rfl)
theorem dL_law_545 : decode cL_law 545 = .ok (.aload_n 2, 1) := dk_44 (dk_at dksL_law_14 5 rfl rfl)
theorem dL_law_546 : decode cL_law 546 = .ok (.invokevirtual 143, 3) := dk_182 0 143 (dk_at dksL_law_14 6 rfl rfl)
theorem dL_law_549 : decode cL_law 549 = .ok (.iload 5, 2) := dk_21 5 (dk_at dksL_law_14 9 rfl rfl)
theorem dL_law_551 : decode cL_law 551 = .ok (.if_icmp .eq 5, 3) := dk_159 0 5 (dk_at dksL_law_14 11 rfl rfl)
theorem dL_law_554 : decode cL_law 554 = .ok (.iconst 0, 1) := dk_3 (dk_at dksL_law_14 14 rfl rfl)
theorem dL_law_555 : decode cL_law 555 = .ok (.ireturn, 1) := dk_172 (dk_at dksL_law_14 15 rfl rfl)
theorem dL_law_556 : decode cL_law 556 = .ok (.iload 5, 2) := dk_21 5 (dk_at dksL_law_14 16 rfl rfl)
theorem dL_law_558 : decode cL_law 558 = .ok (.ifCond .ne 15, 3) := dk_154 0 15 (dk_at dksL_law_14 18 rfl rfl)
theorem dL_law_561 : decode cL_law 561 = .ok (.aload_n 3, 1) := dk_45 (dk_at dksL_law_14 21 rfl rfl)
theorem dL_law_562 : decode cL_law 562 = .ok (.iconst 0, 1) := dk_3 (dk_at dksL_law_14 22 rfl rfl)
theorem dL_law_563 : decode cL_law 563 = .ok (.laload, 1) := dk_47 (dk_at dksL_law_14 23 rfl rfl)
theorem dL_law_564 : decode cL_law 564 = .ok (.iload 6, 2) := dk_21 6 (dk_at dksL_law_15 0 rfl rfl)
theorem dL_law_566 : decode cL_law 566 = .ok (.i2l, 1) := dk_133 (dk_at dksL_law_15 2 rfl rfl)
theorem dL_law_567 : decode cL_law 567 = .ok (.lcmp, 1) := dk_148 (dk_at dksL_law_15 3 rfl rfl)
theorem dL_law_568 : decode cL_law 568 = .ok (.ifCond .eq 5, 3) := dk_153 0 5 (dk_at dksL_law_15 4 rfl rfl)
theorem dL_law_571 : decode cL_law 571 = .ok (.iconst 0, 1) := dk_3 (dk_at dksL_law_15 7 rfl rfl)
theorem dL_law_572 : decode cL_law 572 = .ok (.ireturn, 1) := dk_172 (dk_at dksL_law_15 8 rfl rfl)
theorem dL_law_573 : decode cL_law 573 = .ok (.goto 2254, 3) := dk_167 8 206 (dk_at dksL_law_15 9 rfl rfl)
theorem dL_law_576 : decode cL_law 576 = .ok (.aload_n 1, 1) := dk_43 (dk_at dksL_law_15 12 rfl rfl)
theorem dL_law_577 : decode cL_law 577 = .ok (.aload_n 3, 1) := dk_45 (dk_at dksL_law_15 13 rfl rfl)
theorem dL_law_578 : decode cL_law 578 = .ok (.invokestatic 159, 3) := dk_184 0 159 (dk_at dksL_law_15 14 rfl rfl)
theorem dL_law_581 : decode cL_law 581 = .ok (.istore 5, 2) := dk_54 5 (dk_at dksL_law_15 17 rfl rfl)
theorem dL_law_583 : decode cL_law 583 = .ok (.aload_n 2, 1) := dk_44 (dk_at dksL_law_15 19 rfl rfl)
theorem dL_law_584 : decode cL_law 584 = .ok (.invokevirtual 162, 3) := dk_182 0 162 (dk_at dksL_law_15 20 rfl rfl)
theorem dL_law_587 : decode cL_law 587 = .ok (.istore 6, 2) := dk_54 6 (dk_at dksL_law_16 0 rfl rfl)
theorem dL_law_589 : decode cL_law 589 = .ok (.aload_n 2, 1) := dk_44 (dk_at dksL_law_16 2 rfl rfl)
theorem dL_law_590 : decode cL_law 590 = .ok (.invokevirtual 143, 3) := dk_182 0 143 (dk_at dksL_law_16 3 rfl rfl)
theorem dL_law_593 : decode cL_law 593 = .ok (.iload 5, 2) := dk_21 5 (dk_at dksL_law_16 6 rfl rfl)
theorem dL_law_595 : decode cL_law 595 = .ok (.if_icmp .eq 5, 3) := dk_159 0 5 (dk_at dksL_law_16 8 rfl rfl)
theorem dL_law_598 : decode cL_law 598 = .ok (.iconst 0, 1) := dk_3 (dk_at dksL_law_16 11 rfl rfl)
theorem dL_law_599 : decode cL_law 599 = .ok (.ireturn, 1) := dk_172 (dk_at dksL_law_16 12 rfl rfl)
theorem dL_law_600 : decode cL_law 600 = .ok (.iload 5, 2) := dk_21 5 (dk_at dksL_law_16 13 rfl rfl)
theorem dL_law_602 : decode cL_law 602 = .ok (.ifCond .ne 15, 3) := dk_154 0 15 (dk_at dksL_law_16 15 rfl rfl)
theorem dL_law_605 : decode cL_law 605 = .ok (.aload_n 3, 1) := dk_45 (dk_at dksL_law_16 18 rfl rfl)
theorem dL_law_606 : decode cL_law 606 = .ok (.iconst 0, 1) := dk_3 (dk_at dksL_law_16 19 rfl rfl)
theorem dL_law_607 : decode cL_law 607 = .ok (.laload, 1) := dk_47 (dk_at dksL_law_16 20 rfl rfl)
theorem dL_law_608 : decode cL_law 608 = .ok (.iload 6, 2) := dk_21 6 (dk_at dksL_law_16 21 rfl rfl)
theorem dL_law_610 : decode cL_law 610 = .ok (.i2l, 1) := dk_133 (dk_at dksL_law_16 23 rfl rfl)
theorem dL_law_611 : decode cL_law 611 = .ok (.lcmp, 1) := dk_148 (dk_at dksL_law_17 0 rfl rfl)
theorem dL_law_612 : decode cL_law 612 = .ok (.ifCond .eq 5, 3) := dk_153 0 5 (dk_at dksL_law_17 1 rfl rfl)
theorem dL_law_615 : decode cL_law 615 = .ok (.iconst 0, 1) := dk_3 (dk_at dksL_law_17 4 rfl rfl)
theorem dL_law_616 : decode cL_law 616 = .ok (.ireturn, 1) := dk_172 (dk_at dksL_law_17 5 rfl rfl)
theorem dL_law_617 : decode cL_law 617 = .ok (.goto 2210, 3) := dk_167 8 162 (dk_at dksL_law_17 6 rfl rfl)
theorem dL_law_620 : decode cL_law 620 = .ok (.aload_n 1, 1) := dk_43 (dk_at dksL_law_17 9 rfl rfl)
theorem dL_law_621 : decode cL_law 621 = .ok (.aload_n 0, 1) := dk_42 (dk_at dksL_law_17 10 rfl rfl)
theorem dL_law_622 : decode cL_law 622 = .ok (.iload 4, 2) := dk_21 4 (dk_at dksL_law_17 11 rfl rfl)
theorem dL_law_624 : decode cL_law 624 = .ok (.iconst 1, 1) := dk_4 (dk_at dksL_law_17 13 rfl rfl)
theorem dL_law_625 : decode cL_law 625 = .ok (.iadd, 1) := dk_96 (dk_at dksL_law_17 14 rfl rfl)
theorem dL_law_626 : decode cL_law 626 = .ok (.iaload, 1) := dk_46 (dk_at dksL_law_17 15 rfl rfl)
theorem dL_law_627 : decode cL_law 627 = .ok (.aload_n 3, 1) := dk_45 (dk_at dksL_law_17 16 rfl rfl)
theorem dL_law_628 : decode cL_law 628 = .ok (.invokestatic 163, 3) := dk_184 0 163 (dk_at dksL_law_17 17 rfl rfl)
theorem dL_law_631 : decode cL_law 631 = .ok (.istore 5, 2) := dk_54 5 (dk_at dksL_law_17 20 rfl rfl)
theorem dL_law_633 : decode cL_law 633 = .ok (.aload_n 2, 1) := dk_44 (dk_at dksL_law_17 22 rfl rfl)
theorem dL_law_634 : decode cL_law 634 = .ok (.aload_n 0, 1) := dk_42 (dk_at dksL_law_17 23 rfl rfl)
theorem dL_law_635 : decode cL_law 635 = .ok (.iload 4, 2) := dk_21 4 (dk_at dksL_law_18 0 rfl rfl)
theorem dL_law_637 : decode cL_law 637 = .ok (.iconst 1, 1) := dk_4 (dk_at dksL_law_18 2 rfl rfl)
theorem dL_law_638 : decode cL_law 638 = .ok (.iadd, 1) := dk_96 (dk_at dksL_law_18 3 rfl rfl)
theorem dL_law_639 : decode cL_law 639 = .ok (.iaload, 1) := dk_46 (dk_at dksL_law_18 4 rfl rfl)
theorem dL_law_640 : decode cL_law 640 = .ok (.invokevirtual 165, 3) := dk_182 0 165 (dk_at dksL_law_18 5 rfl rfl)
theorem dL_law_643 : decode cL_law 643 = .ok (.istore 6, 2) := dk_54 6 (dk_at dksL_law_18 8 rfl rfl)
theorem dL_law_645 : decode cL_law 645 = .ok (.aload_n 2, 1) := dk_44 (dk_at dksL_law_18 10 rfl rfl)
theorem dL_law_646 : decode cL_law 646 = .ok (.invokevirtual 143, 3) := dk_182 0 143 (dk_at dksL_law_18 11 rfl rfl)
theorem dL_law_649 : decode cL_law 649 = .ok (.iload 5, 2) := dk_21 5 (dk_at dksL_law_18 14 rfl rfl)
theorem dL_law_651 : decode cL_law 651 = .ok (.if_icmp .eq 5, 3) := dk_159 0 5 (dk_at dksL_law_18 16 rfl rfl)
theorem dL_law_654 : decode cL_law 654 = .ok (.iconst 0, 1) := dk_3 (dk_at dksL_law_18 19 rfl rfl)
theorem dL_law_655 : decode cL_law 655 = .ok (.ireturn, 1) := dk_172 (dk_at dksL_law_18 20 rfl rfl)
theorem dL_law_656 : decode cL_law 656 = .ok (.iload 5, 2) := dk_21 5 (dk_at dksL_law_18 21 rfl rfl)
theorem dL_law_658 : decode cL_law 658 = .ok (.ifCond .ne 15, 3) := dk_154 0 15 (dk_at dksL_law_19 0 rfl rfl)
theorem dL_law_661 : decode cL_law 661 = .ok (.aload_n 3, 1) := dk_45 (dk_at dksL_law_19 3 rfl rfl)
theorem dL_law_662 : decode cL_law 662 = .ok (.iconst 0, 1) := dk_3 (dk_at dksL_law_19 4 rfl rfl)
theorem dL_law_663 : decode cL_law 663 = .ok (.laload, 1) := dk_47 (dk_at dksL_law_19 5 rfl rfl)
theorem dL_law_664 : decode cL_law 664 = .ok (.iload 6, 2) := dk_21 6 (dk_at dksL_law_19 6 rfl rfl)
theorem dL_law_666 : decode cL_law 666 = .ok (.i2l, 1) := dk_133 (dk_at dksL_law_19 8 rfl rfl)
theorem dL_law_667 : decode cL_law 667 = .ok (.lcmp, 1) := dk_148 (dk_at dksL_law_19 9 rfl rfl)
theorem dL_law_668 : decode cL_law 668 = .ok (.ifCond .eq 5, 3) := dk_153 0 5 (dk_at dksL_law_19 10 rfl rfl)
theorem dL_law_671 : decode cL_law 671 = .ok (.iconst 0, 1) := dk_3 (dk_at dksL_law_19 13 rfl rfl)
theorem dL_law_672 : decode cL_law 672 = .ok (.ireturn, 1) := dk_172 (dk_at dksL_law_19 14 rfl rfl)
theorem dL_law_673 : decode cL_law 673 = .ok (.goto 2154, 3) := dk_167 8 106 (dk_at dksL_law_19 15 rfl rfl)
theorem dL_law_676 : decode cL_law 676 = .ok (.aload_n 1, 1) := dk_43 (dk_at dksL_law_19 18 rfl rfl)
theorem dL_law_677 : decode cL_law 677 = .ok (.aload_n 0, 1) := dk_42 (dk_at dksL_law_19 19 rfl rfl)
theorem dL_law_678 : decode cL_law 678 = .ok (.iload 4, 2) := dk_21 4 (dk_at dksL_law_19 20 rfl rfl)
theorem dL_law_680 : decode cL_law 680 = .ok (.iconst 1, 1) := dk_4 (dk_at dksL_law_19 22 rfl rfl)
theorem dL_law_681 : decode cL_law 681 = .ok (.iadd, 1) := dk_96 (dk_at dksL_law_19 23 rfl rfl)
theorem dL_law_682 : decode cL_law 682 = .ok (.iaload, 1) := dk_46 (dk_at dksL_law_20 0 rfl rfl)
theorem dL_law_683 : decode cL_law 683 = .ok (.aload_n 0, 1) := dk_42 (dk_at dksL_law_20 1 rfl rfl)
theorem dL_law_684 : decode cL_law 684 = .ok (.iload 4, 2) := dk_21 4 (dk_at dksL_law_20 2 rfl rfl)
theorem dL_law_686 : decode cL_law 686 = .ok (.iconst 2, 1) := dk_5 (dk_at dksL_law_20 4 rfl rfl)
theorem dL_law_687 : decode cL_law 687 = .ok (.iadd, 1) := dk_96 (dk_at dksL_law_20 5 rfl rfl)
theorem dL_law_688 : decode cL_law 688 = .ok (.iaload, 1) := dk_46 (dk_at dksL_law_20 6 rfl rfl)
theorem dL_law_689 : decode cL_law 689 = .ok (.aload_n 3, 1) := dk_45 (dk_at dksL_law_20 7 rfl rfl)
theorem dL_law_690 : decode cL_law 690 = .ok (.invokestatic 166, 3) := dk_184 0 166 (dk_at dksL_law_20 8 rfl rfl)
theorem dL_law_693 : decode cL_law 693 = .ok (.istore 5, 2) := dk_54 5 (dk_at dksL_law_20 11 rfl rfl)
theorem dL_law_695 : decode cL_law 695 = .ok (.aload_n 2, 1) := dk_44 (dk_at dksL_law_20 13 rfl rfl)
theorem dL_law_696 : decode cL_law 696 = .ok (.aload_n 0, 1) := dk_42 (dk_at dksL_law_20 14 rfl rfl)
theorem dL_law_697 : decode cL_law 697 = .ok (.iload 4, 2) := dk_21 4 (dk_at dksL_law_20 15 rfl rfl)
theorem dL_law_699 : decode cL_law 699 = .ok (.iconst 1, 1) := dk_4 (dk_at dksL_law_20 17 rfl rfl)
theorem dL_law_700 : decode cL_law 700 = .ok (.iadd, 1) := dk_96 (dk_at dksL_law_20 18 rfl rfl)
theorem dL_law_701 : decode cL_law 701 = .ok (.iaload, 1) := dk_46 (dk_at dksL_law_20 19 rfl rfl)
theorem dL_law_702 : decode cL_law 702 = .ok (.aload_n 0, 1) := dk_42 (dk_at dksL_law_20 20 rfl rfl)
theorem dL_law_703 : decode cL_law 703 = .ok (.iload 4, 2) := dk_21 4 (dk_at dksL_law_20 21 rfl rfl)
theorem dL_law_705 : decode cL_law 705 = .ok (.iconst 2, 1) := dk_5 (dk_at dksL_law_20 23 rfl rfl)
theorem dL_law_706 : decode cL_law 706 = .ok (.iadd, 1) := dk_96 (dk_at dksL_law_21 0 rfl rfl)
theorem dL_law_707 : decode cL_law 707 = .ok (.iaload, 1) := dk_46 (dk_at dksL_law_21 1 rfl rfl)
theorem dL_law_708 : decode cL_law 708 = .ok (.invokevirtual 168, 3) := dk_182 0 168 (dk_at dksL_law_21 2 rfl rfl)
theorem dL_law_711 : decode cL_law 711 = .ok (.istore 6, 2) := dk_54 6 (dk_at dksL_law_21 5 rfl rfl)
theorem dL_law_713 : decode cL_law 713 = .ok (.aload_n 2, 1) := dk_44 (dk_at dksL_law_21 7 rfl rfl)
theorem dL_law_714 : decode cL_law 714 = .ok (.invokevirtual 143, 3) := dk_182 0 143 (dk_at dksL_law_21 8 rfl rfl)
theorem dL_law_717 : decode cL_law 717 = .ok (.iload 5, 2) := dk_21 5 (dk_at dksL_law_21 11 rfl rfl)
theorem dL_law_719 : decode cL_law 719 = .ok (.if_icmp .eq 5, 3) := dk_159 0 5 (dk_at dksL_law_21 13 rfl rfl)
theorem dL_law_722 : decode cL_law 722 = .ok (.iconst 0, 1) := dk_3 (dk_at dksL_law_21 16 rfl rfl)
theorem dL_law_723 : decode cL_law 723 = .ok (.ireturn, 1) := dk_172 (dk_at dksL_law_21 17 rfl rfl)
theorem dL_law_724 : decode cL_law 724 = .ok (.iload 5, 2) := dk_21 5 (dk_at dksL_law_21 18 rfl rfl)
theorem dL_law_726 : decode cL_law 726 = .ok (.ifCond .ne 15, 3) := dk_154 0 15 (dk_at dksL_law_21 20 rfl rfl)
theorem dL_law_729 : decode cL_law 729 = .ok (.aload_n 3, 1) := dk_45 (dk_at dksL_law_21 23 rfl rfl)
theorem dL_law_730 : decode cL_law 730 = .ok (.iconst 0, 1) := dk_3 (dk_at dksL_law_22 0 rfl rfl)
theorem dL_law_731 : decode cL_law 731 = .ok (.laload, 1) := dk_47 (dk_at dksL_law_22 1 rfl rfl)
theorem dL_law_732 : decode cL_law 732 = .ok (.iload 6, 2) := dk_21 6 (dk_at dksL_law_22 2 rfl rfl)
theorem dL_law_734 : decode cL_law 734 = .ok (.i2l, 1) := dk_133 (dk_at dksL_law_22 4 rfl rfl)
theorem dL_law_735 : decode cL_law 735 = .ok (.lcmp, 1) := dk_148 (dk_at dksL_law_22 5 rfl rfl)
theorem dL_law_736 : decode cL_law 736 = .ok (.ifCond .eq 5, 3) := dk_153 0 5 (dk_at dksL_law_22 6 rfl rfl)
theorem dL_law_739 : decode cL_law 739 = .ok (.iconst 0, 1) := dk_3 (dk_at dksL_law_22 9 rfl rfl)
theorem dL_law_740 : decode cL_law 740 = .ok (.ireturn, 1) := dk_172 (dk_at dksL_law_22 10 rfl rfl)
theorem dL_law_741 : decode cL_law 741 = .ok (.goto 2086, 3) := dk_167 8 38 (dk_at dksL_law_22 11 rfl rfl)
theorem dL_law_744 : decode cL_law 744 = .ok (.aload_n 1, 1) := dk_43 (dk_at dksL_law_22 14 rfl rfl)
theorem dL_law_745 : decode cL_law 745 = .ok (.aload_n 0, 1) := dk_42 (dk_at dksL_law_22 15 rfl rfl)
theorem dL_law_746 : decode cL_law 746 = .ok (.iload 4, 2) := dk_21 4 (dk_at dksL_law_22 16 rfl rfl)
theorem dL_law_748 : decode cL_law 748 = .ok (.iconst 1, 1) := dk_4 (dk_at dksL_law_22 18 rfl rfl)
theorem dL_law_749 : decode cL_law 749 = .ok (.iadd, 1) := dk_96 (dk_at dksL_law_22 19 rfl rfl)
theorem dL_law_750 : decode cL_law 750 = .ok (.iaload, 1) := dk_46 (dk_at dksL_law_22 20 rfl rfl)
theorem dL_law_751 : decode cL_law 751 = .ok (.aload_n 0, 1) := dk_42 (dk_at dksL_law_22 21 rfl rfl)
theorem dL_law_752 : decode cL_law 752 = .ok (.iload 4, 2) := dk_21 4 (dk_at dksL_law_22 22 rfl rfl)
theorem dL_law_754 : decode cL_law 754 = .ok (.iconst 2, 1) := dk_5 (dk_at dksL_law_23 0 rfl rfl)
theorem dL_law_755 : decode cL_law 755 = .ok (.iadd, 1) := dk_96 (dk_at dksL_law_23 1 rfl rfl)
theorem dL_law_756 : decode cL_law 756 = .ok (.iaload, 1) := dk_46 (dk_at dksL_law_23 2 rfl rfl)
theorem dL_law_757 : decode cL_law 757 = .ok (.aload_n 3, 1) := dk_45 (dk_at dksL_law_23 3 rfl rfl)
theorem dL_law_758 : decode cL_law 758 = .ok (.invokestatic 169, 3) := dk_184 0 169 (dk_at dksL_law_23 4 rfl rfl)
theorem dL_law_761 : decode cL_law 761 = .ok (.istore 5, 2) := dk_54 5 (dk_at dksL_law_23 7 rfl rfl)
theorem dL_law_763 : decode cL_law 763 = .ok (.aload_n 2, 1) := dk_44 (dk_at dksL_law_23 9 rfl rfl)
theorem dL_law_764 : decode cL_law 764 = .ok (.aload_n 0, 1) := dk_42 (dk_at dksL_law_23 10 rfl rfl)
theorem dL_law_765 : decode cL_law 765 = .ok (.iload 4, 2) := dk_21 4 (dk_at dksL_law_23 11 rfl rfl)
theorem dL_law_767 : decode cL_law 767 = .ok (.iconst 1, 1) := dk_4 (dk_at dksL_law_23 13 rfl rfl)
theorem dL_law_768 : decode cL_law 768 = .ok (.iadd, 1) := dk_96 (dk_at dksL_law_23 14 rfl rfl)
theorem dL_law_769 : decode cL_law 769 = .ok (.iaload, 1) := dk_46 (dk_at dksL_law_23 15 rfl rfl)
theorem dL_law_770 : decode cL_law 770 = .ok (.aload_n 0, 1) := dk_42 (dk_at dksL_law_23 16 rfl rfl)
theorem dL_law_771 : decode cL_law 771 = .ok (.iload 4, 2) := dk_21 4 (dk_at dksL_law_23 17 rfl rfl)
theorem dL_law_773 : decode cL_law 773 = .ok (.iconst 2, 1) := dk_5 (dk_at dksL_law_23 19 rfl rfl)
theorem dL_law_774 : decode cL_law 774 = .ok (.iadd, 1) := dk_96 (dk_at dksL_law_23 20 rfl rfl)
theorem dL_law_775 : decode cL_law 775 = .ok (.iaload, 1) := dk_46 (dk_at dksL_law_23 21 rfl rfl)
theorem dL_law_776 : decode cL_law 776 = .ok (.invokevirtual 171, 3) := dk_182 0 171 (dk_at dksL_law_24 0 rfl rfl)
theorem dL_law_779 : decode cL_law 779 = .ok (.istore 6, 2) := dk_54 6 (dk_at dksL_law_24 3 rfl rfl)
theorem dL_law_781 : decode cL_law 781 = .ok (.aload_n 2, 1) := dk_44 (dk_at dksL_law_24 5 rfl rfl)
theorem dL_law_782 : decode cL_law 782 = .ok (.invokevirtual 143, 3) := dk_182 0 143 (dk_at dksL_law_24 6 rfl rfl)
theorem dL_law_785 : decode cL_law 785 = .ok (.iload 5, 2) := dk_21 5 (dk_at dksL_law_24 9 rfl rfl)
theorem dL_law_787 : decode cL_law 787 = .ok (.if_icmp .eq 5, 3) := dk_159 0 5 (dk_at dksL_law_24 11 rfl rfl)
theorem dL_law_790 : decode cL_law 790 = .ok (.iconst 0, 1) := dk_3 (dk_at dksL_law_24 14 rfl rfl)
theorem dL_law_791 : decode cL_law 791 = .ok (.ireturn, 1) := dk_172 (dk_at dksL_law_24 15 rfl rfl)
theorem dL_law_792 : decode cL_law 792 = .ok (.iload 5, 2) := dk_21 5 (dk_at dksL_law_24 16 rfl rfl)
theorem dL_law_794 : decode cL_law 794 = .ok (.ifCond .ne 15, 3) := dk_154 0 15 (dk_at dksL_law_24 18 rfl rfl)
theorem dL_law_797 : decode cL_law 797 = .ok (.aload_n 3, 1) := dk_45 (dk_at dksL_law_24 21 rfl rfl)
theorem dL_law_798 : decode cL_law 798 = .ok (.iconst 0, 1) := dk_3 (dk_at dksL_law_24 22 rfl rfl)
theorem dL_law_799 : decode cL_law 799 = .ok (.laload, 1) := dk_47 (dk_at dksL_law_24 23 rfl rfl)
theorem dL_law_800 : decode cL_law 800 = .ok (.iload 6, 2) := dk_21 6 (dk_at dksL_law_25 0 rfl rfl)
theorem dL_law_802 : decode cL_law 802 = .ok (.i2l, 1) := dk_133 (dk_at dksL_law_25 2 rfl rfl)
theorem dL_law_803 : decode cL_law 803 = .ok (.lcmp, 1) := dk_148 (dk_at dksL_law_25 3 rfl rfl)
theorem dL_law_804 : decode cL_law 804 = .ok (.ifCond .eq 5, 3) := dk_153 0 5 (dk_at dksL_law_25 4 rfl rfl)
theorem dL_law_807 : decode cL_law 807 = .ok (.iconst 0, 1) := dk_3 (dk_at dksL_law_25 7 rfl rfl)
theorem dL_law_808 : decode cL_law 808 = .ok (.ireturn, 1) := dk_172 (dk_at dksL_law_25 8 rfl rfl)
theorem dL_law_809 : decode cL_law 809 = .ok (.goto 2018, 3) := dk_167 7 226 (dk_at dksL_law_25 9 rfl rfl)
theorem dL_law_812 : decode cL_law 812 = .ok (.aload_n 1, 1) := dk_43 (dk_at dksL_law_25 12 rfl rfl)
theorem dL_law_813 : decode cL_law 813 = .ok (.aload_n 0, 1) := dk_42 (dk_at dksL_law_25 13 rfl rfl)
theorem dL_law_814 : decode cL_law 814 = .ok (.iload 4, 2) := dk_21 4 (dk_at dksL_law_25 14 rfl rfl)
theorem dL_law_816 : decode cL_law 816 = .ok (.iconst 1, 1) := dk_4 (dk_at dksL_law_25 16 rfl rfl)
theorem dL_law_817 : decode cL_law 817 = .ok (.iadd, 1) := dk_96 (dk_at dksL_law_25 17 rfl rfl)
theorem dL_law_818 : decode cL_law 818 = .ok (.iaload, 1) := dk_46 (dk_at dksL_law_25 18 rfl rfl)
theorem dL_law_819 : decode cL_law 819 = .ok (.aload_n 0, 1) := dk_42 (dk_at dksL_law_25 19 rfl rfl)
theorem dL_law_820 : decode cL_law 820 = .ok (.iload 4, 2) := dk_21 4 (dk_at dksL_law_25 20 rfl rfl)
theorem dL_law_822 : decode cL_law 822 = .ok (.iconst 2, 1) := dk_5 (dk_at dksL_law_25 22 rfl rfl)
theorem dL_law_823 : decode cL_law 823 = .ok (.iadd, 1) := dk_96 (dk_at dksL_law_25 23 rfl rfl)
theorem dL_law_824 : decode cL_law 824 = .ok (.iaload, 1) := dk_46 (dk_at dksL_law_26 0 rfl rfl)
theorem dL_law_825 : decode cL_law 825 = .ok (.aload_n 3, 1) := dk_45 (dk_at dksL_law_26 1 rfl rfl)
theorem dL_law_826 : decode cL_law 826 = .ok (.invokestatic 172, 3) := dk_184 0 172 (dk_at dksL_law_26 2 rfl rfl)
theorem dL_law_829 : decode cL_law 829 = .ok (.istore 5, 2) := dk_54 5 (dk_at dksL_law_26 5 rfl rfl)
theorem dL_law_831 : decode cL_law 831 = .ok (.aload_n 2, 1) := dk_44 (dk_at dksL_law_26 7 rfl rfl)
theorem dL_law_832 : decode cL_law 832 = .ok (.aload_n 0, 1) := dk_42 (dk_at dksL_law_26 8 rfl rfl)
theorem dL_law_833 : decode cL_law 833 = .ok (.iload 4, 2) := dk_21 4 (dk_at dksL_law_26 9 rfl rfl)
theorem dL_law_835 : decode cL_law 835 = .ok (.iconst 1, 1) := dk_4 (dk_at dksL_law_26 11 rfl rfl)
theorem dL_law_836 : decode cL_law 836 = .ok (.iadd, 1) := dk_96 (dk_at dksL_law_26 12 rfl rfl)
theorem dL_law_837 : decode cL_law 837 = .ok (.iaload, 1) := dk_46 (dk_at dksL_law_26 13 rfl rfl)
theorem dL_law_838 : decode cL_law 838 = .ok (.aload_n 0, 1) := dk_42 (dk_at dksL_law_26 14 rfl rfl)
theorem dL_law_839 : decode cL_law 839 = .ok (.iload 4, 2) := dk_21 4 (dk_at dksL_law_26 15 rfl rfl)
theorem dL_law_841 : decode cL_law 841 = .ok (.iconst 2, 1) := dk_5 (dk_at dksL_law_26 17 rfl rfl)
theorem dL_law_842 : decode cL_law 842 = .ok (.iadd, 1) := dk_96 (dk_at dksL_law_26 18 rfl rfl)
theorem dL_law_843 : decode cL_law 843 = .ok (.iaload, 1) := dk_46 (dk_at dksL_law_26 19 rfl rfl)
theorem dL_law_844 : decode cL_law 844 = .ok (.invokevirtual 174, 3) := dk_182 0 174 (dk_at dksL_law_26 20 rfl rfl)
theorem dL_law_847 : decode cL_law 847 = .ok (.istore 6, 2) := dk_54 6 (dk_at dksL_law_27 0 rfl rfl)
theorem dL_law_849 : decode cL_law 849 = .ok (.aload_n 2, 1) := dk_44 (dk_at dksL_law_27 2 rfl rfl)
theorem dL_law_850 : decode cL_law 850 = .ok (.invokevirtual 143, 3) := dk_182 0 143 (dk_at dksL_law_27 3 rfl rfl)
theorem dL_law_853 : decode cL_law 853 = .ok (.iload 5, 2) := dk_21 5 (dk_at dksL_law_27 6 rfl rfl)
theorem dL_law_855 : decode cL_law 855 = .ok (.if_icmp .eq 5, 3) := dk_159 0 5 (dk_at dksL_law_27 8 rfl rfl)
theorem dL_law_858 : decode cL_law 858 = .ok (.iconst 0, 1) := dk_3 (dk_at dksL_law_27 11 rfl rfl)
theorem dL_law_859 : decode cL_law 859 = .ok (.ireturn, 1) := dk_172 (dk_at dksL_law_27 12 rfl rfl)
theorem dL_law_860 : decode cL_law 860 = .ok (.iload 5, 2) := dk_21 5 (dk_at dksL_law_27 13 rfl rfl)
theorem dL_law_862 : decode cL_law 862 = .ok (.ifCond .ne 15, 3) := dk_154 0 15 (dk_at dksL_law_27 15 rfl rfl)
theorem dL_law_865 : decode cL_law 865 = .ok (.aload_n 3, 1) := dk_45 (dk_at dksL_law_27 18 rfl rfl)
theorem dL_law_866 : decode cL_law 866 = .ok (.iconst 0, 1) := dk_3 (dk_at dksL_law_27 19 rfl rfl)
theorem dL_law_867 : decode cL_law 867 = .ok (.laload, 1) := dk_47 (dk_at dksL_law_27 20 rfl rfl)
theorem dL_law_868 : decode cL_law 868 = .ok (.iload 6, 2) := dk_21 6 (dk_at dksL_law_27 21 rfl rfl)
theorem dL_law_870 : decode cL_law 870 = .ok (.i2l, 1) := dk_133 (dk_at dksL_law_27 23 rfl rfl)
theorem dL_law_871 : decode cL_law 871 = .ok (.lcmp, 1) := dk_148 (dk_at dksL_law_28 0 rfl rfl)
theorem dL_law_872 : decode cL_law 872 = .ok (.ifCond .eq 5, 3) := dk_153 0 5 (dk_at dksL_law_28 1 rfl rfl)
theorem dL_law_875 : decode cL_law 875 = .ok (.iconst 0, 1) := dk_3 (dk_at dksL_law_28 4 rfl rfl)
theorem dL_law_876 : decode cL_law 876 = .ok (.ireturn, 1) := dk_172 (dk_at dksL_law_28 5 rfl rfl)
theorem dL_law_877 : decode cL_law 877 = .ok (.goto 1950, 3) := dk_167 7 158 (dk_at dksL_law_28 6 rfl rfl)
theorem dL_law_880 : decode cL_law 880 = .ok (.aload_n 1, 1) := dk_43 (dk_at dksL_law_28 9 rfl rfl)
theorem dL_law_881 : decode cL_law 881 = .ok (.aload_n 0, 1) := dk_42 (dk_at dksL_law_28 10 rfl rfl)
theorem dL_law_882 : decode cL_law 882 = .ok (.iload 4, 2) := dk_21 4 (dk_at dksL_law_28 11 rfl rfl)
theorem dL_law_884 : decode cL_law 884 = .ok (.iconst 1, 1) := dk_4 (dk_at dksL_law_28 13 rfl rfl)
theorem dL_law_885 : decode cL_law 885 = .ok (.iadd, 1) := dk_96 (dk_at dksL_law_28 14 rfl rfl)
theorem dL_law_886 : decode cL_law 886 = .ok (.iaload, 1) := dk_46 (dk_at dksL_law_28 15 rfl rfl)
theorem dL_law_887 : decode cL_law 887 = .ok (.aload_n 0, 1) := dk_42 (dk_at dksL_law_28 16 rfl rfl)
theorem dL_law_888 : decode cL_law 888 = .ok (.iload 4, 2) := dk_21 4 (dk_at dksL_law_28 17 rfl rfl)
theorem dL_law_890 : decode cL_law 890 = .ok (.iconst 2, 1) := dk_5 (dk_at dksL_law_28 19 rfl rfl)
theorem dL_law_891 : decode cL_law 891 = .ok (.iadd, 1) := dk_96 (dk_at dksL_law_28 20 rfl rfl)
theorem dL_law_892 : decode cL_law 892 = .ok (.iaload, 1) := dk_46 (dk_at dksL_law_28 21 rfl rfl)
theorem dL_law_893 : decode cL_law 893 = .ok (.aload_n 3, 1) := dk_45 (dk_at dksL_law_28 22 rfl rfl)
theorem dL_law_894 : decode cL_law 894 = .ok (.invokestatic 175, 3) := dk_184 0 175 (dk_at dksL_law_29 0 rfl rfl)
theorem dL_law_897 : decode cL_law 897 = .ok (.istore 5, 2) := dk_54 5 (dk_at dksL_law_29 3 rfl rfl)
theorem dL_law_899 : decode cL_law 899 = .ok (.aload_n 2, 1) := dk_44 (dk_at dksL_law_29 5 rfl rfl)
theorem dL_law_900 : decode cL_law 900 = .ok (.aload_n 0, 1) := dk_42 (dk_at dksL_law_29 6 rfl rfl)
theorem dL_law_901 : decode cL_law 901 = .ok (.iload 4, 2) := dk_21 4 (dk_at dksL_law_29 7 rfl rfl)
theorem dL_law_903 : decode cL_law 903 = .ok (.iconst 1, 1) := dk_4 (dk_at dksL_law_29 9 rfl rfl)
theorem dL_law_904 : decode cL_law 904 = .ok (.iadd, 1) := dk_96 (dk_at dksL_law_29 10 rfl rfl)
theorem dL_law_905 : decode cL_law 905 = .ok (.iaload, 1) := dk_46 (dk_at dksL_law_29 11 rfl rfl)
theorem dL_law_906 : decode cL_law 906 = .ok (.aload_n 0, 1) := dk_42 (dk_at dksL_law_29 12 rfl rfl)
theorem dL_law_907 : decode cL_law 907 = .ok (.iload 4, 2) := dk_21 4 (dk_at dksL_law_29 13 rfl rfl)
theorem dL_law_909 : decode cL_law 909 = .ok (.iconst 2, 1) := dk_5 (dk_at dksL_law_29 15 rfl rfl)
theorem dL_law_910 : decode cL_law 910 = .ok (.iadd, 1) := dk_96 (dk_at dksL_law_29 16 rfl rfl)
theorem dL_law_911 : decode cL_law 911 = .ok (.iaload, 1) := dk_46 (dk_at dksL_law_29 17 rfl rfl)
theorem dL_law_912 : decode cL_law 912 = .ok (.invokevirtual 177, 3) := dk_182 0 177 (dk_at dksL_law_29 18 rfl rfl)
theorem dL_law_915 : decode cL_law 915 = .ok (.istore 6, 2) := dk_54 6 (dk_at dksL_law_29 21 rfl rfl)
theorem dL_law_917 : decode cL_law 917 = .ok (.aload_n 2, 1) := dk_44 (dk_at dksL_law_29 23 rfl rfl)
theorem dL_law_918 : decode cL_law 918 = .ok (.invokevirtual 143, 3) := dk_182 0 143 (dk_at dksL_law_30 0 rfl rfl)
theorem dL_law_921 : decode cL_law 921 = .ok (.iload 5, 2) := dk_21 5 (dk_at dksL_law_30 3 rfl rfl)
theorem dL_law_923 : decode cL_law 923 = .ok (.if_icmp .eq 5, 3) := dk_159 0 5 (dk_at dksL_law_30 5 rfl rfl)
theorem dL_law_926 : decode cL_law 926 = .ok (.iconst 0, 1) := dk_3 (dk_at dksL_law_30 8 rfl rfl)
theorem dL_law_927 : decode cL_law 927 = .ok (.ireturn, 1) := dk_172 (dk_at dksL_law_30 9 rfl rfl)
theorem dL_law_928 : decode cL_law 928 = .ok (.iload 5, 2) := dk_21 5 (dk_at dksL_law_30 10 rfl rfl)
theorem dL_law_930 : decode cL_law 930 = .ok (.ifCond .ne 15, 3) := dk_154 0 15 (dk_at dksL_law_30 12 rfl rfl)
theorem dL_law_933 : decode cL_law 933 = .ok (.aload_n 3, 1) := dk_45 (dk_at dksL_law_30 15 rfl rfl)
theorem dL_law_934 : decode cL_law 934 = .ok (.iconst 0, 1) := dk_3 (dk_at dksL_law_30 16 rfl rfl)
theorem dL_law_935 : decode cL_law 935 = .ok (.laload, 1) := dk_47 (dk_at dksL_law_30 17 rfl rfl)
theorem dL_law_936 : decode cL_law 936 = .ok (.iload 6, 2) := dk_21 6 (dk_at dksL_law_30 18 rfl rfl)
theorem dL_law_938 : decode cL_law 938 = .ok (.i2l, 1) := dk_133 (dk_at dksL_law_30 20 rfl rfl)
theorem dL_law_939 : decode cL_law 939 = .ok (.lcmp, 1) := dk_148 (dk_at dksL_law_30 21 rfl rfl)
theorem dL_law_940 : decode cL_law 940 = .ok (.ifCond .eq 5, 3) := dk_153 0 5 (dk_at dksL_law_31 0 rfl rfl)
theorem dL_law_943 : decode cL_law 943 = .ok (.iconst 0, 1) := dk_3 (dk_at dksL_law_31 3 rfl rfl)
theorem dL_law_944 : decode cL_law 944 = .ok (.ireturn, 1) := dk_172 (dk_at dksL_law_31 4 rfl rfl)
theorem dL_law_945 : decode cL_law 945 = .ok (.goto 1882, 3) := dk_167 7 90 (dk_at dksL_law_31 5 rfl rfl)
theorem dL_law_948 : decode cL_law 948 = .ok (.aload_n 1, 1) := dk_43 (dk_at dksL_law_31 8 rfl rfl)
theorem dL_law_949 : decode cL_law 949 = .ok (.aload_n 0, 1) := dk_42 (dk_at dksL_law_31 9 rfl rfl)
theorem dL_law_950 : decode cL_law 950 = .ok (.iload 4, 2) := dk_21 4 (dk_at dksL_law_31 10 rfl rfl)
theorem dL_law_952 : decode cL_law 952 = .ok (.iconst 1, 1) := dk_4 (dk_at dksL_law_31 12 rfl rfl)
theorem dL_law_953 : decode cL_law 953 = .ok (.iadd, 1) := dk_96 (dk_at dksL_law_31 13 rfl rfl)
theorem dL_law_954 : decode cL_law 954 = .ok (.iaload, 1) := dk_46 (dk_at dksL_law_31 14 rfl rfl)
theorem dL_law_955 : decode cL_law 955 = .ok (.aload_n 3, 1) := dk_45 (dk_at dksL_law_31 15 rfl rfl)
theorem dL_law_956 : decode cL_law 956 = .ok (.invokestatic 178, 3) := dk_184 0 178 (dk_at dksL_law_31 16 rfl rfl)
theorem dL_law_959 : decode cL_law 959 = .ok (.istore 5, 2) := dk_54 5 (dk_at dksL_law_31 19 rfl rfl)
theorem dL_law_961 : decode cL_law 961 = .ok (.aload_n 2, 1) := dk_44 (dk_at dksL_law_31 21 rfl rfl)
theorem dL_law_962 : decode cL_law 962 = .ok (.aload_n 0, 1) := dk_42 (dk_at dksL_law_31 22 rfl rfl)
theorem dL_law_963 : decode cL_law 963 = .ok (.iload 4, 2) := dk_21 4 (dk_at dksL_law_32 0 rfl rfl)
theorem dL_law_965 : decode cL_law 965 = .ok (.iconst 1, 1) := dk_4 (dk_at dksL_law_32 2 rfl rfl)
theorem dL_law_966 : decode cL_law 966 = .ok (.iadd, 1) := dk_96 (dk_at dksL_law_32 3 rfl rfl)
theorem dL_law_967 : decode cL_law 967 = .ok (.iaload, 1) := dk_46 (dk_at dksL_law_32 4 rfl rfl)
theorem dL_law_968 : decode cL_law 968 = .ok (.invokevirtual 180, 3) := dk_182 0 180 (dk_at dksL_law_32 5 rfl rfl)
theorem dL_law_971 : decode cL_law 971 = .ok (.istore 6, 2) := dk_54 6 (dk_at dksL_law_32 8 rfl rfl)
theorem dL_law_973 : decode cL_law 973 = .ok (.aload_n 2, 1) := dk_44 (dk_at dksL_law_32 10 rfl rfl)
theorem dL_law_974 : decode cL_law 974 = .ok (.invokevirtual 143, 3) := dk_182 0 143 (dk_at dksL_law_32 11 rfl rfl)
theorem dL_law_977 : decode cL_law 977 = .ok (.iload 5, 2) := dk_21 5 (dk_at dksL_law_32 14 rfl rfl)
theorem dL_law_979 : decode cL_law 979 = .ok (.if_icmp .eq 5, 3) := dk_159 0 5 (dk_at dksL_law_32 16 rfl rfl)
theorem dL_law_982 : decode cL_law 982 = .ok (.iconst 0, 1) := dk_3 (dk_at dksL_law_32 19 rfl rfl)
theorem dL_law_983 : decode cL_law 983 = .ok (.ireturn, 1) := dk_172 (dk_at dksL_law_32 20 rfl rfl)
theorem dL_law_984 : decode cL_law 984 = .ok (.iload 5, 2) := dk_21 5 (dk_at dksL_law_32 21 rfl rfl)
theorem dL_law_986 : decode cL_law 986 = .ok (.ifCond .ne 15, 3) := dk_154 0 15 (dk_at dksL_law_33 0 rfl rfl)
theorem dL_law_989 : decode cL_law 989 = .ok (.aload_n 3, 1) := dk_45 (dk_at dksL_law_33 3 rfl rfl)
theorem dL_law_990 : decode cL_law 990 = .ok (.iconst 0, 1) := dk_3 (dk_at dksL_law_33 4 rfl rfl)
theorem dL_law_991 : decode cL_law 991 = .ok (.laload, 1) := dk_47 (dk_at dksL_law_33 5 rfl rfl)
theorem dL_law_992 : decode cL_law 992 = .ok (.iload 6, 2) := dk_21 6 (dk_at dksL_law_33 6 rfl rfl)
theorem dL_law_994 : decode cL_law 994 = .ok (.i2l, 1) := dk_133 (dk_at dksL_law_33 8 rfl rfl)
theorem dL_law_995 : decode cL_law 995 = .ok (.lcmp, 1) := dk_148 (dk_at dksL_law_33 9 rfl rfl)
theorem dL_law_996 : decode cL_law 996 = .ok (.ifCond .eq 5, 3) := dk_153 0 5 (dk_at dksL_law_33 10 rfl rfl)
theorem dL_law_999 : decode cL_law 999 = .ok (.iconst 0, 1) := dk_3 (dk_at dksL_law_33 13 rfl rfl)
theorem dL_law_1000 : decode cL_law 1000 = .ok (.ireturn, 1) := dk_172 (dk_at dksL_law_33 14 rfl rfl)
theorem dL_law_1001 : decode cL_law 1001 = .ok (.goto 1826, 3) := dk_167 7 34 (dk_at dksL_law_33 15 rfl rfl)
theorem dL_law_1004 : decode cL_law 1004 = .ok (.aload_n 1, 1) := dk_43 (dk_at dksL_law_33 18 rfl rfl)
theorem dL_law_1005 : decode cL_law 1005 = .ok (.aload_n 0, 1) := dk_42 (dk_at dksL_law_33 19 rfl rfl)
theorem dL_law_1006 : decode cL_law 1006 = .ok (.iload 4, 2) := dk_21 4 (dk_at dksL_law_33 20 rfl rfl)
theorem dL_law_1008 : decode cL_law 1008 = .ok (.iconst 1, 1) := dk_4 (dk_at dksL_law_33 22 rfl rfl)
theorem dL_law_1009 : decode cL_law 1009 = .ok (.iadd, 1) := dk_96 (dk_at dksL_law_33 23 rfl rfl)
theorem dL_law_1010 : decode cL_law 1010 = .ok (.iaload, 1) := dk_46 (dk_at dksL_law_34 0 rfl rfl)
theorem dL_law_1011 : decode cL_law 1011 = .ok (.aload_n 3, 1) := dk_45 (dk_at dksL_law_34 1 rfl rfl)
theorem dL_law_1012 : decode cL_law 1012 = .ok (.invokestatic 181, 3) := dk_184 0 181 (dk_at dksL_law_34 2 rfl rfl)
theorem dL_law_1015 : decode cL_law 1015 = .ok (.istore 5, 2) := dk_54 5 (dk_at dksL_law_34 5 rfl rfl)
theorem dL_law_1017 : decode cL_law 1017 = .ok (.aload_n 2, 1) := dk_44 (dk_at dksL_law_34 7 rfl rfl)
theorem dL_law_1018 : decode cL_law 1018 = .ok (.aload_n 0, 1) := dk_42 (dk_at dksL_law_34 8 rfl rfl)
theorem dL_law_1019 : decode cL_law 1019 = .ok (.iload 4, 2) := dk_21 4 (dk_at dksL_law_34 9 rfl rfl)
theorem dL_law_1021 : decode cL_law 1021 = .ok (.iconst 1, 1) := dk_4 (dk_at dksL_law_34 11 rfl rfl)
theorem dL_law_1022 : decode cL_law 1022 = .ok (.iadd, 1) := dk_96 (dk_at dksL_law_34 12 rfl rfl)
theorem dL_law_1023 : decode cL_law 1023 = .ok (.iaload, 1) := dk_46 (dk_at dksL_law_34 13 rfl rfl)
theorem dL_law_1024 : decode cL_law 1024 = .ok (.invokevirtual 183, 3) := dk_182 0 183 (dk_at dksL_law_34 14 rfl rfl)
theorem dL_law_1027 : decode cL_law 1027 = .ok (.istore 6, 2) := dk_54 6 (dk_at dksL_law_34 17 rfl rfl)
theorem dL_law_1029 : decode cL_law 1029 = .ok (.aload_n 2, 1) := dk_44 (dk_at dksL_law_34 19 rfl rfl)
theorem dL_law_1030 : decode cL_law 1030 = .ok (.invokevirtual 143, 3) := dk_182 0 143 (dk_at dksL_law_34 20 rfl rfl)
theorem dL_law_1033 : decode cL_law 1033 = .ok (.iload 5, 2) := dk_21 5 (dk_at dksL_law_35 0 rfl rfl)
theorem dL_law_1035 : decode cL_law 1035 = .ok (.if_icmp .eq 5, 3) := dk_159 0 5 (dk_at dksL_law_35 2 rfl rfl)
theorem dL_law_1038 : decode cL_law 1038 = .ok (.iconst 0, 1) := dk_3 (dk_at dksL_law_35 5 rfl rfl)
theorem dL_law_1039 : decode cL_law 1039 = .ok (.ireturn, 1) := dk_172 (dk_at dksL_law_35 6 rfl rfl)
theorem dL_law_1040 : decode cL_law 1040 = .ok (.iload 5, 2) := dk_21 5 (dk_at dksL_law_35 7 rfl rfl)
theorem dL_law_1042 : decode cL_law 1042 = .ok (.ifCond .ne 15, 3) := dk_154 0 15 (dk_at dksL_law_35 9 rfl rfl)
theorem dL_law_1045 : decode cL_law 1045 = .ok (.aload_n 3, 1) := dk_45 (dk_at dksL_law_35 12 rfl rfl)
theorem dL_law_1046 : decode cL_law 1046 = .ok (.iconst 0, 1) := dk_3 (dk_at dksL_law_35 13 rfl rfl)
theorem dL_law_1047 : decode cL_law 1047 = .ok (.laload, 1) := dk_47 (dk_at dksL_law_35 14 rfl rfl)
theorem dL_law_1048 : decode cL_law 1048 = .ok (.iload 6, 2) := dk_21 6 (dk_at dksL_law_35 15 rfl rfl)
theorem dL_law_1050 : decode cL_law 1050 = .ok (.i2l, 1) := dk_133 (dk_at dksL_law_35 17 rfl rfl)
theorem dL_law_1051 : decode cL_law 1051 = .ok (.lcmp, 1) := dk_148 (dk_at dksL_law_35 18 rfl rfl)
theorem dL_law_1052 : decode cL_law 1052 = .ok (.ifCond .eq 5, 3) := dk_153 0 5 (dk_at dksL_law_35 19 rfl rfl)
theorem dL_law_1055 : decode cL_law 1055 = .ok (.iconst 0, 1) := dk_3 (dk_at dksL_law_35 22 rfl rfl)
theorem dL_law_1056 : decode cL_law 1056 = .ok (.ireturn, 1) := dk_172 (dk_at dksL_law_35 23 rfl rfl)
theorem dL_law_1057 : decode cL_law 1057 = .ok (.goto 1770, 3) := dk_167 6 234 (dk_at dksL_law_36 0 rfl rfl)
theorem dL_law_1060 : decode cL_law 1060 = .ok (.aload_n 1, 1) := dk_43 (dk_at dksL_law_36 3 rfl rfl)
theorem dL_law_1061 : decode cL_law 1061 = .ok (.aload_n 0, 1) := dk_42 (dk_at dksL_law_36 4 rfl rfl)
theorem dL_law_1062 : decode cL_law 1062 = .ok (.iload 4, 2) := dk_21 4 (dk_at dksL_law_36 5 rfl rfl)
theorem dL_law_1064 : decode cL_law 1064 = .ok (.iconst 1, 1) := dk_4 (dk_at dksL_law_36 7 rfl rfl)
theorem dL_law_1065 : decode cL_law 1065 = .ok (.iadd, 1) := dk_96 (dk_at dksL_law_36 8 rfl rfl)
theorem dL_law_1066 : decode cL_law 1066 = .ok (.iaload, 1) := dk_46 (dk_at dksL_law_36 9 rfl rfl)
theorem dL_law_1067 : decode cL_law 1067 = .ok (.aload_n 3, 1) := dk_45 (dk_at dksL_law_36 10 rfl rfl)
theorem dL_law_1068 : decode cL_law 1068 = .ok (.invokestatic 184, 3) := dk_184 0 184 (dk_at dksL_law_36 11 rfl rfl)
theorem dL_law_1071 : decode cL_law 1071 = .ok (.istore 5, 2) := dk_54 5 (dk_at dksL_law_36 14 rfl rfl)
theorem dL_law_1073 : decode cL_law 1073 = .ok (.aload_n 2, 1) := dk_44 (dk_at dksL_law_36 16 rfl rfl)
theorem dL_law_1074 : decode cL_law 1074 = .ok (.aload_n 0, 1) := dk_42 (dk_at dksL_law_36 17 rfl rfl)
theorem dL_law_1075 : decode cL_law 1075 = .ok (.iload 4, 2) := dk_21 4 (dk_at dksL_law_36 18 rfl rfl)
theorem dL_law_1077 : decode cL_law 1077 = .ok (.iconst 1, 1) := dk_4 (dk_at dksL_law_36 20 rfl rfl)
theorem dL_law_1078 : decode cL_law 1078 = .ok (.iadd, 1) := dk_96 (dk_at dksL_law_36 21 rfl rfl)
theorem dL_law_1079 : decode cL_law 1079 = .ok (.iaload, 1) := dk_46 (dk_at dksL_law_36 22 rfl rfl)
theorem dL_law_1080 : decode cL_law 1080 = .ok (.invokevirtual 186, 3) := dk_182 0 186 (dk_at dksL_law_37 0 rfl rfl)
theorem dL_law_1083 : decode cL_law 1083 = .ok (.istore 6, 2) := dk_54 6 (dk_at dksL_law_37 3 rfl rfl)
theorem dL_law_1085 : decode cL_law 1085 = .ok (.aload_n 2, 1) := dk_44 (dk_at dksL_law_37 5 rfl rfl)
theorem dL_law_1086 : decode cL_law 1086 = .ok (.invokevirtual 143, 3) := dk_182 0 143 (dk_at dksL_law_37 6 rfl rfl)
theorem dL_law_1089 : decode cL_law 1089 = .ok (.iload 5, 2) := dk_21 5 (dk_at dksL_law_37 9 rfl rfl)
theorem dL_law_1091 : decode cL_law 1091 = .ok (.if_icmp .eq 5, 3) := dk_159 0 5 (dk_at dksL_law_37 11 rfl rfl)
theorem dL_law_1094 : decode cL_law 1094 = .ok (.iconst 0, 1) := dk_3 (dk_at dksL_law_37 14 rfl rfl)
theorem dL_law_1095 : decode cL_law 1095 = .ok (.ireturn, 1) := dk_172 (dk_at dksL_law_37 15 rfl rfl)
theorem dL_law_1096 : decode cL_law 1096 = .ok (.iload 5, 2) := dk_21 5 (dk_at dksL_law_37 16 rfl rfl)
theorem dL_law_1098 : decode cL_law 1098 = .ok (.ifCond .ne 15, 3) := dk_154 0 15 (dk_at dksL_law_37 18 rfl rfl)
theorem dL_law_1101 : decode cL_law 1101 = .ok (.aload_n 3, 1) := dk_45 (dk_at dksL_law_37 21 rfl rfl)
theorem dL_law_1102 : decode cL_law 1102 = .ok (.iconst 0, 1) := dk_3 (dk_at dksL_law_37 22 rfl rfl)
theorem dL_law_1103 : decode cL_law 1103 = .ok (.laload, 1) := dk_47 (dk_at dksL_law_37 23 rfl rfl)
theorem dL_law_1104 : decode cL_law 1104 = .ok (.iload 6, 2) := dk_21 6 (dk_at dksL_law_38 0 rfl rfl)
theorem dL_law_1106 : decode cL_law 1106 = .ok (.i2l, 1) := dk_133 (dk_at dksL_law_38 2 rfl rfl)
theorem dL_law_1107 : decode cL_law 1107 = .ok (.lcmp, 1) := dk_148 (dk_at dksL_law_38 3 rfl rfl)
theorem dL_law_1108 : decode cL_law 1108 = .ok (.ifCond .eq 5, 3) := dk_153 0 5 (dk_at dksL_law_38 4 rfl rfl)
theorem dL_law_1111 : decode cL_law 1111 = .ok (.iconst 0, 1) := dk_3 (dk_at dksL_law_38 7 rfl rfl)
theorem dL_law_1112 : decode cL_law 1112 = .ok (.ireturn, 1) := dk_172 (dk_at dksL_law_38 8 rfl rfl)
theorem dL_law_1113 : decode cL_law 1113 = .ok (.goto 1714, 3) := dk_167 6 178 (dk_at dksL_law_38 9 rfl rfl)
theorem dL_law_1116 : decode cL_law 1116 = .ok (.aload_n 1, 1) := dk_43 (dk_at dksL_law_38 12 rfl rfl)
theorem dL_law_1117 : decode cL_law 1117 = .ok (.invokevirtual 187, 3) := dk_182 0 187 (dk_at dksL_law_38 13 rfl rfl)
theorem dL_law_1120 : decode cL_law 1120 = .ok (.aload_n 2, 1) := dk_44 (dk_at dksL_law_38 16 rfl rfl)
theorem dL_law_1121 : decode cL_law 1121 = .ok (.invokevirtual 190, 3) := dk_182 0 190 (dk_at dksL_law_38 17 rfl rfl)
theorem dL_law_1124 : decode cL_law 1124 = .ok (.if_icmp .eq 1703, 3) := dk_159 6 167 (dk_at dksL_law_38 20 rfl rfl)
theorem dL_law_1127 : decode cL_law 1127 = .ok (.iconst 0, 1) := dk_3 (dk_at dksL_law_38 23 rfl rfl)
theorem dL_law_1128 : decode cL_law 1128 = .ok (.ireturn, 1) := dk_172 (dk_at dksL_law_39 0 rfl rfl)
theorem dL_law_1129 : decode cL_law 1129 = .ok (.aload_n 1, 1) := dk_43 (dk_at dksL_law_39 1 rfl rfl)
theorem dL_law_1130 : decode cL_law 1130 = .ok (.invokevirtual 191, 3) := dk_182 0 191 (dk_at dksL_law_39 2 rfl rfl)
theorem dL_law_1133 : decode cL_law 1133 = .ok (.aload_n 2, 1) := dk_44 (dk_at dksL_law_39 5 rfl rfl)
theorem dL_law_1134 : decode cL_law 1134 = .ok (.invokevirtual 194, 3) := dk_182 0 194 (dk_at dksL_law_39 6 rfl rfl)
theorem dL_law_1137 : decode cL_law 1137 = .ok (.if_icmp .eq 1690, 3) := dk_159 6 154 (dk_at dksL_law_39 9 rfl rfl)
theorem dL_law_1140 : decode cL_law 1140 = .ok (.iconst 0, 1) := dk_3 (dk_at dksL_law_39 12 rfl rfl)
theorem dL_law_1141 : decode cL_law 1141 = .ok (.ireturn, 1) := dk_172 (dk_at dksL_law_39 13 rfl rfl)
theorem dL_law_1142 : decode cL_law 1142 = .ok (.aload_n 1, 1) := dk_43 (dk_at dksL_law_39 14 rfl rfl)
theorem dL_law_1143 : decode cL_law 1143 = .ok (.aload_n 3, 1) := dk_45 (dk_at dksL_law_39 15 rfl rfl)
theorem dL_law_1144 : decode cL_law 1144 = .ok (.invokestatic 195, 3) := dk_184 0 195 (dk_at dksL_law_39 16 rfl rfl)
theorem dL_law_1147 : decode cL_law 1147 = .ok (.istore 5, 2) := dk_54 5 (dk_at dksL_law_39 19 rfl rfl)
theorem dL_law_1149 : decode cL_law 1149 = .ok (.aload_n 2, 1) := dk_44 (dk_at dksL_law_39 21 rfl rfl)
theorem dL_law_1150 : decode cL_law 1150 = .ok (.invokevirtual 197, 3) := dk_182 0 197 (dk_at dksL_law_40 0 rfl rfl)
theorem dL_law_1153 : decode cL_law 1153 = .ok (.istore 6, 2) := dk_54 6 (dk_at dksL_law_40 3 rfl rfl)
theorem dL_law_1155 : decode cL_law 1155 = .ok (.aload_n 2, 1) := dk_44 (dk_at dksL_law_40 5 rfl rfl)
theorem dL_law_1156 : decode cL_law 1156 = .ok (.invokevirtual 143, 3) := dk_182 0 143 (dk_at dksL_law_40 6 rfl rfl)
theorem dL_law_1159 : decode cL_law 1159 = .ok (.iload 5, 2) := dk_21 5 (dk_at dksL_law_40 9 rfl rfl)
theorem dL_law_1161 : decode cL_law 1161 = .ok (.if_icmp .eq 5, 3) := dk_159 0 5 (dk_at dksL_law_40 11 rfl rfl)
theorem dL_law_1164 : decode cL_law 1164 = .ok (.iconst 0, 1) := dk_3 (dk_at dksL_law_40 14 rfl rfl)
theorem dL_law_1165 : decode cL_law 1165 = .ok (.ireturn, 1) := dk_172 (dk_at dksL_law_40 15 rfl rfl)
theorem dL_law_1166 : decode cL_law 1166 = .ok (.iload 5, 2) := dk_21 5 (dk_at dksL_law_40 16 rfl rfl)
theorem dL_law_1168 : decode cL_law 1168 = .ok (.ifCond .ne 15, 3) := dk_154 0 15 (dk_at dksL_law_40 18 rfl rfl)
theorem dL_law_1171 : decode cL_law 1171 = .ok (.aload_n 3, 1) := dk_45 (dk_at dksL_law_40 21 rfl rfl)
theorem dL_law_1172 : decode cL_law 1172 = .ok (.iconst 0, 1) := dk_3 (dk_at dksL_law_40 22 rfl rfl)
theorem dL_law_1173 : decode cL_law 1173 = .ok (.laload, 1) := dk_47 (dk_at dksL_law_40 23 rfl rfl)
theorem dL_law_1174 : decode cL_law 1174 = .ok (.iload 6, 2) := dk_21 6 (dk_at dksL_law_41 0 rfl rfl)
theorem dL_law_1176 : decode cL_law 1176 = .ok (.i2l, 1) := dk_133 (dk_at dksL_law_41 2 rfl rfl)
theorem dL_law_1177 : decode cL_law 1177 = .ok (.lcmp, 1) := dk_148 (dk_at dksL_law_41 3 rfl rfl)
theorem dL_law_1178 : decode cL_law 1178 = .ok (.ifCond .eq 5, 3) := dk_153 0 5 (dk_at dksL_law_41 4 rfl rfl)
theorem dL_law_1181 : decode cL_law 1181 = .ok (.iconst 0, 1) := dk_3 (dk_at dksL_law_41 7 rfl rfl)
theorem dL_law_1182 : decode cL_law 1182 = .ok (.ireturn, 1) := dk_172 (dk_at dksL_law_41 8 rfl rfl)
theorem dL_law_1183 : decode cL_law 1183 = .ok (.goto 1644, 3) := dk_167 6 108 (dk_at dksL_law_41 9 rfl rfl)
theorem dL_law_1186 : decode cL_law 1186 = .ok (.aload_n 1, 1) := dk_43 (dk_at dksL_law_41 12 rfl rfl)
theorem dL_law_1187 : decode cL_law 1187 = .ok (.aload_n 3, 1) := dk_45 (dk_at dksL_law_41 13 rfl rfl)
theorem dL_law_1188 : decode cL_law 1188 = .ok (.invokestatic 198, 3) := dk_184 0 198 (dk_at dksL_law_41 14 rfl rfl)
theorem dL_law_1191 : decode cL_law 1191 = .ok (.istore 5, 2) := dk_54 5 (dk_at dksL_law_41 17 rfl rfl)
theorem dL_law_1193 : decode cL_law 1193 = .ok (.aload_n 2, 1) := dk_44 (dk_at dksL_law_41 19 rfl rfl)
theorem dL_law_1194 : decode cL_law 1194 = .ok (.invokevirtual 200, 3) := dk_182 0 200 (dk_at dksL_law_41 20 rfl rfl)
theorem dL_law_1197 : decode cL_law 1197 = .ok (.istore 6, 2) := dk_54 6 (dk_at dksL_law_42 0 rfl rfl)
theorem dL_law_1199 : decode cL_law 1199 = .ok (.aload_n 2, 1) := dk_44 (dk_at dksL_law_42 2 rfl rfl)
theorem dL_law_1200 : decode cL_law 1200 = .ok (.invokevirtual 143, 3) := dk_182 0 143 (dk_at dksL_law_42 3 rfl rfl)
theorem dL_law_1203 : decode cL_law 1203 = .ok (.iload 5, 2) := dk_21 5 (dk_at dksL_law_42 6 rfl rfl)
theorem dL_law_1205 : decode cL_law 1205 = .ok (.if_icmp .eq 5, 3) := dk_159 0 5 (dk_at dksL_law_42 8 rfl rfl)
theorem dL_law_1208 : decode cL_law 1208 = .ok (.iconst 0, 1) := dk_3 (dk_at dksL_law_42 11 rfl rfl)
theorem dL_law_1209 : decode cL_law 1209 = .ok (.ireturn, 1) := dk_172 (dk_at dksL_law_42 12 rfl rfl)
theorem dL_law_1210 : decode cL_law 1210 = .ok (.iload 5, 2) := dk_21 5 (dk_at dksL_law_42 13 rfl rfl)
theorem dL_law_1212 : decode cL_law 1212 = .ok (.ifCond .ne 15, 3) := dk_154 0 15 (dk_at dksL_law_42 15 rfl rfl)
theorem dL_law_1215 : decode cL_law 1215 = .ok (.aload_n 3, 1) := dk_45 (dk_at dksL_law_42 18 rfl rfl)
theorem dL_law_1216 : decode cL_law 1216 = .ok (.iconst 0, 1) := dk_3 (dk_at dksL_law_42 19 rfl rfl)
theorem dL_law_1217 : decode cL_law 1217 = .ok (.laload, 1) := dk_47 (dk_at dksL_law_42 20 rfl rfl)
theorem dL_law_1218 : decode cL_law 1218 = .ok (.iload 6, 2) := dk_21 6 (dk_at dksL_law_42 21 rfl rfl)
theorem dL_law_1220 : decode cL_law 1220 = .ok (.i2l, 1) := dk_133 (dk_at dksL_law_42 23 rfl rfl)
theorem dL_law_1221 : decode cL_law 1221 = .ok (.lcmp, 1) := dk_148 (dk_at dksL_law_43 0 rfl rfl)
theorem dL_law_1222 : decode cL_law 1222 = .ok (.ifCond .eq 5, 3) := dk_153 0 5 (dk_at dksL_law_43 1 rfl rfl)
theorem dL_law_1225 : decode cL_law 1225 = .ok (.iconst 0, 1) := dk_3 (dk_at dksL_law_43 4 rfl rfl)
theorem dL_law_1226 : decode cL_law 1226 = .ok (.ireturn, 1) := dk_172 (dk_at dksL_law_43 5 rfl rfl)
theorem dL_law_1227 : decode cL_law 1227 = .ok (.goto 1600, 3) := dk_167 6 64 (dk_at dksL_law_43 6 rfl rfl)
theorem dL_law_1230 : decode cL_law 1230 = .ok (.aload_n 1, 1) := dk_43 (dk_at dksL_law_43 9 rfl rfl)
theorem dL_law_1231 : decode cL_law 1231 = .ok (.invokevirtual 201, 3) := dk_182 0 201 (dk_at dksL_law_43 10 rfl rfl)
theorem dL_law_1234 : decode cL_law 1234 = .ok (.aload_n 2, 1) := dk_44 (dk_at dksL_law_43 13 rfl rfl)
theorem dL_law_1235 : decode cL_law 1235 = .ok (.invokevirtual 204, 3) := dk_182 0 204 (dk_at dksL_law_43 14 rfl rfl)
theorem dL_law_1238 : decode cL_law 1238 = .ok (.if_icmp .eq 1589, 3) := dk_159 6 53 (dk_at dksL_law_43 17 rfl rfl)
theorem dL_law_1241 : decode cL_law 1241 = .ok (.iconst 0, 1) := dk_3 (dk_at dksL_law_43 20 rfl rfl)
theorem dL_law_1242 : decode cL_law 1242 = .ok (.ireturn, 1) := dk_172 (dk_at dksL_law_43 21 rfl rfl)
theorem dL_law_1243 : decode cL_law 1243 = .ok (.aload_n 1, 1) := dk_43 (dk_at dksL_law_43 22 rfl rfl)
theorem dL_law_1244 : decode cL_law 1244 = .ok (.invokevirtual 205, 3) := dk_182 0 205 (dk_at dksL_law_44 0 rfl rfl)
theorem dL_law_1247 : decode cL_law 1247 = .ok (.aload_n 2, 1) := dk_44 (dk_at dksL_law_44 3 rfl rfl)
theorem dL_law_1248 : decode cL_law 1248 = .ok (.invokevirtual 208, 3) := dk_182 0 208 (dk_at dksL_law_44 4 rfl rfl)
theorem dL_law_1251 : decode cL_law 1251 = .ok (.if_icmp .eq 1576, 3) := dk_159 6 40 (dk_at dksL_law_44 7 rfl rfl)
theorem dL_law_1254 : decode cL_law 1254 = .ok (.iconst 0, 1) := dk_3 (dk_at dksL_law_44 10 rfl rfl)
theorem dL_law_1255 : decode cL_law 1255 = .ok (.ireturn, 1) := dk_172 (dk_at dksL_law_44 11 rfl rfl)
theorem dL_law_1256 : decode cL_law 1256 = .ok (.aload_n 1, 1) := dk_43 (dk_at dksL_law_44 12 rfl rfl)
theorem dL_law_1257 : decode cL_law 1257 = .ok (.aload_n 3, 1) := dk_45 (dk_at dksL_law_44 13 rfl rfl)
theorem dL_law_1258 : decode cL_law 1258 = .ok (.invokestatic 209, 3) := dk_184 0 209 (dk_at dksL_law_44 14 rfl rfl)
theorem dL_law_1261 : decode cL_law 1261 = .ok (.istore 5, 2) := dk_54 5 (dk_at dksL_law_44 17 rfl rfl)
theorem dL_law_1263 : decode cL_law 1263 = .ok (.aload_n 2, 1) := dk_44 (dk_at dksL_law_44 19 rfl rfl)
theorem dL_law_1264 : decode cL_law 1264 = .ok (.invokevirtual 211, 3) := dk_182 0 211 (dk_at dksL_law_44 20 rfl rfl)
theorem dL_law_1267 : decode cL_law 1267 = .ok (.istore 6, 2) := dk_54 6 (dk_at dksL_law_45 0 rfl rfl)
theorem dL_law_1269 : decode cL_law 1269 = .ok (.aload_n 2, 1) := dk_44 (dk_at dksL_law_45 2 rfl rfl)
theorem dL_law_1270 : decode cL_law 1270 = .ok (.invokevirtual 143, 3) := dk_182 0 143 (dk_at dksL_law_45 3 rfl rfl)
theorem dL_law_1273 : decode cL_law 1273 = .ok (.iload 5, 2) := dk_21 5 (dk_at dksL_law_45 6 rfl rfl)
theorem dL_law_1275 : decode cL_law 1275 = .ok (.if_icmp .eq 5, 3) := dk_159 0 5 (dk_at dksL_law_45 8 rfl rfl)
theorem dL_law_1278 : decode cL_law 1278 = .ok (.iconst 0, 1) := dk_3 (dk_at dksL_law_45 11 rfl rfl)
theorem dL_law_1279 : decode cL_law 1279 = .ok (.ireturn, 1) := dk_172 (dk_at dksL_law_45 12 rfl rfl)
theorem dL_law_1280 : decode cL_law 1280 = .ok (.iload 5, 2) := dk_21 5 (dk_at dksL_law_45 13 rfl rfl)
theorem dL_law_1282 : decode cL_law 1282 = .ok (.ifCond .ne 15, 3) := dk_154 0 15 (dk_at dksL_law_45 15 rfl rfl)
theorem dL_law_1285 : decode cL_law 1285 = .ok (.aload_n 3, 1) := dk_45 (dk_at dksL_law_45 18 rfl rfl)
theorem dL_law_1286 : decode cL_law 1286 = .ok (.iconst 0, 1) := dk_3 (dk_at dksL_law_45 19 rfl rfl)
theorem dL_law_1287 : decode cL_law 1287 = .ok (.laload, 1) := dk_47 (dk_at dksL_law_45 20 rfl rfl)
theorem dL_law_1288 : decode cL_law 1288 = .ok (.iload 6, 2) := dk_21 6 (dk_at dksL_law_45 21 rfl rfl)
theorem dL_law_1290 : decode cL_law 1290 = .ok (.i2l, 1) := dk_133 (dk_at dksL_law_45 23 rfl rfl)
theorem dL_law_1291 : decode cL_law 1291 = .ok (.lcmp, 1) := dk_148 (dk_at dksL_law_46 0 rfl rfl)
theorem dL_law_1292 : decode cL_law 1292 = .ok (.ifCond .eq 5, 3) := dk_153 0 5 (dk_at dksL_law_46 1 rfl rfl)
theorem dL_law_1295 : decode cL_law 1295 = .ok (.iconst 0, 1) := dk_3 (dk_at dksL_law_46 4 rfl rfl)
theorem dL_law_1296 : decode cL_law 1296 = .ok (.ireturn, 1) := dk_172 (dk_at dksL_law_46 5 rfl rfl)
theorem dL_law_1297 : decode cL_law 1297 = .ok (.goto 1530, 3) := dk_167 5 250 (dk_at dksL_law_46 6 rfl rfl)
theorem dL_law_1300 : decode cL_law 1300 = .ok (.aload_n 1, 1) := dk_43 (dk_at dksL_law_46 9 rfl rfl)
theorem dL_law_1301 : decode cL_law 1301 = .ok (.invokevirtual 212, 3) := dk_182 0 212 (dk_at dksL_law_46 10 rfl rfl)
theorem dL_law_1304 : decode cL_law 1304 = .ok (.aload_n 2, 1) := dk_44 (dk_at dksL_law_46 13 rfl rfl)
theorem dL_law_1305 : decode cL_law 1305 = .ok (.invokevirtual 215, 3) := dk_182 0 215 (dk_at dksL_law_46 14 rfl rfl)
theorem dL_law_1308 : decode cL_law 1308 = .ok (.if_icmp .eq 1519, 3) := dk_159 5 239 (dk_at dksL_law_46 17 rfl rfl)
theorem dL_law_1311 : decode cL_law 1311 = .ok (.iconst 0, 1) := dk_3 (dk_at dksL_law_46 20 rfl rfl)
theorem dL_law_1312 : decode cL_law 1312 = .ok (.ireturn, 1) := dk_172 (dk_at dksL_law_46 21 rfl rfl)
theorem dL_law_1313 : decode cL_law 1313 = .ok (.aload_n 1, 1) := dk_43 (dk_at dksL_law_46 22 rfl rfl)
theorem dL_law_1314 : decode cL_law 1314 = .ok (.aload_n 0, 1) := dk_42 (dk_at dksL_law_46 23 rfl rfl)
theorem dL_law_1315 : decode cL_law 1315 = .ok (.iload 4, 2) := dk_21 4 (dk_at dksL_law_47 0 rfl rfl)
theorem dL_law_1317 : decode cL_law 1317 = .ok (.iconst 1, 1) := dk_4 (dk_at dksL_law_47 2 rfl rfl)
theorem dL_law_1318 : decode cL_law 1318 = .ok (.iadd, 1) := dk_96 (dk_at dksL_law_47 3 rfl rfl)
theorem dL_law_1319 : decode cL_law 1319 = .ok (.iaload, 1) := dk_46 (dk_at dksL_law_47 4 rfl rfl)
theorem dL_law_1320 : decode cL_law 1320 = .ok (.aload_n 3, 1) := dk_45 (dk_at dksL_law_47 5 rfl rfl)
theorem dL_law_1321 : decode cL_law 1321 = .ok (.invokestatic 216, 3) := dk_184 0 216 (dk_at dksL_law_47 6 rfl rfl)
theorem dL_law_1324 : decode cL_law 1324 = .ok (.istore 5, 2) := dk_54 5 (dk_at dksL_law_47 9 rfl rfl)
theorem dL_law_1326 : decode cL_law 1326 = .ok (.aload_n 2, 1) := dk_44 (dk_at dksL_law_47 11 rfl rfl)
theorem dL_law_1327 : decode cL_law 1327 = .ok (.aload_n 0, 1) := dk_42 (dk_at dksL_law_47 12 rfl rfl)
theorem dL_law_1328 : decode cL_law 1328 = .ok (.iload 4, 2) := dk_21 4 (dk_at dksL_law_47 13 rfl rfl)
theorem dL_law_1330 : decode cL_law 1330 = .ok (.iconst 1, 1) := dk_4 (dk_at dksL_law_47 15 rfl rfl)
theorem dL_law_1331 : decode cL_law 1331 = .ok (.iadd, 1) := dk_96 (dk_at dksL_law_47 16 rfl rfl)
theorem dL_law_1332 : decode cL_law 1332 = .ok (.iaload, 1) := dk_46 (dk_at dksL_law_47 17 rfl rfl)
theorem dL_law_1333 : decode cL_law 1333 = .ok (.invokevirtual 218, 3) := dk_182 0 218 (dk_at dksL_law_47 18 rfl rfl)
theorem dL_law_1336 : decode cL_law 1336 = .ok (.istore 6, 2) := dk_54 6 (dk_at dksL_law_47 21 rfl rfl)
theorem dL_law_1338 : decode cL_law 1338 = .ok (.aload_n 2, 1) := dk_44 (dk_at dksL_law_47 23 rfl rfl)
theorem dL_law_1339 : decode cL_law 1339 = .ok (.invokevirtual 143, 3) := dk_182 0 143 (dk_at dksL_law_48 0 rfl rfl)
theorem dL_law_1342 : decode cL_law 1342 = .ok (.iload 5, 2) := dk_21 5 (dk_at dksL_law_48 3 rfl rfl)
theorem dL_law_1344 : decode cL_law 1344 = .ok (.if_icmp .eq 5, 3) := dk_159 0 5 (dk_at dksL_law_48 5 rfl rfl)
theorem dL_law_1347 : decode cL_law 1347 = .ok (.iconst 0, 1) := dk_3 (dk_at dksL_law_48 8 rfl rfl)
theorem dL_law_1348 : decode cL_law 1348 = .ok (.ireturn, 1) := dk_172 (dk_at dksL_law_48 9 rfl rfl)
theorem dL_law_1349 : decode cL_law 1349 = .ok (.iload 5, 2) := dk_21 5 (dk_at dksL_law_48 10 rfl rfl)
theorem dL_law_1351 : decode cL_law 1351 = .ok (.ifCond .ne 15, 3) := dk_154 0 15 (dk_at dksL_law_48 12 rfl rfl)
theorem dL_law_1354 : decode cL_law 1354 = .ok (.aload_n 3, 1) := dk_45 (dk_at dksL_law_48 15 rfl rfl)
theorem dL_law_1355 : decode cL_law 1355 = .ok (.iconst 0, 1) := dk_3 (dk_at dksL_law_48 16 rfl rfl)
theorem dL_law_1356 : decode cL_law 1356 = .ok (.laload, 1) := dk_47 (dk_at dksL_law_48 17 rfl rfl)
theorem dL_law_1357 : decode cL_law 1357 = .ok (.iload 6, 2) := dk_21 6 (dk_at dksL_law_48 18 rfl rfl)
theorem dL_law_1359 : decode cL_law 1359 = .ok (.i2l, 1) := dk_133 (dk_at dksL_law_48 20 rfl rfl)
theorem dL_law_1360 : decode cL_law 1360 = .ok (.lcmp, 1) := dk_148 (dk_at dksL_law_48 21 rfl rfl)
theorem dL_law_1361 : decode cL_law 1361 = .ok (.ifCond .eq 5, 3) := dk_153 0 5 (dk_at dksL_law_49 0 rfl rfl)
theorem dL_law_1364 : decode cL_law 1364 = .ok (.iconst 0, 1) := dk_3 (dk_at dksL_law_49 3 rfl rfl)
theorem dL_law_1365 : decode cL_law 1365 = .ok (.ireturn, 1) := dk_172 (dk_at dksL_law_49 4 rfl rfl)
theorem dL_law_1366 : decode cL_law 1366 = .ok (.goto 1461, 3) := dk_167 5 181 (dk_at dksL_law_49 5 rfl rfl)
theorem dL_law_1369 : decode cL_law 1369 = .ok (.aload_n 1, 1) := dk_43 (dk_at dksL_law_49 8 rfl rfl)
theorem dL_law_1370 : decode cL_law 1370 = .ok (.aload_n 0, 1) := dk_42 (dk_at dksL_law_49 9 rfl rfl)
theorem dL_law_1371 : decode cL_law 1371 = .ok (.iload 4, 2) := dk_21 4 (dk_at dksL_law_49 10 rfl rfl)
theorem dL_law_1373 : decode cL_law 1373 = .ok (.iconst 1, 1) := dk_4 (dk_at dksL_law_49 12 rfl rfl)
theorem dL_law_1374 : decode cL_law 1374 = .ok (.iadd, 1) := dk_96 (dk_at dksL_law_49 13 rfl rfl)
theorem dL_law_1375 : decode cL_law 1375 = .ok (.iaload, 1) := dk_46 (dk_at dksL_law_49 14 rfl rfl)
theorem dL_law_1376 : decode cL_law 1376 = .ok (.aload_n 3, 1) := dk_45 (dk_at dksL_law_49 15 rfl rfl)
theorem dL_law_1377 : decode cL_law 1377 = .ok (.invokestatic 219, 3) := dk_184 0 219 (dk_at dksL_law_49 16 rfl rfl)
theorem dL_law_1380 : decode cL_law 1380 = .ok (.istore 5, 2) := dk_54 5 (dk_at dksL_law_49 19 rfl rfl)
theorem dL_law_1382 : decode cL_law 1382 = .ok (.aload_n 2, 1) := dk_44 (dk_at dksL_law_49 21 rfl rfl)
theorem dL_law_1383 : decode cL_law 1383 = .ok (.aload_n 0, 1) := dk_42 (dk_at dksL_law_49 22 rfl rfl)
theorem dL_law_1384 : decode cL_law 1384 = .ok (.iload 4, 2) := dk_21 4 (dk_at dksL_law_50 0 rfl rfl)
theorem dL_law_1386 : decode cL_law 1386 = .ok (.iconst 1, 1) := dk_4 (dk_at dksL_law_50 2 rfl rfl)
theorem dL_law_1387 : decode cL_law 1387 = .ok (.iadd, 1) := dk_96 (dk_at dksL_law_50 3 rfl rfl)
theorem dL_law_1388 : decode cL_law 1388 = .ok (.iaload, 1) := dk_46 (dk_at dksL_law_50 4 rfl rfl)
theorem dL_law_1389 : decode cL_law 1389 = .ok (.invokevirtual 221, 3) := dk_182 0 221 (dk_at dksL_law_50 5 rfl rfl)
theorem dL_law_1392 : decode cL_law 1392 = .ok (.istore 6, 2) := dk_54 6 (dk_at dksL_law_50 8 rfl rfl)
theorem dL_law_1394 : decode cL_law 1394 = .ok (.aload_n 2, 1) := dk_44 (dk_at dksL_law_50 10 rfl rfl)
theorem dL_law_1395 : decode cL_law 1395 = .ok (.invokevirtual 143, 3) := dk_182 0 143 (dk_at dksL_law_50 11 rfl rfl)
theorem dL_law_1398 : decode cL_law 1398 = .ok (.iload 5, 2) := dk_21 5 (dk_at dksL_law_50 14 rfl rfl)
theorem dL_law_1400 : decode cL_law 1400 = .ok (.if_icmp .eq 5, 3) := dk_159 0 5 (dk_at dksL_law_50 16 rfl rfl)
theorem dL_law_1403 : decode cL_law 1403 = .ok (.iconst 0, 1) := dk_3 (dk_at dksL_law_50 19 rfl rfl)
theorem dL_law_1404 : decode cL_law 1404 = .ok (.ireturn, 1) := dk_172 (dk_at dksL_law_50 20 rfl rfl)
theorem dL_law_1405 : decode cL_law 1405 = .ok (.iload 5, 2) := dk_21 5 (dk_at dksL_law_50 21 rfl rfl)
theorem dL_law_1407 : decode cL_law 1407 = .ok (.ifCond .ne 15, 3) := dk_154 0 15 (dk_at dksL_law_51 0 rfl rfl)
theorem dL_law_1410 : decode cL_law 1410 = .ok (.aload_n 3, 1) := dk_45 (dk_at dksL_law_51 3 rfl rfl)
theorem dL_law_1411 : decode cL_law 1411 = .ok (.iconst 0, 1) := dk_3 (dk_at dksL_law_51 4 rfl rfl)
theorem dL_law_1412 : decode cL_law 1412 = .ok (.laload, 1) := dk_47 (dk_at dksL_law_51 5 rfl rfl)
theorem dL_law_1413 : decode cL_law 1413 = .ok (.iload 6, 2) := dk_21 6 (dk_at dksL_law_51 6 rfl rfl)
theorem dL_law_1415 : decode cL_law 1415 = .ok (.i2l, 1) := dk_133 (dk_at dksL_law_51 8 rfl rfl)
theorem dL_law_1416 : decode cL_law 1416 = .ok (.lcmp, 1) := dk_148 (dk_at dksL_law_51 9 rfl rfl)
theorem dL_law_1417 : decode cL_law 1417 = .ok (.ifCond .eq 5, 3) := dk_153 0 5 (dk_at dksL_law_51 10 rfl rfl)
theorem dL_law_1420 : decode cL_law 1420 = .ok (.iconst 0, 1) := dk_3 (dk_at dksL_law_51 13 rfl rfl)
theorem dL_law_1421 : decode cL_law 1421 = .ok (.ireturn, 1) := dk_172 (dk_at dksL_law_51 14 rfl rfl)
theorem dL_law_1422 : decode cL_law 1422 = .ok (.goto 1405, 3) := dk_167 5 125 (dk_at dksL_law_51 15 rfl rfl)
theorem dL_law_1425 : decode cL_law 1425 = .ok (.aload_n 1, 1) := dk_43 (dk_at dksL_law_51 18 rfl rfl)
theorem dL_law_1426 : decode cL_law 1426 = .ok (.aload_n 0, 1) := dk_42 (dk_at dksL_law_51 19 rfl rfl)
theorem dL_law_1427 : decode cL_law 1427 = .ok (.iload 4, 2) := dk_21 4 (dk_at dksL_law_51 20 rfl rfl)
theorem dL_law_1429 : decode cL_law 1429 = .ok (.iconst 1, 1) := dk_4 (dk_at dksL_law_51 22 rfl rfl)
theorem dL_law_1430 : decode cL_law 1430 = .ok (.iadd, 1) := dk_96 (dk_at dksL_law_51 23 rfl rfl)
theorem dL_law_1431 : decode cL_law 1431 = .ok (.iaload, 1) := dk_46 (dk_at dksL_law_52 0 rfl rfl)
theorem dL_law_1432 : decode cL_law 1432 = .ok (.aload_n 3, 1) := dk_45 (dk_at dksL_law_52 1 rfl rfl)
theorem dL_law_1433 : decode cL_law 1433 = .ok (.invokestatic 222, 3) := dk_184 0 222 (dk_at dksL_law_52 2 rfl rfl)
theorem dL_law_1436 : decode cL_law 1436 = .ok (.istore 5, 2) := dk_54 5 (dk_at dksL_law_52 5 rfl rfl)
theorem dL_law_1438 : decode cL_law 1438 = .ok (.aload_n 2, 1) := dk_44 (dk_at dksL_law_52 7 rfl rfl)
theorem dL_law_1439 : decode cL_law 1439 = .ok (.aload_n 0, 1) := dk_42 (dk_at dksL_law_52 8 rfl rfl)
theorem dL_law_1440 : decode cL_law 1440 = .ok (.iload 4, 2) := dk_21 4 (dk_at dksL_law_52 9 rfl rfl)
theorem dL_law_1442 : decode cL_law 1442 = .ok (.iconst 1, 1) := dk_4 (dk_at dksL_law_52 11 rfl rfl)
theorem dL_law_1443 : decode cL_law 1443 = .ok (.iadd, 1) := dk_96 (dk_at dksL_law_52 12 rfl rfl)
theorem dL_law_1444 : decode cL_law 1444 = .ok (.iaload, 1) := dk_46 (dk_at dksL_law_52 13 rfl rfl)
theorem dL_law_1445 : decode cL_law 1445 = .ok (.invokevirtual 224, 3) := dk_182 0 224 (dk_at dksL_law_52 14 rfl rfl)
theorem dL_law_1448 : decode cL_law 1448 = .ok (.istore 6, 2) := dk_54 6 (dk_at dksL_law_52 17 rfl rfl)
theorem dL_law_1450 : decode cL_law 1450 = .ok (.aload_n 2, 1) := dk_44 (dk_at dksL_law_52 19 rfl rfl)
theorem dL_law_1451 : decode cL_law 1451 = .ok (.invokevirtual 143, 3) := dk_182 0 143 (dk_at dksL_law_52 20 rfl rfl)
theorem dL_law_1454 : decode cL_law 1454 = .ok (.iload 5, 2) := dk_21 5 (dk_at dksL_law_53 0 rfl rfl)
theorem dL_law_1456 : decode cL_law 1456 = .ok (.if_icmp .eq 5, 3) := dk_159 0 5 (dk_at dksL_law_53 2 rfl rfl)
theorem dL_law_1459 : decode cL_law 1459 = .ok (.iconst 0, 1) := dk_3 (dk_at dksL_law_53 5 rfl rfl)
theorem dL_law_1460 : decode cL_law 1460 = .ok (.ireturn, 1) := dk_172 (dk_at dksL_law_53 6 rfl rfl)
theorem dL_law_1461 : decode cL_law 1461 = .ok (.iload 5, 2) := dk_21 5 (dk_at dksL_law_53 7 rfl rfl)
theorem dL_law_1463 : decode cL_law 1463 = .ok (.ifCond .ne 15, 3) := dk_154 0 15 (dk_at dksL_law_53 9 rfl rfl)
theorem dL_law_1466 : decode cL_law 1466 = .ok (.aload_n 3, 1) := dk_45 (dk_at dksL_law_53 12 rfl rfl)
theorem dL_law_1467 : decode cL_law 1467 = .ok (.iconst 0, 1) := dk_3 (dk_at dksL_law_53 13 rfl rfl)
theorem dL_law_1468 : decode cL_law 1468 = .ok (.laload, 1) := dk_47 (dk_at dksL_law_53 14 rfl rfl)
theorem dL_law_1469 : decode cL_law 1469 = .ok (.iload 6, 2) := dk_21 6 (dk_at dksL_law_53 15 rfl rfl)
theorem dL_law_1471 : decode cL_law 1471 = .ok (.i2l, 1) := dk_133 (dk_at dksL_law_53 17 rfl rfl)
theorem dL_law_1472 : decode cL_law 1472 = .ok (.lcmp, 1) := dk_148 (dk_at dksL_law_53 18 rfl rfl)
theorem dL_law_1473 : decode cL_law 1473 = .ok (.ifCond .eq 5, 3) := dk_153 0 5 (dk_at dksL_law_53 19 rfl rfl)
theorem dL_law_1476 : decode cL_law 1476 = .ok (.iconst 0, 1) := dk_3 (dk_at dksL_law_53 22 rfl rfl)
theorem dL_law_1477 : decode cL_law 1477 = .ok (.ireturn, 1) := dk_172 (dk_at dksL_law_53 23 rfl rfl)
theorem dL_law_1478 : decode cL_law 1478 = .ok (.goto 1349, 3) := dk_167 5 69 (dk_at dksL_law_54 0 rfl rfl)
theorem dL_law_1481 : decode cL_law 1481 = .ok (.aload_n 1, 1) := dk_43 (dk_at dksL_law_54 3 rfl rfl)
theorem dL_law_1482 : decode cL_law 1482 = .ok (.aload_n 0, 1) := dk_42 (dk_at dksL_law_54 4 rfl rfl)
theorem dL_law_1483 : decode cL_law 1483 = .ok (.iload 4, 2) := dk_21 4 (dk_at dksL_law_54 5 rfl rfl)
theorem dL_law_1485 : decode cL_law 1485 = .ok (.iconst 1, 1) := dk_4 (dk_at dksL_law_54 7 rfl rfl)
theorem dL_law_1486 : decode cL_law 1486 = .ok (.iadd, 1) := dk_96 (dk_at dksL_law_54 8 rfl rfl)
theorem dL_law_1487 : decode cL_law 1487 = .ok (.iaload, 1) := dk_46 (dk_at dksL_law_54 9 rfl rfl)
theorem dL_law_1488 : decode cL_law 1488 = .ok (.aload_n 3, 1) := dk_45 (dk_at dksL_law_54 10 rfl rfl)
theorem dL_law_1489 : decode cL_law 1489 = .ok (.invokestatic 225, 3) := dk_184 0 225 (dk_at dksL_law_54 11 rfl rfl)
theorem dL_law_1492 : decode cL_law 1492 = .ok (.istore 5, 2) := dk_54 5 (dk_at dksL_law_54 14 rfl rfl)
theorem dL_law_1494 : decode cL_law 1494 = .ok (.aload_n 2, 1) := dk_44 (dk_at dksL_law_54 16 rfl rfl)
theorem dL_law_1495 : decode cL_law 1495 = .ok (.aload_n 0, 1) := dk_42 (dk_at dksL_law_54 17 rfl rfl)
theorem dL_law_1496 : decode cL_law 1496 = .ok (.iload 4, 2) := dk_21 4 (dk_at dksL_law_54 18 rfl rfl)
theorem dL_law_1498 : decode cL_law 1498 = .ok (.iconst 1, 1) := dk_4 (dk_at dksL_law_54 20 rfl rfl)
theorem dL_law_1499 : decode cL_law 1499 = .ok (.iadd, 1) := dk_96 (dk_at dksL_law_54 21 rfl rfl)
theorem dL_law_1500 : decode cL_law 1500 = .ok (.iaload, 1) := dk_46 (dk_at dksL_law_54 22 rfl rfl)
theorem dL_law_1501 : decode cL_law 1501 = .ok (.invokevirtual 227, 3) := dk_182 0 227 (dk_at dksL_law_55 0 rfl rfl)
theorem dL_law_1504 : decode cL_law 1504 = .ok (.istore 6, 2) := dk_54 6 (dk_at dksL_law_55 3 rfl rfl)
theorem dL_law_1506 : decode cL_law 1506 = .ok (.aload_n 2, 1) := dk_44 (dk_at dksL_law_55 5 rfl rfl)
theorem dL_law_1507 : decode cL_law 1507 = .ok (.invokevirtual 143, 3) := dk_182 0 143 (dk_at dksL_law_55 6 rfl rfl)
theorem dL_law_1510 : decode cL_law 1510 = .ok (.iload 5, 2) := dk_21 5 (dk_at dksL_law_55 9 rfl rfl)
theorem dL_law_1512 : decode cL_law 1512 = .ok (.if_icmp .eq 5, 3) := dk_159 0 5 (dk_at dksL_law_55 11 rfl rfl)
theorem dL_law_1515 : decode cL_law 1515 = .ok (.iconst 0, 1) := dk_3 (dk_at dksL_law_55 14 rfl rfl)
theorem dL_law_1516 : decode cL_law 1516 = .ok (.ireturn, 1) := dk_172 (dk_at dksL_law_55 15 rfl rfl)
theorem dL_law_1517 : decode cL_law 1517 = .ok (.iload 5, 2) := dk_21 5 (dk_at dksL_law_55 16 rfl rfl)
theorem dL_law_1519 : decode cL_law 1519 = .ok (.ifCond .ne 15, 3) := dk_154 0 15 (dk_at dksL_law_55 18 rfl rfl)
theorem dL_law_1522 : decode cL_law 1522 = .ok (.aload_n 3, 1) := dk_45 (dk_at dksL_law_55 21 rfl rfl)
theorem dL_law_1523 : decode cL_law 1523 = .ok (.iconst 0, 1) := dk_3 (dk_at dksL_law_55 22 rfl rfl)
theorem dL_law_1524 : decode cL_law 1524 = .ok (.laload, 1) := dk_47 (dk_at dksL_law_55 23 rfl rfl)
theorem dL_law_1525 : decode cL_law 1525 = .ok (.iload 6, 2) := dk_21 6 (dk_at dksL_law_56 0 rfl rfl)
theorem dL_law_1527 : decode cL_law 1527 = .ok (.i2l, 1) := dk_133 (dk_at dksL_law_56 2 rfl rfl)
theorem dL_law_1528 : decode cL_law 1528 = .ok (.lcmp, 1) := dk_148 (dk_at dksL_law_56 3 rfl rfl)
theorem dL_law_1529 : decode cL_law 1529 = .ok (.ifCond .eq 5, 3) := dk_153 0 5 (dk_at dksL_law_56 4 rfl rfl)
theorem dL_law_1532 : decode cL_law 1532 = .ok (.iconst 0, 1) := dk_3 (dk_at dksL_law_56 7 rfl rfl)
theorem dL_law_1533 : decode cL_law 1533 = .ok (.ireturn, 1) := dk_172 (dk_at dksL_law_56 8 rfl rfl)
theorem dL_law_1534 : decode cL_law 1534 = .ok (.goto 1293, 3) := dk_167 5 13 (dk_at dksL_law_56 9 rfl rfl)
theorem dL_law_1537 : decode cL_law 1537 = .ok (.aload_n 1, 1) := dk_43 (dk_at dksL_law_56 12 rfl rfl)
theorem dL_law_1538 : decode cL_law 1538 = .ok (.aload_n 0, 1) := dk_42 (dk_at dksL_law_56 13 rfl rfl)
theorem dL_law_1539 : decode cL_law 1539 = .ok (.iload 4, 2) := dk_21 4 (dk_at dksL_law_56 14 rfl rfl)
theorem dL_law_1541 : decode cL_law 1541 = .ok (.iconst 1, 1) := dk_4 (dk_at dksL_law_56 16 rfl rfl)
theorem dL_law_1542 : decode cL_law 1542 = .ok (.iadd, 1) := dk_96 (dk_at dksL_law_56 17 rfl rfl)
theorem dL_law_1543 : decode cL_law 1543 = .ok (.iaload, 1) := dk_46 (dk_at dksL_law_56 18 rfl rfl)
theorem dL_law_1544 : decode cL_law 1544 = .ok (.aload_n 3, 1) := dk_45 (dk_at dksL_law_56 19 rfl rfl)
theorem dL_law_1545 : decode cL_law 1545 = .ok (.invokestatic 228, 3) := dk_184 0 228 (dk_at dksL_law_56 20 rfl rfl)
theorem dL_law_1548 : decode cL_law 1548 = .ok (.istore 5, 2) := dk_54 5 (dk_at dksL_law_57 0 rfl rfl)
theorem dL_law_1550 : decode cL_law 1550 = .ok (.aload_n 2, 1) := dk_44 (dk_at dksL_law_57 2 rfl rfl)
theorem dL_law_1551 : decode cL_law 1551 = .ok (.aload_n 0, 1) := dk_42 (dk_at dksL_law_57 3 rfl rfl)
theorem dL_law_1552 : decode cL_law 1552 = .ok (.iload 4, 2) := dk_21 4 (dk_at dksL_law_57 4 rfl rfl)
theorem dL_law_1554 : decode cL_law 1554 = .ok (.iconst 1, 1) := dk_4 (dk_at dksL_law_57 6 rfl rfl)
theorem dL_law_1555 : decode cL_law 1555 = .ok (.iadd, 1) := dk_96 (dk_at dksL_law_57 7 rfl rfl)
theorem dL_law_1556 : decode cL_law 1556 = .ok (.iaload, 1) := dk_46 (dk_at dksL_law_57 8 rfl rfl)
theorem dL_law_1557 : decode cL_law 1557 = .ok (.invokevirtual 230, 3) := dk_182 0 230 (dk_at dksL_law_57 9 rfl rfl)
theorem dL_law_1560 : decode cL_law 1560 = .ok (.istore 6, 2) := dk_54 6 (dk_at dksL_law_57 12 rfl rfl)
theorem dL_law_1562 : decode cL_law 1562 = .ok (.aload_n 2, 1) := dk_44 (dk_at dksL_law_57 14 rfl rfl)
theorem dL_law_1563 : decode cL_law 1563 = .ok (.invokevirtual 143, 3) := dk_182 0 143 (dk_at dksL_law_57 15 rfl rfl)
theorem dL_law_1566 : decode cL_law 1566 = .ok (.iload 5, 2) := dk_21 5 (dk_at dksL_law_57 18 rfl rfl)
theorem dL_law_1568 : decode cL_law 1568 = .ok (.if_icmp .eq 5, 3) := dk_159 0 5 (dk_at dksL_law_57 20 rfl rfl)
theorem dL_law_1571 : decode cL_law 1571 = .ok (.iconst 0, 1) := dk_3 (dk_at dksL_law_57 23 rfl rfl)
theorem dL_law_1572 : decode cL_law 1572 = .ok (.ireturn, 1) := dk_172 (dk_at dksL_law_58 0 rfl rfl)
theorem dL_law_1573 : decode cL_law 1573 = .ok (.iload 5, 2) := dk_21 5 (dk_at dksL_law_58 1 rfl rfl)
theorem dL_law_1575 : decode cL_law 1575 = .ok (.ifCond .ne 15, 3) := dk_154 0 15 (dk_at dksL_law_58 3 rfl rfl)
theorem dL_law_1578 : decode cL_law 1578 = .ok (.aload_n 3, 1) := dk_45 (dk_at dksL_law_58 6 rfl rfl)
theorem dL_law_1579 : decode cL_law 1579 = .ok (.iconst 0, 1) := dk_3 (dk_at dksL_law_58 7 rfl rfl)
theorem dL_law_1580 : decode cL_law 1580 = .ok (.laload, 1) := dk_47 (dk_at dksL_law_58 8 rfl rfl)
theorem dL_law_1581 : decode cL_law 1581 = .ok (.iload 6, 2) := dk_21 6 (dk_at dksL_law_58 9 rfl rfl)
theorem dL_law_1583 : decode cL_law 1583 = .ok (.i2l, 1) := dk_133 (dk_at dksL_law_58 11 rfl rfl)
theorem dL_law_1584 : decode cL_law 1584 = .ok (.lcmp, 1) := dk_148 (dk_at dksL_law_58 12 rfl rfl)
theorem dL_law_1585 : decode cL_law 1585 = .ok (.ifCond .eq 5, 3) := dk_153 0 5 (dk_at dksL_law_58 13 rfl rfl)
theorem dL_law_1588 : decode cL_law 1588 = .ok (.iconst 0, 1) := dk_3 (dk_at dksL_law_58 16 rfl rfl)
theorem dL_law_1589 : decode cL_law 1589 = .ok (.ireturn, 1) := dk_172 (dk_at dksL_law_58 17 rfl rfl)
theorem dL_law_1590 : decode cL_law 1590 = .ok (.goto 1237, 3) := dk_167 4 213 (dk_at dksL_law_58 18 rfl rfl)
theorem dL_law_1593 : decode cL_law 1593 = .ok (.aload_n 1, 1) := dk_43 (dk_at dksL_law_58 21 rfl rfl)
theorem dL_law_1594 : decode cL_law 1594 = .ok (.aload_n 0, 1) := dk_42 (dk_at dksL_law_58 22 rfl rfl)
theorem dL_law_1595 : decode cL_law 1595 = .ok (.iload 4, 2) := dk_21 4 (dk_at dksL_law_59 0 rfl rfl)
theorem dL_law_1597 : decode cL_law 1597 = .ok (.iconst 1, 1) := dk_4 (dk_at dksL_law_59 2 rfl rfl)
theorem dL_law_1598 : decode cL_law 1598 = .ok (.iadd, 1) := dk_96 (dk_at dksL_law_59 3 rfl rfl)
theorem dL_law_1599 : decode cL_law 1599 = .ok (.iaload, 1) := dk_46 (dk_at dksL_law_59 4 rfl rfl)
theorem dL_law_1600 : decode cL_law 1600 = .ok (.aload_n 3, 1) := dk_45 (dk_at dksL_law_59 5 rfl rfl)
theorem dL_law_1601 : decode cL_law 1601 = .ok (.invokestatic 231, 3) := dk_184 0 231 (dk_at dksL_law_59 6 rfl rfl)
theorem dL_law_1604 : decode cL_law 1604 = .ok (.istore 5, 2) := dk_54 5 (dk_at dksL_law_59 9 rfl rfl)
theorem dL_law_1606 : decode cL_law 1606 = .ok (.aload_n 2, 1) := dk_44 (dk_at dksL_law_59 11 rfl rfl)
theorem dL_law_1607 : decode cL_law 1607 = .ok (.aload_n 0, 1) := dk_42 (dk_at dksL_law_59 12 rfl rfl)
theorem dL_law_1608 : decode cL_law 1608 = .ok (.iload 4, 2) := dk_21 4 (dk_at dksL_law_59 13 rfl rfl)
theorem dL_law_1610 : decode cL_law 1610 = .ok (.iconst 1, 1) := dk_4 (dk_at dksL_law_59 15 rfl rfl)
theorem dL_law_1611 : decode cL_law 1611 = .ok (.iadd, 1) := dk_96 (dk_at dksL_law_59 16 rfl rfl)
theorem dL_law_1612 : decode cL_law 1612 = .ok (.iaload, 1) := dk_46 (dk_at dksL_law_59 17 rfl rfl)
theorem dL_law_1613 : decode cL_law 1613 = .ok (.invokevirtual 233, 3) := dk_182 0 233 (dk_at dksL_law_59 18 rfl rfl)
theorem dL_law_1616 : decode cL_law 1616 = .ok (.istore 6, 2) := dk_54 6 (dk_at dksL_law_59 21 rfl rfl)
theorem dL_law_1618 : decode cL_law 1618 = .ok (.aload_n 2, 1) := dk_44 (dk_at dksL_law_59 23 rfl rfl)
theorem dL_law_1619 : decode cL_law 1619 = .ok (.invokevirtual 143, 3) := dk_182 0 143 (dk_at dksL_law_60 0 rfl rfl)
theorem dL_law_1622 : decode cL_law 1622 = .ok (.iload 5, 2) := dk_21 5 (dk_at dksL_law_60 3 rfl rfl)
theorem dL_law_1624 : decode cL_law 1624 = .ok (.if_icmp .eq 5, 3) := dk_159 0 5 (dk_at dksL_law_60 5 rfl rfl)
theorem dL_law_1627 : decode cL_law 1627 = .ok (.iconst 0, 1) := dk_3 (dk_at dksL_law_60 8 rfl rfl)
theorem dL_law_1628 : decode cL_law 1628 = .ok (.ireturn, 1) := dk_172 (dk_at dksL_law_60 9 rfl rfl)
theorem dL_law_1629 : decode cL_law 1629 = .ok (.iload 5, 2) := dk_21 5 (dk_at dksL_law_60 10 rfl rfl)
theorem dL_law_1631 : decode cL_law 1631 = .ok (.ifCond .ne 15, 3) := dk_154 0 15 (dk_at dksL_law_60 12 rfl rfl)
theorem dL_law_1634 : decode cL_law 1634 = .ok (.aload_n 3, 1) := dk_45 (dk_at dksL_law_60 15 rfl rfl)
theorem dL_law_1635 : decode cL_law 1635 = .ok (.iconst 0, 1) := dk_3 (dk_at dksL_law_60 16 rfl rfl)
theorem dL_law_1636 : decode cL_law 1636 = .ok (.laload, 1) := dk_47 (dk_at dksL_law_60 17 rfl rfl)
theorem dL_law_1637 : decode cL_law 1637 = .ok (.iload 6, 2) := dk_21 6 (dk_at dksL_law_60 18 rfl rfl)
theorem dL_law_1639 : decode cL_law 1639 = .ok (.i2l, 1) := dk_133 (dk_at dksL_law_60 20 rfl rfl)
theorem dL_law_1640 : decode cL_law 1640 = .ok (.lcmp, 1) := dk_148 (dk_at dksL_law_60 21 rfl rfl)
theorem dL_law_1641 : decode cL_law 1641 = .ok (.ifCond .eq 5, 3) := dk_153 0 5 (dk_at dksL_law_61 0 rfl rfl)
theorem dL_law_1644 : decode cL_law 1644 = .ok (.iconst 0, 1) := dk_3 (dk_at dksL_law_61 3 rfl rfl)
theorem dL_law_1645 : decode cL_law 1645 = .ok (.ireturn, 1) := dk_172 (dk_at dksL_law_61 4 rfl rfl)
theorem dL_law_1646 : decode cL_law 1646 = .ok (.goto 1181, 3) := dk_167 4 157 (dk_at dksL_law_61 5 rfl rfl)
theorem dL_law_1649 : decode cL_law 1649 = .ok (.aload_n 1, 1) := dk_43 (dk_at dksL_law_61 8 rfl rfl)
theorem dL_law_1650 : decode cL_law 1650 = .ok (.aload_n 0, 1) := dk_42 (dk_at dksL_law_61 9 rfl rfl)
theorem dL_law_1651 : decode cL_law 1651 = .ok (.iload 4, 2) := dk_21 4 (dk_at dksL_law_61 10 rfl rfl)
theorem dL_law_1653 : decode cL_law 1653 = .ok (.iconst 1, 1) := dk_4 (dk_at dksL_law_61 12 rfl rfl)
theorem dL_law_1654 : decode cL_law 1654 = .ok (.iadd, 1) := dk_96 (dk_at dksL_law_61 13 rfl rfl)
theorem dL_law_1655 : decode cL_law 1655 = .ok (.iaload, 1) := dk_46 (dk_at dksL_law_61 14 rfl rfl)
theorem dL_law_1656 : decode cL_law 1656 = .ok (.aload_n 3, 1) := dk_45 (dk_at dksL_law_61 15 rfl rfl)
theorem dL_law_1657 : decode cL_law 1657 = .ok (.invokestatic 234, 3) := dk_184 0 234 (dk_at dksL_law_61 16 rfl rfl)
theorem dL_law_1660 : decode cL_law 1660 = .ok (.istore 5, 2) := dk_54 5 (dk_at dksL_law_61 19 rfl rfl)
theorem dL_law_1662 : decode cL_law 1662 = .ok (.aload_n 2, 1) := dk_44 (dk_at dksL_law_61 21 rfl rfl)
theorem dL_law_1663 : decode cL_law 1663 = .ok (.aload_n 0, 1) := dk_42 (dk_at dksL_law_61 22 rfl rfl)
theorem dL_law_1664 : decode cL_law 1664 = .ok (.iload 4, 2) := dk_21 4 (dk_at dksL_law_62 0 rfl rfl)
theorem dL_law_1666 : decode cL_law 1666 = .ok (.iconst 1, 1) := dk_4 (dk_at dksL_law_62 2 rfl rfl)
theorem dL_law_1667 : decode cL_law 1667 = .ok (.iadd, 1) := dk_96 (dk_at dksL_law_62 3 rfl rfl)
theorem dL_law_1668 : decode cL_law 1668 = .ok (.iaload, 1) := dk_46 (dk_at dksL_law_62 4 rfl rfl)
theorem dL_law_1669 : decode cL_law 1669 = .ok (.invokevirtual 236, 3) := dk_182 0 236 (dk_at dksL_law_62 5 rfl rfl)
theorem dL_law_1672 : decode cL_law 1672 = .ok (.istore 6, 2) := dk_54 6 (dk_at dksL_law_62 8 rfl rfl)
theorem dL_law_1674 : decode cL_law 1674 = .ok (.aload_n 2, 1) := dk_44 (dk_at dksL_law_62 10 rfl rfl)
theorem dL_law_1675 : decode cL_law 1675 = .ok (.invokevirtual 143, 3) := dk_182 0 143 (dk_at dksL_law_62 11 rfl rfl)
theorem dL_law_1678 : decode cL_law 1678 = .ok (.iload 5, 2) := dk_21 5 (dk_at dksL_law_62 14 rfl rfl)
theorem dL_law_1680 : decode cL_law 1680 = .ok (.if_icmp .eq 5, 3) := dk_159 0 5 (dk_at dksL_law_62 16 rfl rfl)
theorem dL_law_1683 : decode cL_law 1683 = .ok (.iconst 0, 1) := dk_3 (dk_at dksL_law_62 19 rfl rfl)
theorem dL_law_1684 : decode cL_law 1684 = .ok (.ireturn, 1) := dk_172 (dk_at dksL_law_62 20 rfl rfl)
theorem dL_law_1685 : decode cL_law 1685 = .ok (.iload 5, 2) := dk_21 5 (dk_at dksL_law_62 21 rfl rfl)
theorem dL_law_1687 : decode cL_law 1687 = .ok (.ifCond .ne 15, 3) := dk_154 0 15 (dk_at dksL_law_63 0 rfl rfl)
theorem dL_law_1690 : decode cL_law 1690 = .ok (.aload_n 3, 1) := dk_45 (dk_at dksL_law_63 3 rfl rfl)
theorem dL_law_1691 : decode cL_law 1691 = .ok (.iconst 0, 1) := dk_3 (dk_at dksL_law_63 4 rfl rfl)
theorem dL_law_1692 : decode cL_law 1692 = .ok (.laload, 1) := dk_47 (dk_at dksL_law_63 5 rfl rfl)
theorem dL_law_1693 : decode cL_law 1693 = .ok (.iload 6, 2) := dk_21 6 (dk_at dksL_law_63 6 rfl rfl)
theorem dL_law_1695 : decode cL_law 1695 = .ok (.i2l, 1) := dk_133 (dk_at dksL_law_63 8 rfl rfl)
theorem dL_law_1696 : decode cL_law 1696 = .ok (.lcmp, 1) := dk_148 (dk_at dksL_law_63 9 rfl rfl)
theorem dL_law_1697 : decode cL_law 1697 = .ok (.ifCond .eq 5, 3) := dk_153 0 5 (dk_at dksL_law_63 10 rfl rfl)
theorem dL_law_1700 : decode cL_law 1700 = .ok (.iconst 0, 1) := dk_3 (dk_at dksL_law_63 13 rfl rfl)
theorem dL_law_1701 : decode cL_law 1701 = .ok (.ireturn, 1) := dk_172 (dk_at dksL_law_63 14 rfl rfl)
theorem dL_law_1702 : decode cL_law 1702 = .ok (.goto 1125, 3) := dk_167 4 101 (dk_at dksL_law_63 15 rfl rfl)
theorem dL_law_1705 : decode cL_law 1705 = .ok (.aload_n 1, 1) := dk_43 (dk_at dksL_law_63 18 rfl rfl)
theorem dL_law_1706 : decode cL_law 1706 = .ok (.aload_n 0, 1) := dk_42 (dk_at dksL_law_63 19 rfl rfl)
theorem dL_law_1707 : decode cL_law 1707 = .ok (.iload 4, 2) := dk_21 4 (dk_at dksL_law_63 20 rfl rfl)
theorem dL_law_1709 : decode cL_law 1709 = .ok (.iconst 1, 1) := dk_4 (dk_at dksL_law_63 22 rfl rfl)
theorem dL_law_1710 : decode cL_law 1710 = .ok (.iadd, 1) := dk_96 (dk_at dksL_law_63 23 rfl rfl)
theorem dL_law_1711 : decode cL_law 1711 = .ok (.iaload, 1) := dk_46 (dk_at dksL_law_64 0 rfl rfl)
theorem dL_law_1712 : decode cL_law 1712 = .ok (.aload_n 3, 1) := dk_45 (dk_at dksL_law_64 1 rfl rfl)
theorem dL_law_1713 : decode cL_law 1713 = .ok (.invokestatic 237, 3) := dk_184 0 237 (dk_at dksL_law_64 2 rfl rfl)
theorem dL_law_1716 : decode cL_law 1716 = .ok (.istore 5, 2) := dk_54 5 (dk_at dksL_law_64 5 rfl rfl)
theorem dL_law_1718 : decode cL_law 1718 = .ok (.aload_n 2, 1) := dk_44 (dk_at dksL_law_64 7 rfl rfl)
theorem dL_law_1719 : decode cL_law 1719 = .ok (.aload_n 0, 1) := dk_42 (dk_at dksL_law_64 8 rfl rfl)
theorem dL_law_1720 : decode cL_law 1720 = .ok (.iload 4, 2) := dk_21 4 (dk_at dksL_law_64 9 rfl rfl)
theorem dL_law_1722 : decode cL_law 1722 = .ok (.iconst 1, 1) := dk_4 (dk_at dksL_law_64 11 rfl rfl)
theorem dL_law_1723 : decode cL_law 1723 = .ok (.iadd, 1) := dk_96 (dk_at dksL_law_64 12 rfl rfl)
theorem dL_law_1724 : decode cL_law 1724 = .ok (.iaload, 1) := dk_46 (dk_at dksL_law_64 13 rfl rfl)
theorem dL_law_1725 : decode cL_law 1725 = .ok (.invokevirtual 239, 3) := dk_182 0 239 (dk_at dksL_law_64 14 rfl rfl)
theorem dL_law_1728 : decode cL_law 1728 = .ok (.istore 6, 2) := dk_54 6 (dk_at dksL_law_64 17 rfl rfl)
theorem dL_law_1730 : decode cL_law 1730 = .ok (.aload_n 2, 1) := dk_44 (dk_at dksL_law_64 19 rfl rfl)
theorem dL_law_1731 : decode cL_law 1731 = .ok (.invokevirtual 143, 3) := dk_182 0 143 (dk_at dksL_law_64 20 rfl rfl)
theorem dL_law_1734 : decode cL_law 1734 = .ok (.iload 5, 2) := dk_21 5 (dk_at dksL_law_65 0 rfl rfl)
theorem dL_law_1736 : decode cL_law 1736 = .ok (.if_icmp .eq 5, 3) := dk_159 0 5 (dk_at dksL_law_65 2 rfl rfl)
theorem dL_law_1739 : decode cL_law 1739 = .ok (.iconst 0, 1) := dk_3 (dk_at dksL_law_65 5 rfl rfl)
theorem dL_law_1740 : decode cL_law 1740 = .ok (.ireturn, 1) := dk_172 (dk_at dksL_law_65 6 rfl rfl)
theorem dL_law_1741 : decode cL_law 1741 = .ok (.iload 5, 2) := dk_21 5 (dk_at dksL_law_65 7 rfl rfl)
theorem dL_law_1743 : decode cL_law 1743 = .ok (.ifCond .ne 22, 3) := dk_154 0 22 (dk_at dksL_law_65 9 rfl rfl)
theorem dL_law_1746 : decode cL_law 1746 = .ok (.aload_n 3, 1) := dk_45 (dk_at dksL_law_65 12 rfl rfl)
theorem dL_law_1747 : decode cL_law 1747 = .ok (.iconst 0, 1) := dk_3 (dk_at dksL_law_65 13 rfl rfl)
theorem dL_law_1748 : decode cL_law 1748 = .ok (.laload, 1) := dk_47 (dk_at dksL_law_65 14 rfl rfl)
theorem dL_law_1749 : decode cL_law 1749 = .ok (.iload 6, 2) := dk_21 6 (dk_at dksL_law_65 15 rfl rfl)
theorem dL_law_1751 : decode cL_law 1751 = .ok (.ifCond .eq 7, 3) := dk_153 0 7 (dk_at dksL_law_65 17 rfl rfl)
theorem dL_law_1754 : decode cL_law 1754 = .ok (.lconst 1, 1) := dk_10 (dk_at dksL_law_65 20 rfl rfl)
theorem dL_law_1755 : decode cL_law 1755 = .ok (.goto 4, 3) := dk_167 0 4 (dk_at dksL_law_65 21 rfl rfl)
theorem dL_law_1758 : decode cL_law 1758 = .ok (.lconst 0, 1) := dk_9 (dk_at dksL_law_66 0 rfl rfl)
theorem dL_law_1759 : decode cL_law 1759 = .ok (.lcmp, 1) := dk_148 (dk_at dksL_law_66 1 rfl rfl)
theorem dL_law_1760 : decode cL_law 1760 = .ok (.ifCond .eq 5, 3) := dk_153 0 5 (dk_at dksL_law_66 2 rfl rfl)
theorem dL_law_1763 : decode cL_law 1763 = .ok (.iconst 0, 1) := dk_3 (dk_at dksL_law_66 5 rfl rfl)
theorem dL_law_1764 : decode cL_law 1764 = .ok (.ireturn, 1) := dk_172 (dk_at dksL_law_66 6 rfl rfl)
theorem dL_law_1765 : decode cL_law 1765 = .ok (.goto 1062, 3) := dk_167 4 38 (dk_at dksL_law_66 7 rfl rfl)
theorem dL_law_1768 : decode cL_law 1768 = .ok (.aload_n 1, 1) := dk_43 (dk_at dksL_law_66 10 rfl rfl)
theorem dL_law_1769 : decode cL_law 1769 = .ok (.aload_n 0, 1) := dk_42 (dk_at dksL_law_66 11 rfl rfl)
theorem dL_law_1770 : decode cL_law 1770 = .ok (.iload 4, 2) := dk_21 4 (dk_at dksL_law_66 12 rfl rfl)
theorem dL_law_1772 : decode cL_law 1772 = .ok (.iconst 1, 1) := dk_4 (dk_at dksL_law_66 14 rfl rfl)
theorem dL_law_1773 : decode cL_law 1773 = .ok (.iadd, 1) := dk_96 (dk_at dksL_law_66 15 rfl rfl)
theorem dL_law_1774 : decode cL_law 1774 = .ok (.iaload, 1) := dk_46 (dk_at dksL_law_66 16 rfl rfl)
theorem dL_law_1775 : decode cL_law 1775 = .ok (.aload_n 3, 1) := dk_45 (dk_at dksL_law_66 17 rfl rfl)
theorem dL_law_1776 : decode cL_law 1776 = .ok (.invokestatic 240, 3) := dk_184 0 240 (dk_at dksL_law_66 18 rfl rfl)
theorem dL_law_1779 : decode cL_law 1779 = .ok (.istore 5, 2) := dk_54 5 (dk_at dksL_law_66 21 rfl rfl)
theorem dL_law_1781 : decode cL_law 1781 = .ok (.aload_n 2, 1) := dk_44 (dk_at dksL_law_66 23 rfl rfl)
theorem dL_law_1782 : decode cL_law 1782 = .ok (.aload_n 0, 1) := dk_42 (dk_at dksL_law_67 0 rfl rfl)
theorem dL_law_1783 : decode cL_law 1783 = .ok (.iload 4, 2) := dk_21 4 (dk_at dksL_law_67 1 rfl rfl)
theorem dL_law_1785 : decode cL_law 1785 = .ok (.iconst 1, 1) := dk_4 (dk_at dksL_law_67 3 rfl rfl)
theorem dL_law_1786 : decode cL_law 1786 = .ok (.iadd, 1) := dk_96 (dk_at dksL_law_67 4 rfl rfl)
theorem dL_law_1787 : decode cL_law 1787 = .ok (.iaload, 1) := dk_46 (dk_at dksL_law_67 5 rfl rfl)
theorem dL_law_1788 : decode cL_law 1788 = .ok (.invokevirtual 242, 3) := dk_182 0 242 (dk_at dksL_law_67 6 rfl rfl)
theorem dL_law_1791 : decode cL_law 1791 = .ok (.istore 6, 2) := dk_54 6 (dk_at dksL_law_67 9 rfl rfl)
theorem dL_law_1793 : decode cL_law 1793 = .ok (.aload_n 2, 1) := dk_44 (dk_at dksL_law_67 11 rfl rfl)
theorem dL_law_1794 : decode cL_law 1794 = .ok (.invokevirtual 143, 3) := dk_182 0 143 (dk_at dksL_law_67 12 rfl rfl)
theorem dL_law_1797 : decode cL_law 1797 = .ok (.iload 5, 2) := dk_21 5 (dk_at dksL_law_67 15 rfl rfl)
theorem dL_law_1799 : decode cL_law 1799 = .ok (.if_icmp .eq 5, 3) := dk_159 0 5 (dk_at dksL_law_67 17 rfl rfl)
theorem dL_law_1802 : decode cL_law 1802 = .ok (.iconst 0, 1) := dk_3 (dk_at dksL_law_67 20 rfl rfl)
theorem dL_law_1803 : decode cL_law 1803 = .ok (.ireturn, 1) := dk_172 (dk_at dksL_law_67 21 rfl rfl)
theorem dL_law_1804 : decode cL_law 1804 = .ok (.iload 5, 2) := dk_21 5 (dk_at dksL_law_67 22 rfl rfl)
theorem dL_law_1806 : decode cL_law 1806 = .ok (.ifCond .ne 15, 3) := dk_154 0 15 (dk_at dksL_law_68 0 rfl rfl)
theorem dL_law_1809 : decode cL_law 1809 = .ok (.aload_n 3, 1) := dk_45 (dk_at dksL_law_68 3 rfl rfl)
theorem dL_law_1810 : decode cL_law 1810 = .ok (.iconst 0, 1) := dk_3 (dk_at dksL_law_68 4 rfl rfl)
theorem dL_law_1811 : decode cL_law 1811 = .ok (.laload, 1) := dk_47 (dk_at dksL_law_68 5 rfl rfl)
theorem dL_law_1812 : decode cL_law 1812 = .ok (.iload 6, 2) := dk_21 6 (dk_at dksL_law_68 6 rfl rfl)
theorem dL_law_1814 : decode cL_law 1814 = .ok (.i2l, 1) := dk_133 (dk_at dksL_law_68 8 rfl rfl)
theorem dL_law_1815 : decode cL_law 1815 = .ok (.lcmp, 1) := dk_148 (dk_at dksL_law_68 9 rfl rfl)
theorem dL_law_1816 : decode cL_law 1816 = .ok (.ifCond .eq 5, 3) := dk_153 0 5 (dk_at dksL_law_68 10 rfl rfl)
theorem dL_law_1819 : decode cL_law 1819 = .ok (.iconst 0, 1) := dk_3 (dk_at dksL_law_68 13 rfl rfl)
theorem dL_law_1820 : decode cL_law 1820 = .ok (.ireturn, 1) := dk_172 (dk_at dksL_law_68 14 rfl rfl)
theorem dL_law_1821 : decode cL_law 1821 = .ok (.goto 1006, 3) := dk_167 3 238 (dk_at dksL_law_68 15 rfl rfl)
theorem dL_law_1824 : decode cL_law 1824 = .ok (.aload_n 1, 1) := dk_43 (dk_at dksL_law_68 18 rfl rfl)
theorem dL_law_1825 : decode cL_law 1825 = .ok (.aload_n 0, 1) := dk_42 (dk_at dksL_law_68 19 rfl rfl)
theorem dL_law_1826 : decode cL_law 1826 = .ok (.iload 4, 2) := dk_21 4 (dk_at dksL_law_68 20 rfl rfl)
theorem dL_law_1828 : decode cL_law 1828 = .ok (.iconst 1, 1) := dk_4 (dk_at dksL_law_68 22 rfl rfl)
theorem dL_law_1829 : decode cL_law 1829 = .ok (.iadd, 1) := dk_96 (dk_at dksL_law_68 23 rfl rfl)
theorem dL_law_1830 : decode cL_law 1830 = .ok (.iaload, 1) := dk_46 (dk_at dksL_law_69 0 rfl rfl)
theorem dL_law_1831 : decode cL_law 1831 = .ok (.aload_n 3, 1) := dk_45 (dk_at dksL_law_69 1 rfl rfl)
theorem dL_law_1832 : decode cL_law 1832 = .ok (.invokestatic 243, 3) := dk_184 0 243 (dk_at dksL_law_69 2 rfl rfl)
theorem dL_law_1835 : decode cL_law 1835 = .ok (.istore 5, 2) := dk_54 5 (dk_at dksL_law_69 5 rfl rfl)
theorem dL_law_1837 : decode cL_law 1837 = .ok (.aload_n 2, 1) := dk_44 (dk_at dksL_law_69 7 rfl rfl)
theorem dL_law_1838 : decode cL_law 1838 = .ok (.aload_n 0, 1) := dk_42 (dk_at dksL_law_69 8 rfl rfl)
theorem dL_law_1839 : decode cL_law 1839 = .ok (.iload 4, 2) := dk_21 4 (dk_at dksL_law_69 9 rfl rfl)
theorem dL_law_1841 : decode cL_law 1841 = .ok (.iconst 1, 1) := dk_4 (dk_at dksL_law_69 11 rfl rfl)
theorem dL_law_1842 : decode cL_law 1842 = .ok (.iadd, 1) := dk_96 (dk_at dksL_law_69 12 rfl rfl)
theorem dL_law_1843 : decode cL_law 1843 = .ok (.iaload, 1) := dk_46 (dk_at dksL_law_69 13 rfl rfl)
theorem dL_law_1844 : decode cL_law 1844 = .ok (.invokevirtual 245, 3) := dk_182 0 245 (dk_at dksL_law_69 14 rfl rfl)
theorem dL_law_1847 : decode cL_law 1847 = .ok (.istore 6, 2) := dk_54 6 (dk_at dksL_law_69 17 rfl rfl)
theorem dL_law_1849 : decode cL_law 1849 = .ok (.aload_n 2, 1) := dk_44 (dk_at dksL_law_69 19 rfl rfl)
theorem dL_law_1850 : decode cL_law 1850 = .ok (.invokevirtual 143, 3) := dk_182 0 143 (dk_at dksL_law_69 20 rfl rfl)
theorem dL_law_1853 : decode cL_law 1853 = .ok (.iload 5, 2) := dk_21 5 (dk_at dksL_law_70 0 rfl rfl)
theorem dL_law_1855 : decode cL_law 1855 = .ok (.if_icmp .eq 5, 3) := dk_159 0 5 (dk_at dksL_law_70 2 rfl rfl)
theorem dL_law_1858 : decode cL_law 1858 = .ok (.iconst 0, 1) := dk_3 (dk_at dksL_law_70 5 rfl rfl)
theorem dL_law_1859 : decode cL_law 1859 = .ok (.ireturn, 1) := dk_172 (dk_at dksL_law_70 6 rfl rfl)
theorem dL_law_1860 : decode cL_law 1860 = .ok (.iload 5, 2) := dk_21 5 (dk_at dksL_law_70 7 rfl rfl)
theorem dL_law_1862 : decode cL_law 1862 = .ok (.ifCond .ne 15, 3) := dk_154 0 15 (dk_at dksL_law_70 9 rfl rfl)
theorem dL_law_1865 : decode cL_law 1865 = .ok (.aload_n 3, 1) := dk_45 (dk_at dksL_law_70 12 rfl rfl)
theorem dL_law_1866 : decode cL_law 1866 = .ok (.iconst 0, 1) := dk_3 (dk_at dksL_law_70 13 rfl rfl)
theorem dL_law_1867 : decode cL_law 1867 = .ok (.laload, 1) := dk_47 (dk_at dksL_law_70 14 rfl rfl)
theorem dL_law_1868 : decode cL_law 1868 = .ok (.iload 6, 2) := dk_21 6 (dk_at dksL_law_70 15 rfl rfl)
theorem dL_law_1870 : decode cL_law 1870 = .ok (.i2l, 1) := dk_133 (dk_at dksL_law_70 17 rfl rfl)
theorem dL_law_1871 : decode cL_law 1871 = .ok (.lcmp, 1) := dk_148 (dk_at dksL_law_70 18 rfl rfl)
theorem dL_law_1872 : decode cL_law 1872 = .ok (.ifCond .eq 5, 3) := dk_153 0 5 (dk_at dksL_law_70 19 rfl rfl)
theorem dL_law_1875 : decode cL_law 1875 = .ok (.iconst 0, 1) := dk_3 (dk_at dksL_law_70 22 rfl rfl)
theorem dL_law_1876 : decode cL_law 1876 = .ok (.ireturn, 1) := dk_172 (dk_at dksL_law_70 23 rfl rfl)
theorem dL_law_1877 : decode cL_law 1877 = .ok (.goto 950, 3) := dk_167 3 182 (dk_at dksL_law_71 0 rfl rfl)
theorem dL_law_1880 : decode cL_law 1880 = .ok (.aload_n 1, 1) := dk_43 (dk_at dksL_law_71 3 rfl rfl)
theorem dL_law_1881 : decode cL_law 1881 = .ok (.aload_n 0, 1) := dk_42 (dk_at dksL_law_71 4 rfl rfl)
theorem dL_law_1882 : decode cL_law 1882 = .ok (.iload 4, 2) := dk_21 4 (dk_at dksL_law_71 5 rfl rfl)
theorem dL_law_1884 : decode cL_law 1884 = .ok (.iconst 1, 1) := dk_4 (dk_at dksL_law_71 7 rfl rfl)
theorem dL_law_1885 : decode cL_law 1885 = .ok (.iadd, 1) := dk_96 (dk_at dksL_law_71 8 rfl rfl)
theorem dL_law_1886 : decode cL_law 1886 = .ok (.iaload, 1) := dk_46 (dk_at dksL_law_71 9 rfl rfl)
theorem dL_law_1887 : decode cL_law 1887 = .ok (.aload_n 3, 1) := dk_45 (dk_at dksL_law_71 10 rfl rfl)
theorem dL_law_1888 : decode cL_law 1888 = .ok (.invokestatic 246, 3) := dk_184 0 246 (dk_at dksL_law_71 11 rfl rfl)
theorem dL_law_1891 : decode cL_law 1891 = .ok (.istore 5, 2) := dk_54 5 (dk_at dksL_law_71 14 rfl rfl)
theorem dL_law_1893 : decode cL_law 1893 = .ok (.aload_n 2, 1) := dk_44 (dk_at dksL_law_71 16 rfl rfl)
theorem dL_law_1894 : decode cL_law 1894 = .ok (.aload_n 0, 1) := dk_42 (dk_at dksL_law_71 17 rfl rfl)
theorem dL_law_1895 : decode cL_law 1895 = .ok (.iload 4, 2) := dk_21 4 (dk_at dksL_law_71 18 rfl rfl)
theorem dL_law_1897 : decode cL_law 1897 = .ok (.iconst 1, 1) := dk_4 (dk_at dksL_law_71 20 rfl rfl)
theorem dL_law_1898 : decode cL_law 1898 = .ok (.iadd, 1) := dk_96 (dk_at dksL_law_71 21 rfl rfl)
theorem dL_law_1899 : decode cL_law 1899 = .ok (.iaload, 1) := dk_46 (dk_at dksL_law_71 22 rfl rfl)
theorem dL_law_1900 : decode cL_law 1900 = .ok (.invokevirtual 248, 3) := dk_182 0 248 (dk_at dksL_law_72 0 rfl rfl)
theorem dL_law_1903 : decode cL_law 1903 = .ok (.istore 6, 2) := dk_54 6 (dk_at dksL_law_72 3 rfl rfl)
theorem dL_law_1905 : decode cL_law 1905 = .ok (.aload_n 2, 1) := dk_44 (dk_at dksL_law_72 5 rfl rfl)
theorem dL_law_1906 : decode cL_law 1906 = .ok (.invokevirtual 143, 3) := dk_182 0 143 (dk_at dksL_law_72 6 rfl rfl)
theorem dL_law_1909 : decode cL_law 1909 = .ok (.iload 5, 2) := dk_21 5 (dk_at dksL_law_72 9 rfl rfl)
theorem dL_law_1911 : decode cL_law 1911 = .ok (.if_icmp .eq 5, 3) := dk_159 0 5 (dk_at dksL_law_72 11 rfl rfl)
theorem dL_law_1914 : decode cL_law 1914 = .ok (.iconst 0, 1) := dk_3 (dk_at dksL_law_72 14 rfl rfl)
theorem dL_law_1915 : decode cL_law 1915 = .ok (.ireturn, 1) := dk_172 (dk_at dksL_law_72 15 rfl rfl)
theorem dL_law_1916 : decode cL_law 1916 = .ok (.iload 5, 2) := dk_21 5 (dk_at dksL_law_72 16 rfl rfl)
theorem dL_law_1918 : decode cL_law 1918 = .ok (.ifCond .ne 15, 3) := dk_154 0 15 (dk_at dksL_law_72 18 rfl rfl)
theorem dL_law_1921 : decode cL_law 1921 = .ok (.aload_n 3, 1) := dk_45 (dk_at dksL_law_72 21 rfl rfl)
theorem dL_law_1922 : decode cL_law 1922 = .ok (.iconst 0, 1) := dk_3 (dk_at dksL_law_72 22 rfl rfl)
theorem dL_law_1923 : decode cL_law 1923 = .ok (.laload, 1) := dk_47 (dk_at dksL_law_72 23 rfl rfl)
theorem dL_law_1924 : decode cL_law 1924 = .ok (.iload 6, 2) := dk_21 6 (dk_at dksL_law_73 0 rfl rfl)
theorem dL_law_1926 : decode cL_law 1926 = .ok (.i2l, 1) := dk_133 (dk_at dksL_law_73 2 rfl rfl)
theorem dL_law_1927 : decode cL_law 1927 = .ok (.lcmp, 1) := dk_148 (dk_at dksL_law_73 3 rfl rfl)
theorem dL_law_1928 : decode cL_law 1928 = .ok (.ifCond .eq 5, 3) := dk_153 0 5 (dk_at dksL_law_73 4 rfl rfl)
theorem dL_law_1931 : decode cL_law 1931 = .ok (.iconst 0, 1) := dk_3 (dk_at dksL_law_73 7 rfl rfl)
theorem dL_law_1932 : decode cL_law 1932 = .ok (.ireturn, 1) := dk_172 (dk_at dksL_law_73 8 rfl rfl)
theorem dL_law_1933 : decode cL_law 1933 = .ok (.goto 894, 3) := dk_167 3 126 (dk_at dksL_law_73 9 rfl rfl)
theorem dL_law_1936 : decode cL_law 1936 = .ok (.aload_n 1, 1) := dk_43 (dk_at dksL_law_73 12 rfl rfl)
theorem dL_law_1937 : decode cL_law 1937 = .ok (.aload_n 0, 1) := dk_42 (dk_at dksL_law_73 13 rfl rfl)
theorem dL_law_1938 : decode cL_law 1938 = .ok (.iload 4, 2) := dk_21 4 (dk_at dksL_law_73 14 rfl rfl)
theorem dL_law_1940 : decode cL_law 1940 = .ok (.iconst 1, 1) := dk_4 (dk_at dksL_law_73 16 rfl rfl)
theorem dL_law_1941 : decode cL_law 1941 = .ok (.iadd, 1) := dk_96 (dk_at dksL_law_73 17 rfl rfl)
theorem dL_law_1942 : decode cL_law 1942 = .ok (.iaload, 1) := dk_46 (dk_at dksL_law_73 18 rfl rfl)
theorem dL_law_1943 : decode cL_law 1943 = .ok (.aload_n 3, 1) := dk_45 (dk_at dksL_law_73 19 rfl rfl)
theorem dL_law_1944 : decode cL_law 1944 = .ok (.invokestatic 249, 3) := dk_184 0 249 (dk_at dksL_law_73 20 rfl rfl)
theorem dL_law_1947 : decode cL_law 1947 = .ok (.istore 5, 2) := dk_54 5 (dk_at dksL_law_74 0 rfl rfl)
theorem dL_law_1949 : decode cL_law 1949 = .ok (.aload_n 2, 1) := dk_44 (dk_at dksL_law_74 2 rfl rfl)
theorem dL_law_1950 : decode cL_law 1950 = .ok (.aload_n 0, 1) := dk_42 (dk_at dksL_law_74 3 rfl rfl)
theorem dL_law_1951 : decode cL_law 1951 = .ok (.iload 4, 2) := dk_21 4 (dk_at dksL_law_74 4 rfl rfl)
theorem dL_law_1953 : decode cL_law 1953 = .ok (.iconst 1, 1) := dk_4 (dk_at dksL_law_74 6 rfl rfl)
theorem dL_law_1954 : decode cL_law 1954 = .ok (.iadd, 1) := dk_96 (dk_at dksL_law_74 7 rfl rfl)
theorem dL_law_1955 : decode cL_law 1955 = .ok (.iaload, 1) := dk_46 (dk_at dksL_law_74 8 rfl rfl)
theorem dL_law_1956 : decode cL_law 1956 = .ok (.invokevirtual 251, 3) := dk_182 0 251 (dk_at dksL_law_74 9 rfl rfl)
theorem dL_law_1959 : decode cL_law 1959 = .ok (.istore 6, 2) := dk_54 6 (dk_at dksL_law_74 12 rfl rfl)
theorem dL_law_1961 : decode cL_law 1961 = .ok (.aload_n 2, 1) := dk_44 (dk_at dksL_law_74 14 rfl rfl)
theorem dL_law_1962 : decode cL_law 1962 = .ok (.invokevirtual 143, 3) := dk_182 0 143 (dk_at dksL_law_74 15 rfl rfl)
theorem dL_law_1965 : decode cL_law 1965 = .ok (.iload 5, 2) := dk_21 5 (dk_at dksL_law_74 18 rfl rfl)
theorem dL_law_1967 : decode cL_law 1967 = .ok (.if_icmp .eq 5, 3) := dk_159 0 5 (dk_at dksL_law_74 20 rfl rfl)
theorem dL_law_1970 : decode cL_law 1970 = .ok (.iconst 0, 1) := dk_3 (dk_at dksL_law_74 23 rfl rfl)
theorem dL_law_1971 : decode cL_law 1971 = .ok (.ireturn, 1) := dk_172 (dk_at dksL_law_75 0 rfl rfl)
theorem dL_law_1972 : decode cL_law 1972 = .ok (.iload 5, 2) := dk_21 5 (dk_at dksL_law_75 1 rfl rfl)
theorem dL_law_1974 : decode cL_law 1974 = .ok (.ifCond .ne 15, 3) := dk_154 0 15 (dk_at dksL_law_75 3 rfl rfl)
theorem dL_law_1977 : decode cL_law 1977 = .ok (.aload_n 3, 1) := dk_45 (dk_at dksL_law_75 6 rfl rfl)
theorem dL_law_1978 : decode cL_law 1978 = .ok (.iconst 0, 1) := dk_3 (dk_at dksL_law_75 7 rfl rfl)
theorem dL_law_1979 : decode cL_law 1979 = .ok (.laload, 1) := dk_47 (dk_at dksL_law_75 8 rfl rfl)
theorem dL_law_1980 : decode cL_law 1980 = .ok (.iload 6, 2) := dk_21 6 (dk_at dksL_law_75 9 rfl rfl)
theorem dL_law_1982 : decode cL_law 1982 = .ok (.i2l, 1) := dk_133 (dk_at dksL_law_75 11 rfl rfl)
theorem dL_law_1983 : decode cL_law 1983 = .ok (.lcmp, 1) := dk_148 (dk_at dksL_law_75 12 rfl rfl)
theorem dL_law_1984 : decode cL_law 1984 = .ok (.ifCond .eq 5, 3) := dk_153 0 5 (dk_at dksL_law_75 13 rfl rfl)
theorem dL_law_1987 : decode cL_law 1987 = .ok (.iconst 0, 1) := dk_3 (dk_at dksL_law_75 16 rfl rfl)
theorem dL_law_1988 : decode cL_law 1988 = .ok (.ireturn, 1) := dk_172 (dk_at dksL_law_75 17 rfl rfl)
theorem dL_law_1989 : decode cL_law 1989 = .ok (.goto 838, 3) := dk_167 3 70 (dk_at dksL_law_75 18 rfl rfl)
theorem dL_law_1992 : decode cL_law 1992 = .ok (.aload_n 1, 1) := dk_43 (dk_at dksL_law_75 21 rfl rfl)
theorem dL_law_1993 : decode cL_law 1993 = .ok (.aload_n 0, 1) := dk_42 (dk_at dksL_law_75 22 rfl rfl)
theorem dL_law_1994 : decode cL_law 1994 = .ok (.iload 4, 2) := dk_21 4 (dk_at dksL_law_76 0 rfl rfl)
theorem dL_law_1996 : decode cL_law 1996 = .ok (.iconst 1, 1) := dk_4 (dk_at dksL_law_76 2 rfl rfl)
theorem dL_law_1997 : decode cL_law 1997 = .ok (.iadd, 1) := dk_96 (dk_at dksL_law_76 3 rfl rfl)
theorem dL_law_1998 : decode cL_law 1998 = .ok (.iaload, 1) := dk_46 (dk_at dksL_law_76 4 rfl rfl)
theorem dL_law_1999 : decode cL_law 1999 = .ok (.aload_n 3, 1) := dk_45 (dk_at dksL_law_76 5 rfl rfl)
theorem dL_law_2000 : decode cL_law 2000 = .ok (.invokestatic 252, 3) := dk_184 0 252 (dk_at dksL_law_76 6 rfl rfl)
theorem dL_law_2003 : decode cL_law 2003 = .ok (.istore 5, 2) := dk_54 5 (dk_at dksL_law_76 9 rfl rfl)
theorem dL_law_2005 : decode cL_law 2005 = .ok (.aload_n 2, 1) := dk_44 (dk_at dksL_law_76 11 rfl rfl)
theorem dL_law_2006 : decode cL_law 2006 = .ok (.aload_n 0, 1) := dk_42 (dk_at dksL_law_76 12 rfl rfl)
theorem dL_law_2007 : decode cL_law 2007 = .ok (.iload 4, 2) := dk_21 4 (dk_at dksL_law_76 13 rfl rfl)
theorem dL_law_2009 : decode cL_law 2009 = .ok (.iconst 1, 1) := dk_4 (dk_at dksL_law_76 15 rfl rfl)
theorem dL_law_2010 : decode cL_law 2010 = .ok (.iadd, 1) := dk_96 (dk_at dksL_law_76 16 rfl rfl)
theorem dL_law_2011 : decode cL_law 2011 = .ok (.iaload, 1) := dk_46 (dk_at dksL_law_76 17 rfl rfl)
theorem dL_law_2012 : decode cL_law 2012 = .ok (.invokevirtual 254, 3) := dk_182 0 254 (dk_at dksL_law_76 18 rfl rfl)
theorem dL_law_2015 : decode cL_law 2015 = .ok (.istore 6, 2) := dk_54 6 (dk_at dksL_law_76 21 rfl rfl)
theorem dL_law_2017 : decode cL_law 2017 = .ok (.aload_n 2, 1) := dk_44 (dk_at dksL_law_76 23 rfl rfl)
theorem dL_law_2018 : decode cL_law 2018 = .ok (.invokevirtual 143, 3) := dk_182 0 143 (dk_at dksL_law_77 0 rfl rfl)
theorem dL_law_2021 : decode cL_law 2021 = .ok (.iload 5, 2) := dk_21 5 (dk_at dksL_law_77 3 rfl rfl)
theorem dL_law_2023 : decode cL_law 2023 = .ok (.if_icmp .eq 5, 3) := dk_159 0 5 (dk_at dksL_law_77 5 rfl rfl)
theorem dL_law_2026 : decode cL_law 2026 = .ok (.iconst 0, 1) := dk_3 (dk_at dksL_law_77 8 rfl rfl)
theorem dL_law_2027 : decode cL_law 2027 = .ok (.ireturn, 1) := dk_172 (dk_at dksL_law_77 9 rfl rfl)
theorem dL_law_2028 : decode cL_law 2028 = .ok (.iload 5, 2) := dk_21 5 (dk_at dksL_law_77 10 rfl rfl)
theorem dL_law_2030 : decode cL_law 2030 = .ok (.ifCond .ne 15, 3) := dk_154 0 15 (dk_at dksL_law_77 12 rfl rfl)
theorem dL_law_2033 : decode cL_law 2033 = .ok (.aload_n 3, 1) := dk_45 (dk_at dksL_law_77 15 rfl rfl)
theorem dL_law_2034 : decode cL_law 2034 = .ok (.iconst 0, 1) := dk_3 (dk_at dksL_law_77 16 rfl rfl)
theorem dL_law_2035 : decode cL_law 2035 = .ok (.laload, 1) := dk_47 (dk_at dksL_law_77 17 rfl rfl)
theorem dL_law_2036 : decode cL_law 2036 = .ok (.iload 6, 2) := dk_21 6 (dk_at dksL_law_77 18 rfl rfl)
theorem dL_law_2038 : decode cL_law 2038 = .ok (.i2l, 1) := dk_133 (dk_at dksL_law_77 20 rfl rfl)
theorem dL_law_2039 : decode cL_law 2039 = .ok (.lcmp, 1) := dk_148 (dk_at dksL_law_77 21 rfl rfl)
theorem dL_law_2040 : decode cL_law 2040 = .ok (.ifCond .eq 5, 3) := dk_153 0 5 (dk_at dksL_law_78 0 rfl rfl)
theorem dL_law_2043 : decode cL_law 2043 = .ok (.iconst 0, 1) := dk_3 (dk_at dksL_law_78 3 rfl rfl)
theorem dL_law_2044 : decode cL_law 2044 = .ok (.ireturn, 1) := dk_172 (dk_at dksL_law_78 4 rfl rfl)
theorem dL_law_2045 : decode cL_law 2045 = .ok (.goto 782, 3) := dk_167 3 14 (dk_at dksL_law_78 5 rfl rfl)
theorem dL_law_2048 : decode cL_law 2048 = .ok (.aload_n 1, 1) := dk_43 (dk_at dksL_law_78 8 rfl rfl)
theorem dL_law_2049 : decode cL_law 2049 = .ok (.invokevirtual 255, 3) := dk_182 0 255 (dk_at dksL_law_78 9 rfl rfl)
theorem dL_law_2052 : decode cL_law 2052 = .ok (.aload_n 2, 1) := dk_44 (dk_at dksL_law_78 12 rfl rfl)
theorem dL_law_2053 : decode cL_law 2053 = .ok (.invokevirtual 259, 3) := dk_182 1 3 (dk_at dksL_law_78 13 rfl rfl)
theorem dL_law_2056 : decode cL_law 2056 = .ok (.if_icmp .eq 771, 3) := dk_159 3 3 (dk_at dksL_law_78 16 rfl rfl)
theorem dL_law_2059 : decode cL_law 2059 = .ok (.iconst 0, 1) := dk_3 (dk_at dksL_law_78 19 rfl rfl)
theorem dL_law_2060 : decode cL_law 2060 = .ok (.ireturn, 1) := dk_172 (dk_at dksL_law_78 20 rfl rfl)
theorem dL_law_2061 : decode cL_law 2061 = .ok (.aload_n 1, 1) := dk_43 (dk_at dksL_law_78 21 rfl rfl)
theorem dL_law_2062 : decode cL_law 2062 = .ok (.invokevirtual 260, 3) := dk_182 1 4 (dk_at dksL_law_79 0 rfl rfl)
theorem dL_law_2065 : decode cL_law 2065 = .ok (.aload_n 2, 1) := dk_44 (dk_at dksL_law_79 3 rfl rfl)
theorem dL_law_2066 : decode cL_law 2066 = .ok (.invokevirtual 263, 3) := dk_182 1 7 (dk_at dksL_law_79 4 rfl rfl)
theorem dL_law_2069 : decode cL_law 2069 = .ok (.if_icmp .eq 758, 3) := dk_159 2 246 (dk_at dksL_law_79 7 rfl rfl)
theorem dL_law_2072 : decode cL_law 2072 = .ok (.iconst 0, 1) := dk_3 (dk_at dksL_law_79 10 rfl rfl)
theorem dL_law_2073 : decode cL_law 2073 = .ok (.ireturn, 1) := dk_172 (dk_at dksL_law_79 11 rfl rfl)
theorem dL_law_2074 : decode cL_law 2074 = .ok (.aload_n 1, 1) := dk_43 (dk_at dksL_law_79 12 rfl rfl)
theorem dL_law_2075 : decode cL_law 2075 = .ok (.invokevirtual 264, 3) := dk_182 1 8 (dk_at dksL_law_79 13 rfl rfl)
theorem dL_law_2078 : decode cL_law 2078 = .ok (.aload_n 2, 1) := dk_44 (dk_at dksL_law_79 16 rfl rfl)
theorem dL_law_2079 : decode cL_law 2079 = .ok (.invokevirtual 267, 3) := dk_182 1 11 (dk_at dksL_law_79 17 rfl rfl)
theorem dL_law_2082 : decode cL_law 2082 = .ok (.if_icmp .eq 745, 3) := dk_159 2 233 (dk_at dksL_law_79 20 rfl rfl)
theorem dL_law_2085 : decode cL_law 2085 = .ok (.iconst 0, 1) := dk_3 (dk_at dksL_law_79 23 rfl rfl)
theorem dL_law_2086 : decode cL_law 2086 = .ok (.ireturn, 1) := dk_172 (dk_at dksL_law_80 0 rfl rfl)
theorem dL_law_2087 : decode cL_law 2087 = .ok (.aload_n 1, 1) := dk_43 (dk_at dksL_law_80 1 rfl rfl)
theorem dL_law_2088 : decode cL_law 2088 = .ok (.invokevirtual 268, 3) := dk_182 1 12 (dk_at dksL_law_80 2 rfl rfl)
theorem dL_law_2091 : decode cL_law 2091 = .ok (.aload_n 2, 1) := dk_44 (dk_at dksL_law_80 5 rfl rfl)
theorem dL_law_2092 : decode cL_law 2092 = .ok (.invokevirtual 271, 3) := dk_182 1 15 (dk_at dksL_law_80 6 rfl rfl)
theorem dL_law_2095 : decode cL_law 2095 = .ok (.if_icmp .eq 732, 3) := dk_159 2 220 (dk_at dksL_law_80 9 rfl rfl)
theorem dL_law_2098 : decode cL_law 2098 = .ok (.iconst 0, 1) := dk_3 (dk_at dksL_law_80 12 rfl rfl)
theorem dL_law_2099 : decode cL_law 2099 = .ok (.ireturn, 1) := dk_172 (dk_at dksL_law_80 13 rfl rfl)
theorem dL_law_2100 : decode cL_law 2100 = .ok (.aload_n 1, 1) := dk_43 (dk_at dksL_law_80 14 rfl rfl)
theorem dL_law_2101 : decode cL_law 2101 = .ok (.aload_n 0, 1) := dk_42 (dk_at dksL_law_80 15 rfl rfl)
theorem dL_law_2102 : decode cL_law 2102 = .ok (.iload 4, 2) := dk_21 4 (dk_at dksL_law_80 16 rfl rfl)
theorem dL_law_2104 : decode cL_law 2104 = .ok (.iconst 1, 1) := dk_4 (dk_at dksL_law_80 18 rfl rfl)
theorem dL_law_2105 : decode cL_law 2105 = .ok (.iadd, 1) := dk_96 (dk_at dksL_law_80 19 rfl rfl)
theorem dL_law_2106 : decode cL_law 2106 = .ok (.iaload, 1) := dk_46 (dk_at dksL_law_80 20 rfl rfl)
theorem dL_law_2107 : decode cL_law 2107 = .ok (.aload_n 3, 1) := dk_45 (dk_at dksL_law_80 21 rfl rfl)
theorem dL_law_2108 : decode cL_law 2108 = .ok (.invokestatic 272, 3) := dk_184 1 16 (dk_at dksL_law_81 0 rfl rfl)
theorem dL_law_2111 : decode cL_law 2111 = .ok (.istore 5, 2) := dk_54 5 (dk_at dksL_law_81 3 rfl rfl)
theorem dL_law_2113 : decode cL_law 2113 = .ok (.aload_n 2, 1) := dk_44 (dk_at dksL_law_81 5 rfl rfl)
theorem dL_law_2114 : decode cL_law 2114 = .ok (.aload_n 0, 1) := dk_42 (dk_at dksL_law_81 6 rfl rfl)
theorem dL_law_2115 : decode cL_law 2115 = .ok (.iload 4, 2) := dk_21 4 (dk_at dksL_law_81 7 rfl rfl)
theorem dL_law_2117 : decode cL_law 2117 = .ok (.iconst 1, 1) := dk_4 (dk_at dksL_law_81 9 rfl rfl)
theorem dL_law_2118 : decode cL_law 2118 = .ok (.iadd, 1) := dk_96 (dk_at dksL_law_81 10 rfl rfl)
theorem dL_law_2119 : decode cL_law 2119 = .ok (.iaload, 1) := dk_46 (dk_at dksL_law_81 11 rfl rfl)
theorem dL_law_2120 : decode cL_law 2120 = .ok (.invokevirtual 274, 3) := dk_182 1 18 (dk_at dksL_law_81 12 rfl rfl)
theorem dL_law_2123 : decode cL_law 2123 = .ok (.istore 6, 2) := dk_54 6 (dk_at dksL_law_81 15 rfl rfl)
theorem dL_law_2125 : decode cL_law 2125 = .ok (.aload_n 2, 1) := dk_44 (dk_at dksL_law_81 17 rfl rfl)
theorem dL_law_2126 : decode cL_law 2126 = .ok (.invokevirtual 143, 3) := dk_182 0 143 (dk_at dksL_law_81 18 rfl rfl)
theorem dL_law_2129 : decode cL_law 2129 = .ok (.iload 5, 2) := dk_21 5 (dk_at dksL_law_81 21 rfl rfl)
theorem dL_law_2131 : decode cL_law 2131 = .ok (.if_icmp .eq 5, 3) := dk_159 0 5 (dk_at dksL_law_82 0 rfl rfl)
theorem dL_law_2134 : decode cL_law 2134 = .ok (.iconst 0, 1) := dk_3 (dk_at dksL_law_82 3 rfl rfl)
theorem dL_law_2135 : decode cL_law 2135 = .ok (.ireturn, 1) := dk_172 (dk_at dksL_law_82 4 rfl rfl)
theorem dL_law_2136 : decode cL_law 2136 = .ok (.iload 5, 2) := dk_21 5 (dk_at dksL_law_82 5 rfl rfl)
theorem dL_law_2138 : decode cL_law 2138 = .ok (.ifCond .ne 15, 3) := dk_154 0 15 (dk_at dksL_law_82 7 rfl rfl)
theorem dL_law_2141 : decode cL_law 2141 = .ok (.aload_n 3, 1) := dk_45 (dk_at dksL_law_82 10 rfl rfl)
theorem dL_law_2142 : decode cL_law 2142 = .ok (.iconst 0, 1) := dk_3 (dk_at dksL_law_82 11 rfl rfl)
theorem dL_law_2143 : decode cL_law 2143 = .ok (.laload, 1) := dk_47 (dk_at dksL_law_82 12 rfl rfl)
theorem dL_law_2144 : decode cL_law 2144 = .ok (.iload 6, 2) := dk_21 6 (dk_at dksL_law_82 13 rfl rfl)
theorem dL_law_2146 : decode cL_law 2146 = .ok (.i2l, 1) := dk_133 (dk_at dksL_law_82 15 rfl rfl)
theorem dL_law_2147 : decode cL_law 2147 = .ok (.lcmp, 1) := dk_148 (dk_at dksL_law_82 16 rfl rfl)
theorem dL_law_2148 : decode cL_law 2148 = .ok (.ifCond .eq 5, 3) := dk_153 0 5 (dk_at dksL_law_82 17 rfl rfl)
theorem dL_law_2151 : decode cL_law 2151 = .ok (.iconst 0, 1) := dk_3 (dk_at dksL_law_82 20 rfl rfl)
theorem dL_law_2152 : decode cL_law 2152 = .ok (.ireturn, 1) := dk_172 (dk_at dksL_law_82 21 rfl rfl)
theorem dL_law_2153 : decode cL_law 2153 = .ok (.goto 674, 3) := dk_167 2 162 (dk_at dksL_law_83 0 rfl rfl)
theorem dL_law_2156 : decode cL_law 2156 = .ok (.aload_n 1, 1) := dk_43 (dk_at dksL_law_83 3 rfl rfl)
theorem dL_law_2157 : decode cL_law 2157 = .ok (.aload_n 0, 1) := dk_42 (dk_at dksL_law_83 4 rfl rfl)
theorem dL_law_2158 : decode cL_law 2158 = .ok (.iload 4, 2) := dk_21 4 (dk_at dksL_law_83 5 rfl rfl)
theorem dL_law_2160 : decode cL_law 2160 = .ok (.iconst 1, 1) := dk_4 (dk_at dksL_law_83 7 rfl rfl)
theorem dL_law_2161 : decode cL_law 2161 = .ok (.iadd, 1) := dk_96 (dk_at dksL_law_83 8 rfl rfl)
theorem dL_law_2162 : decode cL_law 2162 = .ok (.iaload, 1) := dk_46 (dk_at dksL_law_83 9 rfl rfl)
theorem dL_law_2163 : decode cL_law 2163 = .ok (.aload_n 0, 1) := dk_42 (dk_at dksL_law_83 10 rfl rfl)
theorem dL_law_2164 : decode cL_law 2164 = .ok (.iload 4, 2) := dk_21 4 (dk_at dksL_law_83 11 rfl rfl)
theorem dL_law_2166 : decode cL_law 2166 = .ok (.iconst 2, 1) := dk_5 (dk_at dksL_law_83 13 rfl rfl)
theorem dL_law_2167 : decode cL_law 2167 = .ok (.iadd, 1) := dk_96 (dk_at dksL_law_83 14 rfl rfl)
theorem dL_law_2168 : decode cL_law 2168 = .ok (.iaload, 1) := dk_46 (dk_at dksL_law_83 15 rfl rfl)
theorem dL_law_2169 : decode cL_law 2169 = .ok (.aload_n 3, 1) := dk_45 (dk_at dksL_law_83 16 rfl rfl)
theorem dL_law_2170 : decode cL_law 2170 = .ok (.invokestatic 275, 3) := dk_184 1 19 (dk_at dksL_law_83 17 rfl rfl)
theorem dL_law_2173 : decode cL_law 2173 = .ok (.istore 5, 2) := dk_54 5 (dk_at dksL_law_83 20 rfl rfl)
theorem dL_law_2175 : decode cL_law 2175 = .ok (.aload_n 2, 1) := dk_44 (dk_at dksL_law_83 22 rfl rfl)
theorem dL_law_2176 : decode cL_law 2176 = .ok (.aload_n 0, 1) := dk_42 (dk_at dksL_law_83 23 rfl rfl)
theorem dL_law_2177 : decode cL_law 2177 = .ok (.iload 4, 2) := dk_21 4 (dk_at dksL_law_84 0 rfl rfl)
theorem dL_law_2179 : decode cL_law 2179 = .ok (.iconst 1, 1) := dk_4 (dk_at dksL_law_84 2 rfl rfl)
theorem dL_law_2180 : decode cL_law 2180 = .ok (.iadd, 1) := dk_96 (dk_at dksL_law_84 3 rfl rfl)
theorem dL_law_2181 : decode cL_law 2181 = .ok (.iaload, 1) := dk_46 (dk_at dksL_law_84 4 rfl rfl)
theorem dL_law_2182 : decode cL_law 2182 = .ok (.aload_n 0, 1) := dk_42 (dk_at dksL_law_84 5 rfl rfl)
theorem dL_law_2183 : decode cL_law 2183 = .ok (.iload 4, 2) := dk_21 4 (dk_at dksL_law_84 6 rfl rfl)
theorem dL_law_2185 : decode cL_law 2185 = .ok (.iconst 2, 1) := dk_5 (dk_at dksL_law_84 8 rfl rfl)
theorem dL_law_2186 : decode cL_law 2186 = .ok (.iadd, 1) := dk_96 (dk_at dksL_law_84 9 rfl rfl)
theorem dL_law_2187 : decode cL_law 2187 = .ok (.iaload, 1) := dk_46 (dk_at dksL_law_84 10 rfl rfl)
theorem dL_law_2188 : decode cL_law 2188 = .ok (.invokevirtual 277, 3) := dk_182 1 21 (dk_at dksL_law_84 11 rfl rfl)
theorem dL_law_2191 : decode cL_law 2191 = .ok (.istore 6, 2) := dk_54 6 (dk_at dksL_law_84 14 rfl rfl)
theorem dL_law_2193 : decode cL_law 2193 = .ok (.aload_n 2, 1) := dk_44 (dk_at dksL_law_84 16 rfl rfl)
theorem dL_law_2194 : decode cL_law 2194 = .ok (.invokevirtual 143, 3) := dk_182 0 143 (dk_at dksL_law_84 17 rfl rfl)
theorem dL_law_2197 : decode cL_law 2197 = .ok (.iload 5, 2) := dk_21 5 (dk_at dksL_law_84 20 rfl rfl)
theorem dL_law_2199 : decode cL_law 2199 = .ok (.if_icmp .eq 5, 3) := dk_159 0 5 (dk_at dksL_law_85 0 rfl rfl)
theorem dL_law_2202 : decode cL_law 2202 = .ok (.iconst 0, 1) := dk_3 (dk_at dksL_law_85 3 rfl rfl)
theorem dL_law_2203 : decode cL_law 2203 = .ok (.ireturn, 1) := dk_172 (dk_at dksL_law_85 4 rfl rfl)
theorem dL_law_2204 : decode cL_law 2204 = .ok (.iload 5, 2) := dk_21 5 (dk_at dksL_law_85 5 rfl rfl)
theorem dL_law_2206 : decode cL_law 2206 = .ok (.ifCond .ne 15, 3) := dk_154 0 15 (dk_at dksL_law_85 7 rfl rfl)
theorem dL_law_2209 : decode cL_law 2209 = .ok (.aload_n 3, 1) := dk_45 (dk_at dksL_law_85 10 rfl rfl)
theorem dL_law_2210 : decode cL_law 2210 = .ok (.iconst 0, 1) := dk_3 (dk_at dksL_law_85 11 rfl rfl)
theorem dL_law_2211 : decode cL_law 2211 = .ok (.laload, 1) := dk_47 (dk_at dksL_law_85 12 rfl rfl)
theorem dL_law_2212 : decode cL_law 2212 = .ok (.iload 6, 2) := dk_21 6 (dk_at dksL_law_85 13 rfl rfl)
theorem dL_law_2214 : decode cL_law 2214 = .ok (.i2l, 1) := dk_133 (dk_at dksL_law_85 15 rfl rfl)
theorem dL_law_2215 : decode cL_law 2215 = .ok (.lcmp, 1) := dk_148 (dk_at dksL_law_85 16 rfl rfl)
theorem dL_law_2216 : decode cL_law 2216 = .ok (.ifCond .eq 5, 3) := dk_153 0 5 (dk_at dksL_law_85 17 rfl rfl)
theorem dL_law_2219 : decode cL_law 2219 = .ok (.iconst 0, 1) := dk_3 (dk_at dksL_law_85 20 rfl rfl)
theorem dL_law_2220 : decode cL_law 2220 = .ok (.ireturn, 1) := dk_172 (dk_at dksL_law_85 21 rfl rfl)
theorem dL_law_2221 : decode cL_law 2221 = .ok (.goto 606, 3) := dk_167 2 94 (dk_at dksL_law_86 0 rfl rfl)
theorem dL_law_2224 : decode cL_law 2224 = .ok (.aload_n 1, 1) := dk_43 (dk_at dksL_law_86 3 rfl rfl)
theorem dL_law_2225 : decode cL_law 2225 = .ok (.aload_n 0, 1) := dk_42 (dk_at dksL_law_86 4 rfl rfl)
theorem dL_law_2226 : decode cL_law 2226 = .ok (.iload 4, 2) := dk_21 4 (dk_at dksL_law_86 5 rfl rfl)
theorem dL_law_2228 : decode cL_law 2228 = .ok (.iconst 1, 1) := dk_4 (dk_at dksL_law_86 7 rfl rfl)
theorem dL_law_2229 : decode cL_law 2229 = .ok (.iadd, 1) := dk_96 (dk_at dksL_law_86 8 rfl rfl)
theorem dL_law_2230 : decode cL_law 2230 = .ok (.iaload, 1) := dk_46 (dk_at dksL_law_86 9 rfl rfl)
theorem dL_law_2231 : decode cL_law 2231 = .ok (.aload_n 3, 1) := dk_45 (dk_at dksL_law_86 10 rfl rfl)
theorem dL_law_2232 : decode cL_law 2232 = .ok (.invokestatic 278, 3) := dk_184 1 22 (dk_at dksL_law_86 11 rfl rfl)
theorem dL_law_2235 : decode cL_law 2235 = .ok (.istore 5, 2) := dk_54 5 (dk_at dksL_law_86 14 rfl rfl)
theorem dL_law_2237 : decode cL_law 2237 = .ok (.aload_n 2, 1) := dk_44 (dk_at dksL_law_86 16 rfl rfl)
theorem dL_law_2238 : decode cL_law 2238 = .ok (.aload_n 0, 1) := dk_42 (dk_at dksL_law_86 17 rfl rfl)
theorem dL_law_2239 : decode cL_law 2239 = .ok (.iload 4, 2) := dk_21 4 (dk_at dksL_law_86 18 rfl rfl)
theorem dL_law_2241 : decode cL_law 2241 = .ok (.iconst 1, 1) := dk_4 (dk_at dksL_law_86 20 rfl rfl)
theorem dL_law_2242 : decode cL_law 2242 = .ok (.iadd, 1) := dk_96 (dk_at dksL_law_86 21 rfl rfl)
theorem dL_law_2243 : decode cL_law 2243 = .ok (.iaload, 1) := dk_46 (dk_at dksL_law_86 22 rfl rfl)
theorem dL_law_2244 : decode cL_law 2244 = .ok (.invokevirtual 280, 3) := dk_182 1 24 (dk_at dksL_law_87 0 rfl rfl)
theorem dL_law_2247 : decode cL_law 2247 = .ok (.istore 6, 2) := dk_54 6 (dk_at dksL_law_87 3 rfl rfl)
theorem dL_law_2249 : decode cL_law 2249 = .ok (.aload_n 2, 1) := dk_44 (dk_at dksL_law_87 5 rfl rfl)
theorem dL_law_2250 : decode cL_law 2250 = .ok (.invokevirtual 143, 3) := dk_182 0 143 (dk_at dksL_law_87 6 rfl rfl)
theorem dL_law_2253 : decode cL_law 2253 = .ok (.iload 5, 2) := dk_21 5 (dk_at dksL_law_87 9 rfl rfl)
theorem dL_law_2255 : decode cL_law 2255 = .ok (.if_icmp .eq 5, 3) := dk_159 0 5 (dk_at dksL_law_87 11 rfl rfl)
theorem dL_law_2258 : decode cL_law 2258 = .ok (.iconst 0, 1) := dk_3 (dk_at dksL_law_87 14 rfl rfl)
theorem dL_law_2259 : decode cL_law 2259 = .ok (.ireturn, 1) := dk_172 (dk_at dksL_law_87 15 rfl rfl)
theorem dL_law_2260 : decode cL_law 2260 = .ok (.iload 5, 2) := dk_21 5 (dk_at dksL_law_87 16 rfl rfl)
theorem dL_law_2262 : decode cL_law 2262 = .ok (.ifCond .ne 15, 3) := dk_154 0 15 (dk_at dksL_law_87 18 rfl rfl)
theorem dL_law_2265 : decode cL_law 2265 = .ok (.aload_n 3, 1) := dk_45 (dk_at dksL_law_87 21 rfl rfl)
theorem dL_law_2266 : decode cL_law 2266 = .ok (.iconst 0, 1) := dk_3 (dk_at dksL_law_87 22 rfl rfl)
theorem dL_law_2267 : decode cL_law 2267 = .ok (.laload, 1) := dk_47 (dk_at dksL_law_87 23 rfl rfl)
theorem dL_law_2268 : decode cL_law 2268 = .ok (.iload 6, 2) := dk_21 6 (dk_at dksL_law_88 0 rfl rfl)
theorem dL_law_2270 : decode cL_law 2270 = .ok (.i2l, 1) := dk_133 (dk_at dksL_law_88 2 rfl rfl)
theorem dL_law_2271 : decode cL_law 2271 = .ok (.lcmp, 1) := dk_148 (dk_at dksL_law_88 3 rfl rfl)
theorem dL_law_2272 : decode cL_law 2272 = .ok (.ifCond .eq 5, 3) := dk_153 0 5 (dk_at dksL_law_88 4 rfl rfl)
theorem dL_law_2275 : decode cL_law 2275 = .ok (.iconst 0, 1) := dk_3 (dk_at dksL_law_88 7 rfl rfl)
theorem dL_law_2276 : decode cL_law 2276 = .ok (.ireturn, 1) := dk_172 (dk_at dksL_law_88 8 rfl rfl)
theorem dL_law_2277 : decode cL_law 2277 = .ok (.goto 550, 3) := dk_167 2 38 (dk_at dksL_law_88 9 rfl rfl)
theorem dL_law_2280 : decode cL_law 2280 = .ok (.aload_n 1, 1) := dk_43 (dk_at dksL_law_88 12 rfl rfl)
theorem dL_law_2281 : decode cL_law 2281 = .ok (.aload_n 0, 1) := dk_42 (dk_at dksL_law_88 13 rfl rfl)
theorem dL_law_2282 : decode cL_law 2282 = .ok (.iload 4, 2) := dk_21 4 (dk_at dksL_law_88 14 rfl rfl)
theorem dL_law_2284 : decode cL_law 2284 = .ok (.iconst 1, 1) := dk_4 (dk_at dksL_law_88 16 rfl rfl)
theorem dL_law_2285 : decode cL_law 2285 = .ok (.iadd, 1) := dk_96 (dk_at dksL_law_88 17 rfl rfl)
theorem dL_law_2286 : decode cL_law 2286 = .ok (.iaload, 1) := dk_46 (dk_at dksL_law_88 18 rfl rfl)
theorem dL_law_2287 : decode cL_law 2287 = .ok (.aload_n 3, 1) := dk_45 (dk_at dksL_law_88 19 rfl rfl)
theorem dL_law_2288 : decode cL_law 2288 = .ok (.invokestatic 281, 3) := dk_184 1 25 (dk_at dksL_law_88 20 rfl rfl)
theorem dL_law_2291 : decode cL_law 2291 = .ok (.istore 5, 2) := dk_54 5 (dk_at dksL_law_89 0 rfl rfl)
theorem dL_law_2293 : decode cL_law 2293 = .ok (.aload_n 2, 1) := dk_44 (dk_at dksL_law_89 2 rfl rfl)
theorem dL_law_2294 : decode cL_law 2294 = .ok (.aload_n 0, 1) := dk_42 (dk_at dksL_law_89 3 rfl rfl)
theorem dL_law_2295 : decode cL_law 2295 = .ok (.iload 4, 2) := dk_21 4 (dk_at dksL_law_89 4 rfl rfl)
theorem dL_law_2297 : decode cL_law 2297 = .ok (.iconst 1, 1) := dk_4 (dk_at dksL_law_89 6 rfl rfl)
theorem dL_law_2298 : decode cL_law 2298 = .ok (.iadd, 1) := dk_96 (dk_at dksL_law_89 7 rfl rfl)
theorem dL_law_2299 : decode cL_law 2299 = .ok (.iaload, 1) := dk_46 (dk_at dksL_law_89 8 rfl rfl)
theorem dL_law_2300 : decode cL_law 2300 = .ok (.invokevirtual 283, 3) := dk_182 1 27 (dk_at dksL_law_89 9 rfl rfl)
theorem dL_law_2303 : decode cL_law 2303 = .ok (.istore 6, 2) := dk_54 6 (dk_at dksL_law_89 12 rfl rfl)
theorem dL_law_2305 : decode cL_law 2305 = .ok (.aload_n 2, 1) := dk_44 (dk_at dksL_law_89 14 rfl rfl)
theorem dL_law_2306 : decode cL_law 2306 = .ok (.invokevirtual 143, 3) := dk_182 0 143 (dk_at dksL_law_89 15 rfl rfl)
theorem dL_law_2309 : decode cL_law 2309 = .ok (.iload 5, 2) := dk_21 5 (dk_at dksL_law_89 18 rfl rfl)
theorem dL_law_2311 : decode cL_law 2311 = .ok (.if_icmp .eq 5, 3) := dk_159 0 5 (dk_at dksL_law_89 20 rfl rfl)
theorem dL_law_2314 : decode cL_law 2314 = .ok (.iconst 0, 1) := dk_3 (dk_at dksL_law_89 23 rfl rfl)
theorem dL_law_2315 : decode cL_law 2315 = .ok (.ireturn, 1) := dk_172 (dk_at dksL_law_90 0 rfl rfl)
theorem dL_law_2316 : decode cL_law 2316 = .ok (.iload 5, 2) := dk_21 5 (dk_at dksL_law_90 1 rfl rfl)
theorem dL_law_2318 : decode cL_law 2318 = .ok (.ifCond .ne 15, 3) := dk_154 0 15 (dk_at dksL_law_90 3 rfl rfl)
theorem dL_law_2321 : decode cL_law 2321 = .ok (.aload_n 3, 1) := dk_45 (dk_at dksL_law_90 6 rfl rfl)
theorem dL_law_2322 : decode cL_law 2322 = .ok (.iconst 0, 1) := dk_3 (dk_at dksL_law_90 7 rfl rfl)
theorem dL_law_2323 : decode cL_law 2323 = .ok (.laload, 1) := dk_47 (dk_at dksL_law_90 8 rfl rfl)
theorem dL_law_2324 : decode cL_law 2324 = .ok (.iload 6, 2) := dk_21 6 (dk_at dksL_law_90 9 rfl rfl)
theorem dL_law_2326 : decode cL_law 2326 = .ok (.i2l, 1) := dk_133 (dk_at dksL_law_90 11 rfl rfl)
theorem dL_law_2327 : decode cL_law 2327 = .ok (.lcmp, 1) := dk_148 (dk_at dksL_law_90 12 rfl rfl)
theorem dL_law_2328 : decode cL_law 2328 = .ok (.ifCond .eq 5, 3) := dk_153 0 5 (dk_at dksL_law_90 13 rfl rfl)
theorem dL_law_2331 : decode cL_law 2331 = .ok (.iconst 0, 1) := dk_3 (dk_at dksL_law_90 16 rfl rfl)
theorem dL_law_2332 : decode cL_law 2332 = .ok (.ireturn, 1) := dk_172 (dk_at dksL_law_90 17 rfl rfl)
theorem dL_law_2333 : decode cL_law 2333 = .ok (.goto 494, 3) := dk_167 1 238 (dk_at dksL_law_90 18 rfl rfl)
theorem dL_law_2336 : decode cL_law 2336 = .ok (.aload_n 1, 1) := dk_43 (dk_at dksL_law_90 21 rfl rfl)
theorem dL_law_2337 : decode cL_law 2337 = .ok (.aload_n 0, 1) := dk_42 (dk_at dksL_law_90 22 rfl rfl)
theorem dL_law_2338 : decode cL_law 2338 = .ok (.iload 4, 2) := dk_21 4 (dk_at dksL_law_91 0 rfl rfl)
theorem dL_law_2340 : decode cL_law 2340 = .ok (.iconst 1, 1) := dk_4 (dk_at dksL_law_91 2 rfl rfl)
theorem dL_law_2341 : decode cL_law 2341 = .ok (.iadd, 1) := dk_96 (dk_at dksL_law_91 3 rfl rfl)
theorem dL_law_2342 : decode cL_law 2342 = .ok (.iaload, 1) := dk_46 (dk_at dksL_law_91 4 rfl rfl)
theorem dL_law_2343 : decode cL_law 2343 = .ok (.aload_n 0, 1) := dk_42 (dk_at dksL_law_91 5 rfl rfl)
theorem dL_law_2344 : decode cL_law 2344 = .ok (.iload 4, 2) := dk_21 4 (dk_at dksL_law_91 6 rfl rfl)
theorem dL_law_2346 : decode cL_law 2346 = .ok (.iconst 2, 1) := dk_5 (dk_at dksL_law_91 8 rfl rfl)
theorem dL_law_2347 : decode cL_law 2347 = .ok (.iadd, 1) := dk_96 (dk_at dksL_law_91 9 rfl rfl)
theorem dL_law_2348 : decode cL_law 2348 = .ok (.iaload, 1) := dk_46 (dk_at dksL_law_91 10 rfl rfl)
theorem dL_law_2349 : decode cL_law 2349 = .ok (.aload_n 3, 1) := dk_45 (dk_at dksL_law_91 11 rfl rfl)
theorem dL_law_2350 : decode cL_law 2350 = .ok (.invokestatic 284, 3) := dk_184 1 28 (dk_at dksL_law_91 12 rfl rfl)
theorem dL_law_2353 : decode cL_law 2353 = .ok (.istore 5, 2) := dk_54 5 (dk_at dksL_law_91 15 rfl rfl)
theorem dL_law_2355 : decode cL_law 2355 = .ok (.aload_n 2, 1) := dk_44 (dk_at dksL_law_91 17 rfl rfl)
theorem dL_law_2356 : decode cL_law 2356 = .ok (.aload_n 0, 1) := dk_42 (dk_at dksL_law_91 18 rfl rfl)
theorem dL_law_2357 : decode cL_law 2357 = .ok (.iload 4, 2) := dk_21 4 (dk_at dksL_law_91 19 rfl rfl)
theorem dL_law_2359 : decode cL_law 2359 = .ok (.iconst 1, 1) := dk_4 (dk_at dksL_law_91 21 rfl rfl)
theorem dL_law_2360 : decode cL_law 2360 = .ok (.iadd, 1) := dk_96 (dk_at dksL_law_91 22 rfl rfl)
theorem dL_law_2361 : decode cL_law 2361 = .ok (.iaload, 1) := dk_46 (dk_at dksL_law_91 23 rfl rfl)
theorem dL_law_2362 : decode cL_law 2362 = .ok (.aload_n 0, 1) := dk_42 (dk_at dksL_law_92 0 rfl rfl)
theorem dL_law_2363 : decode cL_law 2363 = .ok (.iload 4, 2) := dk_21 4 (dk_at dksL_law_92 1 rfl rfl)
theorem dL_law_2365 : decode cL_law 2365 = .ok (.iconst 2, 1) := dk_5 (dk_at dksL_law_92 3 rfl rfl)
theorem dL_law_2366 : decode cL_law 2366 = .ok (.iadd, 1) := dk_96 (dk_at dksL_law_92 4 rfl rfl)
theorem dL_law_2367 : decode cL_law 2367 = .ok (.iaload, 1) := dk_46 (dk_at dksL_law_92 5 rfl rfl)
theorem dL_law_2368 : decode cL_law 2368 = .ok (.invokevirtual 286, 3) := dk_182 1 30 (dk_at dksL_law_92 6 rfl rfl)
theorem dL_law_2371 : decode cL_law 2371 = .ok (.istore 6, 2) := dk_54 6 (dk_at dksL_law_92 9 rfl rfl)
theorem dL_law_2373 : decode cL_law 2373 = .ok (.aload_n 2, 1) := dk_44 (dk_at dksL_law_92 11 rfl rfl)
theorem dL_law_2374 : decode cL_law 2374 = .ok (.invokevirtual 143, 3) := dk_182 0 143 (dk_at dksL_law_92 12 rfl rfl)
theorem dL_law_2377 : decode cL_law 2377 = .ok (.iload 5, 2) := dk_21 5 (dk_at dksL_law_92 15 rfl rfl)
theorem dL_law_2379 : decode cL_law 2379 = .ok (.if_icmp .eq 5, 3) := dk_159 0 5 (dk_at dksL_law_92 17 rfl rfl)
theorem dL_law_2382 : decode cL_law 2382 = .ok (.iconst 0, 1) := dk_3 (dk_at dksL_law_92 20 rfl rfl)
theorem dL_law_2383 : decode cL_law 2383 = .ok (.ireturn, 1) := dk_172 (dk_at dksL_law_92 21 rfl rfl)
theorem dL_law_2384 : decode cL_law 2384 = .ok (.iload 5, 2) := dk_21 5 (dk_at dksL_law_92 22 rfl rfl)
theorem dL_law_2386 : decode cL_law 2386 = .ok (.ifCond .ne 15, 3) := dk_154 0 15 (dk_at dksL_law_93 0 rfl rfl)
theorem dL_law_2389 : decode cL_law 2389 = .ok (.aload_n 3, 1) := dk_45 (dk_at dksL_law_93 3 rfl rfl)
theorem dL_law_2390 : decode cL_law 2390 = .ok (.iconst 0, 1) := dk_3 (dk_at dksL_law_93 4 rfl rfl)
theorem dL_law_2391 : decode cL_law 2391 = .ok (.laload, 1) := dk_47 (dk_at dksL_law_93 5 rfl rfl)
theorem dL_law_2392 : decode cL_law 2392 = .ok (.iload 6, 2) := dk_21 6 (dk_at dksL_law_93 6 rfl rfl)
theorem dL_law_2394 : decode cL_law 2394 = .ok (.i2l, 1) := dk_133 (dk_at dksL_law_93 8 rfl rfl)
theorem dL_law_2395 : decode cL_law 2395 = .ok (.lcmp, 1) := dk_148 (dk_at dksL_law_93 9 rfl rfl)
theorem dL_law_2396 : decode cL_law 2396 = .ok (.ifCond .eq 5, 3) := dk_153 0 5 (dk_at dksL_law_93 10 rfl rfl)
theorem dL_law_2399 : decode cL_law 2399 = .ok (.iconst 0, 1) := dk_3 (dk_at dksL_law_93 13 rfl rfl)
theorem dL_law_2400 : decode cL_law 2400 = .ok (.ireturn, 1) := dk_172 (dk_at dksL_law_93 14 rfl rfl)
theorem dL_law_2401 : decode cL_law 2401 = .ok (.goto 426, 3) := dk_167 1 170 (dk_at dksL_law_93 15 rfl rfl)
theorem dL_law_2404 : decode cL_law 2404 = .ok (.aload_n 1, 1) := dk_43 (dk_at dksL_law_93 18 rfl rfl)
theorem dL_law_2405 : decode cL_law 2405 = .ok (.aload_n 0, 1) := dk_42 (dk_at dksL_law_93 19 rfl rfl)
theorem dL_law_2406 : decode cL_law 2406 = .ok (.iload 4, 2) := dk_21 4 (dk_at dksL_law_93 20 rfl rfl)
theorem dL_law_2408 : decode cL_law 2408 = .ok (.iconst 1, 1) := dk_4 (dk_at dksL_law_93 22 rfl rfl)
theorem dL_law_2409 : decode cL_law 2409 = .ok (.iadd, 1) := dk_96 (dk_at dksL_law_93 23 rfl rfl)
theorem dL_law_2410 : decode cL_law 2410 = .ok (.iaload, 1) := dk_46 (dk_at dksL_law_94 0 rfl rfl)
theorem dL_law_2411 : decode cL_law 2411 = .ok (.aload_n 3, 1) := dk_45 (dk_at dksL_law_94 1 rfl rfl)
theorem dL_law_2412 : decode cL_law 2412 = .ok (.invokestatic 287, 3) := dk_184 1 31 (dk_at dksL_law_94 2 rfl rfl)
theorem dL_law_2415 : decode cL_law 2415 = .ok (.istore 5, 2) := dk_54 5 (dk_at dksL_law_94 5 rfl rfl)
theorem dL_law_2417 : decode cL_law 2417 = .ok (.aload_n 2, 1) := dk_44 (dk_at dksL_law_94 7 rfl rfl)
theorem dL_law_2418 : decode cL_law 2418 = .ok (.aload_n 0, 1) := dk_42 (dk_at dksL_law_94 8 rfl rfl)
theorem dL_law_2419 : decode cL_law 2419 = .ok (.iload 4, 2) := dk_21 4 (dk_at dksL_law_94 9 rfl rfl)
theorem dL_law_2421 : decode cL_law 2421 = .ok (.iconst 1, 1) := dk_4 (dk_at dksL_law_94 11 rfl rfl)
theorem dL_law_2422 : decode cL_law 2422 = .ok (.iadd, 1) := dk_96 (dk_at dksL_law_94 12 rfl rfl)
theorem dL_law_2423 : decode cL_law 2423 = .ok (.iaload, 1) := dk_46 (dk_at dksL_law_94 13 rfl rfl)
theorem dL_law_2424 : decode cL_law 2424 = .ok (.invokevirtual 289, 3) := dk_182 1 33 (dk_at dksL_law_94 14 rfl rfl)
theorem dL_law_2427 : decode cL_law 2427 = .ok (.istore 6, 2) := dk_54 6 (dk_at dksL_law_94 17 rfl rfl)
theorem dL_law_2429 : decode cL_law 2429 = .ok (.aload_n 2, 1) := dk_44 (dk_at dksL_law_94 19 rfl rfl)
theorem dL_law_2430 : decode cL_law 2430 = .ok (.invokevirtual 143, 3) := dk_182 0 143 (dk_at dksL_law_94 20 rfl rfl)
theorem dL_law_2433 : decode cL_law 2433 = .ok (.iload 5, 2) := dk_21 5 (dk_at dksL_law_95 0 rfl rfl)
theorem dL_law_2435 : decode cL_law 2435 = .ok (.if_icmp .eq 5, 3) := dk_159 0 5 (dk_at dksL_law_95 2 rfl rfl)
theorem dL_law_2438 : decode cL_law 2438 = .ok (.iconst 0, 1) := dk_3 (dk_at dksL_law_95 5 rfl rfl)
theorem dL_law_2439 : decode cL_law 2439 = .ok (.ireturn, 1) := dk_172 (dk_at dksL_law_95 6 rfl rfl)
theorem dL_law_2440 : decode cL_law 2440 = .ok (.iload 5, 2) := dk_21 5 (dk_at dksL_law_95 7 rfl rfl)
theorem dL_law_2442 : decode cL_law 2442 = .ok (.ifCond .ne 15, 3) := dk_154 0 15 (dk_at dksL_law_95 9 rfl rfl)
theorem dL_law_2445 : decode cL_law 2445 = .ok (.aload_n 3, 1) := dk_45 (dk_at dksL_law_95 12 rfl rfl)
theorem dL_law_2446 : decode cL_law 2446 = .ok (.iconst 0, 1) := dk_3 (dk_at dksL_law_95 13 rfl rfl)
theorem dL_law_2447 : decode cL_law 2447 = .ok (.laload, 1) := dk_47 (dk_at dksL_law_95 14 rfl rfl)
theorem dL_law_2448 : decode cL_law 2448 = .ok (.iload 6, 2) := dk_21 6 (dk_at dksL_law_95 15 rfl rfl)
theorem dL_law_2450 : decode cL_law 2450 = .ok (.i2l, 1) := dk_133 (dk_at dksL_law_95 17 rfl rfl)
theorem dL_law_2451 : decode cL_law 2451 = .ok (.lcmp, 1) := dk_148 (dk_at dksL_law_95 18 rfl rfl)
theorem dL_law_2452 : decode cL_law 2452 = .ok (.ifCond .eq 5, 3) := dk_153 0 5 (dk_at dksL_law_95 19 rfl rfl)
theorem dL_law_2455 : decode cL_law 2455 = .ok (.iconst 0, 1) := dk_3 (dk_at dksL_law_95 22 rfl rfl)
theorem dL_law_2456 : decode cL_law 2456 = .ok (.ireturn, 1) := dk_172 (dk_at dksL_law_95 23 rfl rfl)
theorem dL_law_2457 : decode cL_law 2457 = .ok (.goto 370, 3) := dk_167 1 114 (dk_at dksL_law_96 0 rfl rfl)
theorem dL_law_2460 : decode cL_law 2460 = .ok (.aload_n 1, 1) := dk_43 (dk_at dksL_law_96 3 rfl rfl)
theorem dL_law_2461 : decode cL_law 2461 = .ok (.aload_n 0, 1) := dk_42 (dk_at dksL_law_96 4 rfl rfl)
theorem dL_law_2462 : decode cL_law 2462 = .ok (.iload 4, 2) := dk_21 4 (dk_at dksL_law_96 5 rfl rfl)
theorem dL_law_2464 : decode cL_law 2464 = .ok (.iconst 1, 1) := dk_4 (dk_at dksL_law_96 7 rfl rfl)
theorem dL_law_2465 : decode cL_law 2465 = .ok (.iadd, 1) := dk_96 (dk_at dksL_law_96 8 rfl rfl)
theorem dL_law_2466 : decode cL_law 2466 = .ok (.iaload, 1) := dk_46 (dk_at dksL_law_96 9 rfl rfl)
theorem dL_law_2467 : decode cL_law 2467 = .ok (.ifCond .eq 7, 3) := dk_153 0 7 (dk_at dksL_law_96 10 rfl rfl)
theorem dL_law_2470 : decode cL_law 2470 = .ok (.iconst 1, 1) := dk_4 (dk_at dksL_law_96 13 rfl rfl)
theorem dL_law_2471 : decode cL_law 2471 = .ok (.goto 4, 3) := dk_167 0 4 (dk_at dksL_law_96 14 rfl rfl)
theorem dL_law_2474 : decode cL_law 2474 = .ok (.iconst 0, 1) := dk_3 (dk_at dksL_law_96 17 rfl rfl)
theorem dL_law_2475 : decode cL_law 2475 = .ok (.invokevirtual 290, 3) := dk_182 1 34 (dk_at dksL_law_96 18 rfl rfl)
theorem dL_law_2478 : decode cL_law 2478 = .ok (.aload_n 2, 1) := dk_44 (dk_at dksL_law_96 21 rfl rfl)
theorem dL_law_2479 : decode cL_law 2479 = .ok (.aload_n 0, 1) := dk_42 (dk_at dksL_law_96 22 rfl rfl)
theorem dL_law_2480 : decode cL_law 2480 = .ok (.iload 4, 2) := dk_21 4 (dk_at dksL_law_97 0 rfl rfl)
theorem dL_law_2482 : decode cL_law 2482 = .ok (.iconst 1, 1) := dk_4 (dk_at dksL_law_97 2 rfl rfl)
theorem dL_law_2483 : decode cL_law 2483 = .ok (.iadd, 1) := dk_96 (dk_at dksL_law_97 3 rfl rfl)
theorem dL_law_2484 : decode cL_law 2484 = .ok (.iaload, 1) := dk_46 (dk_at dksL_law_97 4 rfl rfl)
theorem dL_law_2485 : decode cL_law 2485 = .ok (.ifCond .eq 7, 3) := dk_153 0 7 (dk_at dksL_law_97 5 rfl rfl)
theorem dL_law_2488 : decode cL_law 2488 = .ok (.iconst 1, 1) := dk_4 (dk_at dksL_law_97 8 rfl rfl)
theorem dL_law_2489 : decode cL_law 2489 = .ok (.goto 4, 3) := dk_167 0 4 (dk_at dksL_law_97 9 rfl rfl)
theorem dL_law_2492 : decode cL_law 2492 = .ok (.iconst 0, 1) := dk_3 (dk_at dksL_law_97 12 rfl rfl)
theorem dL_law_2493 : decode cL_law 2493 = .ok (.invokevirtual 294, 3) := dk_182 1 38 (dk_at dksL_law_97 13 rfl rfl)
theorem dL_law_2496 : decode cL_law 2496 = .ok (.if_icmp .eq 331, 3) := dk_159 1 75 (dk_at dksL_law_97 16 rfl rfl)
theorem dL_law_2499 : decode cL_law 2499 = .ok (.iconst 0, 1) := dk_3 (dk_at dksL_law_97 19 rfl rfl)
theorem dL_law_2500 : decode cL_law 2500 = .ok (.ireturn, 1) := dk_172 (dk_at dksL_law_97 20 rfl rfl)
theorem dL_law_2501 : decode cL_law 2501 = .ok (.aload_n 1, 1) := dk_43 (dk_at dksL_law_97 21 rfl rfl)
theorem dL_law_2502 : decode cL_law 2502 = .ok (.aload_n 0, 1) := dk_42 (dk_at dksL_law_97 22 rfl rfl)
theorem dL_law_2503 : decode cL_law 2503 = .ok (.iload 4, 2) := dk_21 4 (dk_at dksL_law_98 0 rfl rfl)
theorem dL_law_2505 : decode cL_law 2505 = .ok (.iconst 1, 1) := dk_4 (dk_at dksL_law_98 2 rfl rfl)
theorem dL_law_2506 : decode cL_law 2506 = .ok (.iadd, 1) := dk_96 (dk_at dksL_law_98 3 rfl rfl)
theorem dL_law_2507 : decode cL_law 2507 = .ok (.iaload, 1) := dk_46 (dk_at dksL_law_98 4 rfl rfl)
theorem dL_law_2508 : decode cL_law 2508 = .ok (.aload_n 3, 1) := dk_45 (dk_at dksL_law_98 5 rfl rfl)
theorem dL_law_2509 : decode cL_law 2509 = .ok (.invokestatic 295, 3) := dk_184 1 39 (dk_at dksL_law_98 6 rfl rfl)
theorem dL_law_2512 : decode cL_law 2512 = .ok (.istore 5, 2) := dk_54 5 (dk_at dksL_law_98 9 rfl rfl)
theorem dL_law_2514 : decode cL_law 2514 = .ok (.aload_n 2, 1) := dk_44 (dk_at dksL_law_98 11 rfl rfl)
theorem dL_law_2515 : decode cL_law 2515 = .ok (.aload_n 0, 1) := dk_42 (dk_at dksL_law_98 12 rfl rfl)
theorem dL_law_2516 : decode cL_law 2516 = .ok (.iload 4, 2) := dk_21 4 (dk_at dksL_law_98 13 rfl rfl)
theorem dL_law_2518 : decode cL_law 2518 = .ok (.iconst 1, 1) := dk_4 (dk_at dksL_law_98 15 rfl rfl)
theorem dL_law_2519 : decode cL_law 2519 = .ok (.iadd, 1) := dk_96 (dk_at dksL_law_98 16 rfl rfl)
theorem dL_law_2520 : decode cL_law 2520 = .ok (.iaload, 1) := dk_46 (dk_at dksL_law_98 17 rfl rfl)
theorem dL_law_2521 : decode cL_law 2521 = .ok (.invokevirtual 297, 3) := dk_182 1 41 (dk_at dksL_law_98 18 rfl rfl)
theorem dL_law_2524 : decode cL_law 2524 = .ok (.istore 6, 2) := dk_54 6 (dk_at dksL_law_98 21 rfl rfl)
theorem dL_law_2526 : decode cL_law 2526 = .ok (.aload_n 2, 1) := dk_44 (dk_at dksL_law_98 23 rfl rfl)
theorem dL_law_2527 : decode cL_law 2527 = .ok (.invokevirtual 143, 3) := dk_182 0 143 (dk_at dksL_law_99 0 rfl rfl)
theorem dL_law_2530 : decode cL_law 2530 = .ok (.iload 5, 2) := dk_21 5 (dk_at dksL_law_99 3 rfl rfl)
theorem dL_law_2532 : decode cL_law 2532 = .ok (.if_icmp .eq 5, 3) := dk_159 0 5 (dk_at dksL_law_99 5 rfl rfl)
theorem dL_law_2535 : decode cL_law 2535 = .ok (.iconst 0, 1) := dk_3 (dk_at dksL_law_99 8 rfl rfl)
theorem dL_law_2536 : decode cL_law 2536 = .ok (.ireturn, 1) := dk_172 (dk_at dksL_law_99 9 rfl rfl)
theorem dL_law_2537 : decode cL_law 2537 = .ok (.iload 5, 2) := dk_21 5 (dk_at dksL_law_99 10 rfl rfl)
theorem dL_law_2539 : decode cL_law 2539 = .ok (.ifCond .ne 15, 3) := dk_154 0 15 (dk_at dksL_law_99 12 rfl rfl)
theorem dL_law_2542 : decode cL_law 2542 = .ok (.aload_n 3, 1) := dk_45 (dk_at dksL_law_99 15 rfl rfl)
theorem dL_law_2543 : decode cL_law 2543 = .ok (.iconst 0, 1) := dk_3 (dk_at dksL_law_99 16 rfl rfl)
theorem dL_law_2544 : decode cL_law 2544 = .ok (.laload, 1) := dk_47 (dk_at dksL_law_99 17 rfl rfl)
theorem dL_law_2545 : decode cL_law 2545 = .ok (.iload 6, 2) := dk_21 6 (dk_at dksL_law_99 18 rfl rfl)
theorem dL_law_2547 : decode cL_law 2547 = .ok (.i2l, 1) := dk_133 (dk_at dksL_law_99 20 rfl rfl)
theorem dL_law_2548 : decode cL_law 2548 = .ok (.lcmp, 1) := dk_148 (dk_at dksL_law_99 21 rfl rfl)
theorem dL_law_2549 : decode cL_law 2549 = .ok (.ifCond .eq 5, 3) := dk_153 0 5 (dk_at dksL_law_100 0 rfl rfl)
theorem dL_law_2552 : decode cL_law 2552 = .ok (.iconst 0, 1) := dk_3 (dk_at dksL_law_100 3 rfl rfl)
theorem dL_law_2553 : decode cL_law 2553 = .ok (.ireturn, 1) := dk_172 (dk_at dksL_law_100 4 rfl rfl)
theorem dL_law_2554 : decode cL_law 2554 = .ok (.goto 273, 3) := dk_167 1 17 (dk_at dksL_law_100 5 rfl rfl)
theorem dL_law_2557 : decode cL_law 2557 = .ok (.aload_n 1, 1) := dk_43 (dk_at dksL_law_100 8 rfl rfl)
theorem dL_law_2558 : decode cL_law 2558 = .ok (.invokevirtual 298, 3) := dk_182 1 42 (dk_at dksL_law_100 9 rfl rfl)
theorem dL_law_2561 : decode cL_law 2561 = .ok (.aload_n 2, 1) := dk_44 (dk_at dksL_law_100 12 rfl rfl)
theorem dL_law_2562 : decode cL_law 2562 = .ok (.invokevirtual 301, 3) := dk_182 1 45 (dk_at dksL_law_100 13 rfl rfl)
theorem dL_law_2565 : decode cL_law 2565 = .ok (.if_icmp .eq 262, 3) := dk_159 1 6 (dk_at dksL_law_100 16 rfl rfl)
theorem dL_law_2568 : decode cL_law 2568 = .ok (.iconst 0, 1) := dk_3 (dk_at dksL_law_100 19 rfl rfl)
theorem dL_law_2569 : decode cL_law 2569 = .ok (.ireturn, 1) := dk_172 (dk_at dksL_law_100 20 rfl rfl)
theorem dL_law_2570 : decode cL_law 2570 = .ok (.aload_n 1, 1) := dk_43 (dk_at dksL_law_100 21 rfl rfl)
theorem dL_law_2571 : decode cL_law 2571 = .ok (.aload_n 0, 1) := dk_42 (dk_at dksL_law_100 22 rfl rfl)
theorem dL_law_2572 : decode cL_law 2572 = .ok (.iload 4, 2) := dk_21 4 (dk_at dksL_law_101 0 rfl rfl)
theorem dL_law_2574 : decode cL_law 2574 = .ok (.iconst 1, 1) := dk_4 (dk_at dksL_law_101 2 rfl rfl)
theorem dL_law_2575 : decode cL_law 2575 = .ok (.iadd, 1) := dk_96 (dk_at dksL_law_101 3 rfl rfl)
theorem dL_law_2576 : decode cL_law 2576 = .ok (.iaload, 1) := dk_46 (dk_at dksL_law_101 4 rfl rfl)
theorem dL_law_2577 : decode cL_law 2577 = .ok (.aload_n 3, 1) := dk_45 (dk_at dksL_law_101 5 rfl rfl)
theorem dL_law_2578 : decode cL_law 2578 = .ok (.invokestatic 302, 3) := dk_184 1 46 (dk_at dksL_law_101 6 rfl rfl)
theorem dL_law_2581 : decode cL_law 2581 = .ok (.istore 5, 2) := dk_54 5 (dk_at dksL_law_101 9 rfl rfl)
theorem dL_law_2583 : decode cL_law 2583 = .ok (.aload_n 2, 1) := dk_44 (dk_at dksL_law_101 11 rfl rfl)
theorem dL_law_2584 : decode cL_law 2584 = .ok (.aload_n 0, 1) := dk_42 (dk_at dksL_law_101 12 rfl rfl)
theorem dL_law_2585 : decode cL_law 2585 = .ok (.iload 4, 2) := dk_21 4 (dk_at dksL_law_101 13 rfl rfl)
theorem dL_law_2587 : decode cL_law 2587 = .ok (.iconst 1, 1) := dk_4 (dk_at dksL_law_101 15 rfl rfl)
theorem dL_law_2588 : decode cL_law 2588 = .ok (.iadd, 1) := dk_96 (dk_at dksL_law_101 16 rfl rfl)
theorem dL_law_2589 : decode cL_law 2589 = .ok (.iaload, 1) := dk_46 (dk_at dksL_law_101 17 rfl rfl)
theorem dL_law_2590 : decode cL_law 2590 = .ok (.invokevirtual 304, 3) := dk_182 1 48 (dk_at dksL_law_101 18 rfl rfl)
theorem dL_law_2593 : decode cL_law 2593 = .ok (.istore 6, 2) := dk_54 6 (dk_at dksL_law_101 21 rfl rfl)
theorem dL_law_2595 : decode cL_law 2595 = .ok (.aload_n 2, 1) := dk_44 (dk_at dksL_law_101 23 rfl rfl)
theorem dL_law_2596 : decode cL_law 2596 = .ok (.invokevirtual 143, 3) := dk_182 0 143 (dk_at dksL_law_102 0 rfl rfl)
theorem dL_law_2599 : decode cL_law 2599 = .ok (.iload 5, 2) := dk_21 5 (dk_at dksL_law_102 3 rfl rfl)
theorem dL_law_2601 : decode cL_law 2601 = .ok (.if_icmp .eq 5, 3) := dk_159 0 5 (dk_at dksL_law_102 5 rfl rfl)
theorem dL_law_2604 : decode cL_law 2604 = .ok (.iconst 0, 1) := dk_3 (dk_at dksL_law_102 8 rfl rfl)
theorem dL_law_2605 : decode cL_law 2605 = .ok (.ireturn, 1) := dk_172 (dk_at dksL_law_102 9 rfl rfl)
theorem dL_law_2606 : decode cL_law 2606 = .ok (.iload 5, 2) := dk_21 5 (dk_at dksL_law_102 10 rfl rfl)
theorem dL_law_2608 : decode cL_law 2608 = .ok (.ifCond .ne 15, 3) := dk_154 0 15 (dk_at dksL_law_102 12 rfl rfl)
theorem dL_law_2611 : decode cL_law 2611 = .ok (.aload_n 3, 1) := dk_45 (dk_at dksL_law_102 15 rfl rfl)
theorem dL_law_2612 : decode cL_law 2612 = .ok (.iconst 0, 1) := dk_3 (dk_at dksL_law_102 16 rfl rfl)
theorem dL_law_2613 : decode cL_law 2613 = .ok (.laload, 1) := dk_47 (dk_at dksL_law_102 17 rfl rfl)
theorem dL_law_2614 : decode cL_law 2614 = .ok (.iload 6, 2) := dk_21 6 (dk_at dksL_law_102 18 rfl rfl)
theorem dL_law_2616 : decode cL_law 2616 = .ok (.i2l, 1) := dk_133 (dk_at dksL_law_102 20 rfl rfl)
theorem dL_law_2617 : decode cL_law 2617 = .ok (.lcmp, 1) := dk_148 (dk_at dksL_law_102 21 rfl rfl)
theorem dL_law_2618 : decode cL_law 2618 = .ok (.ifCond .eq 5, 3) := dk_153 0 5 (dk_at dksL_law_103 0 rfl rfl)
theorem dL_law_2621 : decode cL_law 2621 = .ok (.iconst 0, 1) := dk_3 (dk_at dksL_law_103 3 rfl rfl)
theorem dL_law_2622 : decode cL_law 2622 = .ok (.ireturn, 1) := dk_172 (dk_at dksL_law_103 4 rfl rfl)
theorem dL_law_2623 : decode cL_law 2623 = .ok (.goto 204, 3) := dk_167 0 204 (dk_at dksL_law_103 5 rfl rfl)
theorem dL_law_2626 : decode cL_law 2626 = .ok (.aload_n 1, 1) := dk_43 (dk_at dksL_law_103 8 rfl rfl)
theorem dL_law_2627 : decode cL_law 2627 = .ok (.invokevirtual 305, 3) := dk_182 1 49 (dk_at dksL_law_103 9 rfl rfl)
theorem dL_law_2630 : decode cL_law 2630 = .ok (.aload_n 2, 1) := dk_44 (dk_at dksL_law_103 12 rfl rfl)
theorem dL_law_2631 : decode cL_law 2631 = .ok (.invokevirtual 308, 3) := dk_182 1 52 (dk_at dksL_law_103 13 rfl rfl)
theorem dL_law_2634 : decode cL_law 2634 = .ok (.if_icmp .eq 193, 3) := dk_159 0 193 (dk_at dksL_law_103 16 rfl rfl)
theorem dL_law_2637 : decode cL_law 2637 = .ok (.iconst 0, 1) := dk_3 (dk_at dksL_law_103 19 rfl rfl)
theorem dL_law_2638 : decode cL_law 2638 = .ok (.ireturn, 1) := dk_172 (dk_at dksL_law_103 20 rfl rfl)
theorem dL_law_2639 : decode cL_law 2639 = .ok (.aload_n 1, 1) := dk_43 (dk_at dksL_law_103 21 rfl rfl)
theorem dL_law_2640 : decode cL_law 2640 = .ok (.aload_n 0, 1) := dk_42 (dk_at dksL_law_103 22 rfl rfl)
theorem dL_law_2641 : decode cL_law 2641 = .ok (.iload 4, 2) := dk_21 4 (dk_at dksL_law_104 0 rfl rfl)
theorem dL_law_2643 : decode cL_law 2643 = .ok (.iconst 1, 1) := dk_4 (dk_at dksL_law_104 2 rfl rfl)
theorem dL_law_2644 : decode cL_law 2644 = .ok (.iadd, 1) := dk_96 (dk_at dksL_law_104 3 rfl rfl)
theorem dL_law_2645 : decode cL_law 2645 = .ok (.iaload, 1) := dk_46 (dk_at dksL_law_104 4 rfl rfl)
theorem dL_law_2646 : decode cL_law 2646 = .ok (.ifCond .eq 7, 3) := dk_153 0 7 (dk_at dksL_law_104 5 rfl rfl)
theorem dL_law_2649 : decode cL_law 2649 = .ok (.iconst 1, 1) := dk_4 (dk_at dksL_law_104 8 rfl rfl)
theorem dL_law_2650 : decode cL_law 2650 = .ok (.goto 4, 3) := dk_167 0 4 (dk_at dksL_law_104 9 rfl rfl)
theorem dL_law_2653 : decode cL_law 2653 = .ok (.iconst 0, 1) := dk_3 (dk_at dksL_law_104 12 rfl rfl)
theorem dL_law_2654 : decode cL_law 2654 = .ok (.invokevirtual 309, 3) := dk_182 1 53 (dk_at dksL_law_104 13 rfl rfl)
theorem dL_law_2657 : decode cL_law 2657 = .ok (.aload_n 2, 1) := dk_44 (dk_at dksL_law_104 16 rfl rfl)
theorem dL_law_2658 : decode cL_law 2658 = .ok (.aload_n 0, 1) := dk_42 (dk_at dksL_law_104 17 rfl rfl)
theorem dL_law_2659 : decode cL_law 2659 = .ok (.iload 4, 2) := dk_21 4 (dk_at dksL_law_104 18 rfl rfl)
theorem dL_law_2661 : decode cL_law 2661 = .ok (.iconst 1, 1) := dk_4 (dk_at dksL_law_104 20 rfl rfl)
theorem dL_law_2662 : decode cL_law 2662 = .ok (.iadd, 1) := dk_96 (dk_at dksL_law_104 21 rfl rfl)
theorem dL_law_2663 : decode cL_law 2663 = .ok (.iaload, 1) := dk_46 (dk_at dksL_law_104 22 rfl rfl)
theorem dL_law_2664 : decode cL_law 2664 = .ok (.ifCond .eq 7, 3) := dk_153 0 7 (dk_at dksL_law_105 0 rfl rfl)
theorem dL_law_2667 : decode cL_law 2667 = .ok (.iconst 1, 1) := dk_4 (dk_at dksL_law_105 3 rfl rfl)
theorem dL_law_2668 : decode cL_law 2668 = .ok (.goto 4, 3) := dk_167 0 4 (dk_at dksL_law_105 4 rfl rfl)
theorem dL_law_2671 : decode cL_law 2671 = .ok (.iconst 0, 1) := dk_3 (dk_at dksL_law_105 7 rfl rfl)
theorem dL_law_2672 : decode cL_law 2672 = .ok (.invokevirtual 312, 3) := dk_182 1 56 (dk_at dksL_law_105 8 rfl rfl)
theorem dL_law_2675 : decode cL_law 2675 = .ok (.if_icmp .eq 152, 3) := dk_159 0 152 (dk_at dksL_law_105 11 rfl rfl)
theorem dL_law_2678 : decode cL_law 2678 = .ok (.iconst 0, 1) := dk_3 (dk_at dksL_law_105 14 rfl rfl)
theorem dL_law_2679 : decode cL_law 2679 = .ok (.ireturn, 1) := dk_172 (dk_at dksL_law_105 15 rfl rfl)
theorem dL_law_2680 : decode cL_law 2680 = .ok (.aload_n 1, 1) := dk_43 (dk_at dksL_law_105 16 rfl rfl)
theorem dL_law_2681 : decode cL_law 2681 = .ok (.invokevirtual 313, 3) := dk_182 1 57 (dk_at dksL_law_105 17 rfl rfl)
theorem dL_law_2684 : decode cL_law 2684 = .ok (.aload_n 2, 1) := dk_44 (dk_at dksL_law_105 20 rfl rfl)
theorem dL_law_2685 : decode cL_law 2685 = .ok (.invokevirtual 316, 3) := dk_182 1 60 (dk_at dksL_law_105 21 rfl rfl)
theorem dL_law_2688 : decode cL_law 2688 = .ok (.if_icmp .eq 139, 3) := dk_159 0 139 (dk_at dksL_law_106 0 rfl rfl)
theorem dL_law_2691 : decode cL_law 2691 = .ok (.iconst 0, 1) := dk_3 (dk_at dksL_law_106 3 rfl rfl)
theorem dL_law_2692 : decode cL_law 2692 = .ok (.ireturn, 1) := dk_172 (dk_at dksL_law_106 4 rfl rfl)
theorem dL_law_2693 : decode cL_law 2693 = .ok (.aload_n 1, 1) := dk_43 (dk_at dksL_law_106 5 rfl rfl)
theorem dL_law_2694 : decode cL_law 2694 = .ok (.invokevirtual 317, 3) := dk_182 1 61 (dk_at dksL_law_106 6 rfl rfl)
theorem dL_law_2697 : decode cL_law 2697 = .ok (.aload_n 2, 1) := dk_44 (dk_at dksL_law_106 9 rfl rfl)
theorem dL_law_2698 : decode cL_law 2698 = .ok (.invokevirtual 320, 3) := dk_182 1 64 (dk_at dksL_law_106 10 rfl rfl)
theorem dL_law_2701 : decode cL_law 2701 = .ok (.if_icmp .eq 126, 3) := dk_159 0 126 (dk_at dksL_law_106 13 rfl rfl)
theorem dL_law_2704 : decode cL_law 2704 = .ok (.iconst 0, 1) := dk_3 (dk_at dksL_law_106 16 rfl rfl)
theorem dL_law_2705 : decode cL_law 2705 = .ok (.ireturn, 1) := dk_172 (dk_at dksL_law_106 17 rfl rfl)
theorem dL_law_2706 : decode cL_law 2706 = .ok (.aload_n 1, 1) := dk_43 (dk_at dksL_law_106 18 rfl rfl)
theorem dL_law_2707 : decode cL_law 2707 = .ok (.invokevirtual 321, 3) := dk_182 1 65 (dk_at dksL_law_106 19 rfl rfl)
theorem dL_law_2710 : decode cL_law 2710 = .ok (.aload_n 2, 1) := dk_44 (dk_at dksL_law_106 22 rfl rfl)
theorem dL_law_2711 : decode cL_law 2711 = .ok (.invokevirtual 324, 3) := dk_182 1 68 (dk_at dksL_law_107 0 rfl rfl)
theorem dL_law_2714 : decode cL_law 2714 = .ok (.if_icmp .eq 113, 3) := dk_159 0 113 (dk_at dksL_law_107 3 rfl rfl)
theorem dL_law_2717 : decode cL_law 2717 = .ok (.iconst 0, 1) := dk_3 (dk_at dksL_law_107 6 rfl rfl)
theorem dL_law_2718 : decode cL_law 2718 = .ok (.ireturn, 1) := dk_172 (dk_at dksL_law_107 7 rfl rfl)
theorem dL_law_2719 : decode cL_law 2719 = .ok (.aload_n 1, 1) := dk_43 (dk_at dksL_law_107 8 rfl rfl)
theorem dL_law_2720 : decode cL_law 2720 = .ok (.invokevirtual 325, 3) := dk_182 1 69 (dk_at dksL_law_107 9 rfl rfl)
theorem dL_law_2723 : decode cL_law 2723 = .ok (.aload_n 2, 1) := dk_44 (dk_at dksL_law_107 12 rfl rfl)
theorem dL_law_2724 : decode cL_law 2724 = .ok (.invokevirtual 328, 3) := dk_182 1 72 (dk_at dksL_law_107 13 rfl rfl)
theorem dL_law_2727 : decode cL_law 2727 = .ok (.if_icmp .eq 100, 3) := dk_159 0 100 (dk_at dksL_law_107 16 rfl rfl)
theorem dL_law_2730 : decode cL_law 2730 = .ok (.iconst 0, 1) := dk_3 (dk_at dksL_law_107 19 rfl rfl)
theorem dL_law_2731 : decode cL_law 2731 = .ok (.ireturn, 1) := dk_172 (dk_at dksL_law_107 20 rfl rfl)
theorem dL_law_2732 : decode cL_law 2732 = .ok (.aload_n 1, 1) := dk_43 (dk_at dksL_law_107 21 rfl rfl)
theorem dL_law_2733 : decode cL_law 2733 = .ok (.invokevirtual 329, 3) := dk_182 1 73 (dk_at dksL_law_108 0 rfl rfl)
theorem dL_law_2736 : decode cL_law 2736 = .ok (.aload_n 2, 1) := dk_44 (dk_at dksL_law_108 3 rfl rfl)
theorem dL_law_2737 : decode cL_law 2737 = .ok (.invokevirtual 332, 3) := dk_182 1 76 (dk_at dksL_law_108 4 rfl rfl)
theorem dL_law_2740 : decode cL_law 2740 = .ok (.if_icmp .eq 87, 3) := dk_159 0 87 (dk_at dksL_law_108 7 rfl rfl)
theorem dL_law_2743 : decode cL_law 2743 = .ok (.iconst 0, 1) := dk_3 (dk_at dksL_law_108 10 rfl rfl)
theorem dL_law_2744 : decode cL_law 2744 = .ok (.ireturn, 1) := dk_172 (dk_at dksL_law_108 11 rfl rfl)
theorem dL_law_2745 : decode cL_law 2745 = .ok (.aload_n 1, 1) := dk_43 (dk_at dksL_law_108 12 rfl rfl)
theorem dL_law_2746 : decode cL_law 2746 = .ok (.invokevirtual 333, 3) := dk_182 1 77 (dk_at dksL_law_108 13 rfl rfl)
theorem dL_law_2749 : decode cL_law 2749 = .ok (.dstore 5, 2) := dk_57 5 (dk_at dksL_law_108 16 rfl rfl)
theorem dL_law_2751 : decode cL_law 2751 = .ok (.aload_n 2, 1) := dk_44 (dk_at dksL_law_108 18 rfl rfl)
theorem dL_law_2752 : decode cL_law 2752 = .ok (.invokevirtual 337, 3) := dk_182 1 81 (dk_at dksL_law_108 19 rfl rfl)
theorem dL_law_2755 : decode cL_law 2755 = .ok (.dstore 7, 2) := dk_57 7 (dk_at dksL_law_108 22 rfl rfl)
theorem dL_law_2757 : decode cL_law 2757 = .ok (.dload 5, 2) := dk_24 5 (dk_at dksL_law_109 0 rfl rfl)
theorem dL_law_2759 : decode cL_law 2759 = .ok (.dload 7, 2) := dk_24 7 (dk_at dksL_law_109 2 rfl rfl)
theorem dL_law_2761 : decode cL_law 2761 = .ok (.dcmp .l, 1) := dk_151 (dk_at dksL_law_109 4 rfl rfl)
theorem dL_law_2762 : decode cL_law 2762 = .ok (.ifCond .eq 21, 3) := dk_153 0 21 (dk_at dksL_law_109 5 rfl rfl)
theorem dL_law_2765 : decode cL_law 2765 = .ok (.dload 5, 2) := dk_24 5 (dk_at dksL_law_109 8 rfl rfl)
theorem dL_law_2767 : decode cL_law 2767 = .ok (.dload 5, 2) := dk_24 5 (dk_at dksL_law_109 10 rfl rfl)
theorem dL_law_2769 : decode cL_law 2769 = .ok (.dcmp .l, 1) := dk_151 (dk_at dksL_law_109 12 rfl rfl)
theorem dL_law_2770 : decode cL_law 2770 = .ok (.ifCond .eq 11, 3) := dk_153 0 11 (dk_at dksL_law_109 13 rfl rfl)
theorem dL_law_2773 : decode cL_law 2773 = .ok (.dload 7, 2) := dk_24 7 (dk_at dksL_law_109 16 rfl rfl)
theorem dL_law_2775 : decode cL_law 2775 = .ok (.dload 7, 2) := dk_24 7 (dk_at dksL_law_109 18 rfl rfl)
theorem dL_law_2777 : decode cL_law 2777 = .ok (.dcmp .l, 1) := dk_151 (dk_at dksL_law_109 20 rfl rfl)
theorem dL_law_2778 : decode cL_law 2778 = .ok (.ifCond .ne 5, 3) := dk_154 0 5 (dk_at dksL_law_109 21 rfl rfl)
theorem dL_law_2781 : decode cL_law 2781 = .ok (.iconst 0, 1) := dk_3 (dk_at dksL_law_110 0 rfl rfl)
theorem dL_law_2782 : decode cL_law 2782 = .ok (.ireturn, 1) := dk_172 (dk_at dksL_law_110 1 rfl rfl)
theorem dL_law_2783 : decode cL_law 2783 = .ok (.goto 44, 3) := dk_167 0 44 (dk_at dksL_law_110 2 rfl rfl)
theorem dL_law_2786 : decode cL_law 2786 = .ok (.aload_n 1, 1) := dk_43 (dk_at dksL_law_110 5 rfl rfl)
theorem dL_law_2787 : decode cL_law 2787 = .ok (.invokevirtual 338, 3) := dk_182 1 82 (dk_at dksL_law_110 6 rfl rfl)
theorem dL_law_2790 : decode cL_law 2790 = .ok (.dstore 5, 2) := dk_57 5 (dk_at dksL_law_110 9 rfl rfl)
theorem dL_law_2792 : decode cL_law 2792 = .ok (.aload_n 2, 1) := dk_44 (dk_at dksL_law_110 11 rfl rfl)
theorem dL_law_2793 : decode cL_law 2793 = .ok (.invokevirtual 341, 3) := dk_182 1 85 (dk_at dksL_law_110 12 rfl rfl)
theorem dL_law_2796 : decode cL_law 2796 = .ok (.dstore 7, 2) := dk_57 7 (dk_at dksL_law_110 15 rfl rfl)
theorem dL_law_2798 : decode cL_law 2798 = .ok (.dload 5, 2) := dk_24 5 (dk_at dksL_law_110 17 rfl rfl)
theorem dL_law_2800 : decode cL_law 2800 = .ok (.dload 7, 2) := dk_24 7 (dk_at dksL_law_110 19 rfl rfl)
theorem dL_law_2802 : decode cL_law 2802 = .ok (.dcmp .l, 1) := dk_151 (dk_at dksL_law_110 21 rfl rfl)
theorem dL_law_2803 : decode cL_law 2803 = .ok (.ifCond .eq 21, 3) := dk_153 0 21 (dk_at dksL_law_111 0 rfl rfl)
theorem dL_law_2806 : decode cL_law 2806 = .ok (.dload 5, 2) := dk_24 5 (dk_at dksL_law_111 3 rfl rfl)
theorem dL_law_2808 : decode cL_law 2808 = .ok (.dload 5, 2) := dk_24 5 (dk_at dksL_law_111 5 rfl rfl)
theorem dL_law_2810 : decode cL_law 2810 = .ok (.dcmp .l, 1) := dk_151 (dk_at dksL_law_111 7 rfl rfl)
theorem dL_law_2811 : decode cL_law 2811 = .ok (.ifCond .eq 11, 3) := dk_153 0 11 (dk_at dksL_law_111 8 rfl rfl)
theorem dL_law_2814 : decode cL_law 2814 = .ok (.dload 7, 2) := dk_24 7 (dk_at dksL_law_111 11 rfl rfl)
theorem dL_law_2816 : decode cL_law 2816 = .ok (.dload 7, 2) := dk_24 7 (dk_at dksL_law_111 13 rfl rfl)
theorem dL_law_2818 : decode cL_law 2818 = .ok (.dcmp .l, 1) := dk_151 (dk_at dksL_law_111 15 rfl rfl)
theorem dL_law_2819 : decode cL_law 2819 = .ok (.ifCond .ne 5, 3) := dk_154 0 5 (dk_at dksL_law_111 16 rfl rfl)
theorem dL_law_2822 : decode cL_law 2822 = .ok (.iconst 0, 1) := dk_3 (dk_at dksL_law_111 19 rfl rfl)
theorem dL_law_2823 : decode cL_law 2823 = .ok (.ireturn, 1) := dk_172 (dk_at dksL_law_111 20 rfl rfl)
theorem dL_law_2824 : decode cL_law 2824 = .ok (.goto 3, 3) := dk_167 0 3 (dk_at dksL_law_111 21 rfl rfl)
theorem dL_law_2827 : decode cL_law 2827 = .ok (.iinc 4 3, 3) := dk_132 4 3 (dk_at dksL_law_112 0 rfl rfl)
theorem dL_law_2830 : decode cL_law 2830 = .ok (.goto (-2807), 3) := dk_167 245 9 (dk_at dksL_law_112 3 rfl rfl)
theorem dL_law_2833 : decode cL_law 2833 = .ok (.iconst 1, 1) := dk_4 (dk_at dksL_law_112 6 rfl rfl)
theorem dL_law_2834 : decode cL_law 2834 = .ok (.ireturn, 1) := dk_172 (dk_at dksL_law_112 7 rfl rfl)
