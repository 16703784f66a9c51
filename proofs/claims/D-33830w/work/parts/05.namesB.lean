/-! MaltDrums -/
set_option maxRecDepth 100000
def RX1 : String := "MaltDrums"
def TX1 : u_T := fun k => match k with
  | 0 => ("MaltDrums", "house", "LMaltDrums$House;", false)
  | 1 => ("MaltDrums", "snapshot", "LMaltDrums$House;", false)
  | 2 => ("MaltDrums", "saved", "Ljava/util/ArrayDeque;", true)
  | _ => ("MaltDrums", "text", "Ljava/lang/StringBuilder;", true)
def tyX1 : Nat → FieldType := fun k => match k with
  | 0 => .object "MaltDrums$House"
  | 1 => .object "MaltDrums$House"
  | 2 => .object "java/util/ArrayDeque"
  | _ => .object "java/lang/StringBuilder"
abbrev wsX10 : List Cond := u_ws RX1 TX1 4
theorem nmX1 : ∀ a, a < 4 → ∀ b, b < 4 → a ≠ b → (TX1 a).2.1 ≠ (TX1 b).2.1 := by decide +kernel
theorem tyX1_ok : ∀ k, k < 4 → parseFieldDescriptor (TX1 k).2.2.1 = some (tyX1 k) := by decide +kernel
abbrev cX1_init : ByteArray := prog_1_method_5_code
def yX1_init : MethodName := ⟨RX1, "<init>", "()V"⟩
def dkwX1_init_1 : List UInt8 := [181, 0, 36, 42, 187, 0, 40, 89, 183, 0, 42, 181, 0, 43, 177]
abbrev dktX1_init_1 : List UInt8 := dkwX1_init_1 ++ []
def dkwX1_init_0 : List UInt8 := [42, 183, 0, 19, 42, 187, 0, 24, 89, 183, 0, 26, 181, 0, 27, 42, 187, 0, 33, 89, 183, 0, 35]
abbrev dktX1_init_0 : List UInt8 := dkwX1_init_0 ++ dktX1_init_1
theorem dksX1_init_0 : cX1_init.data.toList.drop 0 = dktX1_init_0 := by decide +kernel
theorem dksX1_init_1 : cX1_init.data.toList.drop 23 = dktX1_init_1 := dk_seg dksX1_init_0 23 rfl rfl
theorem dX1_init_0 : decode cX1_init 0 = .ok (.aload_n 0, 1) := dk_42 (dk_at dksX1_init_0 0 rfl rfl)
theorem dX1_init_1 : decode cX1_init 1 = .ok (.invokespecial 19, 3) := dk_183 0 19 (dk_at dksX1_init_0 1 rfl rfl)
theorem dX1_init_4 : decode cX1_init 4 = .ok (.aload_n 0, 1) := dk_42 (dk_at dksX1_init_0 4 rfl rfl)
theorem dX1_init_5 : decode cX1_init 5 = .ok (.new 24, 3) := dk_187 0 24 (dk_at dksX1_init_0 5 rfl rfl)
theorem dX1_init_8 : decode cX1_init 8 = .ok (.dup, 1) := dk_89 (dk_at dksX1_init_0 8 rfl rfl)
theorem dX1_init_9 : decode cX1_init 9 = .ok (.invokespecial 26, 3) := dk_183 0 26 (dk_at dksX1_init_0 9 rfl rfl)
theorem dX1_init_12 : decode cX1_init 12 = .ok (.putfield 27, 3) := dk_181 0 27 (dk_at dksX1_init_0 12 rfl rfl)
theorem dX1_init_15 : decode cX1_init 15 = .ok (.aload_n 0, 1) := dk_42 (dk_at dksX1_init_0 15 rfl rfl)
theorem dX1_init_16 : decode cX1_init 16 = .ok (.new 33, 3) := dk_187 0 33 (dk_at dksX1_init_0 16 rfl rfl)
theorem dX1_init_19 : decode cX1_init 19 = .ok (.dup, 1) := dk_89 (dk_at dksX1_init_0 19 rfl rfl)
theorem dX1_init_20 : decode cX1_init 20 = .ok (.invokespecial 35, 3) := dk_183 0 35 (dk_at dksX1_init_0 20 rfl rfl)
theorem dX1_init_23 : decode cX1_init 23 = .ok (.putfield 36, 3) := dk_181 0 36 (dk_at dksX1_init_1 0 rfl rfl)
theorem dX1_init_26 : decode cX1_init 26 = .ok (.aload_n 0, 1) := dk_42 (dk_at dksX1_init_1 3 rfl rfl)
theorem dX1_init_27 : decode cX1_init 27 = .ok (.new 40, 3) := dk_187 0 40 (dk_at dksX1_init_1 4 rfl rfl)
theorem dX1_init_30 : decode cX1_init 30 = .ok (.dup, 1) := dk_89 (dk_at dksX1_init_1 7 rfl rfl)
theorem dX1_init_31 : decode cX1_init 31 = .ok (.invokespecial 42, 3) := dk_183 0 42 (dk_at dksX1_init_1 8 rfl rfl)
theorem dX1_init_34 : decode cX1_init 34 = .ok (.putfield 43, 3) := dk_181 0 43 (dk_at dksX1_init_1 11 rfl rfl)
theorem dX1_init_37 : decode cX1_init 37 = .ok (.return_, 1) := dk_177 (dk_at dksX1_init_1 14 rfl rfl)
abbrev cX1_clearText : ByteArray := prog_1_method_24_code
def yX1_clearText : MethodName := ⟨RX1, "clearText", "()I"⟩
def dkwX1_clearText_0 : List UInt8 := [42, 180, 0, 43, 182, 0, 170, 60, 42, 180, 0, 43, 3, 182, 0, 177, 27, 172]
abbrev dktX1_clearText_0 : List UInt8 := dkwX1_clearText_0 ++ []
theorem dksX1_clearText_0 : cX1_clearText.data.toList.drop 0 = dktX1_clearText_0 := by decide +kernel
theorem dX1_clearText_0 : decode cX1_clearText 0 = .ok (.aload_n 0, 1) := dk_42 (dk_at dksX1_clearText_0 0 rfl rfl)
theorem dX1_clearText_1 : decode cX1_clearText 1 = .ok (.getfield 43, 3) := dk_180 0 43 (dk_at dksX1_clearText_0 1 rfl rfl)
theorem dX1_clearText_4 : decode cX1_clearText 4 = .ok (.invokevirtual 170, 3) := dk_182 0 170 (dk_at dksX1_clearText_0 4 rfl rfl)
theorem dX1_clearText_7 : decode cX1_clearText 7 = .ok (.istore_n 1, 1) := dk_60 (dk_at dksX1_clearText_0 7 rfl rfl)
theorem dX1_clearText_8 : decode cX1_clearText 8 = .ok (.aload_n 0, 1) := dk_42 (dk_at dksX1_clearText_0 8 rfl rfl)
theorem dX1_clearText_9 : decode cX1_clearText 9 = .ok (.getfield 43, 3) := dk_180 0 43 (dk_at dksX1_clearText_0 9 rfl rfl)
theorem dX1_clearText_12 : decode cX1_clearText 12 = .ok (.iconst 0, 1) := dk_3 (dk_at dksX1_clearText_0 12 rfl rfl)
theorem dX1_clearText_13 : decode cX1_clearText 13 = .ok (.invokevirtual 177, 3) := dk_182 0 177 (dk_at dksX1_clearText_0 13 rfl rfl)
theorem dX1_clearText_16 : decode cX1_clearText 16 = .ok (.iload_n 1, 1) := dk_27 (dk_at dksX1_clearText_0 16 rfl rfl)
theorem dX1_clearText_17 : decode cX1_clearText 17 = .ok (.ireturn, 1) := dk_172 (dk_at dksX1_clearText_0 17 rfl rfl)
abbrev cX1_fault : ByteArray := prog_1_method_25_code
def yX1_fault : MethodName := ⟨RX1, "fault", "()I"⟩
def dkwX1_fault_1 : List UInt8 := [172]
abbrev dktX1_fault_1 : List UInt8 := dkwX1_fault_1 ++ []
def dkwX1_fault_0 : List UInt8 := [187, 0, 180, 89, 42, 183, 0, 182, 76, 43, 182, 0, 185, 87, 167, 0, 9, 77, 43, 180, 0, 191, 172, 2]
abbrev dktX1_fault_0 : List UInt8 := dkwX1_fault_0 ++ dktX1_fault_1
theorem dksX1_fault_0 : cX1_fault.data.toList.drop 0 = dktX1_fault_0 := by decide +kernel
theorem dksX1_fault_1 : cX1_fault.data.toList.drop 24 = dktX1_fault_1 := dk_seg dksX1_fault_0 24 rfl rfl
theorem dX1_fault_0 : decode cX1_fault 0 = .ok (.new 180, 3) := dk_187 0 180 (dk_at dksX1_fault_0 0 rfl rfl)
theorem dX1_fault_3 : decode cX1_fault 3 = .ok (.dup, 1) := dk_89 (dk_at dksX1_fault_0 3 rfl rfl)
theorem dX1_fault_4 : decode cX1_fault 4 = .ok (.aload_n 0, 1) := dk_42 (dk_at dksX1_fault_0 4 rfl rfl)
theorem dX1_fault_5 : decode cX1_fault 5 = .ok (.invokespecial 182, 3) := dk_183 0 182 (dk_at dksX1_fault_0 5 rfl rfl)
theorem dX1_fault_8 : decode cX1_fault 8 = .ok (.astore_n 1, 1) := dk_76 (dk_at dksX1_fault_0 8 rfl rfl)
theorem dX1_fault_9 : decode cX1_fault 9 = .ok (.aload_n 1, 1) := dk_43 (dk_at dksX1_fault_0 9 rfl rfl)
theorem dX1_fault_10 : decode cX1_fault 10 = .ok (.invokevirtual 185, 3) := dk_182 0 185 (dk_at dksX1_fault_0 10 rfl rfl)
theorem dX1_fault_13 : decode cX1_fault 13 = .ok (.pop, 1) := dk_87 (dk_at dksX1_fault_0 13 rfl rfl)
theorem dX1_fault_14 : decode cX1_fault 14 = .ok (.goto 9, 3) := dk_167 0 9 (dk_at dksX1_fault_0 14 rfl rfl)
theorem dX1_fault_17 : decode cX1_fault 17 = .ok (.astore_n 2, 1) := dk_77 (dk_at dksX1_fault_0 17 rfl rfl)
theorem dX1_fault_18 : decode cX1_fault 18 = .ok (.aload_n 1, 1) := dk_43 (dk_at dksX1_fault_0 18 rfl rfl)
theorem dX1_fault_19 : decode cX1_fault 19 = .ok (.getfield 191, 3) := dk_180 0 191 (dk_at dksX1_fault_0 19 rfl rfl)
theorem dX1_fault_22 : decode cX1_fault 22 = .ok (.ireturn, 1) := dk_172 (dk_at dksX1_fault_0 22 rfl rfl)
theorem dX1_fault_23 : decode cX1_fault 23 = .ok (.iconst (-1), 1) := dk_2 (dk_at dksX1_fault_0 23 rfl rfl)
theorem dX1_fault_24 : decode cX1_fault 24 = .ok (.ireturn, 1) := dk_172 (dk_at dksX1_fault_1 0 rfl rfl)
abbrev cX1_isWithin : ByteArray := prog_1_method_1_code
def yX1_isWithin : MethodName := ⟨RX1, "isWithin", "(III)Z"⟩
def dkwX1_isWithin_0 : List UInt8 := [26, 27, 161, 0, 12, 26, 28, 163, 0, 7, 4, 167, 0, 4, 3, 172]
abbrev dktX1_isWithin_0 : List UInt8 := dkwX1_isWithin_0 ++ []
theorem dksX1_isWithin_0 : cX1_isWithin.data.toList.drop 0 = dktX1_isWithin_0 := by decide +kernel
theorem dX1_isWithin_0 : decode cX1_isWithin 0 = .ok (.iload_n 0, 1) := dk_26 (dk_at dksX1_isWithin_0 0 rfl rfl)
theorem dX1_isWithin_1 : decode cX1_isWithin 1 = .ok (.iload_n 1, 1) := dk_27 (dk_at dksX1_isWithin_0 1 rfl rfl)
theorem dX1_isWithin_2 : decode cX1_isWithin 2 = .ok (.if_icmp .lt 12, 3) := dk_161 0 12 (dk_at dksX1_isWithin_0 2 rfl rfl)
theorem dX1_isWithin_5 : decode cX1_isWithin 5 = .ok (.iload_n 0, 1) := dk_26 (dk_at dksX1_isWithin_0 5 rfl rfl)
theorem dX1_isWithin_6 : decode cX1_isWithin 6 = .ok (.iload_n 2, 1) := dk_28 (dk_at dksX1_isWithin_0 6 rfl rfl)
theorem dX1_isWithin_7 : decode cX1_isWithin 7 = .ok (.if_icmp .gt 7, 3) := dk_163 0 7 (dk_at dksX1_isWithin_0 7 rfl rfl)
theorem dX1_isWithin_10 : decode cX1_isWithin 10 = .ok (.iconst 1, 1) := dk_4 (dk_at dksX1_isWithin_0 10 rfl rfl)
theorem dX1_isWithin_11 : decode cX1_isWithin 11 = .ok (.goto 4, 3) := dk_167 0 4 (dk_at dksX1_isWithin_0 11 rfl rfl)
theorem dX1_isWithin_14 : decode cX1_isWithin 14 = .ok (.iconst 0, 1) := dk_3 (dk_at dksX1_isWithin_0 14 rfl rfl)
theorem dX1_isWithin_15 : decode cX1_isWithin 15 = .ok (.ireturn, 1) := dk_172 (dk_at dksX1_isWithin_0 15 rfl rfl)
abbrev cX1_savedStates : ByteArray := prog_1_method_30_code
def yX1_savedStates : MethodName := ⟨RX1, "savedStates", "()I"⟩
def dkwX1_savedStates_0 : List UInt8 := [42, 180, 0, 36, 182, 0, 47, 172]
abbrev dktX1_savedStates_0 : List UInt8 := dkwX1_savedStates_0 ++ []
theorem dksX1_savedStates_0 : cX1_savedStates.data.toList.drop 0 = dktX1_savedStates_0 := by decide +kernel
theorem dX1_savedStates_0 : decode cX1_savedStates 0 = .ok (.aload_n 0, 1) := dk_42 (dk_at dksX1_savedStates_0 0 rfl rfl)
theorem dX1_savedStates_1 : decode cX1_savedStates 1 = .ok (.getfield 36, 3) := dk_180 0 36 (dk_at dksX1_savedStates_0 1 rfl rfl)
theorem dX1_savedStates_4 : decode cX1_savedStates 4 = .ok (.invokevirtual 47, 3) := dk_182 0 47 (dk_at dksX1_savedStates_0 4 rfl rfl)
theorem dX1_savedStates_7 : decode cX1_savedStates 7 = .ok (.ireturn, 1) := dk_172 (dk_at dksX1_savedStates_0 7 rfl rfl)
abbrev cX1_keep : ByteArray := prog_1_method_31_code
def yX1_keep : MethodName := ⟨RX1, "keep", "()I"⟩
def dkwX1_keep_0 : List UInt8 := [42, 187, 0, 24, 89, 42, 180, 0, 27, 183, 0, 59, 181, 1, 1, 42, 180, 0, 27, 180, 1, 4, 172]
abbrev dktX1_keep_0 : List UInt8 := dkwX1_keep_0 ++ []
theorem dksX1_keep_0 : cX1_keep.data.toList.drop 0 = dktX1_keep_0 := by decide +kernel
theorem dX1_keep_0 : decode cX1_keep 0 = .ok (.aload_n 0, 1) := dk_42 (dk_at dksX1_keep_0 0 rfl rfl)
theorem dX1_keep_1 : decode cX1_keep 1 = .ok (.new 24, 3) := dk_187 0 24 (dk_at dksX1_keep_0 1 rfl rfl)
theorem dX1_keep_4 : decode cX1_keep 4 = .ok (.dup, 1) := dk_89 (dk_at dksX1_keep_0 4 rfl rfl)
theorem dX1_keep_5 : decode cX1_keep 5 = .ok (.aload_n 0, 1) := dk_42 (dk_at dksX1_keep_0 5 rfl rfl)
theorem dX1_keep_6 : decode cX1_keep 6 = .ok (.getfield 27, 3) := dk_180 0 27 (dk_at dksX1_keep_0 6 rfl rfl)
theorem dX1_keep_9 : decode cX1_keep 9 = .ok (.invokespecial 59, 3) := dk_183 0 59 (dk_at dksX1_keep_0 9 rfl rfl)
theorem dX1_keep_12 : decode cX1_keep 12 = .ok (.putfield 257, 3) := dk_181 1 1 (dk_at dksX1_keep_0 12 rfl rfl)
theorem dX1_keep_15 : decode cX1_keep 15 = .ok (.aload_n 0, 1) := dk_42 (dk_at dksX1_keep_0 15 rfl rfl)
theorem dX1_keep_16 : decode cX1_keep 16 = .ok (.getfield 27, 3) := dk_180 0 27 (dk_at dksX1_keep_0 16 rfl rfl)
theorem dX1_keep_19 : decode cX1_keep 19 = .ok (.getfield 260, 3) := dk_180 1 4 (dk_at dksX1_keep_0 19 rfl rfl)
theorem dX1_keep_22 : decode cX1_keep 22 = .ok (.ireturn, 1) := dk_172 (dk_at dksX1_keep_0 22 rfl rfl)
abbrev cX1_lots : ByteArray := prog_1_method_33_code
def yX1_lots : MethodName := ⟨RX1, "lots", "()I"⟩
def dkwX1_lots_0 : List UInt8 := [42, 180, 0, 27, 180, 0, 77, 172]
abbrev dktX1_lots_0 : List UInt8 := dkwX1_lots_0 ++ []
theorem dksX1_lots_0 : cX1_lots.data.toList.drop 0 = dktX1_lots_0 := by decide +kernel
theorem dX1_lots_0 : decode cX1_lots 0 = .ok (.aload_n 0, 1) := dk_42 (dk_at dksX1_lots_0 0 rfl rfl)
theorem dX1_lots_1 : decode cX1_lots 1 = .ok (.getfield 27, 3) := dk_180 0 27 (dk_at dksX1_lots_0 1 rfl rfl)
theorem dX1_lots_4 : decode cX1_lots 4 = .ok (.getfield 77, 3) := dk_180 0 77 (dk_at dksX1_lots_0 4 rfl rfl)
theorem dX1_lots_7 : decode cX1_lots 7 = .ok (.ireturn, 1) := dk_172 (dk_at dksX1_lots_0 7 rfl rfl)
abbrev cX1_isLit : ByteArray := prog_1_method_48_code
def yX1_isLit : MethodName := ⟨RX1, "isLit", "()Z"⟩
def dkwX1_isLit_0 : List UInt8 := [42, 180, 0, 27, 180, 0, 154, 172]
abbrev dktX1_isLit_0 : List UInt8 := dkwX1_isLit_0 ++ []
theorem dksX1_isLit_0 : cX1_isLit.data.toList.drop 0 = dktX1_isLit_0 := by decide +kernel
theorem dX1_isLit_0 : decode cX1_isLit 0 = .ok (.aload_n 0, 1) := dk_42 (dk_at dksX1_isLit_0 0 rfl rfl)
theorem dX1_isLit_1 : decode cX1_isLit 1 = .ok (.getfield 27, 3) := dk_180 0 27 (dk_at dksX1_isLit_0 1 rfl rfl)
theorem dX1_isLit_4 : decode cX1_isLit 4 = .ok (.getfield 154, 3) := dk_180 0 154 (dk_at dksX1_isLit_0 4 rfl rfl)
theorem dX1_isLit_7 : decode cX1_isLit 7 = .ok (.ireturn, 1) := dk_172 (dk_at dksX1_isLit_0 7 rfl rfl)
abbrev cX1_litFor : ByteArray := prog_1_method_49_code
def yX1_litFor : MethodName := ⟨RX1, "litFor", "()I"⟩
def dkwX1_litFor_0 : List UInt8 := [42, 180, 0, 27, 180, 1, 51, 172]
abbrev dktX1_litFor_0 : List UInt8 := dkwX1_litFor_0 ++ []
theorem dksX1_litFor_0 : cX1_litFor.data.toList.drop 0 = dktX1_litFor_0 := by decide +kernel
theorem dX1_litFor_0 : decode cX1_litFor 0 = .ok (.aload_n 0, 1) := dk_42 (dk_at dksX1_litFor_0 0 rfl rfl)
theorem dX1_litFor_1 : decode cX1_litFor 1 = .ok (.getfield 27, 3) := dk_180 0 27 (dk_at dksX1_litFor_0 1 rfl rfl)
theorem dX1_litFor_4 : decode cX1_litFor 4 = .ok (.getfield 307, 3) := dk_180 1 51 (dk_at dksX1_litFor_0 4 rfl rfl)
theorem dX1_litFor_7 : decode cX1_litFor 7 = .ok (.ireturn, 1) := dk_172 (dk_at dksX1_litFor_0 7 rfl rfl)
abbrev cX1_charge : ByteArray := prog_1_method_50_code
def yX1_charge : MethodName := ⟨RX1, "charge", "()I"⟩
def dkwX1_charge_0 : List UInt8 := [42, 180, 0, 27, 7, 182, 1, 54, 172]
abbrev dktX1_charge_0 : List UInt8 := dkwX1_charge_0 ++ []
theorem dksX1_charge_0 : cX1_charge.data.toList.drop 0 = dktX1_charge_0 := by decide +kernel
theorem dX1_charge_0 : decode cX1_charge 0 = .ok (.aload_n 0, 1) := dk_42 (dk_at dksX1_charge_0 0 rfl rfl)
theorem dX1_charge_1 : decode cX1_charge 1 = .ok (.getfield 27, 3) := dk_180 0 27 (dk_at dksX1_charge_0 1 rfl rfl)
theorem dX1_charge_4 : decode cX1_charge 4 = .ok (.iconst 4, 1) := dk_7 (dk_at dksX1_charge_0 4 rfl rfl)
theorem dX1_charge_5 : decode cX1_charge 5 = .ok (.invokevirtual 310, 3) := dk_182 1 54 (dk_at dksX1_charge_0 5 rfl rfl)
theorem dX1_charge_8 : decode cX1_charge 8 = .ok (.ireturn, 1) := dk_172 (dk_at dksX1_charge_0 8 rfl rfl)
abbrev cX1_spraysLeft : ByteArray := prog_1_method_51_code
def yX1_spraysLeft : MethodName := ⟨RX1, "spraysLeft", "()I"⟩
def dkwX1_spraysLeft_0 : List UInt8 := [42, 180, 0, 27, 180, 1, 57, 172]
abbrev dktX1_spraysLeft_0 : List UInt8 := dkwX1_spraysLeft_0 ++ []
theorem dksX1_spraysLeft_0 : cX1_spraysLeft.data.toList.drop 0 = dktX1_spraysLeft_0 := by decide +kernel
theorem dX1_spraysLeft_0 : decode cX1_spraysLeft 0 = .ok (.aload_n 0, 1) := dk_42 (dk_at dksX1_spraysLeft_0 0 rfl rfl)
theorem dX1_spraysLeft_1 : decode cX1_spraysLeft 1 = .ok (.getfield 27, 3) := dk_180 0 27 (dk_at dksX1_spraysLeft_0 1 rfl rfl)
theorem dX1_spraysLeft_4 : decode cX1_spraysLeft 4 = .ok (.getfield 313, 3) := dk_180 1 57 (dk_at dksX1_spraysLeft_0 4 rfl rfl)
theorem dX1_spraysLeft_7 : decode cX1_spraysLeft 7 = .ok (.ireturn, 1) := dk_172 (dk_at dksX1_spraysLeft_0 7 rfl rfl)
abbrev cX1_hoursToDry : ByteArray := prog_1_method_61_code
def yX1_hoursToDry : MethodName := ⟨RX1, "hoursToDry", "(Z)I"⟩
def dkwX1_hoursToDry_1 : List UInt8 := [42, 182, 1, 77, 172]
abbrev dktX1_hoursToDry_1 : List UInt8 := dkwX1_hoursToDry_1 ++ []
def dkwX1_hoursToDry_0 : List UInt8 := [42, 180, 0, 27, 7, 182, 1, 38, 154, 0, 5, 2, 172, 27, 153, 0, 10, 42, 182, 1, 74, 167, 0, 7]
abbrev dktX1_hoursToDry_0 : List UInt8 := dkwX1_hoursToDry_0 ++ dktX1_hoursToDry_1
theorem dksX1_hoursToDry_0 : cX1_hoursToDry.data.toList.drop 0 = dktX1_hoursToDry_0 := by decide +kernel
theorem dksX1_hoursToDry_1 : cX1_hoursToDry.data.toList.drop 24 = dktX1_hoursToDry_1 := dk_seg dksX1_hoursToDry_0 24 rfl rfl
theorem dX1_hoursToDry_0 : decode cX1_hoursToDry 0 = .ok (.aload_n 0, 1) := dk_42 (dk_at dksX1_hoursToDry_0 0 rfl rfl)
theorem dX1_hoursToDry_1 : decode cX1_hoursToDry 1 = .ok (.getfield 27, 3) := dk_180 0 27 (dk_at dksX1_hoursToDry_0 1 rfl rfl)
theorem dX1_hoursToDry_4 : decode cX1_hoursToDry 4 = .ok (.iconst 4, 1) := dk_7 (dk_at dksX1_hoursToDry_0 4 rfl rfl)
theorem dX1_hoursToDry_5 : decode cX1_hoursToDry 5 = .ok (.invokevirtual 294, 3) := dk_182 1 38 (dk_at dksX1_hoursToDry_0 5 rfl rfl)
theorem dX1_hoursToDry_8 : decode cX1_hoursToDry 8 = .ok (.ifCond .ne 5, 3) := dk_154 0 5 (dk_at dksX1_hoursToDry_0 8 rfl rfl)
theorem dX1_hoursToDry_11 : decode cX1_hoursToDry 11 = .ok (.iconst (-1), 1) := dk_2 (dk_at dksX1_hoursToDry_0 11 rfl rfl)
theorem dX1_hoursToDry_12 : decode cX1_hoursToDry 12 = .ok (.ireturn, 1) := dk_172 (dk_at dksX1_hoursToDry_0 12 rfl rfl)
theorem dX1_hoursToDry_13 : decode cX1_hoursToDry 13 = .ok (.iload_n 1, 1) := dk_27 (dk_at dksX1_hoursToDry_0 13 rfl rfl)
theorem dX1_hoursToDry_14 : decode cX1_hoursToDry 14 = .ok (.ifCond .eq 10, 3) := dk_153 0 10 (dk_at dksX1_hoursToDry_0 14 rfl rfl)
theorem dX1_hoursToDry_17 : decode cX1_hoursToDry 17 = .ok (.aload_n 0, 1) := dk_42 (dk_at dksX1_hoursToDry_0 17 rfl rfl)
theorem dX1_hoursToDry_18 : decode cX1_hoursToDry 18 = .ok (.invokevirtual 330, 3) := dk_182 1 74 (dk_at dksX1_hoursToDry_0 18 rfl rfl)
theorem dX1_hoursToDry_21 : decode cX1_hoursToDry 21 = .ok (.goto 7, 3) := dk_167 0 7 (dk_at dksX1_hoursToDry_0 21 rfl rfl)
theorem dX1_hoursToDry_24 : decode cX1_hoursToDry 24 = .ok (.aload_n 0, 1) := dk_42 (dk_at dksX1_hoursToDry_1 0 rfl rfl)
theorem dX1_hoursToDry_25 : decode cX1_hoursToDry 25 = .ok (.invokevirtual 333, 3) := dk_182 1 77 (dk_at dksX1_hoursToDry_1 1 rfl rfl)
theorem dX1_hoursToDry_28 : decode cX1_hoursToDry 28 = .ok (.ireturn, 1) := dk_172 (dk_at dksX1_hoursToDry_1 4 rfl rfl)
abbrev cX1_dryByFormula : ByteArray := prog_1_method_59_code
def yX1_dryByFormula : MethodName := ⟨RX1, "dryByFormula", "()I"⟩
def dkwX1_dryByFormula_5 : List UInt8 := [16, 20, 108, 184, 1, 68, 96, 184, 1, 63, 172]
abbrev dktX1_dryByFormula_5 : List UInt8 := dkwX1_dryByFormula_5 ++ []
def dkwX1_dryByFormula_4 : List UInt8 := [180, 0, 158, 16, 20, 108, 104, 100, 7, 100, 54, 4, 4, 29, 21, 4, 42, 180, 0, 27, 180, 0, 161]
abbrev dktX1_dryByFormula_4 : List UInt8 := dkwX1_dryByFormula_4 ++ dktX1_dryByFormula_5
def dkwX1_dryByFormula_3 : List UInt8 := [100, 42, 180, 0, 27, 180, 0, 158, 16, 20, 108, 184, 1, 68, 184, 1, 71, 62, 27, 29, 42, 180, 0, 27]
abbrev dktX1_dryByFormula_3 : List UInt8 := dkwX1_dryByFormula_3 ++ dktX1_dryByFormula_4
def dkwX1_dryByFormula_2 : List UInt8 := [132, 2, 1, 167, 255, 211, 3, 16, 10, 42, 180, 0, 27, 180, 1, 51, 100, 184, 1, 63, 61, 28, 27, 7]
abbrev dktX1_dryByFormula_2 : List UInt8 := dkwX1_dryByFormula_2 ++ dktX1_dryByFormula_3
def dkwX1_dryByFormula_1 : List UInt8 := [7, 160, 0, 19, 27, 42, 180, 0, 27, 180, 1, 20, 28, 46, 184, 1, 63, 167, 0, 4, 27, 60]
abbrev dktX1_dryByFormula_1 : List UInt8 := dkwX1_dryByFormula_1 ++ dktX1_dryByFormula_2
def dkwX1_dryByFormula_0 : List UInt8 := [3, 60, 3, 61, 28, 42, 180, 0, 27, 180, 0, 77, 162, 0, 40, 42, 180, 0, 27, 180, 1, 7, 28, 46]
abbrev dktX1_dryByFormula_0 : List UInt8 := dkwX1_dryByFormula_0 ++ dktX1_dryByFormula_1
theorem dksX1_dryByFormula_0 : cX1_dryByFormula.data.toList.drop 0 = dktX1_dryByFormula_0 := by decide +kernel
theorem dksX1_dryByFormula_1 : cX1_dryByFormula.data.toList.drop 24 = dktX1_dryByFormula_1 := dk_seg dksX1_dryByFormula_0 24 rfl rfl
theorem dksX1_dryByFormula_2 : cX1_dryByFormula.data.toList.drop 46 = dktX1_dryByFormula_2 := dk_seg dksX1_dryByFormula_1 22 rfl rfl
theorem dksX1_dryByFormula_3 : cX1_dryByFormula.data.toList.drop 70 = dktX1_dryByFormula_3 := dk_seg dksX1_dryByFormula_2 24 rfl rfl
theorem dksX1_dryByFormula_4 : cX1_dryByFormula.data.toList.drop 94 = dktX1_dryByFormula_4 := dk_seg dksX1_dryByFormula_3 24 rfl rfl
theorem dksX1_dryByFormula_5 : cX1_dryByFormula.data.toList.drop 117 = dktX1_dryByFormula_5 := dk_seg dksX1_dryByFormula_4 23 rfl rfl
theorem dX1_dryByFormula_0 : decode cX1_dryByFormula 0 = .ok (.iconst 0, 1) := dk_3 (dk_at dksX1_dryByFormula_0 0 rfl rfl)
theorem dX1_dryByFormula_1 : decode cX1_dryByFormula 1 = .ok (.istore_n 1, 1) := dk_60 (dk_at dksX1_dryByFormula_0 1 rfl rfl)
theorem dX1_dryByFormula_2 : decode cX1_dryByFormula 2 = .ok (.iconst 0, 1) := dk_3 (dk_at dksX1_dryByFormula_0 2 rfl rfl)
theorem dX1_dryByFormula_3 : decode cX1_dryByFormula 3 = .ok (.istore_n 2, 1) := dk_61 (dk_at dksX1_dryByFormula_0 3 rfl rfl)
theorem dX1_dryByFormula_4 : decode cX1_dryByFormula 4 = .ok (.iload_n 2, 1) := dk_28 (dk_at dksX1_dryByFormula_0 4 rfl rfl)
theorem dX1_dryByFormula_5 : decode cX1_dryByFormula 5 = .ok (.aload_n 0, 1) := dk_42 (dk_at dksX1_dryByFormula_0 5 rfl rfl)
theorem dX1_dryByFormula_6 : decode cX1_dryByFormula 6 = .ok (.getfield 27, 3) := dk_180 0 27 (dk_at dksX1_dryByFormula_0 6 rfl rfl)
theorem dX1_dryByFormula_9 : decode cX1_dryByFormula 9 = .ok (.getfield 77, 3) := dk_180 0 77 (dk_at dksX1_dryByFormula_0 9 rfl rfl)
theorem dX1_dryByFormula_12 : decode cX1_dryByFormula 12 = .ok (.if_icmp .ge 40, 3) := dk_162 0 40 (dk_at dksX1_dryByFormula_0 12 rfl rfl)
theorem dX1_dryByFormula_15 : decode cX1_dryByFormula 15 = .ok (.aload_n 0, 1) := dk_42 (dk_at dksX1_dryByFormula_0 15 rfl rfl)
theorem dX1_dryByFormula_16 : decode cX1_dryByFormula 16 = .ok (.getfield 27, 3) := dk_180 0 27 (dk_at dksX1_dryByFormula_0 16 rfl rfl)
theorem dX1_dryByFormula_19 : decode cX1_dryByFormula 19 = .ok (.getfield 263, 3) := dk_180 1 7 (dk_at dksX1_dryByFormula_0 19 rfl rfl)
theorem dX1_dryByFormula_22 : decode cX1_dryByFormula 22 = .ok (.iload_n 2, 1) := dk_28 (dk_at dksX1_dryByFormula_0 22 rfl rfl)
theorem dX1_dryByFormula_23 : decode cX1_dryByFormula 23 = .ok (.iaload, 1) := dk_46 (dk_at dksX1_dryByFormula_0 23 rfl rfl)
theorem dX1_dryByFormula_24 : decode cX1_dryByFormula 24 = .ok (.iconst 4, 1) := dk_7 (dk_at dksX1_dryByFormula_1 0 rfl rfl)
theorem dX1_dryByFormula_25 : decode cX1_dryByFormula 25 = .ok (.if_icmp .ne 19, 3) := dk_160 0 19 (dk_at dksX1_dryByFormula_1 1 rfl rfl)
theorem dX1_dryByFormula_28 : decode cX1_dryByFormula 28 = .ok (.iload_n 1, 1) := dk_27 (dk_at dksX1_dryByFormula_1 4 rfl rfl)
theorem dX1_dryByFormula_29 : decode cX1_dryByFormula 29 = .ok (.aload_n 0, 1) := dk_42 (dk_at dksX1_dryByFormula_1 5 rfl rfl)
theorem dX1_dryByFormula_30 : decode cX1_dryByFormula 30 = .ok (.getfield 27, 3) := dk_180 0 27 (dk_at dksX1_dryByFormula_1 6 rfl rfl)
theorem dX1_dryByFormula_33 : decode cX1_dryByFormula 33 = .ok (.getfield 276, 3) := dk_180 1 20 (dk_at dksX1_dryByFormula_1 9 rfl rfl)
theorem dX1_dryByFormula_36 : decode cX1_dryByFormula 36 = .ok (.iload_n 2, 1) := dk_28 (dk_at dksX1_dryByFormula_1 12 rfl rfl)
theorem dX1_dryByFormula_37 : decode cX1_dryByFormula 37 = .ok (.iaload, 1) := dk_46 (dk_at dksX1_dryByFormula_1 13 rfl rfl)
theorem dX1_dryByFormula_38 : decode cX1_dryByFormula 38 = .ok (.invokestatic 319, 3) := dk_184 1 63 (dk_at dksX1_dryByFormula_1 14 rfl rfl)
theorem dX1_dryByFormula_41 : decode cX1_dryByFormula 41 = .ok (.goto 4, 3) := dk_167 0 4 (dk_at dksX1_dryByFormula_1 17 rfl rfl)
theorem dX1_dryByFormula_44 : decode cX1_dryByFormula 44 = .ok (.iload_n 1, 1) := dk_27 (dk_at dksX1_dryByFormula_1 20 rfl rfl)
theorem dX1_dryByFormula_45 : decode cX1_dryByFormula 45 = .ok (.istore_n 1, 1) := dk_60 (dk_at dksX1_dryByFormula_1 21 rfl rfl)
theorem dX1_dryByFormula_46 : decode cX1_dryByFormula 46 = .ok (.iinc 2 1, 3) := dk_132 2 1 (dk_at dksX1_dryByFormula_2 0 rfl rfl)
theorem dX1_dryByFormula_49 : decode cX1_dryByFormula 49 = .ok (.goto (-45), 3) := dk_167 255 211 (dk_at dksX1_dryByFormula_2 3 rfl rfl)
theorem dX1_dryByFormula_52 : decode cX1_dryByFormula 52 = .ok (.iconst 0, 1) := dk_3 (dk_at dksX1_dryByFormula_2 6 rfl rfl)
theorem dX1_dryByFormula_53 : decode cX1_dryByFormula 53 = .ok (.bipush 10, 2) := dk_16 10 (dk_at dksX1_dryByFormula_2 7 rfl rfl)
theorem dX1_dryByFormula_55 : decode cX1_dryByFormula 55 = .ok (.aload_n 0, 1) := dk_42 (dk_at dksX1_dryByFormula_2 9 rfl rfl)
theorem dX1_dryByFormula_56 : decode cX1_dryByFormula 56 = .ok (.getfield 27, 3) := dk_180 0 27 (dk_at dksX1_dryByFormula_2 10 rfl rfl)
theorem dX1_dryByFormula_59 : decode cX1_dryByFormula 59 = .ok (.getfield 307, 3) := dk_180 1 51 (dk_at dksX1_dryByFormula_2 13 rfl rfl)
theorem dX1_dryByFormula_62 : decode cX1_dryByFormula 62 = .ok (.isub, 1) := dk_100 (dk_at dksX1_dryByFormula_2 16 rfl rfl)
theorem dX1_dryByFormula_63 : decode cX1_dryByFormula 63 = .ok (.invokestatic 319, 3) := dk_184 1 63 (dk_at dksX1_dryByFormula_2 17 rfl rfl)
theorem dX1_dryByFormula_66 : decode cX1_dryByFormula 66 = .ok (.istore_n 2, 1) := dk_61 (dk_at dksX1_dryByFormula_2 20 rfl rfl)
theorem dX1_dryByFormula_67 : decode cX1_dryByFormula 67 = .ok (.iload_n 2, 1) := dk_28 (dk_at dksX1_dryByFormula_2 21 rfl rfl)
theorem dX1_dryByFormula_68 : decode cX1_dryByFormula 68 = .ok (.iload_n 1, 1) := dk_27 (dk_at dksX1_dryByFormula_2 22 rfl rfl)
theorem dX1_dryByFormula_69 : decode cX1_dryByFormula 69 = .ok (.iconst 4, 1) := dk_7 (dk_at dksX1_dryByFormula_2 23 rfl rfl)
theorem dX1_dryByFormula_70 : decode cX1_dryByFormula 70 = .ok (.isub, 1) := dk_100 (dk_at dksX1_dryByFormula_3 0 rfl rfl)
theorem dX1_dryByFormula_71 : decode cX1_dryByFormula 71 = .ok (.aload_n 0, 1) := dk_42 (dk_at dksX1_dryByFormula_3 1 rfl rfl)
theorem dX1_dryByFormula_72 : decode cX1_dryByFormula 72 = .ok (.getfield 27, 3) := dk_180 0 27 (dk_at dksX1_dryByFormula_3 2 rfl rfl)
theorem dX1_dryByFormula_75 : decode cX1_dryByFormula 75 = .ok (.getfield 158, 3) := dk_180 0 158 (dk_at dksX1_dryByFormula_3 5 rfl rfl)
theorem dX1_dryByFormula_78 : decode cX1_dryByFormula 78 = .ok (.bipush 20, 2) := dk_16 20 (dk_at dksX1_dryByFormula_3 8 rfl rfl)
theorem dX1_dryByFormula_80 : decode cX1_dryByFormula 80 = .ok (.idiv, 1) := dk_108 (dk_at dksX1_dryByFormula_3 10 rfl rfl)
theorem dX1_dryByFormula_81 : decode cX1_dryByFormula 81 = .ok (.invokestatic 324, 3) := dk_184 1 68 (dk_at dksX1_dryByFormula_3 11 rfl rfl)
theorem dX1_dryByFormula_84 : decode cX1_dryByFormula 84 = .ok (.invokestatic 327, 3) := dk_184 1 71 (dk_at dksX1_dryByFormula_3 14 rfl rfl)
theorem dX1_dryByFormula_87 : decode cX1_dryByFormula 87 = .ok (.istore_n 3, 1) := dk_62 (dk_at dksX1_dryByFormula_3 17 rfl rfl)
theorem dX1_dryByFormula_88 : decode cX1_dryByFormula 88 = .ok (.iload_n 1, 1) := dk_27 (dk_at dksX1_dryByFormula_3 18 rfl rfl)
theorem dX1_dryByFormula_89 : decode cX1_dryByFormula 89 = .ok (.iload_n 3, 1) := dk_29 (dk_at dksX1_dryByFormula_3 19 rfl rfl)
theorem dX1_dryByFormula_90 : decode cX1_dryByFormula 90 = .ok (.aload_n 0, 1) := dk_42 (dk_at dksX1_dryByFormula_3 20 rfl rfl)
theorem dX1_dryByFormula_91 : decode cX1_dryByFormula 91 = .ok (.getfield 27, 3) := dk_180 0 27 (dk_at dksX1_dryByFormula_3 21 rfl rfl)
theorem dX1_dryByFormula_94 : decode cX1_dryByFormula 94 = .ok (.getfield 158, 3) := dk_180 0 158 (dk_at dksX1_dryByFormula_4 0 rfl rfl)
theorem dX1_dryByFormula_97 : decode cX1_dryByFormula 97 = .ok (.bipush 20, 2) := dk_16 20 (dk_at dksX1_dryByFormula_4 3 rfl rfl)
theorem dX1_dryByFormula_99 : decode cX1_dryByFormula 99 = .ok (.idiv, 1) := dk_108 (dk_at dksX1_dryByFormula_4 5 rfl rfl)
theorem dX1_dryByFormula_100 : decode cX1_dryByFormula 100 = .ok (.imul, 1) := dk_104 (dk_at dksX1_dryByFormula_4 6 rfl rfl)
theorem dX1_dryByFormula_101 : decode cX1_dryByFormula 101 = .ok (.isub, 1) := dk_100 (dk_at dksX1_dryByFormula_4 7 rfl rfl)
theorem dX1_dryByFormula_102 : decode cX1_dryByFormula 102 = .ok (.iconst 4, 1) := dk_7 (dk_at dksX1_dryByFormula_4 8 rfl rfl)
theorem dX1_dryByFormula_103 : decode cX1_dryByFormula 103 = .ok (.isub, 1) := dk_100 (dk_at dksX1_dryByFormula_4 9 rfl rfl)
theorem dX1_dryByFormula_104 : decode cX1_dryByFormula 104 = .ok (.istore 4, 2) := dk_54 4 (dk_at dksX1_dryByFormula_4 10 rfl rfl)
theorem dX1_dryByFormula_106 : decode cX1_dryByFormula 106 = .ok (.iconst 1, 1) := dk_4 (dk_at dksX1_dryByFormula_4 12 rfl rfl)
theorem dX1_dryByFormula_107 : decode cX1_dryByFormula 107 = .ok (.iload_n 3, 1) := dk_29 (dk_at dksX1_dryByFormula_4 13 rfl rfl)
theorem dX1_dryByFormula_108 : decode cX1_dryByFormula 108 = .ok (.iload 4, 2) := dk_21 4 (dk_at dksX1_dryByFormula_4 14 rfl rfl)
theorem dX1_dryByFormula_110 : decode cX1_dryByFormula 110 = .ok (.aload_n 0, 1) := dk_42 (dk_at dksX1_dryByFormula_4 16 rfl rfl)
theorem dX1_dryByFormula_111 : decode cX1_dryByFormula 111 = .ok (.getfield 27, 3) := dk_180 0 27 (dk_at dksX1_dryByFormula_4 17 rfl rfl)
theorem dX1_dryByFormula_114 : decode cX1_dryByFormula 114 = .ok (.getfield 161, 3) := dk_180 0 161 (dk_at dksX1_dryByFormula_4 20 rfl rfl)
theorem dX1_dryByFormula_117 : decode cX1_dryByFormula 117 = .ok (.bipush 20, 2) := dk_16 20 (dk_at dksX1_dryByFormula_5 0 rfl rfl)
theorem dX1_dryByFormula_119 : decode cX1_dryByFormula 119 = .ok (.idiv, 1) := dk_108 (dk_at dksX1_dryByFormula_5 2 rfl rfl)
theorem dX1_dryByFormula_120 : decode cX1_dryByFormula 120 = .ok (.invokestatic 324, 3) := dk_184 1 68 (dk_at dksX1_dryByFormula_5 3 rfl rfl)
theorem dX1_dryByFormula_123 : decode cX1_dryByFormula 123 = .ok (.iadd, 1) := dk_96 (dk_at dksX1_dryByFormula_5 6 rfl rfl)
theorem dX1_dryByFormula_124 : decode cX1_dryByFormula 124 = .ok (.invokestatic 319, 3) := dk_184 1 63 (dk_at dksX1_dryByFormula_5 7 rfl rfl)
theorem dX1_dryByFormula_127 : decode cX1_dryByFormula 127 = .ok (.ireturn, 1) := dk_172 (dk_at dksX1_dryByFormula_5 10 rfl rfl)
abbrev cX1_hoursFor : ByteArray := prog_1_method_58_code
def yX1_hoursFor : MethodName := ⟨RX1, "hoursFor", "(II)I"⟩
def dkwX1_hoursFor_0 : List UInt8 := [26, 157, 0, 7, 3, 167, 0, 10, 26, 27, 96, 4, 100, 27, 108, 172]
abbrev dktX1_hoursFor_0 : List UInt8 := dkwX1_hoursFor_0 ++ []
theorem dksX1_hoursFor_0 : cX1_hoursFor.data.toList.drop 0 = dktX1_hoursFor_0 := by decide +kernel
theorem dX1_hoursFor_0 : decode cX1_hoursFor 0 = .ok (.iload_n 0, 1) := dk_26 (dk_at dksX1_hoursFor_0 0 rfl rfl)
theorem dX1_hoursFor_1 : decode cX1_hoursFor 1 = .ok (.ifCond .gt 7, 3) := dk_157 0 7 (dk_at dksX1_hoursFor_0 1 rfl rfl)
theorem dX1_hoursFor_4 : decode cX1_hoursFor 4 = .ok (.iconst 0, 1) := dk_3 (dk_at dksX1_hoursFor_0 4 rfl rfl)
theorem dX1_hoursFor_5 : decode cX1_hoursFor 5 = .ok (.goto 10, 3) := dk_167 0 10 (dk_at dksX1_hoursFor_0 5 rfl rfl)
theorem dX1_hoursFor_8 : decode cX1_hoursFor 8 = .ok (.iload_n 0, 1) := dk_26 (dk_at dksX1_hoursFor_0 8 rfl rfl)
theorem dX1_hoursFor_9 : decode cX1_hoursFor 9 = .ok (.iload_n 1, 1) := dk_27 (dk_at dksX1_hoursFor_0 9 rfl rfl)
theorem dX1_hoursFor_10 : decode cX1_hoursFor 10 = .ok (.iadd, 1) := dk_96 (dk_at dksX1_hoursFor_0 10 rfl rfl)
theorem dX1_hoursFor_11 : decode cX1_hoursFor 11 = .ok (.iconst 1, 1) := dk_4 (dk_at dksX1_hoursFor_0 11 rfl rfl)
theorem dX1_hoursFor_12 : decode cX1_hoursFor 12 = .ok (.isub, 1) := dk_100 (dk_at dksX1_hoursFor_0 12 rfl rfl)
theorem dX1_hoursFor_13 : decode cX1_hoursFor 13 = .ok (.iload_n 1, 1) := dk_27 (dk_at dksX1_hoursFor_0 13 rfl rfl)
theorem dX1_hoursFor_14 : decode cX1_hoursFor 14 = .ok (.idiv, 1) := dk_108 (dk_at dksX1_hoursFor_0 14 rfl rfl)
theorem dX1_hoursFor_15 : decode cX1_hoursFor 15 = .ok (.ireturn, 1) := dk_172 (dk_at dksX1_hoursFor_0 15 rfl rfl)
abbrev cX1_dryByPlaying : ByteArray := prog_1_method_60_code
def yX1_dryByPlaying : MethodName := ⟨RX1, "dryByPlaying", "()I"⟩
def dkwX1_dryByPlaying_2 : List UInt8 := [172]
abbrev dktX1_dryByPlaying_2 : List UInt8 := dkwX1_dryByPlaying_2 ++ []
def dkwX1_dryByPlaying_1 : List UInt8 := [62, 43, 8, 182, 1, 38, 29, 126, 29, 159, 0, 14, 43, 182, 1, 60, 87, 132, 2, 1, 167, 255, 237, 28]
abbrev dktX1_dryByPlaying_1 : List UInt8 := dkwX1_dryByPlaying_1 ++ dktX1_dryByPlaying_2
def dkwX1_dryByPlaying_0 : List UInt8 := [187, 0, 24, 89, 42, 180, 0, 27, 183, 0, 59, 76, 43, 4, 181, 0, 154, 3, 61, 43, 7, 182, 1, 38]
abbrev dktX1_dryByPlaying_0 : List UInt8 := dkwX1_dryByPlaying_0 ++ dktX1_dryByPlaying_1
theorem dksX1_dryByPlaying_0 : cX1_dryByPlaying.data.toList.drop 0 = dktX1_dryByPlaying_0 := by decide +kernel
theorem dksX1_dryByPlaying_1 : cX1_dryByPlaying.data.toList.drop 24 = dktX1_dryByPlaying_1 := dk_seg dksX1_dryByPlaying_0 24 rfl rfl
theorem dksX1_dryByPlaying_2 : cX1_dryByPlaying.data.toList.drop 48 = dktX1_dryByPlaying_2 := dk_seg dksX1_dryByPlaying_1 24 rfl rfl
theorem dX1_dryByPlaying_0 : decode cX1_dryByPlaying 0 = .ok (.new 24, 3) := dk_187 0 24 (dk_at dksX1_dryByPlaying_0 0 rfl rfl)
theorem dX1_dryByPlaying_3 : decode cX1_dryByPlaying 3 = .ok (.dup, 1) := dk_89 (dk_at dksX1_dryByPlaying_0 3 rfl rfl)
theorem dX1_dryByPlaying_4 : decode cX1_dryByPlaying 4 = .ok (.aload_n 0, 1) := dk_42 (dk_at dksX1_dryByPlaying_0 4 rfl rfl)
theorem dX1_dryByPlaying_5 : decode cX1_dryByPlaying 5 = .ok (.getfield 27, 3) := dk_180 0 27 (dk_at dksX1_dryByPlaying_0 5 rfl rfl)
theorem dX1_dryByPlaying_8 : decode cX1_dryByPlaying 8 = .ok (.invokespecial 59, 3) := dk_183 0 59 (dk_at dksX1_dryByPlaying_0 8 rfl rfl)
theorem dX1_dryByPlaying_11 : decode cX1_dryByPlaying 11 = .ok (.astore_n 1, 1) := dk_76 (dk_at dksX1_dryByPlaying_0 11 rfl rfl)
theorem dX1_dryByPlaying_12 : decode cX1_dryByPlaying 12 = .ok (.aload_n 1, 1) := dk_43 (dk_at dksX1_dryByPlaying_0 12 rfl rfl)
theorem dX1_dryByPlaying_13 : decode cX1_dryByPlaying 13 = .ok (.iconst 1, 1) := dk_4 (dk_at dksX1_dryByPlaying_0 13 rfl rfl)
theorem dX1_dryByPlaying_14 : decode cX1_dryByPlaying 14 = .ok (.putfield 154, 3) := dk_181 0 154 (dk_at dksX1_dryByPlaying_0 14 rfl rfl)
theorem dX1_dryByPlaying_17 : decode cX1_dryByPlaying 17 = .ok (.iconst 0, 1) := dk_3 (dk_at dksX1_dryByPlaying_0 17 rfl rfl)
theorem dX1_dryByPlaying_18 : decode cX1_dryByPlaying 18 = .ok (.istore_n 2, 1) := dk_61 (dk_at dksX1_dryByPlaying_0 18 rfl rfl)
theorem dX1_dryByPlaying_19 : decode cX1_dryByPlaying 19 = .ok (.aload_n 1, 1) := dk_43 (dk_at dksX1_dryByPlaying_0 19 rfl rfl)
theorem dX1_dryByPlaying_20 : decode cX1_dryByPlaying 20 = .ok (.iconst 4, 1) := dk_7 (dk_at dksX1_dryByPlaying_0 20 rfl rfl)
theorem dX1_dryByPlaying_21 : decode cX1_dryByPlaying 21 = .ok (.invokevirtual 294, 3) := dk_182 1 38 (dk_at dksX1_dryByPlaying_0 21 rfl rfl)
theorem dX1_dryByPlaying_24 : decode cX1_dryByPlaying 24 = .ok (.istore_n 3, 1) := dk_62 (dk_at dksX1_dryByPlaying_1 0 rfl rfl)
theorem dX1_dryByPlaying_25 : decode cX1_dryByPlaying 25 = .ok (.aload_n 1, 1) := dk_43 (dk_at dksX1_dryByPlaying_1 1 rfl rfl)
theorem dX1_dryByPlaying_26 : decode cX1_dryByPlaying 26 = .ok (.iconst 5, 1) := dk_8 (dk_at dksX1_dryByPlaying_1 2 rfl rfl)
theorem dX1_dryByPlaying_27 : decode cX1_dryByPlaying 27 = .ok (.invokevirtual 294, 3) := dk_182 1 38 (dk_at dksX1_dryByPlaying_1 3 rfl rfl)
theorem dX1_dryByPlaying_30 : decode cX1_dryByPlaying 30 = .ok (.iload_n 3, 1) := dk_29 (dk_at dksX1_dryByPlaying_1 6 rfl rfl)
theorem dX1_dryByPlaying_31 : decode cX1_dryByPlaying 31 = .ok (.iand, 1) := dk_126 (dk_at dksX1_dryByPlaying_1 7 rfl rfl)
theorem dX1_dryByPlaying_32 : decode cX1_dryByPlaying 32 = .ok (.iload_n 3, 1) := dk_29 (dk_at dksX1_dryByPlaying_1 8 rfl rfl)
theorem dX1_dryByPlaying_33 : decode cX1_dryByPlaying 33 = .ok (.if_icmp .eq 14, 3) := dk_159 0 14 (dk_at dksX1_dryByPlaying_1 9 rfl rfl)
theorem dX1_dryByPlaying_36 : decode cX1_dryByPlaying 36 = .ok (.aload_n 1, 1) := dk_43 (dk_at dksX1_dryByPlaying_1 12 rfl rfl)
theorem dX1_dryByPlaying_37 : decode cX1_dryByPlaying 37 = .ok (.invokevirtual 316, 3) := dk_182 1 60 (dk_at dksX1_dryByPlaying_1 13 rfl rfl)
theorem dX1_dryByPlaying_40 : decode cX1_dryByPlaying 40 = .ok (.pop, 1) := dk_87 (dk_at dksX1_dryByPlaying_1 16 rfl rfl)
theorem dX1_dryByPlaying_41 : decode cX1_dryByPlaying 41 = .ok (.iinc 2 1, 3) := dk_132 2 1 (dk_at dksX1_dryByPlaying_1 17 rfl rfl)
theorem dX1_dryByPlaying_44 : decode cX1_dryByPlaying 44 = .ok (.goto (-19), 3) := dk_167 255 237 (dk_at dksX1_dryByPlaying_1 20 rfl rfl)
theorem dX1_dryByPlaying_47 : decode cX1_dryByPlaying 47 = .ok (.iload_n 2, 1) := dk_28 (dk_at dksX1_dryByPlaying_1 23 rfl rfl)
theorem dX1_dryByPlaying_48 : decode cX1_dryByPlaying 48 = .ok (.ireturn, 1) := dk_172 (dk_at dksX1_dryByPlaying_2 0 rfl rfl)
abbrev cX1_entries : ByteArray := prog_1_method_63_code
def yX1_entries : MethodName := ⟨RX1, "entries", "()I"⟩
def dkwX1_entries_1 : List UInt8 := [172]
abbrev dktX1_entries_1 : List UInt8 := dkwX1_entries_1 ++ []
def dkwX1_entries_0 : List UInt8 := [42, 180, 0, 27, 180, 1, 83, 199, 0, 7, 3, 167, 0, 13, 42, 180, 0, 27, 180, 1, 83, 182, 1, 87]
abbrev dktX1_entries_0 : List UInt8 := dkwX1_entries_0 ++ dktX1_entries_1
theorem dksX1_entries_0 : cX1_entries.data.toList.drop 0 = dktX1_entries_0 := by decide +kernel
theorem dksX1_entries_1 : cX1_entries.data.toList.drop 24 = dktX1_entries_1 := dk_seg dksX1_entries_0 24 rfl rfl
theorem dX1_entries_0 : decode cX1_entries 0 = .ok (.aload_n 0, 1) := dk_42 (dk_at dksX1_entries_0 0 rfl rfl)
theorem dX1_entries_1 : decode cX1_entries 1 = .ok (.getfield 27, 3) := dk_180 0 27 (dk_at dksX1_entries_0 1 rfl rfl)
theorem dX1_entries_4 : decode cX1_entries 4 = .ok (.getfield 339, 3) := dk_180 1 83 (dk_at dksX1_entries_0 4 rfl rfl)
theorem dX1_entries_7 : decode cX1_entries 7 = .ok (.ifnonnull 7, 3) := dk_199 0 7 (dk_at dksX1_entries_0 7 rfl rfl)
theorem dX1_entries_10 : decode cX1_entries 10 = .ok (.iconst 0, 1) := dk_3 (dk_at dksX1_entries_0 10 rfl rfl)
theorem dX1_entries_11 : decode cX1_entries 11 = .ok (.goto 13, 3) := dk_167 0 13 (dk_at dksX1_entries_0 11 rfl rfl)
theorem dX1_entries_14 : decode cX1_entries 14 = .ok (.aload_n 0, 1) := dk_42 (dk_at dksX1_entries_0 14 rfl rfl)
theorem dX1_entries_15 : decode cX1_entries 15 = .ok (.getfield 27, 3) := dk_180 0 27 (dk_at dksX1_entries_0 15 rfl rfl)
theorem dX1_entries_18 : decode cX1_entries 18 = .ok (.getfield 339, 3) := dk_180 1 83 (dk_at dksX1_entries_0 18 rfl rfl)
theorem dX1_entries_21 : decode cX1_entries 21 = .ok (.invokevirtual 343, 3) := dk_182 1 87 (dk_at dksX1_entries_0 21 rfl rfl)
theorem dX1_entries_24 : decode cX1_entries 24 = .ok (.ireturn, 1) := dk_172 (dk_at dksX1_entries_1 0 rfl rfl)
abbrev cX1_time : ByteArray := prog_1_method_65_code
def yX1_time : MethodName := ⟨RX1, "time", "()I"⟩
def dkwX1_time_0 : List UInt8 := [42, 180, 0, 27, 180, 1, 4, 172]
abbrev dktX1_time_0 : List UInt8 := dkwX1_time_0 ++ []
theorem dksX1_time_0 : cX1_time.data.toList.drop 0 = dktX1_time_0 := by decide +kernel
theorem dX1_time_0 : decode cX1_time 0 = .ok (.aload_n 0, 1) := dk_42 (dk_at dksX1_time_0 0 rfl rfl)
theorem dX1_time_1 : decode cX1_time 1 = .ok (.getfield 27, 3) := dk_180 0 27 (dk_at dksX1_time_0 1 rfl rfl)
theorem dX1_time_4 : decode cX1_time 4 = .ok (.getfield 260, 3) := dk_180 1 4 (dk_at dksX1_time_0 4 rfl rfl)
theorem dX1_time_7 : decode cX1_time 7 = .ok (.ireturn, 1) := dk_172 (dk_at dksX1_time_0 7 rfl rfl)
abbrev cX1_steeped : ByteArray := prog_1_method_67_code
def yX1_steeped : MethodName := ⟨RX1, "steeped", "(Z)I"⟩
def dkwX1_steeped_2 : List UInt8 := [182, 1, 54, 96, 61, 132, 3, 1, 167, 255, 237, 28, 172]
abbrev dktX1_steeped_2 : List UInt8 := dkwX1_steeped_2 ++ []
def dkwX1_steeped_1 : List UInt8 := [182, 1, 109, 96, 42, 182, 1, 112, 96, 61, 4, 62, 29, 7, 163, 0, 20, 28, 42, 180, 0, 27, 29]
abbrev dktX1_steeped_1 : List UInt8 := dkwX1_steeped_1 ++ dktX1_steeped_2
def dkwX1_steeped_0 : List UInt8 := [27, 154, 0, 11, 42, 180, 0, 27, 180, 1, 100, 172, 42, 182, 1, 103, 42, 182, 1, 106, 96, 42]
abbrev dktX1_steeped_0 : List UInt8 := dkwX1_steeped_0 ++ dktX1_steeped_1
theorem dksX1_steeped_0 : cX1_steeped.data.toList.drop 0 = dktX1_steeped_0 := by decide +kernel
theorem dksX1_steeped_1 : cX1_steeped.data.toList.drop 22 = dktX1_steeped_1 := dk_seg dksX1_steeped_0 22 rfl rfl
theorem dksX1_steeped_2 : cX1_steeped.data.toList.drop 45 = dktX1_steeped_2 := dk_seg dksX1_steeped_1 23 rfl rfl
theorem dX1_steeped_0 : decode cX1_steeped 0 = .ok (.iload_n 1, 1) := dk_27 (dk_at dksX1_steeped_0 0 rfl rfl)
theorem dX1_steeped_1 : decode cX1_steeped 1 = .ok (.ifCond .ne 11, 3) := dk_154 0 11 (dk_at dksX1_steeped_0 1 rfl rfl)
theorem dX1_steeped_4 : decode cX1_steeped 4 = .ok (.aload_n 0, 1) := dk_42 (dk_at dksX1_steeped_0 4 rfl rfl)
theorem dX1_steeped_5 : decode cX1_steeped 5 = .ok (.getfield 27, 3) := dk_180 0 27 (dk_at dksX1_steeped_0 5 rfl rfl)
theorem dX1_steeped_8 : decode cX1_steeped 8 = .ok (.getfield 356, 3) := dk_180 1 100 (dk_at dksX1_steeped_0 8 rfl rfl)
theorem dX1_steeped_11 : decode cX1_steeped 11 = .ok (.ireturn, 1) := dk_172 (dk_at dksX1_steeped_0 11 rfl rfl)
theorem dX1_steeped_12 : decode cX1_steeped 12 = .ok (.aload_n 0, 1) := dk_42 (dk_at dksX1_steeped_0 12 rfl rfl)
theorem dX1_steeped_13 : decode cX1_steeped 13 = .ok (.invokevirtual 359, 3) := dk_182 1 103 (dk_at dksX1_steeped_0 13 rfl rfl)
theorem dX1_steeped_16 : decode cX1_steeped 16 = .ok (.aload_n 0, 1) := dk_42 (dk_at dksX1_steeped_0 16 rfl rfl)
theorem dX1_steeped_17 : decode cX1_steeped 17 = .ok (.invokevirtual 362, 3) := dk_182 1 106 (dk_at dksX1_steeped_0 17 rfl rfl)
theorem dX1_steeped_20 : decode cX1_steeped 20 = .ok (.iadd, 1) := dk_96 (dk_at dksX1_steeped_0 20 rfl rfl)
theorem dX1_steeped_21 : decode cX1_steeped 21 = .ok (.aload_n 0, 1) := dk_42 (dk_at dksX1_steeped_0 21 rfl rfl)
theorem dX1_steeped_22 : decode cX1_steeped 22 = .ok (.invokevirtual 365, 3) := dk_182 1 109 (dk_at dksX1_steeped_1 0 rfl rfl)
theorem dX1_steeped_25 : decode cX1_steeped 25 = .ok (.iadd, 1) := dk_96 (dk_at dksX1_steeped_1 3 rfl rfl)
theorem dX1_steeped_26 : decode cX1_steeped 26 = .ok (.aload_n 0, 1) := dk_42 (dk_at dksX1_steeped_1 4 rfl rfl)
theorem dX1_steeped_27 : decode cX1_steeped 27 = .ok (.invokevirtual 368, 3) := dk_182 1 112 (dk_at dksX1_steeped_1 5 rfl rfl)
theorem dX1_steeped_30 : decode cX1_steeped 30 = .ok (.iadd, 1) := dk_96 (dk_at dksX1_steeped_1 8 rfl rfl)
theorem dX1_steeped_31 : decode cX1_steeped 31 = .ok (.istore_n 2, 1) := dk_61 (dk_at dksX1_steeped_1 9 rfl rfl)
theorem dX1_steeped_32 : decode cX1_steeped 32 = .ok (.iconst 1, 1) := dk_4 (dk_at dksX1_steeped_1 10 rfl rfl)
theorem dX1_steeped_33 : decode cX1_steeped 33 = .ok (.istore_n 3, 1) := dk_62 (dk_at dksX1_steeped_1 11 rfl rfl)
theorem dX1_steeped_34 : decode cX1_steeped 34 = .ok (.iload_n 3, 1) := dk_29 (dk_at dksX1_steeped_1 12 rfl rfl)
theorem dX1_steeped_35 : decode cX1_steeped 35 = .ok (.iconst 4, 1) := dk_7 (dk_at dksX1_steeped_1 13 rfl rfl)
theorem dX1_steeped_36 : decode cX1_steeped 36 = .ok (.if_icmp .gt 20, 3) := dk_163 0 20 (dk_at dksX1_steeped_1 14 rfl rfl)
theorem dX1_steeped_39 : decode cX1_steeped 39 = .ok (.iload_n 2, 1) := dk_28 (dk_at dksX1_steeped_1 17 rfl rfl)
theorem dX1_steeped_40 : decode cX1_steeped 40 = .ok (.aload_n 0, 1) := dk_42 (dk_at dksX1_steeped_1 18 rfl rfl)
theorem dX1_steeped_41 : decode cX1_steeped 41 = .ok (.getfield 27, 3) := dk_180 0 27 (dk_at dksX1_steeped_1 19 rfl rfl)
theorem dX1_steeped_44 : decode cX1_steeped 44 = .ok (.iload_n 3, 1) := dk_29 (dk_at dksX1_steeped_1 22 rfl rfl)
theorem dX1_steeped_45 : decode cX1_steeped 45 = .ok (.invokevirtual 310, 3) := dk_182 1 54 (dk_at dksX1_steeped_2 0 rfl rfl)
theorem dX1_steeped_48 : decode cX1_steeped 48 = .ok (.iadd, 1) := dk_96 (dk_at dksX1_steeped_2 3 rfl rfl)
theorem dX1_steeped_49 : decode cX1_steeped 49 = .ok (.istore_n 2, 1) := dk_61 (dk_at dksX1_steeped_2 4 rfl rfl)
theorem dX1_steeped_50 : decode cX1_steeped 50 = .ok (.iinc 3 1, 3) := dk_132 3 1 (dk_at dksX1_steeped_2 5 rfl rfl)
theorem dX1_steeped_53 : decode cX1_steeped 53 = .ok (.goto (-19), 3) := dk_167 255 237 (dk_at dksX1_steeped_2 8 rfl rfl)
theorem dX1_steeped_56 : decode cX1_steeped 56 = .ok (.iload_n 2, 1) := dk_28 (dk_at dksX1_steeped_2 11 rfl rfl)
theorem dX1_steeped_57 : decode cX1_steeped 57 = .ok (.ireturn, 1) := dk_172 (dk_at dksX1_steeped_2 12 rfl rfl)
abbrev cX1_malt : ByteArray := prog_1_method_68_code
def yX1_malt : MethodName := ⟨RX1, "malt", "()I"⟩
def dkwX1_malt_0 : List UInt8 := [42, 8, 182, 1, 115, 172]
abbrev dktX1_malt_0 : List UInt8 := dkwX1_malt_0 ++ []
theorem dksX1_malt_0 : cX1_malt.data.toList.drop 0 = dktX1_malt_0 := by decide +kernel
theorem dX1_malt_0 : decode cX1_malt 0 = .ok (.aload_n 0, 1) := dk_42 (dk_at dksX1_malt_0 0 rfl rfl)
theorem dX1_malt_1 : decode cX1_malt 1 = .ok (.iconst 5, 1) := dk_8 (dk_at dksX1_malt_0 1 rfl rfl)
theorem dX1_malt_2 : decode cX1_malt 2 = .ok (.invokevirtual 371, 3) := dk_182 1 115 (dk_at dksX1_malt_0 2 rfl rfl)
theorem dX1_malt_5 : decode cX1_malt 5 = .ok (.ireturn, 1) := dk_172 (dk_at dksX1_malt_0 5 rfl rfl)
abbrev cX1_kernelsIn : ByteArray := prog_1_method_66_code
def yX1_kernelsIn : MethodName := ⟨RX1, "kernelsIn", "(I)I"⟩
def dkwX1_kernelsIn_2 : List UInt8 := [167, 255, 213, 28, 172]
abbrev dktX1_kernelsIn_2 : List UInt8 := dkwX1_kernelsIn_2 ++ []
def dkwX1_kernelsIn_1 : List UInt8 := [46, 27, 160, 0, 15, 42, 180, 0, 27, 180, 1, 14, 29, 46, 167, 0, 4, 3, 96, 61, 132, 3, 1]
abbrev dktX1_kernelsIn_1 : List UInt8 := dkwX1_kernelsIn_1 ++ dktX1_kernelsIn_2
def dkwX1_kernelsIn_0 : List UInt8 := [3, 61, 3, 62, 29, 42, 180, 0, 27, 180, 0, 77, 162, 0, 38, 28, 42, 180, 0, 27, 180, 1, 7, 29]
abbrev dktX1_kernelsIn_0 : List UInt8 := dkwX1_kernelsIn_0 ++ dktX1_kernelsIn_1
theorem dksX1_kernelsIn_0 : cX1_kernelsIn.data.toList.drop 0 = dktX1_kernelsIn_0 := by decide +kernel
theorem dksX1_kernelsIn_1 : cX1_kernelsIn.data.toList.drop 24 = dktX1_kernelsIn_1 := dk_seg dksX1_kernelsIn_0 24 rfl rfl
theorem dksX1_kernelsIn_2 : cX1_kernelsIn.data.toList.drop 47 = dktX1_kernelsIn_2 := dk_seg dksX1_kernelsIn_1 23 rfl rfl
theorem dX1_kernelsIn_0 : decode cX1_kernelsIn 0 = .ok (.iconst 0, 1) := dk_3 (dk_at dksX1_kernelsIn_0 0 rfl rfl)
theorem dX1_kernelsIn_1 : decode cX1_kernelsIn 1 = .ok (.istore_n 2, 1) := dk_61 (dk_at dksX1_kernelsIn_0 1 rfl rfl)
theorem dX1_kernelsIn_2 : decode cX1_kernelsIn 2 = .ok (.iconst 0, 1) := dk_3 (dk_at dksX1_kernelsIn_0 2 rfl rfl)
theorem dX1_kernelsIn_3 : decode cX1_kernelsIn 3 = .ok (.istore_n 3, 1) := dk_62 (dk_at dksX1_kernelsIn_0 3 rfl rfl)
theorem dX1_kernelsIn_4 : decode cX1_kernelsIn 4 = .ok (.iload_n 3, 1) := dk_29 (dk_at dksX1_kernelsIn_0 4 rfl rfl)
theorem dX1_kernelsIn_5 : decode cX1_kernelsIn 5 = .ok (.aload_n 0, 1) := dk_42 (dk_at dksX1_kernelsIn_0 5 rfl rfl)
theorem dX1_kernelsIn_6 : decode cX1_kernelsIn 6 = .ok (.getfield 27, 3) := dk_180 0 27 (dk_at dksX1_kernelsIn_0 6 rfl rfl)
theorem dX1_kernelsIn_9 : decode cX1_kernelsIn 9 = .ok (.getfield 77, 3) := dk_180 0 77 (dk_at dksX1_kernelsIn_0 9 rfl rfl)
theorem dX1_kernelsIn_12 : decode cX1_kernelsIn 12 = .ok (.if_icmp .ge 38, 3) := dk_162 0 38 (dk_at dksX1_kernelsIn_0 12 rfl rfl)
theorem dX1_kernelsIn_15 : decode cX1_kernelsIn 15 = .ok (.iload_n 2, 1) := dk_28 (dk_at dksX1_kernelsIn_0 15 rfl rfl)
theorem dX1_kernelsIn_16 : decode cX1_kernelsIn 16 = .ok (.aload_n 0, 1) := dk_42 (dk_at dksX1_kernelsIn_0 16 rfl rfl)
theorem dX1_kernelsIn_17 : decode cX1_kernelsIn 17 = .ok (.getfield 27, 3) := dk_180 0 27 (dk_at dksX1_kernelsIn_0 17 rfl rfl)
theorem dX1_kernelsIn_20 : decode cX1_kernelsIn 20 = .ok (.getfield 263, 3) := dk_180 1 7 (dk_at dksX1_kernelsIn_0 20 rfl rfl)
theorem dX1_kernelsIn_23 : decode cX1_kernelsIn 23 = .ok (.iload_n 3, 1) := dk_29 (dk_at dksX1_kernelsIn_0 23 rfl rfl)
theorem dX1_kernelsIn_24 : decode cX1_kernelsIn 24 = .ok (.iaload, 1) := dk_46 (dk_at dksX1_kernelsIn_1 0 rfl rfl)
theorem dX1_kernelsIn_25 : decode cX1_kernelsIn 25 = .ok (.iload_n 1, 1) := dk_27 (dk_at dksX1_kernelsIn_1 1 rfl rfl)
theorem dX1_kernelsIn_26 : decode cX1_kernelsIn 26 = .ok (.if_icmp .ne 15, 3) := dk_160 0 15 (dk_at dksX1_kernelsIn_1 2 rfl rfl)
theorem dX1_kernelsIn_29 : decode cX1_kernelsIn 29 = .ok (.aload_n 0, 1) := dk_42 (dk_at dksX1_kernelsIn_1 5 rfl rfl)
theorem dX1_kernelsIn_30 : decode cX1_kernelsIn 30 = .ok (.getfield 27, 3) := dk_180 0 27 (dk_at dksX1_kernelsIn_1 6 rfl rfl)
theorem dX1_kernelsIn_33 : decode cX1_kernelsIn 33 = .ok (.getfield 270, 3) := dk_180 1 14 (dk_at dksX1_kernelsIn_1 9 rfl rfl)
theorem dX1_kernelsIn_36 : decode cX1_kernelsIn 36 = .ok (.iload_n 3, 1) := dk_29 (dk_at dksX1_kernelsIn_1 12 rfl rfl)
theorem dX1_kernelsIn_37 : decode cX1_kernelsIn 37 = .ok (.iaload, 1) := dk_46 (dk_at dksX1_kernelsIn_1 13 rfl rfl)
theorem dX1_kernelsIn_38 : decode cX1_kernelsIn 38 = .ok (.goto 4, 3) := dk_167 0 4 (dk_at dksX1_kernelsIn_1 14 rfl rfl)
theorem dX1_kernelsIn_41 : decode cX1_kernelsIn 41 = .ok (.iconst 0, 1) := dk_3 (dk_at dksX1_kernelsIn_1 17 rfl rfl)
theorem dX1_kernelsIn_42 : decode cX1_kernelsIn 42 = .ok (.iadd, 1) := dk_96 (dk_at dksX1_kernelsIn_1 18 rfl rfl)
theorem dX1_kernelsIn_43 : decode cX1_kernelsIn 43 = .ok (.istore_n 2, 1) := dk_61 (dk_at dksX1_kernelsIn_1 19 rfl rfl)
theorem dX1_kernelsIn_44 : decode cX1_kernelsIn 44 = .ok (.iinc 3 1, 3) := dk_132 3 1 (dk_at dksX1_kernelsIn_1 20 rfl rfl)
theorem dX1_kernelsIn_47 : decode cX1_kernelsIn 47 = .ok (.goto (-43), 3) := dk_167 255 213 (dk_at dksX1_kernelsIn_2 0 rfl rfl)
theorem dX1_kernelsIn_50 : decode cX1_kernelsIn 50 = .ok (.iload_n 2, 1) := dk_28 (dk_at dksX1_kernelsIn_2 3 rfl rfl)
theorem dX1_kernelsIn_51 : decode cX1_kernelsIn 51 = .ok (.ireturn, 1) := dk_172 (dk_at dksX1_kernelsIn_2 4 rfl rfl)
abbrev cX1_culms : ByteArray := prog_1_method_69_code
def yX1_culms : MethodName := ⟨RX1, "culms", "()I"⟩
def dkwX1_culms_0 : List UInt8 := [42, 180, 0, 27, 8, 182, 1, 54, 42, 8, 182, 1, 115, 100, 172]
abbrev dktX1_culms_0 : List UInt8 := dkwX1_culms_0 ++ []
theorem dksX1_culms_0 : cX1_culms.data.toList.drop 0 = dktX1_culms_0 := by decide +kernel
theorem dX1_culms_0 : decode cX1_culms 0 = .ok (.aload_n 0, 1) := dk_42 (dk_at dksX1_culms_0 0 rfl rfl)
theorem dX1_culms_1 : decode cX1_culms 1 = .ok (.getfield 27, 3) := dk_180 0 27 (dk_at dksX1_culms_0 1 rfl rfl)
theorem dX1_culms_4 : decode cX1_culms 4 = .ok (.iconst 5, 1) := dk_8 (dk_at dksX1_culms_0 4 rfl rfl)
theorem dX1_culms_5 : decode cX1_culms 5 = .ok (.invokevirtual 310, 3) := dk_182 1 54 (dk_at dksX1_culms_0 5 rfl rfl)
theorem dX1_culms_8 : decode cX1_culms 8 = .ok (.aload_n 0, 1) := dk_42 (dk_at dksX1_culms_0 8 rfl rfl)
theorem dX1_culms_9 : decode cX1_culms 9 = .ok (.iconst 5, 1) := dk_8 (dk_at dksX1_culms_0 9 rfl rfl)
theorem dX1_culms_10 : decode cX1_culms 10 = .ok (.invokevirtual 371, 3) := dk_182 1 115 (dk_at dksX1_culms_0 10 rfl rfl)
theorem dX1_culms_13 : decode cX1_culms 13 = .ok (.isub, 1) := dk_100 (dk_at dksX1_culms_0 13 rfl rfl)
theorem dX1_culms_14 : decode cX1_culms 14 = .ok (.ireturn, 1) := dk_172 (dk_at dksX1_culms_0 14 rfl rfl)
abbrev cX1_spoilt : ByteArray := prog_1_method_70_code
def yX1_spoilt : MethodName := ⟨RX1, "spoilt", "()I"⟩
def dkwX1_spoilt_0 : List UInt8 := [42, 180, 0, 27, 16, 6, 182, 1, 54, 172]
abbrev dktX1_spoilt_0 : List UInt8 := dkwX1_spoilt_0 ++ []
theorem dksX1_spoilt_0 : cX1_spoilt.data.toList.drop 0 = dktX1_spoilt_0 := by decide +kernel
theorem dX1_spoilt_0 : decode cX1_spoilt 0 = .ok (.aload_n 0, 1) := dk_42 (dk_at dksX1_spoilt_0 0 rfl rfl)
theorem dX1_spoilt_1 : decode cX1_spoilt 1 = .ok (.getfield 27, 3) := dk_180 0 27 (dk_at dksX1_spoilt_0 1 rfl rfl)
theorem dX1_spoilt_4 : decode cX1_spoilt 4 = .ok (.bipush 6, 2) := dk_16 6 (dk_at dksX1_spoilt_0 4 rfl rfl)
theorem dX1_spoilt_6 : decode cX1_spoilt 6 = .ok (.invokevirtual 310, 3) := dk_182 1 54 (dk_at dksX1_spoilt_0 6 rfl rfl)
theorem dX1_spoilt_9 : decode cX1_spoilt 9 = .ok (.ireturn, 1) := dk_172 (dk_at dksX1_spoilt_0 9 rfl rfl)
abbrev cX1_breathed : ByteArray := prog_1_method_71_code
def yX1_breathed : MethodName := ⟨RX1, "breathed", "()I"⟩
def dkwX1_breathed_0 : List UInt8 := [42, 180, 0, 27, 180, 1, 118, 172]
abbrev dktX1_breathed_0 : List UInt8 := dkwX1_breathed_0 ++ []
theorem dksX1_breathed_0 : cX1_breathed.data.toList.drop 0 = dktX1_breathed_0 := by decide +kernel
theorem dX1_breathed_0 : decode cX1_breathed 0 = .ok (.aload_n 0, 1) := dk_42 (dk_at dksX1_breathed_0 0 rfl rfl)
theorem dX1_breathed_1 : decode cX1_breathed 1 = .ok (.getfield 27, 3) := dk_180 0 27 (dk_at dksX1_breathed_0 1 rfl rfl)
theorem dX1_breathed_4 : decode cX1_breathed 4 = .ok (.getfield 374, 3) := dk_180 1 118 (dk_at dksX1_breathed_0 4 rfl rfl)
theorem dX1_breathed_7 : decode cX1_breathed 7 = .ok (.ireturn, 1) := dk_172 (dk_at dksX1_breathed_0 7 rfl rfl)
abbrev cX1_sprays : ByteArray := prog_1_method_72_code
def yX1_sprays : MethodName := ⟨RX1, "sprays", "()I"⟩
def dkwX1_sprays_0 : List UInt8 := [42, 180, 0, 27, 180, 1, 120, 172]
abbrev dktX1_sprays_0 : List UInt8 := dkwX1_sprays_0 ++ []
theorem dksX1_sprays_0 : cX1_sprays.data.toList.drop 0 = dktX1_sprays_0 := by decide +kernel
theorem dX1_sprays_0 : decode cX1_sprays 0 = .ok (.aload_n 0, 1) := dk_42 (dk_at dksX1_sprays_0 0 rfl rfl)
theorem dX1_sprays_1 : decode cX1_sprays 1 = .ok (.getfield 27, 3) := dk_180 0 27 (dk_at dksX1_sprays_0 1 rfl rfl)
theorem dX1_sprays_4 : decode cX1_sprays 4 = .ok (.getfield 376, 3) := dk_180 1 120 (dk_at dksX1_sprays_0 4 rfl rfl)
theorem dX1_sprays_7 : decode cX1_sprays 7 = .ok (.ireturn, 1) := dk_172 (dk_at dksX1_sprays_0 7 rfl rfl)
abbrev cX1_meanGrowth : ByteArray := prog_1_method_73_code
def yX1_meanGrowth : MethodName := ⟨RX1, "meanGrowth", "()D"⟩
def dkwX1_meanGrowth_3 : List UInt8 := [28, 135, 111, 175]
abbrev dktX1_meanGrowth_3 : List UInt8 := dkwX1_meanGrowth_3 ++ []
def dkwX1_meanGrowth_2 : List UInt8 := [29, 46, 167, 0, 4, 3, 96, 60, 132, 3, 1, 167, 255, 213, 28, 154, 0, 7, 14, 167, 0, 8, 27, 135]
abbrev dktX1_meanGrowth_2 : List UInt8 := dkwX1_meanGrowth_2 ++ dktX1_meanGrowth_3
def dkwX1_meanGrowth_1 : List UInt8 := [162, 0, 38, 27, 42, 180, 0, 27, 180, 1, 7, 29, 46, 8, 160, 0, 15, 42, 180, 0, 27, 180, 1, 23]
abbrev dktX1_meanGrowth_1 : List UInt8 := dkwX1_meanGrowth_1 ++ dktX1_meanGrowth_2
def dkwX1_meanGrowth_0 : List UInt8 := [3, 60, 42, 180, 0, 27, 8, 182, 1, 38, 184, 1, 123, 61, 3, 62, 29, 42, 180, 0, 27, 180, 0, 77]
abbrev dktX1_meanGrowth_0 : List UInt8 := dkwX1_meanGrowth_0 ++ dktX1_meanGrowth_1
theorem dksX1_meanGrowth_0 : cX1_meanGrowth.data.toList.drop 0 = dktX1_meanGrowth_0 := by decide +kernel
theorem dksX1_meanGrowth_1 : cX1_meanGrowth.data.toList.drop 24 = dktX1_meanGrowth_1 := dk_seg dksX1_meanGrowth_0 24 rfl rfl
theorem dksX1_meanGrowth_2 : cX1_meanGrowth.data.toList.drop 48 = dktX1_meanGrowth_2 := dk_seg dksX1_meanGrowth_1 24 rfl rfl
theorem dksX1_meanGrowth_3 : cX1_meanGrowth.data.toList.drop 72 = dktX1_meanGrowth_3 := dk_seg dksX1_meanGrowth_2 24 rfl rfl
theorem dX1_meanGrowth_0 : decode cX1_meanGrowth 0 = .ok (.iconst 0, 1) := dk_3 (dk_at dksX1_meanGrowth_0 0 rfl rfl)
theorem dX1_meanGrowth_1 : decode cX1_meanGrowth 1 = .ok (.istore_n 1, 1) := dk_60 (dk_at dksX1_meanGrowth_0 1 rfl rfl)
theorem dX1_meanGrowth_2 : decode cX1_meanGrowth 2 = .ok (.aload_n 0, 1) := dk_42 (dk_at dksX1_meanGrowth_0 2 rfl rfl)
theorem dX1_meanGrowth_3 : decode cX1_meanGrowth 3 = .ok (.getfield 27, 3) := dk_180 0 27 (dk_at dksX1_meanGrowth_0 3 rfl rfl)
theorem dX1_meanGrowth_6 : decode cX1_meanGrowth 6 = .ok (.iconst 5, 1) := dk_8 (dk_at dksX1_meanGrowth_0 6 rfl rfl)
theorem dX1_meanGrowth_7 : decode cX1_meanGrowth 7 = .ok (.invokevirtual 294, 3) := dk_182 1 38 (dk_at dksX1_meanGrowth_0 7 rfl rfl)
theorem dX1_meanGrowth_10 : decode cX1_meanGrowth 10 = .ok (.invokestatic 379, 3) := dk_184 1 123 (dk_at dksX1_meanGrowth_0 10 rfl rfl)
theorem dX1_meanGrowth_13 : decode cX1_meanGrowth 13 = .ok (.istore_n 2, 1) := dk_61 (dk_at dksX1_meanGrowth_0 13 rfl rfl)
theorem dX1_meanGrowth_14 : decode cX1_meanGrowth 14 = .ok (.iconst 0, 1) := dk_3 (dk_at dksX1_meanGrowth_0 14 rfl rfl)
theorem dX1_meanGrowth_15 : decode cX1_meanGrowth 15 = .ok (.istore_n 3, 1) := dk_62 (dk_at dksX1_meanGrowth_0 15 rfl rfl)
theorem dX1_meanGrowth_16 : decode cX1_meanGrowth 16 = .ok (.iload_n 3, 1) := dk_29 (dk_at dksX1_meanGrowth_0 16 rfl rfl)
theorem dX1_meanGrowth_17 : decode cX1_meanGrowth 17 = .ok (.aload_n 0, 1) := dk_42 (dk_at dksX1_meanGrowth_0 17 rfl rfl)
theorem dX1_meanGrowth_18 : decode cX1_meanGrowth 18 = .ok (.getfield 27, 3) := dk_180 0 27 (dk_at dksX1_meanGrowth_0 18 rfl rfl)
theorem dX1_meanGrowth_21 : decode cX1_meanGrowth 21 = .ok (.getfield 77, 3) := dk_180 0 77 (dk_at dksX1_meanGrowth_0 21 rfl rfl)
theorem dX1_meanGrowth_24 : decode cX1_meanGrowth 24 = .ok (.if_icmp .ge 38, 3) := dk_162 0 38 (dk_at dksX1_meanGrowth_1 0 rfl rfl)
theorem dX1_meanGrowth_27 : decode cX1_meanGrowth 27 = .ok (.iload_n 1, 1) := dk_27 (dk_at dksX1_meanGrowth_1 3 rfl rfl)
theorem dX1_meanGrowth_28 : decode cX1_meanGrowth 28 = .ok (.aload_n 0, 1) := dk_42 (dk_at dksX1_meanGrowth_1 4 rfl rfl)
theorem dX1_meanGrowth_29 : decode cX1_meanGrowth 29 = .ok (.getfield 27, 3) := dk_180 0 27 (dk_at dksX1_meanGrowth_1 5 rfl rfl)
theorem dX1_meanGrowth_32 : decode cX1_meanGrowth 32 = .ok (.getfield 263, 3) := dk_180 1 7 (dk_at dksX1_meanGrowth_1 8 rfl rfl)
theorem dX1_meanGrowth_35 : decode cX1_meanGrowth 35 = .ok (.iload_n 3, 1) := dk_29 (dk_at dksX1_meanGrowth_1 11 rfl rfl)
theorem dX1_meanGrowth_36 : decode cX1_meanGrowth 36 = .ok (.iaload, 1) := dk_46 (dk_at dksX1_meanGrowth_1 12 rfl rfl)
theorem dX1_meanGrowth_37 : decode cX1_meanGrowth 37 = .ok (.iconst 5, 1) := dk_8 (dk_at dksX1_meanGrowth_1 13 rfl rfl)
theorem dX1_meanGrowth_38 : decode cX1_meanGrowth 38 = .ok (.if_icmp .ne 15, 3) := dk_160 0 15 (dk_at dksX1_meanGrowth_1 14 rfl rfl)
theorem dX1_meanGrowth_41 : decode cX1_meanGrowth 41 = .ok (.aload_n 0, 1) := dk_42 (dk_at dksX1_meanGrowth_1 17 rfl rfl)
theorem dX1_meanGrowth_42 : decode cX1_meanGrowth 42 = .ok (.getfield 27, 3) := dk_180 0 27 (dk_at dksX1_meanGrowth_1 18 rfl rfl)
theorem dX1_meanGrowth_45 : decode cX1_meanGrowth 45 = .ok (.getfield 279, 3) := dk_180 1 23 (dk_at dksX1_meanGrowth_1 21 rfl rfl)
theorem dX1_meanGrowth_48 : decode cX1_meanGrowth 48 = .ok (.iload_n 3, 1) := dk_29 (dk_at dksX1_meanGrowth_2 0 rfl rfl)
theorem dX1_meanGrowth_49 : decode cX1_meanGrowth 49 = .ok (.iaload, 1) := dk_46 (dk_at dksX1_meanGrowth_2 1 rfl rfl)
theorem dX1_meanGrowth_50 : decode cX1_meanGrowth 50 = .ok (.goto 4, 3) := dk_167 0 4 (dk_at dksX1_meanGrowth_2 2 rfl rfl)
theorem dX1_meanGrowth_53 : decode cX1_meanGrowth 53 = .ok (.iconst 0, 1) := dk_3 (dk_at dksX1_meanGrowth_2 5 rfl rfl)
theorem dX1_meanGrowth_54 : decode cX1_meanGrowth 54 = .ok (.iadd, 1) := dk_96 (dk_at dksX1_meanGrowth_2 6 rfl rfl)
theorem dX1_meanGrowth_55 : decode cX1_meanGrowth 55 = .ok (.istore_n 1, 1) := dk_60 (dk_at dksX1_meanGrowth_2 7 rfl rfl)
theorem dX1_meanGrowth_56 : decode cX1_meanGrowth 56 = .ok (.iinc 3 1, 3) := dk_132 3 1 (dk_at dksX1_meanGrowth_2 8 rfl rfl)
theorem dX1_meanGrowth_59 : decode cX1_meanGrowth 59 = .ok (.goto (-43), 3) := dk_167 255 213 (dk_at dksX1_meanGrowth_2 11 rfl rfl)
theorem dX1_meanGrowth_62 : decode cX1_meanGrowth 62 = .ok (.iload_n 2, 1) := dk_28 (dk_at dksX1_meanGrowth_2 14 rfl rfl)
theorem dX1_meanGrowth_63 : decode cX1_meanGrowth 63 = .ok (.ifCond .ne 7, 3) := dk_154 0 7 (dk_at dksX1_meanGrowth_2 15 rfl rfl)
theorem dX1_meanGrowth_66 : decode cX1_meanGrowth 66 = .ok (.dconst 0, 1) := dk_14 (dk_at dksX1_meanGrowth_2 18 rfl rfl)
theorem dX1_meanGrowth_67 : decode cX1_meanGrowth 67 = .ok (.goto 8, 3) := dk_167 0 8 (dk_at dksX1_meanGrowth_2 19 rfl rfl)
theorem dX1_meanGrowth_70 : decode cX1_meanGrowth 70 = .ok (.iload_n 1, 1) := dk_27 (dk_at dksX1_meanGrowth_2 22 rfl rfl)
theorem dX1_meanGrowth_71 : decode cX1_meanGrowth 71 = .ok (.i2d, 1) := dk_135 (dk_at dksX1_meanGrowth_2 23 rfl rfl)
theorem dX1_meanGrowth_72 : decode cX1_meanGrowth 72 = .ok (.iload_n 2, 1) := dk_28 (dk_at dksX1_meanGrowth_3 0 rfl rfl)
theorem dX1_meanGrowth_73 : decode cX1_meanGrowth 73 = .ok (.i2d, 1) := dk_135 (dk_at dksX1_meanGrowth_3 1 rfl rfl)
theorem dX1_meanGrowth_74 : decode cX1_meanGrowth 74 = .ok (.ddiv, 1) := dk_111 (dk_at dksX1_meanGrowth_3 2 rfl rfl)
theorem dX1_meanGrowth_75 : decode cX1_meanGrowth 75 = .ok (.dreturn, 1) := dk_175 (dk_at dksX1_meanGrowth_3 3 rfl rfl)
abbrev cX1_meanHeat : ByteArray := prog_1_method_74_code
def yX1_meanHeat : MethodName := ⟨RX1, "meanHeat", "()D"⟩
def dkwX1_meanHeat_3 : List UInt8 := [154, 0, 7, 14, 167, 0, 8, 27, 135, 28, 135, 111, 175]
abbrev dktX1_meanHeat_3 : List UInt8 := dkwX1_meanHeat_3 ++ []
def dkwX1_meanHeat_2 : List UInt8 := [180, 0, 27, 29, 182, 1, 41, 153, 0, 7, 4, 167, 0, 4, 3, 96, 61, 132, 3, 1, 167, 255, 196, 28]
abbrev dktX1_meanHeat_2 : List UInt8 := dkwX1_meanHeat_2 ++ dktX1_meanHeat_3
def dkwX1_meanHeat_1 : List UInt8 := [182, 1, 41, 153, 0, 15, 42, 180, 0, 27, 180, 1, 26, 29, 46, 167, 0, 4, 3, 96, 60, 28, 42]
abbrev dktX1_meanHeat_1 : List UInt8 := dkwX1_meanHeat_1 ++ dktX1_meanHeat_2
def dkwX1_meanHeat_0 : List UInt8 := [3, 60, 3, 61, 3, 62, 29, 42, 180, 0, 27, 180, 0, 77, 162, 0, 55, 27, 42, 180, 0, 27, 29]
abbrev dktX1_meanHeat_0 : List UInt8 := dkwX1_meanHeat_0 ++ dktX1_meanHeat_1
theorem dksX1_meanHeat_0 : cX1_meanHeat.data.toList.drop 0 = dktX1_meanHeat_0 := by decide +kernel
theorem dksX1_meanHeat_1 : cX1_meanHeat.data.toList.drop 23 = dktX1_meanHeat_1 := dk_seg dksX1_meanHeat_0 23 rfl rfl
theorem dksX1_meanHeat_2 : cX1_meanHeat.data.toList.drop 46 = dktX1_meanHeat_2 := dk_seg dksX1_meanHeat_1 23 rfl rfl
theorem dksX1_meanHeat_3 : cX1_meanHeat.data.toList.drop 70 = dktX1_meanHeat_3 := dk_seg dksX1_meanHeat_2 24 rfl rfl
theorem dX1_meanHeat_0 : decode cX1_meanHeat 0 = .ok (.iconst 0, 1) := dk_3 (dk_at dksX1_meanHeat_0 0 rfl rfl)
theorem dX1_meanHeat_1 : decode cX1_meanHeat 1 = .ok (.istore_n 1, 1) := dk_60 (dk_at dksX1_meanHeat_0 1 rfl rfl)
theorem dX1_meanHeat_2 : decode cX1_meanHeat 2 = .ok (.iconst 0, 1) := dk_3 (dk_at dksX1_meanHeat_0 2 rfl rfl)
theorem dX1_meanHeat_3 : decode cX1_meanHeat 3 = .ok (.istore_n 2, 1) := dk_61 (dk_at dksX1_meanHeat_0 3 rfl rfl)
theorem dX1_meanHeat_4 : decode cX1_meanHeat 4 = .ok (.iconst 0, 1) := dk_3 (dk_at dksX1_meanHeat_0 4 rfl rfl)
theorem dX1_meanHeat_5 : decode cX1_meanHeat 5 = .ok (.istore_n 3, 1) := dk_62 (dk_at dksX1_meanHeat_0 5 rfl rfl)
theorem dX1_meanHeat_6 : decode cX1_meanHeat 6 = .ok (.iload_n 3, 1) := dk_29 (dk_at dksX1_meanHeat_0 6 rfl rfl)
theorem dX1_meanHeat_7 : decode cX1_meanHeat 7 = .ok (.aload_n 0, 1) := dk_42 (dk_at dksX1_meanHeat_0 7 rfl rfl)
theorem dX1_meanHeat_8 : decode cX1_meanHeat 8 = .ok (.getfield 27, 3) := dk_180 0 27 (dk_at dksX1_meanHeat_0 8 rfl rfl)
theorem dX1_meanHeat_11 : decode cX1_meanHeat 11 = .ok (.getfield 77, 3) := dk_180 0 77 (dk_at dksX1_meanHeat_0 11 rfl rfl)
theorem dX1_meanHeat_14 : decode cX1_meanHeat 14 = .ok (.if_icmp .ge 55, 3) := dk_162 0 55 (dk_at dksX1_meanHeat_0 14 rfl rfl)
theorem dX1_meanHeat_17 : decode cX1_meanHeat 17 = .ok (.iload_n 1, 1) := dk_27 (dk_at dksX1_meanHeat_0 17 rfl rfl)
theorem dX1_meanHeat_18 : decode cX1_meanHeat 18 = .ok (.aload_n 0, 1) := dk_42 (dk_at dksX1_meanHeat_0 18 rfl rfl)
theorem dX1_meanHeat_19 : decode cX1_meanHeat 19 = .ok (.getfield 27, 3) := dk_180 0 27 (dk_at dksX1_meanHeat_0 19 rfl rfl)
theorem dX1_meanHeat_22 : decode cX1_meanHeat 22 = .ok (.iload_n 3, 1) := dk_29 (dk_at dksX1_meanHeat_0 22 rfl rfl)
theorem dX1_meanHeat_23 : decode cX1_meanHeat 23 = .ok (.invokevirtual 297, 3) := dk_182 1 41 (dk_at dksX1_meanHeat_1 0 rfl rfl)
theorem dX1_meanHeat_26 : decode cX1_meanHeat 26 = .ok (.ifCond .eq 15, 3) := dk_153 0 15 (dk_at dksX1_meanHeat_1 3 rfl rfl)
theorem dX1_meanHeat_29 : decode cX1_meanHeat 29 = .ok (.aload_n 0, 1) := dk_42 (dk_at dksX1_meanHeat_1 6 rfl rfl)
theorem dX1_meanHeat_30 : decode cX1_meanHeat 30 = .ok (.getfield 27, 3) := dk_180 0 27 (dk_at dksX1_meanHeat_1 7 rfl rfl)
theorem dX1_meanHeat_33 : decode cX1_meanHeat 33 = .ok (.getfield 282, 3) := dk_180 1 26 (dk_at dksX1_meanHeat_1 10 rfl rfl)
theorem dX1_meanHeat_36 : decode cX1_meanHeat 36 = .ok (.iload_n 3, 1) := dk_29 (dk_at dksX1_meanHeat_1 13 rfl rfl)
theorem dX1_meanHeat_37 : decode cX1_meanHeat 37 = .ok (.iaload, 1) := dk_46 (dk_at dksX1_meanHeat_1 14 rfl rfl)
theorem dX1_meanHeat_38 : decode cX1_meanHeat 38 = .ok (.goto 4, 3) := dk_167 0 4 (dk_at dksX1_meanHeat_1 15 rfl rfl)
theorem dX1_meanHeat_41 : decode cX1_meanHeat 41 = .ok (.iconst 0, 1) := dk_3 (dk_at dksX1_meanHeat_1 18 rfl rfl)
theorem dX1_meanHeat_42 : decode cX1_meanHeat 42 = .ok (.iadd, 1) := dk_96 (dk_at dksX1_meanHeat_1 19 rfl rfl)
theorem dX1_meanHeat_43 : decode cX1_meanHeat 43 = .ok (.istore_n 1, 1) := dk_60 (dk_at dksX1_meanHeat_1 20 rfl rfl)
theorem dX1_meanHeat_44 : decode cX1_meanHeat 44 = .ok (.iload_n 2, 1) := dk_28 (dk_at dksX1_meanHeat_1 21 rfl rfl)
theorem dX1_meanHeat_45 : decode cX1_meanHeat 45 = .ok (.aload_n 0, 1) := dk_42 (dk_at dksX1_meanHeat_1 22 rfl rfl)
theorem dX1_meanHeat_46 : decode cX1_meanHeat 46 = .ok (.getfield 27, 3) := dk_180 0 27 (dk_at dksX1_meanHeat_2 0 rfl rfl)
theorem dX1_meanHeat_49 : decode cX1_meanHeat 49 = .ok (.iload_n 3, 1) := dk_29 (dk_at dksX1_meanHeat_2 3 rfl rfl)
theorem dX1_meanHeat_50 : decode cX1_meanHeat 50 = .ok (.invokevirtual 297, 3) := dk_182 1 41 (dk_at dksX1_meanHeat_2 4 rfl rfl)
theorem dX1_meanHeat_53 : decode cX1_meanHeat 53 = .ok (.ifCond .eq 7, 3) := dk_153 0 7 (dk_at dksX1_meanHeat_2 7 rfl rfl)
theorem dX1_meanHeat_56 : decode cX1_meanHeat 56 = .ok (.iconst 1, 1) := dk_4 (dk_at dksX1_meanHeat_2 10 rfl rfl)
theorem dX1_meanHeat_57 : decode cX1_meanHeat 57 = .ok (.goto 4, 3) := dk_167 0 4 (dk_at dksX1_meanHeat_2 11 rfl rfl)
theorem dX1_meanHeat_60 : decode cX1_meanHeat 60 = .ok (.iconst 0, 1) := dk_3 (dk_at dksX1_meanHeat_2 14 rfl rfl)
theorem dX1_meanHeat_61 : decode cX1_meanHeat 61 = .ok (.iadd, 1) := dk_96 (dk_at dksX1_meanHeat_2 15 rfl rfl)
theorem dX1_meanHeat_62 : decode cX1_meanHeat 62 = .ok (.istore_n 2, 1) := dk_61 (dk_at dksX1_meanHeat_2 16 rfl rfl)
theorem dX1_meanHeat_63 : decode cX1_meanHeat 63 = .ok (.iinc 3 1, 3) := dk_132 3 1 (dk_at dksX1_meanHeat_2 17 rfl rfl)
theorem dX1_meanHeat_66 : decode cX1_meanHeat 66 = .ok (.goto (-60), 3) := dk_167 255 196 (dk_at dksX1_meanHeat_2 20 rfl rfl)
theorem dX1_meanHeat_69 : decode cX1_meanHeat 69 = .ok (.iload_n 2, 1) := dk_28 (dk_at dksX1_meanHeat_2 23 rfl rfl)
theorem dX1_meanHeat_70 : decode cX1_meanHeat 70 = .ok (.ifCond .ne 7, 3) := dk_154 0 7 (dk_at dksX1_meanHeat_3 0 rfl rfl)
theorem dX1_meanHeat_73 : decode cX1_meanHeat 73 = .ok (.dconst 0, 1) := dk_14 (dk_at dksX1_meanHeat_3 3 rfl rfl)
theorem dX1_meanHeat_74 : decode cX1_meanHeat 74 = .ok (.goto 8, 3) := dk_167 0 8 (dk_at dksX1_meanHeat_3 4 rfl rfl)
theorem dX1_meanHeat_77 : decode cX1_meanHeat 77 = .ok (.iload_n 1, 1) := dk_27 (dk_at dksX1_meanHeat_3 7 rfl rfl)
theorem dX1_meanHeat_78 : decode cX1_meanHeat 78 = .ok (.i2d, 1) := dk_135 (dk_at dksX1_meanHeat_3 8 rfl rfl)
theorem dX1_meanHeat_79 : decode cX1_meanHeat 79 = .ok (.iload_n 2, 1) := dk_28 (dk_at dksX1_meanHeat_3 9 rfl rfl)
theorem dX1_meanHeat_80 : decode cX1_meanHeat 80 = .ok (.i2d, 1) := dk_135 (dk_at dksX1_meanHeat_3 10 rfl rfl)
theorem dX1_meanHeat_81 : decode cX1_meanHeat 81 = .ok (.ddiv, 1) := dk_111 (dk_at dksX1_meanHeat_3 11 rfl rfl)
theorem dX1_meanHeat_82 : decode cX1_meanHeat 82 = .ok (.dreturn, 1) := dk_175 (dk_at dksX1_meanHeat_3 12 rfl rfl)
abbrev cX1_add : ByteArray := prog_1_method_9_code
def yX1_add : MethodName := ⟨RX1, "add", "(I)I"⟩
def dkwX1_add_1 : List UInt8 := [4, 167, 0, 4, 3, 184, 0, 81, 42, 182, 0, 84, 42, 180, 0, 27, 27, 182, 0, 87, 172]
abbrev dktX1_add_1 : List UInt8 := dkwX1_add_1 ++ []
def dkwX1_add_0 : List UInt8 := [27, 16, 100, 17, 3, 132, 184, 0, 70, 184, 0, 74, 42, 180, 0, 27, 180, 0, 77, 16, 12, 162, 0, 7]
abbrev dktX1_add_0 : List UInt8 := dkwX1_add_0 ++ dktX1_add_1
theorem dksX1_add_0 : cX1_add.data.toList.drop 0 = dktX1_add_0 := by decide +kernel
theorem dksX1_add_1 : cX1_add.data.toList.drop 24 = dktX1_add_1 := dk_seg dksX1_add_0 24 rfl rfl
theorem dX1_add_0 : decode cX1_add 0 = .ok (.iload_n 1, 1) := dk_27 (dk_at dksX1_add_0 0 rfl rfl)
theorem dX1_add_1 : decode cX1_add 1 = .ok (.bipush 100, 2) := dk_16 100 (dk_at dksX1_add_0 1 rfl rfl)
theorem dX1_add_3 : decode cX1_add 3 = .ok (.sipush 900, 3) := dk_17 3 132 (dk_at dksX1_add_0 3 rfl rfl)
theorem dX1_add_6 : decode cX1_add 6 = .ok (.invokestatic 70, 3) := dk_184 0 70 (dk_at dksX1_add_0 6 rfl rfl)
theorem dX1_add_9 : decode cX1_add 9 = .ok (.invokestatic 74, 3) := dk_184 0 74 (dk_at dksX1_add_0 9 rfl rfl)
theorem dX1_add_12 : decode cX1_add 12 = .ok (.aload_n 0, 1) := dk_42 (dk_at dksX1_add_0 12 rfl rfl)
theorem dX1_add_13 : decode cX1_add 13 = .ok (.getfield 27, 3) := dk_180 0 27 (dk_at dksX1_add_0 13 rfl rfl)
theorem dX1_add_16 : decode cX1_add 16 = .ok (.getfield 77, 3) := dk_180 0 77 (dk_at dksX1_add_0 16 rfl rfl)
theorem dX1_add_19 : decode cX1_add 19 = .ok (.bipush 12, 2) := dk_16 12 (dk_at dksX1_add_0 19 rfl rfl)
theorem dX1_add_21 : decode cX1_add 21 = .ok (.if_icmp .ge 7, 3) := dk_162 0 7 (dk_at dksX1_add_0 21 rfl rfl)
theorem dX1_add_24 : decode cX1_add 24 = .ok (.iconst 1, 1) := dk_4 (dk_at dksX1_add_1 0 rfl rfl)
theorem dX1_add_25 : decode cX1_add 25 = .ok (.goto 4, 3) := dk_167 0 4 (dk_at dksX1_add_1 1 rfl rfl)
theorem dX1_add_28 : decode cX1_add 28 = .ok (.iconst 0, 1) := dk_3 (dk_at dksX1_add_1 4 rfl rfl)
theorem dX1_add_29 : decode cX1_add 29 = .ok (.invokestatic 81, 3) := dk_184 0 81 (dk_at dksX1_add_1 5 rfl rfl)
theorem dX1_add_32 : decode cX1_add 32 = .ok (.aload_n 0, 1) := dk_42 (dk_at dksX1_add_1 8 rfl rfl)
theorem dX1_add_33 : decode cX1_add 33 = .ok (.invokevirtual 84, 3) := dk_182 0 84 (dk_at dksX1_add_1 9 rfl rfl)
theorem dX1_add_36 : decode cX1_add 36 = .ok (.aload_n 0, 1) := dk_42 (dk_at dksX1_add_1 12 rfl rfl)
theorem dX1_add_37 : decode cX1_add 37 = .ok (.getfield 27, 3) := dk_180 0 27 (dk_at dksX1_add_1 13 rfl rfl)
theorem dX1_add_40 : decode cX1_add 40 = .ok (.iload_n 1, 1) := dk_27 (dk_at dksX1_add_1 16 rfl rfl)
theorem dX1_add_41 : decode cX1_add 41 = .ok (.invokevirtual 87, 3) := dk_182 0 87 (dk_at dksX1_add_1 17 rfl rfl)
theorem dX1_add_44 : decode cX1_add 44 = .ok (.ireturn, 1) := dk_172 (dk_at dksX1_add_1 20 rfl rfl)
abbrev cX1_needArgument : ByteArray := prog_1_method_3_code
def yX1_needArgument : MethodName := ⟨RX1, "needArgument", "(Z)V"⟩
def dkwX1_needArgument_0 : List UInt8 := [26, 154, 0, 13, 187, 0, 9, 89, 18, 11, 183, 0, 13, 191, 177]
abbrev dktX1_needArgument_0 : List UInt8 := dkwX1_needArgument_0 ++ []
theorem dksX1_needArgument_0 : cX1_needArgument.data.toList.drop 0 = dktX1_needArgument_0 := by decide +kernel
theorem dX1_needArgument_0 : decode cX1_needArgument 0 = .ok (.iload_n 0, 1) := dk_26 (dk_at dksX1_needArgument_0 0 rfl rfl)
theorem dX1_needArgument_1 : decode cX1_needArgument 1 = .ok (.ifCond .ne 13, 3) := dk_154 0 13 (dk_at dksX1_needArgument_0 1 rfl rfl)
theorem dX1_needArgument_4 : decode cX1_needArgument 4 = .ok (.new 9, 3) := dk_187 0 9 (dk_at dksX1_needArgument_0 4 rfl rfl)
theorem dX1_needArgument_7 : decode cX1_needArgument 7 = .ok (.dup, 1) := dk_89 (dk_at dksX1_needArgument_0 7 rfl rfl)
theorem dX1_needArgument_8 : decode cX1_needArgument 8 = .ok (.ldc 11, 2) := dk_18 11 (dk_at dksX1_needArgument_0 8 rfl rfl)
theorem dX1_needArgument_10 : decode cX1_needArgument 10 = .ok (.invokespecial 13, 3) := dk_183 0 13 (dk_at dksX1_needArgument_0 10 rfl rfl)
theorem dX1_needArgument_13 : decode cX1_needArgument 13 = .ok (.athrow, 1) := dk_191 (dk_at dksX1_needArgument_0 13 rfl rfl)
theorem dX1_needArgument_14 : decode cX1_needArgument 14 = .ok (.return_, 1) := dk_177 (dk_at dksX1_needArgument_0 14 rfl rfl)
abbrev cX1_needState : ByteArray := prog_1_method_4_code
def yX1_needState : MethodName := ⟨RX1, "needState", "(Z)V"⟩
def dkwX1_needState_0 : List UInt8 := [26, 154, 0, 13, 187, 0, 14, 89, 18, 16, 183, 0, 18, 191, 177]
abbrev dktX1_needState_0 : List UInt8 := dkwX1_needState_0 ++ []
theorem dksX1_needState_0 : cX1_needState.data.toList.drop 0 = dktX1_needState_0 := by decide +kernel
theorem dX1_needState_0 : decode cX1_needState 0 = .ok (.iload_n 0, 1) := dk_26 (dk_at dksX1_needState_0 0 rfl rfl)
theorem dX1_needState_1 : decode cX1_needState 1 = .ok (.ifCond .ne 13, 3) := dk_154 0 13 (dk_at dksX1_needState_0 1 rfl rfl)
theorem dX1_needState_4 : decode cX1_needState 4 = .ok (.new 14, 3) := dk_187 0 14 (dk_at dksX1_needState_0 4 rfl rfl)
theorem dX1_needState_7 : decode cX1_needState 7 = .ok (.dup, 1) := dk_89 (dk_at dksX1_needState_0 7 rfl rfl)
theorem dX1_needState_8 : decode cX1_needState 8 = .ok (.ldc 16, 2) := dk_18 16 (dk_at dksX1_needState_0 8 rfl rfl)
theorem dX1_needState_10 : decode cX1_needState 10 = .ok (.invokespecial 18, 3) := dk_183 0 18 (dk_at dksX1_needState_0 10 rfl rfl)
theorem dX1_needState_13 : decode cX1_needState 13 = .ok (.athrow, 1) := dk_191 (dk_at dksX1_needState_0 13 rfl rfl)
theorem dX1_needState_14 : decode cX1_needState 14 = .ok (.return_, 1) := dk_177 (dk_at dksX1_needState_0 14 rfl rfl)
abbrev cX1_save : ByteArray := prog_1_method_6_code
def yX1_save : MethodName := ⟨RX1, "save", "()V"⟩
def dkwX1_save_1 : List UInt8 := [180, 0, 27, 182, 0, 55, 42, 187, 0, 24, 89, 42, 180, 0, 27, 183, 0, 59, 181, 0, 27, 177]
abbrev dktX1_save_1 : List UInt8 := dkwX1_save_1 ++ []
def dkwX1_save_0 : List UInt8 := [42, 180, 0, 36, 182, 0, 47, 8, 160, 0, 11, 42, 180, 0, 36, 182, 0, 51, 87, 42, 180, 0, 36, 42]
abbrev dktX1_save_0 : List UInt8 := dkwX1_save_0 ++ dktX1_save_1
theorem dksX1_save_0 : cX1_save.data.toList.drop 0 = dktX1_save_0 := by decide +kernel
theorem dksX1_save_1 : cX1_save.data.toList.drop 24 = dktX1_save_1 := dk_seg dksX1_save_0 24 rfl rfl
theorem dX1_save_0 : decode cX1_save 0 = .ok (.aload_n 0, 1) := dk_42 (dk_at dksX1_save_0 0 rfl rfl)
theorem dX1_save_1 : decode cX1_save 1 = .ok (.getfield 36, 3) := dk_180 0 36 (dk_at dksX1_save_0 1 rfl rfl)
theorem dX1_save_4 : decode cX1_save 4 = .ok (.invokevirtual 47, 3) := dk_182 0 47 (dk_at dksX1_save_0 4 rfl rfl)
theorem dX1_save_7 : decode cX1_save 7 = .ok (.iconst 5, 1) := dk_8 (dk_at dksX1_save_0 7 rfl rfl)
theorem dX1_save_8 : decode cX1_save 8 = .ok (.if_icmp .ne 11, 3) := dk_160 0 11 (dk_at dksX1_save_0 8 rfl rfl)
theorem dX1_save_11 : decode cX1_save 11 = .ok (.aload_n 0, 1) := dk_42 (dk_at dksX1_save_0 11 rfl rfl)
theorem dX1_save_12 : decode cX1_save 12 = .ok (.getfield 36, 3) := dk_180 0 36 (dk_at dksX1_save_0 12 rfl rfl)
theorem dX1_save_15 : decode cX1_save 15 = .ok (.invokevirtual 51, 3) := dk_182 0 51 (dk_at dksX1_save_0 15 rfl rfl)
theorem dX1_save_18 : decode cX1_save 18 = .ok (.pop, 1) := dk_87 (dk_at dksX1_save_0 18 rfl rfl)
theorem dX1_save_19 : decode cX1_save 19 = .ok (.aload_n 0, 1) := dk_42 (dk_at dksX1_save_0 19 rfl rfl)
theorem dX1_save_20 : decode cX1_save 20 = .ok (.getfield 36, 3) := dk_180 0 36 (dk_at dksX1_save_0 20 rfl rfl)
theorem dX1_save_23 : decode cX1_save 23 = .ok (.aload_n 0, 1) := dk_42 (dk_at dksX1_save_0 23 rfl rfl)
theorem dX1_save_24 : decode cX1_save 24 = .ok (.getfield 27, 3) := dk_180 0 27 (dk_at dksX1_save_1 0 rfl rfl)
theorem dX1_save_27 : decode cX1_save 27 = .ok (.invokevirtual 55, 3) := dk_182 0 55 (dk_at dksX1_save_1 3 rfl rfl)
theorem dX1_save_30 : decode cX1_save 30 = .ok (.aload_n 0, 1) := dk_42 (dk_at dksX1_save_1 6 rfl rfl)
theorem dX1_save_31 : decode cX1_save 31 = .ok (.new 24, 3) := dk_187 0 24 (dk_at dksX1_save_1 7 rfl rfl)
theorem dX1_save_34 : decode cX1_save 34 = .ok (.dup, 1) := dk_89 (dk_at dksX1_save_1 10 rfl rfl)
theorem dX1_save_35 : decode cX1_save 35 = .ok (.aload_n 0, 1) := dk_42 (dk_at dksX1_save_1 11 rfl rfl)
theorem dX1_save_36 : decode cX1_save 36 = .ok (.getfield 27, 3) := dk_180 0 27 (dk_at dksX1_save_1 12 rfl rfl)
theorem dX1_save_39 : decode cX1_save 39 = .ok (.invokespecial 59, 3) := dk_183 0 59 (dk_at dksX1_save_1 15 rfl rfl)
theorem dX1_save_42 : decode cX1_save 42 = .ok (.putfield 27, 3) := dk_181 0 27 (dk_at dksX1_save_1 18 rfl rfl)
theorem dX1_save_45 : decode cX1_save 45 = .ok (.return_, 1) := dk_177 (dk_at dksX1_save_1 21 rfl rfl)
abbrev cX1_steep : ByteArray := prog_1_method_10_code
def yX1_steep : MethodName := ⟨RX1, "steep", "(I)I"⟩
def dkwX1_steep_1 : List UInt8 := [42, 182, 0, 84, 42, 180, 0, 27, 27, 182, 0, 98, 172]
abbrev dktX1_steep_1 : List UInt8 := dkwX1_steep_1 ++ []
def dkwX1_steep_0 : List UInt8 := [42, 27, 182, 0, 91, 42, 180, 0, 27, 27, 182, 0, 95, 154, 0, 7, 4, 167, 0, 4, 3, 184, 0, 81]
abbrev dktX1_steep_0 : List UInt8 := dkwX1_steep_0 ++ dktX1_steep_1
theorem dksX1_steep_0 : cX1_steep.data.toList.drop 0 = dktX1_steep_0 := by decide +kernel
theorem dksX1_steep_1 : cX1_steep.data.toList.drop 24 = dktX1_steep_1 := dk_seg dksX1_steep_0 24 rfl rfl
theorem dX1_steep_0 : decode cX1_steep 0 = .ok (.aload_n 0, 1) := dk_42 (dk_at dksX1_steep_0 0 rfl rfl)
theorem dX1_steep_1 : decode cX1_steep 1 = .ok (.iload_n 1, 1) := dk_27 (dk_at dksX1_steep_0 1 rfl rfl)
theorem dX1_steep_2 : decode cX1_steep 2 = .ok (.invokevirtual 91, 3) := dk_182 0 91 (dk_at dksX1_steep_0 2 rfl rfl)
theorem dX1_steep_5 : decode cX1_steep 5 = .ok (.aload_n 0, 1) := dk_42 (dk_at dksX1_steep_0 5 rfl rfl)
theorem dX1_steep_6 : decode cX1_steep 6 = .ok (.getfield 27, 3) := dk_180 0 27 (dk_at dksX1_steep_0 6 rfl rfl)
theorem dX1_steep_9 : decode cX1_steep 9 = .ok (.iload_n 1, 1) := dk_27 (dk_at dksX1_steep_0 9 rfl rfl)
theorem dX1_steep_10 : decode cX1_steep 10 = .ok (.invokevirtual 95, 3) := dk_182 0 95 (dk_at dksX1_steep_0 10 rfl rfl)
theorem dX1_steep_13 : decode cX1_steep 13 = .ok (.ifCond .ne 7, 3) := dk_154 0 7 (dk_at dksX1_steep_0 13 rfl rfl)
theorem dX1_steep_16 : decode cX1_steep 16 = .ok (.iconst 1, 1) := dk_4 (dk_at dksX1_steep_0 16 rfl rfl)
theorem dX1_steep_17 : decode cX1_steep 17 = .ok (.goto 4, 3) := dk_167 0 4 (dk_at dksX1_steep_0 17 rfl rfl)
theorem dX1_steep_20 : decode cX1_steep 20 = .ok (.iconst 0, 1) := dk_3 (dk_at dksX1_steep_0 20 rfl rfl)
theorem dX1_steep_21 : decode cX1_steep 21 = .ok (.invokestatic 81, 3) := dk_184 0 81 (dk_at dksX1_steep_0 21 rfl rfl)
theorem dX1_steep_24 : decode cX1_steep 24 = .ok (.aload_n 0, 1) := dk_42 (dk_at dksX1_steep_1 0 rfl rfl)
theorem dX1_steep_25 : decode cX1_steep 25 = .ok (.invokevirtual 84, 3) := dk_182 0 84 (dk_at dksX1_steep_1 1 rfl rfl)
theorem dX1_steep_28 : decode cX1_steep 28 = .ok (.aload_n 0, 1) := dk_42 (dk_at dksX1_steep_1 4 rfl rfl)
theorem dX1_steep_29 : decode cX1_steep 29 = .ok (.getfield 27, 3) := dk_180 0 27 (dk_at dksX1_steep_1 5 rfl rfl)
theorem dX1_steep_32 : decode cX1_steep 32 = .ok (.iload_n 1, 1) := dk_27 (dk_at dksX1_steep_1 8 rfl rfl)
theorem dX1_steep_33 : decode cX1_steep 33 = .ok (.invokevirtual 98, 3) := dk_182 0 98 (dk_at dksX1_steep_1 9 rfl rfl)
theorem dX1_steep_36 : decode cX1_steep 36 = .ok (.ireturn, 1) := dk_172 (dk_at dksX1_steep_1 12 rfl rfl)
abbrev cX1_needLot : ByteArray := prog_1_method_7_code
def yX1_needLot : MethodName := ⟨RX1, "needLot", "(I)V"⟩
def dkwX1_needLot_0 : List UInt8 := [42, 180, 0, 27, 27, 182, 0, 62, 184, 0, 66, 177]
abbrev dktX1_needLot_0 : List UInt8 := dkwX1_needLot_0 ++ []
theorem dksX1_needLot_0 : cX1_needLot.data.toList.drop 0 = dktX1_needLot_0 := by decide +kernel
theorem dX1_needLot_0 : decode cX1_needLot 0 = .ok (.aload_n 0, 1) := dk_42 (dk_at dksX1_needLot_0 0 rfl rfl)
theorem dX1_needLot_1 : decode cX1_needLot 1 = .ok (.getfield 27, 3) := dk_180 0 27 (dk_at dksX1_needLot_0 1 rfl rfl)
theorem dX1_needLot_4 : decode cX1_needLot 4 = .ok (.iload_n 1, 1) := dk_27 (dk_at dksX1_needLot_0 4 rfl rfl)
theorem dX1_needLot_5 : decode cX1_needLot 5 = .ok (.invokevirtual 62, 3) := dk_182 0 62 (dk_at dksX1_needLot_0 5 rfl rfl)
theorem dX1_needLot_8 : decode cX1_needLot 8 = .ok (.invokestatic 66, 3) := dk_184 0 66 (dk_at dksX1_needLot_0 8 rfl rfl)
theorem dX1_needLot_11 : decode cX1_needLot 11 = .ok (.return_, 1) := dk_177 (dk_at dksX1_needLot_0 11 rfl rfl)
abbrev cX1_needThere : ByteArray := prog_1_method_2_code
def yX1_needThere : MethodName := ⟨RX1, "needThere", "(Z)V"⟩
def dkwX1_needThere_0 : List UInt8 := [26, 154, 0, 13, 187, 0, 1, 89, 18, 3, 183, 0, 5, 191, 177]
abbrev dktX1_needThere_0 : List UInt8 := dkwX1_needThere_0 ++ []
theorem dksX1_needThere_0 : cX1_needThere.data.toList.drop 0 = dktX1_needThere_0 := by decide +kernel
theorem dX1_needThere_0 : decode cX1_needThere 0 = .ok (.iload_n 0, 1) := dk_26 (dk_at dksX1_needThere_0 0 rfl rfl)
theorem dX1_needThere_1 : decode cX1_needThere 1 = .ok (.ifCond .ne 13, 3) := dk_154 0 13 (dk_at dksX1_needThere_0 1 rfl rfl)
theorem dX1_needThere_4 : decode cX1_needThere 4 = .ok (.new 1, 3) := dk_187 0 1 (dk_at dksX1_needThere_0 4 rfl rfl)
theorem dX1_needThere_7 : decode cX1_needThere 7 = .ok (.dup, 1) := dk_89 (dk_at dksX1_needThere_0 7 rfl rfl)
theorem dX1_needThere_8 : decode cX1_needThere 8 = .ok (.ldc 3, 2) := dk_18 3 (dk_at dksX1_needThere_0 8 rfl rfl)
theorem dX1_needThere_10 : decode cX1_needThere 10 = .ok (.invokespecial 5, 3) := dk_183 0 5 (dk_at dksX1_needThere_0 10 rfl rfl)
theorem dX1_needThere_13 : decode cX1_needThere 13 = .ok (.athrow, 1) := dk_191 (dk_at dksX1_needThere_0 13 rfl rfl)
theorem dX1_needThere_14 : decode cX1_needThere 14 = .ok (.return_, 1) := dk_177 (dk_at dksX1_needThere_0 14 rfl rfl)
abbrev cX1_toDrum : ByteArray := prog_1_method_11_code
def yX1_toDrum : MethodName := ⟨RX1, "toDrum", "(II)I"⟩
def dkwX1_toDrum_1 : List UInt8 := [4, 167, 0, 4, 3, 184, 0, 81, 42, 182, 0, 84, 42, 180, 0, 27, 27, 28, 182, 0, 108, 172]
abbrev dktX1_toDrum_1 : List UInt8 := dkwX1_toDrum_1 ++ []
def dkwX1_toDrum_0 : List UInt8 := [42, 27, 182, 0, 91, 28, 184, 0, 101, 184, 0, 66, 42, 180, 0, 27, 27, 28, 182, 0, 104, 154, 0, 7]
abbrev dktX1_toDrum_0 : List UInt8 := dkwX1_toDrum_0 ++ dktX1_toDrum_1
theorem dksX1_toDrum_0 : cX1_toDrum.data.toList.drop 0 = dktX1_toDrum_0 := by decide +kernel
theorem dksX1_toDrum_1 : cX1_toDrum.data.toList.drop 24 = dktX1_toDrum_1 := dk_seg dksX1_toDrum_0 24 rfl rfl
theorem dX1_toDrum_0 : decode cX1_toDrum 0 = .ok (.aload_n 0, 1) := dk_42 (dk_at dksX1_toDrum_0 0 rfl rfl)
theorem dX1_toDrum_1 : decode cX1_toDrum 1 = .ok (.iload_n 1, 1) := dk_27 (dk_at dksX1_toDrum_0 1 rfl rfl)
theorem dX1_toDrum_2 : decode cX1_toDrum 2 = .ok (.invokevirtual 91, 3) := dk_182 0 91 (dk_at dksX1_toDrum_0 2 rfl rfl)
theorem dX1_toDrum_5 : decode cX1_toDrum 5 = .ok (.iload_n 2, 1) := dk_28 (dk_at dksX1_toDrum_0 5 rfl rfl)
theorem dX1_toDrum_6 : decode cX1_toDrum 6 = .ok (.invokestatic 101, 3) := dk_184 0 101 (dk_at dksX1_toDrum_0 6 rfl rfl)
theorem dX1_toDrum_9 : decode cX1_toDrum 9 = .ok (.invokestatic 66, 3) := dk_184 0 66 (dk_at dksX1_toDrum_0 9 rfl rfl)
theorem dX1_toDrum_12 : decode cX1_toDrum 12 = .ok (.aload_n 0, 1) := dk_42 (dk_at dksX1_toDrum_0 12 rfl rfl)
theorem dX1_toDrum_13 : decode cX1_toDrum 13 = .ok (.getfield 27, 3) := dk_180 0 27 (dk_at dksX1_toDrum_0 13 rfl rfl)
theorem dX1_toDrum_16 : decode cX1_toDrum 16 = .ok (.iload_n 1, 1) := dk_27 (dk_at dksX1_toDrum_0 16 rfl rfl)
theorem dX1_toDrum_17 : decode cX1_toDrum 17 = .ok (.iload_n 2, 1) := dk_28 (dk_at dksX1_toDrum_0 17 rfl rfl)
theorem dX1_toDrum_18 : decode cX1_toDrum 18 = .ok (.invokevirtual 104, 3) := dk_182 0 104 (dk_at dksX1_toDrum_0 18 rfl rfl)
theorem dX1_toDrum_21 : decode cX1_toDrum 21 = .ok (.ifCond .ne 7, 3) := dk_154 0 7 (dk_at dksX1_toDrum_0 21 rfl rfl)
theorem dX1_toDrum_24 : decode cX1_toDrum 24 = .ok (.iconst 1, 1) := dk_4 (dk_at dksX1_toDrum_1 0 rfl rfl)
theorem dX1_toDrum_25 : decode cX1_toDrum 25 = .ok (.goto 4, 3) := dk_167 0 4 (dk_at dksX1_toDrum_1 1 rfl rfl)
theorem dX1_toDrum_28 : decode cX1_toDrum 28 = .ok (.iconst 0, 1) := dk_3 (dk_at dksX1_toDrum_1 4 rfl rfl)
theorem dX1_toDrum_29 : decode cX1_toDrum 29 = .ok (.invokestatic 81, 3) := dk_184 0 81 (dk_at dksX1_toDrum_1 5 rfl rfl)
theorem dX1_toDrum_32 : decode cX1_toDrum 32 = .ok (.aload_n 0, 1) := dk_42 (dk_at dksX1_toDrum_1 8 rfl rfl)
theorem dX1_toDrum_33 : decode cX1_toDrum 33 = .ok (.invokevirtual 84, 3) := dk_182 0 84 (dk_at dksX1_toDrum_1 9 rfl rfl)
theorem dX1_toDrum_36 : decode cX1_toDrum 36 = .ok (.aload_n 0, 1) := dk_42 (dk_at dksX1_toDrum_1 12 rfl rfl)
theorem dX1_toDrum_37 : decode cX1_toDrum 37 = .ok (.getfield 27, 3) := dk_180 0 27 (dk_at dksX1_toDrum_1 13 rfl rfl)
theorem dX1_toDrum_40 : decode cX1_toDrum 40 = .ok (.iload_n 1, 1) := dk_27 (dk_at dksX1_toDrum_1 16 rfl rfl)
theorem dX1_toDrum_41 : decode cX1_toDrum 41 = .ok (.iload_n 2, 1) := dk_28 (dk_at dksX1_toDrum_1 17 rfl rfl)
theorem dX1_toDrum_42 : decode cX1_toDrum 42 = .ok (.invokevirtual 108, 3) := dk_182 0 108 (dk_at dksX1_toDrum_1 18 rfl rfl)
theorem dX1_toDrum_45 : decode cX1_toDrum 45 = .ok (.ireturn, 1) := dk_172 (dk_at dksX1_toDrum_1 21 rfl rfl)
abbrev cX1_isDrum : ByteArray := prog_1_method_8_code
def yX1_isDrum : MethodName := ⟨RX1, "isDrum", "(I)Z"⟩
def dkwX1_isDrum_0 : List UInt8 := [26, 3, 6, 184, 0, 70, 172]
abbrev dktX1_isDrum_0 : List UInt8 := dkwX1_isDrum_0 ++ []
theorem dksX1_isDrum_0 : cX1_isDrum.data.toList.drop 0 = dktX1_isDrum_0 := by decide +kernel
theorem dX1_isDrum_0 : decode cX1_isDrum 0 = .ok (.iload_n 0, 1) := dk_26 (dk_at dksX1_isDrum_0 0 rfl rfl)
theorem dX1_isDrum_1 : decode cX1_isDrum 1 = .ok (.iconst 0, 1) := dk_3 (dk_at dksX1_isDrum_0 1 rfl rfl)
theorem dX1_isDrum_2 : decode cX1_isDrum 2 = .ok (.iconst 3, 1) := dk_6 (dk_at dksX1_isDrum_0 2 rfl rfl)
theorem dX1_isDrum_3 : decode cX1_isDrum 3 = .ok (.invokestatic 70, 3) := dk_184 0 70 (dk_at dksX1_isDrum_0 3 rfl rfl)
theorem dX1_isDrum_6 : decode cX1_isDrum 6 = .ok (.ireturn, 1) := dk_172 (dk_at dksX1_isDrum_0 6 rfl rfl)
abbrev cX1_toHeap : ByteArray := prog_1_method_12_code
def yX1_toHeap : MethodName := ⟨RX1, "toHeap", "(I)I"⟩
def dkwX1_toHeap_1 : List UInt8 := [27, 182, 0, 114, 172]
abbrev dktX1_toHeap_1 : List UInt8 := dkwX1_toHeap_1 ++ []
def dkwX1_toHeap_0 : List UInt8 := [42, 27, 182, 0, 91, 42, 180, 0, 27, 27, 182, 0, 111, 184, 0, 81, 42, 182, 0, 84, 42, 180, 0, 27]
abbrev dktX1_toHeap_0 : List UInt8 := dkwX1_toHeap_0 ++ dktX1_toHeap_1
theorem dksX1_toHeap_0 : cX1_toHeap.data.toList.drop 0 = dktX1_toHeap_0 := by decide +kernel
theorem dksX1_toHeap_1 : cX1_toHeap.data.toList.drop 24 = dktX1_toHeap_1 := dk_seg dksX1_toHeap_0 24 rfl rfl
theorem dX1_toHeap_0 : decode cX1_toHeap 0 = .ok (.aload_n 0, 1) := dk_42 (dk_at dksX1_toHeap_0 0 rfl rfl)
theorem dX1_toHeap_1 : decode cX1_toHeap 1 = .ok (.iload_n 1, 1) := dk_27 (dk_at dksX1_toHeap_0 1 rfl rfl)
theorem dX1_toHeap_2 : decode cX1_toHeap 2 = .ok (.invokevirtual 91, 3) := dk_182 0 91 (dk_at dksX1_toHeap_0 2 rfl rfl)
theorem dX1_toHeap_5 : decode cX1_toHeap 5 = .ok (.aload_n 0, 1) := dk_42 (dk_at dksX1_toHeap_0 5 rfl rfl)
theorem dX1_toHeap_6 : decode cX1_toHeap 6 = .ok (.getfield 27, 3) := dk_180 0 27 (dk_at dksX1_toHeap_0 6 rfl rfl)
theorem dX1_toHeap_9 : decode cX1_toHeap 9 = .ok (.iload_n 1, 1) := dk_27 (dk_at dksX1_toHeap_0 9 rfl rfl)
theorem dX1_toHeap_10 : decode cX1_toHeap 10 = .ok (.invokevirtual 111, 3) := dk_182 0 111 (dk_at dksX1_toHeap_0 10 rfl rfl)
theorem dX1_toHeap_13 : decode cX1_toHeap 13 = .ok (.invokestatic 81, 3) := dk_184 0 81 (dk_at dksX1_toHeap_0 13 rfl rfl)
theorem dX1_toHeap_16 : decode cX1_toHeap 16 = .ok (.aload_n 0, 1) := dk_42 (dk_at dksX1_toHeap_0 16 rfl rfl)
theorem dX1_toHeap_17 : decode cX1_toHeap 17 = .ok (.invokevirtual 84, 3) := dk_182 0 84 (dk_at dksX1_toHeap_0 17 rfl rfl)
theorem dX1_toHeap_20 : decode cX1_toHeap 20 = .ok (.aload_n 0, 1) := dk_42 (dk_at dksX1_toHeap_0 20 rfl rfl)
theorem dX1_toHeap_21 : decode cX1_toHeap 21 = .ok (.getfield 27, 3) := dk_180 0 27 (dk_at dksX1_toHeap_0 21 rfl rfl)
theorem dX1_toHeap_24 : decode cX1_toHeap 24 = .ok (.iload_n 1, 1) := dk_27 (dk_at dksX1_toHeap_1 0 rfl rfl)
theorem dX1_toHeap_25 : decode cX1_toHeap 25 = .ok (.invokevirtual 114, 3) := dk_182 0 114 (dk_at dksX1_toHeap_1 1 rfl rfl)
theorem dX1_toHeap_28 : decode cX1_toHeap 28 = .ok (.ireturn, 1) := dk_172 (dk_at dksX1_toHeap_1 4 rfl rfl)
abbrev cX1_load : ByteArray := prog_1_method_13_code
def yX1_load : MethodName := ⟨RX1, "load", "(I)I"⟩
def dkwX1_load_1 : List UInt8 := [42, 182, 0, 84, 42, 180, 0, 27, 27, 182, 0, 120, 172]
abbrev dktX1_load_1 : List UInt8 := dkwX1_load_1 ++ []
def dkwX1_load_0 : List UInt8 := [42, 27, 182, 0, 91, 42, 180, 0, 27, 27, 182, 0, 117, 154, 0, 7, 4, 167, 0, 4, 3, 184, 0, 81]
abbrev dktX1_load_0 : List UInt8 := dkwX1_load_0 ++ dktX1_load_1
theorem dksX1_load_0 : cX1_load.data.toList.drop 0 = dktX1_load_0 := by decide +kernel
theorem dksX1_load_1 : cX1_load.data.toList.drop 24 = dktX1_load_1 := dk_seg dksX1_load_0 24 rfl rfl
theorem dX1_load_0 : decode cX1_load 0 = .ok (.aload_n 0, 1) := dk_42 (dk_at dksX1_load_0 0 rfl rfl)
theorem dX1_load_1 : decode cX1_load 1 = .ok (.iload_n 1, 1) := dk_27 (dk_at dksX1_load_0 1 rfl rfl)
theorem dX1_load_2 : decode cX1_load 2 = .ok (.invokevirtual 91, 3) := dk_182 0 91 (dk_at dksX1_load_0 2 rfl rfl)
theorem dX1_load_5 : decode cX1_load 5 = .ok (.aload_n 0, 1) := dk_42 (dk_at dksX1_load_0 5 rfl rfl)
theorem dX1_load_6 : decode cX1_load 6 = .ok (.getfield 27, 3) := dk_180 0 27 (dk_at dksX1_load_0 6 rfl rfl)
theorem dX1_load_9 : decode cX1_load 9 = .ok (.iload_n 1, 1) := dk_27 (dk_at dksX1_load_0 9 rfl rfl)
theorem dX1_load_10 : decode cX1_load 10 = .ok (.invokevirtual 117, 3) := dk_182 0 117 (dk_at dksX1_load_0 10 rfl rfl)
theorem dX1_load_13 : decode cX1_load 13 = .ok (.ifCond .ne 7, 3) := dk_154 0 7 (dk_at dksX1_load_0 13 rfl rfl)
theorem dX1_load_16 : decode cX1_load 16 = .ok (.iconst 1, 1) := dk_4 (dk_at dksX1_load_0 16 rfl rfl)
theorem dX1_load_17 : decode cX1_load 17 = .ok (.goto 4, 3) := dk_167 0 4 (dk_at dksX1_load_0 17 rfl rfl)
theorem dX1_load_20 : decode cX1_load 20 = .ok (.iconst 0, 1) := dk_3 (dk_at dksX1_load_0 20 rfl rfl)
theorem dX1_load_21 : decode cX1_load 21 = .ok (.invokestatic 81, 3) := dk_184 0 81 (dk_at dksX1_load_0 21 rfl rfl)
theorem dX1_load_24 : decode cX1_load 24 = .ok (.aload_n 0, 1) := dk_42 (dk_at dksX1_load_1 0 rfl rfl)
theorem dX1_load_25 : decode cX1_load 25 = .ok (.invokevirtual 84, 3) := dk_182 0 84 (dk_at dksX1_load_1 1 rfl rfl)
theorem dX1_load_28 : decode cX1_load 28 = .ok (.aload_n 0, 1) := dk_42 (dk_at dksX1_load_1 4 rfl rfl)
theorem dX1_load_29 : decode cX1_load 29 = .ok (.getfield 27, 3) := dk_180 0 27 (dk_at dksX1_load_1 5 rfl rfl)
theorem dX1_load_32 : decode cX1_load 32 = .ok (.iload_n 1, 1) := dk_27 (dk_at dksX1_load_1 8 rfl rfl)
theorem dX1_load_33 : decode cX1_load 33 = .ok (.invokevirtual 120, 3) := dk_182 0 120 (dk_at dksX1_load_1 9 rfl rfl)
theorem dX1_load_36 : decode cX1_load 36 = .ok (.ireturn, 1) := dk_172 (dk_at dksX1_load_1 12 rfl rfl)
abbrev cX1_light : ByteArray := prog_1_method_14_code
def yX1_light : MethodName := ⟨RX1, "light", "()I"⟩
def dkwX1_light_0 : List UInt8 := [42, 180, 0, 27, 182, 0, 123, 184, 0, 81, 42, 182, 0, 84, 42, 180, 0, 27, 182, 0, 127, 172]
abbrev dktX1_light_0 : List UInt8 := dkwX1_light_0 ++ []
theorem dksX1_light_0 : cX1_light.data.toList.drop 0 = dktX1_light_0 := by decide +kernel
theorem dX1_light_0 : decode cX1_light 0 = .ok (.aload_n 0, 1) := dk_42 (dk_at dksX1_light_0 0 rfl rfl)
theorem dX1_light_1 : decode cX1_light 1 = .ok (.getfield 27, 3) := dk_180 0 27 (dk_at dksX1_light_0 1 rfl rfl)
theorem dX1_light_4 : decode cX1_light 4 = .ok (.invokevirtual 123, 3) := dk_182 0 123 (dk_at dksX1_light_0 4 rfl rfl)
theorem dX1_light_7 : decode cX1_light 7 = .ok (.invokestatic 81, 3) := dk_184 0 81 (dk_at dksX1_light_0 7 rfl rfl)
theorem dX1_light_10 : decode cX1_light 10 = .ok (.aload_n 0, 1) := dk_42 (dk_at dksX1_light_0 10 rfl rfl)
theorem dX1_light_11 : decode cX1_light 11 = .ok (.invokevirtual 84, 3) := dk_182 0 84 (dk_at dksX1_light_0 11 rfl rfl)
theorem dX1_light_14 : decode cX1_light 14 = .ok (.aload_n 0, 1) := dk_42 (dk_at dksX1_light_0 14 rfl rfl)
theorem dX1_light_15 : decode cX1_light 15 = .ok (.getfield 27, 3) := dk_180 0 27 (dk_at dksX1_light_0 15 rfl rfl)
theorem dX1_light_18 : decode cX1_light 18 = .ok (.invokevirtual 127, 3) := dk_182 0 127 (dk_at dksX1_light_0 18 rfl rfl)
theorem dX1_light_21 : decode cX1_light 21 = .ok (.ireturn, 1) := dk_172 (dk_at dksX1_light_0 21 rfl rfl)
abbrev cX1_spray : ByteArray := prog_1_method_15_code
def yX1_spray : MethodName := ⟨RX1, "spray", "(I)I"⟩
def dkwX1_spray_1 : List UInt8 := [42, 182, 0, 84, 42, 180, 0, 27, 27, 182, 0, 133, 172]
abbrev dktX1_spray_1 : List UInt8 := dkwX1_spray_1 ++ []
def dkwX1_spray_0 : List UInt8 := [42, 27, 182, 0, 91, 42, 180, 0, 27, 27, 182, 0, 130, 154, 0, 7, 4, 167, 0, 4, 3, 184, 0, 81]
abbrev dktX1_spray_0 : List UInt8 := dkwX1_spray_0 ++ dktX1_spray_1
theorem dksX1_spray_0 : cX1_spray.data.toList.drop 0 = dktX1_spray_0 := by decide +kernel
theorem dksX1_spray_1 : cX1_spray.data.toList.drop 24 = dktX1_spray_1 := dk_seg dksX1_spray_0 24 rfl rfl
theorem dX1_spray_0 : decode cX1_spray 0 = .ok (.aload_n 0, 1) := dk_42 (dk_at dksX1_spray_0 0 rfl rfl)
theorem dX1_spray_1 : decode cX1_spray 1 = .ok (.iload_n 1, 1) := dk_27 (dk_at dksX1_spray_0 1 rfl rfl)
theorem dX1_spray_2 : decode cX1_spray 2 = .ok (.invokevirtual 91, 3) := dk_182 0 91 (dk_at dksX1_spray_0 2 rfl rfl)
theorem dX1_spray_5 : decode cX1_spray 5 = .ok (.aload_n 0, 1) := dk_42 (dk_at dksX1_spray_0 5 rfl rfl)
theorem dX1_spray_6 : decode cX1_spray 6 = .ok (.getfield 27, 3) := dk_180 0 27 (dk_at dksX1_spray_0 6 rfl rfl)
theorem dX1_spray_9 : decode cX1_spray 9 = .ok (.iload_n 1, 1) := dk_27 (dk_at dksX1_spray_0 9 rfl rfl)
theorem dX1_spray_10 : decode cX1_spray 10 = .ok (.invokevirtual 130, 3) := dk_182 0 130 (dk_at dksX1_spray_0 10 rfl rfl)
theorem dX1_spray_13 : decode cX1_spray 13 = .ok (.ifCond .ne 7, 3) := dk_154 0 7 (dk_at dksX1_spray_0 13 rfl rfl)
theorem dX1_spray_16 : decode cX1_spray 16 = .ok (.iconst 1, 1) := dk_4 (dk_at dksX1_spray_0 16 rfl rfl)
theorem dX1_spray_17 : decode cX1_spray 17 = .ok (.goto 4, 3) := dk_167 0 4 (dk_at dksX1_spray_0 17 rfl rfl)
theorem dX1_spray_20 : decode cX1_spray 20 = .ok (.iconst 0, 1) := dk_3 (dk_at dksX1_spray_0 20 rfl rfl)
theorem dX1_spray_21 : decode cX1_spray 21 = .ok (.invokestatic 81, 3) := dk_184 0 81 (dk_at dksX1_spray_0 21 rfl rfl)
theorem dX1_spray_24 : decode cX1_spray 24 = .ok (.aload_n 0, 1) := dk_42 (dk_at dksX1_spray_1 0 rfl rfl)
theorem dX1_spray_25 : decode cX1_spray 25 = .ok (.invokevirtual 84, 3) := dk_182 0 84 (dk_at dksX1_spray_1 1 rfl rfl)
theorem dX1_spray_28 : decode cX1_spray 28 = .ok (.aload_n 0, 1) := dk_42 (dk_at dksX1_spray_1 4 rfl rfl)
theorem dX1_spray_29 : decode cX1_spray 29 = .ok (.getfield 27, 3) := dk_180 0 27 (dk_at dksX1_spray_1 5 rfl rfl)
theorem dX1_spray_32 : decode cX1_spray 32 = .ok (.iload_n 1, 1) := dk_27 (dk_at dksX1_spray_1 8 rfl rfl)
theorem dX1_spray_33 : decode cX1_spray 33 = .ok (.invokevirtual 133, 3) := dk_182 0 133 (dk_at dksX1_spray_1 9 rfl rfl)
theorem dX1_spray_36 : decode cX1_spray 36 = .ok (.ireturn, 1) := dk_172 (dk_at dksX1_spray_1 12 rfl rfl)
abbrev cX1_setAir : ByteArray := prog_1_method_17_code
def yX1_setAir : MethodName := ⟨RX1, "setAir", "(II)I"⟩
def dkwX1_setAir_1 : List UInt8 := [180, 0, 143, 62, 42, 180, 0, 27, 180, 0, 139, 27, 50, 28, 181, 0, 143, 29, 172]
abbrev dktX1_setAir_1 : List UInt8 := dkwX1_setAir_1 ++ []
def dkwX1_setAir_0 : List UInt8 := [27, 184, 0, 101, 184, 0, 66, 28, 184, 0, 136, 42, 182, 0, 84, 42, 180, 0, 27, 180, 0, 139, 27, 50]
abbrev dktX1_setAir_0 : List UInt8 := dkwX1_setAir_0 ++ dktX1_setAir_1
theorem dksX1_setAir_0 : cX1_setAir.data.toList.drop 0 = dktX1_setAir_0 := by decide +kernel
theorem dksX1_setAir_1 : cX1_setAir.data.toList.drop 24 = dktX1_setAir_1 := dk_seg dksX1_setAir_0 24 rfl rfl
theorem dX1_setAir_0 : decode cX1_setAir 0 = .ok (.iload_n 1, 1) := dk_27 (dk_at dksX1_setAir_0 0 rfl rfl)
theorem dX1_setAir_1 : decode cX1_setAir 1 = .ok (.invokestatic 101, 3) := dk_184 0 101 (dk_at dksX1_setAir_0 1 rfl rfl)
theorem dX1_setAir_4 : decode cX1_setAir 4 = .ok (.invokestatic 66, 3) := dk_184 0 66 (dk_at dksX1_setAir_0 4 rfl rfl)
theorem dX1_setAir_7 : decode cX1_setAir 7 = .ok (.iload_n 2, 1) := dk_28 (dk_at dksX1_setAir_0 7 rfl rfl)
theorem dX1_setAir_8 : decode cX1_setAir 8 = .ok (.invokestatic 136, 3) := dk_184 0 136 (dk_at dksX1_setAir_0 8 rfl rfl)
theorem dX1_setAir_11 : decode cX1_setAir 11 = .ok (.aload_n 0, 1) := dk_42 (dk_at dksX1_setAir_0 11 rfl rfl)
theorem dX1_setAir_12 : decode cX1_setAir 12 = .ok (.invokevirtual 84, 3) := dk_182 0 84 (dk_at dksX1_setAir_0 12 rfl rfl)
theorem dX1_setAir_15 : decode cX1_setAir 15 = .ok (.aload_n 0, 1) := dk_42 (dk_at dksX1_setAir_0 15 rfl rfl)
theorem dX1_setAir_16 : decode cX1_setAir 16 = .ok (.getfield 27, 3) := dk_180 0 27 (dk_at dksX1_setAir_0 16 rfl rfl)
theorem dX1_setAir_19 : decode cX1_setAir 19 = .ok (.getfield 139, 3) := dk_180 0 139 (dk_at dksX1_setAir_0 19 rfl rfl)
theorem dX1_setAir_22 : decode cX1_setAir 22 = .ok (.iload_n 1, 1) := dk_27 (dk_at dksX1_setAir_0 22 rfl rfl)
theorem dX1_setAir_23 : decode cX1_setAir 23 = .ok (.aaload, 1) := dk_50 (dk_at dksX1_setAir_0 23 rfl rfl)
theorem dX1_setAir_24 : decode cX1_setAir 24 = .ok (.getfield 143, 3) := dk_180 0 143 (dk_at dksX1_setAir_1 0 rfl rfl)
theorem dX1_setAir_27 : decode cX1_setAir 27 = .ok (.istore_n 3, 1) := dk_62 (dk_at dksX1_setAir_1 3 rfl rfl)
theorem dX1_setAir_28 : decode cX1_setAir 28 = .ok (.aload_n 0, 1) := dk_42 (dk_at dksX1_setAir_1 4 rfl rfl)
theorem dX1_setAir_29 : decode cX1_setAir 29 = .ok (.getfield 27, 3) := dk_180 0 27 (dk_at dksX1_setAir_1 5 rfl rfl)
theorem dX1_setAir_32 : decode cX1_setAir 32 = .ok (.getfield 139, 3) := dk_180 0 139 (dk_at dksX1_setAir_1 8 rfl rfl)
theorem dX1_setAir_35 : decode cX1_setAir 35 = .ok (.iload_n 1, 1) := dk_27 (dk_at dksX1_setAir_1 11 rfl rfl)
theorem dX1_setAir_36 : decode cX1_setAir 36 = .ok (.aaload, 1) := dk_50 (dk_at dksX1_setAir_1 12 rfl rfl)
theorem dX1_setAir_37 : decode cX1_setAir 37 = .ok (.iload_n 2, 1) := dk_28 (dk_at dksX1_setAir_1 13 rfl rfl)
theorem dX1_setAir_38 : decode cX1_setAir 38 = .ok (.putfield 143, 3) := dk_181 0 143 (dk_at dksX1_setAir_1 14 rfl rfl)
theorem dX1_setAir_41 : decode cX1_setAir 41 = .ok (.iload_n 3, 1) := dk_29 (dk_at dksX1_setAir_1 17 rfl rfl)
theorem dX1_setAir_42 : decode cX1_setAir 42 = .ok (.ireturn, 1) := dk_172 (dk_at dksX1_setAir_1 18 rfl rfl)
abbrev cX1_needStep : ByteArray := prog_1_method_16_code
def yX1_needStep : MethodName := ⟨RX1, "needStep", "(I)V"⟩
def dkwX1_needStep_0 : List UInt8 := [26, 3, 6, 184, 0, 70, 184, 0, 74, 177]
abbrev dktX1_needStep_0 : List UInt8 := dkwX1_needStep_0 ++ []
theorem dksX1_needStep_0 : cX1_needStep.data.toList.drop 0 = dktX1_needStep_0 := by decide +kernel
theorem dX1_needStep_0 : decode cX1_needStep 0 = .ok (.iload_n 0, 1) := dk_26 (dk_at dksX1_needStep_0 0 rfl rfl)
theorem dX1_needStep_1 : decode cX1_needStep 1 = .ok (.iconst 0, 1) := dk_3 (dk_at dksX1_needStep_0 1 rfl rfl)
theorem dX1_needStep_2 : decode cX1_needStep 2 = .ok (.iconst 3, 1) := dk_6 (dk_at dksX1_needStep_0 2 rfl rfl)
theorem dX1_needStep_3 : decode cX1_needStep 3 = .ok (.invokestatic 70, 3) := dk_184 0 70 (dk_at dksX1_needStep_0 3 rfl rfl)
theorem dX1_needStep_6 : decode cX1_needStep 6 = .ok (.invokestatic 74, 3) := dk_184 0 74 (dk_at dksX1_needStep_0 6 rfl rfl)
theorem dX1_needStep_9 : decode cX1_needStep 9 = .ok (.return_, 1) := dk_177 (dk_at dksX1_needStep_0 9 rfl rfl)
abbrev cX1_setDew : ByteArray := prog_1_method_18_code
def yX1_setDew : MethodName := ⟨RX1, "setDew", "(II)I"⟩
def dkwX1_setDew_1 : List UInt8 := [180, 0, 148, 62, 42, 180, 0, 27, 180, 0, 139, 27, 50, 28, 181, 0, 148, 29, 172]
abbrev dktX1_setDew_1 : List UInt8 := dkwX1_setDew_1 ++ []
def dkwX1_setDew_0 : List UInt8 := [27, 184, 0, 101, 184, 0, 66, 28, 184, 0, 136, 42, 182, 0, 84, 42, 180, 0, 27, 180, 0, 139, 27, 50]
abbrev dktX1_setDew_0 : List UInt8 := dkwX1_setDew_0 ++ dktX1_setDew_1
theorem dksX1_setDew_0 : cX1_setDew.data.toList.drop 0 = dktX1_setDew_0 := by decide +kernel
theorem dksX1_setDew_1 : cX1_setDew.data.toList.drop 24 = dktX1_setDew_1 := dk_seg dksX1_setDew_0 24 rfl rfl
theorem dX1_setDew_0 : decode cX1_setDew 0 = .ok (.iload_n 1, 1) := dk_27 (dk_at dksX1_setDew_0 0 rfl rfl)
theorem dX1_setDew_1 : decode cX1_setDew 1 = .ok (.invokestatic 101, 3) := dk_184 0 101 (dk_at dksX1_setDew_0 1 rfl rfl)
theorem dX1_setDew_4 : decode cX1_setDew 4 = .ok (.invokestatic 66, 3) := dk_184 0 66 (dk_at dksX1_setDew_0 4 rfl rfl)
theorem dX1_setDew_7 : decode cX1_setDew 7 = .ok (.iload_n 2, 1) := dk_28 (dk_at dksX1_setDew_0 7 rfl rfl)
theorem dX1_setDew_8 : decode cX1_setDew 8 = .ok (.invokestatic 136, 3) := dk_184 0 136 (dk_at dksX1_setDew_0 8 rfl rfl)
theorem dX1_setDew_11 : decode cX1_setDew 11 = .ok (.aload_n 0, 1) := dk_42 (dk_at dksX1_setDew_0 11 rfl rfl)
theorem dX1_setDew_12 : decode cX1_setDew 12 = .ok (.invokevirtual 84, 3) := dk_182 0 84 (dk_at dksX1_setDew_0 12 rfl rfl)
theorem dX1_setDew_15 : decode cX1_setDew 15 = .ok (.aload_n 0, 1) := dk_42 (dk_at dksX1_setDew_0 15 rfl rfl)
theorem dX1_setDew_16 : decode cX1_setDew 16 = .ok (.getfield 27, 3) := dk_180 0 27 (dk_at dksX1_setDew_0 16 rfl rfl)
theorem dX1_setDew_19 : decode cX1_setDew 19 = .ok (.getfield 139, 3) := dk_180 0 139 (dk_at dksX1_setDew_0 19 rfl rfl)
theorem dX1_setDew_22 : decode cX1_setDew 22 = .ok (.iload_n 1, 1) := dk_27 (dk_at dksX1_setDew_0 22 rfl rfl)
theorem dX1_setDew_23 : decode cX1_setDew 23 = .ok (.aaload, 1) := dk_50 (dk_at dksX1_setDew_0 23 rfl rfl)
theorem dX1_setDew_24 : decode cX1_setDew 24 = .ok (.getfield 148, 3) := dk_180 0 148 (dk_at dksX1_setDew_1 0 rfl rfl)
theorem dX1_setDew_27 : decode cX1_setDew 27 = .ok (.istore_n 3, 1) := dk_62 (dk_at dksX1_setDew_1 3 rfl rfl)
theorem dX1_setDew_28 : decode cX1_setDew 28 = .ok (.aload_n 0, 1) := dk_42 (dk_at dksX1_setDew_1 4 rfl rfl)
theorem dX1_setDew_29 : decode cX1_setDew 29 = .ok (.getfield 27, 3) := dk_180 0 27 (dk_at dksX1_setDew_1 5 rfl rfl)
theorem dX1_setDew_32 : decode cX1_setDew 32 = .ok (.getfield 139, 3) := dk_180 0 139 (dk_at dksX1_setDew_1 8 rfl rfl)
theorem dX1_setDew_35 : decode cX1_setDew 35 = .ok (.iload_n 1, 1) := dk_27 (dk_at dksX1_setDew_1 11 rfl rfl)
theorem dX1_setDew_36 : decode cX1_setDew 36 = .ok (.aaload, 1) := dk_50 (dk_at dksX1_setDew_1 12 rfl rfl)
theorem dX1_setDew_37 : decode cX1_setDew 37 = .ok (.iload_n 2, 1) := dk_28 (dk_at dksX1_setDew_1 13 rfl rfl)
theorem dX1_setDew_38 : decode cX1_setDew 38 = .ok (.putfield 148, 3) := dk_181 0 148 (dk_at dksX1_setDew_1 14 rfl rfl)
theorem dX1_setDew_41 : decode cX1_setDew 41 = .ok (.iload_n 3, 1) := dk_29 (dk_at dksX1_setDew_1 17 rfl rfl)
theorem dX1_setDew_42 : decode cX1_setDew 42 = .ok (.ireturn, 1) := dk_172 (dk_at dksX1_setDew_1 18 rfl rfl)
abbrev cX1_setTurn : ByteArray := prog_1_method_19_code
def yX1_setTurn : MethodName := ⟨RX1, "setTurn", "(II)I"⟩
def dkwX1_setTurn_1 : List UInt8 := [180, 0, 151, 62, 42, 180, 0, 27, 180, 0, 139, 27, 50, 28, 181, 0, 151, 29, 172]
abbrev dktX1_setTurn_1 : List UInt8 := dkwX1_setTurn_1 ++ []
def dkwX1_setTurn_0 : List UInt8 := [27, 184, 0, 101, 184, 0, 66, 28, 184, 0, 136, 42, 182, 0, 84, 42, 180, 0, 27, 180, 0, 139, 27, 50]
abbrev dktX1_setTurn_0 : List UInt8 := dkwX1_setTurn_0 ++ dktX1_setTurn_1
theorem dksX1_setTurn_0 : cX1_setTurn.data.toList.drop 0 = dktX1_setTurn_0 := by decide +kernel
theorem dksX1_setTurn_1 : cX1_setTurn.data.toList.drop 24 = dktX1_setTurn_1 := dk_seg dksX1_setTurn_0 24 rfl rfl
theorem dX1_setTurn_0 : decode cX1_setTurn 0 = .ok (.iload_n 1, 1) := dk_27 (dk_at dksX1_setTurn_0 0 rfl rfl)
theorem dX1_setTurn_1 : decode cX1_setTurn 1 = .ok (.invokestatic 101, 3) := dk_184 0 101 (dk_at dksX1_setTurn_0 1 rfl rfl)
theorem dX1_setTurn_4 : decode cX1_setTurn 4 = .ok (.invokestatic 66, 3) := dk_184 0 66 (dk_at dksX1_setTurn_0 4 rfl rfl)
theorem dX1_setTurn_7 : decode cX1_setTurn 7 = .ok (.iload_n 2, 1) := dk_28 (dk_at dksX1_setTurn_0 7 rfl rfl)
theorem dX1_setTurn_8 : decode cX1_setTurn 8 = .ok (.invokestatic 136, 3) := dk_184 0 136 (dk_at dksX1_setTurn_0 8 rfl rfl)
theorem dX1_setTurn_11 : decode cX1_setTurn 11 = .ok (.aload_n 0, 1) := dk_42 (dk_at dksX1_setTurn_0 11 rfl rfl)
theorem dX1_setTurn_12 : decode cX1_setTurn 12 = .ok (.invokevirtual 84, 3) := dk_182 0 84 (dk_at dksX1_setTurn_0 12 rfl rfl)
theorem dX1_setTurn_15 : decode cX1_setTurn 15 = .ok (.aload_n 0, 1) := dk_42 (dk_at dksX1_setTurn_0 15 rfl rfl)
theorem dX1_setTurn_16 : decode cX1_setTurn 16 = .ok (.getfield 27, 3) := dk_180 0 27 (dk_at dksX1_setTurn_0 16 rfl rfl)
theorem dX1_setTurn_19 : decode cX1_setTurn 19 = .ok (.getfield 139, 3) := dk_180 0 139 (dk_at dksX1_setTurn_0 19 rfl rfl)
theorem dX1_setTurn_22 : decode cX1_setTurn 22 = .ok (.iload_n 1, 1) := dk_27 (dk_at dksX1_setTurn_0 22 rfl rfl)
theorem dX1_setTurn_23 : decode cX1_setTurn 23 = .ok (.aaload, 1) := dk_50 (dk_at dksX1_setTurn_0 23 rfl rfl)
theorem dX1_setTurn_24 : decode cX1_setTurn 24 = .ok (.getfield 151, 3) := dk_180 0 151 (dk_at dksX1_setTurn_1 0 rfl rfl)
theorem dX1_setTurn_27 : decode cX1_setTurn 27 = .ok (.istore_n 3, 1) := dk_62 (dk_at dksX1_setTurn_1 3 rfl rfl)
theorem dX1_setTurn_28 : decode cX1_setTurn 28 = .ok (.aload_n 0, 1) := dk_42 (dk_at dksX1_setTurn_1 4 rfl rfl)
theorem dX1_setTurn_29 : decode cX1_setTurn 29 = .ok (.getfield 27, 3) := dk_180 0 27 (dk_at dksX1_setTurn_1 5 rfl rfl)
theorem dX1_setTurn_32 : decode cX1_setTurn 32 = .ok (.getfield 139, 3) := dk_180 0 139 (dk_at dksX1_setTurn_1 8 rfl rfl)
theorem dX1_setTurn_35 : decode cX1_setTurn 35 = .ok (.iload_n 1, 1) := dk_27 (dk_at dksX1_setTurn_1 11 rfl rfl)
theorem dX1_setTurn_36 : decode cX1_setTurn 36 = .ok (.aaload, 1) := dk_50 (dk_at dksX1_setTurn_1 12 rfl rfl)
theorem dX1_setTurn_37 : decode cX1_setTurn 37 = .ok (.iload_n 2, 1) := dk_28 (dk_at dksX1_setTurn_1 13 rfl rfl)
theorem dX1_setTurn_38 : decode cX1_setTurn 38 = .ok (.putfield 151, 3) := dk_181 0 151 (dk_at dksX1_setTurn_1 14 rfl rfl)
theorem dX1_setTurn_41 : decode cX1_setTurn 41 = .ok (.iload_n 3, 1) := dk_29 (dk_at dksX1_setTurn_1 17 rfl rfl)
theorem dX1_setTurn_42 : decode cX1_setTurn 42 = .ok (.ireturn, 1) := dk_172 (dk_at dksX1_setTurn_1 18 rfl rfl)
abbrev cX1_setHeats : ByteArray := prog_1_method_20_code
def yX1_setHeats : MethodName := ⟨RX1, "setHeats", "(II)I"⟩
def dkwX1_setHeats_3 : List UInt8 := [96, 62, 42, 180, 0, 27, 27, 181, 0, 158, 42, 180, 0, 27, 28, 181, 0, 161, 29, 172]
abbrev dktX1_setHeats_3 : List UInt8 := dkwX1_setHeats_3 ++ []
def dkwX1_setHeats_2 : List UInt8 := [184, 0, 81, 42, 182, 0, 84, 16, 100, 42, 180, 0, 27, 180, 0, 158, 104, 42, 180, 0, 27, 180, 0, 161]
abbrev dktX1_setHeats_2 : List UInt8 := dkwX1_setHeats_2 ++ dktX1_setHeats_3
def dkwX1_setHeats_1 : List UInt8 := [167, 0, 4, 3, 184, 0, 74, 42, 180, 0, 27, 180, 0, 154, 154, 0, 7, 4, 167, 0, 4, 3]
abbrev dktX1_setHeats_1 : List UInt8 := dkwX1_setHeats_1 ++ dktX1_setHeats_2
def dkwX1_setHeats_0 : List UInt8 := [27, 16, 30, 16, 60, 184, 0, 70, 153, 0, 18, 28, 16, 60, 16, 99, 184, 0, 70, 153, 0, 7, 4]
abbrev dktX1_setHeats_0 : List UInt8 := dkwX1_setHeats_0 ++ dktX1_setHeats_1
theorem dksX1_setHeats_0 : cX1_setHeats.data.toList.drop 0 = dktX1_setHeats_0 := by decide +kernel
theorem dksX1_setHeats_1 : cX1_setHeats.data.toList.drop 23 = dktX1_setHeats_1 := dk_seg dksX1_setHeats_0 23 rfl rfl
theorem dksX1_setHeats_2 : cX1_setHeats.data.toList.drop 45 = dktX1_setHeats_2 := dk_seg dksX1_setHeats_1 22 rfl rfl
theorem dksX1_setHeats_3 : cX1_setHeats.data.toList.drop 69 = dktX1_setHeats_3 := dk_seg dksX1_setHeats_2 24 rfl rfl
theorem dX1_setHeats_0 : decode cX1_setHeats 0 = .ok (.iload_n 1, 1) := dk_27 (dk_at dksX1_setHeats_0 0 rfl rfl)
theorem dX1_setHeats_1 : decode cX1_setHeats 1 = .ok (.bipush 30, 2) := dk_16 30 (dk_at dksX1_setHeats_0 1 rfl rfl)
theorem dX1_setHeats_3 : decode cX1_setHeats 3 = .ok (.bipush 60, 2) := dk_16 60 (dk_at dksX1_setHeats_0 3 rfl rfl)
theorem dX1_setHeats_5 : decode cX1_setHeats 5 = .ok (.invokestatic 70, 3) := dk_184 0 70 (dk_at dksX1_setHeats_0 5 rfl rfl)
theorem dX1_setHeats_8 : decode cX1_setHeats 8 = .ok (.ifCond .eq 18, 3) := dk_153 0 18 (dk_at dksX1_setHeats_0 8 rfl rfl)
theorem dX1_setHeats_11 : decode cX1_setHeats 11 = .ok (.iload_n 2, 1) := dk_28 (dk_at dksX1_setHeats_0 11 rfl rfl)
theorem dX1_setHeats_12 : decode cX1_setHeats 12 = .ok (.bipush 60, 2) := dk_16 60 (dk_at dksX1_setHeats_0 12 rfl rfl)
theorem dX1_setHeats_14 : decode cX1_setHeats 14 = .ok (.bipush 99, 2) := dk_16 99 (dk_at dksX1_setHeats_0 14 rfl rfl)
theorem dX1_setHeats_16 : decode cX1_setHeats 16 = .ok (.invokestatic 70, 3) := dk_184 0 70 (dk_at dksX1_setHeats_0 16 rfl rfl)
theorem dX1_setHeats_19 : decode cX1_setHeats 19 = .ok (.ifCond .eq 7, 3) := dk_153 0 7 (dk_at dksX1_setHeats_0 19 rfl rfl)
theorem dX1_setHeats_22 : decode cX1_setHeats 22 = .ok (.iconst 1, 1) := dk_4 (dk_at dksX1_setHeats_0 22 rfl rfl)
theorem dX1_setHeats_23 : decode cX1_setHeats 23 = .ok (.goto 4, 3) := dk_167 0 4 (dk_at dksX1_setHeats_1 0 rfl rfl)
theorem dX1_setHeats_26 : decode cX1_setHeats 26 = .ok (.iconst 0, 1) := dk_3 (dk_at dksX1_setHeats_1 3 rfl rfl)
theorem dX1_setHeats_27 : decode cX1_setHeats 27 = .ok (.invokestatic 74, 3) := dk_184 0 74 (dk_at dksX1_setHeats_1 4 rfl rfl)
theorem dX1_setHeats_30 : decode cX1_setHeats 30 = .ok (.aload_n 0, 1) := dk_42 (dk_at dksX1_setHeats_1 7 rfl rfl)
theorem dX1_setHeats_31 : decode cX1_setHeats 31 = .ok (.getfield 27, 3) := dk_180 0 27 (dk_at dksX1_setHeats_1 8 rfl rfl)
theorem dX1_setHeats_34 : decode cX1_setHeats 34 = .ok (.getfield 154, 3) := dk_180 0 154 (dk_at dksX1_setHeats_1 11 rfl rfl)
theorem dX1_setHeats_37 : decode cX1_setHeats 37 = .ok (.ifCond .ne 7, 3) := dk_154 0 7 (dk_at dksX1_setHeats_1 14 rfl rfl)
theorem dX1_setHeats_40 : decode cX1_setHeats 40 = .ok (.iconst 1, 1) := dk_4 (dk_at dksX1_setHeats_1 17 rfl rfl)
theorem dX1_setHeats_41 : decode cX1_setHeats 41 = .ok (.goto 4, 3) := dk_167 0 4 (dk_at dksX1_setHeats_1 18 rfl rfl)
theorem dX1_setHeats_44 : decode cX1_setHeats 44 = .ok (.iconst 0, 1) := dk_3 (dk_at dksX1_setHeats_1 21 rfl rfl)
theorem dX1_setHeats_45 : decode cX1_setHeats 45 = .ok (.invokestatic 81, 3) := dk_184 0 81 (dk_at dksX1_setHeats_2 0 rfl rfl)
theorem dX1_setHeats_48 : decode cX1_setHeats 48 = .ok (.aload_n 0, 1) := dk_42 (dk_at dksX1_setHeats_2 3 rfl rfl)
theorem dX1_setHeats_49 : decode cX1_setHeats 49 = .ok (.invokevirtual 84, 3) := dk_182 0 84 (dk_at dksX1_setHeats_2 4 rfl rfl)
theorem dX1_setHeats_52 : decode cX1_setHeats 52 = .ok (.bipush 100, 2) := dk_16 100 (dk_at dksX1_setHeats_2 7 rfl rfl)
theorem dX1_setHeats_54 : decode cX1_setHeats 54 = .ok (.aload_n 0, 1) := dk_42 (dk_at dksX1_setHeats_2 9 rfl rfl)
theorem dX1_setHeats_55 : decode cX1_setHeats 55 = .ok (.getfield 27, 3) := dk_180 0 27 (dk_at dksX1_setHeats_2 10 rfl rfl)
theorem dX1_setHeats_58 : decode cX1_setHeats 58 = .ok (.getfield 158, 3) := dk_180 0 158 (dk_at dksX1_setHeats_2 13 rfl rfl)
theorem dX1_setHeats_61 : decode cX1_setHeats 61 = .ok (.imul, 1) := dk_104 (dk_at dksX1_setHeats_2 16 rfl rfl)
theorem dX1_setHeats_62 : decode cX1_setHeats 62 = .ok (.aload_n 0, 1) := dk_42 (dk_at dksX1_setHeats_2 17 rfl rfl)
theorem dX1_setHeats_63 : decode cX1_setHeats 63 = .ok (.getfield 27, 3) := dk_180 0 27 (dk_at dksX1_setHeats_2 18 rfl rfl)
theorem dX1_setHeats_66 : decode cX1_setHeats 66 = .ok (.getfield 161, 3) := dk_180 0 161 (dk_at dksX1_setHeats_2 21 rfl rfl)
theorem dX1_setHeats_69 : decode cX1_setHeats 69 = .ok (.iadd, 1) := dk_96 (dk_at dksX1_setHeats_3 0 rfl rfl)
theorem dX1_setHeats_70 : decode cX1_setHeats 70 = .ok (.istore_n 3, 1) := dk_62 (dk_at dksX1_setHeats_3 1 rfl rfl)
theorem dX1_setHeats_71 : decode cX1_setHeats 71 = .ok (.aload_n 0, 1) := dk_42 (dk_at dksX1_setHeats_3 2 rfl rfl)
theorem dX1_setHeats_72 : decode cX1_setHeats 72 = .ok (.getfield 27, 3) := dk_180 0 27 (dk_at dksX1_setHeats_3 3 rfl rfl)
theorem dX1_setHeats_75 : decode cX1_setHeats 75 = .ok (.iload_n 1, 1) := dk_27 (dk_at dksX1_setHeats_3 6 rfl rfl)
theorem dX1_setHeats_76 : decode cX1_setHeats 76 = .ok (.putfield 158, 3) := dk_181 0 158 (dk_at dksX1_setHeats_3 7 rfl rfl)
theorem dX1_setHeats_79 : decode cX1_setHeats 79 = .ok (.aload_n 0, 1) := dk_42 (dk_at dksX1_setHeats_3 10 rfl rfl)
theorem dX1_setHeats_80 : decode cX1_setHeats 80 = .ok (.getfield 27, 3) := dk_180 0 27 (dk_at dksX1_setHeats_3 11 rfl rfl)
theorem dX1_setHeats_83 : decode cX1_setHeats 83 = .ok (.iload_n 2, 1) := dk_28 (dk_at dksX1_setHeats_3 14 rfl rfl)
theorem dX1_setHeats_84 : decode cX1_setHeats 84 = .ok (.putfield 161, 3) := dk_181 0 161 (dk_at dksX1_setHeats_3 15 rfl rfl)
theorem dX1_setHeats_87 : decode cX1_setHeats 87 = .ok (.iload_n 3, 1) := dk_29 (dk_at dksX1_setHeats_3 18 rfl rfl)
theorem dX1_setHeats_88 : decode cX1_setHeats 88 = .ok (.ireturn, 1) := dk_172 (dk_at dksX1_setHeats_3 19 rfl rfl)
abbrev cX1_setSprays : ByteArray := prog_1_method_21_code
def yX1_setSprays : MethodName := ⟨RX1, "setSprays", "(I)I"⟩
def dkwX1_setSprays_1 : List UInt8 := [180, 0, 27, 27, 181, 0, 164, 28, 172]
abbrev dktX1_setSprays_1 : List UInt8 := dkwX1_setSprays_1 ++ []
def dkwX1_setSprays_0 : List UInt8 := [27, 3, 16, 9, 184, 0, 70, 184, 0, 74, 42, 182, 0, 84, 42, 180, 0, 27, 180, 0, 164, 61, 42]
abbrev dktX1_setSprays_0 : List UInt8 := dkwX1_setSprays_0 ++ dktX1_setSprays_1
theorem dksX1_setSprays_0 : cX1_setSprays.data.toList.drop 0 = dktX1_setSprays_0 := by decide +kernel
theorem dksX1_setSprays_1 : cX1_setSprays.data.toList.drop 23 = dktX1_setSprays_1 := dk_seg dksX1_setSprays_0 23 rfl rfl
theorem dX1_setSprays_0 : decode cX1_setSprays 0 = .ok (.iload_n 1, 1) := dk_27 (dk_at dksX1_setSprays_0 0 rfl rfl)
theorem dX1_setSprays_1 : decode cX1_setSprays 1 = .ok (.iconst 0, 1) := dk_3 (dk_at dksX1_setSprays_0 1 rfl rfl)
theorem dX1_setSprays_2 : decode cX1_setSprays 2 = .ok (.bipush 9, 2) := dk_16 9 (dk_at dksX1_setSprays_0 2 rfl rfl)
theorem dX1_setSprays_4 : decode cX1_setSprays 4 = .ok (.invokestatic 70, 3) := dk_184 0 70 (dk_at dksX1_setSprays_0 4 rfl rfl)
theorem dX1_setSprays_7 : decode cX1_setSprays 7 = .ok (.invokestatic 74, 3) := dk_184 0 74 (dk_at dksX1_setSprays_0 7 rfl rfl)
theorem dX1_setSprays_10 : decode cX1_setSprays 10 = .ok (.aload_n 0, 1) := dk_42 (dk_at dksX1_setSprays_0 10 rfl rfl)
theorem dX1_setSprays_11 : decode cX1_setSprays 11 = .ok (.invokevirtual 84, 3) := dk_182 0 84 (dk_at dksX1_setSprays_0 11 rfl rfl)
theorem dX1_setSprays_14 : decode cX1_setSprays 14 = .ok (.aload_n 0, 1) := dk_42 (dk_at dksX1_setSprays_0 14 rfl rfl)
theorem dX1_setSprays_15 : decode cX1_setSprays 15 = .ok (.getfield 27, 3) := dk_180 0 27 (dk_at dksX1_setSprays_0 15 rfl rfl)
theorem dX1_setSprays_18 : decode cX1_setSprays 18 = .ok (.getfield 164, 3) := dk_180 0 164 (dk_at dksX1_setSprays_0 18 rfl rfl)
theorem dX1_setSprays_21 : decode cX1_setSprays 21 = .ok (.istore_n 2, 1) := dk_61 (dk_at dksX1_setSprays_0 21 rfl rfl)
theorem dX1_setSprays_22 : decode cX1_setSprays 22 = .ok (.aload_n 0, 1) := dk_42 (dk_at dksX1_setSprays_0 22 rfl rfl)
theorem dX1_setSprays_23 : decode cX1_setSprays 23 = .ok (.getfield 27, 3) := dk_180 0 27 (dk_at dksX1_setSprays_1 0 rfl rfl)
theorem dX1_setSprays_26 : decode cX1_setSprays 26 = .ok (.iload_n 1, 1) := dk_27 (dk_at dksX1_setSprays_1 3 rfl rfl)
theorem dX1_setSprays_27 : decode cX1_setSprays 27 = .ok (.putfield 164, 3) := dk_181 0 164 (dk_at dksX1_setSprays_1 4 rfl rfl)
theorem dX1_setSprays_30 : decode cX1_setSprays 30 = .ok (.iload_n 2, 1) := dk_28 (dk_at dksX1_setSprays_1 7 rfl rfl)
theorem dX1_setSprays_31 : decode cX1_setSprays 31 = .ok (.ireturn, 1) := dk_172 (dk_at dksX1_setSprays_1 8 rfl rfl)
abbrev cX1_pass : ByteArray := prog_1_method_22_code
def yX1_pass : MethodName := ⟨RX1, "pass", "(I)I"⟩
def dkwX1_pass_0 : List UInt8 := [27, 4, 16, 48, 184, 0, 70, 184, 0, 74, 42, 182, 0, 84, 42, 180, 0, 27, 27, 182, 0, 167, 172]
abbrev dktX1_pass_0 : List UInt8 := dkwX1_pass_0 ++ []
theorem dksX1_pass_0 : cX1_pass.data.toList.drop 0 = dktX1_pass_0 := by decide +kernel
theorem dX1_pass_0 : decode cX1_pass 0 = .ok (.iload_n 1, 1) := dk_27 (dk_at dksX1_pass_0 0 rfl rfl)
theorem dX1_pass_1 : decode cX1_pass 1 = .ok (.iconst 1, 1) := dk_4 (dk_at dksX1_pass_0 1 rfl rfl)
theorem dX1_pass_2 : decode cX1_pass 2 = .ok (.bipush 48, 2) := dk_16 48 (dk_at dksX1_pass_0 2 rfl rfl)
theorem dX1_pass_4 : decode cX1_pass 4 = .ok (.invokestatic 70, 3) := dk_184 0 70 (dk_at dksX1_pass_0 4 rfl rfl)
theorem dX1_pass_7 : decode cX1_pass 7 = .ok (.invokestatic 74, 3) := dk_184 0 74 (dk_at dksX1_pass_0 7 rfl rfl)
theorem dX1_pass_10 : decode cX1_pass 10 = .ok (.aload_n 0, 1) := dk_42 (dk_at dksX1_pass_0 10 rfl rfl)
theorem dX1_pass_11 : decode cX1_pass 11 = .ok (.invokevirtual 84, 3) := dk_182 0 84 (dk_at dksX1_pass_0 11 rfl rfl)
theorem dX1_pass_14 : decode cX1_pass 14 = .ok (.aload_n 0, 1) := dk_42 (dk_at dksX1_pass_0 14 rfl rfl)
theorem dX1_pass_15 : decode cX1_pass 15 = .ok (.getfield 27, 3) := dk_180 0 27 (dk_at dksX1_pass_0 15 rfl rfl)
theorem dX1_pass_18 : decode cX1_pass 18 = .ok (.iload_n 1, 1) := dk_27 (dk_at dksX1_pass_0 18 rfl rfl)
theorem dX1_pass_19 : decode cX1_pass 19 = .ok (.invokevirtual 167, 3) := dk_182 0 167 (dk_at dksX1_pass_0 19 rfl rfl)
theorem dX1_pass_22 : decode cX1_pass 22 = .ok (.ireturn, 1) := dk_172 (dk_at dksX1_pass_0 22 rfl rfl)
abbrev cX1_append : ByteArray := prog_1_method_23_code
def yX1_append : MethodName := ⟨RX1, "append", "(I)I"⟩
def dkwX1_append_2 : List UInt8 := [172]
abbrev dktX1_append_2 : List UInt8 := dkwX1_append_2 ++ []
def dkwX1_append_1 : List UInt8 := [167, 0, 4, 3, 184, 0, 81, 42, 180, 0, 43, 27, 146, 182, 0, 173, 87, 42, 180, 0, 43, 182, 0, 170]
abbrev dktX1_append_1 : List UInt8 := dkwX1_append_1 ++ dktX1_append_2
def dkwX1_append_0 : List UInt8 := [27, 16, 32, 16, 126, 184, 0, 70, 184, 0, 74, 42, 180, 0, 43, 182, 0, 170, 16, 60, 162, 0, 7, 4]
abbrev dktX1_append_0 : List UInt8 := dkwX1_append_0 ++ dktX1_append_1
theorem dksX1_append_0 : cX1_append.data.toList.drop 0 = dktX1_append_0 := by decide +kernel
theorem dksX1_append_1 : cX1_append.data.toList.drop 24 = dktX1_append_1 := dk_seg dksX1_append_0 24 rfl rfl
theorem dksX1_append_2 : cX1_append.data.toList.drop 48 = dktX1_append_2 := dk_seg dksX1_append_1 24 rfl rfl
theorem dX1_append_0 : decode cX1_append 0 = .ok (.iload_n 1, 1) := dk_27 (dk_at dksX1_append_0 0 rfl rfl)
theorem dX1_append_1 : decode cX1_append 1 = .ok (.bipush 32, 2) := dk_16 32 (dk_at dksX1_append_0 1 rfl rfl)
theorem dX1_append_3 : decode cX1_append 3 = .ok (.bipush 126, 2) := dk_16 126 (dk_at dksX1_append_0 3 rfl rfl)
theorem dX1_append_5 : decode cX1_append 5 = .ok (.invokestatic 70, 3) := dk_184 0 70 (dk_at dksX1_append_0 5 rfl rfl)
theorem dX1_append_8 : decode cX1_append 8 = .ok (.invokestatic 74, 3) := dk_184 0 74 (dk_at dksX1_append_0 8 rfl rfl)
theorem dX1_append_11 : decode cX1_append 11 = .ok (.aload_n 0, 1) := dk_42 (dk_at dksX1_append_0 11 rfl rfl)
theorem dX1_append_12 : decode cX1_append 12 = .ok (.getfield 43, 3) := dk_180 0 43 (dk_at dksX1_append_0 12 rfl rfl)
theorem dX1_append_15 : decode cX1_append 15 = .ok (.invokevirtual 170, 3) := dk_182 0 170 (dk_at dksX1_append_0 15 rfl rfl)
theorem dX1_append_18 : decode cX1_append 18 = .ok (.bipush 60, 2) := dk_16 60 (dk_at dksX1_append_0 18 rfl rfl)
theorem dX1_append_20 : decode cX1_append 20 = .ok (.if_icmp .ge 7, 3) := dk_162 0 7 (dk_at dksX1_append_0 20 rfl rfl)
theorem dX1_append_23 : decode cX1_append 23 = .ok (.iconst 1, 1) := dk_4 (dk_at dksX1_append_0 23 rfl rfl)
theorem dX1_append_24 : decode cX1_append 24 = .ok (.goto 4, 3) := dk_167 0 4 (dk_at dksX1_append_1 0 rfl rfl)
theorem dX1_append_27 : decode cX1_append 27 = .ok (.iconst 0, 1) := dk_3 (dk_at dksX1_append_1 3 rfl rfl)
theorem dX1_append_28 : decode cX1_append 28 = .ok (.invokestatic 81, 3) := dk_184 0 81 (dk_at dksX1_append_1 4 rfl rfl)
theorem dX1_append_31 : decode cX1_append 31 = .ok (.aload_n 0, 1) := dk_42 (dk_at dksX1_append_1 7 rfl rfl)
theorem dX1_append_32 : decode cX1_append 32 = .ok (.getfield 43, 3) := dk_180 0 43 (dk_at dksX1_append_1 8 rfl rfl)
theorem dX1_append_35 : decode cX1_append 35 = .ok (.iload_n 1, 1) := dk_27 (dk_at dksX1_append_1 11 rfl rfl)
theorem dX1_append_36 : decode cX1_append 36 = .ok (.i2c, 1) := dk_146 (dk_at dksX1_append_1 12 rfl rfl)
theorem dX1_append_37 : decode cX1_append 37 = .ok (.invokevirtual 173, 3) := dk_182 0 173 (dk_at dksX1_append_1 13 rfl rfl)
theorem dX1_append_40 : decode cX1_append 40 = .ok (.pop, 1) := dk_87 (dk_at dksX1_append_1 16 rfl rfl)
theorem dX1_append_41 : decode cX1_append 41 = .ok (.aload_n 0, 1) := dk_42 (dk_at dksX1_append_1 17 rfl rfl)
theorem dX1_append_42 : decode cX1_append 42 = .ok (.getfield 43, 3) := dk_180 0 43 (dk_at dksX1_append_1 18 rfl rfl)
theorem dX1_append_45 : decode cX1_append 45 = .ok (.invokevirtual 170, 3) := dk_182 0 170 (dk_at dksX1_append_1 21 rfl rfl)
theorem dX1_append_48 : decode cX1_append 48 = .ok (.ireturn, 1) := dk_172 (dk_at dksX1_append_2 0 rfl rfl)
abbrev cX1_run : ByteArray := prog_1_method_28_code
def yX1_run : MethodName := ⟨RX1, "run", "()I"⟩
def dkwX1_run_3 : List UInt8 := [192, 0, 195, 182, 0, 247, 132, 2, 1, 167, 255, 212, 28, 172]
abbrev dktX1_run_3 : List UInt8 := dkwX1_run_3 ++ []
def dkwX1_run_2 : List UInt8 := [185, 0, 239, 2, 0, 192, 0, 195, 182, 0, 243, 153, 0, 23, 42, 43, 28, 185, 0, 239, 2, 0]
abbrev dktX1_run_2 : List UInt8 := dkwX1_run_2 ++ dktX1_run_3
def dkwX1_run_1 : List UInt8 := [183, 0, 13, 191, 42, 182, 0, 84, 3, 61, 28, 43, 185, 0, 236, 1, 0, 162, 0, 40, 42, 43, 28]
abbrev dktX1_run_1 : List UInt8 := dkwX1_run_1 ++ dktX1_run_2
def dkwX1_run_0 : List UInt8 := [187, 0, 180, 89, 42, 183, 0, 182, 182, 0, 185, 76, 167, 0, 14, 77, 187, 0, 9, 89, 18, 235]
abbrev dktX1_run_0 : List UInt8 := dkwX1_run_0 ++ dktX1_run_1
theorem dksX1_run_0 : cX1_run.data.toList.drop 0 = dktX1_run_0 := by decide +kernel
theorem dksX1_run_1 : cX1_run.data.toList.drop 22 = dktX1_run_1 := dk_seg dksX1_run_0 22 rfl rfl
theorem dksX1_run_2 : cX1_run.data.toList.drop 45 = dktX1_run_2 := dk_seg dksX1_run_1 23 rfl rfl
theorem dksX1_run_3 : cX1_run.data.toList.drop 67 = dktX1_run_3 := dk_seg dksX1_run_2 22 rfl rfl
theorem dX1_run_0 : decode cX1_run 0 = .ok (.new 180, 3) := dk_187 0 180 (dk_at dksX1_run_0 0 rfl rfl)
theorem dX1_run_3 : decode cX1_run 3 = .ok (.dup, 1) := dk_89 (dk_at dksX1_run_0 3 rfl rfl)
theorem dX1_run_4 : decode cX1_run 4 = .ok (.aload_n 0, 1) := dk_42 (dk_at dksX1_run_0 4 rfl rfl)
theorem dX1_run_5 : decode cX1_run 5 = .ok (.invokespecial 182, 3) := dk_183 0 182 (dk_at dksX1_run_0 5 rfl rfl)
theorem dX1_run_8 : decode cX1_run 8 = .ok (.invokevirtual 185, 3) := dk_182 0 185 (dk_at dksX1_run_0 8 rfl rfl)
theorem dX1_run_11 : decode cX1_run 11 = .ok (.astore_n 1, 1) := dk_76 (dk_at dksX1_run_0 11 rfl rfl)
theorem dX1_run_12 : decode cX1_run 12 = .ok (.goto 14, 3) := dk_167 0 14 (dk_at dksX1_run_0 12 rfl rfl)
theorem dX1_run_15 : decode cX1_run 15 = .ok (.astore_n 2, 1) := dk_77 (dk_at dksX1_run_0 15 rfl rfl)
theorem dX1_run_16 : decode cX1_run 16 = .ok (.new 9, 3) := dk_187 0 9 (dk_at dksX1_run_0 16 rfl rfl)
theorem dX1_run_19 : decode cX1_run 19 = .ok (.dup, 1) := dk_89 (dk_at dksX1_run_0 19 rfl rfl)
theorem dX1_run_20 : decode cX1_run 20 = .ok (.ldc 235, 2) := dk_18 235 (dk_at dksX1_run_0 20 rfl rfl)
theorem dX1_run_22 : decode cX1_run 22 = .ok (.invokespecial 13, 3) := dk_183 0 13 (dk_at dksX1_run_1 0 rfl rfl)
theorem dX1_run_25 : decode cX1_run 25 = .ok (.athrow, 1) := dk_191 (dk_at dksX1_run_1 3 rfl rfl)
theorem dX1_run_26 : decode cX1_run 26 = .ok (.aload_n 0, 1) := dk_42 (dk_at dksX1_run_1 4 rfl rfl)
theorem dX1_run_27 : decode cX1_run 27 = .ok (.invokevirtual 84, 3) := dk_182 0 84 (dk_at dksX1_run_1 5 rfl rfl)
theorem dX1_run_30 : decode cX1_run 30 = .ok (.iconst 0, 1) := dk_3 (dk_at dksX1_run_1 8 rfl rfl)
theorem dX1_run_31 : decode cX1_run 31 = .ok (.istore_n 2, 1) := dk_61 (dk_at dksX1_run_1 9 rfl rfl)
theorem dX1_run_32 : decode cX1_run 32 = .ok (.iload_n 2, 1) := dk_28 (dk_at dksX1_run_1 10 rfl rfl)
theorem dX1_run_33 : decode cX1_run 33 = .ok (.aload_n 1, 1) := dk_43 (dk_at dksX1_run_1 11 rfl rfl)
theorem dX1_run_34 : decode cX1_run 34 = .ok (.invokeinterface 236 1, 5) := by decide +kernel
theorem dX1_run_39 : decode cX1_run 39 = .ok (.if_icmp .ge 40, 3) := dk_162 0 40 (dk_at dksX1_run_1 17 rfl rfl)
theorem dX1_run_42 : decode cX1_run 42 = .ok (.aload_n 0, 1) := dk_42 (dk_at dksX1_run_1 20 rfl rfl)
theorem dX1_run_43 : decode cX1_run 43 = .ok (.aload_n 1, 1) := dk_43 (dk_at dksX1_run_1 21 rfl rfl)
theorem dX1_run_44 : decode cX1_run 44 = .ok (.iload_n 2, 1) := dk_28 (dk_at dksX1_run_1 22 rfl rfl)
theorem dX1_run_45 : decode cX1_run 45 = .ok (.invokeinterface 239 2, 5) := by decide +kernel
theorem dX1_run_50 : decode cX1_run 50 = .ok (.checkcast 195, 3) := dk_192 0 195 (dk_at dksX1_run_2 5 rfl rfl)
theorem dX1_run_53 : decode cX1_run 53 = .ok (.invokevirtual 243, 3) := dk_182 0 243 (dk_at dksX1_run_2 8 rfl rfl)
theorem dX1_run_56 : decode cX1_run 56 = .ok (.ifCond .eq 23, 3) := dk_153 0 23 (dk_at dksX1_run_2 11 rfl rfl)
theorem dX1_run_59 : decode cX1_run 59 = .ok (.aload_n 0, 1) := dk_42 (dk_at dksX1_run_2 14 rfl rfl)
theorem dX1_run_60 : decode cX1_run 60 = .ok (.aload_n 1, 1) := dk_43 (dk_at dksX1_run_2 15 rfl rfl)
theorem dX1_run_61 : decode cX1_run 61 = .ok (.iload_n 2, 1) := dk_28 (dk_at dksX1_run_2 16 rfl rfl)
theorem dX1_run_62 : decode cX1_run 62 = .ok (.invokeinterface 239 2, 5) := by decide +kernel
theorem dX1_run_67 : decode cX1_run 67 = .ok (.checkcast 195, 3) := dk_192 0 195 (dk_at dksX1_run_3 0 rfl rfl)
theorem dX1_run_70 : decode cX1_run 70 = .ok (.invokevirtual 247, 3) := dk_182 0 247 (dk_at dksX1_run_3 3 rfl rfl)
theorem dX1_run_73 : decode cX1_run 73 = .ok (.iinc 2 1, 3) := dk_132 2 1 (dk_at dksX1_run_3 6 rfl rfl)
theorem dX1_run_76 : decode cX1_run 76 = .ok (.goto (-44), 3) := dk_167 255 212 (dk_at dksX1_run_3 9 rfl rfl)
theorem dX1_run_79 : decode cX1_run 79 = .ok (.iload_n 2, 1) := dk_28 (dk_at dksX1_run_3 12 rfl rfl)
theorem dX1_run_80 : decode cX1_run 80 = .ok (.ireturn, 1) := dk_172 (dk_at dksX1_run_3 13 rfl rfl)
abbrev cX1_can : ByteArray := prog_1_method_26_code
def yX1_can : MethodName := ⟨RX1, "can", "(LMaltDrums$Order;)Z"⟩
def dkwX1_can_16 : List UInt8 := [4, 172]
abbrev dktX1_can_16 : List UInt8 := dkwX1_can_16 ++ []
def dkwX1_can_15 : List UInt8 := [182, 0, 130, 154, 0, 7, 4, 167, 0, 18, 3, 167, 0, 14, 42, 180, 0, 27, 182, 0, 123, 167, 0, 4]
abbrev dktX1_can_15 : List UInt8 := dkwX1_can_15 ++ dktX1_can_16
def dkwX1_can_14 : List UInt8 := [167, 0, 48, 3, 167, 0, 44, 42, 180, 0, 27, 28, 182, 0, 62, 153, 0, 18, 42, 180, 0, 27, 28]
abbrev dktX1_can_14 : List UInt8 := dkwX1_can_14 ++ dktX1_can_15
def dkwX1_can_13 : List UInt8 := [180, 0, 27, 28, 182, 0, 62, 153, 0, 18, 42, 180, 0, 27, 28, 182, 0, 117, 154, 0, 7, 4]
abbrev dktX1_can_13 : List UInt8 := dkwX1_can_13 ++ dktX1_can_14
def dkwX1_can_12 : List UInt8 := [153, 0, 18, 42, 180, 0, 27, 28, 182, 0, 111, 153, 0, 7, 4, 167, 0, 78, 3, 167, 0, 74, 42]
abbrev dktX1_can_12 : List UInt8 := dkwX1_can_12 ++ dktX1_can_13
def dkwX1_can_11 : List UInt8 := [182, 0, 104, 154, 0, 7, 4, 167, 0, 108, 3, 167, 0, 104, 42, 180, 0, 27, 28, 182, 0, 62]
abbrev dktX1_can_11 : List UInt8 := dkwX1_can_11 ++ dktX1_can_12
def dkwX1_can_10 : List UInt8 := [167, 0, 138, 42, 180, 0, 27, 28, 182, 0, 62, 153, 0, 22, 42, 180, 0, 27, 28, 43, 182, 0, 226]
abbrev dktX1_can_10 : List UInt8 := dkwX1_can_10 ++ dktX1_can_11
def dkwX1_can_9 : List UInt8 := [28, 182, 0, 62, 153, 0, 18, 42, 180, 0, 27, 28, 182, 0, 95, 154, 0, 7, 4, 167, 0, 142, 3]
abbrev dktX1_can_9 : List UInt8 := dkwX1_can_9 ++ dktX1_can_10
def dkwX1_can_8 : List UInt8 := [42, 180, 0, 27, 180, 0, 77, 16, 12, 162, 0, 7, 4, 167, 0, 172, 3, 167, 0, 168, 42, 180, 0, 27]
abbrev dktX1_can_8 : List UInt8 := dkwX1_can_8 ++ dktX1_can_9
def dkwX1_can_7 : List UInt8 := [170, 0, 0, 0, 0, 0, 227, 0, 0, 0, 0, 0, 0, 0, 6, 0, 0, 0, 43, 0, 0, 0, 63, 0, 0, 0, 93, 0, 0, 0, 127, 0, 0, 0, 157, 0, 0, 0, 187, 0, 0, 0, 217]
abbrev dktX1_can_7 : List UInt8 := dkwX1_can_7 ++ dktX1_can_8
def dkwX1_can_6 : List UInt8 := [153, 0, 7, 16, 6, 54, 4, 21, 4]
abbrev dktX1_can_6 : List UInt8 := dkwX1_can_6 ++ dktX1_can_7
def dkwX1_can_5 : List UInt8 := [167, 0, 31, 45, 18, 222, 182, 0, 210, 153, 0, 22, 8, 54, 4, 167, 0, 16, 45, 18, 224, 182, 0, 210]
abbrev dktX1_can_5 : List UInt8 := dkwX1_can_5 ++ dktX1_can_6
def dkwX1_can_4 : List UInt8 := [182, 0, 210, 153, 0, 52, 6, 54, 4, 167, 0, 46, 45, 18, 220, 182, 0, 210, 153, 0, 37, 7, 54, 4]
abbrev dktX1_can_4 : List UInt8 := dkwX1_can_4 ++ dktX1_can_5
def dkwX1_can_3 : List UInt8 := [4, 54, 4, 167, 0, 76, 45, 18, 216, 182, 0, 210, 153, 0, 67, 5, 54, 4, 167, 0, 61, 45, 18, 218]
abbrev dktX1_can_3 : List UInt8 := dkwX1_can_3 ++ dktX1_can_4
def dkwX1_can_2 : List UInt8 := [45, 18, 208, 182, 0, 210, 153, 0, 97, 3, 54, 4, 167, 0, 91, 45, 18, 214, 182, 0, 210, 153, 0, 82]
abbrev dktX1_can_2 : List UInt8 := dkwX1_can_2 ++ dktX1_can_3
def dkwX1_can_1 : List UInt8 := [171, 0, 0, 0, 0, 0, 170, 0, 0, 0, 7, 0, 0, 0, 43, 0, 0, 0, 67, 0, 0, 0, 100, 0, 0, 0, 97, 0, 0, 0, 104, 0, 0, 0, 112, 0, 0, 0, 107, 0, 0, 0, 127, 0, 0, 0, 108, 0, 0, 0, 157, 0, 0, 0, 112, 0, 0, 0, 142, 0, 0, 0, 115, 0, 0, 0, 82]
abbrev dktX1_can_1 : List UInt8 := dkwX1_can_1 ++ dktX1_can_2
def dkwX1_can_0 : List UInt8 := [43, 182, 0, 194, 61, 43, 182, 0, 199, 78, 2, 54, 4, 45, 182, 0, 203]
abbrev dktX1_can_0 : List UInt8 := dkwX1_can_0 ++ dktX1_can_1
theorem dksX1_can_0 : cX1_can.data.toList.drop 0 = dktX1_can_0 := by decide +kernel
theorem dksX1_can_1 : cX1_can.data.toList.drop 17 = dktX1_can_1 := dk_seg dksX1_can_0 17 rfl rfl
theorem dksX1_can_2 : cX1_can.data.toList.drop 84 = dktX1_can_2 := dk_seg dksX1_can_1 67 rfl rfl
theorem dksX1_can_3 : cX1_can.data.toList.drop 108 = dktX1_can_3 := dk_seg dksX1_can_2 24 rfl rfl
theorem dksX1_can_4 : cX1_can.data.toList.drop 132 = dktX1_can_4 := dk_seg dksX1_can_3 24 rfl rfl
theorem dksX1_can_5 : cX1_can.data.toList.drop 156 = dktX1_can_5 := dk_seg dksX1_can_4 24 rfl rfl
theorem dksX1_can_6 : cX1_can.data.toList.drop 180 = dktX1_can_6 := dk_seg dksX1_can_5 24 rfl rfl
theorem dksX1_can_7 : cX1_can.data.toList.drop 189 = dktX1_can_7 := dk_seg dksX1_can_6 9 rfl rfl
theorem dksX1_can_8 : cX1_can.data.toList.drop 232 = dktX1_can_8 := dk_seg dksX1_can_7 43 rfl rfl
theorem dksX1_can_9 : cX1_can.data.toList.drop 256 = dktX1_can_9 := dk_seg dksX1_can_8 24 rfl rfl
theorem dksX1_can_10 : cX1_can.data.toList.drop 279 = dktX1_can_10 := dk_seg dksX1_can_9 23 rfl rfl
theorem dksX1_can_11 : cX1_can.data.toList.drop 302 = dktX1_can_11 := dk_seg dksX1_can_10 23 rfl rfl
theorem dksX1_can_12 : cX1_can.data.toList.drop 324 = dktX1_can_12 := dk_seg dksX1_can_11 22 rfl rfl
theorem dksX1_can_13 : cX1_can.data.toList.drop 347 = dktX1_can_13 := dk_seg dksX1_can_12 23 rfl rfl
theorem dksX1_can_14 : cX1_can.data.toList.drop 369 = dktX1_can_14 := dk_seg dksX1_can_13 22 rfl rfl
theorem dksX1_can_15 : cX1_can.data.toList.drop 392 = dktX1_can_15 := dk_seg dksX1_can_14 23 rfl rfl
theorem dksX1_can_16 : cX1_can.data.toList.drop 416 = dktX1_can_16 := dk_seg dksX1_can_15 24 rfl rfl
theorem dX1_can_0 : decode cX1_can 0 = .ok (.aload_n 1, 1) := dk_43 (dk_at dksX1_can_0 0 rfl rfl)
theorem dX1_can_1 : decode cX1_can 1 = .ok (.invokevirtual 194, 3) := dk_182 0 194 (dk_at dksX1_can_0 1 rfl rfl)
theorem dX1_can_4 : decode cX1_can 4 = .ok (.istore_n 2, 1) := dk_61 (dk_at dksX1_can_0 4 rfl rfl)
theorem dX1_can_5 : decode cX1_can 5 = .ok (.aload_n 1, 1) := dk_43 (dk_at dksX1_can_0 5 rfl rfl)
theorem dX1_can_6 : decode cX1_can 6 = .ok (.invokevirtual 199, 3) := dk_182 0 199 (dk_at dksX1_can_0 6 rfl rfl)
theorem dX1_can_9 : decode cX1_can 9 = .ok (.astore_n 3, 1) := dk_78 (dk_at dksX1_can_0 9 rfl rfl)
theorem dX1_can_10 : decode cX1_can 10 = .ok (.iconst (-1), 1) := dk_2 (dk_at dksX1_can_0 10 rfl rfl)
theorem dX1_can_11 : decode cX1_can 11 = .ok (.istore 4, 2) := dk_54 4 (dk_at dksX1_can_0 11 rfl rfl)
theorem dX1_can_13 : decode cX1_can 13 = .ok (.aload_n 3, 1) := dk_45 (dk_at dksX1_can_0 13 rfl rfl)
theorem dX1_can_14 : decode cX1_can 14 = .ok (.invokevirtual 203, 3) := dk_182 0 203 (dk_at dksX1_can_0 14 rfl rfl)
theorem dX1_can_17 : decode cX1_can 17 = .ok (.lookupswitch 170 #[(43, 67), (100, 97), (104, 112), (107, 127), (108, 157), (112, 142), (115, 82)], 67) := by decide +kernel
theorem dX1_can_84 : decode cX1_can 84 = .ok (.aload_n 3, 1) := dk_45 (dk_at dksX1_can_2 0 rfl rfl)
theorem dX1_can_85 : decode cX1_can 85 = .ok (.ldc 208, 2) := dk_18 208 (dk_at dksX1_can_2 1 rfl rfl)
theorem dX1_can_87 : decode cX1_can 87 = .ok (.invokevirtual 210, 3) := dk_182 0 210 (dk_at dksX1_can_2 3 rfl rfl)
theorem dX1_can_90 : decode cX1_can 90 = .ok (.ifCond .eq 97, 3) := dk_153 0 97 (dk_at dksX1_can_2 6 rfl rfl)
theorem dX1_can_93 : decode cX1_can 93 = .ok (.iconst 0, 1) := dk_3 (dk_at dksX1_can_2 9 rfl rfl)
theorem dX1_can_94 : decode cX1_can 94 = .ok (.istore 4, 2) := dk_54 4 (dk_at dksX1_can_2 10 rfl rfl)
theorem dX1_can_96 : decode cX1_can 96 = .ok (.goto 91, 3) := dk_167 0 91 (dk_at dksX1_can_2 12 rfl rfl)
theorem dX1_can_99 : decode cX1_can 99 = .ok (.aload_n 3, 1) := dk_45 (dk_at dksX1_can_2 15 rfl rfl)
theorem dX1_can_100 : decode cX1_can 100 = .ok (.ldc 214, 2) := dk_18 214 (dk_at dksX1_can_2 16 rfl rfl)
theorem dX1_can_102 : decode cX1_can 102 = .ok (.invokevirtual 210, 3) := dk_182 0 210 (dk_at dksX1_can_2 18 rfl rfl)
theorem dX1_can_105 : decode cX1_can 105 = .ok (.ifCond .eq 82, 3) := dk_153 0 82 (dk_at dksX1_can_2 21 rfl rfl)
theorem dX1_can_108 : decode cX1_can 108 = .ok (.iconst 1, 1) := dk_4 (dk_at dksX1_can_3 0 rfl rfl)
theorem dX1_can_109 : decode cX1_can 109 = .ok (.istore 4, 2) := dk_54 4 (dk_at dksX1_can_3 1 rfl rfl)
theorem dX1_can_111 : decode cX1_can 111 = .ok (.goto 76, 3) := dk_167 0 76 (dk_at dksX1_can_3 3 rfl rfl)
theorem dX1_can_114 : decode cX1_can 114 = .ok (.aload_n 3, 1) := dk_45 (dk_at dksX1_can_3 6 rfl rfl)
theorem dX1_can_115 : decode cX1_can 115 = .ok (.ldc 216, 2) := dk_18 216 (dk_at dksX1_can_3 7 rfl rfl)
theorem dX1_can_117 : decode cX1_can 117 = .ok (.invokevirtual 210, 3) := dk_182 0 210 (dk_at dksX1_can_3 9 rfl rfl)
theorem dX1_can_120 : decode cX1_can 120 = .ok (.ifCond .eq 67, 3) := dk_153 0 67 (dk_at dksX1_can_3 12 rfl rfl)
theorem dX1_can_123 : decode cX1_can 123 = .ok (.iconst 2, 1) := dk_5 (dk_at dksX1_can_3 15 rfl rfl)
theorem dX1_can_124 : decode cX1_can 124 = .ok (.istore 4, 2) := dk_54 4 (dk_at dksX1_can_3 16 rfl rfl)
theorem dX1_can_126 : decode cX1_can 126 = .ok (.goto 61, 3) := dk_167 0 61 (dk_at dksX1_can_3 18 rfl rfl)
theorem dX1_can_129 : decode cX1_can 129 = .ok (.aload_n 3, 1) := dk_45 (dk_at dksX1_can_3 21 rfl rfl)
theorem dX1_can_130 : decode cX1_can 130 = .ok (.ldc 218, 2) := dk_18 218 (dk_at dksX1_can_3 22 rfl rfl)
theorem dX1_can_132 : decode cX1_can 132 = .ok (.invokevirtual 210, 3) := dk_182 0 210 (dk_at dksX1_can_4 0 rfl rfl)
theorem dX1_can_135 : decode cX1_can 135 = .ok (.ifCond .eq 52, 3) := dk_153 0 52 (dk_at dksX1_can_4 3 rfl rfl)
theorem dX1_can_138 : decode cX1_can 138 = .ok (.iconst 3, 1) := dk_6 (dk_at dksX1_can_4 6 rfl rfl)
theorem dX1_can_139 : decode cX1_can 139 = .ok (.istore 4, 2) := dk_54 4 (dk_at dksX1_can_4 7 rfl rfl)
theorem dX1_can_141 : decode cX1_can 141 = .ok (.goto 46, 3) := dk_167 0 46 (dk_at dksX1_can_4 9 rfl rfl)
theorem dX1_can_144 : decode cX1_can 144 = .ok (.aload_n 3, 1) := dk_45 (dk_at dksX1_can_4 12 rfl rfl)
theorem dX1_can_145 : decode cX1_can 145 = .ok (.ldc 220, 2) := dk_18 220 (dk_at dksX1_can_4 13 rfl rfl)
theorem dX1_can_147 : decode cX1_can 147 = .ok (.invokevirtual 210, 3) := dk_182 0 210 (dk_at dksX1_can_4 15 rfl rfl)
theorem dX1_can_150 : decode cX1_can 150 = .ok (.ifCond .eq 37, 3) := dk_153 0 37 (dk_at dksX1_can_4 18 rfl rfl)
theorem dX1_can_153 : decode cX1_can 153 = .ok (.iconst 4, 1) := dk_7 (dk_at dksX1_can_4 21 rfl rfl)
theorem dX1_can_154 : decode cX1_can 154 = .ok (.istore 4, 2) := dk_54 4 (dk_at dksX1_can_4 22 rfl rfl)
theorem dX1_can_156 : decode cX1_can 156 = .ok (.goto 31, 3) := dk_167 0 31 (dk_at dksX1_can_5 0 rfl rfl)
theorem dX1_can_159 : decode cX1_can 159 = .ok (.aload_n 3, 1) := dk_45 (dk_at dksX1_can_5 3 rfl rfl)
theorem dX1_can_160 : decode cX1_can 160 = .ok (.ldc 222, 2) := dk_18 222 (dk_at dksX1_can_5 4 rfl rfl)
theorem dX1_can_162 : decode cX1_can 162 = .ok (.invokevirtual 210, 3) := dk_182 0 210 (dk_at dksX1_can_5 6 rfl rfl)
theorem dX1_can_165 : decode cX1_can 165 = .ok (.ifCond .eq 22, 3) := dk_153 0 22 (dk_at dksX1_can_5 9 rfl rfl)
theorem dX1_can_168 : decode cX1_can 168 = .ok (.iconst 5, 1) := dk_8 (dk_at dksX1_can_5 12 rfl rfl)
theorem dX1_can_169 : decode cX1_can 169 = .ok (.istore 4, 2) := dk_54 4 (dk_at dksX1_can_5 13 rfl rfl)
theorem dX1_can_171 : decode cX1_can 171 = .ok (.goto 16, 3) := dk_167 0 16 (dk_at dksX1_can_5 15 rfl rfl)
theorem dX1_can_174 : decode cX1_can 174 = .ok (.aload_n 3, 1) := dk_45 (dk_at dksX1_can_5 18 rfl rfl)
theorem dX1_can_175 : decode cX1_can 175 = .ok (.ldc 224, 2) := dk_18 224 (dk_at dksX1_can_5 19 rfl rfl)
theorem dX1_can_177 : decode cX1_can 177 = .ok (.invokevirtual 210, 3) := dk_182 0 210 (dk_at dksX1_can_5 21 rfl rfl)
theorem dX1_can_180 : decode cX1_can 180 = .ok (.ifCond .eq 7, 3) := dk_153 0 7 (dk_at dksX1_can_6 0 rfl rfl)
theorem dX1_can_183 : decode cX1_can 183 = .ok (.bipush 6, 2) := dk_16 6 (dk_at dksX1_can_6 3 rfl rfl)
theorem dX1_can_185 : decode cX1_can 185 = .ok (.istore 4, 2) := dk_54 4 (dk_at dksX1_can_6 5 rfl rfl)
theorem dX1_can_187 : decode cX1_can 187 = .ok (.iload 4, 2) := dk_21 4 (dk_at dksX1_can_6 7 rfl rfl)
theorem dX1_can_189 : decode cX1_can 189 = .ok (.tableswitch 227 0 6 #[43, 63, 93, 127, 157, 187, 217], 43) := by decide +kernel
theorem dX1_can_232 : decode cX1_can 232 = .ok (.aload_n 0, 1) := dk_42 (dk_at dksX1_can_8 0 rfl rfl)
theorem dX1_can_233 : decode cX1_can 233 = .ok (.getfield 27, 3) := dk_180 0 27 (dk_at dksX1_can_8 1 rfl rfl)
theorem dX1_can_236 : decode cX1_can 236 = .ok (.getfield 77, 3) := dk_180 0 77 (dk_at dksX1_can_8 4 rfl rfl)
theorem dX1_can_239 : decode cX1_can 239 = .ok (.bipush 12, 2) := dk_16 12 (dk_at dksX1_can_8 7 rfl rfl)
theorem dX1_can_241 : decode cX1_can 241 = .ok (.if_icmp .ge 7, 3) := dk_162 0 7 (dk_at dksX1_can_8 9 rfl rfl)
theorem dX1_can_244 : decode cX1_can 244 = .ok (.iconst 1, 1) := dk_4 (dk_at dksX1_can_8 12 rfl rfl)
theorem dX1_can_245 : decode cX1_can 245 = .ok (.goto 172, 3) := dk_167 0 172 (dk_at dksX1_can_8 13 rfl rfl)
theorem dX1_can_248 : decode cX1_can 248 = .ok (.iconst 0, 1) := dk_3 (dk_at dksX1_can_8 16 rfl rfl)
theorem dX1_can_249 : decode cX1_can 249 = .ok (.goto 168, 3) := dk_167 0 168 (dk_at dksX1_can_8 17 rfl rfl)
theorem dX1_can_252 : decode cX1_can 252 = .ok (.aload_n 0, 1) := dk_42 (dk_at dksX1_can_8 20 rfl rfl)
theorem dX1_can_253 : decode cX1_can 253 = .ok (.getfield 27, 3) := dk_180 0 27 (dk_at dksX1_can_8 21 rfl rfl)
theorem dX1_can_256 : decode cX1_can 256 = .ok (.iload_n 2, 1) := dk_28 (dk_at dksX1_can_9 0 rfl rfl)
theorem dX1_can_257 : decode cX1_can 257 = .ok (.invokevirtual 62, 3) := dk_182 0 62 (dk_at dksX1_can_9 1 rfl rfl)
theorem dX1_can_260 : decode cX1_can 260 = .ok (.ifCond .eq 18, 3) := dk_153 0 18 (dk_at dksX1_can_9 4 rfl rfl)
theorem dX1_can_263 : decode cX1_can 263 = .ok (.aload_n 0, 1) := dk_42 (dk_at dksX1_can_9 7 rfl rfl)
theorem dX1_can_264 : decode cX1_can 264 = .ok (.getfield 27, 3) := dk_180 0 27 (dk_at dksX1_can_9 8 rfl rfl)
theorem dX1_can_267 : decode cX1_can 267 = .ok (.iload_n 2, 1) := dk_28 (dk_at dksX1_can_9 11 rfl rfl)
theorem dX1_can_268 : decode cX1_can 268 = .ok (.invokevirtual 95, 3) := dk_182 0 95 (dk_at dksX1_can_9 12 rfl rfl)
theorem dX1_can_271 : decode cX1_can 271 = .ok (.ifCond .ne 7, 3) := dk_154 0 7 (dk_at dksX1_can_9 15 rfl rfl)
theorem dX1_can_274 : decode cX1_can 274 = .ok (.iconst 1, 1) := dk_4 (dk_at dksX1_can_9 18 rfl rfl)
theorem dX1_can_275 : decode cX1_can 275 = .ok (.goto 142, 3) := dk_167 0 142 (dk_at dksX1_can_9 19 rfl rfl)
theorem dX1_can_278 : decode cX1_can 278 = .ok (.iconst 0, 1) := dk_3 (dk_at dksX1_can_9 22 rfl rfl)
theorem dX1_can_279 : decode cX1_can 279 = .ok (.goto 138, 3) := dk_167 0 138 (dk_at dksX1_can_10 0 rfl rfl)
theorem dX1_can_282 : decode cX1_can 282 = .ok (.aload_n 0, 1) := dk_42 (dk_at dksX1_can_10 3 rfl rfl)
theorem dX1_can_283 : decode cX1_can 283 = .ok (.getfield 27, 3) := dk_180 0 27 (dk_at dksX1_can_10 4 rfl rfl)
theorem dX1_can_286 : decode cX1_can 286 = .ok (.iload_n 2, 1) := dk_28 (dk_at dksX1_can_10 7 rfl rfl)
theorem dX1_can_287 : decode cX1_can 287 = .ok (.invokevirtual 62, 3) := dk_182 0 62 (dk_at dksX1_can_10 8 rfl rfl)
theorem dX1_can_290 : decode cX1_can 290 = .ok (.ifCond .eq 22, 3) := dk_153 0 22 (dk_at dksX1_can_10 11 rfl rfl)
theorem dX1_can_293 : decode cX1_can 293 = .ok (.aload_n 0, 1) := dk_42 (dk_at dksX1_can_10 14 rfl rfl)
theorem dX1_can_294 : decode cX1_can 294 = .ok (.getfield 27, 3) := dk_180 0 27 (dk_at dksX1_can_10 15 rfl rfl)
theorem dX1_can_297 : decode cX1_can 297 = .ok (.iload_n 2, 1) := dk_28 (dk_at dksX1_can_10 18 rfl rfl)
theorem dX1_can_298 : decode cX1_can 298 = .ok (.aload_n 1, 1) := dk_43 (dk_at dksX1_can_10 19 rfl rfl)
theorem dX1_can_299 : decode cX1_can 299 = .ok (.invokevirtual 226, 3) := dk_182 0 226 (dk_at dksX1_can_10 20 rfl rfl)
theorem dX1_can_302 : decode cX1_can 302 = .ok (.invokevirtual 104, 3) := dk_182 0 104 (dk_at dksX1_can_11 0 rfl rfl)
theorem dX1_can_305 : decode cX1_can 305 = .ok (.ifCond .ne 7, 3) := dk_154 0 7 (dk_at dksX1_can_11 3 rfl rfl)
theorem dX1_can_308 : decode cX1_can 308 = .ok (.iconst 1, 1) := dk_4 (dk_at dksX1_can_11 6 rfl rfl)
theorem dX1_can_309 : decode cX1_can 309 = .ok (.goto 108, 3) := dk_167 0 108 (dk_at dksX1_can_11 7 rfl rfl)
theorem dX1_can_312 : decode cX1_can 312 = .ok (.iconst 0, 1) := dk_3 (dk_at dksX1_can_11 10 rfl rfl)
theorem dX1_can_313 : decode cX1_can 313 = .ok (.goto 104, 3) := dk_167 0 104 (dk_at dksX1_can_11 11 rfl rfl)
theorem dX1_can_316 : decode cX1_can 316 = .ok (.aload_n 0, 1) := dk_42 (dk_at dksX1_can_11 14 rfl rfl)
theorem dX1_can_317 : decode cX1_can 317 = .ok (.getfield 27, 3) := dk_180 0 27 (dk_at dksX1_can_11 15 rfl rfl)
theorem dX1_can_320 : decode cX1_can 320 = .ok (.iload_n 2, 1) := dk_28 (dk_at dksX1_can_11 18 rfl rfl)
theorem dX1_can_321 : decode cX1_can 321 = .ok (.invokevirtual 62, 3) := dk_182 0 62 (dk_at dksX1_can_11 19 rfl rfl)
theorem dX1_can_324 : decode cX1_can 324 = .ok (.ifCond .eq 18, 3) := dk_153 0 18 (dk_at dksX1_can_12 0 rfl rfl)
theorem dX1_can_327 : decode cX1_can 327 = .ok (.aload_n 0, 1) := dk_42 (dk_at dksX1_can_12 3 rfl rfl)
theorem dX1_can_328 : decode cX1_can 328 = .ok (.getfield 27, 3) := dk_180 0 27 (dk_at dksX1_can_12 4 rfl rfl)
theorem dX1_can_331 : decode cX1_can 331 = .ok (.iload_n 2, 1) := dk_28 (dk_at dksX1_can_12 7 rfl rfl)
theorem dX1_can_332 : decode cX1_can 332 = .ok (.invokevirtual 111, 3) := dk_182 0 111 (dk_at dksX1_can_12 8 rfl rfl)
theorem dX1_can_335 : decode cX1_can 335 = .ok (.ifCond .eq 7, 3) := dk_153 0 7 (dk_at dksX1_can_12 11 rfl rfl)
theorem dX1_can_338 : decode cX1_can 338 = .ok (.iconst 1, 1) := dk_4 (dk_at dksX1_can_12 14 rfl rfl)
theorem dX1_can_339 : decode cX1_can 339 = .ok (.goto 78, 3) := dk_167 0 78 (dk_at dksX1_can_12 15 rfl rfl)
theorem dX1_can_342 : decode cX1_can 342 = .ok (.iconst 0, 1) := dk_3 (dk_at dksX1_can_12 18 rfl rfl)
theorem dX1_can_343 : decode cX1_can 343 = .ok (.goto 74, 3) := dk_167 0 74 (dk_at dksX1_can_12 19 rfl rfl)
theorem dX1_can_346 : decode cX1_can 346 = .ok (.aload_n 0, 1) := dk_42 (dk_at dksX1_can_12 22 rfl rfl)
theorem dX1_can_347 : decode cX1_can 347 = .ok (.getfield 27, 3) := dk_180 0 27 (dk_at dksX1_can_13 0 rfl rfl)
theorem dX1_can_350 : decode cX1_can 350 = .ok (.iload_n 2, 1) := dk_28 (dk_at dksX1_can_13 3 rfl rfl)
theorem dX1_can_351 : decode cX1_can 351 = .ok (.invokevirtual 62, 3) := dk_182 0 62 (dk_at dksX1_can_13 4 rfl rfl)
theorem dX1_can_354 : decode cX1_can 354 = .ok (.ifCond .eq 18, 3) := dk_153 0 18 (dk_at dksX1_can_13 7 rfl rfl)
theorem dX1_can_357 : decode cX1_can 357 = .ok (.aload_n 0, 1) := dk_42 (dk_at dksX1_can_13 10 rfl rfl)
theorem dX1_can_358 : decode cX1_can 358 = .ok (.getfield 27, 3) := dk_180 0 27 (dk_at dksX1_can_13 11 rfl rfl)
theorem dX1_can_361 : decode cX1_can 361 = .ok (.iload_n 2, 1) := dk_28 (dk_at dksX1_can_13 14 rfl rfl)
theorem dX1_can_362 : decode cX1_can 362 = .ok (.invokevirtual 117, 3) := dk_182 0 117 (dk_at dksX1_can_13 15 rfl rfl)
theorem dX1_can_365 : decode cX1_can 365 = .ok (.ifCond .ne 7, 3) := dk_154 0 7 (dk_at dksX1_can_13 18 rfl rfl)
theorem dX1_can_368 : decode cX1_can 368 = .ok (.iconst 1, 1) := dk_4 (dk_at dksX1_can_13 21 rfl rfl)
theorem dX1_can_369 : decode cX1_can 369 = .ok (.goto 48, 3) := dk_167 0 48 (dk_at dksX1_can_14 0 rfl rfl)
theorem dX1_can_372 : decode cX1_can 372 = .ok (.iconst 0, 1) := dk_3 (dk_at dksX1_can_14 3 rfl rfl)
theorem dX1_can_373 : decode cX1_can 373 = .ok (.goto 44, 3) := dk_167 0 44 (dk_at dksX1_can_14 4 rfl rfl)
theorem dX1_can_376 : decode cX1_can 376 = .ok (.aload_n 0, 1) := dk_42 (dk_at dksX1_can_14 7 rfl rfl)
theorem dX1_can_377 : decode cX1_can 377 = .ok (.getfield 27, 3) := dk_180 0 27 (dk_at dksX1_can_14 8 rfl rfl)
theorem dX1_can_380 : decode cX1_can 380 = .ok (.iload_n 2, 1) := dk_28 (dk_at dksX1_can_14 11 rfl rfl)
theorem dX1_can_381 : decode cX1_can 381 = .ok (.invokevirtual 62, 3) := dk_182 0 62 (dk_at dksX1_can_14 12 rfl rfl)
theorem dX1_can_384 : decode cX1_can 384 = .ok (.ifCond .eq 18, 3) := dk_153 0 18 (dk_at dksX1_can_14 15 rfl rfl)
theorem dX1_can_387 : decode cX1_can 387 = .ok (.aload_n 0, 1) := dk_42 (dk_at dksX1_can_14 18 rfl rfl)
theorem dX1_can_388 : decode cX1_can 388 = .ok (.getfield 27, 3) := dk_180 0 27 (dk_at dksX1_can_14 19 rfl rfl)
theorem dX1_can_391 : decode cX1_can 391 = .ok (.iload_n 2, 1) := dk_28 (dk_at dksX1_can_14 22 rfl rfl)
theorem dX1_can_392 : decode cX1_can 392 = .ok (.invokevirtual 130, 3) := dk_182 0 130 (dk_at dksX1_can_15 0 rfl rfl)
theorem dX1_can_395 : decode cX1_can 395 = .ok (.ifCond .ne 7, 3) := dk_154 0 7 (dk_at dksX1_can_15 3 rfl rfl)
theorem dX1_can_398 : decode cX1_can 398 = .ok (.iconst 1, 1) := dk_4 (dk_at dksX1_can_15 6 rfl rfl)
theorem dX1_can_399 : decode cX1_can 399 = .ok (.goto 18, 3) := dk_167 0 18 (dk_at dksX1_can_15 7 rfl rfl)
theorem dX1_can_402 : decode cX1_can 402 = .ok (.iconst 0, 1) := dk_3 (dk_at dksX1_can_15 10 rfl rfl)
theorem dX1_can_403 : decode cX1_can 403 = .ok (.goto 14, 3) := dk_167 0 14 (dk_at dksX1_can_15 11 rfl rfl)
theorem dX1_can_406 : decode cX1_can 406 = .ok (.aload_n 0, 1) := dk_42 (dk_at dksX1_can_15 14 rfl rfl)
theorem dX1_can_407 : decode cX1_can 407 = .ok (.getfield 27, 3) := dk_180 0 27 (dk_at dksX1_can_15 15 rfl rfl)
theorem dX1_can_410 : decode cX1_can 410 = .ok (.invokevirtual 123, 3) := dk_182 0 123 (dk_at dksX1_can_15 18 rfl rfl)
theorem dX1_can_413 : decode cX1_can 413 = .ok (.goto 4, 3) := dk_167 0 4 (dk_at dksX1_can_15 21 rfl rfl)
theorem dX1_can_416 : decode cX1_can 416 = .ok (.iconst 1, 1) := dk_4 (dk_at dksX1_can_16 0 rfl rfl)
theorem dX1_can_417 : decode cX1_can 417 = .ok (.ireturn, 1) := dk_172 (dk_at dksX1_can_16 1 rfl rfl)
abbrev cX1_does : ByteArray := prog_1_method_27_code
def yX1_does : MethodName := ⟨RX1, "does", "(LMaltDrums$Order;)V"⟩
def dkwX1_does_16 : List UInt8 := [167, 0, 12, 42, 180, 0, 27, 28, 182, 0, 167, 87, 177]
abbrev dktX1_does_16 : List UInt8 := dkwX1_does_16 ++ []
def dkwX1_does_15 : List UInt8 := [181, 0, 148, 167, 0, 31, 42, 180, 0, 27, 180, 0, 139, 28, 50, 43, 182, 0, 226, 181, 0, 151]
abbrev dktX1_does_15 : List UInt8 := dkwX1_does_15 ++ dktX1_does_16
def dkwX1_does_14 : List UInt8 := [43, 182, 0, 226, 181, 0, 143, 167, 0, 50, 42, 180, 0, 27, 180, 0, 139, 28, 50, 43, 182, 0, 226]
abbrev dktX1_does_14 : List UInt8 := dkwX1_does_14 ++ dktX1_does_15
def dkwX1_does_13 : List UInt8 := [87, 167, 0, 80, 42, 180, 0, 27, 182, 0, 127, 87, 167, 0, 69, 42, 180, 0, 27, 180, 0, 139, 28, 50]
abbrev dktX1_does_13 : List UInt8 := dkwX1_does_13 ++ dktX1_does_14
def dkwX1_does_12 : List UInt8 := [87, 167, 0, 104, 42, 180, 0, 27, 28, 182, 0, 120, 87, 167, 0, 92, 42, 180, 0, 27, 28, 182, 0, 133]
abbrev dktX1_does_12 : List UInt8 := dkwX1_does_12 ++ dktX1_does_13
def dkwX1_does_11 : List UInt8 := [42, 180, 0, 27, 28, 43, 182, 0, 226, 182, 0, 108, 87, 167, 0, 116, 42, 180, 0, 27, 28, 182, 0, 114]
abbrev dktX1_does_11 : List UInt8 := dkwX1_does_11 ++ dktX1_does_12
def dkwX1_does_10 : List UInt8 := [42, 180, 0, 27, 28, 182, 0, 87, 87, 167, 0, 144, 42, 180, 0, 27, 28, 182, 0, 98, 87, 167, 0, 132]
abbrev dktX1_does_10 : List UInt8 := dkwX1_does_10 ++ dktX1_does_11
def dkwX1_does_9 : List UInt8 := [170, 0, 0, 0, 0, 0, 199, 0, 0, 0, 0, 0, 0, 0, 9, 0, 0, 0, 55, 0, 0, 0, 67, 0, 0, 0, 79, 0, 0, 0, 95, 0, 0, 0, 107, 0, 0, 0, 119, 0, 0, 0, 131, 0, 0, 0, 142, 0, 0, 0, 161, 0, 0, 0, 180]
abbrev dktX1_does_9 : List UInt8 := dkwX1_does_9 ++ dktX1_does_10
def dkwX1_does_8 : List UInt8 := [182, 0, 210, 153, 0, 7, 16, 9, 54, 4, 21, 4]
abbrev dktX1_does_8 : List UInt8 := dkwX1_does_8 ++ dktX1_does_9
def dkwX1_does_7 : List UInt8 := [167, 0, 32, 45, 18, 231, 182, 0, 210, 153, 0, 23, 16, 8, 54, 4, 167, 0, 16, 45, 18, 233]
abbrev dktX1_does_7 : List UInt8 := dkwX1_does_7 ++ dktX1_does_8
def dkwX1_does_6 : List UInt8 := [153, 0, 55, 16, 6, 54, 4, 167, 0, 48, 45, 18, 229, 182, 0, 210, 153, 0, 39, 16, 7, 54, 4]
abbrev dktX1_does_6 : List UInt8 := dkwX1_does_6 ++ dktX1_does_7
def dkwX1_does_5 : List UInt8 := [167, 0, 79, 45, 18, 222, 182, 0, 210, 153, 0, 70, 8, 54, 4, 167, 0, 64, 45, 18, 224, 182, 0, 210]
abbrev dktX1_does_5 : List UInt8 := dkwX1_does_5 ++ dktX1_does_6
def dkwX1_does_4 : List UInt8 := [182, 0, 210, 153, 0, 100, 6, 54, 4, 167, 0, 94, 45, 18, 220, 182, 0, 210, 153, 0, 85, 7, 54, 4]
abbrev dktX1_does_4 : List UInt8 := dkwX1_does_4 ++ dktX1_does_5
def dkwX1_does_3 : List UInt8 := [4, 54, 4, 167, 0, 124, 45, 18, 216, 182, 0, 210, 153, 0, 115, 5, 54, 4, 167, 0, 109, 45, 18, 218]
abbrev dktX1_does_3 : List UInt8 := dkwX1_does_3 ++ dktX1_does_4
def dkwX1_does_2 : List UInt8 := [45, 18, 208, 182, 0, 210, 153, 0, 145, 3, 54, 4, 167, 0, 139, 45, 18, 214, 182, 0, 210, 153, 0, 130]
abbrev dktX1_does_2 : List UInt8 := dkwX1_does_2 ++ dktX1_does_3
def dkwX1_does_1 : List UInt8 := [171, 0, 0, 0, 0, 0, 242, 0, 0, 0, 10, 0, 0, 0, 43, 0, 0, 0, 91, 0, 0, 0, 97, 0, 0, 0, 197, 0, 0, 0, 100, 0, 0, 0, 121, 0, 0, 0, 104, 0, 0, 0, 136, 0, 0, 0, 107, 0, 0, 0, 151, 0, 0, 0, 108, 0, 0, 0, 181, 0, 0, 0, 112, 0, 0, 0, 166, 0, 0, 0, 115, 0, 0, 0, 106, 0, 0, 0, 116, 0, 0, 0, 229, 0, 0, 0, 119, 0, 0, 0, 213]
abbrev dktX1_does_1 : List UInt8 := dkwX1_does_1 ++ dktX1_does_2
def dkwX1_does_0 : List UInt8 := [43, 182, 0, 194, 61, 43, 182, 0, 199, 78, 2, 54, 4, 45, 182, 0, 203]
abbrev dktX1_does_0 : List UInt8 := dkwX1_does_0 ++ dktX1_does_1
theorem dksX1_does_0 : cX1_does.data.toList.drop 0 = dktX1_does_0 := by decide +kernel
theorem dksX1_does_1 : cX1_does.data.toList.drop 17 = dktX1_does_1 := dk_seg dksX1_does_0 17 rfl rfl
theorem dksX1_does_2 : cX1_does.data.toList.drop 108 = dktX1_does_2 := dk_seg dksX1_does_1 91 rfl rfl
theorem dksX1_does_3 : cX1_does.data.toList.drop 132 = dktX1_does_3 := dk_seg dksX1_does_2 24 rfl rfl
theorem dksX1_does_4 : cX1_does.data.toList.drop 156 = dktX1_does_4 := dk_seg dksX1_does_3 24 rfl rfl
theorem dksX1_does_5 : cX1_does.data.toList.drop 180 = dktX1_does_5 := dk_seg dksX1_does_4 24 rfl rfl
theorem dksX1_does_6 : cX1_does.data.toList.drop 204 = dktX1_does_6 := dk_seg dksX1_does_5 24 rfl rfl
theorem dksX1_does_7 : cX1_does.data.toList.drop 227 = dktX1_does_7 := dk_seg dksX1_does_6 23 rfl rfl
theorem dksX1_does_8 : cX1_does.data.toList.drop 249 = dktX1_does_8 := dk_seg dksX1_does_7 22 rfl rfl
theorem dksX1_does_9 : cX1_does.data.toList.drop 261 = dktX1_does_9 := dk_seg dksX1_does_8 12 rfl rfl
theorem dksX1_does_10 : cX1_does.data.toList.drop 316 = dktX1_does_10 := dk_seg dksX1_does_9 55 rfl rfl
theorem dksX1_does_11 : cX1_does.data.toList.drop 340 = dktX1_does_11 := dk_seg dksX1_does_10 24 rfl rfl
theorem dksX1_does_12 : cX1_does.data.toList.drop 364 = dktX1_does_12 := dk_seg dksX1_does_11 24 rfl rfl
theorem dksX1_does_13 : cX1_does.data.toList.drop 388 = dktX1_does_13 := dk_seg dksX1_does_12 24 rfl rfl
theorem dksX1_does_14 : cX1_does.data.toList.drop 412 = dktX1_does_14 := dk_seg dksX1_does_13 24 rfl rfl
theorem dksX1_does_15 : cX1_does.data.toList.drop 435 = dktX1_does_15 := dk_seg dksX1_does_14 23 rfl rfl
theorem dksX1_does_16 : cX1_does.data.toList.drop 457 = dktX1_does_16 := dk_seg dksX1_does_15 22 rfl rfl
theorem dX1_does_0 : decode cX1_does 0 = .ok (.aload_n 1, 1) := dk_43 (dk_at dksX1_does_0 0 rfl rfl)
theorem dX1_does_1 : decode cX1_does 1 = .ok (.invokevirtual 194, 3) := dk_182 0 194 (dk_at dksX1_does_0 1 rfl rfl)
theorem dX1_does_4 : decode cX1_does 4 = .ok (.istore_n 2, 1) := dk_61 (dk_at dksX1_does_0 4 rfl rfl)
theorem dX1_does_5 : decode cX1_does 5 = .ok (.aload_n 1, 1) := dk_43 (dk_at dksX1_does_0 5 rfl rfl)
theorem dX1_does_6 : decode cX1_does 6 = .ok (.invokevirtual 199, 3) := dk_182 0 199 (dk_at dksX1_does_0 6 rfl rfl)
theorem dX1_does_9 : decode cX1_does 9 = .ok (.astore_n 3, 1) := dk_78 (dk_at dksX1_does_0 9 rfl rfl)
theorem dX1_does_10 : decode cX1_does 10 = .ok (.iconst (-1), 1) := dk_2 (dk_at dksX1_does_0 10 rfl rfl)
theorem dX1_does_11 : decode cX1_does 11 = .ok (.istore 4, 2) := dk_54 4 (dk_at dksX1_does_0 11 rfl rfl)
theorem dX1_does_13 : decode cX1_does 13 = .ok (.aload_n 3, 1) := dk_45 (dk_at dksX1_does_0 13 rfl rfl)
theorem dX1_does_14 : decode cX1_does 14 = .ok (.invokevirtual 203, 3) := dk_182 0 203 (dk_at dksX1_does_0 14 rfl rfl)
theorem dX1_does_17 : decode cX1_does 17 = .ok (.lookupswitch 242 #[(43, 91), (97, 197), (100, 121), (104, 136), (107, 151), (108, 181), (112, 166), (115, 106), (116, 229), (119, 213)], 91) := by decide +kernel
theorem dX1_does_108 : decode cX1_does 108 = .ok (.aload_n 3, 1) := dk_45 (dk_at dksX1_does_2 0 rfl rfl)
theorem dX1_does_109 : decode cX1_does 109 = .ok (.ldc 208, 2) := dk_18 208 (dk_at dksX1_does_2 1 rfl rfl)
theorem dX1_does_111 : decode cX1_does 111 = .ok (.invokevirtual 210, 3) := dk_182 0 210 (dk_at dksX1_does_2 3 rfl rfl)
theorem dX1_does_114 : decode cX1_does 114 = .ok (.ifCond .eq 145, 3) := dk_153 0 145 (dk_at dksX1_does_2 6 rfl rfl)
theorem dX1_does_117 : decode cX1_does 117 = .ok (.iconst 0, 1) := dk_3 (dk_at dksX1_does_2 9 rfl rfl)
theorem dX1_does_118 : decode cX1_does 118 = .ok (.istore 4, 2) := dk_54 4 (dk_at dksX1_does_2 10 rfl rfl)
theorem dX1_does_120 : decode cX1_does 120 = .ok (.goto 139, 3) := dk_167 0 139 (dk_at dksX1_does_2 12 rfl rfl)
theorem dX1_does_123 : decode cX1_does 123 = .ok (.aload_n 3, 1) := dk_45 (dk_at dksX1_does_2 15 rfl rfl)
theorem dX1_does_124 : decode cX1_does 124 = .ok (.ldc 214, 2) := dk_18 214 (dk_at dksX1_does_2 16 rfl rfl)
theorem dX1_does_126 : decode cX1_does 126 = .ok (.invokevirtual 210, 3) := dk_182 0 210 (dk_at dksX1_does_2 18 rfl rfl)
theorem dX1_does_129 : decode cX1_does 129 = .ok (.ifCond .eq 130, 3) := dk_153 0 130 (dk_at dksX1_does_2 21 rfl rfl)
theorem dX1_does_132 : decode cX1_does 132 = .ok (.iconst 1, 1) := dk_4 (dk_at dksX1_does_3 0 rfl rfl)
theorem dX1_does_133 : decode cX1_does 133 = .ok (.istore 4, 2) := dk_54 4 (dk_at dksX1_does_3 1 rfl rfl)
theorem dX1_does_135 : decode cX1_does 135 = .ok (.goto 124, 3) := dk_167 0 124 (dk_at dksX1_does_3 3 rfl rfl)
theorem dX1_does_138 : decode cX1_does 138 = .ok (.aload_n 3, 1) := dk_45 (dk_at dksX1_does_3 6 rfl rfl)
theorem dX1_does_139 : decode cX1_does 139 = .ok (.ldc 216, 2) := dk_18 216 (dk_at dksX1_does_3 7 rfl rfl)
theorem dX1_does_141 : decode cX1_does 141 = .ok (.invokevirtual 210, 3) := dk_182 0 210 (dk_at dksX1_does_3 9 rfl rfl)
theorem dX1_does_144 : decode cX1_does 144 = .ok (.ifCond .eq 115, 3) := dk_153 0 115 (dk_at dksX1_does_3 12 rfl rfl)
theorem dX1_does_147 : decode cX1_does 147 = .ok (.iconst 2, 1) := dk_5 (dk_at dksX1_does_3 15 rfl rfl)
theorem dX1_does_148 : decode cX1_does 148 = .ok (.istore 4, 2) := dk_54 4 (dk_at dksX1_does_3 16 rfl rfl)
theorem dX1_does_150 : decode cX1_does 150 = .ok (.goto 109, 3) := dk_167 0 109 (dk_at dksX1_does_3 18 rfl rfl)
theorem dX1_does_153 : decode cX1_does 153 = .ok (.aload_n 3, 1) := dk_45 (dk_at dksX1_does_3 21 rfl rfl)
theorem dX1_does_154 : decode cX1_does 154 = .ok (.ldc 218, 2) := dk_18 218 (dk_at dksX1_does_3 22 rfl rfl)
theorem dX1_does_156 : decode cX1_does 156 = .ok (.invokevirtual 210, 3) := dk_182 0 210 (dk_at dksX1_does_4 0 rfl rfl)
theorem dX1_does_159 : decode cX1_does 159 = .ok (.ifCond .eq 100, 3) := dk_153 0 100 (dk_at dksX1_does_4 3 rfl rfl)
theorem dX1_does_162 : decode cX1_does 162 = .ok (.iconst 3, 1) := dk_6 (dk_at dksX1_does_4 6 rfl rfl)
theorem dX1_does_163 : decode cX1_does 163 = .ok (.istore 4, 2) := dk_54 4 (dk_at dksX1_does_4 7 rfl rfl)
theorem dX1_does_165 : decode cX1_does 165 = .ok (.goto 94, 3) := dk_167 0 94 (dk_at dksX1_does_4 9 rfl rfl)
theorem dX1_does_168 : decode cX1_does 168 = .ok (.aload_n 3, 1) := dk_45 (dk_at dksX1_does_4 12 rfl rfl)
theorem dX1_does_169 : decode cX1_does 169 = .ok (.ldc 220, 2) := dk_18 220 (dk_at dksX1_does_4 13 rfl rfl)
theorem dX1_does_171 : decode cX1_does 171 = .ok (.invokevirtual 210, 3) := dk_182 0 210 (dk_at dksX1_does_4 15 rfl rfl)
theorem dX1_does_174 : decode cX1_does 174 = .ok (.ifCond .eq 85, 3) := dk_153 0 85 (dk_at dksX1_does_4 18 rfl rfl)
theorem dX1_does_177 : decode cX1_does 177 = .ok (.iconst 4, 1) := dk_7 (dk_at dksX1_does_4 21 rfl rfl)
theorem dX1_does_178 : decode cX1_does 178 = .ok (.istore 4, 2) := dk_54 4 (dk_at dksX1_does_4 22 rfl rfl)
theorem dX1_does_180 : decode cX1_does 180 = .ok (.goto 79, 3) := dk_167 0 79 (dk_at dksX1_does_5 0 rfl rfl)
theorem dX1_does_183 : decode cX1_does 183 = .ok (.aload_n 3, 1) := dk_45 (dk_at dksX1_does_5 3 rfl rfl)
theorem dX1_does_184 : decode cX1_does 184 = .ok (.ldc 222, 2) := dk_18 222 (dk_at dksX1_does_5 4 rfl rfl)
theorem dX1_does_186 : decode cX1_does 186 = .ok (.invokevirtual 210, 3) := dk_182 0 210 (dk_at dksX1_does_5 6 rfl rfl)
theorem dX1_does_189 : decode cX1_does 189 = .ok (.ifCond .eq 70, 3) := dk_153 0 70 (dk_at dksX1_does_5 9 rfl rfl)
theorem dX1_does_192 : decode cX1_does 192 = .ok (.iconst 5, 1) := dk_8 (dk_at dksX1_does_5 12 rfl rfl)
theorem dX1_does_193 : decode cX1_does 193 = .ok (.istore 4, 2) := dk_54 4 (dk_at dksX1_does_5 13 rfl rfl)
theorem dX1_does_195 : decode cX1_does 195 = .ok (.goto 64, 3) := dk_167 0 64 (dk_at dksX1_does_5 15 rfl rfl)
theorem dX1_does_198 : decode cX1_does 198 = .ok (.aload_n 3, 1) := dk_45 (dk_at dksX1_does_5 18 rfl rfl)
theorem dX1_does_199 : decode cX1_does 199 = .ok (.ldc 224, 2) := dk_18 224 (dk_at dksX1_does_5 19 rfl rfl)
theorem dX1_does_201 : decode cX1_does 201 = .ok (.invokevirtual 210, 3) := dk_182 0 210 (dk_at dksX1_does_5 21 rfl rfl)
theorem dX1_does_204 : decode cX1_does 204 = .ok (.ifCond .eq 55, 3) := dk_153 0 55 (dk_at dksX1_does_6 0 rfl rfl)
theorem dX1_does_207 : decode cX1_does 207 = .ok (.bipush 6, 2) := dk_16 6 (dk_at dksX1_does_6 3 rfl rfl)
theorem dX1_does_209 : decode cX1_does 209 = .ok (.istore 4, 2) := dk_54 4 (dk_at dksX1_does_6 5 rfl rfl)
theorem dX1_does_211 : decode cX1_does 211 = .ok (.goto 48, 3) := dk_167 0 48 (dk_at dksX1_does_6 7 rfl rfl)
theorem dX1_does_214 : decode cX1_does 214 = .ok (.aload_n 3, 1) := dk_45 (dk_at dksX1_does_6 10 rfl rfl)
theorem dX1_does_215 : decode cX1_does 215 = .ok (.ldc 229, 2) := dk_18 229 (dk_at dksX1_does_6 11 rfl rfl)
theorem dX1_does_217 : decode cX1_does 217 = .ok (.invokevirtual 210, 3) := dk_182 0 210 (dk_at dksX1_does_6 13 rfl rfl)
theorem dX1_does_220 : decode cX1_does 220 = .ok (.ifCond .eq 39, 3) := dk_153 0 39 (dk_at dksX1_does_6 16 rfl rfl)
theorem dX1_does_223 : decode cX1_does 223 = .ok (.bipush 7, 2) := dk_16 7 (dk_at dksX1_does_6 19 rfl rfl)
theorem dX1_does_225 : decode cX1_does 225 = .ok (.istore 4, 2) := dk_54 4 (dk_at dksX1_does_6 21 rfl rfl)
theorem dX1_does_227 : decode cX1_does 227 = .ok (.goto 32, 3) := dk_167 0 32 (dk_at dksX1_does_7 0 rfl rfl)
theorem dX1_does_230 : decode cX1_does 230 = .ok (.aload_n 3, 1) := dk_45 (dk_at dksX1_does_7 3 rfl rfl)
theorem dX1_does_231 : decode cX1_does 231 = .ok (.ldc 231, 2) := dk_18 231 (dk_at dksX1_does_7 4 rfl rfl)
theorem dX1_does_233 : decode cX1_does 233 = .ok (.invokevirtual 210, 3) := dk_182 0 210 (dk_at dksX1_does_7 6 rfl rfl)
theorem dX1_does_236 : decode cX1_does 236 = .ok (.ifCond .eq 23, 3) := dk_153 0 23 (dk_at dksX1_does_7 9 rfl rfl)
theorem dX1_does_239 : decode cX1_does 239 = .ok (.bipush 8, 2) := dk_16 8 (dk_at dksX1_does_7 12 rfl rfl)
theorem dX1_does_241 : decode cX1_does 241 = .ok (.istore 4, 2) := dk_54 4 (dk_at dksX1_does_7 14 rfl rfl)
theorem dX1_does_243 : decode cX1_does 243 = .ok (.goto 16, 3) := dk_167 0 16 (dk_at dksX1_does_7 16 rfl rfl)
theorem dX1_does_246 : decode cX1_does 246 = .ok (.aload_n 3, 1) := dk_45 (dk_at dksX1_does_7 19 rfl rfl)
theorem dX1_does_247 : decode cX1_does 247 = .ok (.ldc 233, 2) := dk_18 233 (dk_at dksX1_does_7 20 rfl rfl)
theorem dX1_does_249 : decode cX1_does 249 = .ok (.invokevirtual 210, 3) := dk_182 0 210 (dk_at dksX1_does_8 0 rfl rfl)
theorem dX1_does_252 : decode cX1_does 252 = .ok (.ifCond .eq 7, 3) := dk_153 0 7 (dk_at dksX1_does_8 3 rfl rfl)
theorem dX1_does_255 : decode cX1_does 255 = .ok (.bipush 9, 2) := dk_16 9 (dk_at dksX1_does_8 6 rfl rfl)
theorem dX1_does_257 : decode cX1_does 257 = .ok (.istore 4, 2) := dk_54 4 (dk_at dksX1_does_8 8 rfl rfl)
theorem dX1_does_259 : decode cX1_does 259 = .ok (.iload 4, 2) := dk_21 4 (dk_at dksX1_does_8 10 rfl rfl)
theorem dX1_does_261 : decode cX1_does 261 = .ok (.tableswitch 199 0 9 #[55, 67, 79, 95, 107, 119, 131, 142, 161, 180], 55) := by decide +kernel
theorem dX1_does_316 : decode cX1_does 316 = .ok (.aload_n 0, 1) := dk_42 (dk_at dksX1_does_10 0 rfl rfl)
theorem dX1_does_317 : decode cX1_does 317 = .ok (.getfield 27, 3) := dk_180 0 27 (dk_at dksX1_does_10 1 rfl rfl)
theorem dX1_does_320 : decode cX1_does 320 = .ok (.iload_n 2, 1) := dk_28 (dk_at dksX1_does_10 4 rfl rfl)
theorem dX1_does_321 : decode cX1_does 321 = .ok (.invokevirtual 87, 3) := dk_182 0 87 (dk_at dksX1_does_10 5 rfl rfl)
theorem dX1_does_324 : decode cX1_does 324 = .ok (.pop, 1) := dk_87 (dk_at dksX1_does_10 8 rfl rfl)
theorem dX1_does_325 : decode cX1_does 325 = .ok (.goto 144, 3) := dk_167 0 144 (dk_at dksX1_does_10 9 rfl rfl)
theorem dX1_does_328 : decode cX1_does 328 = .ok (.aload_n 0, 1) := dk_42 (dk_at dksX1_does_10 12 rfl rfl)
theorem dX1_does_329 : decode cX1_does 329 = .ok (.getfield 27, 3) := dk_180 0 27 (dk_at dksX1_does_10 13 rfl rfl)
theorem dX1_does_332 : decode cX1_does 332 = .ok (.iload_n 2, 1) := dk_28 (dk_at dksX1_does_10 16 rfl rfl)
theorem dX1_does_333 : decode cX1_does 333 = .ok (.invokevirtual 98, 3) := dk_182 0 98 (dk_at dksX1_does_10 17 rfl rfl)
theorem dX1_does_336 : decode cX1_does 336 = .ok (.pop, 1) := dk_87 (dk_at dksX1_does_10 20 rfl rfl)
theorem dX1_does_337 : decode cX1_does 337 = .ok (.goto 132, 3) := dk_167 0 132 (dk_at dksX1_does_10 21 rfl rfl)
theorem dX1_does_340 : decode cX1_does 340 = .ok (.aload_n 0, 1) := dk_42 (dk_at dksX1_does_11 0 rfl rfl)
theorem dX1_does_341 : decode cX1_does 341 = .ok (.getfield 27, 3) := dk_180 0 27 (dk_at dksX1_does_11 1 rfl rfl)
theorem dX1_does_344 : decode cX1_does 344 = .ok (.iload_n 2, 1) := dk_28 (dk_at dksX1_does_11 4 rfl rfl)
theorem dX1_does_345 : decode cX1_does 345 = .ok (.aload_n 1, 1) := dk_43 (dk_at dksX1_does_11 5 rfl rfl)
theorem dX1_does_346 : decode cX1_does 346 = .ok (.invokevirtual 226, 3) := dk_182 0 226 (dk_at dksX1_does_11 6 rfl rfl)
theorem dX1_does_349 : decode cX1_does 349 = .ok (.invokevirtual 108, 3) := dk_182 0 108 (dk_at dksX1_does_11 9 rfl rfl)
theorem dX1_does_352 : decode cX1_does 352 = .ok (.pop, 1) := dk_87 (dk_at dksX1_does_11 12 rfl rfl)
theorem dX1_does_353 : decode cX1_does 353 = .ok (.goto 116, 3) := dk_167 0 116 (dk_at dksX1_does_11 13 rfl rfl)
theorem dX1_does_356 : decode cX1_does 356 = .ok (.aload_n 0, 1) := dk_42 (dk_at dksX1_does_11 16 rfl rfl)
theorem dX1_does_357 : decode cX1_does 357 = .ok (.getfield 27, 3) := dk_180 0 27 (dk_at dksX1_does_11 17 rfl rfl)
theorem dX1_does_360 : decode cX1_does 360 = .ok (.iload_n 2, 1) := dk_28 (dk_at dksX1_does_11 20 rfl rfl)
theorem dX1_does_361 : decode cX1_does 361 = .ok (.invokevirtual 114, 3) := dk_182 0 114 (dk_at dksX1_does_11 21 rfl rfl)
theorem dX1_does_364 : decode cX1_does 364 = .ok (.pop, 1) := dk_87 (dk_at dksX1_does_12 0 rfl rfl)
theorem dX1_does_365 : decode cX1_does 365 = .ok (.goto 104, 3) := dk_167 0 104 (dk_at dksX1_does_12 1 rfl rfl)
theorem dX1_does_368 : decode cX1_does 368 = .ok (.aload_n 0, 1) := dk_42 (dk_at dksX1_does_12 4 rfl rfl)
theorem dX1_does_369 : decode cX1_does 369 = .ok (.getfield 27, 3) := dk_180 0 27 (dk_at dksX1_does_12 5 rfl rfl)
theorem dX1_does_372 : decode cX1_does 372 = .ok (.iload_n 2, 1) := dk_28 (dk_at dksX1_does_12 8 rfl rfl)
theorem dX1_does_373 : decode cX1_does 373 = .ok (.invokevirtual 120, 3) := dk_182 0 120 (dk_at dksX1_does_12 9 rfl rfl)
theorem dX1_does_376 : decode cX1_does 376 = .ok (.pop, 1) := dk_87 (dk_at dksX1_does_12 12 rfl rfl)
theorem dX1_does_377 : decode cX1_does 377 = .ok (.goto 92, 3) := dk_167 0 92 (dk_at dksX1_does_12 13 rfl rfl)
theorem dX1_does_380 : decode cX1_does 380 = .ok (.aload_n 0, 1) := dk_42 (dk_at dksX1_does_12 16 rfl rfl)
theorem dX1_does_381 : decode cX1_does 381 = .ok (.getfield 27, 3) := dk_180 0 27 (dk_at dksX1_does_12 17 rfl rfl)
theorem dX1_does_384 : decode cX1_does 384 = .ok (.iload_n 2, 1) := dk_28 (dk_at dksX1_does_12 20 rfl rfl)
theorem dX1_does_385 : decode cX1_does 385 = .ok (.invokevirtual 133, 3) := dk_182 0 133 (dk_at dksX1_does_12 21 rfl rfl)
theorem dX1_does_388 : decode cX1_does 388 = .ok (.pop, 1) := dk_87 (dk_at dksX1_does_13 0 rfl rfl)
theorem dX1_does_389 : decode cX1_does 389 = .ok (.goto 80, 3) := dk_167 0 80 (dk_at dksX1_does_13 1 rfl rfl)
theorem dX1_does_392 : decode cX1_does 392 = .ok (.aload_n 0, 1) := dk_42 (dk_at dksX1_does_13 4 rfl rfl)
theorem dX1_does_393 : decode cX1_does 393 = .ok (.getfield 27, 3) := dk_180 0 27 (dk_at dksX1_does_13 5 rfl rfl)
theorem dX1_does_396 : decode cX1_does 396 = .ok (.invokevirtual 127, 3) := dk_182 0 127 (dk_at dksX1_does_13 8 rfl rfl)
theorem dX1_does_399 : decode cX1_does 399 = .ok (.pop, 1) := dk_87 (dk_at dksX1_does_13 11 rfl rfl)
theorem dX1_does_400 : decode cX1_does 400 = .ok (.goto 69, 3) := dk_167 0 69 (dk_at dksX1_does_13 12 rfl rfl)
theorem dX1_does_403 : decode cX1_does 403 = .ok (.aload_n 0, 1) := dk_42 (dk_at dksX1_does_13 15 rfl rfl)
theorem dX1_does_404 : decode cX1_does 404 = .ok (.getfield 27, 3) := dk_180 0 27 (dk_at dksX1_does_13 16 rfl rfl)
theorem dX1_does_407 : decode cX1_does 407 = .ok (.getfield 139, 3) := dk_180 0 139 (dk_at dksX1_does_13 19 rfl rfl)
theorem dX1_does_410 : decode cX1_does 410 = .ok (.iload_n 2, 1) := dk_28 (dk_at dksX1_does_13 22 rfl rfl)
theorem dX1_does_411 : decode cX1_does 411 = .ok (.aaload, 1) := dk_50 (dk_at dksX1_does_13 23 rfl rfl)
theorem dX1_does_412 : decode cX1_does 412 = .ok (.aload_n 1, 1) := dk_43 (dk_at dksX1_does_14 0 rfl rfl)
theorem dX1_does_413 : decode cX1_does 413 = .ok (.invokevirtual 226, 3) := dk_182 0 226 (dk_at dksX1_does_14 1 rfl rfl)
theorem dX1_does_416 : decode cX1_does 416 = .ok (.putfield 143, 3) := dk_181 0 143 (dk_at dksX1_does_14 4 rfl rfl)
theorem dX1_does_419 : decode cX1_does 419 = .ok (.goto 50, 3) := dk_167 0 50 (dk_at dksX1_does_14 7 rfl rfl)
theorem dX1_does_422 : decode cX1_does 422 = .ok (.aload_n 0, 1) := dk_42 (dk_at dksX1_does_14 10 rfl rfl)
theorem dX1_does_423 : decode cX1_does 423 = .ok (.getfield 27, 3) := dk_180 0 27 (dk_at dksX1_does_14 11 rfl rfl)
theorem dX1_does_426 : decode cX1_does 426 = .ok (.getfield 139, 3) := dk_180 0 139 (dk_at dksX1_does_14 14 rfl rfl)
theorem dX1_does_429 : decode cX1_does 429 = .ok (.iload_n 2, 1) := dk_28 (dk_at dksX1_does_14 17 rfl rfl)
theorem dX1_does_430 : decode cX1_does 430 = .ok (.aaload, 1) := dk_50 (dk_at dksX1_does_14 18 rfl rfl)
theorem dX1_does_431 : decode cX1_does 431 = .ok (.aload_n 1, 1) := dk_43 (dk_at dksX1_does_14 19 rfl rfl)
theorem dX1_does_432 : decode cX1_does 432 = .ok (.invokevirtual 226, 3) := dk_182 0 226 (dk_at dksX1_does_14 20 rfl rfl)
theorem dX1_does_435 : decode cX1_does 435 = .ok (.putfield 148, 3) := dk_181 0 148 (dk_at dksX1_does_15 0 rfl rfl)
theorem dX1_does_438 : decode cX1_does 438 = .ok (.goto 31, 3) := dk_167 0 31 (dk_at dksX1_does_15 3 rfl rfl)
theorem dX1_does_441 : decode cX1_does 441 = .ok (.aload_n 0, 1) := dk_42 (dk_at dksX1_does_15 6 rfl rfl)
theorem dX1_does_442 : decode cX1_does 442 = .ok (.getfield 27, 3) := dk_180 0 27 (dk_at dksX1_does_15 7 rfl rfl)
theorem dX1_does_445 : decode cX1_does 445 = .ok (.getfield 139, 3) := dk_180 0 139 (dk_at dksX1_does_15 10 rfl rfl)
theorem dX1_does_448 : decode cX1_does 448 = .ok (.iload_n 2, 1) := dk_28 (dk_at dksX1_does_15 13 rfl rfl)
theorem dX1_does_449 : decode cX1_does 449 = .ok (.aaload, 1) := dk_50 (dk_at dksX1_does_15 14 rfl rfl)
theorem dX1_does_450 : decode cX1_does 450 = .ok (.aload_n 1, 1) := dk_43 (dk_at dksX1_does_15 15 rfl rfl)
theorem dX1_does_451 : decode cX1_does 451 = .ok (.invokevirtual 226, 3) := dk_182 0 226 (dk_at dksX1_does_15 16 rfl rfl)
theorem dX1_does_454 : decode cX1_does 454 = .ok (.putfield 151, 3) := dk_181 0 151 (dk_at dksX1_does_15 19 rfl rfl)
theorem dX1_does_457 : decode cX1_does 457 = .ok (.goto 12, 3) := dk_167 0 12 (dk_at dksX1_does_16 0 rfl rfl)
theorem dX1_does_460 : decode cX1_does 460 = .ok (.aload_n 0, 1) := dk_42 (dk_at dksX1_does_16 3 rfl rfl)
theorem dX1_does_461 : decode cX1_does 461 = .ok (.getfield 27, 3) := dk_180 0 27 (dk_at dksX1_does_16 4 rfl rfl)
theorem dX1_does_464 : decode cX1_does 464 = .ok (.iload_n 2, 1) := dk_28 (dk_at dksX1_does_16 7 rfl rfl)
theorem dX1_does_465 : decode cX1_does 465 = .ok (.invokevirtual 167, 3) := dk_182 0 167 (dk_at dksX1_does_16 8 rfl rfl)
theorem dX1_does_468 : decode cX1_does 468 = .ok (.pop, 1) := dk_87 (dk_at dksX1_does_16 11 rfl rfl)
theorem dX1_does_469 : decode cX1_does 469 = .ok (.return_, 1) := dk_177 (dk_at dksX1_does_16 12 rfl rfl)
abbrev cX1_undo : ByteArray := prog_1_method_29_code
def yX1_undo : MethodName := ⟨RX1, "undo", "()I"⟩
def dkwX1_undo_1 : List UInt8 := [182, 0, 254, 192, 0, 24, 181, 0, 27, 42, 180, 0, 36, 182, 0, 47, 172]
abbrev dktX1_undo_1 : List UInt8 := dkwX1_undo_1 ++ []
def dkwX1_undo_0 : List UInt8 := [42, 180, 0, 36, 182, 0, 251, 154, 0, 7, 4, 167, 0, 4, 3, 184, 0, 81, 42, 42, 180, 0, 36]
abbrev dktX1_undo_0 : List UInt8 := dkwX1_undo_0 ++ dktX1_undo_1
theorem dksX1_undo_0 : cX1_undo.data.toList.drop 0 = dktX1_undo_0 := by decide +kernel
theorem dksX1_undo_1 : cX1_undo.data.toList.drop 23 = dktX1_undo_1 := dk_seg dksX1_undo_0 23 rfl rfl
theorem dX1_undo_0 : decode cX1_undo 0 = .ok (.aload_n 0, 1) := dk_42 (dk_at dksX1_undo_0 0 rfl rfl)
theorem dX1_undo_1 : decode cX1_undo 1 = .ok (.getfield 36, 3) := dk_180 0 36 (dk_at dksX1_undo_0 1 rfl rfl)
theorem dX1_undo_4 : decode cX1_undo 4 = .ok (.invokevirtual 251, 3) := dk_182 0 251 (dk_at dksX1_undo_0 4 rfl rfl)
theorem dX1_undo_7 : decode cX1_undo 7 = .ok (.ifCond .ne 7, 3) := dk_154 0 7 (dk_at dksX1_undo_0 7 rfl rfl)
theorem dX1_undo_10 : decode cX1_undo 10 = .ok (.iconst 1, 1) := dk_4 (dk_at dksX1_undo_0 10 rfl rfl)
theorem dX1_undo_11 : decode cX1_undo 11 = .ok (.goto 4, 3) := dk_167 0 4 (dk_at dksX1_undo_0 11 rfl rfl)
theorem dX1_undo_14 : decode cX1_undo 14 = .ok (.iconst 0, 1) := dk_3 (dk_at dksX1_undo_0 14 rfl rfl)
theorem dX1_undo_15 : decode cX1_undo 15 = .ok (.invokestatic 81, 3) := dk_184 0 81 (dk_at dksX1_undo_0 15 rfl rfl)
theorem dX1_undo_18 : decode cX1_undo 18 = .ok (.aload_n 0, 1) := dk_42 (dk_at dksX1_undo_0 18 rfl rfl)
theorem dX1_undo_19 : decode cX1_undo 19 = .ok (.aload_n 0, 1) := dk_42 (dk_at dksX1_undo_0 19 rfl rfl)
theorem dX1_undo_20 : decode cX1_undo 20 = .ok (.getfield 36, 3) := dk_180 0 36 (dk_at dksX1_undo_0 20 rfl rfl)
theorem dX1_undo_23 : decode cX1_undo 23 = .ok (.invokevirtual 254, 3) := dk_182 0 254 (dk_at dksX1_undo_1 0 rfl rfl)
theorem dX1_undo_26 : decode cX1_undo 26 = .ok (.checkcast 24, 3) := dk_192 0 24 (dk_at dksX1_undo_1 3 rfl rfl)
theorem dX1_undo_29 : decode cX1_undo 29 = .ok (.putfield 27, 3) := dk_181 0 27 (dk_at dksX1_undo_1 6 rfl rfl)
theorem dX1_undo_32 : decode cX1_undo 32 = .ok (.aload_n 0, 1) := dk_42 (dk_at dksX1_undo_1 9 rfl rfl)
theorem dX1_undo_33 : decode cX1_undo 33 = .ok (.getfield 36, 3) := dk_180 0 36 (dk_at dksX1_undo_1 10 rfl rfl)
theorem dX1_undo_36 : decode cX1_undo 36 = .ok (.invokevirtual 47, 3) := dk_182 0 47 (dk_at dksX1_undo_1 13 rfl rfl)
theorem dX1_undo_39 : decode cX1_undo 39 = .ok (.ireturn, 1) := dk_172 (dk_at dksX1_undo_1 16 rfl rfl)
abbrev cX1_restore : ByteArray := prog_1_method_32_code
def yX1_restore : MethodName := ⟨RX1, "restore", "()I"⟩
def dkwX1_restore_1 : List UInt8 := [42, 180, 1, 1, 183, 0, 59, 181, 0, 27, 42, 180, 0, 27, 180, 1, 4, 172]
abbrev dktX1_restore_1 : List UInt8 := dkwX1_restore_1 ++ []
def dkwX1_restore_0 : List UInt8 := [42, 180, 1, 1, 198, 0, 7, 4, 167, 0, 4, 3, 184, 0, 81, 42, 182, 0, 84, 42, 187, 0, 24, 89]
abbrev dktX1_restore_0 : List UInt8 := dkwX1_restore_0 ++ dktX1_restore_1
theorem dksX1_restore_0 : cX1_restore.data.toList.drop 0 = dktX1_restore_0 := by decide +kernel
theorem dksX1_restore_1 : cX1_restore.data.toList.drop 24 = dktX1_restore_1 := dk_seg dksX1_restore_0 24 rfl rfl
theorem dX1_restore_0 : decode cX1_restore 0 = .ok (.aload_n 0, 1) := dk_42 (dk_at dksX1_restore_0 0 rfl rfl)
theorem dX1_restore_1 : decode cX1_restore 1 = .ok (.getfield 257, 3) := dk_180 1 1 (dk_at dksX1_restore_0 1 rfl rfl)
theorem dX1_restore_4 : decode cX1_restore 4 = .ok (.ifnull 7, 3) := dk_198 0 7 (dk_at dksX1_restore_0 4 rfl rfl)
theorem dX1_restore_7 : decode cX1_restore 7 = .ok (.iconst 1, 1) := dk_4 (dk_at dksX1_restore_0 7 rfl rfl)
theorem dX1_restore_8 : decode cX1_restore 8 = .ok (.goto 4, 3) := dk_167 0 4 (dk_at dksX1_restore_0 8 rfl rfl)
theorem dX1_restore_11 : decode cX1_restore 11 = .ok (.iconst 0, 1) := dk_3 (dk_at dksX1_restore_0 11 rfl rfl)
theorem dX1_restore_12 : decode cX1_restore 12 = .ok (.invokestatic 81, 3) := dk_184 0 81 (dk_at dksX1_restore_0 12 rfl rfl)
theorem dX1_restore_15 : decode cX1_restore 15 = .ok (.aload_n 0, 1) := dk_42 (dk_at dksX1_restore_0 15 rfl rfl)
theorem dX1_restore_16 : decode cX1_restore 16 = .ok (.invokevirtual 84, 3) := dk_182 0 84 (dk_at dksX1_restore_0 16 rfl rfl)
theorem dX1_restore_19 : decode cX1_restore 19 = .ok (.aload_n 0, 1) := dk_42 (dk_at dksX1_restore_0 19 rfl rfl)
theorem dX1_restore_20 : decode cX1_restore 20 = .ok (.new 24, 3) := dk_187 0 24 (dk_at dksX1_restore_0 20 rfl rfl)
theorem dX1_restore_23 : decode cX1_restore 23 = .ok (.dup, 1) := dk_89 (dk_at dksX1_restore_0 23 rfl rfl)
theorem dX1_restore_24 : decode cX1_restore 24 = .ok (.aload_n 0, 1) := dk_42 (dk_at dksX1_restore_1 0 rfl rfl)
theorem dX1_restore_25 : decode cX1_restore 25 = .ok (.getfield 257, 3) := dk_180 1 1 (dk_at dksX1_restore_1 1 rfl rfl)
theorem dX1_restore_28 : decode cX1_restore 28 = .ok (.invokespecial 59, 3) := dk_183 0 59 (dk_at dksX1_restore_1 4 rfl rfl)
theorem dX1_restore_31 : decode cX1_restore 31 = .ok (.putfield 27, 3) := dk_181 0 27 (dk_at dksX1_restore_1 7 rfl rfl)
theorem dX1_restore_34 : decode cX1_restore 34 = .ok (.aload_n 0, 1) := dk_42 (dk_at dksX1_restore_1 10 rfl rfl)
theorem dX1_restore_35 : decode cX1_restore 35 = .ok (.getfield 27, 3) := dk_180 0 27 (dk_at dksX1_restore_1 11 rfl rfl)
theorem dX1_restore_38 : decode cX1_restore 38 = .ok (.getfield 260, 3) := dk_180 1 4 (dk_at dksX1_restore_1 14 rfl rfl)
theorem dX1_restore_41 : decode cX1_restore 41 = .ok (.ireturn, 1) := dk_172 (dk_at dksX1_restore_1 17 rfl rfl)
abbrev cX1_placeOf : ByteArray := prog_1_method_34_code
def yX1_placeOf : MethodName := ⟨RX1, "placeOf", "(I)I"⟩
def dkwX1_placeOf_0 : List UInt8 := [42, 27, 182, 0, 91, 42, 180, 0, 27, 180, 1, 7, 27, 46, 172]
abbrev dktX1_placeOf_0 : List UInt8 := dkwX1_placeOf_0 ++ []
theorem dksX1_placeOf_0 : cX1_placeOf.data.toList.drop 0 = dktX1_placeOf_0 := by decide +kernel
theorem dX1_placeOf_0 : decode cX1_placeOf 0 = .ok (.aload_n 0, 1) := dk_42 (dk_at dksX1_placeOf_0 0 rfl rfl)
theorem dX1_placeOf_1 : decode cX1_placeOf 1 = .ok (.iload_n 1, 1) := dk_27 (dk_at dksX1_placeOf_0 1 rfl rfl)
theorem dX1_placeOf_2 : decode cX1_placeOf 2 = .ok (.invokevirtual 91, 3) := dk_182 0 91 (dk_at dksX1_placeOf_0 2 rfl rfl)
theorem dX1_placeOf_5 : decode cX1_placeOf 5 = .ok (.aload_n 0, 1) := dk_42 (dk_at dksX1_placeOf_0 5 rfl rfl)
theorem dX1_placeOf_6 : decode cX1_placeOf 6 = .ok (.getfield 27, 3) := dk_180 0 27 (dk_at dksX1_placeOf_0 6 rfl rfl)
theorem dX1_placeOf_9 : decode cX1_placeOf 9 = .ok (.getfield 263, 3) := dk_180 1 7 (dk_at dksX1_placeOf_0 9 rfl rfl)
theorem dX1_placeOf_12 : decode cX1_placeOf 12 = .ok (.iload_n 1, 1) := dk_27 (dk_at dksX1_placeOf_0 12 rfl rfl)
theorem dX1_placeOf_13 : decode cX1_placeOf 13 = .ok (.iaload, 1) := dk_46 (dk_at dksX1_placeOf_0 13 rfl rfl)
theorem dX1_placeOf_14 : decode cX1_placeOf 14 = .ok (.ireturn, 1) := dk_172 (dk_at dksX1_placeOf_0 14 rfl rfl)
abbrev cX1_drumOf : ByteArray := prog_1_method_35_code
def yX1_drumOf : MethodName := ⟨RX1, "drumOf", "(I)I"⟩
def dkwX1_drumOf_0 : List UInt8 := [42, 27, 182, 0, 91, 42, 180, 0, 27, 27, 182, 1, 11, 172]
abbrev dktX1_drumOf_0 : List UInt8 := dkwX1_drumOf_0 ++ []
theorem dksX1_drumOf_0 : cX1_drumOf.data.toList.drop 0 = dktX1_drumOf_0 := by decide +kernel
theorem dX1_drumOf_0 : decode cX1_drumOf 0 = .ok (.aload_n 0, 1) := dk_42 (dk_at dksX1_drumOf_0 0 rfl rfl)
theorem dX1_drumOf_1 : decode cX1_drumOf 1 = .ok (.iload_n 1, 1) := dk_27 (dk_at dksX1_drumOf_0 1 rfl rfl)
theorem dX1_drumOf_2 : decode cX1_drumOf 2 = .ok (.invokevirtual 91, 3) := dk_182 0 91 (dk_at dksX1_drumOf_0 2 rfl rfl)
theorem dX1_drumOf_5 : decode cX1_drumOf 5 = .ok (.aload_n 0, 1) := dk_42 (dk_at dksX1_drumOf_0 5 rfl rfl)
theorem dX1_drumOf_6 : decode cX1_drumOf 6 = .ok (.getfield 27, 3) := dk_180 0 27 (dk_at dksX1_drumOf_0 6 rfl rfl)
theorem dX1_drumOf_9 : decode cX1_drumOf 9 = .ok (.iload_n 1, 1) := dk_27 (dk_at dksX1_drumOf_0 9 rfl rfl)
theorem dX1_drumOf_10 : decode cX1_drumOf 10 = .ok (.invokevirtual 267, 3) := dk_182 1 11 (dk_at dksX1_drumOf_0 10 rfl rfl)
theorem dX1_drumOf_13 : decode cX1_drumOf 13 = .ok (.ireturn, 1) := dk_172 (dk_at dksX1_drumOf_0 13 rfl rfl)
abbrev cX1_weightOf : ByteArray := prog_1_method_36_code
def yX1_weightOf : MethodName := ⟨RX1, "weightOf", "(I)I"⟩
def dkwX1_weightOf_1 : List UInt8 := [180, 1, 17, 27, 46, 96, 172]
abbrev dktX1_weightOf_1 : List UInt8 := dkwX1_weightOf_1 ++ []
def dkwX1_weightOf_0 : List UInt8 := [42, 27, 182, 0, 91, 17, 3, 232, 42, 180, 0, 27, 180, 1, 14, 27, 46, 104, 42, 180, 0, 27]
abbrev dktX1_weightOf_0 : List UInt8 := dkwX1_weightOf_0 ++ dktX1_weightOf_1
theorem dksX1_weightOf_0 : cX1_weightOf.data.toList.drop 0 = dktX1_weightOf_0 := by decide +kernel
theorem dksX1_weightOf_1 : cX1_weightOf.data.toList.drop 22 = dktX1_weightOf_1 := dk_seg dksX1_weightOf_0 22 rfl rfl
theorem dX1_weightOf_0 : decode cX1_weightOf 0 = .ok (.aload_n 0, 1) := dk_42 (dk_at dksX1_weightOf_0 0 rfl rfl)
theorem dX1_weightOf_1 : decode cX1_weightOf 1 = .ok (.iload_n 1, 1) := dk_27 (dk_at dksX1_weightOf_0 1 rfl rfl)
theorem dX1_weightOf_2 : decode cX1_weightOf 2 = .ok (.invokevirtual 91, 3) := dk_182 0 91 (dk_at dksX1_weightOf_0 2 rfl rfl)
theorem dX1_weightOf_5 : decode cX1_weightOf 5 = .ok (.sipush 1000, 3) := dk_17 3 232 (dk_at dksX1_weightOf_0 5 rfl rfl)
theorem dX1_weightOf_8 : decode cX1_weightOf 8 = .ok (.aload_n 0, 1) := dk_42 (dk_at dksX1_weightOf_0 8 rfl rfl)
theorem dX1_weightOf_9 : decode cX1_weightOf 9 = .ok (.getfield 27, 3) := dk_180 0 27 (dk_at dksX1_weightOf_0 9 rfl rfl)
theorem dX1_weightOf_12 : decode cX1_weightOf 12 = .ok (.getfield 270, 3) := dk_180 1 14 (dk_at dksX1_weightOf_0 12 rfl rfl)
theorem dX1_weightOf_15 : decode cX1_weightOf 15 = .ok (.iload_n 1, 1) := dk_27 (dk_at dksX1_weightOf_0 15 rfl rfl)
theorem dX1_weightOf_16 : decode cX1_weightOf 16 = .ok (.iaload, 1) := dk_46 (dk_at dksX1_weightOf_0 16 rfl rfl)
theorem dX1_weightOf_17 : decode cX1_weightOf 17 = .ok (.imul, 1) := dk_104 (dk_at dksX1_weightOf_0 17 rfl rfl)
theorem dX1_weightOf_18 : decode cX1_weightOf 18 = .ok (.aload_n 0, 1) := dk_42 (dk_at dksX1_weightOf_0 18 rfl rfl)
theorem dX1_weightOf_19 : decode cX1_weightOf 19 = .ok (.getfield 27, 3) := dk_180 0 27 (dk_at dksX1_weightOf_0 19 rfl rfl)
theorem dX1_weightOf_22 : decode cX1_weightOf 22 = .ok (.getfield 273, 3) := dk_180 1 17 (dk_at dksX1_weightOf_1 0 rfl rfl)
theorem dX1_weightOf_25 : decode cX1_weightOf 25 = .ok (.iload_n 1, 1) := dk_27 (dk_at dksX1_weightOf_1 3 rfl rfl)
theorem dX1_weightOf_26 : decode cX1_weightOf 26 = .ok (.iaload, 1) := dk_46 (dk_at dksX1_weightOf_1 4 rfl rfl)
theorem dX1_weightOf_27 : decode cX1_weightOf 27 = .ok (.iadd, 1) := dk_96 (dk_at dksX1_weightOf_1 5 rfl rfl)
theorem dX1_weightOf_28 : decode cX1_weightOf 28 = .ok (.ireturn, 1) := dk_172 (dk_at dksX1_weightOf_1 6 rfl rfl)
abbrev cX1_wetnessOf : ByteArray := prog_1_method_37_code
def yX1_wetnessOf : MethodName := ⟨RX1, "wetnessOf", "(I)I"⟩
def dkwX1_wetnessOf_0 : List UInt8 := [42, 27, 182, 0, 91, 42, 180, 0, 27, 180, 1, 20, 27, 46, 172]
abbrev dktX1_wetnessOf_0 : List UInt8 := dkwX1_wetnessOf_0 ++ []
theorem dksX1_wetnessOf_0 : cX1_wetnessOf.data.toList.drop 0 = dktX1_wetnessOf_0 := by decide +kernel
theorem dX1_wetnessOf_0 : decode cX1_wetnessOf 0 = .ok (.aload_n 0, 1) := dk_42 (dk_at dksX1_wetnessOf_0 0 rfl rfl)
theorem dX1_wetnessOf_1 : decode cX1_wetnessOf 1 = .ok (.iload_n 1, 1) := dk_27 (dk_at dksX1_wetnessOf_0 1 rfl rfl)
theorem dX1_wetnessOf_2 : decode cX1_wetnessOf 2 = .ok (.invokevirtual 91, 3) := dk_182 0 91 (dk_at dksX1_wetnessOf_0 2 rfl rfl)
theorem dX1_wetnessOf_5 : decode cX1_wetnessOf 5 = .ok (.aload_n 0, 1) := dk_42 (dk_at dksX1_wetnessOf_0 5 rfl rfl)
theorem dX1_wetnessOf_6 : decode cX1_wetnessOf 6 = .ok (.getfield 27, 3) := dk_180 0 27 (dk_at dksX1_wetnessOf_0 6 rfl rfl)
theorem dX1_wetnessOf_9 : decode cX1_wetnessOf 9 = .ok (.getfield 276, 3) := dk_180 1 20 (dk_at dksX1_wetnessOf_0 9 rfl rfl)
theorem dX1_wetnessOf_12 : decode cX1_wetnessOf 12 = .ok (.iload_n 1, 1) := dk_27 (dk_at dksX1_wetnessOf_0 12 rfl rfl)
theorem dX1_wetnessOf_13 : decode cX1_wetnessOf 13 = .ok (.iaload, 1) := dk_46 (dk_at dksX1_wetnessOf_0 13 rfl rfl)
theorem dX1_wetnessOf_14 : decode cX1_wetnessOf 14 = .ok (.ireturn, 1) := dk_172 (dk_at dksX1_wetnessOf_0 14 rfl rfl)
abbrev cX1_growthOf : ByteArray := prog_1_method_38_code
def yX1_growthOf : MethodName := ⟨RX1, "growthOf", "(I)I"⟩
def dkwX1_growthOf_0 : List UInt8 := [42, 27, 182, 0, 91, 42, 180, 0, 27, 180, 1, 23, 27, 46, 172]
abbrev dktX1_growthOf_0 : List UInt8 := dkwX1_growthOf_0 ++ []
theorem dksX1_growthOf_0 : cX1_growthOf.data.toList.drop 0 = dktX1_growthOf_0 := by decide +kernel
theorem dX1_growthOf_0 : decode cX1_growthOf 0 = .ok (.aload_n 0, 1) := dk_42 (dk_at dksX1_growthOf_0 0 rfl rfl)
theorem dX1_growthOf_1 : decode cX1_growthOf 1 = .ok (.iload_n 1, 1) := dk_27 (dk_at dksX1_growthOf_0 1 rfl rfl)
theorem dX1_growthOf_2 : decode cX1_growthOf 2 = .ok (.invokevirtual 91, 3) := dk_182 0 91 (dk_at dksX1_growthOf_0 2 rfl rfl)
theorem dX1_growthOf_5 : decode cX1_growthOf 5 = .ok (.aload_n 0, 1) := dk_42 (dk_at dksX1_growthOf_0 5 rfl rfl)
theorem dX1_growthOf_6 : decode cX1_growthOf 6 = .ok (.getfield 27, 3) := dk_180 0 27 (dk_at dksX1_growthOf_0 6 rfl rfl)
theorem dX1_growthOf_9 : decode cX1_growthOf 9 = .ok (.getfield 279, 3) := dk_180 1 23 (dk_at dksX1_growthOf_0 9 rfl rfl)
theorem dX1_growthOf_12 : decode cX1_growthOf 12 = .ok (.iload_n 1, 1) := dk_27 (dk_at dksX1_growthOf_0 12 rfl rfl)
theorem dX1_growthOf_13 : decode cX1_growthOf 13 = .ok (.iaload, 1) := dk_46 (dk_at dksX1_growthOf_0 13 rfl rfl)
theorem dX1_growthOf_14 : decode cX1_growthOf 14 = .ok (.ireturn, 1) := dk_172 (dk_at dksX1_growthOf_0 14 rfl rfl)
abbrev cX1_heatOf : ByteArray := prog_1_method_39_code
def yX1_heatOf : MethodName := ⟨RX1, "heatOf", "(I)I"⟩
def dkwX1_heatOf_0 : List UInt8 := [42, 27, 182, 0, 91, 42, 180, 0, 27, 180, 1, 26, 27, 46, 172]
abbrev dktX1_heatOf_0 : List UInt8 := dkwX1_heatOf_0 ++ []
theorem dksX1_heatOf_0 : cX1_heatOf.data.toList.drop 0 = dktX1_heatOf_0 := by decide +kernel
theorem dX1_heatOf_0 : decode cX1_heatOf 0 = .ok (.aload_n 0, 1) := dk_42 (dk_at dksX1_heatOf_0 0 rfl rfl)
theorem dX1_heatOf_1 : decode cX1_heatOf 1 = .ok (.iload_n 1, 1) := dk_27 (dk_at dksX1_heatOf_0 1 rfl rfl)
theorem dX1_heatOf_2 : decode cX1_heatOf 2 = .ok (.invokevirtual 91, 3) := dk_182 0 91 (dk_at dksX1_heatOf_0 2 rfl rfl)
theorem dX1_heatOf_5 : decode cX1_heatOf 5 = .ok (.aload_n 0, 1) := dk_42 (dk_at dksX1_heatOf_0 5 rfl rfl)
theorem dX1_heatOf_6 : decode cX1_heatOf 6 = .ok (.getfield 27, 3) := dk_180 0 27 (dk_at dksX1_heatOf_0 6 rfl rfl)
theorem dX1_heatOf_9 : decode cX1_heatOf 9 = .ok (.getfield 282, 3) := dk_180 1 26 (dk_at dksX1_heatOf_0 9 rfl rfl)
theorem dX1_heatOf_12 : decode cX1_heatOf 12 = .ok (.iload_n 1, 1) := dk_27 (dk_at dksX1_heatOf_0 12 rfl rfl)
theorem dX1_heatOf_13 : decode cX1_heatOf 13 = .ok (.iaload, 1) := dk_46 (dk_at dksX1_heatOf_0 13 rfl rfl)
theorem dX1_heatOf_14 : decode cX1_heatOf 14 = .ok (.ireturn, 1) := dk_172 (dk_at dksX1_heatOf_0 14 rfl rfl)
abbrev cX1_feltOf : ByteArray := prog_1_method_40_code
def yX1_feltOf : MethodName := ⟨RX1, "feltOf", "(I)I"⟩
def dkwX1_feltOf_0 : List UInt8 := [42, 27, 182, 0, 91, 42, 180, 0, 27, 180, 1, 29, 27, 46, 172]
abbrev dktX1_feltOf_0 : List UInt8 := dkwX1_feltOf_0 ++ []
theorem dksX1_feltOf_0 : cX1_feltOf.data.toList.drop 0 = dktX1_feltOf_0 := by decide +kernel
theorem dX1_feltOf_0 : decode cX1_feltOf 0 = .ok (.aload_n 0, 1) := dk_42 (dk_at dksX1_feltOf_0 0 rfl rfl)
theorem dX1_feltOf_1 : decode cX1_feltOf 1 = .ok (.iload_n 1, 1) := dk_27 (dk_at dksX1_feltOf_0 1 rfl rfl)
theorem dX1_feltOf_2 : decode cX1_feltOf 2 = .ok (.invokevirtual 91, 3) := dk_182 0 91 (dk_at dksX1_feltOf_0 2 rfl rfl)
theorem dX1_feltOf_5 : decode cX1_feltOf 5 = .ok (.aload_n 0, 1) := dk_42 (dk_at dksX1_feltOf_0 5 rfl rfl)
theorem dX1_feltOf_6 : decode cX1_feltOf 6 = .ok (.getfield 27, 3) := dk_180 0 27 (dk_at dksX1_feltOf_0 6 rfl rfl)
theorem dX1_feltOf_9 : decode cX1_feltOf 9 = .ok (.getfield 285, 3) := dk_180 1 29 (dk_at dksX1_feltOf_0 9 rfl rfl)
theorem dX1_feltOf_12 : decode cX1_feltOf 12 = .ok (.iload_n 1, 1) := dk_27 (dk_at dksX1_feltOf_0 12 rfl rfl)
theorem dX1_feltOf_13 : decode cX1_feltOf 13 = .ok (.iaload, 1) := dk_46 (dk_at dksX1_feltOf_0 13 rfl rfl)
theorem dX1_feltOf_14 : decode cX1_feltOf 14 = .ok (.ireturn, 1) := dk_172 (dk_at dksX1_feltOf_0 14 rfl rfl)
abbrev cX1_isGlassy : ByteArray := prog_1_method_41_code
def yX1_isGlassy : MethodName := ⟨RX1, "isGlassy", "(I)Z"⟩
def dkwX1_isGlassy_1 : List UInt8 := [3, 172]
abbrev dktX1_isGlassy_1 : List UInt8 := dkwX1_isGlassy_1 ++ []
def dkwX1_isGlassy_0 : List UInt8 := [42, 27, 182, 0, 91, 42, 180, 0, 27, 180, 1, 32, 27, 122, 4, 126, 4, 160, 0, 7, 4, 167, 0, 4]
abbrev dktX1_isGlassy_0 : List UInt8 := dkwX1_isGlassy_0 ++ dktX1_isGlassy_1
theorem dksX1_isGlassy_0 : cX1_isGlassy.data.toList.drop 0 = dktX1_isGlassy_0 := by decide +kernel
theorem dksX1_isGlassy_1 : cX1_isGlassy.data.toList.drop 24 = dktX1_isGlassy_1 := dk_seg dksX1_isGlassy_0 24 rfl rfl
theorem dX1_isGlassy_0 : decode cX1_isGlassy 0 = .ok (.aload_n 0, 1) := dk_42 (dk_at dksX1_isGlassy_0 0 rfl rfl)
theorem dX1_isGlassy_1 : decode cX1_isGlassy 1 = .ok (.iload_n 1, 1) := dk_27 (dk_at dksX1_isGlassy_0 1 rfl rfl)
theorem dX1_isGlassy_2 : decode cX1_isGlassy 2 = .ok (.invokevirtual 91, 3) := dk_182 0 91 (dk_at dksX1_isGlassy_0 2 rfl rfl)
theorem dX1_isGlassy_5 : decode cX1_isGlassy 5 = .ok (.aload_n 0, 1) := dk_42 (dk_at dksX1_isGlassy_0 5 rfl rfl)
theorem dX1_isGlassy_6 : decode cX1_isGlassy 6 = .ok (.getfield 27, 3) := dk_180 0 27 (dk_at dksX1_isGlassy_0 6 rfl rfl)
theorem dX1_isGlassy_9 : decode cX1_isGlassy 9 = .ok (.getfield 288, 3) := dk_180 1 32 (dk_at dksX1_isGlassy_0 9 rfl rfl)
theorem dX1_isGlassy_12 : decode cX1_isGlassy 12 = .ok (.iload_n 1, 1) := dk_27 (dk_at dksX1_isGlassy_0 12 rfl rfl)
theorem dX1_isGlassy_13 : decode cX1_isGlassy 13 = .ok (.ishr, 1) := dk_122 (dk_at dksX1_isGlassy_0 13 rfl rfl)
theorem dX1_isGlassy_14 : decode cX1_isGlassy 14 = .ok (.iconst 1, 1) := dk_4 (dk_at dksX1_isGlassy_0 14 rfl rfl)
theorem dX1_isGlassy_15 : decode cX1_isGlassy 15 = .ok (.iand, 1) := dk_126 (dk_at dksX1_isGlassy_0 15 rfl rfl)
theorem dX1_isGlassy_16 : decode cX1_isGlassy 16 = .ok (.iconst 1, 1) := dk_4 (dk_at dksX1_isGlassy_0 16 rfl rfl)
theorem dX1_isGlassy_17 : decode cX1_isGlassy 17 = .ok (.if_icmp .ne 7, 3) := dk_160 0 7 (dk_at dksX1_isGlassy_0 17 rfl rfl)
theorem dX1_isGlassy_20 : decode cX1_isGlassy 20 = .ok (.iconst 1, 1) := dk_4 (dk_at dksX1_isGlassy_0 20 rfl rfl)
theorem dX1_isGlassy_21 : decode cX1_isGlassy 21 = .ok (.goto 4, 3) := dk_167 0 4 (dk_at dksX1_isGlassy_0 21 rfl rfl)
theorem dX1_isGlassy_24 : decode cX1_isGlassy 24 = .ok (.iconst 0, 1) := dk_3 (dk_at dksX1_isGlassy_1 0 rfl rfl)
theorem dX1_isGlassy_25 : decode cX1_isGlassy 25 = .ok (.ireturn, 1) := dk_172 (dk_at dksX1_isGlassy_1 1 rfl rfl)
abbrev cX1_paceOf : ByteArray := prog_1_method_42_code
def yX1_paceOf : MethodName := ⟨RX1, "paceOf", "(I)I"⟩
def dkwX1_paceOf_0 : List UInt8 := [42, 27, 182, 0, 91, 42, 180, 0, 27, 27, 182, 1, 35, 172]
abbrev dktX1_paceOf_0 : List UInt8 := dkwX1_paceOf_0 ++ []
theorem dksX1_paceOf_0 : cX1_paceOf.data.toList.drop 0 = dktX1_paceOf_0 := by decide +kernel
theorem dX1_paceOf_0 : decode cX1_paceOf 0 = .ok (.aload_n 0, 1) := dk_42 (dk_at dksX1_paceOf_0 0 rfl rfl)
theorem dX1_paceOf_1 : decode cX1_paceOf 1 = .ok (.iload_n 1, 1) := dk_27 (dk_at dksX1_paceOf_0 1 rfl rfl)
theorem dX1_paceOf_2 : decode cX1_paceOf 2 = .ok (.invokevirtual 91, 3) := dk_182 0 91 (dk_at dksX1_paceOf_0 2 rfl rfl)
theorem dX1_paceOf_5 : decode cX1_paceOf 5 = .ok (.aload_n 0, 1) := dk_42 (dk_at dksX1_paceOf_0 5 rfl rfl)
theorem dX1_paceOf_6 : decode cX1_paceOf 6 = .ok (.getfield 27, 3) := dk_180 0 27 (dk_at dksX1_paceOf_0 6 rfl rfl)
theorem dX1_paceOf_9 : decode cX1_paceOf 9 = .ok (.iload_n 1, 1) := dk_27 (dk_at dksX1_paceOf_0 9 rfl rfl)
theorem dX1_paceOf_10 : decode cX1_paceOf 10 = .ok (.invokevirtual 291, 3) := dk_182 1 35 (dk_at dksX1_paceOf_0 10 rfl rfl)
theorem dX1_paceOf_13 : decode cX1_paceOf 13 = .ok (.ireturn, 1) := dk_172 (dk_at dksX1_paceOf_0 13 rfl rfl)
abbrev cX1_lotsIn : ByteArray := prog_1_method_43_code
def yX1_lotsIn : MethodName := ⟨RX1, "lotsIn", "(I)I"⟩
def dkwX1_lotsIn_0 : List UInt8 := [27, 3, 16, 6, 184, 0, 70, 184, 0, 74, 42, 180, 0, 27, 27, 182, 1, 38, 172]
abbrev dktX1_lotsIn_0 : List UInt8 := dkwX1_lotsIn_0 ++ []
theorem dksX1_lotsIn_0 : cX1_lotsIn.data.toList.drop 0 = dktX1_lotsIn_0 := by decide +kernel
theorem dX1_lotsIn_0 : decode cX1_lotsIn 0 = .ok (.iload_n 1, 1) := dk_27 (dk_at dksX1_lotsIn_0 0 rfl rfl)
theorem dX1_lotsIn_1 : decode cX1_lotsIn 1 = .ok (.iconst 0, 1) := dk_3 (dk_at dksX1_lotsIn_0 1 rfl rfl)
theorem dX1_lotsIn_2 : decode cX1_lotsIn 2 = .ok (.bipush 6, 2) := dk_16 6 (dk_at dksX1_lotsIn_0 2 rfl rfl)
theorem dX1_lotsIn_4 : decode cX1_lotsIn 4 = .ok (.invokestatic 70, 3) := dk_184 0 70 (dk_at dksX1_lotsIn_0 4 rfl rfl)
theorem dX1_lotsIn_7 : decode cX1_lotsIn 7 = .ok (.invokestatic 74, 3) := dk_184 0 74 (dk_at dksX1_lotsIn_0 7 rfl rfl)
theorem dX1_lotsIn_10 : decode cX1_lotsIn 10 = .ok (.aload_n 0, 1) := dk_42 (dk_at dksX1_lotsIn_0 10 rfl rfl)
theorem dX1_lotsIn_11 : decode cX1_lotsIn 11 = .ok (.getfield 27, 3) := dk_180 0 27 (dk_at dksX1_lotsIn_0 11 rfl rfl)
theorem dX1_lotsIn_14 : decode cX1_lotsIn 14 = .ok (.iload_n 1, 1) := dk_27 (dk_at dksX1_lotsIn_0 14 rfl rfl)
theorem dX1_lotsIn_15 : decode cX1_lotsIn 15 = .ok (.invokevirtual 294, 3) := dk_182 1 38 (dk_at dksX1_lotsIn_0 15 rfl rfl)
theorem dX1_lotsIn_18 : decode cX1_lotsIn 18 = .ok (.ireturn, 1) := dk_172 (dk_at dksX1_lotsIn_0 18 rfl rfl)
abbrev cX1_ripest : ByteArray := prog_1_method_45_code
def yX1_ripest : MethodName := ⟨RX1, "ripest", "(I)I"⟩
def dkwX1_ripest_4 : List UInt8 := [21, 4, 27, 160, 0, 7, 29, 167, 0, 4, 28, 61, 132, 3, 1, 167, 255, 163, 28, 172]
abbrev dktX1_ripest_4 : List UInt8 := dkwX1_ripest_4 ++ []
def dkwX1_ripest_3 : List UInt8 := [167, 0, 4, 3, 96, 54, 4, 132, 5, 1, 167, 255, 209, 42, 180, 0, 27, 29, 182, 1, 41, 153, 0, 13]
abbrev dktX1_ripest_3 : List UInt8 := dkwX1_ripest_3 ++ dktX1_ripest_4
def dkwX1_ripest_2 : List UInt8 := [180, 0, 27, 21, 5, 182, 1, 41, 153, 0, 17, 42, 21, 5, 29, 182, 1, 44, 153, 0, 7, 4]
abbrev dktX1_ripest_2 : List UInt8 := dkwX1_ripest_2 ++ dktX1_ripest_3
def dkwX1_ripest_1 : List UInt8 := [162, 0, 88, 3, 54, 4, 3, 54, 5, 21, 5, 42, 180, 0, 27, 180, 0, 77, 162, 0, 41, 21, 4, 42]
abbrev dktX1_ripest_1 : List UInt8 := dkwX1_ripest_1 ++ dktX1_ripest_2
def dkwX1_ripest_0 : List UInt8 := [27, 155, 0, 7, 4, 167, 0, 4, 3, 184, 0, 74, 2, 61, 3, 62, 29, 42, 180, 0, 27, 180, 0, 77]
abbrev dktX1_ripest_0 : List UInt8 := dkwX1_ripest_0 ++ dktX1_ripest_1
theorem dksX1_ripest_0 : cX1_ripest.data.toList.drop 0 = dktX1_ripest_0 := by decide +kernel
theorem dksX1_ripest_1 : cX1_ripest.data.toList.drop 24 = dktX1_ripest_1 := dk_seg dksX1_ripest_0 24 rfl rfl
theorem dksX1_ripest_2 : cX1_ripest.data.toList.drop 48 = dktX1_ripest_2 := dk_seg dksX1_ripest_1 24 rfl rfl
theorem dksX1_ripest_3 : cX1_ripest.data.toList.drop 70 = dktX1_ripest_3 := dk_seg dksX1_ripest_2 22 rfl rfl
theorem dksX1_ripest_4 : cX1_ripest.data.toList.drop 94 = dktX1_ripest_4 := dk_seg dksX1_ripest_3 24 rfl rfl
theorem dX1_ripest_0 : decode cX1_ripest 0 = .ok (.iload_n 1, 1) := dk_27 (dk_at dksX1_ripest_0 0 rfl rfl)
theorem dX1_ripest_1 : decode cX1_ripest 1 = .ok (.ifCond .lt 7, 3) := dk_155 0 7 (dk_at dksX1_ripest_0 1 rfl rfl)
theorem dX1_ripest_4 : decode cX1_ripest 4 = .ok (.iconst 1, 1) := dk_4 (dk_at dksX1_ripest_0 4 rfl rfl)
theorem dX1_ripest_5 : decode cX1_ripest 5 = .ok (.goto 4, 3) := dk_167 0 4 (dk_at dksX1_ripest_0 5 rfl rfl)
theorem dX1_ripest_8 : decode cX1_ripest 8 = .ok (.iconst 0, 1) := dk_3 (dk_at dksX1_ripest_0 8 rfl rfl)
theorem dX1_ripest_9 : decode cX1_ripest 9 = .ok (.invokestatic 74, 3) := dk_184 0 74 (dk_at dksX1_ripest_0 9 rfl rfl)
theorem dX1_ripest_12 : decode cX1_ripest 12 = .ok (.iconst (-1), 1) := dk_2 (dk_at dksX1_ripest_0 12 rfl rfl)
theorem dX1_ripest_13 : decode cX1_ripest 13 = .ok (.istore_n 2, 1) := dk_61 (dk_at dksX1_ripest_0 13 rfl rfl)
theorem dX1_ripest_14 : decode cX1_ripest 14 = .ok (.iconst 0, 1) := dk_3 (dk_at dksX1_ripest_0 14 rfl rfl)
theorem dX1_ripest_15 : decode cX1_ripest 15 = .ok (.istore_n 3, 1) := dk_62 (dk_at dksX1_ripest_0 15 rfl rfl)
theorem dX1_ripest_16 : decode cX1_ripest 16 = .ok (.iload_n 3, 1) := dk_29 (dk_at dksX1_ripest_0 16 rfl rfl)
theorem dX1_ripest_17 : decode cX1_ripest 17 = .ok (.aload_n 0, 1) := dk_42 (dk_at dksX1_ripest_0 17 rfl rfl)
theorem dX1_ripest_18 : decode cX1_ripest 18 = .ok (.getfield 27, 3) := dk_180 0 27 (dk_at dksX1_ripest_0 18 rfl rfl)
theorem dX1_ripest_21 : decode cX1_ripest 21 = .ok (.getfield 77, 3) := dk_180 0 77 (dk_at dksX1_ripest_0 21 rfl rfl)
theorem dX1_ripest_24 : decode cX1_ripest 24 = .ok (.if_icmp .ge 88, 3) := dk_162 0 88 (dk_at dksX1_ripest_1 0 rfl rfl)
theorem dX1_ripest_27 : decode cX1_ripest 27 = .ok (.iconst 0, 1) := dk_3 (dk_at dksX1_ripest_1 3 rfl rfl)
theorem dX1_ripest_28 : decode cX1_ripest 28 = .ok (.istore 4, 2) := dk_54 4 (dk_at dksX1_ripest_1 4 rfl rfl)
theorem dX1_ripest_30 : decode cX1_ripest 30 = .ok (.iconst 0, 1) := dk_3 (dk_at dksX1_ripest_1 6 rfl rfl)
theorem dX1_ripest_31 : decode cX1_ripest 31 = .ok (.istore 5, 2) := dk_54 5 (dk_at dksX1_ripest_1 7 rfl rfl)
theorem dX1_ripest_33 : decode cX1_ripest 33 = .ok (.iload 5, 2) := dk_21 5 (dk_at dksX1_ripest_1 9 rfl rfl)
theorem dX1_ripest_35 : decode cX1_ripest 35 = .ok (.aload_n 0, 1) := dk_42 (dk_at dksX1_ripest_1 11 rfl rfl)
theorem dX1_ripest_36 : decode cX1_ripest 36 = .ok (.getfield 27, 3) := dk_180 0 27 (dk_at dksX1_ripest_1 12 rfl rfl)
theorem dX1_ripest_39 : decode cX1_ripest 39 = .ok (.getfield 77, 3) := dk_180 0 77 (dk_at dksX1_ripest_1 15 rfl rfl)
theorem dX1_ripest_42 : decode cX1_ripest 42 = .ok (.if_icmp .ge 41, 3) := dk_162 0 41 (dk_at dksX1_ripest_1 18 rfl rfl)
theorem dX1_ripest_45 : decode cX1_ripest 45 = .ok (.iload 4, 2) := dk_21 4 (dk_at dksX1_ripest_1 21 rfl rfl)
theorem dX1_ripest_47 : decode cX1_ripest 47 = .ok (.aload_n 0, 1) := dk_42 (dk_at dksX1_ripest_1 23 rfl rfl)
theorem dX1_ripest_48 : decode cX1_ripest 48 = .ok (.getfield 27, 3) := dk_180 0 27 (dk_at dksX1_ripest_2 0 rfl rfl)
theorem dX1_ripest_51 : decode cX1_ripest 51 = .ok (.iload 5, 2) := dk_21 5 (dk_at dksX1_ripest_2 3 rfl rfl)
theorem dX1_ripest_53 : decode cX1_ripest 53 = .ok (.invokevirtual 297, 3) := dk_182 1 41 (dk_at dksX1_ripest_2 5 rfl rfl)
theorem dX1_ripest_56 : decode cX1_ripest 56 = .ok (.ifCond .eq 17, 3) := dk_153 0 17 (dk_at dksX1_ripest_2 8 rfl rfl)
theorem dX1_ripest_59 : decode cX1_ripest 59 = .ok (.aload_n 0, 1) := dk_42 (dk_at dksX1_ripest_2 11 rfl rfl)
theorem dX1_ripest_60 : decode cX1_ripest 60 = .ok (.iload 5, 2) := dk_21 5 (dk_at dksX1_ripest_2 12 rfl rfl)
theorem dX1_ripest_62 : decode cX1_ripest 62 = .ok (.iload_n 3, 1) := dk_29 (dk_at dksX1_ripest_2 14 rfl rfl)
theorem dX1_ripest_63 : decode cX1_ripest 63 = .ok (.invokevirtual 300, 3) := dk_182 1 44 (dk_at dksX1_ripest_2 15 rfl rfl)
theorem dX1_ripest_66 : decode cX1_ripest 66 = .ok (.ifCond .eq 7, 3) := dk_153 0 7 (dk_at dksX1_ripest_2 18 rfl rfl)
theorem dX1_ripest_69 : decode cX1_ripest 69 = .ok (.iconst 1, 1) := dk_4 (dk_at dksX1_ripest_2 21 rfl rfl)
theorem dX1_ripest_70 : decode cX1_ripest 70 = .ok (.goto 4, 3) := dk_167 0 4 (dk_at dksX1_ripest_3 0 rfl rfl)
theorem dX1_ripest_73 : decode cX1_ripest 73 = .ok (.iconst 0, 1) := dk_3 (dk_at dksX1_ripest_3 3 rfl rfl)
theorem dX1_ripest_74 : decode cX1_ripest 74 = .ok (.iadd, 1) := dk_96 (dk_at dksX1_ripest_3 4 rfl rfl)
theorem dX1_ripest_75 : decode cX1_ripest 75 = .ok (.istore 4, 2) := dk_54 4 (dk_at dksX1_ripest_3 5 rfl rfl)
theorem dX1_ripest_77 : decode cX1_ripest 77 = .ok (.iinc 5 1, 3) := dk_132 5 1 (dk_at dksX1_ripest_3 7 rfl rfl)
theorem dX1_ripest_80 : decode cX1_ripest 80 = .ok (.goto (-47), 3) := dk_167 255 209 (dk_at dksX1_ripest_3 10 rfl rfl)
theorem dX1_ripest_83 : decode cX1_ripest 83 = .ok (.aload_n 0, 1) := dk_42 (dk_at dksX1_ripest_3 13 rfl rfl)
theorem dX1_ripest_84 : decode cX1_ripest 84 = .ok (.getfield 27, 3) := dk_180 0 27 (dk_at dksX1_ripest_3 14 rfl rfl)
theorem dX1_ripest_87 : decode cX1_ripest 87 = .ok (.iload_n 3, 1) := dk_29 (dk_at dksX1_ripest_3 17 rfl rfl)
theorem dX1_ripest_88 : decode cX1_ripest 88 = .ok (.invokevirtual 297, 3) := dk_182 1 41 (dk_at dksX1_ripest_3 18 rfl rfl)
theorem dX1_ripest_91 : decode cX1_ripest 91 = .ok (.ifCond .eq 13, 3) := dk_153 0 13 (dk_at dksX1_ripest_3 21 rfl rfl)
theorem dX1_ripest_94 : decode cX1_ripest 94 = .ok (.iload 4, 2) := dk_21 4 (dk_at dksX1_ripest_4 0 rfl rfl)
theorem dX1_ripest_96 : decode cX1_ripest 96 = .ok (.iload_n 1, 1) := dk_27 (dk_at dksX1_ripest_4 2 rfl rfl)
theorem dX1_ripest_97 : decode cX1_ripest 97 = .ok (.if_icmp .ne 7, 3) := dk_160 0 7 (dk_at dksX1_ripest_4 3 rfl rfl)
theorem dX1_ripest_100 : decode cX1_ripest 100 = .ok (.iload_n 3, 1) := dk_29 (dk_at dksX1_ripest_4 6 rfl rfl)
theorem dX1_ripest_101 : decode cX1_ripest 101 = .ok (.goto 4, 3) := dk_167 0 4 (dk_at dksX1_ripest_4 7 rfl rfl)
theorem dX1_ripest_104 : decode cX1_ripest 104 = .ok (.iload_n 2, 1) := dk_28 (dk_at dksX1_ripest_4 10 rfl rfl)
theorem dX1_ripest_105 : decode cX1_ripest 105 = .ok (.istore_n 2, 1) := dk_61 (dk_at dksX1_ripest_4 11 rfl rfl)
theorem dX1_ripest_106 : decode cX1_ripest 106 = .ok (.iinc 3 1, 3) := dk_132 3 1 (dk_at dksX1_ripest_4 12 rfl rfl)
theorem dX1_ripest_109 : decode cX1_ripest 109 = .ok (.goto (-93), 3) := dk_167 255 163 (dk_at dksX1_ripest_4 15 rfl rfl)
theorem dX1_ripest_112 : decode cX1_ripest 112 = .ok (.iload_n 2, 1) := dk_28 (dk_at dksX1_ripest_4 18 rfl rfl)
theorem dX1_ripest_113 : decode cX1_ripest 113 = .ok (.ireturn, 1) := dk_172 (dk_at dksX1_ripest_4 19 rfl rfl)
abbrev cX1_isRiper : ByteArray := prog_1_method_44_code
def yX1_isRiper : MethodName := ⟨RX1, "isRiper", "(II)Z"⟩
def dkwX1_isRiper_2 : List UInt8 := [29, 157, 0, 12, 29, 154, 0, 12, 27, 28, 162, 0, 7, 4, 167, 0, 4, 3, 172]
abbrev dktX1_isRiper_2 : List UInt8 := dkwX1_isRiper_2 ++ []
def dkwX1_isRiper_1 : List UInt8 := [29, 167, 0, 22, 42, 180, 0, 27, 180, 1, 26, 27, 46, 42, 180, 0, 27, 180, 1, 26, 28, 46, 100, 62]
abbrev dktX1_isRiper_1 : List UInt8 := dkwX1_isRiper_1 ++ dktX1_isRiper_2
def dkwX1_isRiper_0 : List UInt8 := [42, 180, 0, 27, 180, 1, 23, 27, 46, 42, 180, 0, 27, 180, 1, 23, 28, 46, 100, 62, 29, 153, 0, 7]
abbrev dktX1_isRiper_0 : List UInt8 := dkwX1_isRiper_0 ++ dktX1_isRiper_1
theorem dksX1_isRiper_0 : cX1_isRiper.data.toList.drop 0 = dktX1_isRiper_0 := by decide +kernel
theorem dksX1_isRiper_1 : cX1_isRiper.data.toList.drop 24 = dktX1_isRiper_1 := dk_seg dksX1_isRiper_0 24 rfl rfl
theorem dksX1_isRiper_2 : cX1_isRiper.data.toList.drop 48 = dktX1_isRiper_2 := dk_seg dksX1_isRiper_1 24 rfl rfl
theorem dX1_isRiper_0 : decode cX1_isRiper 0 = .ok (.aload_n 0, 1) := dk_42 (dk_at dksX1_isRiper_0 0 rfl rfl)
theorem dX1_isRiper_1 : decode cX1_isRiper 1 = .ok (.getfield 27, 3) := dk_180 0 27 (dk_at dksX1_isRiper_0 1 rfl rfl)
theorem dX1_isRiper_4 : decode cX1_isRiper 4 = .ok (.getfield 279, 3) := dk_180 1 23 (dk_at dksX1_isRiper_0 4 rfl rfl)
theorem dX1_isRiper_7 : decode cX1_isRiper 7 = .ok (.iload_n 1, 1) := dk_27 (dk_at dksX1_isRiper_0 7 rfl rfl)
theorem dX1_isRiper_8 : decode cX1_isRiper 8 = .ok (.iaload, 1) := dk_46 (dk_at dksX1_isRiper_0 8 rfl rfl)
theorem dX1_isRiper_9 : decode cX1_isRiper 9 = .ok (.aload_n 0, 1) := dk_42 (dk_at dksX1_isRiper_0 9 rfl rfl)
theorem dX1_isRiper_10 : decode cX1_isRiper 10 = .ok (.getfield 27, 3) := dk_180 0 27 (dk_at dksX1_isRiper_0 10 rfl rfl)
theorem dX1_isRiper_13 : decode cX1_isRiper 13 = .ok (.getfield 279, 3) := dk_180 1 23 (dk_at dksX1_isRiper_0 13 rfl rfl)
theorem dX1_isRiper_16 : decode cX1_isRiper 16 = .ok (.iload_n 2, 1) := dk_28 (dk_at dksX1_isRiper_0 16 rfl rfl)
theorem dX1_isRiper_17 : decode cX1_isRiper 17 = .ok (.iaload, 1) := dk_46 (dk_at dksX1_isRiper_0 17 rfl rfl)
theorem dX1_isRiper_18 : decode cX1_isRiper 18 = .ok (.isub, 1) := dk_100 (dk_at dksX1_isRiper_0 18 rfl rfl)
theorem dX1_isRiper_19 : decode cX1_isRiper 19 = .ok (.istore_n 3, 1) := dk_62 (dk_at dksX1_isRiper_0 19 rfl rfl)
theorem dX1_isRiper_20 : decode cX1_isRiper 20 = .ok (.iload_n 3, 1) := dk_29 (dk_at dksX1_isRiper_0 20 rfl rfl)
theorem dX1_isRiper_21 : decode cX1_isRiper 21 = .ok (.ifCond .eq 7, 3) := dk_153 0 7 (dk_at dksX1_isRiper_0 21 rfl rfl)
theorem dX1_isRiper_24 : decode cX1_isRiper 24 = .ok (.iload_n 3, 1) := dk_29 (dk_at dksX1_isRiper_1 0 rfl rfl)
theorem dX1_isRiper_25 : decode cX1_isRiper 25 = .ok (.goto 22, 3) := dk_167 0 22 (dk_at dksX1_isRiper_1 1 rfl rfl)
theorem dX1_isRiper_28 : decode cX1_isRiper 28 = .ok (.aload_n 0, 1) := dk_42 (dk_at dksX1_isRiper_1 4 rfl rfl)
theorem dX1_isRiper_29 : decode cX1_isRiper 29 = .ok (.getfield 27, 3) := dk_180 0 27 (dk_at dksX1_isRiper_1 5 rfl rfl)
theorem dX1_isRiper_32 : decode cX1_isRiper 32 = .ok (.getfield 282, 3) := dk_180 1 26 (dk_at dksX1_isRiper_1 8 rfl rfl)
theorem dX1_isRiper_35 : decode cX1_isRiper 35 = .ok (.iload_n 1, 1) := dk_27 (dk_at dksX1_isRiper_1 11 rfl rfl)
theorem dX1_isRiper_36 : decode cX1_isRiper 36 = .ok (.iaload, 1) := dk_46 (dk_at dksX1_isRiper_1 12 rfl rfl)
theorem dX1_isRiper_37 : decode cX1_isRiper 37 = .ok (.aload_n 0, 1) := dk_42 (dk_at dksX1_isRiper_1 13 rfl rfl)
theorem dX1_isRiper_38 : decode cX1_isRiper 38 = .ok (.getfield 27, 3) := dk_180 0 27 (dk_at dksX1_isRiper_1 14 rfl rfl)
theorem dX1_isRiper_41 : decode cX1_isRiper 41 = .ok (.getfield 282, 3) := dk_180 1 26 (dk_at dksX1_isRiper_1 17 rfl rfl)
theorem dX1_isRiper_44 : decode cX1_isRiper 44 = .ok (.iload_n 2, 1) := dk_28 (dk_at dksX1_isRiper_1 20 rfl rfl)
theorem dX1_isRiper_45 : decode cX1_isRiper 45 = .ok (.iaload, 1) := dk_46 (dk_at dksX1_isRiper_1 21 rfl rfl)
theorem dX1_isRiper_46 : decode cX1_isRiper 46 = .ok (.isub, 1) := dk_100 (dk_at dksX1_isRiper_1 22 rfl rfl)
theorem dX1_isRiper_47 : decode cX1_isRiper 47 = .ok (.istore_n 3, 1) := dk_62 (dk_at dksX1_isRiper_1 23 rfl rfl)
theorem dX1_isRiper_48 : decode cX1_isRiper 48 = .ok (.iload_n 3, 1) := dk_29 (dk_at dksX1_isRiper_2 0 rfl rfl)
theorem dX1_isRiper_49 : decode cX1_isRiper 49 = .ok (.ifCond .gt 12, 3) := dk_157 0 12 (dk_at dksX1_isRiper_2 1 rfl rfl)
theorem dX1_isRiper_52 : decode cX1_isRiper 52 = .ok (.iload_n 3, 1) := dk_29 (dk_at dksX1_isRiper_2 4 rfl rfl)
theorem dX1_isRiper_53 : decode cX1_isRiper 53 = .ok (.ifCond .ne 12, 3) := dk_154 0 12 (dk_at dksX1_isRiper_2 5 rfl rfl)
theorem dX1_isRiper_56 : decode cX1_isRiper 56 = .ok (.iload_n 1, 1) := dk_27 (dk_at dksX1_isRiper_2 8 rfl rfl)
theorem dX1_isRiper_57 : decode cX1_isRiper 57 = .ok (.iload_n 2, 1) := dk_28 (dk_at dksX1_isRiper_2 9 rfl rfl)
theorem dX1_isRiper_58 : decode cX1_isRiper 58 = .ok (.if_icmp .ge 7, 3) := dk_162 0 7 (dk_at dksX1_isRiper_2 10 rfl rfl)
theorem dX1_isRiper_61 : decode cX1_isRiper 61 = .ok (.iconst 1, 1) := dk_4 (dk_at dksX1_isRiper_2 13 rfl rfl)
theorem dX1_isRiper_62 : decode cX1_isRiper 62 = .ok (.goto 4, 3) := dk_167 0 4 (dk_at dksX1_isRiper_2 14 rfl rfl)
theorem dX1_isRiper_65 : decode cX1_isRiper 65 = .ok (.iconst 0, 1) := dk_3 (dk_at dksX1_isRiper_2 17 rfl rfl)
theorem dX1_isRiper_66 : decode cX1_isRiper 66 = .ok (.ireturn, 1) := dk_172 (dk_at dksX1_isRiper_2 18 rfl rfl)
abbrev cX1_lotIn : ByteArray := prog_1_method_46_code
def yX1_lotIn : MethodName := ⟨RX1, "lotIn", "(I)I"⟩
def dkwX1_lotIn_0 : List UInt8 := [27, 184, 0, 101, 184, 0, 66, 42, 180, 0, 27, 180, 0, 139, 27, 50, 180, 1, 48, 172]
abbrev dktX1_lotIn_0 : List UInt8 := dkwX1_lotIn_0 ++ []
theorem dksX1_lotIn_0 : cX1_lotIn.data.toList.drop 0 = dktX1_lotIn_0 := by decide +kernel
theorem dX1_lotIn_0 : decode cX1_lotIn 0 = .ok (.iload_n 1, 1) := dk_27 (dk_at dksX1_lotIn_0 0 rfl rfl)
theorem dX1_lotIn_1 : decode cX1_lotIn 1 = .ok (.invokestatic 101, 3) := dk_184 0 101 (dk_at dksX1_lotIn_0 1 rfl rfl)
theorem dX1_lotIn_4 : decode cX1_lotIn 4 = .ok (.invokestatic 66, 3) := dk_184 0 66 (dk_at dksX1_lotIn_0 4 rfl rfl)
theorem dX1_lotIn_7 : decode cX1_lotIn 7 = .ok (.aload_n 0, 1) := dk_42 (dk_at dksX1_lotIn_0 7 rfl rfl)
theorem dX1_lotIn_8 : decode cX1_lotIn 8 = .ok (.getfield 27, 3) := dk_180 0 27 (dk_at dksX1_lotIn_0 8 rfl rfl)
theorem dX1_lotIn_11 : decode cX1_lotIn 11 = .ok (.getfield 139, 3) := dk_180 0 139 (dk_at dksX1_lotIn_0 11 rfl rfl)
theorem dX1_lotIn_14 : decode cX1_lotIn 14 = .ok (.iload_n 1, 1) := dk_27 (dk_at dksX1_lotIn_0 14 rfl rfl)
theorem dX1_lotIn_15 : decode cX1_lotIn 15 = .ok (.aaload, 1) := dk_50 (dk_at dksX1_lotIn_0 15 rfl rfl)
theorem dX1_lotIn_16 : decode cX1_lotIn 16 = .ok (.getfield 304, 3) := dk_180 1 48 (dk_at dksX1_lotIn_0 16 rfl rfl)
theorem dX1_lotIn_19 : decode cX1_lotIn 19 = .ok (.ireturn, 1) := dk_172 (dk_at dksX1_lotIn_0 19 rfl rfl)
abbrev cX1_settingsOf : ByteArray := prog_1_method_47_code
def yX1_settingsOf : MethodName := ⟨RX1, "settingsOf", "(I)I"⟩
def dkwX1_settingsOf_1 : List UInt8 := [16, 10, 44, 180, 0, 148, 104, 96, 44, 180, 0, 151, 96, 172]
abbrev dktX1_settingsOf_1 : List UInt8 := dkwX1_settingsOf_1 ++ []
def dkwX1_settingsOf_0 : List UInt8 := [27, 184, 0, 101, 184, 0, 66, 42, 180, 0, 27, 180, 0, 139, 27, 50, 77, 16, 100, 44, 180, 0, 143, 104]
abbrev dktX1_settingsOf_0 : List UInt8 := dkwX1_settingsOf_0 ++ dktX1_settingsOf_1
theorem dksX1_settingsOf_0 : cX1_settingsOf.data.toList.drop 0 = dktX1_settingsOf_0 := by decide +kernel
theorem dksX1_settingsOf_1 : cX1_settingsOf.data.toList.drop 24 = dktX1_settingsOf_1 := dk_seg dksX1_settingsOf_0 24 rfl rfl
theorem dX1_settingsOf_0 : decode cX1_settingsOf 0 = .ok (.iload_n 1, 1) := dk_27 (dk_at dksX1_settingsOf_0 0 rfl rfl)
theorem dX1_settingsOf_1 : decode cX1_settingsOf 1 = .ok (.invokestatic 101, 3) := dk_184 0 101 (dk_at dksX1_settingsOf_0 1 rfl rfl)
theorem dX1_settingsOf_4 : decode cX1_settingsOf 4 = .ok (.invokestatic 66, 3) := dk_184 0 66 (dk_at dksX1_settingsOf_0 4 rfl rfl)
theorem dX1_settingsOf_7 : decode cX1_settingsOf 7 = .ok (.aload_n 0, 1) := dk_42 (dk_at dksX1_settingsOf_0 7 rfl rfl)
theorem dX1_settingsOf_8 : decode cX1_settingsOf 8 = .ok (.getfield 27, 3) := dk_180 0 27 (dk_at dksX1_settingsOf_0 8 rfl rfl)
theorem dX1_settingsOf_11 : decode cX1_settingsOf 11 = .ok (.getfield 139, 3) := dk_180 0 139 (dk_at dksX1_settingsOf_0 11 rfl rfl)
theorem dX1_settingsOf_14 : decode cX1_settingsOf 14 = .ok (.iload_n 1, 1) := dk_27 (dk_at dksX1_settingsOf_0 14 rfl rfl)
theorem dX1_settingsOf_15 : decode cX1_settingsOf 15 = .ok (.aaload, 1) := dk_50 (dk_at dksX1_settingsOf_0 15 rfl rfl)
theorem dX1_settingsOf_16 : decode cX1_settingsOf 16 = .ok (.astore_n 2, 1) := dk_77 (dk_at dksX1_settingsOf_0 16 rfl rfl)
theorem dX1_settingsOf_17 : decode cX1_settingsOf 17 = .ok (.bipush 100, 2) := dk_16 100 (dk_at dksX1_settingsOf_0 17 rfl rfl)
theorem dX1_settingsOf_19 : decode cX1_settingsOf 19 = .ok (.aload_n 2, 1) := dk_44 (dk_at dksX1_settingsOf_0 19 rfl rfl)
theorem dX1_settingsOf_20 : decode cX1_settingsOf 20 = .ok (.getfield 143, 3) := dk_180 0 143 (dk_at dksX1_settingsOf_0 20 rfl rfl)
theorem dX1_settingsOf_23 : decode cX1_settingsOf 23 = .ok (.imul, 1) := dk_104 (dk_at dksX1_settingsOf_0 23 rfl rfl)
theorem dX1_settingsOf_24 : decode cX1_settingsOf 24 = .ok (.bipush 10, 2) := dk_16 10 (dk_at dksX1_settingsOf_1 0 rfl rfl)
theorem dX1_settingsOf_26 : decode cX1_settingsOf 26 = .ok (.aload_n 2, 1) := dk_44 (dk_at dksX1_settingsOf_1 2 rfl rfl)
theorem dX1_settingsOf_27 : decode cX1_settingsOf 27 = .ok (.getfield 148, 3) := dk_180 0 148 (dk_at dksX1_settingsOf_1 3 rfl rfl)
theorem dX1_settingsOf_30 : decode cX1_settingsOf 30 = .ok (.imul, 1) := dk_104 (dk_at dksX1_settingsOf_1 6 rfl rfl)
theorem dX1_settingsOf_31 : decode cX1_settingsOf 31 = .ok (.iadd, 1) := dk_96 (dk_at dksX1_settingsOf_1 7 rfl rfl)
theorem dX1_settingsOf_32 : decode cX1_settingsOf 32 = .ok (.aload_n 2, 1) := dk_44 (dk_at dksX1_settingsOf_1 8 rfl rfl)
theorem dX1_settingsOf_33 : decode cX1_settingsOf 33 = .ok (.getfield 151, 3) := dk_180 0 151 (dk_at dksX1_settingsOf_1 9 rfl rfl)
theorem dX1_settingsOf_36 : decode cX1_settingsOf 36 = .ok (.iadd, 1) := dk_96 (dk_at dksX1_settingsOf_1 12 rfl rfl)
theorem dX1_settingsOf_37 : decode cX1_settingsOf 37 = .ok (.ireturn, 1) := dk_172 (dk_at dksX1_settingsOf_1 13 rfl rfl)
abbrev cX1_whyNotSteep : ByteArray := prog_1_method_52_code
def yX1_whyNotSteep : MethodName := ⟨RX1, "whyNotSteep", "(I)I"⟩
def dkwX1_whyNotSteep_0 : List UInt8 := [42, 27, 182, 0, 91, 42, 180, 0, 27, 27, 182, 0, 95, 172]
abbrev dktX1_whyNotSteep_0 : List UInt8 := dkwX1_whyNotSteep_0 ++ []
theorem dksX1_whyNotSteep_0 : cX1_whyNotSteep.data.toList.drop 0 = dktX1_whyNotSteep_0 := by decide +kernel
theorem dX1_whyNotSteep_0 : decode cX1_whyNotSteep 0 = .ok (.aload_n 0, 1) := dk_42 (dk_at dksX1_whyNotSteep_0 0 rfl rfl)
theorem dX1_whyNotSteep_1 : decode cX1_whyNotSteep 1 = .ok (.iload_n 1, 1) := dk_27 (dk_at dksX1_whyNotSteep_0 1 rfl rfl)
theorem dX1_whyNotSteep_2 : decode cX1_whyNotSteep 2 = .ok (.invokevirtual 91, 3) := dk_182 0 91 (dk_at dksX1_whyNotSteep_0 2 rfl rfl)
theorem dX1_whyNotSteep_5 : decode cX1_whyNotSteep 5 = .ok (.aload_n 0, 1) := dk_42 (dk_at dksX1_whyNotSteep_0 5 rfl rfl)
theorem dX1_whyNotSteep_6 : decode cX1_whyNotSteep 6 = .ok (.getfield 27, 3) := dk_180 0 27 (dk_at dksX1_whyNotSteep_0 6 rfl rfl)
theorem dX1_whyNotSteep_9 : decode cX1_whyNotSteep 9 = .ok (.iload_n 1, 1) := dk_27 (dk_at dksX1_whyNotSteep_0 9 rfl rfl)
theorem dX1_whyNotSteep_10 : decode cX1_whyNotSteep 10 = .ok (.invokevirtual 95, 3) := dk_182 0 95 (dk_at dksX1_whyNotSteep_0 10 rfl rfl)
theorem dX1_whyNotSteep_13 : decode cX1_whyNotSteep 13 = .ok (.ireturn, 1) := dk_172 (dk_at dksX1_whyNotSteep_0 13 rfl rfl)
abbrev cX1_whyNotDrum : ByteArray := prog_1_method_53_code
def yX1_whyNotDrum : MethodName := ⟨RX1, "whyNotDrum", "(II)I"⟩
def dkwX1_whyNotDrum_0 : List UInt8 := [42, 27, 182, 0, 91, 28, 184, 0, 101, 184, 0, 66, 42, 180, 0, 27, 27, 28, 182, 0, 104, 172]
abbrev dktX1_whyNotDrum_0 : List UInt8 := dkwX1_whyNotDrum_0 ++ []
theorem dksX1_whyNotDrum_0 : cX1_whyNotDrum.data.toList.drop 0 = dktX1_whyNotDrum_0 := by decide +kernel
theorem dX1_whyNotDrum_0 : decode cX1_whyNotDrum 0 = .ok (.aload_n 0, 1) := dk_42 (dk_at dksX1_whyNotDrum_0 0 rfl rfl)
theorem dX1_whyNotDrum_1 : decode cX1_whyNotDrum 1 = .ok (.iload_n 1, 1) := dk_27 (dk_at dksX1_whyNotDrum_0 1 rfl rfl)
theorem dX1_whyNotDrum_2 : decode cX1_whyNotDrum 2 = .ok (.invokevirtual 91, 3) := dk_182 0 91 (dk_at dksX1_whyNotDrum_0 2 rfl rfl)
theorem dX1_whyNotDrum_5 : decode cX1_whyNotDrum 5 = .ok (.iload_n 2, 1) := dk_28 (dk_at dksX1_whyNotDrum_0 5 rfl rfl)
theorem dX1_whyNotDrum_6 : decode cX1_whyNotDrum 6 = .ok (.invokestatic 101, 3) := dk_184 0 101 (dk_at dksX1_whyNotDrum_0 6 rfl rfl)
theorem dX1_whyNotDrum_9 : decode cX1_whyNotDrum 9 = .ok (.invokestatic 66, 3) := dk_184 0 66 (dk_at dksX1_whyNotDrum_0 9 rfl rfl)
theorem dX1_whyNotDrum_12 : decode cX1_whyNotDrum 12 = .ok (.aload_n 0, 1) := dk_42 (dk_at dksX1_whyNotDrum_0 12 rfl rfl)
theorem dX1_whyNotDrum_13 : decode cX1_whyNotDrum 13 = .ok (.getfield 27, 3) := dk_180 0 27 (dk_at dksX1_whyNotDrum_0 13 rfl rfl)
theorem dX1_whyNotDrum_16 : decode cX1_whyNotDrum 16 = .ok (.iload_n 1, 1) := dk_27 (dk_at dksX1_whyNotDrum_0 16 rfl rfl)
theorem dX1_whyNotDrum_17 : decode cX1_whyNotDrum 17 = .ok (.iload_n 2, 1) := dk_28 (dk_at dksX1_whyNotDrum_0 17 rfl rfl)
theorem dX1_whyNotDrum_18 : decode cX1_whyNotDrum 18 = .ok (.invokevirtual 104, 3) := dk_182 0 104 (dk_at dksX1_whyNotDrum_0 18 rfl rfl)
theorem dX1_whyNotDrum_21 : decode cX1_whyNotDrum 21 = .ok (.ireturn, 1) := dk_172 (dk_at dksX1_whyNotDrum_0 21 rfl rfl)
abbrev cX1_whyNotLoad : ByteArray := prog_1_method_54_code
def yX1_whyNotLoad : MethodName := ⟨RX1, "whyNotLoad", "(I)I"⟩
def dkwX1_whyNotLoad_0 : List UInt8 := [42, 27, 182, 0, 91, 42, 180, 0, 27, 27, 182, 0, 117, 172]
abbrev dktX1_whyNotLoad_0 : List UInt8 := dkwX1_whyNotLoad_0 ++ []
theorem dksX1_whyNotLoad_0 : cX1_whyNotLoad.data.toList.drop 0 = dktX1_whyNotLoad_0 := by decide +kernel
theorem dX1_whyNotLoad_0 : decode cX1_whyNotLoad 0 = .ok (.aload_n 0, 1) := dk_42 (dk_at dksX1_whyNotLoad_0 0 rfl rfl)
theorem dX1_whyNotLoad_1 : decode cX1_whyNotLoad 1 = .ok (.iload_n 1, 1) := dk_27 (dk_at dksX1_whyNotLoad_0 1 rfl rfl)
theorem dX1_whyNotLoad_2 : decode cX1_whyNotLoad 2 = .ok (.invokevirtual 91, 3) := dk_182 0 91 (dk_at dksX1_whyNotLoad_0 2 rfl rfl)
theorem dX1_whyNotLoad_5 : decode cX1_whyNotLoad 5 = .ok (.aload_n 0, 1) := dk_42 (dk_at dksX1_whyNotLoad_0 5 rfl rfl)
theorem dX1_whyNotLoad_6 : decode cX1_whyNotLoad 6 = .ok (.getfield 27, 3) := dk_180 0 27 (dk_at dksX1_whyNotLoad_0 6 rfl rfl)
theorem dX1_whyNotLoad_9 : decode cX1_whyNotLoad 9 = .ok (.iload_n 1, 1) := dk_27 (dk_at dksX1_whyNotLoad_0 9 rfl rfl)
theorem dX1_whyNotLoad_10 : decode cX1_whyNotLoad 10 = .ok (.invokevirtual 117, 3) := dk_182 0 117 (dk_at dksX1_whyNotLoad_0 10 rfl rfl)
theorem dX1_whyNotLoad_13 : decode cX1_whyNotLoad 13 = .ok (.ireturn, 1) := dk_172 (dk_at dksX1_whyNotLoad_0 13 rfl rfl)
abbrev cX1_whyNotSpray : ByteArray := prog_1_method_55_code
def yX1_whyNotSpray : MethodName := ⟨RX1, "whyNotSpray", "(I)I"⟩
def dkwX1_whyNotSpray_0 : List UInt8 := [42, 27, 182, 0, 91, 42, 180, 0, 27, 27, 182, 0, 130, 172]
abbrev dktX1_whyNotSpray_0 : List UInt8 := dkwX1_whyNotSpray_0 ++ []
theorem dksX1_whyNotSpray_0 : cX1_whyNotSpray.data.toList.drop 0 = dktX1_whyNotSpray_0 := by decide +kernel
theorem dX1_whyNotSpray_0 : decode cX1_whyNotSpray 0 = .ok (.aload_n 0, 1) := dk_42 (dk_at dksX1_whyNotSpray_0 0 rfl rfl)
theorem dX1_whyNotSpray_1 : decode cX1_whyNotSpray 1 = .ok (.iload_n 1, 1) := dk_27 (dk_at dksX1_whyNotSpray_0 1 rfl rfl)
theorem dX1_whyNotSpray_2 : decode cX1_whyNotSpray 2 = .ok (.invokevirtual 91, 3) := dk_182 0 91 (dk_at dksX1_whyNotSpray_0 2 rfl rfl)
theorem dX1_whyNotSpray_5 : decode cX1_whyNotSpray 5 = .ok (.aload_n 0, 1) := dk_42 (dk_at dksX1_whyNotSpray_0 5 rfl rfl)
theorem dX1_whyNotSpray_6 : decode cX1_whyNotSpray 6 = .ok (.getfield 27, 3) := dk_180 0 27 (dk_at dksX1_whyNotSpray_0 6 rfl rfl)
theorem dX1_whyNotSpray_9 : decode cX1_whyNotSpray 9 = .ok (.iload_n 1, 1) := dk_27 (dk_at dksX1_whyNotSpray_0 9 rfl rfl)
theorem dX1_whyNotSpray_10 : decode cX1_whyNotSpray 10 = .ok (.invokevirtual 130, 3) := dk_182 0 130 (dk_at dksX1_whyNotSpray_0 10 rfl rfl)
theorem dX1_whyNotSpray_13 : decode cX1_whyNotSpray 13 = .ok (.ireturn, 1) := dk_172 (dk_at dksX1_whyNotSpray_0 13 rfl rfl)
abbrev cX1_hoursToGrow : ByteArray := prog_1_method_56_code
def yX1_hoursToGrow : MethodName := ⟨RX1, "hoursToGrow", "(II)I"⟩
def dkwX1_hoursToGrow_5 : List UInt8 := [167, 0, 5, 21, 4, 172]
abbrev dktX1_hoursToGrow_5 : List UInt8 := dkwX1_hoursToGrow_5 ++ []
def dkwX1_hoursToGrow_4 : List UInt8 := [4, 167, 0, 4, 3, 54, 5, 21, 5, 154, 0, 13, 45, 180, 1, 23, 27, 46, 28, 162, 0, 7, 2]
abbrev dktX1_hoursToGrow_4 : List UInt8 := dkwX1_hoursToGrow_4 ++ dktX1_hoursToGrow_5
def dkwX1_hoursToGrow_3 : List UInt8 := [21, 4, 158, 0, 14, 45, 180, 1, 7, 27, 46, 16, 6, 159, 0, 11, 21, 4, 17, 0, 240, 164, 0, 7]
abbrev dktX1_hoursToGrow_3 : List UInt8 := dkwX1_hoursToGrow_3 ++ dktX1_hoursToGrow_4
def dkwX1_hoursToGrow_2 : List UInt8 := [16, 6, 159, 0, 22, 21, 4, 17, 0, 240, 163, 0, 14, 45, 182, 1, 60, 87, 132, 4, 1, 167, 255, 219]
abbrev dktX1_hoursToGrow_2 : List UInt8 := dkwX1_hoursToGrow_2 ++ dktX1_hoursToGrow_3
def dkwX1_hoursToGrow_1 : List UInt8 := [183, 0, 59, 78, 3, 54, 4, 45, 180, 1, 23, 27, 46, 28, 162, 0, 33, 45, 180, 1, 7, 27, 46]
abbrev dktX1_hoursToGrow_1 : List UInt8 := dkwX1_hoursToGrow_1 ++ dktX1_hoursToGrow_2
def dkwX1_hoursToGrow_0 : List UInt8 := [42, 27, 182, 0, 91, 28, 3, 16, 100, 184, 0, 70, 184, 0, 74, 187, 0, 24, 89, 42, 180, 0, 27]
abbrev dktX1_hoursToGrow_0 : List UInt8 := dkwX1_hoursToGrow_0 ++ dktX1_hoursToGrow_1
theorem dksX1_hoursToGrow_0 : cX1_hoursToGrow.data.toList.drop 0 = dktX1_hoursToGrow_0 := by decide +kernel
theorem dksX1_hoursToGrow_1 : cX1_hoursToGrow.data.toList.drop 23 = dktX1_hoursToGrow_1 := dk_seg dksX1_hoursToGrow_0 23 rfl rfl
theorem dksX1_hoursToGrow_2 : cX1_hoursToGrow.data.toList.drop 46 = dktX1_hoursToGrow_2 := dk_seg dksX1_hoursToGrow_1 23 rfl rfl
theorem dksX1_hoursToGrow_3 : cX1_hoursToGrow.data.toList.drop 70 = dktX1_hoursToGrow_3 := dk_seg dksX1_hoursToGrow_2 24 rfl rfl
theorem dksX1_hoursToGrow_4 : cX1_hoursToGrow.data.toList.drop 94 = dktX1_hoursToGrow_4 := dk_seg dksX1_hoursToGrow_3 24 rfl rfl
theorem dksX1_hoursToGrow_5 : cX1_hoursToGrow.data.toList.drop 117 = dktX1_hoursToGrow_5 := dk_seg dksX1_hoursToGrow_4 23 rfl rfl
theorem dX1_hoursToGrow_0 : decode cX1_hoursToGrow 0 = .ok (.aload_n 0, 1) := dk_42 (dk_at dksX1_hoursToGrow_0 0 rfl rfl)
theorem dX1_hoursToGrow_1 : decode cX1_hoursToGrow 1 = .ok (.iload_n 1, 1) := dk_27 (dk_at dksX1_hoursToGrow_0 1 rfl rfl)
theorem dX1_hoursToGrow_2 : decode cX1_hoursToGrow 2 = .ok (.invokevirtual 91, 3) := dk_182 0 91 (dk_at dksX1_hoursToGrow_0 2 rfl rfl)
theorem dX1_hoursToGrow_5 : decode cX1_hoursToGrow 5 = .ok (.iload_n 2, 1) := dk_28 (dk_at dksX1_hoursToGrow_0 5 rfl rfl)
theorem dX1_hoursToGrow_6 : decode cX1_hoursToGrow 6 = .ok (.iconst 0, 1) := dk_3 (dk_at dksX1_hoursToGrow_0 6 rfl rfl)
theorem dX1_hoursToGrow_7 : decode cX1_hoursToGrow 7 = .ok (.bipush 100, 2) := dk_16 100 (dk_at dksX1_hoursToGrow_0 7 rfl rfl)
theorem dX1_hoursToGrow_9 : decode cX1_hoursToGrow 9 = .ok (.invokestatic 70, 3) := dk_184 0 70 (dk_at dksX1_hoursToGrow_0 9 rfl rfl)
theorem dX1_hoursToGrow_12 : decode cX1_hoursToGrow 12 = .ok (.invokestatic 74, 3) := dk_184 0 74 (dk_at dksX1_hoursToGrow_0 12 rfl rfl)
theorem dX1_hoursToGrow_15 : decode cX1_hoursToGrow 15 = .ok (.new 24, 3) := dk_187 0 24 (dk_at dksX1_hoursToGrow_0 15 rfl rfl)
theorem dX1_hoursToGrow_18 : decode cX1_hoursToGrow 18 = .ok (.dup, 1) := dk_89 (dk_at dksX1_hoursToGrow_0 18 rfl rfl)
theorem dX1_hoursToGrow_19 : decode cX1_hoursToGrow 19 = .ok (.aload_n 0, 1) := dk_42 (dk_at dksX1_hoursToGrow_0 19 rfl rfl)
theorem dX1_hoursToGrow_20 : decode cX1_hoursToGrow 20 = .ok (.getfield 27, 3) := dk_180 0 27 (dk_at dksX1_hoursToGrow_0 20 rfl rfl)
theorem dX1_hoursToGrow_23 : decode cX1_hoursToGrow 23 = .ok (.invokespecial 59, 3) := dk_183 0 59 (dk_at dksX1_hoursToGrow_1 0 rfl rfl)
theorem dX1_hoursToGrow_26 : decode cX1_hoursToGrow 26 = .ok (.astore_n 3, 1) := dk_78 (dk_at dksX1_hoursToGrow_1 3 rfl rfl)
theorem dX1_hoursToGrow_27 : decode cX1_hoursToGrow 27 = .ok (.iconst 0, 1) := dk_3 (dk_at dksX1_hoursToGrow_1 4 rfl rfl)
theorem dX1_hoursToGrow_28 : decode cX1_hoursToGrow 28 = .ok (.istore 4, 2) := dk_54 4 (dk_at dksX1_hoursToGrow_1 5 rfl rfl)
theorem dX1_hoursToGrow_30 : decode cX1_hoursToGrow 30 = .ok (.aload_n 3, 1) := dk_45 (dk_at dksX1_hoursToGrow_1 7 rfl rfl)
theorem dX1_hoursToGrow_31 : decode cX1_hoursToGrow 31 = .ok (.getfield 279, 3) := dk_180 1 23 (dk_at dksX1_hoursToGrow_1 8 rfl rfl)
theorem dX1_hoursToGrow_34 : decode cX1_hoursToGrow 34 = .ok (.iload_n 1, 1) := dk_27 (dk_at dksX1_hoursToGrow_1 11 rfl rfl)
theorem dX1_hoursToGrow_35 : decode cX1_hoursToGrow 35 = .ok (.iaload, 1) := dk_46 (dk_at dksX1_hoursToGrow_1 12 rfl rfl)
theorem dX1_hoursToGrow_36 : decode cX1_hoursToGrow 36 = .ok (.iload_n 2, 1) := dk_28 (dk_at dksX1_hoursToGrow_1 13 rfl rfl)
theorem dX1_hoursToGrow_37 : decode cX1_hoursToGrow 37 = .ok (.if_icmp .ge 33, 3) := dk_162 0 33 (dk_at dksX1_hoursToGrow_1 14 rfl rfl)
theorem dX1_hoursToGrow_40 : decode cX1_hoursToGrow 40 = .ok (.aload_n 3, 1) := dk_45 (dk_at dksX1_hoursToGrow_1 17 rfl rfl)
theorem dX1_hoursToGrow_41 : decode cX1_hoursToGrow 41 = .ok (.getfield 263, 3) := dk_180 1 7 (dk_at dksX1_hoursToGrow_1 18 rfl rfl)
theorem dX1_hoursToGrow_44 : decode cX1_hoursToGrow 44 = .ok (.iload_n 1, 1) := dk_27 (dk_at dksX1_hoursToGrow_1 21 rfl rfl)
theorem dX1_hoursToGrow_45 : decode cX1_hoursToGrow 45 = .ok (.iaload, 1) := dk_46 (dk_at dksX1_hoursToGrow_1 22 rfl rfl)
theorem dX1_hoursToGrow_46 : decode cX1_hoursToGrow 46 = .ok (.bipush 6, 2) := dk_16 6 (dk_at dksX1_hoursToGrow_2 0 rfl rfl)
theorem dX1_hoursToGrow_48 : decode cX1_hoursToGrow 48 = .ok (.if_icmp .eq 22, 3) := dk_159 0 22 (dk_at dksX1_hoursToGrow_2 2 rfl rfl)
theorem dX1_hoursToGrow_51 : decode cX1_hoursToGrow 51 = .ok (.iload 4, 2) := dk_21 4 (dk_at dksX1_hoursToGrow_2 5 rfl rfl)
theorem dX1_hoursToGrow_53 : decode cX1_hoursToGrow 53 = .ok (.sipush 240, 3) := dk_17 0 240 (dk_at dksX1_hoursToGrow_2 7 rfl rfl)
theorem dX1_hoursToGrow_56 : decode cX1_hoursToGrow 56 = .ok (.if_icmp .gt 14, 3) := dk_163 0 14 (dk_at dksX1_hoursToGrow_2 10 rfl rfl)
theorem dX1_hoursToGrow_59 : decode cX1_hoursToGrow 59 = .ok (.aload_n 3, 1) := dk_45 (dk_at dksX1_hoursToGrow_2 13 rfl rfl)
theorem dX1_hoursToGrow_60 : decode cX1_hoursToGrow 60 = .ok (.invokevirtual 316, 3) := dk_182 1 60 (dk_at dksX1_hoursToGrow_2 14 rfl rfl)
theorem dX1_hoursToGrow_63 : decode cX1_hoursToGrow 63 = .ok (.pop, 1) := dk_87 (dk_at dksX1_hoursToGrow_2 17 rfl rfl)
theorem dX1_hoursToGrow_64 : decode cX1_hoursToGrow 64 = .ok (.iinc 4 1, 3) := dk_132 4 1 (dk_at dksX1_hoursToGrow_2 18 rfl rfl)
theorem dX1_hoursToGrow_67 : decode cX1_hoursToGrow 67 = .ok (.goto (-37), 3) := dk_167 255 219 (dk_at dksX1_hoursToGrow_2 21 rfl rfl)
theorem dX1_hoursToGrow_70 : decode cX1_hoursToGrow 70 = .ok (.iload 4, 2) := dk_21 4 (dk_at dksX1_hoursToGrow_3 0 rfl rfl)
theorem dX1_hoursToGrow_72 : decode cX1_hoursToGrow 72 = .ok (.ifCond .le 14, 3) := dk_158 0 14 (dk_at dksX1_hoursToGrow_3 2 rfl rfl)
theorem dX1_hoursToGrow_75 : decode cX1_hoursToGrow 75 = .ok (.aload_n 3, 1) := dk_45 (dk_at dksX1_hoursToGrow_3 5 rfl rfl)
theorem dX1_hoursToGrow_76 : decode cX1_hoursToGrow 76 = .ok (.getfield 263, 3) := dk_180 1 7 (dk_at dksX1_hoursToGrow_3 6 rfl rfl)
theorem dX1_hoursToGrow_79 : decode cX1_hoursToGrow 79 = .ok (.iload_n 1, 1) := dk_27 (dk_at dksX1_hoursToGrow_3 9 rfl rfl)
theorem dX1_hoursToGrow_80 : decode cX1_hoursToGrow 80 = .ok (.iaload, 1) := dk_46 (dk_at dksX1_hoursToGrow_3 10 rfl rfl)
theorem dX1_hoursToGrow_81 : decode cX1_hoursToGrow 81 = .ok (.bipush 6, 2) := dk_16 6 (dk_at dksX1_hoursToGrow_3 11 rfl rfl)
theorem dX1_hoursToGrow_83 : decode cX1_hoursToGrow 83 = .ok (.if_icmp .eq 11, 3) := dk_159 0 11 (dk_at dksX1_hoursToGrow_3 13 rfl rfl)
theorem dX1_hoursToGrow_86 : decode cX1_hoursToGrow 86 = .ok (.iload 4, 2) := dk_21 4 (dk_at dksX1_hoursToGrow_3 16 rfl rfl)
theorem dX1_hoursToGrow_88 : decode cX1_hoursToGrow 88 = .ok (.sipush 240, 3) := dk_17 0 240 (dk_at dksX1_hoursToGrow_3 18 rfl rfl)
theorem dX1_hoursToGrow_91 : decode cX1_hoursToGrow 91 = .ok (.if_icmp .le 7, 3) := dk_164 0 7 (dk_at dksX1_hoursToGrow_3 21 rfl rfl)
theorem dX1_hoursToGrow_94 : decode cX1_hoursToGrow 94 = .ok (.iconst 1, 1) := dk_4 (dk_at dksX1_hoursToGrow_4 0 rfl rfl)
theorem dX1_hoursToGrow_95 : decode cX1_hoursToGrow 95 = .ok (.goto 4, 3) := dk_167 0 4 (dk_at dksX1_hoursToGrow_4 1 rfl rfl)
theorem dX1_hoursToGrow_98 : decode cX1_hoursToGrow 98 = .ok (.iconst 0, 1) := dk_3 (dk_at dksX1_hoursToGrow_4 4 rfl rfl)
theorem dX1_hoursToGrow_99 : decode cX1_hoursToGrow 99 = .ok (.istore 5, 2) := dk_54 5 (dk_at dksX1_hoursToGrow_4 5 rfl rfl)
theorem dX1_hoursToGrow_101 : decode cX1_hoursToGrow 101 = .ok (.iload 5, 2) := dk_21 5 (dk_at dksX1_hoursToGrow_4 7 rfl rfl)
theorem dX1_hoursToGrow_103 : decode cX1_hoursToGrow 103 = .ok (.ifCond .ne 13, 3) := dk_154 0 13 (dk_at dksX1_hoursToGrow_4 9 rfl rfl)
theorem dX1_hoursToGrow_106 : decode cX1_hoursToGrow 106 = .ok (.aload_n 3, 1) := dk_45 (dk_at dksX1_hoursToGrow_4 12 rfl rfl)
theorem dX1_hoursToGrow_107 : decode cX1_hoursToGrow 107 = .ok (.getfield 279, 3) := dk_180 1 23 (dk_at dksX1_hoursToGrow_4 13 rfl rfl)
theorem dX1_hoursToGrow_110 : decode cX1_hoursToGrow 110 = .ok (.iload_n 1, 1) := dk_27 (dk_at dksX1_hoursToGrow_4 16 rfl rfl)
theorem dX1_hoursToGrow_111 : decode cX1_hoursToGrow 111 = .ok (.iaload, 1) := dk_46 (dk_at dksX1_hoursToGrow_4 17 rfl rfl)
theorem dX1_hoursToGrow_112 : decode cX1_hoursToGrow 112 = .ok (.iload_n 2, 1) := dk_28 (dk_at dksX1_hoursToGrow_4 18 rfl rfl)
theorem dX1_hoursToGrow_113 : decode cX1_hoursToGrow 113 = .ok (.if_icmp .ge 7, 3) := dk_162 0 7 (dk_at dksX1_hoursToGrow_4 19 rfl rfl)
theorem dX1_hoursToGrow_116 : decode cX1_hoursToGrow 116 = .ok (.iconst (-1), 1) := dk_2 (dk_at dksX1_hoursToGrow_4 22 rfl rfl)
theorem dX1_hoursToGrow_117 : decode cX1_hoursToGrow 117 = .ok (.goto 5, 3) := dk_167 0 5 (dk_at dksX1_hoursToGrow_5 0 rfl rfl)
theorem dX1_hoursToGrow_120 : decode cX1_hoursToGrow 120 = .ok (.iload 4, 2) := dk_21 4 (dk_at dksX1_hoursToGrow_5 3 rfl rfl)
theorem dX1_hoursToGrow_122 : decode cX1_hoursToGrow 122 = .ok (.ireturn, 1) := dk_172 (dk_at dksX1_hoursToGrow_5 5 rfl rfl)
abbrev cX1_hoursToSpoil : ByteArray := prog_1_method_57_code
def yX1_hoursToSpoil : MethodName := ⟨RX1, "hoursToSpoil", "(I)I"⟩
def dkwX1_hoursToSpoil_2 : List UInt8 := [44, 180, 1, 7, 27, 46, 16, 6, 160, 0, 7, 29, 167, 0, 4, 2, 172]
abbrev dktX1_hoursToSpoil_2 : List UInt8 := dkwX1_hoursToSpoil_2 ++ []
def dkwX1_hoursToSpoil_1 : List UInt8 := [46, 16, 6, 159, 0, 21, 29, 17, 0, 240, 162, 0, 14, 44, 182, 1, 60, 87, 132, 3, 1, 167, 255, 230]
abbrev dktX1_hoursToSpoil_1 : List UInt8 := dkwX1_hoursToSpoil_1 ++ dktX1_hoursToSpoil_2
def dkwX1_hoursToSpoil_0 : List UInt8 := [42, 27, 182, 0, 91, 187, 0, 24, 89, 42, 180, 0, 27, 183, 0, 59, 77, 3, 62, 44, 180, 1, 7, 27]
abbrev dktX1_hoursToSpoil_0 : List UInt8 := dkwX1_hoursToSpoil_0 ++ dktX1_hoursToSpoil_1
theorem dksX1_hoursToSpoil_0 : cX1_hoursToSpoil.data.toList.drop 0 = dktX1_hoursToSpoil_0 := by decide +kernel
theorem dksX1_hoursToSpoil_1 : cX1_hoursToSpoil.data.toList.drop 24 = dktX1_hoursToSpoil_1 := dk_seg dksX1_hoursToSpoil_0 24 rfl rfl
theorem dksX1_hoursToSpoil_2 : cX1_hoursToSpoil.data.toList.drop 48 = dktX1_hoursToSpoil_2 := dk_seg dksX1_hoursToSpoil_1 24 rfl rfl
theorem dX1_hoursToSpoil_0 : decode cX1_hoursToSpoil 0 = .ok (.aload_n 0, 1) := dk_42 (dk_at dksX1_hoursToSpoil_0 0 rfl rfl)
theorem dX1_hoursToSpoil_1 : decode cX1_hoursToSpoil 1 = .ok (.iload_n 1, 1) := dk_27 (dk_at dksX1_hoursToSpoil_0 1 rfl rfl)
theorem dX1_hoursToSpoil_2 : decode cX1_hoursToSpoil 2 = .ok (.invokevirtual 91, 3) := dk_182 0 91 (dk_at dksX1_hoursToSpoil_0 2 rfl rfl)
theorem dX1_hoursToSpoil_5 : decode cX1_hoursToSpoil 5 = .ok (.new 24, 3) := dk_187 0 24 (dk_at dksX1_hoursToSpoil_0 5 rfl rfl)
theorem dX1_hoursToSpoil_8 : decode cX1_hoursToSpoil 8 = .ok (.dup, 1) := dk_89 (dk_at dksX1_hoursToSpoil_0 8 rfl rfl)
theorem dX1_hoursToSpoil_9 : decode cX1_hoursToSpoil 9 = .ok (.aload_n 0, 1) := dk_42 (dk_at dksX1_hoursToSpoil_0 9 rfl rfl)
theorem dX1_hoursToSpoil_10 : decode cX1_hoursToSpoil 10 = .ok (.getfield 27, 3) := dk_180 0 27 (dk_at dksX1_hoursToSpoil_0 10 rfl rfl)
theorem dX1_hoursToSpoil_13 : decode cX1_hoursToSpoil 13 = .ok (.invokespecial 59, 3) := dk_183 0 59 (dk_at dksX1_hoursToSpoil_0 13 rfl rfl)
theorem dX1_hoursToSpoil_16 : decode cX1_hoursToSpoil 16 = .ok (.astore_n 2, 1) := dk_77 (dk_at dksX1_hoursToSpoil_0 16 rfl rfl)
theorem dX1_hoursToSpoil_17 : decode cX1_hoursToSpoil 17 = .ok (.iconst 0, 1) := dk_3 (dk_at dksX1_hoursToSpoil_0 17 rfl rfl)
theorem dX1_hoursToSpoil_18 : decode cX1_hoursToSpoil 18 = .ok (.istore_n 3, 1) := dk_62 (dk_at dksX1_hoursToSpoil_0 18 rfl rfl)
theorem dX1_hoursToSpoil_19 : decode cX1_hoursToSpoil 19 = .ok (.aload_n 2, 1) := dk_44 (dk_at dksX1_hoursToSpoil_0 19 rfl rfl)
theorem dX1_hoursToSpoil_20 : decode cX1_hoursToSpoil 20 = .ok (.getfield 263, 3) := dk_180 1 7 (dk_at dksX1_hoursToSpoil_0 20 rfl rfl)
theorem dX1_hoursToSpoil_23 : decode cX1_hoursToSpoil 23 = .ok (.iload_n 1, 1) := dk_27 (dk_at dksX1_hoursToSpoil_0 23 rfl rfl)
theorem dX1_hoursToSpoil_24 : decode cX1_hoursToSpoil 24 = .ok (.iaload, 1) := dk_46 (dk_at dksX1_hoursToSpoil_1 0 rfl rfl)
theorem dX1_hoursToSpoil_25 : decode cX1_hoursToSpoil 25 = .ok (.bipush 6, 2) := dk_16 6 (dk_at dksX1_hoursToSpoil_1 1 rfl rfl)
theorem dX1_hoursToSpoil_27 : decode cX1_hoursToSpoil 27 = .ok (.if_icmp .eq 21, 3) := dk_159 0 21 (dk_at dksX1_hoursToSpoil_1 3 rfl rfl)
theorem dX1_hoursToSpoil_30 : decode cX1_hoursToSpoil 30 = .ok (.iload_n 3, 1) := dk_29 (dk_at dksX1_hoursToSpoil_1 6 rfl rfl)
theorem dX1_hoursToSpoil_31 : decode cX1_hoursToSpoil 31 = .ok (.sipush 240, 3) := dk_17 0 240 (dk_at dksX1_hoursToSpoil_1 7 rfl rfl)
theorem dX1_hoursToSpoil_34 : decode cX1_hoursToSpoil 34 = .ok (.if_icmp .ge 14, 3) := dk_162 0 14 (dk_at dksX1_hoursToSpoil_1 10 rfl rfl)
theorem dX1_hoursToSpoil_37 : decode cX1_hoursToSpoil 37 = .ok (.aload_n 2, 1) := dk_44 (dk_at dksX1_hoursToSpoil_1 13 rfl rfl)
theorem dX1_hoursToSpoil_38 : decode cX1_hoursToSpoil 38 = .ok (.invokevirtual 316, 3) := dk_182 1 60 (dk_at dksX1_hoursToSpoil_1 14 rfl rfl)
theorem dX1_hoursToSpoil_41 : decode cX1_hoursToSpoil 41 = .ok (.pop, 1) := dk_87 (dk_at dksX1_hoursToSpoil_1 17 rfl rfl)
theorem dX1_hoursToSpoil_42 : decode cX1_hoursToSpoil 42 = .ok (.iinc 3 1, 3) := dk_132 3 1 (dk_at dksX1_hoursToSpoil_1 18 rfl rfl)
theorem dX1_hoursToSpoil_45 : decode cX1_hoursToSpoil 45 = .ok (.goto (-26), 3) := dk_167 255 230 (dk_at dksX1_hoursToSpoil_1 21 rfl rfl)
theorem dX1_hoursToSpoil_48 : decode cX1_hoursToSpoil 48 = .ok (.aload_n 2, 1) := dk_44 (dk_at dksX1_hoursToSpoil_2 0 rfl rfl)
theorem dX1_hoursToSpoil_49 : decode cX1_hoursToSpoil 49 = .ok (.getfield 263, 3) := dk_180 1 7 (dk_at dksX1_hoursToSpoil_2 1 rfl rfl)
theorem dX1_hoursToSpoil_52 : decode cX1_hoursToSpoil 52 = .ok (.iload_n 1, 1) := dk_27 (dk_at dksX1_hoursToSpoil_2 4 rfl rfl)
theorem dX1_hoursToSpoil_53 : decode cX1_hoursToSpoil 53 = .ok (.iaload, 1) := dk_46 (dk_at dksX1_hoursToSpoil_2 5 rfl rfl)
theorem dX1_hoursToSpoil_54 : decode cX1_hoursToSpoil 54 = .ok (.bipush 6, 2) := dk_16 6 (dk_at dksX1_hoursToSpoil_2 6 rfl rfl)
theorem dX1_hoursToSpoil_56 : decode cX1_hoursToSpoil 56 = .ok (.if_icmp .ne 7, 3) := dk_160 0 7 (dk_at dksX1_hoursToSpoil_2 8 rfl rfl)
theorem dX1_hoursToSpoil_59 : decode cX1_hoursToSpoil 59 = .ok (.iload_n 3, 1) := dk_29 (dk_at dksX1_hoursToSpoil_2 11 rfl rfl)
theorem dX1_hoursToSpoil_60 : decode cX1_hoursToSpoil 60 = .ok (.goto 4, 3) := dk_167 0 4 (dk_at dksX1_hoursToSpoil_2 12 rfl rfl)
theorem dX1_hoursToSpoil_63 : decode cX1_hoursToSpoil 63 = .ok (.iconst (-1), 1) := dk_2 (dk_at dksX1_hoursToSpoil_2 15 rfl rfl)
theorem dX1_hoursToSpoil_64 : decode cX1_hoursToSpoil 64 = .ok (.ireturn, 1) := dk_172 (dk_at dksX1_hoursToSpoil_2 16 rfl rfl)
abbrev cX1_bestAir : ByteArray := prog_1_method_62_code
def yX1_bestAir : MethodName := ⟨RX1, "bestAir", "(I)I"⟩
def dkwX1_bestAir_6 : List UInt8 := [167, 255, 137, 29, 172]
abbrev dktX1_bestAir_6 : List UInt8 := dkwX1_bestAir_6 ++ []
def dkwX1_bestAir_5 : List UInt8 := [167, 0, 4, 29, 62, 21, 8, 153, 0, 8, 21, 7, 167, 0, 5, 21, 4, 54, 4, 132, 5, 1]
abbrev dktX1_bestAir_5 : List UInt8 := dkwX1_bestAir_5 ++ dktX1_bestAir_6
def dkwX1_bestAir_4 : List UInt8 := [159, 0, 10, 21, 7, 21, 4, 162, 0, 7, 4, 167, 0, 4, 3, 54, 8, 21, 8, 153, 0, 8, 21, 5]
abbrev dktX1_bestAir_4 : List UInt8 := dkwX1_bestAir_4 ++ dktX1_bestAir_5
def dkwX1_bestAir_3 : List UInt8 := [46, 16, 18, 100, 184, 1, 80, 54, 7, 25, 6, 180, 1, 7, 27, 46, 16, 6, 159, 0, 19, 29, 2]
abbrev dktX1_bestAir_3 : List UInt8 := dkwX1_bestAir_3 ++ dktX1_bestAir_4
def dkwX1_bestAir_2 : List UInt8 := [180, 0, 139, 28, 50, 21, 5, 181, 0, 143, 25, 6, 16, 24, 182, 0, 167, 87, 25, 6, 180, 1, 26, 27]
abbrev dktX1_bestAir_2 : List UInt8 := dkwX1_bestAir_2 ++ dktX1_bestAir_3
def dkwX1_bestAir_1 : List UInt8 := [6, 163, 0, 119, 28, 2, 159, 0, 114, 187, 0, 24, 89, 42, 180, 0, 27, 183, 0, 59, 58, 6, 25, 6]
abbrev dktX1_bestAir_1 : List UInt8 := dkwX1_bestAir_1 ++ dktX1_bestAir_2
def dkwX1_bestAir_0 : List UInt8 := [42, 27, 182, 0, 91, 42, 180, 0, 27, 27, 182, 1, 11, 61, 2, 62, 3, 54, 4, 3, 54, 5, 21, 5]
abbrev dktX1_bestAir_0 : List UInt8 := dkwX1_bestAir_0 ++ dktX1_bestAir_1
theorem dksX1_bestAir_0 : cX1_bestAir.data.toList.drop 0 = dktX1_bestAir_0 := by decide +kernel
theorem dksX1_bestAir_1 : cX1_bestAir.data.toList.drop 24 = dktX1_bestAir_1 := dk_seg dksX1_bestAir_0 24 rfl rfl
theorem dksX1_bestAir_2 : cX1_bestAir.data.toList.drop 48 = dktX1_bestAir_2 := dk_seg dksX1_bestAir_1 24 rfl rfl
theorem dksX1_bestAir_3 : cX1_bestAir.data.toList.drop 72 = dktX1_bestAir_3 := dk_seg dksX1_bestAir_2 24 rfl rfl
theorem dksX1_bestAir_4 : cX1_bestAir.data.toList.drop 95 = dktX1_bestAir_4 := dk_seg dksX1_bestAir_3 23 rfl rfl
theorem dksX1_bestAir_5 : cX1_bestAir.data.toList.drop 119 = dktX1_bestAir_5 := dk_seg dksX1_bestAir_4 24 rfl rfl
theorem dksX1_bestAir_6 : cX1_bestAir.data.toList.drop 141 = dktX1_bestAir_6 := dk_seg dksX1_bestAir_5 22 rfl rfl
theorem dX1_bestAir_0 : decode cX1_bestAir 0 = .ok (.aload_n 0, 1) := dk_42 (dk_at dksX1_bestAir_0 0 rfl rfl)
theorem dX1_bestAir_1 : decode cX1_bestAir 1 = .ok (.iload_n 1, 1) := dk_27 (dk_at dksX1_bestAir_0 1 rfl rfl)
theorem dX1_bestAir_2 : decode cX1_bestAir 2 = .ok (.invokevirtual 91, 3) := dk_182 0 91 (dk_at dksX1_bestAir_0 2 rfl rfl)
theorem dX1_bestAir_5 : decode cX1_bestAir 5 = .ok (.aload_n 0, 1) := dk_42 (dk_at dksX1_bestAir_0 5 rfl rfl)
theorem dX1_bestAir_6 : decode cX1_bestAir 6 = .ok (.getfield 27, 3) := dk_180 0 27 (dk_at dksX1_bestAir_0 6 rfl rfl)
theorem dX1_bestAir_9 : decode cX1_bestAir 9 = .ok (.iload_n 1, 1) := dk_27 (dk_at dksX1_bestAir_0 9 rfl rfl)
theorem dX1_bestAir_10 : decode cX1_bestAir 10 = .ok (.invokevirtual 267, 3) := dk_182 1 11 (dk_at dksX1_bestAir_0 10 rfl rfl)
theorem dX1_bestAir_13 : decode cX1_bestAir 13 = .ok (.istore_n 2, 1) := dk_61 (dk_at dksX1_bestAir_0 13 rfl rfl)
theorem dX1_bestAir_14 : decode cX1_bestAir 14 = .ok (.iconst (-1), 1) := dk_2 (dk_at dksX1_bestAir_0 14 rfl rfl)
theorem dX1_bestAir_15 : decode cX1_bestAir 15 = .ok (.istore_n 3, 1) := dk_62 (dk_at dksX1_bestAir_0 15 rfl rfl)
theorem dX1_bestAir_16 : decode cX1_bestAir 16 = .ok (.iconst 0, 1) := dk_3 (dk_at dksX1_bestAir_0 16 rfl rfl)
theorem dX1_bestAir_17 : decode cX1_bestAir 17 = .ok (.istore 4, 2) := dk_54 4 (dk_at dksX1_bestAir_0 17 rfl rfl)
theorem dX1_bestAir_19 : decode cX1_bestAir 19 = .ok (.iconst 0, 1) := dk_3 (dk_at dksX1_bestAir_0 19 rfl rfl)
theorem dX1_bestAir_20 : decode cX1_bestAir 20 = .ok (.istore 5, 2) := dk_54 5 (dk_at dksX1_bestAir_0 20 rfl rfl)
theorem dX1_bestAir_22 : decode cX1_bestAir 22 = .ok (.iload 5, 2) := dk_21 5 (dk_at dksX1_bestAir_0 22 rfl rfl)
theorem dX1_bestAir_24 : decode cX1_bestAir 24 = .ok (.iconst 3, 1) := dk_6 (dk_at dksX1_bestAir_1 0 rfl rfl)
theorem dX1_bestAir_25 : decode cX1_bestAir 25 = .ok (.if_icmp .gt 119, 3) := dk_163 0 119 (dk_at dksX1_bestAir_1 1 rfl rfl)
theorem dX1_bestAir_28 : decode cX1_bestAir 28 = .ok (.iload_n 2, 1) := dk_28 (dk_at dksX1_bestAir_1 4 rfl rfl)
theorem dX1_bestAir_29 : decode cX1_bestAir 29 = .ok (.iconst (-1), 1) := dk_2 (dk_at dksX1_bestAir_1 5 rfl rfl)
theorem dX1_bestAir_30 : decode cX1_bestAir 30 = .ok (.if_icmp .eq 114, 3) := dk_159 0 114 (dk_at dksX1_bestAir_1 6 rfl rfl)
theorem dX1_bestAir_33 : decode cX1_bestAir 33 = .ok (.new 24, 3) := dk_187 0 24 (dk_at dksX1_bestAir_1 9 rfl rfl)
theorem dX1_bestAir_36 : decode cX1_bestAir 36 = .ok (.dup, 1) := dk_89 (dk_at dksX1_bestAir_1 12 rfl rfl)
theorem dX1_bestAir_37 : decode cX1_bestAir 37 = .ok (.aload_n 0, 1) := dk_42 (dk_at dksX1_bestAir_1 13 rfl rfl)
theorem dX1_bestAir_38 : decode cX1_bestAir 38 = .ok (.getfield 27, 3) := dk_180 0 27 (dk_at dksX1_bestAir_1 14 rfl rfl)
theorem dX1_bestAir_41 : decode cX1_bestAir 41 = .ok (.invokespecial 59, 3) := dk_183 0 59 (dk_at dksX1_bestAir_1 17 rfl rfl)
theorem dX1_bestAir_44 : decode cX1_bestAir 44 = .ok (.astore 6, 2) := dk_58 6 (dk_at dksX1_bestAir_1 20 rfl rfl)
theorem dX1_bestAir_46 : decode cX1_bestAir 46 = .ok (.aload 6, 2) := dk_25 6 (dk_at dksX1_bestAir_1 22 rfl rfl)
theorem dX1_bestAir_48 : decode cX1_bestAir 48 = .ok (.getfield 139, 3) := dk_180 0 139 (dk_at dksX1_bestAir_2 0 rfl rfl)
theorem dX1_bestAir_51 : decode cX1_bestAir 51 = .ok (.iload_n 2, 1) := dk_28 (dk_at dksX1_bestAir_2 3 rfl rfl)
theorem dX1_bestAir_52 : decode cX1_bestAir 52 = .ok (.aaload, 1) := dk_50 (dk_at dksX1_bestAir_2 4 rfl rfl)
theorem dX1_bestAir_53 : decode cX1_bestAir 53 = .ok (.iload 5, 2) := dk_21 5 (dk_at dksX1_bestAir_2 5 rfl rfl)
theorem dX1_bestAir_55 : decode cX1_bestAir 55 = .ok (.putfield 143, 3) := dk_181 0 143 (dk_at dksX1_bestAir_2 7 rfl rfl)
theorem dX1_bestAir_58 : decode cX1_bestAir 58 = .ok (.aload 6, 2) := dk_25 6 (dk_at dksX1_bestAir_2 10 rfl rfl)
theorem dX1_bestAir_60 : decode cX1_bestAir 60 = .ok (.bipush 24, 2) := dk_16 24 (dk_at dksX1_bestAir_2 12 rfl rfl)
theorem dX1_bestAir_62 : decode cX1_bestAir 62 = .ok (.invokevirtual 167, 3) := dk_182 0 167 (dk_at dksX1_bestAir_2 14 rfl rfl)
theorem dX1_bestAir_65 : decode cX1_bestAir 65 = .ok (.pop, 1) := dk_87 (dk_at dksX1_bestAir_2 17 rfl rfl)
theorem dX1_bestAir_66 : decode cX1_bestAir 66 = .ok (.aload 6, 2) := dk_25 6 (dk_at dksX1_bestAir_2 18 rfl rfl)
theorem dX1_bestAir_68 : decode cX1_bestAir 68 = .ok (.getfield 282, 3) := dk_180 1 26 (dk_at dksX1_bestAir_2 20 rfl rfl)
theorem dX1_bestAir_71 : decode cX1_bestAir 71 = .ok (.iload_n 1, 1) := dk_27 (dk_at dksX1_bestAir_2 23 rfl rfl)
theorem dX1_bestAir_72 : decode cX1_bestAir 72 = .ok (.iaload, 1) := dk_46 (dk_at dksX1_bestAir_3 0 rfl rfl)
theorem dX1_bestAir_73 : decode cX1_bestAir 73 = .ok (.bipush 18, 2) := dk_16 18 (dk_at dksX1_bestAir_3 1 rfl rfl)
theorem dX1_bestAir_75 : decode cX1_bestAir 75 = .ok (.isub, 1) := dk_100 (dk_at dksX1_bestAir_3 3 rfl rfl)
theorem dX1_bestAir_76 : decode cX1_bestAir 76 = .ok (.invokestatic 336, 3) := dk_184 1 80 (dk_at dksX1_bestAir_3 4 rfl rfl)
theorem dX1_bestAir_79 : decode cX1_bestAir 79 = .ok (.istore 7, 2) := dk_54 7 (dk_at dksX1_bestAir_3 7 rfl rfl)
theorem dX1_bestAir_81 : decode cX1_bestAir 81 = .ok (.aload 6, 2) := dk_25 6 (dk_at dksX1_bestAir_3 9 rfl rfl)
theorem dX1_bestAir_83 : decode cX1_bestAir 83 = .ok (.getfield 263, 3) := dk_180 1 7 (dk_at dksX1_bestAir_3 11 rfl rfl)
theorem dX1_bestAir_86 : decode cX1_bestAir 86 = .ok (.iload_n 1, 1) := dk_27 (dk_at dksX1_bestAir_3 14 rfl rfl)
theorem dX1_bestAir_87 : decode cX1_bestAir 87 = .ok (.iaload, 1) := dk_46 (dk_at dksX1_bestAir_3 15 rfl rfl)
theorem dX1_bestAir_88 : decode cX1_bestAir 88 = .ok (.bipush 6, 2) := dk_16 6 (dk_at dksX1_bestAir_3 16 rfl rfl)
theorem dX1_bestAir_90 : decode cX1_bestAir 90 = .ok (.if_icmp .eq 19, 3) := dk_159 0 19 (dk_at dksX1_bestAir_3 18 rfl rfl)
theorem dX1_bestAir_93 : decode cX1_bestAir 93 = .ok (.iload_n 3, 1) := dk_29 (dk_at dksX1_bestAir_3 21 rfl rfl)
theorem dX1_bestAir_94 : decode cX1_bestAir 94 = .ok (.iconst (-1), 1) := dk_2 (dk_at dksX1_bestAir_3 22 rfl rfl)
theorem dX1_bestAir_95 : decode cX1_bestAir 95 = .ok (.if_icmp .eq 10, 3) := dk_159 0 10 (dk_at dksX1_bestAir_4 0 rfl rfl)
theorem dX1_bestAir_98 : decode cX1_bestAir 98 = .ok (.iload 7, 2) := dk_21 7 (dk_at dksX1_bestAir_4 3 rfl rfl)
theorem dX1_bestAir_100 : decode cX1_bestAir 100 = .ok (.iload 4, 2) := dk_21 4 (dk_at dksX1_bestAir_4 5 rfl rfl)
theorem dX1_bestAir_102 : decode cX1_bestAir 102 = .ok (.if_icmp .ge 7, 3) := dk_162 0 7 (dk_at dksX1_bestAir_4 7 rfl rfl)
theorem dX1_bestAir_105 : decode cX1_bestAir 105 = .ok (.iconst 1, 1) := dk_4 (dk_at dksX1_bestAir_4 10 rfl rfl)
theorem dX1_bestAir_106 : decode cX1_bestAir 106 = .ok (.goto 4, 3) := dk_167 0 4 (dk_at dksX1_bestAir_4 11 rfl rfl)
theorem dX1_bestAir_109 : decode cX1_bestAir 109 = .ok (.iconst 0, 1) := dk_3 (dk_at dksX1_bestAir_4 14 rfl rfl)
theorem dX1_bestAir_110 : decode cX1_bestAir 110 = .ok (.istore 8, 2) := dk_54 8 (dk_at dksX1_bestAir_4 15 rfl rfl)
theorem dX1_bestAir_112 : decode cX1_bestAir 112 = .ok (.iload 8, 2) := dk_21 8 (dk_at dksX1_bestAir_4 17 rfl rfl)
theorem dX1_bestAir_114 : decode cX1_bestAir 114 = .ok (.ifCond .eq 8, 3) := dk_153 0 8 (dk_at dksX1_bestAir_4 19 rfl rfl)
theorem dX1_bestAir_117 : decode cX1_bestAir 117 = .ok (.iload 5, 2) := dk_21 5 (dk_at dksX1_bestAir_4 22 rfl rfl)
theorem dX1_bestAir_119 : decode cX1_bestAir 119 = .ok (.goto 4, 3) := dk_167 0 4 (dk_at dksX1_bestAir_5 0 rfl rfl)
theorem dX1_bestAir_122 : decode cX1_bestAir 122 = .ok (.iload_n 3, 1) := dk_29 (dk_at dksX1_bestAir_5 3 rfl rfl)
theorem dX1_bestAir_123 : decode cX1_bestAir 123 = .ok (.istore_n 3, 1) := dk_62 (dk_at dksX1_bestAir_5 4 rfl rfl)
theorem dX1_bestAir_124 : decode cX1_bestAir 124 = .ok (.iload 8, 2) := dk_21 8 (dk_at dksX1_bestAir_5 5 rfl rfl)
theorem dX1_bestAir_126 : decode cX1_bestAir 126 = .ok (.ifCond .eq 8, 3) := dk_153 0 8 (dk_at dksX1_bestAir_5 7 rfl rfl)
theorem dX1_bestAir_129 : decode cX1_bestAir 129 = .ok (.iload 7, 2) := dk_21 7 (dk_at dksX1_bestAir_5 10 rfl rfl)
theorem dX1_bestAir_131 : decode cX1_bestAir 131 = .ok (.goto 5, 3) := dk_167 0 5 (dk_at dksX1_bestAir_5 12 rfl rfl)
theorem dX1_bestAir_134 : decode cX1_bestAir 134 = .ok (.iload 4, 2) := dk_21 4 (dk_at dksX1_bestAir_5 15 rfl rfl)
theorem dX1_bestAir_136 : decode cX1_bestAir 136 = .ok (.istore 4, 2) := dk_54 4 (dk_at dksX1_bestAir_5 17 rfl rfl)
theorem dX1_bestAir_138 : decode cX1_bestAir 138 = .ok (.iinc 5 1, 3) := dk_132 5 1 (dk_at dksX1_bestAir_5 19 rfl rfl)
theorem dX1_bestAir_141 : decode cX1_bestAir 141 = .ok (.goto (-119), 3) := dk_167 255 137 (dk_at dksX1_bestAir_6 0 rfl rfl)
theorem dX1_bestAir_144 : decode cX1_bestAir 144 = .ok (.iload_n 3, 1) := dk_29 (dk_at dksX1_bestAir_6 3 rfl rfl)
theorem dX1_bestAir_145 : decode cX1_bestAir 145 = .ok (.ireturn, 1) := dk_172 (dk_at dksX1_bestAir_6 4 rfl rfl)
abbrev cX1_entryAt : ByteArray := prog_1_method_64_code
def yX1_entryAt : MethodName := ⟨RX1, "entryAt", "(I)I"⟩
def dkwX1_entryAt_1 : List UInt8 := [182, 1, 93, 180, 1, 97, 172]
abbrev dktX1_entryAt_1 : List UInt8 := dkwX1_entryAt_1 ++ []
def dkwX1_entryAt_0 : List UInt8 := [27, 3, 42, 182, 1, 90, 4, 100, 184, 0, 70, 184, 0, 66, 42, 180, 0, 27, 180, 1, 83, 27]
abbrev dktX1_entryAt_0 : List UInt8 := dkwX1_entryAt_0 ++ dktX1_entryAt_1
theorem dksX1_entryAt_0 : cX1_entryAt.data.toList.drop 0 = dktX1_entryAt_0 := by decide +kernel
theorem dksX1_entryAt_1 : cX1_entryAt.data.toList.drop 22 = dktX1_entryAt_1 := dk_seg dksX1_entryAt_0 22 rfl rfl
theorem dX1_entryAt_0 : decode cX1_entryAt 0 = .ok (.iload_n 1, 1) := dk_27 (dk_at dksX1_entryAt_0 0 rfl rfl)
theorem dX1_entryAt_1 : decode cX1_entryAt 1 = .ok (.iconst 0, 1) := dk_3 (dk_at dksX1_entryAt_0 1 rfl rfl)
theorem dX1_entryAt_2 : decode cX1_entryAt 2 = .ok (.aload_n 0, 1) := dk_42 (dk_at dksX1_entryAt_0 2 rfl rfl)
theorem dX1_entryAt_3 : decode cX1_entryAt 3 = .ok (.invokevirtual 346, 3) := dk_182 1 90 (dk_at dksX1_entryAt_0 3 rfl rfl)
theorem dX1_entryAt_6 : decode cX1_entryAt 6 = .ok (.iconst 1, 1) := dk_4 (dk_at dksX1_entryAt_0 6 rfl rfl)
theorem dX1_entryAt_7 : decode cX1_entryAt 7 = .ok (.isub, 1) := dk_100 (dk_at dksX1_entryAt_0 7 rfl rfl)
theorem dX1_entryAt_8 : decode cX1_entryAt 8 = .ok (.invokestatic 70, 3) := dk_184 0 70 (dk_at dksX1_entryAt_0 8 rfl rfl)
theorem dX1_entryAt_11 : decode cX1_entryAt 11 = .ok (.invokestatic 66, 3) := dk_184 0 66 (dk_at dksX1_entryAt_0 11 rfl rfl)
theorem dX1_entryAt_14 : decode cX1_entryAt 14 = .ok (.aload_n 0, 1) := dk_42 (dk_at dksX1_entryAt_0 14 rfl rfl)
theorem dX1_entryAt_15 : decode cX1_entryAt 15 = .ok (.getfield 27, 3) := dk_180 0 27 (dk_at dksX1_entryAt_0 15 rfl rfl)
theorem dX1_entryAt_18 : decode cX1_entryAt 18 = .ok (.getfield 339, 3) := dk_180 1 83 (dk_at dksX1_entryAt_0 18 rfl rfl)
theorem dX1_entryAt_21 : decode cX1_entryAt 21 = .ok (.iload_n 1, 1) := dk_27 (dk_at dksX1_entryAt_0 21 rfl rfl)
theorem dX1_entryAt_22 : decode cX1_entryAt 22 = .ok (.invokevirtual 349, 3) := dk_182 1 93 (dk_at dksX1_entryAt_1 0 rfl rfl)
theorem dX1_entryAt_25 : decode cX1_entryAt 25 = .ok (.getfield 353, 3) := dk_180 1 97 (dk_at dksX1_entryAt_1 3 rfl rfl)
theorem dX1_entryAt_28 : decode cX1_entryAt 28 = .ok (.ireturn, 1) := dk_172 (dk_at dksX1_entryAt_1 6 rfl rfl)
theorem q65 : (Jvm.Cond.initialized "MaltDrums") ∈ lw_all := lw_g (lw_at lw_m1 1 rfl) rfl
theorem q102 : (Jvm.Cond.instantiable "MaltDrums" (4 : Nat)) ∈ lw_all := lw_g (lw_at lw_m1 38 rfl) rfl
theorem q104 : (Jvm.Cond.instanceMethod ({ cls := "MaltDrums", name := "<init>", desc := "()V" } : Jvm.MethodName)) ∈ lw_all := lw_g (lw_at lw_m1 40 rfl) rfl
theorem q105 : (Jvm.Cond.code ({ cls := "MaltDrums", name := "<init>", desc := "()V" } : Jvm.MethodName) prog_1_method_5_code (1 : Nat) (Option.none : Option Jvm.ClassFile.FieldType)) ∈ lw_all := lw_g (lw_at lw_m1 41 rfl) rfl
theorem q106 : (Jvm.Cond.methodLink "MaltDrums" (19 : Nat) ({ cls := "java/lang/Object", name := "<init>", desc := "()V" } : Jvm.MethodName)) ∈ lw_all := lw_g (lw_at lw_m1 42 rfl) rfl
theorem q109 : (Jvm.Cond.classLink "MaltDrums" (24 : Nat) "MaltDrums$House") ∈ lw_all := lw_g (lw_at lw_m1 45 rfl) rfl
theorem q111 : (Jvm.Cond.methodLink "MaltDrums" (26 : Nat) ({ cls := "MaltDrums$House", name := "<init>", desc := "()V" } : Jvm.MethodName)) ∈ lw_all := lw_g (lw_at lw_m1 47 rfl) rfl
theorem q141 : (Jvm.Cond.fieldLinkNest "MaltDrums" (304 : Nat) "MaltDrums$Drum" "lot" "I" "MaltDrums") ∈ lw_tbl := lw_at lw_m1 77 rfl
theorem q143 : (Jvm.Cond.fieldLinkNest "MaltDrums" (143 : Nat) "MaltDrums$Drum" "air" "I" "MaltDrums") ∈ lw_tbl := lw_at lw_m1 79 rfl
theorem q145 : (Jvm.Cond.fieldLinkNest "MaltDrums" (148 : Nat) "MaltDrums$Drum" "dew" "I" "MaltDrums") ∈ lw_tbl := lw_at lw_m1 81 rfl
theorem q147 : (Jvm.Cond.fieldLinkNest "MaltDrums" (151 : Nat) "MaltDrums$Drum" "turn" "I" "MaltDrums") ∈ lw_tbl := lw_at lw_m1 83 rfl
theorem q158 : (Jvm.Cond.fieldLinkNest "MaltDrums" (270 : Nat) "MaltDrums$House" "kernels" "[I" "MaltDrums") ∈ lw_tbl := lw_at lw_m1 94 rfl
theorem q160 : (Jvm.Cond.fieldLinkNest "MaltDrums" (273 : Nat) "MaltDrums$House" "rootlets" "[I" "MaltDrums") ∈ lw_tbl := lw_at lw_m1 96 rfl
theorem q162 : (Jvm.Cond.fieldLinkNest "MaltDrums" (276 : Nat) "MaltDrums$House" "wets" "[I" "MaltDrums") ∈ lw_tbl := lw_at lw_m1 98 rfl
theorem q164 : (Jvm.Cond.fieldLinkNest "MaltDrums" (279 : Nat) "MaltDrums$House" "growths" "[I" "MaltDrums") ∈ lw_tbl := lw_at lw_m1 100 rfl
theorem q166 : (Jvm.Cond.fieldLinkNest "MaltDrums" (282 : Nat) "MaltDrums$House" "heats" "[I" "MaltDrums") ∈ lw_tbl := lw_at lw_m1 102 rfl
theorem q168 : (Jvm.Cond.fieldLinkNest "MaltDrums" (285 : Nat) "MaltDrums$House" "felts" "[I" "MaltDrums") ∈ lw_tbl := lw_at lw_m1 104 rfl
theorem q170 : (Jvm.Cond.fieldLinkNest "MaltDrums" (263 : Nat) "MaltDrums$House" "places" "[I" "MaltDrums") ∈ lw_tbl := lw_at lw_m1 106 rfl
theorem q172 : (Jvm.Cond.fieldLinkNest "MaltDrums" (139 : Nat) "MaltDrums$House" "drums" "[LMaltDrums$Drum;" "MaltDrums") ∈ lw_tbl := lw_at lw_m1 108 rfl
theorem q175 : (Jvm.Cond.fieldLinkNest "MaltDrums" (339 : Nat) "MaltDrums$House" "book" "LMaltDrums$Entry;" "MaltDrums") ∈ lw_tbl := lw_at lw_m1 111 rfl
theorem q177 : (Jvm.Cond.fieldLinkNest "MaltDrums" (288 : Nat) "MaltDrums$House" "glassy" "I" "MaltDrums") ∈ lw_tbl := lw_at lw_m1 113 rfl
theorem q179 : (Jvm.Cond.fieldLinkNest "MaltDrums" (77 : Nat) "MaltDrums$House" "lots" "I" "MaltDrums") ∈ lw_tbl := lw_at lw_m1 115 rfl
theorem q181 : (Jvm.Cond.fieldLinkNest "MaltDrums" (260 : Nat) "MaltDrums$House" "time" "I" "MaltDrums") ∈ lw_tbl := lw_at lw_m1 117 rfl
theorem q183 : (Jvm.Cond.fieldLinkNest "MaltDrums" (154 : Nat) "MaltDrums$House" "isLit" "Z" "MaltDrums") ∈ lw_tbl := lw_at lw_m1 119 rfl
theorem q185 : (Jvm.Cond.fieldLinkNest "MaltDrums" (307 : Nat) "MaltDrums$House" "litFor" "I" "MaltDrums") ∈ lw_tbl := lw_at lw_m1 121 rfl
theorem q187 : (Jvm.Cond.fieldLinkNest "MaltDrums" (158 : Nat) "MaltDrums$House" "low" "I" "MaltDrums") ∈ lw_tbl := lw_at lw_m1 123 rfl
theorem q189 : (Jvm.Cond.fieldLinkNest "MaltDrums" (161 : Nat) "MaltDrums$House" "high" "I" "MaltDrums") ∈ lw_tbl := lw_at lw_m1 125 rfl
theorem q191 : (Jvm.Cond.fieldLinkNest "MaltDrums" (164 : Nat) "MaltDrums$House" "daily" "I" "MaltDrums") ∈ lw_tbl := lw_at lw_m1 127 rfl
theorem q193 : (Jvm.Cond.fieldLinkNest "MaltDrums" (313 : Nat) "MaltDrums$House" "left" "I" "MaltDrums") ∈ lw_tbl := lw_at lw_m1 129 rfl
theorem q195 : (Jvm.Cond.fieldLinkNest "MaltDrums" (356 : Nat) "MaltDrums$House" "steeped" "I" "MaltDrums") ∈ lw_tbl := lw_at lw_m1 131 rfl
theorem q197 : (Jvm.Cond.fieldLinkNest "MaltDrums" (374 : Nat) "MaltDrums$House" "breathed" "I" "MaltDrums") ∈ lw_tbl := lw_at lw_m1 133 rfl
theorem q199 : (Jvm.Cond.fieldLinkNest "MaltDrums" (376 : Nat) "MaltDrums$House" "sprays" "I" "MaltDrums") ∈ lw_tbl := lw_at lw_m1 135 rfl
theorem q245 : (Jvm.Cond.classLink "MaltDrums" (33 : Nat) "java/util/ArrayDeque") ∈ lw_all := lw_g (lw_at lw_m1 181 rfl) rfl
theorem q247 : (Jvm.Cond.methodLink "MaltDrums" (35 : Nat) ({ cls := "java/util/ArrayDeque", name := "<init>", desc := "()V" } : Jvm.MethodName)) ∈ lw_all := lw_g (lw_at lw_m1 183 rfl) rfl
theorem q266 : (Jvm.Cond.classLink "MaltDrums" (40 : Nat) "java/lang/StringBuilder") ∈ lw_all := lw_g (lw_at lw_m1 202 rfl) rfl
theorem q268 : (Jvm.Cond.methodLink "MaltDrums" (42 : Nat) ({ cls := "java/lang/StringBuilder", name := "<init>", desc := "()V" } : Jvm.MethodName)) ∈ lw_all := lw_g (lw_at lw_m1 204 rfl) rfl
theorem q299 : (Jvm.Cond.fieldLink "MaltDrums" (27 : Nat) "MaltDrums" "house" "LMaltDrums$House;") ∈ lw_all := lw_g (lw_at lw_m1 235 rfl) rfl
theorem q300 : (Jvm.Cond.fieldLink "MaltDrums" (257 : Nat) "MaltDrums" "snapshot" "LMaltDrums$House;") ∈ lw_all := lw_g (lw_at lw_m1 236 rfl) rfl
theorem q301 : (Jvm.Cond.fieldLink "MaltDrums" (36 : Nat) "MaltDrums" "saved" "Ljava/util/ArrayDeque;") ∈ lw_all := lw_g (lw_at lw_m1 237 rfl) rfl
theorem q303 : (Jvm.Cond.fieldLink "MaltDrums" (43 : Nat) "MaltDrums" "text" "Ljava/lang/StringBuilder;") ∈ lw_all := lw_g (lw_at lw_m1 239 rfl) rfl
theorem q304 : (Jvm.Cond.lays "MaltDrums" "MaltDrums" "house" "LMaltDrums$House;") ∈ lw_all := lw_g (lw_at lw_m2 0 rfl) rfl
theorem q305 : (Jvm.Cond.soleField "MaltDrums" "house") ∈ lw_all := lw_g (lw_at lw_m2 1 rfl) rfl
theorem q306 : (Jvm.Cond.lays "MaltDrums" "MaltDrums" "snapshot" "LMaltDrums$House;") ∈ lw_all := lw_g (lw_at lw_m2 2 rfl) rfl
theorem q307 : (Jvm.Cond.soleField "MaltDrums" "snapshot") ∈ lw_all := lw_g (lw_at lw_m2 3 rfl) rfl
theorem q308 : (Jvm.Cond.laysFinal "MaltDrums" "MaltDrums" "saved" "Ljava/util/ArrayDeque;") ∈ lw_all := lw_g (lw_at lw_m2 4 rfl) rfl
theorem q309 : (Jvm.Cond.soleField "MaltDrums" "saved") ∈ lw_all := lw_g (lw_at lw_m2 5 rfl) rfl
theorem q310 : (Jvm.Cond.laysFinal "MaltDrums" "MaltDrums" "text" "Ljava/lang/StringBuilder;") ∈ lw_all := lw_g (lw_at lw_m2 6 rfl) rfl
theorem q311 : (Jvm.Cond.soleField "MaltDrums" "text") ∈ lw_all := lw_g (lw_at lw_m2 7 rfl) rfl
theorem q312 : (Jvm.Cond.superclass "MaltDrums" "java/lang/Object") ∈ lw_all := lw_g (lw_at lw_m2 8 rfl) rfl
theorem q314 : (Jvm.Cond.instanceMethod ({ cls := "MaltDrums", name := "clearText", desc := "()I" } : Jvm.MethodName)) ∈ lw_all := lw_g (lw_at lw_m2 10 rfl) rfl
theorem q315 : (Jvm.Cond.selects "MaltDrums" ({ cls := "MaltDrums", name := "clearText", desc := "()I" } : Jvm.MethodName) ({ cls := "MaltDrums", name := "clearText", desc := "()I" } : Jvm.MethodName)) ∈ lw_all := lw_g (lw_at lw_m2 11 rfl) rfl
theorem q316 : (Jvm.Cond.code ({ cls := "MaltDrums", name := "clearText", desc := "()I" } : Jvm.MethodName) prog_1_method_24_code (2 : Nat) (Option.some Jvm.ClassFile.FieldType.int)) ∈ lw_all := lw_g (lw_at lw_m2 12 rfl) rfl
theorem q317 : (Jvm.Cond.methodLink "MaltDrums" (170 : Nat) ({ cls := "java/lang/StringBuilder", name := "length", desc := "()I" } : Jvm.MethodName)) ∈ lw_all := lw_g (lw_at lw_m2 13 rfl) rfl
theorem q324 : (Jvm.Cond.methodLink "MaltDrums" (177 : Nat) ({ cls := "java/lang/StringBuilder", name := "setLength", desc := "(I)V" } : Jvm.MethodName)) ∈ lw_all := lw_g (lw_at lw_m2 20 rfl) rfl
theorem q665 : (Jvm.Cond.instanceMethod ({ cls := "MaltDrums", name := "fault", desc := "()I" } : Jvm.MethodName)) ∈ lw_all := lw_g (lw_at lw_m3 121 rfl) rfl
theorem q666 : (Jvm.Cond.selects "MaltDrums" ({ cls := "MaltDrums", name := "fault", desc := "()I" } : Jvm.MethodName) ({ cls := "MaltDrums", name := "fault", desc := "()I" } : Jvm.MethodName)) ∈ lw_all := lw_g (lw_at lw_m3 122 rfl) rfl
theorem q667 : (Jvm.Cond.codeWith ({ cls := "MaltDrums", name := "fault", desc := "()I" } : Jvm.MethodName) prog_1_method_25_code (3 : Nat) (Option.some Jvm.ClassFile.FieldType.int) [((9 : Nat), (14 : Nat), (17 : Nat), (189 : Nat))]) ∈ lw_all := lw_g (lw_at lw_m3 123 rfl) rfl
theorem q668 : (Jvm.Cond.classLink "MaltDrums" (189 : Nat) "MaltDrums$Misspelled") ∈ lw_all := lw_g (lw_at lw_m3 124 rfl) rfl
theorem q669 : (Jvm.Cond.classLink "MaltDrums" (180 : Nat) "MaltDrums$Reader") ∈ lw_all := lw_g (lw_at lw_m3 125 rfl) rfl
theorem q671 : (Jvm.Cond.methodLinkNest "MaltDrums" (182 : Nat) ({ cls := "MaltDrums$Reader", name := "<init>", desc := "(LMaltDrums;)V" } : Jvm.MethodName) "MaltDrums") ∈ lw_tbl := lw_at lw_m3 127 rfl
theorem q677 : (Jvm.Cond.fieldLinkNest "MaltDrums" (191 : Nat) "MaltDrums$Reader" "fault" "I" "MaltDrums") ∈ lw_tbl := lw_at lw_m3 133 rfl
theorem q686 : (Jvm.Cond.methodLink "MaltDrums" (185 : Nat) ({ cls := "MaltDrums$Reader", name := "orders", desc := "()Ljava/util/List;" } : Jvm.MethodName)) ∈ lw_all := lw_g (lw_at lw_m3 142 rfl) rfl
theorem q856 : (Jvm.Cond.static ({ cls := "MaltDrums", name := "isWithin", desc := "(III)Z" } : Jvm.MethodName)) ∈ lw_all := lw_g (lw_at lw_m4 72 rfl) rfl
theorem q857 : (Jvm.Cond.code ({ cls := "MaltDrums", name := "isWithin", desc := "(III)Z" } : Jvm.MethodName) prog_1_method_1_code (3 : Nat) (Option.some Jvm.ClassFile.FieldType.boolean)) ∈ lw_all := lw_g (lw_at lw_m4 73 rfl) rfl
theorem q929 : (Jvm.Cond.selects "MaltDrums" ({ cls := "java/lang/Object", name := "getClass", desc := "()Ljava/lang/Class;" } : Jvm.MethodName) ({ cls := "java/lang/Object", name := "getClass", desc := "()Ljava/lang/Class;" } : Jvm.MethodName)) ∈ lw_all := lw_g (lw_at lw_m4 145 rfl) rfl
theorem q957 : (Jvm.Cond.instanceMethod ({ cls := "MaltDrums", name := "savedStates", desc := "()I" } : Jvm.MethodName)) ∈ lw_all := lw_g (lw_at lw_m4 173 rfl) rfl
theorem q958 : (Jvm.Cond.selects "MaltDrums" ({ cls := "MaltDrums", name := "savedStates", desc := "()I" } : Jvm.MethodName) ({ cls := "MaltDrums", name := "savedStates", desc := "()I" } : Jvm.MethodName)) ∈ lw_all := lw_g (lw_at lw_m4 174 rfl) rfl
theorem q959 : (Jvm.Cond.code ({ cls := "MaltDrums", name := "savedStates", desc := "()I" } : Jvm.MethodName) prog_1_method_30_code (1 : Nat) (Option.some Jvm.ClassFile.FieldType.int)) ∈ lw_all := lw_g (lw_at lw_m4 175 rfl) rfl
theorem q960 : (Jvm.Cond.methodLink "MaltDrums" (47 : Nat) ({ cls := "java/util/ArrayDeque", name := "size", desc := "()I" } : Jvm.MethodName)) ∈ lw_all := lw_g (lw_at lw_m4 176 rfl) rfl
theorem q968 : (Jvm.Cond.instanceMethod ({ cls := "MaltDrums", name := "keep", desc := "()I" } : Jvm.MethodName)) ∈ lw_all := lw_g (lw_at lw_m4 184 rfl) rfl
theorem q969 : (Jvm.Cond.selects "MaltDrums" ({ cls := "MaltDrums", name := "keep", desc := "()I" } : Jvm.MethodName) ({ cls := "MaltDrums", name := "keep", desc := "()I" } : Jvm.MethodName)) ∈ lw_all := lw_g (lw_at lw_m4 185 rfl) rfl
theorem q970 : (Jvm.Cond.code ({ cls := "MaltDrums", name := "keep", desc := "()I" } : Jvm.MethodName) prog_1_method_31_code (1 : Nat) (Option.some Jvm.ClassFile.FieldType.int)) ∈ lw_all := lw_g (lw_at lw_m4 186 rfl) rfl
theorem q971 : (Jvm.Cond.methodLink "MaltDrums" (59 : Nat) ({ cls := "MaltDrums$House", name := "<init>", desc := "(LMaltDrums$House;)V" } : Jvm.MethodName)) ∈ lw_all := lw_g (lw_at lw_m4 187 rfl) rfl
theorem q978 : (Jvm.Cond.instanceMethod ({ cls := "MaltDrums", name := "lots", desc := "()I" } : Jvm.MethodName)) ∈ lw_all := lw_g (lw_at lw_m4 194 rfl) rfl
theorem q979 : (Jvm.Cond.selects "MaltDrums" ({ cls := "MaltDrums", name := "lots", desc := "()I" } : Jvm.MethodName) ({ cls := "MaltDrums", name := "lots", desc := "()I" } : Jvm.MethodName)) ∈ lw_all := lw_g (lw_at lw_m4 195 rfl) rfl
theorem q980 : (Jvm.Cond.code ({ cls := "MaltDrums", name := "lots", desc := "()I" } : Jvm.MethodName) prog_1_method_33_code (1 : Nat) (Option.some Jvm.ClassFile.FieldType.int)) ∈ lw_all := lw_g (lw_at lw_m4 196 rfl) rfl
theorem q982 : (Jvm.Cond.instanceMethod ({ cls := "MaltDrums", name := "isLit", desc := "()Z" } : Jvm.MethodName)) ∈ lw_all := lw_g (lw_at lw_m4 198 rfl) rfl
theorem q983 : (Jvm.Cond.selects "MaltDrums" ({ cls := "MaltDrums", name := "isLit", desc := "()Z" } : Jvm.MethodName) ({ cls := "MaltDrums", name := "isLit", desc := "()Z" } : Jvm.MethodName)) ∈ lw_all := lw_g (lw_at lw_m4 199 rfl) rfl
theorem q984 : (Jvm.Cond.code ({ cls := "MaltDrums", name := "isLit", desc := "()Z" } : Jvm.MethodName) prog_1_method_48_code (1 : Nat) (Option.some Jvm.ClassFile.FieldType.boolean)) ∈ lw_all := lw_g (lw_at lw_m4 200 rfl) rfl
theorem q986 : (Jvm.Cond.instanceMethod ({ cls := "MaltDrums", name := "litFor", desc := "()I" } : Jvm.MethodName)) ∈ lw_all := lw_g (lw_at lw_m4 202 rfl) rfl
theorem q987 : (Jvm.Cond.selects "MaltDrums" ({ cls := "MaltDrums", name := "litFor", desc := "()I" } : Jvm.MethodName) ({ cls := "MaltDrums", name := "litFor", desc := "()I" } : Jvm.MethodName)) ∈ lw_all := lw_g (lw_at lw_m4 203 rfl) rfl
theorem q988 : (Jvm.Cond.code ({ cls := "MaltDrums", name := "litFor", desc := "()I" } : Jvm.MethodName) prog_1_method_49_code (1 : Nat) (Option.some Jvm.ClassFile.FieldType.int)) ∈ lw_all := lw_g (lw_at lw_m4 204 rfl) rfl
theorem q990 : (Jvm.Cond.instanceMethod ({ cls := "MaltDrums", name := "charge", desc := "()I" } : Jvm.MethodName)) ∈ lw_all := lw_g (lw_at lw_m4 206 rfl) rfl
theorem q991 : (Jvm.Cond.selects "MaltDrums" ({ cls := "MaltDrums", name := "charge", desc := "()I" } : Jvm.MethodName) ({ cls := "MaltDrums", name := "charge", desc := "()I" } : Jvm.MethodName)) ∈ lw_all := lw_g (lw_at lw_m4 207 rfl) rfl
theorem q992 : (Jvm.Cond.code ({ cls := "MaltDrums", name := "charge", desc := "()I" } : Jvm.MethodName) prog_1_method_50_code (1 : Nat) (Option.some Jvm.ClassFile.FieldType.int)) ∈ lw_all := lw_g (lw_at lw_m4 208 rfl) rfl
theorem q993 : (Jvm.Cond.methodLink "MaltDrums" (310 : Nat) ({ cls := "MaltDrums$House", name := "weightIn", desc := "(I)I" } : Jvm.MethodName)) ∈ lw_all := lw_g (lw_at lw_m4 209 rfl) rfl
theorem q1002 : (Jvm.Cond.instanceMethod ({ cls := "MaltDrums", name := "spraysLeft", desc := "()I" } : Jvm.MethodName)) ∈ lw_all := lw_g (lw_at lw_m4 218 rfl) rfl
theorem q1003 : (Jvm.Cond.selects "MaltDrums" ({ cls := "MaltDrums", name := "spraysLeft", desc := "()I" } : Jvm.MethodName) ({ cls := "MaltDrums", name := "spraysLeft", desc := "()I" } : Jvm.MethodName)) ∈ lw_all := lw_g (lw_at lw_m4 219 rfl) rfl
theorem q1004 : (Jvm.Cond.code ({ cls := "MaltDrums", name := "spraysLeft", desc := "()I" } : Jvm.MethodName) prog_1_method_51_code (1 : Nat) (Option.some Jvm.ClassFile.FieldType.int)) ∈ lw_all := lw_g (lw_at lw_m4 220 rfl) rfl
theorem q1006 : (Jvm.Cond.instanceMethod ({ cls := "MaltDrums", name := "hoursToDry", desc := "(Z)I" } : Jvm.MethodName)) ∈ lw_all := lw_g (lw_at lw_m4 222 rfl) rfl
theorem q1007 : (Jvm.Cond.selects "MaltDrums" ({ cls := "MaltDrums", name := "hoursToDry", desc := "(Z)I" } : Jvm.MethodName) ({ cls := "MaltDrums", name := "hoursToDry", desc := "(Z)I" } : Jvm.MethodName)) ∈ lw_all := lw_g (lw_at lw_m4 223 rfl) rfl
theorem q1008 : (Jvm.Cond.code ({ cls := "MaltDrums", name := "hoursToDry", desc := "(Z)I" } : Jvm.MethodName) prog_1_method_61_code (2 : Nat) (Option.some Jvm.ClassFile.FieldType.int)) ∈ lw_all := lw_g (lw_at lw_m4 224 rfl) rfl
theorem q1009 : (Jvm.Cond.methodLink "MaltDrums" (294 : Nat) ({ cls := "MaltDrums$House", name := "set", desc := "(I)I" } : Jvm.MethodName)) ∈ lw_all := lw_g (lw_at lw_m4 225 rfl) rfl
theorem q1013 : (Jvm.Cond.methodLink "MaltDrums" (330 : Nat) ({ cls := "MaltDrums", name := "dryByFormula", desc := "()I" } : Jvm.MethodName)) ∈ lw_all := lw_g (lw_at lw_m4 229 rfl) rfl
theorem q1014 : (Jvm.Cond.privateMethod ({ cls := "MaltDrums", name := "dryByFormula", desc := "()I" } : Jvm.MethodName)) ∈ lw_tbl := lw_at lw_m4 230 rfl
theorem q1015 : (Jvm.Cond.instanceMethod ({ cls := "MaltDrums", name := "dryByFormula", desc := "()I" } : Jvm.MethodName)) ∈ lw_all := lw_g (lw_at lw_m4 231 rfl) rfl
theorem q1016 : (Jvm.Cond.code ({ cls := "MaltDrums", name := "dryByFormula", desc := "()I" } : Jvm.MethodName) prog_1_method_59_code (5 : Nat) (Option.some Jvm.ClassFile.FieldType.int)) ∈ lw_all := lw_g (lw_at lw_m4 232 rfl) rfl
theorem q1017 : (Jvm.Cond.methodLink "MaltDrums" (319 : Nat) ({ cls := "java/lang/Math", name := "max", desc := "(II)I" } : Jvm.MethodName)) ∈ lw_all := lw_g (lw_at lw_m4 233 rfl) rfl
theorem q1018 : (Jvm.Cond.methodLink "MaltDrums" (324 : Nat) ({ cls := "MaltDrums", name := "hoursFor", desc := "(II)I" } : Jvm.MethodName)) ∈ lw_all := lw_g (lw_at lw_m4 234 rfl) rfl
theorem q1019 : (Jvm.Cond.static ({ cls := "MaltDrums", name := "hoursFor", desc := "(II)I" } : Jvm.MethodName)) ∈ lw_all := lw_g (lw_at lw_m4 235 rfl) rfl
theorem q1020 : (Jvm.Cond.code ({ cls := "MaltDrums", name := "hoursFor", desc := "(II)I" } : Jvm.MethodName) prog_1_method_58_code (2 : Nat) (Option.some Jvm.ClassFile.FieldType.int)) ∈ lw_all := lw_g (lw_at lw_m4 236 rfl) rfl
theorem q1021 : (Jvm.Cond.methodLink "MaltDrums" (327 : Nat) ({ cls := "java/lang/Math", name := "min", desc := "(II)I" } : Jvm.MethodName)) ∈ lw_all := lw_g (lw_at lw_m4 237 rfl) rfl
theorem q1022 : (Jvm.Cond.methodLink "MaltDrums" (333 : Nat) ({ cls := "MaltDrums", name := "dryByPlaying", desc := "()I" } : Jvm.MethodName)) ∈ lw_all := lw_g (lw_at lw_m4 238 rfl) rfl
theorem q1023 : (Jvm.Cond.privateMethod ({ cls := "MaltDrums", name := "dryByPlaying", desc := "()I" } : Jvm.MethodName)) ∈ lw_tbl := lw_at lw_m4 239 rfl
theorem q1024 : (Jvm.Cond.instanceMethod ({ cls := "MaltDrums", name := "dryByPlaying", desc := "()I" } : Jvm.MethodName)) ∈ lw_all := lw_g (lw_at lw_m5 0 rfl) rfl
theorem q1025 : (Jvm.Cond.code ({ cls := "MaltDrums", name := "dryByPlaying", desc := "()I" } : Jvm.MethodName) prog_1_method_60_code (4 : Nat) (Option.some Jvm.ClassFile.FieldType.int)) ∈ lw_all := lw_g (lw_at lw_m5 1 rfl) rfl
theorem q1026 : (Jvm.Cond.methodLink "MaltDrums" (316 : Nat) ({ cls := "MaltDrums$House", name := "hour", desc := "()I" } : Jvm.MethodName)) ∈ lw_all := lw_g (lw_at lw_m5 2 rfl) rfl
theorem q1141 : (Jvm.Cond.fieldLinkNest "MaltDrums" (353 : Nat) "MaltDrums$Entry" "told" "I" "MaltDrums") ∈ lw_tbl := lw_at lw_m5 117 rfl
theorem q1162 : (Jvm.Cond.instanceMethod ({ cls := "MaltDrums", name := "entries", desc := "()I" } : Jvm.MethodName)) ∈ lw_all := lw_g (lw_at lw_m5 138 rfl) rfl
theorem q1163 : (Jvm.Cond.selects "MaltDrums" ({ cls := "MaltDrums", name := "entries", desc := "()I" } : Jvm.MethodName) ({ cls := "MaltDrums", name := "entries", desc := "()I" } : Jvm.MethodName)) ∈ lw_all := lw_g (lw_at lw_m5 139 rfl) rfl
theorem q1164 : (Jvm.Cond.code ({ cls := "MaltDrums", name := "entries", desc := "()I" } : Jvm.MethodName) prog_1_method_63_code (1 : Nat) (Option.some Jvm.ClassFile.FieldType.int)) ∈ lw_all := lw_g (lw_at lw_m5 140 rfl) rfl
theorem q1165 : (Jvm.Cond.methodLink "MaltDrums" (343 : Nat) ({ cls := "MaltDrums$Entry", name := "size", desc := "()I" } : Jvm.MethodName)) ∈ lw_all := lw_g (lw_at lw_m5 141 rfl) rfl
theorem q1171 : (Jvm.Cond.instanceMethod ({ cls := "MaltDrums", name := "time", desc := "()I" } : Jvm.MethodName)) ∈ lw_all := lw_g (lw_at lw_m5 147 rfl) rfl
theorem q1172 : (Jvm.Cond.selects "MaltDrums" ({ cls := "MaltDrums", name := "time", desc := "()I" } : Jvm.MethodName) ({ cls := "MaltDrums", name := "time", desc := "()I" } : Jvm.MethodName)) ∈ lw_all := lw_g (lw_at lw_m5 148 rfl) rfl
theorem q1173 : (Jvm.Cond.code ({ cls := "MaltDrums", name := "time", desc := "()I" } : Jvm.MethodName) prog_1_method_65_code (1 : Nat) (Option.some Jvm.ClassFile.FieldType.int)) ∈ lw_all := lw_g (lw_at lw_m5 149 rfl) rfl
theorem q1175 : (Jvm.Cond.instanceMethod ({ cls := "MaltDrums", name := "steeped", desc := "(Z)I" } : Jvm.MethodName)) ∈ lw_all := lw_g (lw_at lw_m5 151 rfl) rfl
theorem q1176 : (Jvm.Cond.selects "MaltDrums" ({ cls := "MaltDrums", name := "steeped", desc := "(Z)I" } : Jvm.MethodName) ({ cls := "MaltDrums", name := "steeped", desc := "(Z)I" } : Jvm.MethodName)) ∈ lw_all := lw_g (lw_at lw_m5 152 rfl) rfl
theorem q1177 : (Jvm.Cond.code ({ cls := "MaltDrums", name := "steeped", desc := "(Z)I" } : Jvm.MethodName) prog_1_method_67_code (4 : Nat) (Option.some Jvm.ClassFile.FieldType.int)) ∈ lw_all := lw_g (lw_at lw_m5 153 rfl) rfl
theorem q1178 : (Jvm.Cond.methodLink "MaltDrums" (359 : Nat) ({ cls := "MaltDrums", name := "malt", desc := "()I" } : Jvm.MethodName)) ∈ lw_all := lw_g (lw_at lw_m5 154 rfl) rfl
theorem q1179 : (Jvm.Cond.instanceMethod ({ cls := "MaltDrums", name := "malt", desc := "()I" } : Jvm.MethodName)) ∈ lw_all := lw_g (lw_at lw_m5 155 rfl) rfl
theorem q1180 : (Jvm.Cond.selects "MaltDrums" ({ cls := "MaltDrums", name := "malt", desc := "()I" } : Jvm.MethodName) ({ cls := "MaltDrums", name := "malt", desc := "()I" } : Jvm.MethodName)) ∈ lw_all := lw_g (lw_at lw_m5 156 rfl) rfl
theorem q1181 : (Jvm.Cond.code ({ cls := "MaltDrums", name := "malt", desc := "()I" } : Jvm.MethodName) prog_1_method_68_code (1 : Nat) (Option.some Jvm.ClassFile.FieldType.int)) ∈ lw_all := lw_g (lw_at lw_m5 157 rfl) rfl
theorem q1182 : (Jvm.Cond.methodLink "MaltDrums" (371 : Nat) ({ cls := "MaltDrums", name := "kernelsIn", desc := "(I)I" } : Jvm.MethodName)) ∈ lw_all := lw_g (lw_at lw_m5 158 rfl) rfl
theorem q1183 : (Jvm.Cond.privateMethod ({ cls := "MaltDrums", name := "kernelsIn", desc := "(I)I" } : Jvm.MethodName)) ∈ lw_tbl := lw_at lw_m5 159 rfl
theorem q1184 : (Jvm.Cond.instanceMethod ({ cls := "MaltDrums", name := "kernelsIn", desc := "(I)I" } : Jvm.MethodName)) ∈ lw_all := lw_g (lw_at lw_m5 160 rfl) rfl
theorem q1185 : (Jvm.Cond.code ({ cls := "MaltDrums", name := "kernelsIn", desc := "(I)I" } : Jvm.MethodName) prog_1_method_66_code (4 : Nat) (Option.some Jvm.ClassFile.FieldType.int)) ∈ lw_all := lw_g (lw_at lw_m5 161 rfl) rfl
theorem q1186 : (Jvm.Cond.methodLink "MaltDrums" (362 : Nat) ({ cls := "MaltDrums", name := "culms", desc := "()I" } : Jvm.MethodName)) ∈ lw_all := lw_g (lw_at lw_m5 162 rfl) rfl
theorem q1187 : (Jvm.Cond.instanceMethod ({ cls := "MaltDrums", name := "culms", desc := "()I" } : Jvm.MethodName)) ∈ lw_all := lw_g (lw_at lw_m5 163 rfl) rfl
theorem q1188 : (Jvm.Cond.selects "MaltDrums" ({ cls := "MaltDrums", name := "culms", desc := "()I" } : Jvm.MethodName) ({ cls := "MaltDrums", name := "culms", desc := "()I" } : Jvm.MethodName)) ∈ lw_all := lw_g (lw_at lw_m5 164 rfl) rfl
theorem q1189 : (Jvm.Cond.code ({ cls := "MaltDrums", name := "culms", desc := "()I" } : Jvm.MethodName) prog_1_method_69_code (1 : Nat) (Option.some Jvm.ClassFile.FieldType.int)) ∈ lw_all := lw_g (lw_at lw_m5 165 rfl) rfl
theorem q1190 : (Jvm.Cond.methodLink "MaltDrums" (365 : Nat) ({ cls := "MaltDrums", name := "spoilt", desc := "()I" } : Jvm.MethodName)) ∈ lw_all := lw_g (lw_at lw_m5 166 rfl) rfl
theorem q1191 : (Jvm.Cond.instanceMethod ({ cls := "MaltDrums", name := "spoilt", desc := "()I" } : Jvm.MethodName)) ∈ lw_all := lw_g (lw_at lw_m5 167 rfl) rfl
theorem q1192 : (Jvm.Cond.selects "MaltDrums" ({ cls := "MaltDrums", name := "spoilt", desc := "()I" } : Jvm.MethodName) ({ cls := "MaltDrums", name := "spoilt", desc := "()I" } : Jvm.MethodName)) ∈ lw_all := lw_g (lw_at lw_m5 168 rfl) rfl
theorem q1193 : (Jvm.Cond.code ({ cls := "MaltDrums", name := "spoilt", desc := "()I" } : Jvm.MethodName) prog_1_method_70_code (1 : Nat) (Option.some Jvm.ClassFile.FieldType.int)) ∈ lw_all := lw_g (lw_at lw_m5 169 rfl) rfl
theorem q1194 : (Jvm.Cond.methodLink "MaltDrums" (368 : Nat) ({ cls := "MaltDrums", name := "breathed", desc := "()I" } : Jvm.MethodName)) ∈ lw_all := lw_g (lw_at lw_m5 170 rfl) rfl
theorem q1195 : (Jvm.Cond.instanceMethod ({ cls := "MaltDrums", name := "breathed", desc := "()I" } : Jvm.MethodName)) ∈ lw_all := lw_g (lw_at lw_m5 171 rfl) rfl
theorem q1196 : (Jvm.Cond.selects "MaltDrums" ({ cls := "MaltDrums", name := "breathed", desc := "()I" } : Jvm.MethodName) ({ cls := "MaltDrums", name := "breathed", desc := "()I" } : Jvm.MethodName)) ∈ lw_all := lw_g (lw_at lw_m5 172 rfl) rfl
theorem q1197 : (Jvm.Cond.code ({ cls := "MaltDrums", name := "breathed", desc := "()I" } : Jvm.MethodName) prog_1_method_71_code (1 : Nat) (Option.some Jvm.ClassFile.FieldType.int)) ∈ lw_all := lw_g (lw_at lw_m5 173 rfl) rfl
theorem q1203 : (Jvm.Cond.instanceMethod ({ cls := "MaltDrums", name := "sprays", desc := "()I" } : Jvm.MethodName)) ∈ lw_all := lw_g (lw_at lw_m5 179 rfl) rfl
theorem q1204 : (Jvm.Cond.selects "MaltDrums" ({ cls := "MaltDrums", name := "sprays", desc := "()I" } : Jvm.MethodName) ({ cls := "MaltDrums", name := "sprays", desc := "()I" } : Jvm.MethodName)) ∈ lw_all := lw_g (lw_at lw_m5 180 rfl) rfl
theorem q1205 : (Jvm.Cond.code ({ cls := "MaltDrums", name := "sprays", desc := "()I" } : Jvm.MethodName) prog_1_method_72_code (1 : Nat) (Option.some Jvm.ClassFile.FieldType.int)) ∈ lw_all := lw_g (lw_at lw_m5 181 rfl) rfl
theorem q1207 : (Jvm.Cond.instanceMethod ({ cls := "MaltDrums", name := "meanGrowth", desc := "()D" } : Jvm.MethodName)) ∈ lw_all := lw_g (lw_at lw_m5 183 rfl) rfl
theorem q1208 : (Jvm.Cond.selects "MaltDrums" ({ cls := "MaltDrums", name := "meanGrowth", desc := "()D" } : Jvm.MethodName) ({ cls := "MaltDrums", name := "meanGrowth", desc := "()D" } : Jvm.MethodName)) ∈ lw_all := lw_g (lw_at lw_m5 184 rfl) rfl
theorem q1209 : (Jvm.Cond.code ({ cls := "MaltDrums", name := "meanGrowth", desc := "()D" } : Jvm.MethodName) prog_1_method_73_code (4 : Nat) (Option.some Jvm.ClassFile.FieldType.double)) ∈ lw_all := lw_g (lw_at lw_m5 185 rfl) rfl
theorem q1210 : (Jvm.Cond.methodLink "MaltDrums" (379 : Nat) ({ cls := "java/lang/Integer", name := "bitCount", desc := "(I)I" } : Jvm.MethodName)) ∈ lw_all := lw_g (lw_at lw_m5 186 rfl) rfl
theorem q1217 : (Jvm.Cond.instanceMethod ({ cls := "MaltDrums", name := "meanHeat", desc := "()D" } : Jvm.MethodName)) ∈ lw_all := lw_g (lw_at lw_m5 193 rfl) rfl
theorem q1218 : (Jvm.Cond.selects "MaltDrums" ({ cls := "MaltDrums", name := "meanHeat", desc := "()D" } : Jvm.MethodName) ({ cls := "MaltDrums", name := "meanHeat", desc := "()D" } : Jvm.MethodName)) ∈ lw_all := lw_g (lw_at lw_m5 194 rfl) rfl
theorem q1219 : (Jvm.Cond.code ({ cls := "MaltDrums", name := "meanHeat", desc := "()D" } : Jvm.MethodName) prog_1_method_74_code (4 : Nat) (Option.some Jvm.ClassFile.FieldType.double)) ∈ lw_all := lw_g (lw_at lw_m5 195 rfl) rfl
theorem q1220 : (Jvm.Cond.methodLink "MaltDrums" (297 : Nat) ({ cls := "MaltDrums$House", name := "isGrowing", desc := "(I)Z" } : Jvm.MethodName)) ∈ lw_all := lw_g (lw_at lw_m5 196 rfl) rfl
theorem q1227 : (Jvm.Cond.instanceMethod ({ cls := "MaltDrums", name := "add", desc := "(I)I" } : Jvm.MethodName)) ∈ lw_all := lw_g (lw_at lw_m5 203 rfl) rfl
theorem q1228 : (Jvm.Cond.selects "MaltDrums" ({ cls := "MaltDrums", name := "add", desc := "(I)I" } : Jvm.MethodName) ({ cls := "MaltDrums", name := "add", desc := "(I)I" } : Jvm.MethodName)) ∈ lw_all := lw_g (lw_at lw_m5 204 rfl) rfl
theorem q1229 : (Jvm.Cond.code ({ cls := "MaltDrums", name := "add", desc := "(I)I" } : Jvm.MethodName) prog_1_method_9_code (2 : Nat) (Option.some Jvm.ClassFile.FieldType.int)) ∈ lw_all := lw_g (lw_at lw_m5 205 rfl) rfl
theorem q1230 : (Jvm.Cond.methodLink "MaltDrums" (70 : Nat) ({ cls := "MaltDrums", name := "isWithin", desc := "(III)Z" } : Jvm.MethodName)) ∈ lw_all := lw_g (lw_at lw_m5 206 rfl) rfl
theorem q1231 : (Jvm.Cond.methodLink "MaltDrums" (74 : Nat) ({ cls := "MaltDrums", name := "needArgument", desc := "(Z)V" } : Jvm.MethodName)) ∈ lw_all := lw_g (lw_at lw_m5 207 rfl) rfl
theorem q1232 : (Jvm.Cond.static ({ cls := "MaltDrums", name := "needArgument", desc := "(Z)V" } : Jvm.MethodName)) ∈ lw_all := lw_g (lw_at lw_m5 208 rfl) rfl
theorem q1233 : (Jvm.Cond.code ({ cls := "MaltDrums", name := "needArgument", desc := "(Z)V" } : Jvm.MethodName) prog_1_method_3_code (1 : Nat) (Option.none : Option Jvm.ClassFile.FieldType)) ∈ lw_all := lw_g (lw_at lw_m5 209 rfl) rfl
theorem q1234 : (Jvm.Cond.classLink "MaltDrums" (9 : Nat) "java/lang/IllegalArgumentException") ∈ lw_all := lw_g (lw_at lw_m5 210 rfl) rfl
theorem q1235 : (Jvm.Cond.stringRef "MaltDrums" (11 : Nat) "out of range") ∈ lw_tbl := lw_at lw_m5 211 rfl
theorem q1236 : (Jvm.Cond.methodLink "MaltDrums" (13 : Nat) ({ cls := "java/lang/IllegalArgumentException", name := "<init>", desc := "(Ljava/lang/String;)V" } : Jvm.MethodName)) ∈ lw_all := lw_g (lw_at lw_m5 212 rfl) rfl
theorem q1237 : (Jvm.Cond.methodLink "MaltDrums" (81 : Nat) ({ cls := "MaltDrums", name := "needState", desc := "(Z)V" } : Jvm.MethodName)) ∈ lw_all := lw_g (lw_at lw_m5 213 rfl) rfl
theorem q1238 : (Jvm.Cond.static ({ cls := "MaltDrums", name := "needState", desc := "(Z)V" } : Jvm.MethodName)) ∈ lw_all := lw_g (lw_at lw_m5 214 rfl) rfl
theorem q1239 : (Jvm.Cond.code ({ cls := "MaltDrums", name := "needState", desc := "(Z)V" } : Jvm.MethodName) prog_1_method_4_code (1 : Nat) (Option.none : Option Jvm.ClassFile.FieldType)) ∈ lw_all := lw_g (lw_at lw_m5 215 rfl) rfl
theorem q1240 : (Jvm.Cond.classLink "MaltDrums" (14 : Nat) "java/lang/IllegalStateException") ∈ lw_all := lw_g (lw_at lw_m5 216 rfl) rfl
theorem q1249 : (Jvm.Cond.stringRef "MaltDrums" (16 : Nat) "not possible") ∈ lw_tbl := lw_at lw_m5 225 rfl
theorem q1250 : (Jvm.Cond.methodLink "MaltDrums" (18 : Nat) ({ cls := "java/lang/IllegalStateException", name := "<init>", desc := "(Ljava/lang/String;)V" } : Jvm.MethodName)) ∈ lw_all := lw_g (lw_at lw_m5 226 rfl) rfl
theorem q1256 : (Jvm.Cond.methodLink "MaltDrums" (84 : Nat) ({ cls := "MaltDrums", name := "save", desc := "()V" } : Jvm.MethodName)) ∈ lw_all := lw_g (lw_at lw_m5 232 rfl) rfl
theorem q1257 : (Jvm.Cond.privateMethod ({ cls := "MaltDrums", name := "save", desc := "()V" } : Jvm.MethodName)) ∈ lw_tbl := lw_at lw_m5 233 rfl
theorem q1258 : (Jvm.Cond.instanceMethod ({ cls := "MaltDrums", name := "save", desc := "()V" } : Jvm.MethodName)) ∈ lw_all := lw_g (lw_at lw_m5 234 rfl) rfl
theorem q1259 : (Jvm.Cond.code ({ cls := "MaltDrums", name := "save", desc := "()V" } : Jvm.MethodName) prog_1_method_6_code (1 : Nat) (Option.none : Option Jvm.ClassFile.FieldType)) ∈ lw_all := lw_g (lw_at lw_m5 235 rfl) rfl
theorem q1260 : (Jvm.Cond.methodLink "MaltDrums" (51 : Nat) ({ cls := "java/util/ArrayDeque", name := "removeFirst", desc := "()Ljava/lang/Object;" } : Jvm.MethodName)) ∈ lw_all := lw_g (lw_at lw_m5 236 rfl) rfl
theorem q1274 : (Jvm.Cond.methodLink "MaltDrums" (55 : Nat) ({ cls := "java/util/ArrayDeque", name := "addLast", desc := "(Ljava/lang/Object;)V" } : Jvm.MethodName)) ∈ lw_all := lw_g (lw_at lw_m6 10 rfl) rfl
theorem q1293 : (Jvm.Cond.methodLink "MaltDrums" (87 : Nat) ({ cls := "MaltDrums$House", name := "add", desc := "(I)I" } : Jvm.MethodName)) ∈ lw_all := lw_g (lw_at lw_m6 29 rfl) rfl
theorem q1304 : (Jvm.Cond.instanceMethod ({ cls := "MaltDrums", name := "steep", desc := "(I)I" } : Jvm.MethodName)) ∈ lw_all := lw_g (lw_at lw_m6 40 rfl) rfl
theorem q1305 : (Jvm.Cond.selects "MaltDrums" ({ cls := "MaltDrums", name := "steep", desc := "(I)I" } : Jvm.MethodName) ({ cls := "MaltDrums", name := "steep", desc := "(I)I" } : Jvm.MethodName)) ∈ lw_all := lw_g (lw_at lw_m6 41 rfl) rfl
theorem q1306 : (Jvm.Cond.code ({ cls := "MaltDrums", name := "steep", desc := "(I)I" } : Jvm.MethodName) prog_1_method_10_code (2 : Nat) (Option.some Jvm.ClassFile.FieldType.int)) ∈ lw_all := lw_g (lw_at lw_m6 42 rfl) rfl
theorem q1307 : (Jvm.Cond.methodLink "MaltDrums" (91 : Nat) ({ cls := "MaltDrums", name := "needLot", desc := "(I)V" } : Jvm.MethodName)) ∈ lw_all := lw_g (lw_at lw_m6 43 rfl) rfl
theorem q1308 : (Jvm.Cond.privateMethod ({ cls := "MaltDrums", name := "needLot", desc := "(I)V" } : Jvm.MethodName)) ∈ lw_tbl := lw_at lw_m6 44 rfl
theorem q1309 : (Jvm.Cond.instanceMethod ({ cls := "MaltDrums", name := "needLot", desc := "(I)V" } : Jvm.MethodName)) ∈ lw_all := lw_g (lw_at lw_m6 45 rfl) rfl
theorem q1310 : (Jvm.Cond.code ({ cls := "MaltDrums", name := "needLot", desc := "(I)V" } : Jvm.MethodName) prog_1_method_7_code (2 : Nat) (Option.none : Option Jvm.ClassFile.FieldType)) ∈ lw_all := lw_g (lw_at lw_m6 46 rfl) rfl
theorem q1311 : (Jvm.Cond.methodLink "MaltDrums" (62 : Nat) ({ cls := "MaltDrums$House", name := "isLot", desc := "(I)Z" } : Jvm.MethodName)) ∈ lw_all := lw_g (lw_at lw_m6 47 rfl) rfl
theorem q1315 : (Jvm.Cond.methodLink "MaltDrums" (66 : Nat) ({ cls := "MaltDrums", name := "needThere", desc := "(Z)V" } : Jvm.MethodName)) ∈ lw_all := lw_g (lw_at lw_m6 51 rfl) rfl
theorem q1316 : (Jvm.Cond.static ({ cls := "MaltDrums", name := "needThere", desc := "(Z)V" } : Jvm.MethodName)) ∈ lw_all := lw_g (lw_at lw_m6 52 rfl) rfl
theorem q1317 : (Jvm.Cond.code ({ cls := "MaltDrums", name := "needThere", desc := "(Z)V" } : Jvm.MethodName) prog_1_method_2_code (1 : Nat) (Option.none : Option Jvm.ClassFile.FieldType)) ∈ lw_all := lw_g (lw_at lw_m6 53 rfl) rfl
theorem q1318 : (Jvm.Cond.classLink "MaltDrums" (1 : Nat) "java/lang/IndexOutOfBoundsException") ∈ lw_all := lw_g (lw_at lw_m6 54 rfl) rfl
theorem q1327 : (Jvm.Cond.stringRef "MaltDrums" (3 : Nat) "there is none") ∈ lw_tbl := lw_at lw_m6 63 rfl
theorem q1328 : (Jvm.Cond.methodLink "MaltDrums" (5 : Nat) ({ cls := "java/lang/IndexOutOfBoundsException", name := "<init>", desc := "(Ljava/lang/String;)V" } : Jvm.MethodName)) ∈ lw_all := lw_g (lw_at lw_m6 64 rfl) rfl
theorem q1331 : (Jvm.Cond.methodLink "MaltDrums" (95 : Nat) ({ cls := "MaltDrums$House", name := "whyNotSteep", desc := "(I)I" } : Jvm.MethodName)) ∈ lw_all := lw_g (lw_at lw_m6 67 rfl) rfl
theorem q1337 : (Jvm.Cond.methodLink "MaltDrums" (98 : Nat) ({ cls := "MaltDrums$House", name := "steep", desc := "(I)I" } : Jvm.MethodName)) ∈ lw_all := lw_g (lw_at lw_m6 73 rfl) rfl
theorem q1345 : (Jvm.Cond.instanceMethod ({ cls := "MaltDrums", name := "toDrum", desc := "(II)I" } : Jvm.MethodName)) ∈ lw_all := lw_g (lw_at lw_m6 81 rfl) rfl
theorem q1346 : (Jvm.Cond.selects "MaltDrums" ({ cls := "MaltDrums", name := "toDrum", desc := "(II)I" } : Jvm.MethodName) ({ cls := "MaltDrums", name := "toDrum", desc := "(II)I" } : Jvm.MethodName)) ∈ lw_all := lw_g (lw_at lw_m6 82 rfl) rfl
theorem q1347 : (Jvm.Cond.code ({ cls := "MaltDrums", name := "toDrum", desc := "(II)I" } : Jvm.MethodName) prog_1_method_11_code (3 : Nat) (Option.some Jvm.ClassFile.FieldType.int)) ∈ lw_all := lw_g (lw_at lw_m6 83 rfl) rfl
theorem q1348 : (Jvm.Cond.methodLink "MaltDrums" (101 : Nat) ({ cls := "MaltDrums", name := "isDrum", desc := "(I)Z" } : Jvm.MethodName)) ∈ lw_all := lw_g (lw_at lw_m6 84 rfl) rfl
theorem q1349 : (Jvm.Cond.static ({ cls := "MaltDrums", name := "isDrum", desc := "(I)Z" } : Jvm.MethodName)) ∈ lw_all := lw_g (lw_at lw_m6 85 rfl) rfl
theorem q1350 : (Jvm.Cond.code ({ cls := "MaltDrums", name := "isDrum", desc := "(I)Z" } : Jvm.MethodName) prog_1_method_8_code (1 : Nat) (Option.some Jvm.ClassFile.FieldType.boolean)) ∈ lw_all := lw_g (lw_at lw_m6 86 rfl) rfl
theorem q1351 : (Jvm.Cond.methodLink "MaltDrums" (104 : Nat) ({ cls := "MaltDrums$House", name := "whyNotDrum", desc := "(II)I" } : Jvm.MethodName)) ∈ lw_all := lw_g (lw_at lw_m6 87 rfl) rfl
theorem q1355 : (Jvm.Cond.methodLink "MaltDrums" (108 : Nat) ({ cls := "MaltDrums$House", name := "toDrum", desc := "(II)I" } : Jvm.MethodName)) ∈ lw_all := lw_g (lw_at lw_m6 91 rfl) rfl
theorem q1363 : (Jvm.Cond.instanceMethod ({ cls := "MaltDrums", name := "toHeap", desc := "(I)I" } : Jvm.MethodName)) ∈ lw_all := lw_g (lw_at lw_m6 99 rfl) rfl
theorem q1364 : (Jvm.Cond.selects "MaltDrums" ({ cls := "MaltDrums", name := "toHeap", desc := "(I)I" } : Jvm.MethodName) ({ cls := "MaltDrums", name := "toHeap", desc := "(I)I" } : Jvm.MethodName)) ∈ lw_all := lw_g (lw_at lw_m6 100 rfl) rfl
theorem q1365 : (Jvm.Cond.code ({ cls := "MaltDrums", name := "toHeap", desc := "(I)I" } : Jvm.MethodName) prog_1_method_12_code (2 : Nat) (Option.some Jvm.ClassFile.FieldType.int)) ∈ lw_all := lw_g (lw_at lw_m6 101 rfl) rfl
theorem q1366 : (Jvm.Cond.methodLink "MaltDrums" (111 : Nat) ({ cls := "MaltDrums$House", name := "canHeap", desc := "(I)Z" } : Jvm.MethodName)) ∈ lw_all := lw_g (lw_at lw_m6 102 rfl) rfl
theorem q1370 : (Jvm.Cond.methodLink "MaltDrums" (114 : Nat) ({ cls := "MaltDrums$House", name := "toHeap", desc := "(I)I" } : Jvm.MethodName)) ∈ lw_all := lw_g (lw_at lw_m6 106 rfl) rfl
theorem q1378 : (Jvm.Cond.instanceMethod ({ cls := "MaltDrums", name := "load", desc := "(I)I" } : Jvm.MethodName)) ∈ lw_all := lw_g (lw_at lw_m6 114 rfl) rfl
theorem q1379 : (Jvm.Cond.selects "MaltDrums" ({ cls := "MaltDrums", name := "load", desc := "(I)I" } : Jvm.MethodName) ({ cls := "MaltDrums", name := "load", desc := "(I)I" } : Jvm.MethodName)) ∈ lw_all := lw_g (lw_at lw_m6 115 rfl) rfl
theorem q1380 : (Jvm.Cond.code ({ cls := "MaltDrums", name := "load", desc := "(I)I" } : Jvm.MethodName) prog_1_method_13_code (2 : Nat) (Option.some Jvm.ClassFile.FieldType.int)) ∈ lw_all := lw_g (lw_at lw_m6 116 rfl) rfl
theorem q1381 : (Jvm.Cond.methodLink "MaltDrums" (117 : Nat) ({ cls := "MaltDrums$House", name := "whyNotLoad", desc := "(I)I" } : Jvm.MethodName)) ∈ lw_all := lw_g (lw_at lw_m6 117 rfl) rfl
theorem q1386 : (Jvm.Cond.methodLink "MaltDrums" (120 : Nat) ({ cls := "MaltDrums$House", name := "load", desc := "(I)I" } : Jvm.MethodName)) ∈ lw_all := lw_g (lw_at lw_m6 122 rfl) rfl
theorem q1394 : (Jvm.Cond.instanceMethod ({ cls := "MaltDrums", name := "light", desc := "()I" } : Jvm.MethodName)) ∈ lw_all := lw_g (lw_at lw_m6 130 rfl) rfl
theorem q1395 : (Jvm.Cond.selects "MaltDrums" ({ cls := "MaltDrums", name := "light", desc := "()I" } : Jvm.MethodName) ({ cls := "MaltDrums", name := "light", desc := "()I" } : Jvm.MethodName)) ∈ lw_all := lw_g (lw_at lw_m6 131 rfl) rfl
theorem q1396 : (Jvm.Cond.code ({ cls := "MaltDrums", name := "light", desc := "()I" } : Jvm.MethodName) prog_1_method_14_code (1 : Nat) (Option.some Jvm.ClassFile.FieldType.int)) ∈ lw_all := lw_g (lw_at lw_m6 132 rfl) rfl
theorem q1397 : (Jvm.Cond.methodLink "MaltDrums" (123 : Nat) ({ cls := "MaltDrums$House", name := "canLight", desc := "()Z" } : Jvm.MethodName)) ∈ lw_all := lw_g (lw_at lw_m6 133 rfl) rfl
theorem q1401 : (Jvm.Cond.methodLink "MaltDrums" (127 : Nat) ({ cls := "MaltDrums$House", name := "light", desc := "()I" } : Jvm.MethodName)) ∈ lw_all := lw_g (lw_at lw_m6 137 rfl) rfl
theorem q1409 : (Jvm.Cond.instanceMethod ({ cls := "MaltDrums", name := "spray", desc := "(I)I" } : Jvm.MethodName)) ∈ lw_all := lw_g (lw_at lw_m6 145 rfl) rfl
theorem q1410 : (Jvm.Cond.selects "MaltDrums" ({ cls := "MaltDrums", name := "spray", desc := "(I)I" } : Jvm.MethodName) ({ cls := "MaltDrums", name := "spray", desc := "(I)I" } : Jvm.MethodName)) ∈ lw_all := lw_g (lw_at lw_m6 146 rfl) rfl
theorem q1411 : (Jvm.Cond.code ({ cls := "MaltDrums", name := "spray", desc := "(I)I" } : Jvm.MethodName) prog_1_method_15_code (2 : Nat) (Option.some Jvm.ClassFile.FieldType.int)) ∈ lw_all := lw_g (lw_at lw_m6 147 rfl) rfl
theorem q1412 : (Jvm.Cond.methodLink "MaltDrums" (130 : Nat) ({ cls := "MaltDrums$House", name := "whyNotSpray", desc := "(I)I" } : Jvm.MethodName)) ∈ lw_all := lw_g (lw_at lw_m6 148 rfl) rfl
theorem q1416 : (Jvm.Cond.methodLink "MaltDrums" (133 : Nat) ({ cls := "MaltDrums$House", name := "spray", desc := "(I)I" } : Jvm.MethodName)) ∈ lw_all := lw_g (lw_at lw_m6 152 rfl) rfl
theorem q1424 : (Jvm.Cond.instanceMethod ({ cls := "MaltDrums", name := "setAir", desc := "(II)I" } : Jvm.MethodName)) ∈ lw_all := lw_g (lw_at lw_m6 160 rfl) rfl
theorem q1425 : (Jvm.Cond.selects "MaltDrums" ({ cls := "MaltDrums", name := "setAir", desc := "(II)I" } : Jvm.MethodName) ({ cls := "MaltDrums", name := "setAir", desc := "(II)I" } : Jvm.MethodName)) ∈ lw_all := lw_g (lw_at lw_m6 161 rfl) rfl
theorem q1426 : (Jvm.Cond.code ({ cls := "MaltDrums", name := "setAir", desc := "(II)I" } : Jvm.MethodName) prog_1_method_17_code (4 : Nat) (Option.some Jvm.ClassFile.FieldType.int)) ∈ lw_all := lw_g (lw_at lw_m6 162 rfl) rfl
theorem q1427 : (Jvm.Cond.methodLink "MaltDrums" (136 : Nat) ({ cls := "MaltDrums", name := "needStep", desc := "(I)V" } : Jvm.MethodName)) ∈ lw_all := lw_g (lw_at lw_m6 163 rfl) rfl
theorem q1428 : (Jvm.Cond.static ({ cls := "MaltDrums", name := "needStep", desc := "(I)V" } : Jvm.MethodName)) ∈ lw_all := lw_g (lw_at lw_m6 164 rfl) rfl
theorem q1429 : (Jvm.Cond.code ({ cls := "MaltDrums", name := "needStep", desc := "(I)V" } : Jvm.MethodName) prog_1_method_16_code (1 : Nat) (Option.none : Option Jvm.ClassFile.FieldType)) ∈ lw_all := lw_g (lw_at lw_m6 165 rfl) rfl
theorem q1434 : (Jvm.Cond.instanceMethod ({ cls := "MaltDrums", name := "setDew", desc := "(II)I" } : Jvm.MethodName)) ∈ lw_all := lw_g (lw_at lw_m6 170 rfl) rfl
theorem q1435 : (Jvm.Cond.selects "MaltDrums" ({ cls := "MaltDrums", name := "setDew", desc := "(II)I" } : Jvm.MethodName) ({ cls := "MaltDrums", name := "setDew", desc := "(II)I" } : Jvm.MethodName)) ∈ lw_all := lw_g (lw_at lw_m6 171 rfl) rfl
theorem q1436 : (Jvm.Cond.code ({ cls := "MaltDrums", name := "setDew", desc := "(II)I" } : Jvm.MethodName) prog_1_method_18_code (4 : Nat) (Option.some Jvm.ClassFile.FieldType.int)) ∈ lw_all := lw_g (lw_at lw_m6 172 rfl) rfl
theorem q1441 : (Jvm.Cond.instanceMethod ({ cls := "MaltDrums", name := "setTurn", desc := "(II)I" } : Jvm.MethodName)) ∈ lw_all := lw_g (lw_at lw_m6 177 rfl) rfl
theorem q1442 : (Jvm.Cond.selects "MaltDrums" ({ cls := "MaltDrums", name := "setTurn", desc := "(II)I" } : Jvm.MethodName) ({ cls := "MaltDrums", name := "setTurn", desc := "(II)I" } : Jvm.MethodName)) ∈ lw_all := lw_g (lw_at lw_m6 178 rfl) rfl
theorem q1443 : (Jvm.Cond.code ({ cls := "MaltDrums", name := "setTurn", desc := "(II)I" } : Jvm.MethodName) prog_1_method_19_code (4 : Nat) (Option.some Jvm.ClassFile.FieldType.int)) ∈ lw_all := lw_g (lw_at lw_m6 179 rfl) rfl
theorem q1448 : (Jvm.Cond.instanceMethod ({ cls := "MaltDrums", name := "setHeats", desc := "(II)I" } : Jvm.MethodName)) ∈ lw_all := lw_g (lw_at lw_m6 184 rfl) rfl
theorem q1449 : (Jvm.Cond.selects "MaltDrums" ({ cls := "MaltDrums", name := "setHeats", desc := "(II)I" } : Jvm.MethodName) ({ cls := "MaltDrums", name := "setHeats", desc := "(II)I" } : Jvm.MethodName)) ∈ lw_all := lw_g (lw_at lw_m6 185 rfl) rfl
theorem q1450 : (Jvm.Cond.code ({ cls := "MaltDrums", name := "setHeats", desc := "(II)I" } : Jvm.MethodName) prog_1_method_20_code (4 : Nat) (Option.some Jvm.ClassFile.FieldType.int)) ∈ lw_all := lw_g (lw_at lw_m6 186 rfl) rfl
theorem q1455 : (Jvm.Cond.instanceMethod ({ cls := "MaltDrums", name := "setSprays", desc := "(I)I" } : Jvm.MethodName)) ∈ lw_all := lw_g (lw_at lw_m6 191 rfl) rfl
theorem q1456 : (Jvm.Cond.selects "MaltDrums" ({ cls := "MaltDrums", name := "setSprays", desc := "(I)I" } : Jvm.MethodName) ({ cls := "MaltDrums", name := "setSprays", desc := "(I)I" } : Jvm.MethodName)) ∈ lw_all := lw_g (lw_at lw_m6 192 rfl) rfl
theorem q1457 : (Jvm.Cond.code ({ cls := "MaltDrums", name := "setSprays", desc := "(I)I" } : Jvm.MethodName) prog_1_method_21_code (3 : Nat) (Option.some Jvm.ClassFile.FieldType.int)) ∈ lw_all := lw_g (lw_at lw_m6 193 rfl) rfl
theorem q1462 : (Jvm.Cond.instanceMethod ({ cls := "MaltDrums", name := "pass", desc := "(I)I" } : Jvm.MethodName)) ∈ lw_all := lw_g (lw_at lw_m6 198 rfl) rfl
theorem q1463 : (Jvm.Cond.selects "MaltDrums" ({ cls := "MaltDrums", name := "pass", desc := "(I)I" } : Jvm.MethodName) ({ cls := "MaltDrums", name := "pass", desc := "(I)I" } : Jvm.MethodName)) ∈ lw_all := lw_g (lw_at lw_m6 199 rfl) rfl
theorem q1464 : (Jvm.Cond.code ({ cls := "MaltDrums", name := "pass", desc := "(I)I" } : Jvm.MethodName) prog_1_method_22_code (2 : Nat) (Option.some Jvm.ClassFile.FieldType.int)) ∈ lw_all := lw_g (lw_at lw_m6 200 rfl) rfl
theorem q1465 : (Jvm.Cond.methodLink "MaltDrums" (167 : Nat) ({ cls := "MaltDrums$House", name := "pass", desc := "(I)I" } : Jvm.MethodName)) ∈ lw_all := lw_g (lw_at lw_m6 201 rfl) rfl
theorem q1474 : (Jvm.Cond.instanceMethod ({ cls := "MaltDrums", name := "append", desc := "(I)I" } : Jvm.MethodName)) ∈ lw_all := lw_g (lw_at lw_m6 210 rfl) rfl
theorem q1475 : (Jvm.Cond.selects "MaltDrums" ({ cls := "MaltDrums", name := "append", desc := "(I)I" } : Jvm.MethodName) ({ cls := "MaltDrums", name := "append", desc := "(I)I" } : Jvm.MethodName)) ∈ lw_all := lw_g (lw_at lw_m6 211 rfl) rfl
theorem q1476 : (Jvm.Cond.code ({ cls := "MaltDrums", name := "append", desc := "(I)I" } : Jvm.MethodName) prog_1_method_23_code (2 : Nat) (Option.some Jvm.ClassFile.FieldType.int)) ∈ lw_all := lw_g (lw_at lw_m6 212 rfl) rfl
theorem q1477 : (Jvm.Cond.methodLink "MaltDrums" (173 : Nat) ({ cls := "java/lang/StringBuilder", name := "append", desc := "(C)Ljava/lang/StringBuilder;" } : Jvm.MethodName)) ∈ lw_all := lw_g (lw_at lw_m6 213 rfl) rfl
theorem q1498 : (Jvm.Cond.instanceMethod ({ cls := "MaltDrums", name := "run", desc := "()I" } : Jvm.MethodName)) ∈ lw_all := lw_g (lw_at lw_m6 234 rfl) rfl
theorem q1499 : (Jvm.Cond.selects "MaltDrums" ({ cls := "MaltDrums", name := "run", desc := "()I" } : Jvm.MethodName) ({ cls := "MaltDrums", name := "run", desc := "()I" } : Jvm.MethodName)) ∈ lw_all := lw_g (lw_at lw_m6 235 rfl) rfl
theorem q1500 : (Jvm.Cond.codeWith ({ cls := "MaltDrums", name := "run", desc := "()I" } : Jvm.MethodName) prog_1_method_28_code (3 : Nat) (Option.some Jvm.ClassFile.FieldType.int) [((0 : Nat), (12 : Nat), (15 : Nat), (189 : Nat))]) ∈ lw_all := lw_g (lw_at lw_m6 236 rfl) rfl
theorem q1501 : (Jvm.Cond.stringRef "MaltDrums" (235 : Nat) "orders") ∈ lw_tbl := lw_at lw_m6 237 rfl
theorem q1502 : (Jvm.Cond.interfaceEntry "MaltDrums" (236 : Nat)) ∈ lw_tbl := lw_at lw_m6 238 rfl
theorem q1503 : (Jvm.Cond.methodLink "MaltDrums" (236 : Nat) ({ cls := "java/util/List", name := "size", desc := "()I" } : Jvm.MethodName)) ∈ lw_all := lw_g (lw_at lw_m6 239 rfl) rfl
theorem q1511 : (Jvm.Cond.interfaceEntry "MaltDrums" (239 : Nat)) ∈ lw_tbl := lw_at lw_m7 7 rfl
theorem q1512 : (Jvm.Cond.methodLink "MaltDrums" (239 : Nat) ({ cls := "java/util/List", name := "get", desc := "(I)Ljava/lang/Object;" } : Jvm.MethodName)) ∈ lw_all := lw_g (lw_at lw_m7 8 rfl) rfl
theorem q1528 : (Jvm.Cond.classLink "MaltDrums" (195 : Nat) "MaltDrums$Order") ∈ lw_all := lw_g (lw_at lw_m7 24 rfl) rfl
theorem q1529 : (Jvm.Cond.methodLink "MaltDrums" (243 : Nat) ({ cls := "MaltDrums", name := "can", desc := "(LMaltDrums$Order;)Z" } : Jvm.MethodName)) ∈ lw_all := lw_g (lw_at lw_m7 25 rfl) rfl
theorem q1530 : (Jvm.Cond.privateMethod ({ cls := "MaltDrums", name := "can", desc := "(LMaltDrums$Order;)Z" } : Jvm.MethodName)) ∈ lw_tbl := lw_at lw_m7 26 rfl
theorem q1531 : (Jvm.Cond.instanceMethod ({ cls := "MaltDrums", name := "can", desc := "(LMaltDrums$Order;)Z" } : Jvm.MethodName)) ∈ lw_all := lw_g (lw_at lw_m7 27 rfl) rfl
theorem q1532 : (Jvm.Cond.code ({ cls := "MaltDrums", name := "can", desc := "(LMaltDrums$Order;)Z" } : Jvm.MethodName) prog_1_method_26_code (5 : Nat) (Option.some Jvm.ClassFile.FieldType.boolean)) ∈ lw_all := lw_g (lw_at lw_m7 28 rfl) rfl
theorem q1533 : (Jvm.Cond.methodLink "MaltDrums" (194 : Nat) ({ cls := "MaltDrums$Order", name := "one", desc := "()I" } : Jvm.MethodName)) ∈ lw_all := lw_g (lw_at lw_m7 29 rfl) rfl
theorem q1537 : (Jvm.Cond.methodLink "MaltDrums" (199 : Nat) ({ cls := "MaltDrums$Order", name := "sign", desc := "()Ljava/lang/String;" } : Jvm.MethodName)) ∈ lw_all := lw_g (lw_at lw_m7 33 rfl) rfl
theorem q1541 : (Jvm.Cond.methodLink "MaltDrums" (203 : Nat) ({ cls := "java/lang/String", name := "hashCode", desc := "()I" } : Jvm.MethodName)) ∈ lw_all := lw_g (lw_at lw_m7 37 rfl) rfl
theorem q1542 : (Jvm.Cond.stringRef "MaltDrums" (208 : Nat) "+") ∈ lw_tbl := lw_at lw_m7 38 rfl
theorem q1543 : (Jvm.Cond.methodLink "MaltDrums" (210 : Nat) ({ cls := "java/lang/String", name := "equals", desc := "(Ljava/lang/Object;)Z" } : Jvm.MethodName)) ∈ lw_all := lw_g (lw_at lw_m7 39 rfl) rfl
theorem q1544 : (Jvm.Cond.stringRef "MaltDrums" (214 : Nat) "s") ∈ lw_tbl := lw_at lw_m7 40 rfl
theorem q1545 : (Jvm.Cond.stringRef "MaltDrums" (216 : Nat) "d") ∈ lw_tbl := lw_at lw_m7 41 rfl
theorem q1546 : (Jvm.Cond.stringRef "MaltDrums" (218 : Nat) "h") ∈ lw_tbl := lw_at lw_m7 42 rfl
theorem q1547 : (Jvm.Cond.stringRef "MaltDrums" (220 : Nat) "k") ∈ lw_tbl := lw_at lw_m7 43 rfl
theorem q1548 : (Jvm.Cond.stringRef "MaltDrums" (222 : Nat) "p") ∈ lw_tbl := lw_at lw_m7 44 rfl
theorem q1549 : (Jvm.Cond.stringRef "MaltDrums" (224 : Nat) "l") ∈ lw_tbl := lw_at lw_m7 45 rfl
theorem q1550 : (Jvm.Cond.methodLink "MaltDrums" (226 : Nat) ({ cls := "MaltDrums$Order", name := "two", desc := "()I" } : Jvm.MethodName)) ∈ lw_all := lw_g (lw_at lw_m7 46 rfl) rfl
theorem q1554 : (Jvm.Cond.methodLink "MaltDrums" (247 : Nat) ({ cls := "MaltDrums", name := "does", desc := "(LMaltDrums$Order;)V" } : Jvm.MethodName)) ∈ lw_all := lw_g (lw_at lw_m7 50 rfl) rfl
theorem q1555 : (Jvm.Cond.privateMethod ({ cls := "MaltDrums", name := "does", desc := "(LMaltDrums$Order;)V" } : Jvm.MethodName)) ∈ lw_tbl := lw_at lw_m7 51 rfl
theorem q1556 : (Jvm.Cond.instanceMethod ({ cls := "MaltDrums", name := "does", desc := "(LMaltDrums$Order;)V" } : Jvm.MethodName)) ∈ lw_all := lw_g (lw_at lw_m7 52 rfl) rfl
theorem q1557 : (Jvm.Cond.code ({ cls := "MaltDrums", name := "does", desc := "(LMaltDrums$Order;)V" } : Jvm.MethodName) prog_1_method_27_code (5 : Nat) (Option.none : Option Jvm.ClassFile.FieldType)) ∈ lw_all := lw_g (lw_at lw_m7 53 rfl) rfl
theorem q1558 : (Jvm.Cond.stringRef "MaltDrums" (229 : Nat) "a") ∈ lw_tbl := lw_at lw_m7 54 rfl
theorem q1559 : (Jvm.Cond.stringRef "MaltDrums" (231 : Nat) "w") ∈ lw_tbl := lw_at lw_m7 55 rfl
theorem q1560 : (Jvm.Cond.stringRef "MaltDrums" (233 : Nat) "t") ∈ lw_tbl := lw_at lw_m7 56 rfl
theorem q1565 : (Jvm.Cond.instanceMethod ({ cls := "MaltDrums", name := "undo", desc := "()I" } : Jvm.MethodName)) ∈ lw_all := lw_g (lw_at lw_m7 61 rfl) rfl
theorem q1566 : (Jvm.Cond.selects "MaltDrums" ({ cls := "MaltDrums", name := "undo", desc := "()I" } : Jvm.MethodName) ({ cls := "MaltDrums", name := "undo", desc := "()I" } : Jvm.MethodName)) ∈ lw_all := lw_g (lw_at lw_m7 62 rfl) rfl
theorem q1567 : (Jvm.Cond.code ({ cls := "MaltDrums", name := "undo", desc := "()I" } : Jvm.MethodName) prog_1_method_29_code (1 : Nat) (Option.some Jvm.ClassFile.FieldType.int)) ∈ lw_all := lw_g (lw_at lw_m7 63 rfl) rfl
theorem q1568 : (Jvm.Cond.methodLink "MaltDrums" (251 : Nat) ({ cls := "java/util/ArrayDeque", name := "isEmpty", desc := "()Z" } : Jvm.MethodName)) ∈ lw_all := lw_g (lw_at lw_m7 64 rfl) rfl
theorem q1572 : (Jvm.Cond.methodLink "MaltDrums" (254 : Nat) ({ cls := "java/util/ArrayDeque", name := "removeLast", desc := "()Ljava/lang/Object;" } : Jvm.MethodName)) ∈ lw_all := lw_g (lw_at lw_m7 68 rfl) rfl
theorem q1587 : (Jvm.Cond.instanceMethod ({ cls := "MaltDrums", name := "restore", desc := "()I" } : Jvm.MethodName)) ∈ lw_all := lw_g (lw_at lw_m7 83 rfl) rfl
theorem q1588 : (Jvm.Cond.selects "MaltDrums" ({ cls := "MaltDrums", name := "restore", desc := "()I" } : Jvm.MethodName) ({ cls := "MaltDrums", name := "restore", desc := "()I" } : Jvm.MethodName)) ∈ lw_all := lw_g (lw_at lw_m7 84 rfl) rfl
theorem q1589 : (Jvm.Cond.code ({ cls := "MaltDrums", name := "restore", desc := "()I" } : Jvm.MethodName) prog_1_method_32_code (1 : Nat) (Option.some Jvm.ClassFile.FieldType.int)) ∈ lw_all := lw_g (lw_at lw_m7 85 rfl) rfl
theorem q1594 : (Jvm.Cond.instanceMethod ({ cls := "MaltDrums", name := "placeOf", desc := "(I)I" } : Jvm.MethodName)) ∈ lw_all := lw_g (lw_at lw_m7 90 rfl) rfl
theorem q1595 : (Jvm.Cond.selects "MaltDrums" ({ cls := "MaltDrums", name := "placeOf", desc := "(I)I" } : Jvm.MethodName) ({ cls := "MaltDrums", name := "placeOf", desc := "(I)I" } : Jvm.MethodName)) ∈ lw_all := lw_g (lw_at lw_m7 91 rfl) rfl
theorem q1596 : (Jvm.Cond.code ({ cls := "MaltDrums", name := "placeOf", desc := "(I)I" } : Jvm.MethodName) prog_1_method_34_code (2 : Nat) (Option.some Jvm.ClassFile.FieldType.int)) ∈ lw_all := lw_g (lw_at lw_m7 92 rfl) rfl
theorem q1601 : (Jvm.Cond.instanceMethod ({ cls := "MaltDrums", name := "drumOf", desc := "(I)I" } : Jvm.MethodName)) ∈ lw_all := lw_g (lw_at lw_m7 97 rfl) rfl
theorem q1602 : (Jvm.Cond.selects "MaltDrums" ({ cls := "MaltDrums", name := "drumOf", desc := "(I)I" } : Jvm.MethodName) ({ cls := "MaltDrums", name := "drumOf", desc := "(I)I" } : Jvm.MethodName)) ∈ lw_all := lw_g (lw_at lw_m7 98 rfl) rfl
theorem q1603 : (Jvm.Cond.code ({ cls := "MaltDrums", name := "drumOf", desc := "(I)I" } : Jvm.MethodName) prog_1_method_35_code (2 : Nat) (Option.some Jvm.ClassFile.FieldType.int)) ∈ lw_all := lw_g (lw_at lw_m7 99 rfl) rfl
theorem q1604 : (Jvm.Cond.methodLink "MaltDrums" (267 : Nat) ({ cls := "MaltDrums$House", name := "drumOf", desc := "(I)I" } : Jvm.MethodName)) ∈ lw_all := lw_g (lw_at lw_m7 100 rfl) rfl
theorem q1609 : (Jvm.Cond.instanceMethod ({ cls := "MaltDrums", name := "weightOf", desc := "(I)I" } : Jvm.MethodName)) ∈ lw_all := lw_g (lw_at lw_m7 105 rfl) rfl
theorem q1610 : (Jvm.Cond.selects "MaltDrums" ({ cls := "MaltDrums", name := "weightOf", desc := "(I)I" } : Jvm.MethodName) ({ cls := "MaltDrums", name := "weightOf", desc := "(I)I" } : Jvm.MethodName)) ∈ lw_all := lw_g (lw_at lw_m7 106 rfl) rfl
theorem q1611 : (Jvm.Cond.code ({ cls := "MaltDrums", name := "weightOf", desc := "(I)I" } : Jvm.MethodName) prog_1_method_36_code (2 : Nat) (Option.some Jvm.ClassFile.FieldType.int)) ∈ lw_all := lw_g (lw_at lw_m7 107 rfl) rfl
theorem q1616 : (Jvm.Cond.instanceMethod ({ cls := "MaltDrums", name := "wetnessOf", desc := "(I)I" } : Jvm.MethodName)) ∈ lw_all := lw_g (lw_at lw_m7 112 rfl) rfl
theorem q1617 : (Jvm.Cond.selects "MaltDrums" ({ cls := "MaltDrums", name := "wetnessOf", desc := "(I)I" } : Jvm.MethodName) ({ cls := "MaltDrums", name := "wetnessOf", desc := "(I)I" } : Jvm.MethodName)) ∈ lw_all := lw_g (lw_at lw_m7 113 rfl) rfl
theorem q1618 : (Jvm.Cond.code ({ cls := "MaltDrums", name := "wetnessOf", desc := "(I)I" } : Jvm.MethodName) prog_1_method_37_code (2 : Nat) (Option.some Jvm.ClassFile.FieldType.int)) ∈ lw_all := lw_g (lw_at lw_m7 114 rfl) rfl
theorem q1623 : (Jvm.Cond.instanceMethod ({ cls := "MaltDrums", name := "growthOf", desc := "(I)I" } : Jvm.MethodName)) ∈ lw_all := lw_g (lw_at lw_m7 119 rfl) rfl
theorem q1624 : (Jvm.Cond.selects "MaltDrums" ({ cls := "MaltDrums", name := "growthOf", desc := "(I)I" } : Jvm.MethodName) ({ cls := "MaltDrums", name := "growthOf", desc := "(I)I" } : Jvm.MethodName)) ∈ lw_all := lw_g (lw_at lw_m7 120 rfl) rfl
theorem q1625 : (Jvm.Cond.code ({ cls := "MaltDrums", name := "growthOf", desc := "(I)I" } : Jvm.MethodName) prog_1_method_38_code (2 : Nat) (Option.some Jvm.ClassFile.FieldType.int)) ∈ lw_all := lw_g (lw_at lw_m7 121 rfl) rfl
theorem q1630 : (Jvm.Cond.instanceMethod ({ cls := "MaltDrums", name := "heatOf", desc := "(I)I" } : Jvm.MethodName)) ∈ lw_all := lw_g (lw_at lw_m7 126 rfl) rfl
theorem q1631 : (Jvm.Cond.selects "MaltDrums" ({ cls := "MaltDrums", name := "heatOf", desc := "(I)I" } : Jvm.MethodName) ({ cls := "MaltDrums", name := "heatOf", desc := "(I)I" } : Jvm.MethodName)) ∈ lw_all := lw_g (lw_at lw_m7 127 rfl) rfl
theorem q1632 : (Jvm.Cond.code ({ cls := "MaltDrums", name := "heatOf", desc := "(I)I" } : Jvm.MethodName) prog_1_method_39_code (2 : Nat) (Option.some Jvm.ClassFile.FieldType.int)) ∈ lw_all := lw_g (lw_at lw_m7 128 rfl) rfl
theorem q1637 : (Jvm.Cond.instanceMethod ({ cls := "MaltDrums", name := "feltOf", desc := "(I)I" } : Jvm.MethodName)) ∈ lw_all := lw_g (lw_at lw_m7 133 rfl) rfl
theorem q1638 : (Jvm.Cond.selects "MaltDrums" ({ cls := "MaltDrums", name := "feltOf", desc := "(I)I" } : Jvm.MethodName) ({ cls := "MaltDrums", name := "feltOf", desc := "(I)I" } : Jvm.MethodName)) ∈ lw_all := lw_g (lw_at lw_m7 134 rfl) rfl
theorem q1639 : (Jvm.Cond.code ({ cls := "MaltDrums", name := "feltOf", desc := "(I)I" } : Jvm.MethodName) prog_1_method_40_code (2 : Nat) (Option.some Jvm.ClassFile.FieldType.int)) ∈ lw_all := lw_g (lw_at lw_m7 135 rfl) rfl
theorem q1644 : (Jvm.Cond.instanceMethod ({ cls := "MaltDrums", name := "isGlassy", desc := "(I)Z" } : Jvm.MethodName)) ∈ lw_all := lw_g (lw_at lw_m7 140 rfl) rfl
theorem q1645 : (Jvm.Cond.selects "MaltDrums" ({ cls := "MaltDrums", name := "isGlassy", desc := "(I)Z" } : Jvm.MethodName) ({ cls := "MaltDrums", name := "isGlassy", desc := "(I)Z" } : Jvm.MethodName)) ∈ lw_all := lw_g (lw_at lw_m7 141 rfl) rfl
theorem q1646 : (Jvm.Cond.code ({ cls := "MaltDrums", name := "isGlassy", desc := "(I)Z" } : Jvm.MethodName) prog_1_method_41_code (2 : Nat) (Option.some Jvm.ClassFile.FieldType.boolean)) ∈ lw_all := lw_g (lw_at lw_m7 142 rfl) rfl
theorem q1651 : (Jvm.Cond.instanceMethod ({ cls := "MaltDrums", name := "paceOf", desc := "(I)I" } : Jvm.MethodName)) ∈ lw_all := lw_g (lw_at lw_m7 147 rfl) rfl
theorem q1652 : (Jvm.Cond.selects "MaltDrums" ({ cls := "MaltDrums", name := "paceOf", desc := "(I)I" } : Jvm.MethodName) ({ cls := "MaltDrums", name := "paceOf", desc := "(I)I" } : Jvm.MethodName)) ∈ lw_all := lw_g (lw_at lw_m7 148 rfl) rfl
theorem q1653 : (Jvm.Cond.code ({ cls := "MaltDrums", name := "paceOf", desc := "(I)I" } : Jvm.MethodName) prog_1_method_42_code (2 : Nat) (Option.some Jvm.ClassFile.FieldType.int)) ∈ lw_all := lw_g (lw_at lw_m7 149 rfl) rfl
theorem q1654 : (Jvm.Cond.methodLink "MaltDrums" (291 : Nat) ({ cls := "MaltDrums$House", name := "pace", desc := "(I)I" } : Jvm.MethodName)) ∈ lw_all := lw_g (lw_at lw_m7 150 rfl) rfl
theorem q1659 : (Jvm.Cond.instanceMethod ({ cls := "MaltDrums", name := "lotsIn", desc := "(I)I" } : Jvm.MethodName)) ∈ lw_all := lw_g (lw_at lw_m7 155 rfl) rfl
theorem q1660 : (Jvm.Cond.selects "MaltDrums" ({ cls := "MaltDrums", name := "lotsIn", desc := "(I)I" } : Jvm.MethodName) ({ cls := "MaltDrums", name := "lotsIn", desc := "(I)I" } : Jvm.MethodName)) ∈ lw_all := lw_g (lw_at lw_m7 156 rfl) rfl
theorem q1661 : (Jvm.Cond.code ({ cls := "MaltDrums", name := "lotsIn", desc := "(I)I" } : Jvm.MethodName) prog_1_method_43_code (2 : Nat) (Option.some Jvm.ClassFile.FieldType.int)) ∈ lw_all := lw_g (lw_at lw_m7 157 rfl) rfl
theorem q1666 : (Jvm.Cond.instanceMethod ({ cls := "MaltDrums", name := "ripest", desc := "(I)I" } : Jvm.MethodName)) ∈ lw_all := lw_g (lw_at lw_m7 162 rfl) rfl
theorem q1667 : (Jvm.Cond.selects "MaltDrums" ({ cls := "MaltDrums", name := "ripest", desc := "(I)I" } : Jvm.MethodName) ({ cls := "MaltDrums", name := "ripest", desc := "(I)I" } : Jvm.MethodName)) ∈ lw_all := lw_g (lw_at lw_m7 163 rfl) rfl
theorem q1668 : (Jvm.Cond.code ({ cls := "MaltDrums", name := "ripest", desc := "(I)I" } : Jvm.MethodName) prog_1_method_45_code (6 : Nat) (Option.some Jvm.ClassFile.FieldType.int)) ∈ lw_all := lw_g (lw_at lw_m7 164 rfl) rfl
theorem q1669 : (Jvm.Cond.methodLink "MaltDrums" (300 : Nat) ({ cls := "MaltDrums", name := "isRiper", desc := "(II)Z" } : Jvm.MethodName)) ∈ lw_all := lw_g (lw_at lw_m7 165 rfl) rfl
theorem q1670 : (Jvm.Cond.privateMethod ({ cls := "MaltDrums", name := "isRiper", desc := "(II)Z" } : Jvm.MethodName)) ∈ lw_tbl := lw_at lw_m7 166 rfl
theorem q1671 : (Jvm.Cond.instanceMethod ({ cls := "MaltDrums", name := "isRiper", desc := "(II)Z" } : Jvm.MethodName)) ∈ lw_all := lw_g (lw_at lw_m7 167 rfl) rfl
theorem q1672 : (Jvm.Cond.code ({ cls := "MaltDrums", name := "isRiper", desc := "(II)Z" } : Jvm.MethodName) prog_1_method_44_code (4 : Nat) (Option.some Jvm.ClassFile.FieldType.boolean)) ∈ lw_all := lw_g (lw_at lw_m7 168 rfl) rfl
theorem q1677 : (Jvm.Cond.instanceMethod ({ cls := "MaltDrums", name := "lotIn", desc := "(I)I" } : Jvm.MethodName)) ∈ lw_all := lw_g (lw_at lw_m7 173 rfl) rfl
theorem q1678 : (Jvm.Cond.selects "MaltDrums" ({ cls := "MaltDrums", name := "lotIn", desc := "(I)I" } : Jvm.MethodName) ({ cls := "MaltDrums", name := "lotIn", desc := "(I)I" } : Jvm.MethodName)) ∈ lw_all := lw_g (lw_at lw_m7 174 rfl) rfl
theorem q1679 : (Jvm.Cond.code ({ cls := "MaltDrums", name := "lotIn", desc := "(I)I" } : Jvm.MethodName) prog_1_method_46_code (2 : Nat) (Option.some Jvm.ClassFile.FieldType.int)) ∈ lw_all := lw_g (lw_at lw_m7 175 rfl) rfl
theorem q1684 : (Jvm.Cond.instanceMethod ({ cls := "MaltDrums", name := "settingsOf", desc := "(I)I" } : Jvm.MethodName)) ∈ lw_all := lw_g (lw_at lw_m7 180 rfl) rfl
theorem q1685 : (Jvm.Cond.selects "MaltDrums" ({ cls := "MaltDrums", name := "settingsOf", desc := "(I)I" } : Jvm.MethodName) ({ cls := "MaltDrums", name := "settingsOf", desc := "(I)I" } : Jvm.MethodName)) ∈ lw_all := lw_g (lw_at lw_m7 181 rfl) rfl
theorem q1686 : (Jvm.Cond.code ({ cls := "MaltDrums", name := "settingsOf", desc := "(I)I" } : Jvm.MethodName) prog_1_method_47_code (3 : Nat) (Option.some Jvm.ClassFile.FieldType.int)) ∈ lw_all := lw_g (lw_at lw_m7 182 rfl) rfl
theorem q1691 : (Jvm.Cond.instanceMethod ({ cls := "MaltDrums", name := "whyNotSteep", desc := "(I)I" } : Jvm.MethodName)) ∈ lw_all := lw_g (lw_at lw_m7 187 rfl) rfl
theorem q1692 : (Jvm.Cond.selects "MaltDrums" ({ cls := "MaltDrums", name := "whyNotSteep", desc := "(I)I" } : Jvm.MethodName) ({ cls := "MaltDrums", name := "whyNotSteep", desc := "(I)I" } : Jvm.MethodName)) ∈ lw_all := lw_g (lw_at lw_m7 188 rfl) rfl
theorem q1693 : (Jvm.Cond.code ({ cls := "MaltDrums", name := "whyNotSteep", desc := "(I)I" } : Jvm.MethodName) prog_1_method_52_code (2 : Nat) (Option.some Jvm.ClassFile.FieldType.int)) ∈ lw_all := lw_g (lw_at lw_m7 189 rfl) rfl
theorem q1698 : (Jvm.Cond.instanceMethod ({ cls := "MaltDrums", name := "whyNotDrum", desc := "(II)I" } : Jvm.MethodName)) ∈ lw_all := lw_g (lw_at lw_m7 194 rfl) rfl
theorem q1699 : (Jvm.Cond.selects "MaltDrums" ({ cls := "MaltDrums", name := "whyNotDrum", desc := "(II)I" } : Jvm.MethodName) ({ cls := "MaltDrums", name := "whyNotDrum", desc := "(II)I" } : Jvm.MethodName)) ∈ lw_all := lw_g (lw_at lw_m7 195 rfl) rfl
theorem q1700 : (Jvm.Cond.code ({ cls := "MaltDrums", name := "whyNotDrum", desc := "(II)I" } : Jvm.MethodName) prog_1_method_53_code (3 : Nat) (Option.some Jvm.ClassFile.FieldType.int)) ∈ lw_all := lw_g (lw_at lw_m7 196 rfl) rfl
theorem q1705 : (Jvm.Cond.instanceMethod ({ cls := "MaltDrums", name := "whyNotLoad", desc := "(I)I" } : Jvm.MethodName)) ∈ lw_all := lw_g (lw_at lw_m7 201 rfl) rfl
theorem q1706 : (Jvm.Cond.selects "MaltDrums" ({ cls := "MaltDrums", name := "whyNotLoad", desc := "(I)I" } : Jvm.MethodName) ({ cls := "MaltDrums", name := "whyNotLoad", desc := "(I)I" } : Jvm.MethodName)) ∈ lw_all := lw_g (lw_at lw_m7 202 rfl) rfl
theorem q1707 : (Jvm.Cond.code ({ cls := "MaltDrums", name := "whyNotLoad", desc := "(I)I" } : Jvm.MethodName) prog_1_method_54_code (2 : Nat) (Option.some Jvm.ClassFile.FieldType.int)) ∈ lw_all := lw_g (lw_at lw_m7 203 rfl) rfl
theorem q1712 : (Jvm.Cond.instanceMethod ({ cls := "MaltDrums", name := "whyNotSpray", desc := "(I)I" } : Jvm.MethodName)) ∈ lw_all := lw_g (lw_at lw_m7 208 rfl) rfl
theorem q1713 : (Jvm.Cond.selects "MaltDrums" ({ cls := "MaltDrums", name := "whyNotSpray", desc := "(I)I" } : Jvm.MethodName) ({ cls := "MaltDrums", name := "whyNotSpray", desc := "(I)I" } : Jvm.MethodName)) ∈ lw_all := lw_g (lw_at lw_m7 209 rfl) rfl
theorem q1714 : (Jvm.Cond.code ({ cls := "MaltDrums", name := "whyNotSpray", desc := "(I)I" } : Jvm.MethodName) prog_1_method_55_code (2 : Nat) (Option.some Jvm.ClassFile.FieldType.int)) ∈ lw_all := lw_g (lw_at lw_m7 210 rfl) rfl
theorem q1719 : (Jvm.Cond.instanceMethod ({ cls := "MaltDrums", name := "hoursToGrow", desc := "(II)I" } : Jvm.MethodName)) ∈ lw_all := lw_g (lw_at lw_m7 215 rfl) rfl
theorem q1720 : (Jvm.Cond.selects "MaltDrums" ({ cls := "MaltDrums", name := "hoursToGrow", desc := "(II)I" } : Jvm.MethodName) ({ cls := "MaltDrums", name := "hoursToGrow", desc := "(II)I" } : Jvm.MethodName)) ∈ lw_all := lw_g (lw_at lw_m7 216 rfl) rfl
theorem q1721 : (Jvm.Cond.code ({ cls := "MaltDrums", name := "hoursToGrow", desc := "(II)I" } : Jvm.MethodName) prog_1_method_56_code (6 : Nat) (Option.some Jvm.ClassFile.FieldType.int)) ∈ lw_all := lw_g (lw_at lw_m7 217 rfl) rfl
theorem q1726 : (Jvm.Cond.instanceMethod ({ cls := "MaltDrums", name := "hoursToSpoil", desc := "(I)I" } : Jvm.MethodName)) ∈ lw_all := lw_g (lw_at lw_m7 222 rfl) rfl
theorem q1727 : (Jvm.Cond.selects "MaltDrums" ({ cls := "MaltDrums", name := "hoursToSpoil", desc := "(I)I" } : Jvm.MethodName) ({ cls := "MaltDrums", name := "hoursToSpoil", desc := "(I)I" } : Jvm.MethodName)) ∈ lw_all := lw_g (lw_at lw_m7 223 rfl) rfl
theorem q1728 : (Jvm.Cond.code ({ cls := "MaltDrums", name := "hoursToSpoil", desc := "(I)I" } : Jvm.MethodName) prog_1_method_57_code (4 : Nat) (Option.some Jvm.ClassFile.FieldType.int)) ∈ lw_all := lw_g (lw_at lw_m7 224 rfl) rfl
theorem q1733 : (Jvm.Cond.instanceMethod ({ cls := "MaltDrums", name := "bestAir", desc := "(I)I" } : Jvm.MethodName)) ∈ lw_all := lw_g (lw_at lw_m7 229 rfl) rfl
theorem q1734 : (Jvm.Cond.selects "MaltDrums" ({ cls := "MaltDrums", name := "bestAir", desc := "(I)I" } : Jvm.MethodName) ({ cls := "MaltDrums", name := "bestAir", desc := "(I)I" } : Jvm.MethodName)) ∈ lw_all := lw_g (lw_at lw_m7 230 rfl) rfl
theorem q1735 : (Jvm.Cond.code ({ cls := "MaltDrums", name := "bestAir", desc := "(I)I" } : Jvm.MethodName) prog_1_method_62_code (9 : Nat) (Option.some Jvm.ClassFile.FieldType.int)) ∈ lw_all := lw_g (lw_at lw_m7 231 rfl) rfl
theorem q1736 : (Jvm.Cond.methodLink "MaltDrums" (336 : Nat) ({ cls := "java/lang/Math", name := "abs", desc := "(I)I" } : Jvm.MethodName)) ∈ lw_all := lw_g (lw_at lw_m7 232 rfl) rfl
theorem q1743 : (Jvm.Cond.instanceMethod ({ cls := "MaltDrums", name := "entryAt", desc := "(I)I" } : Jvm.MethodName)) ∈ lw_all := lw_g (lw_at lw_m7 239 rfl) rfl
theorem q1744 : (Jvm.Cond.selects "MaltDrums" ({ cls := "MaltDrums", name := "entryAt", desc := "(I)I" } : Jvm.MethodName) ({ cls := "MaltDrums", name := "entryAt", desc := "(I)I" } : Jvm.MethodName)) ∈ lw_all := lw_g (lw_at lw_m8 0 rfl) rfl
theorem q1745 : (Jvm.Cond.code ({ cls := "MaltDrums", name := "entryAt", desc := "(I)I" } : Jvm.MethodName) prog_1_method_64_code (2 : Nat) (Option.some Jvm.ClassFile.FieldType.int)) ∈ lw_all := lw_g (lw_at lw_m8 1 rfl) rfl
theorem q1746 : (Jvm.Cond.methodLink "MaltDrums" (346 : Nat) ({ cls := "MaltDrums", name := "entries", desc := "()I" } : Jvm.MethodName)) ∈ lw_all := lw_g (lw_at lw_m8 2 rfl) rfl
theorem q1747 : (Jvm.Cond.methodLink "MaltDrums" (349 : Nat) ({ cls := "MaltDrums$Entry", name := "at", desc := "(I)LMaltDrums$Entry;" } : Jvm.MethodName)) ∈ lw_all := lw_g (lw_at lw_m8 3 rfl) rfl
theorem q2209 : (Jvm.Cond.castable "MaltDrums" "java/lang/Object") ∈ lw_tbl := lw_at lw_m9 225 rfl
theorem in_X1 : ∀ w ∈ wsX10, w ∈ lw_all := lw_in wsX10 [304, 306, 308, 310] (by decide +kernel) (by decide +kernel)
