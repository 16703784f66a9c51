/-! MaltDrumsModel -/
set_option maxRecDepth 100000
def RX6 : String := "MaltDrumsModel"
def TX6 : u_T := fun k => match k with
  | 0 => ("MaltDrumsModel", "z", "[I", true)
  | 1 => ("MaltDrumsModel", "spare", "[I", true)
  | 2 => ("MaltDrumsModel", "past", "[I", true)
  | 3 => ("MaltDrumsModel", "states", "I", false)
  | 4 => ("MaltDrumsModel", "kept", "[I", true)
  | 5 => ("MaltDrumsModel", "isKept", "Z", false)
  | 6 => ("MaltDrumsModel", "buffer", "[I", true)
  | 7 => ("MaltDrumsModel", "length", "I", false)
  | _ => ("MaltDrumsModel", "thrown", "I", false)
def tyX6 : Nat → FieldType := fun k => match k with
  | 0 => .array .int
  | 1 => .array .int
  | 2 => .array .int
  | 3 => .int
  | 4 => .array .int
  | 5 => .boolean
  | 6 => .array .int
  | 7 => .int
  | _ => .int
abbrev wsX60 : List Cond := u_ws RX6 TX6 9
theorem nmX6 : ∀ a, a < 9 → ∀ b, b < 9 → a ≠ b → (TX6 a).2.1 ≠ (TX6 b).2.1 := by decide +kernel
theorem tyX6_ok : ∀ k, k < 9 → parseFieldDescriptor (TX6 k).2.2.1 = some (tyX6 k) := by decide +kernel
abbrev cX6_init : ByteArray := prog_11_method_1_code
def yX6_init : MethodName := ⟨RX6, "<init>", "()V"⟩
def dkwX6_init_3 : List UInt8 := [7, 79, 42, 180, 0, 7, 16, 6, 7, 79, 177]
abbrev dktX6_init_3 : List UInt8 := dkwX6_init_3 ++ []
def dkwX6_init_2 : List UInt8 := [181, 0, 22, 42, 180, 0, 7, 6, 16, 50, 79, 42, 180, 0, 7, 7, 16, 80, 79, 42, 180, 0, 7, 8]
abbrev dktX6_init_2 : List UInt8 := dkwX6_init_2 ++ dktX6_init_3
def dkwX6_init_1 : List UInt8 := [17, 2, 253, 188, 10, 181, 0, 16, 42, 17, 0, 153, 188, 10, 181, 0, 19, 42, 16, 60, 188, 10]
abbrev dktX6_init_1 : List UInt8 := dkwX6_init_1 ++ dktX6_init_2
def dkwX6_init_0 : List UInt8 := [42, 183, 0, 1, 42, 17, 0, 153, 188, 10, 181, 0, 7, 42, 17, 0, 153, 188, 10, 181, 0, 13, 42]
abbrev dktX6_init_0 : List UInt8 := dkwX6_init_0 ++ dktX6_init_1
theorem dksX6_init_0 : cX6_init.data.toList.drop 0 = dktX6_init_0 := by decide +kernel
theorem dksX6_init_1 : cX6_init.data.toList.drop 23 = dktX6_init_1 := dk_seg dksX6_init_0 23 rfl rfl
theorem dksX6_init_2 : cX6_init.data.toList.drop 45 = dktX6_init_2 := dk_seg dksX6_init_1 22 rfl rfl
theorem dksX6_init_3 : cX6_init.data.toList.drop 69 = dktX6_init_3 := dk_seg dksX6_init_2 24 rfl rfl
theorem dX6_init_0 : decode cX6_init 0 = .ok (.aload_n 0, 1) := dk_42 (dk_at dksX6_init_0 0 rfl rfl)
theorem dX6_init_1 : decode cX6_init 1 = .ok (.invokespecial 1, 3) := dk_183 0 1 (dk_at dksX6_init_0 1 rfl rfl)
theorem dX6_init_4 : decode cX6_init 4 = .ok (.aload_n 0, 1) := dk_42 (dk_at dksX6_init_0 4 rfl rfl)
theorem dX6_init_5 : decode cX6_init 5 = .ok (.sipush 153, 3) := dk_17 0 153 (dk_at dksX6_init_0 5 rfl rfl)
theorem dX6_init_8 : decode cX6_init 8 = .ok (.newarray .int, 2) := dk_188_10 (dk_at dksX6_init_0 8 rfl rfl)
theorem dX6_init_10 : decode cX6_init 10 = .ok (.putfield 7, 3) := dk_181 0 7 (dk_at dksX6_init_0 10 rfl rfl)
theorem dX6_init_13 : decode cX6_init 13 = .ok (.aload_n 0, 1) := dk_42 (dk_at dksX6_init_0 13 rfl rfl)
theorem dX6_init_14 : decode cX6_init 14 = .ok (.sipush 153, 3) := dk_17 0 153 (dk_at dksX6_init_0 14 rfl rfl)
theorem dX6_init_17 : decode cX6_init 17 = .ok (.newarray .int, 2) := dk_188_10 (dk_at dksX6_init_0 17 rfl rfl)
theorem dX6_init_19 : decode cX6_init 19 = .ok (.putfield 13, 3) := dk_181 0 13 (dk_at dksX6_init_0 19 rfl rfl)
theorem dX6_init_22 : decode cX6_init 22 = .ok (.aload_n 0, 1) := dk_42 (dk_at dksX6_init_0 22 rfl rfl)
theorem dX6_init_23 : decode cX6_init 23 = .ok (.sipush 765, 3) := dk_17 2 253 (dk_at dksX6_init_1 0 rfl rfl)
theorem dX6_init_26 : decode cX6_init 26 = .ok (.newarray .int, 2) := dk_188_10 (dk_at dksX6_init_1 3 rfl rfl)
theorem dX6_init_28 : decode cX6_init 28 = .ok (.putfield 16, 3) := dk_181 0 16 (dk_at dksX6_init_1 5 rfl rfl)
theorem dX6_init_31 : decode cX6_init 31 = .ok (.aload_n 0, 1) := dk_42 (dk_at dksX6_init_1 8 rfl rfl)
theorem dX6_init_32 : decode cX6_init 32 = .ok (.sipush 153, 3) := dk_17 0 153 (dk_at dksX6_init_1 9 rfl rfl)
theorem dX6_init_35 : decode cX6_init 35 = .ok (.newarray .int, 2) := dk_188_10 (dk_at dksX6_init_1 12 rfl rfl)
theorem dX6_init_37 : decode cX6_init 37 = .ok (.putfield 19, 3) := dk_181 0 19 (dk_at dksX6_init_1 14 rfl rfl)
theorem dX6_init_40 : decode cX6_init 40 = .ok (.aload_n 0, 1) := dk_42 (dk_at dksX6_init_1 17 rfl rfl)
theorem dX6_init_41 : decode cX6_init 41 = .ok (.bipush 60, 2) := dk_16 60 (dk_at dksX6_init_1 18 rfl rfl)
theorem dX6_init_43 : decode cX6_init 43 = .ok (.newarray .int, 2) := dk_188_10 (dk_at dksX6_init_1 20 rfl rfl)
theorem dX6_init_45 : decode cX6_init 45 = .ok (.putfield 22, 3) := dk_181 0 22 (dk_at dksX6_init_2 0 rfl rfl)
theorem dX6_init_48 : decode cX6_init 48 = .ok (.aload_n 0, 1) := dk_42 (dk_at dksX6_init_2 3 rfl rfl)
theorem dX6_init_49 : decode cX6_init 49 = .ok (.getfield 7, 3) := dk_180 0 7 (dk_at dksX6_init_2 4 rfl rfl)
theorem dX6_init_52 : decode cX6_init 52 = .ok (.iconst 3, 1) := dk_6 (dk_at dksX6_init_2 7 rfl rfl)
theorem dX6_init_53 : decode cX6_init 53 = .ok (.bipush 50, 2) := dk_16 50 (dk_at dksX6_init_2 8 rfl rfl)
theorem dX6_init_55 : decode cX6_init 55 = .ok (.iastore, 1) := dk_79 (dk_at dksX6_init_2 10 rfl rfl)
theorem dX6_init_56 : decode cX6_init 56 = .ok (.aload_n 0, 1) := dk_42 (dk_at dksX6_init_2 11 rfl rfl)
theorem dX6_init_57 : decode cX6_init 57 = .ok (.getfield 7, 3) := dk_180 0 7 (dk_at dksX6_init_2 12 rfl rfl)
theorem dX6_init_60 : decode cX6_init 60 = .ok (.iconst 4, 1) := dk_7 (dk_at dksX6_init_2 15 rfl rfl)
theorem dX6_init_61 : decode cX6_init 61 = .ok (.bipush 80, 2) := dk_16 80 (dk_at dksX6_init_2 16 rfl rfl)
theorem dX6_init_63 : decode cX6_init 63 = .ok (.iastore, 1) := dk_79 (dk_at dksX6_init_2 18 rfl rfl)
theorem dX6_init_64 : decode cX6_init 64 = .ok (.aload_n 0, 1) := dk_42 (dk_at dksX6_init_2 19 rfl rfl)
theorem dX6_init_65 : decode cX6_init 65 = .ok (.getfield 7, 3) := dk_180 0 7 (dk_at dksX6_init_2 20 rfl rfl)
theorem dX6_init_68 : decode cX6_init 68 = .ok (.iconst 5, 1) := dk_8 (dk_at dksX6_init_2 23 rfl rfl)
theorem dX6_init_69 : decode cX6_init 69 = .ok (.iconst 4, 1) := dk_7 (dk_at dksX6_init_3 0 rfl rfl)
theorem dX6_init_70 : decode cX6_init 70 = .ok (.iastore, 1) := dk_79 (dk_at dksX6_init_3 1 rfl rfl)
theorem dX6_init_71 : decode cX6_init 71 = .ok (.aload_n 0, 1) := dk_42 (dk_at dksX6_init_3 2 rfl rfl)
theorem dX6_init_72 : decode cX6_init 72 = .ok (.getfield 7, 3) := dk_180 0 7 (dk_at dksX6_init_3 3 rfl rfl)
theorem dX6_init_75 : decode cX6_init 75 = .ok (.bipush 6, 2) := dk_16 6 (dk_at dksX6_init_3 6 rfl rfl)
theorem dX6_init_77 : decode cX6_init 77 = .ok (.iconst 4, 1) := dk_7 (dk_at dksX6_init_3 8 rfl rfl)
theorem dX6_init_78 : decode cX6_init 78 = .ok (.iastore, 1) := dk_79 (dk_at dksX6_init_3 9 rfl rfl)
theorem dX6_init_79 : decode cX6_init 79 = .ok (.return_, 1) := dk_177 (dk_at dksX6_init_3 10 rfl rfl)
abbrev cX6_thrown : ByteArray := prog_11_method_2_code
def yX6_thrown : MethodName := ⟨RX6, "thrown", "()I"⟩
theorem dX6_thrown_0 : decode cX6_thrown 0 = .ok (.aload_n 0, 1) := by decide +kernel
theorem dX6_thrown_1 : decode cX6_thrown 1 = .ok (.getfield 25, 3) := by decide +kernel
theorem dX6_thrown_4 : decode cX6_thrown 4 = .ok (.ireturn, 1) := by decide +kernel
abbrev cX6_undo : ByteArray := prog_11_method_13_code
def yX6_undo : MethodName := ⟨RX6, "undo", "()I"⟩
def dkwX6_undo_2 : List UInt8 := [3, 184, 0, 36, 42, 180, 0, 33, 172]
abbrev dktX6_undo_2 : List UInt8 := dkwX6_undo_2 ++ []
def dkwX6_undo_1 : List UInt8 := [180, 0, 33, 4, 100, 181, 0, 33, 42, 180, 0, 16, 17, 0, 153, 42, 180, 0, 33, 104, 42, 180, 0, 7]
abbrev dktX6_undo_1 : List UInt8 := dkwX6_undo_1 ++ dktX6_undo_2
def dkwX6_undo_0 : List UInt8 := [42, 42, 180, 0, 33, 158, 0, 7, 4, 167, 0, 4, 3, 4, 182, 0, 40, 154, 0, 5, 3, 172, 42, 89]
abbrev dktX6_undo_0 : List UInt8 := dkwX6_undo_0 ++ dktX6_undo_1
theorem dksX6_undo_0 : cX6_undo.data.toList.drop 0 = dktX6_undo_0 := by decide +kernel
theorem dksX6_undo_1 : cX6_undo.data.toList.drop 24 = dktX6_undo_1 := dk_seg dksX6_undo_0 24 rfl rfl
theorem dksX6_undo_2 : cX6_undo.data.toList.drop 48 = dktX6_undo_2 := dk_seg dksX6_undo_1 24 rfl rfl
theorem dX6_undo_0 : decode cX6_undo 0 = .ok (.aload_n 0, 1) := dk_42 (dk_at dksX6_undo_0 0 rfl rfl)
theorem dX6_undo_1 : decode cX6_undo 1 = .ok (.aload_n 0, 1) := dk_42 (dk_at dksX6_undo_0 1 rfl rfl)
theorem dX6_undo_2 : decode cX6_undo 2 = .ok (.getfield 33, 3) := dk_180 0 33 (dk_at dksX6_undo_0 2 rfl rfl)
theorem dX6_undo_5 : decode cX6_undo 5 = .ok (.ifCond .le 7, 3) := dk_158 0 7 (dk_at dksX6_undo_0 5 rfl rfl)
theorem dX6_undo_8 : decode cX6_undo 8 = .ok (.iconst 1, 1) := dk_4 (dk_at dksX6_undo_0 8 rfl rfl)
theorem dX6_undo_9 : decode cX6_undo 9 = .ok (.goto 4, 3) := dk_167 0 4 (dk_at dksX6_undo_0 9 rfl rfl)
theorem dX6_undo_12 : decode cX6_undo 12 = .ok (.iconst 0, 1) := dk_3 (dk_at dksX6_undo_0 12 rfl rfl)
theorem dX6_undo_13 : decode cX6_undo 13 = .ok (.iconst 1, 1) := dk_4 (dk_at dksX6_undo_0 13 rfl rfl)
theorem dX6_undo_14 : decode cX6_undo 14 = .ok (.invokevirtual 40, 3) := dk_182 0 40 (dk_at dksX6_undo_0 14 rfl rfl)
theorem dX6_undo_17 : decode cX6_undo 17 = .ok (.ifCond .ne 5, 3) := dk_154 0 5 (dk_at dksX6_undo_0 17 rfl rfl)
theorem dX6_undo_20 : decode cX6_undo 20 = .ok (.iconst 0, 1) := dk_3 (dk_at dksX6_undo_0 20 rfl rfl)
theorem dX6_undo_21 : decode cX6_undo 21 = .ok (.ireturn, 1) := dk_172 (dk_at dksX6_undo_0 21 rfl rfl)
theorem dX6_undo_22 : decode cX6_undo 22 = .ok (.aload_n 0, 1) := dk_42 (dk_at dksX6_undo_0 22 rfl rfl)
theorem dX6_undo_23 : decode cX6_undo 23 = .ok (.dup, 1) := dk_89 (dk_at dksX6_undo_0 23 rfl rfl)
theorem dX6_undo_24 : decode cX6_undo 24 = .ok (.getfield 33, 3) := dk_180 0 33 (dk_at dksX6_undo_1 0 rfl rfl)
theorem dX6_undo_27 : decode cX6_undo 27 = .ok (.iconst 1, 1) := dk_4 (dk_at dksX6_undo_1 3 rfl rfl)
theorem dX6_undo_28 : decode cX6_undo 28 = .ok (.isub, 1) := dk_100 (dk_at dksX6_undo_1 4 rfl rfl)
theorem dX6_undo_29 : decode cX6_undo 29 = .ok (.putfield 33, 3) := dk_181 0 33 (dk_at dksX6_undo_1 5 rfl rfl)
theorem dX6_undo_32 : decode cX6_undo 32 = .ok (.aload_n 0, 1) := dk_42 (dk_at dksX6_undo_1 8 rfl rfl)
theorem dX6_undo_33 : decode cX6_undo 33 = .ok (.getfield 16, 3) := dk_180 0 16 (dk_at dksX6_undo_1 9 rfl rfl)
theorem dX6_undo_36 : decode cX6_undo 36 = .ok (.sipush 153, 3) := dk_17 0 153 (dk_at dksX6_undo_1 12 rfl rfl)
theorem dX6_undo_39 : decode cX6_undo 39 = .ok (.aload_n 0, 1) := dk_42 (dk_at dksX6_undo_1 15 rfl rfl)
theorem dX6_undo_40 : decode cX6_undo 40 = .ok (.getfield 33, 3) := dk_180 0 33 (dk_at dksX6_undo_1 16 rfl rfl)
theorem dX6_undo_43 : decode cX6_undo 43 = .ok (.imul, 1) := dk_104 (dk_at dksX6_undo_1 19 rfl rfl)
theorem dX6_undo_44 : decode cX6_undo 44 = .ok (.aload_n 0, 1) := dk_42 (dk_at dksX6_undo_1 20 rfl rfl)
theorem dX6_undo_45 : decode cX6_undo 45 = .ok (.getfield 7, 3) := dk_180 0 7 (dk_at dksX6_undo_1 21 rfl rfl)
theorem dX6_undo_48 : decode cX6_undo 48 = .ok (.iconst 0, 1) := dk_3 (dk_at dksX6_undo_2 0 rfl rfl)
theorem dX6_undo_49 : decode cX6_undo 49 = .ok (.invokestatic 36, 3) := dk_184 0 36 (dk_at dksX6_undo_2 1 rfl rfl)
theorem dX6_undo_52 : decode cX6_undo 52 = .ok (.aload_n 0, 1) := dk_42 (dk_at dksX6_undo_2 4 rfl rfl)
theorem dX6_undo_53 : decode cX6_undo 53 = .ok (.getfield 33, 3) := dk_180 0 33 (dk_at dksX6_undo_2 5 rfl rfl)
theorem dX6_undo_56 : decode cX6_undo 56 = .ok (.ireturn, 1) := dk_172 (dk_at dksX6_undo_2 8 rfl rfl)
abbrev cX6_goes : ByteArray := prog_11_method_4_code
def yX6_goes : MethodName := ⟨RX6, "goes", "(ZZ)Z"⟩
def dkwX6_goes_1 : List UInt8 := [180, 0, 25, 154, 0, 7, 4, 167, 0, 4, 3, 172]
abbrev dktX6_goes_1 : List UInt8 := dkwX6_goes_1 ++ []
def dkwX6_goes_0 : List UInt8 := [42, 27, 154, 0, 7, 4, 167, 0, 12, 28, 154, 0, 7, 5, 167, 0, 4, 3, 181, 0, 25, 42]
abbrev dktX6_goes_0 : List UInt8 := dkwX6_goes_0 ++ dktX6_goes_1
theorem dksX6_goes_0 : cX6_goes.data.toList.drop 0 = dktX6_goes_0 := by decide +kernel
theorem dksX6_goes_1 : cX6_goes.data.toList.drop 22 = dktX6_goes_1 := dk_seg dksX6_goes_0 22 rfl rfl
theorem dX6_goes_0 : decode cX6_goes 0 = .ok (.aload_n 0, 1) := dk_42 (dk_at dksX6_goes_0 0 rfl rfl)
theorem dX6_goes_1 : decode cX6_goes 1 = .ok (.iload_n 1, 1) := dk_27 (dk_at dksX6_goes_0 1 rfl rfl)
theorem dX6_goes_2 : decode cX6_goes 2 = .ok (.ifCond .ne 7, 3) := dk_154 0 7 (dk_at dksX6_goes_0 2 rfl rfl)
theorem dX6_goes_5 : decode cX6_goes 5 = .ok (.iconst 1, 1) := dk_4 (dk_at dksX6_goes_0 5 rfl rfl)
theorem dX6_goes_6 : decode cX6_goes 6 = .ok (.goto 12, 3) := dk_167 0 12 (dk_at dksX6_goes_0 6 rfl rfl)
theorem dX6_goes_9 : decode cX6_goes 9 = .ok (.iload_n 2, 1) := dk_28 (dk_at dksX6_goes_0 9 rfl rfl)
theorem dX6_goes_10 : decode cX6_goes 10 = .ok (.ifCond .ne 7, 3) := dk_154 0 7 (dk_at dksX6_goes_0 10 rfl rfl)
theorem dX6_goes_13 : decode cX6_goes 13 = .ok (.iconst 2, 1) := dk_5 (dk_at dksX6_goes_0 13 rfl rfl)
theorem dX6_goes_14 : decode cX6_goes 14 = .ok (.goto 4, 3) := dk_167 0 4 (dk_at dksX6_goes_0 14 rfl rfl)
theorem dX6_goes_17 : decode cX6_goes 17 = .ok (.iconst 0, 1) := dk_3 (dk_at dksX6_goes_0 17 rfl rfl)
theorem dX6_goes_18 : decode cX6_goes 18 = .ok (.putfield 25, 3) := dk_181 0 25 (dk_at dksX6_goes_0 18 rfl rfl)
theorem dX6_goes_21 : decode cX6_goes 21 = .ok (.aload_n 0, 1) := dk_42 (dk_at dksX6_goes_0 21 rfl rfl)
theorem dX6_goes_22 : decode cX6_goes 22 = .ok (.getfield 25, 3) := dk_180 0 25 (dk_at dksX6_goes_1 0 rfl rfl)
theorem dX6_goes_25 : decode cX6_goes 25 = .ok (.ifCond .ne 7, 3) := dk_154 0 7 (dk_at dksX6_goes_1 3 rfl rfl)
theorem dX6_goes_28 : decode cX6_goes 28 = .ok (.iconst 1, 1) := dk_4 (dk_at dksX6_goes_1 6 rfl rfl)
theorem dX6_goes_29 : decode cX6_goes 29 = .ok (.goto 4, 3) := dk_167 0 4 (dk_at dksX6_goes_1 7 rfl rfl)
theorem dX6_goes_32 : decode cX6_goes 32 = .ok (.iconst 0, 1) := dk_3 (dk_at dksX6_goes_1 10 rfl rfl)
theorem dX6_goes_33 : decode cX6_goes 33 = .ok (.ireturn, 1) := dk_172 (dk_at dksX6_goes_1 11 rfl rfl)
abbrev cX6_copyState : ByteArray := prog_11_method_11_code
def yX6_copyState : MethodName := ⟨RX6, "copyState", "([II[II)V"⟩
def dkwX6_copyState_1 : List UInt8 := [132, 4, 1, 167, 255, 233, 177]
abbrev dktX6_copyState_1 : List UInt8 := dkwX6_copyState_1 ++ []
def dkwX6_copyState_0 : List UInt8 := [3, 54, 4, 21, 4, 17, 0, 153, 162, 0, 21, 44, 29, 21, 4, 96, 42, 27, 21, 4, 96, 46, 79]
abbrev dktX6_copyState_0 : List UInt8 := dkwX6_copyState_0 ++ dktX6_copyState_1
theorem dksX6_copyState_0 : cX6_copyState.data.toList.drop 0 = dktX6_copyState_0 := by decide +kernel
theorem dksX6_copyState_1 : cX6_copyState.data.toList.drop 23 = dktX6_copyState_1 := dk_seg dksX6_copyState_0 23 rfl rfl
theorem dX6_copyState_0 : decode cX6_copyState 0 = .ok (.iconst 0, 1) := dk_3 (dk_at dksX6_copyState_0 0 rfl rfl)
theorem dX6_copyState_1 : decode cX6_copyState 1 = .ok (.istore 4, 2) := dk_54 4 (dk_at dksX6_copyState_0 1 rfl rfl)
theorem dX6_copyState_3 : decode cX6_copyState 3 = .ok (.iload 4, 2) := dk_21 4 (dk_at dksX6_copyState_0 3 rfl rfl)
theorem dX6_copyState_5 : decode cX6_copyState 5 = .ok (.sipush 153, 3) := dk_17 0 153 (dk_at dksX6_copyState_0 5 rfl rfl)
theorem dX6_copyState_8 : decode cX6_copyState 8 = .ok (.if_icmp .ge 21, 3) := dk_162 0 21 (dk_at dksX6_copyState_0 8 rfl rfl)
theorem dX6_copyState_11 : decode cX6_copyState 11 = .ok (.aload_n 2, 1) := dk_44 (dk_at dksX6_copyState_0 11 rfl rfl)
theorem dX6_copyState_12 : decode cX6_copyState 12 = .ok (.iload_n 3, 1) := dk_29 (dk_at dksX6_copyState_0 12 rfl rfl)
theorem dX6_copyState_13 : decode cX6_copyState 13 = .ok (.iload 4, 2) := dk_21 4 (dk_at dksX6_copyState_0 13 rfl rfl)
theorem dX6_copyState_15 : decode cX6_copyState 15 = .ok (.iadd, 1) := dk_96 (dk_at dksX6_copyState_0 15 rfl rfl)
theorem dX6_copyState_16 : decode cX6_copyState 16 = .ok (.aload_n 0, 1) := dk_42 (dk_at dksX6_copyState_0 16 rfl rfl)
theorem dX6_copyState_17 : decode cX6_copyState 17 = .ok (.iload_n 1, 1) := dk_27 (dk_at dksX6_copyState_0 17 rfl rfl)
theorem dX6_copyState_18 : decode cX6_copyState 18 = .ok (.iload 4, 2) := dk_21 4 (dk_at dksX6_copyState_0 18 rfl rfl)
theorem dX6_copyState_20 : decode cX6_copyState 20 = .ok (.iadd, 1) := dk_96 (dk_at dksX6_copyState_0 20 rfl rfl)
theorem dX6_copyState_21 : decode cX6_copyState 21 = .ok (.iaload, 1) := dk_46 (dk_at dksX6_copyState_0 21 rfl rfl)
theorem dX6_copyState_22 : decode cX6_copyState 22 = .ok (.iastore, 1) := dk_79 (dk_at dksX6_copyState_0 22 rfl rfl)
theorem dX6_copyState_23 : decode cX6_copyState 23 = .ok (.iinc 4 1, 3) := dk_132 4 1 (dk_at dksX6_copyState_1 0 rfl rfl)
theorem dX6_copyState_26 : decode cX6_copyState 26 = .ok (.goto (-23), 3) := dk_167 255 233 (dk_at dksX6_copyState_1 3 rfl rfl)
theorem dX6_copyState_29 : decode cX6_copyState 29 = .ok (.return_, 1) := dk_177 (dk_at dksX6_copyState_1 6 rfl rfl)
abbrev cX6_savedStates : ByteArray := prog_11_method_14_code
def yX6_savedStates : MethodName := ⟨RX6, "savedStates", "()I"⟩
def dkwX6_savedStates_0 : List UInt8 := [42, 3, 181, 0, 25, 42, 180, 0, 33, 172]
abbrev dktX6_savedStates_0 : List UInt8 := dkwX6_savedStates_0 ++ []
theorem dksX6_savedStates_0 : cX6_savedStates.data.toList.drop 0 = dktX6_savedStates_0 := by decide +kernel
theorem dX6_savedStates_0 : decode cX6_savedStates 0 = .ok (.aload_n 0, 1) := dk_42 (dk_at dksX6_savedStates_0 0 rfl rfl)
theorem dX6_savedStates_1 : decode cX6_savedStates 1 = .ok (.iconst 0, 1) := dk_3 (dk_at dksX6_savedStates_0 1 rfl rfl)
theorem dX6_savedStates_2 : decode cX6_savedStates 2 = .ok (.putfield 25, 3) := dk_181 0 25 (dk_at dksX6_savedStates_0 2 rfl rfl)
theorem dX6_savedStates_5 : decode cX6_savedStates 5 = .ok (.aload_n 0, 1) := dk_42 (dk_at dksX6_savedStates_0 5 rfl rfl)
theorem dX6_savedStates_6 : decode cX6_savedStates 6 = .ok (.getfield 33, 3) := dk_180 0 33 (dk_at dksX6_savedStates_0 6 rfl rfl)
theorem dX6_savedStates_9 : decode cX6_savedStates 9 = .ok (.ireturn, 1) := dk_172 (dk_at dksX6_savedStates_0 9 rfl rfl)
abbrev cX6_keep : ByteArray := prog_11_method_15_code
def yX6_keep : MethodName := ⟨RX6, "keep", "()I"⟩
def dkwX6_keep_1 : List UInt8 := [180, 0, 7, 3, 46, 172]
abbrev dktX6_keep_1 : List UInt8 := dkwX6_keep_1 ++ []
def dkwX6_keep_0 : List UInt8 := [42, 3, 181, 0, 25, 42, 180, 0, 7, 3, 42, 180, 0, 19, 3, 184, 0, 36, 42, 4, 181, 0, 44, 42]
abbrev dktX6_keep_0 : List UInt8 := dkwX6_keep_0 ++ dktX6_keep_1
theorem dksX6_keep_0 : cX6_keep.data.toList.drop 0 = dktX6_keep_0 := by decide +kernel
theorem dksX6_keep_1 : cX6_keep.data.toList.drop 24 = dktX6_keep_1 := dk_seg dksX6_keep_0 24 rfl rfl
theorem dX6_keep_0 : decode cX6_keep 0 = .ok (.aload_n 0, 1) := dk_42 (dk_at dksX6_keep_0 0 rfl rfl)
theorem dX6_keep_1 : decode cX6_keep 1 = .ok (.iconst 0, 1) := dk_3 (dk_at dksX6_keep_0 1 rfl rfl)
theorem dX6_keep_2 : decode cX6_keep 2 = .ok (.putfield 25, 3) := dk_181 0 25 (dk_at dksX6_keep_0 2 rfl rfl)
theorem dX6_keep_5 : decode cX6_keep 5 = .ok (.aload_n 0, 1) := dk_42 (dk_at dksX6_keep_0 5 rfl rfl)
theorem dX6_keep_6 : decode cX6_keep 6 = .ok (.getfield 7, 3) := dk_180 0 7 (dk_at dksX6_keep_0 6 rfl rfl)
theorem dX6_keep_9 : decode cX6_keep 9 = .ok (.iconst 0, 1) := dk_3 (dk_at dksX6_keep_0 9 rfl rfl)
theorem dX6_keep_10 : decode cX6_keep 10 = .ok (.aload_n 0, 1) := dk_42 (dk_at dksX6_keep_0 10 rfl rfl)
theorem dX6_keep_11 : decode cX6_keep 11 = .ok (.getfield 19, 3) := dk_180 0 19 (dk_at dksX6_keep_0 11 rfl rfl)
theorem dX6_keep_14 : decode cX6_keep 14 = .ok (.iconst 0, 1) := dk_3 (dk_at dksX6_keep_0 14 rfl rfl)
theorem dX6_keep_15 : decode cX6_keep 15 = .ok (.invokestatic 36, 3) := dk_184 0 36 (dk_at dksX6_keep_0 15 rfl rfl)
theorem dX6_keep_18 : decode cX6_keep 18 = .ok (.aload_n 0, 1) := dk_42 (dk_at dksX6_keep_0 18 rfl rfl)
theorem dX6_keep_19 : decode cX6_keep 19 = .ok (.iconst 1, 1) := dk_4 (dk_at dksX6_keep_0 19 rfl rfl)
theorem dX6_keep_20 : decode cX6_keep 20 = .ok (.putfield 44, 3) := dk_181 0 44 (dk_at dksX6_keep_0 20 rfl rfl)
theorem dX6_keep_23 : decode cX6_keep 23 = .ok (.aload_n 0, 1) := dk_42 (dk_at dksX6_keep_0 23 rfl rfl)
theorem dX6_keep_24 : decode cX6_keep 24 = .ok (.getfield 7, 3) := dk_180 0 7 (dk_at dksX6_keep_1 0 rfl rfl)
theorem dX6_keep_27 : decode cX6_keep 27 = .ok (.iconst 0, 1) := dk_3 (dk_at dksX6_keep_1 3 rfl rfl)
theorem dX6_keep_28 : decode cX6_keep 28 = .ok (.iaload, 1) := dk_46 (dk_at dksX6_keep_1 4 rfl rfl)
theorem dX6_keep_29 : decode cX6_keep 29 = .ok (.ireturn, 1) := dk_172 (dk_at dksX6_keep_1 5 rfl rfl)
abbrev cX6_restore : ByteArray := prog_11_method_16_code
def yX6_restore : MethodName := ⟨RX6, "restore", "()I"⟩
def dkwX6_restore_1 : List UInt8 := [180, 0, 7, 3, 184, 0, 36, 42, 180, 0, 7, 3, 46, 172]
abbrev dktX6_restore_1 : List UInt8 := dkwX6_restore_1 ++ []
def dkwX6_restore_0 : List UInt8 := [42, 42, 180, 0, 44, 4, 182, 0, 40, 154, 0, 5, 3, 172, 42, 182, 0, 48, 42, 180, 0, 19, 3, 42]
abbrev dktX6_restore_0 : List UInt8 := dkwX6_restore_0 ++ dktX6_restore_1
theorem dksX6_restore_0 : cX6_restore.data.toList.drop 0 = dktX6_restore_0 := by decide +kernel
theorem dksX6_restore_1 : cX6_restore.data.toList.drop 24 = dktX6_restore_1 := dk_seg dksX6_restore_0 24 rfl rfl
theorem dX6_restore_0 : decode cX6_restore 0 = .ok (.aload_n 0, 1) := dk_42 (dk_at dksX6_restore_0 0 rfl rfl)
theorem dX6_restore_1 : decode cX6_restore 1 = .ok (.aload_n 0, 1) := dk_42 (dk_at dksX6_restore_0 1 rfl rfl)
theorem dX6_restore_2 : decode cX6_restore 2 = .ok (.getfield 44, 3) := dk_180 0 44 (dk_at dksX6_restore_0 2 rfl rfl)
theorem dX6_restore_5 : decode cX6_restore 5 = .ok (.iconst 1, 1) := dk_4 (dk_at dksX6_restore_0 5 rfl rfl)
theorem dX6_restore_6 : decode cX6_restore 6 = .ok (.invokevirtual 40, 3) := dk_182 0 40 (dk_at dksX6_restore_0 6 rfl rfl)
theorem dX6_restore_9 : decode cX6_restore 9 = .ok (.ifCond .ne 5, 3) := dk_154 0 5 (dk_at dksX6_restore_0 9 rfl rfl)
theorem dX6_restore_12 : decode cX6_restore 12 = .ok (.iconst 0, 1) := dk_3 (dk_at dksX6_restore_0 12 rfl rfl)
theorem dX6_restore_13 : decode cX6_restore 13 = .ok (.ireturn, 1) := dk_172 (dk_at dksX6_restore_0 13 rfl rfl)
theorem dX6_restore_14 : decode cX6_restore 14 = .ok (.aload_n 0, 1) := dk_42 (dk_at dksX6_restore_0 14 rfl rfl)
theorem dX6_restore_15 : decode cX6_restore 15 = .ok (.invokevirtual 48, 3) := dk_182 0 48 (dk_at dksX6_restore_0 15 rfl rfl)
theorem dX6_restore_18 : decode cX6_restore 18 = .ok (.aload_n 0, 1) := dk_42 (dk_at dksX6_restore_0 18 rfl rfl)
theorem dX6_restore_19 : decode cX6_restore 19 = .ok (.getfield 19, 3) := dk_180 0 19 (dk_at dksX6_restore_0 19 rfl rfl)
theorem dX6_restore_22 : decode cX6_restore 22 = .ok (.iconst 0, 1) := dk_3 (dk_at dksX6_restore_0 22 rfl rfl)
theorem dX6_restore_23 : decode cX6_restore 23 = .ok (.aload_n 0, 1) := dk_42 (dk_at dksX6_restore_0 23 rfl rfl)
theorem dX6_restore_24 : decode cX6_restore 24 = .ok (.getfield 7, 3) := dk_180 0 7 (dk_at dksX6_restore_1 0 rfl rfl)
theorem dX6_restore_27 : decode cX6_restore 27 = .ok (.iconst 0, 1) := dk_3 (dk_at dksX6_restore_1 3 rfl rfl)
theorem dX6_restore_28 : decode cX6_restore 28 = .ok (.invokestatic 36, 3) := dk_184 0 36 (dk_at dksX6_restore_1 4 rfl rfl)
theorem dX6_restore_31 : decode cX6_restore 31 = .ok (.aload_n 0, 1) := dk_42 (dk_at dksX6_restore_1 7 rfl rfl)
theorem dX6_restore_32 : decode cX6_restore 32 = .ok (.getfield 7, 3) := dk_180 0 7 (dk_at dksX6_restore_1 8 rfl rfl)
theorem dX6_restore_35 : decode cX6_restore 35 = .ok (.iconst 0, 1) := dk_3 (dk_at dksX6_restore_1 11 rfl rfl)
theorem dX6_restore_36 : decode cX6_restore 36 = .ok (.iaload, 1) := dk_46 (dk_at dksX6_restore_1 12 rfl rfl)
theorem dX6_restore_37 : decode cX6_restore 37 = .ok (.ireturn, 1) := dk_172 (dk_at dksX6_restore_1 13 rfl rfl)
abbrev cX6_record : ByteArray := prog_11_method_12_code
def yX6_record : MethodName := ⟨RX6, "record", "()V"⟩
def dkwX6_record_3 : List UInt8 := [89, 180, 0, 33, 4, 96, 181, 0, 33, 177]
abbrev dktX6_record_3 : List UInt8 := dkwX6_record_3 ++ []
def dkwX6_record_2 : List UInt8 := [181, 0, 33, 42, 180, 0, 7, 3, 42, 180, 0, 16, 17, 0, 153, 42, 180, 0, 33, 104, 184, 0, 36, 42]
abbrev dktX6_record_2 : List UInt8 := dkwX6_record_2 ++ dktX6_record_3
def dkwX6_record_1 : List UInt8 := [180, 0, 16, 27, 17, 0, 153, 96, 46, 79, 132, 1, 1, 167, 255, 230, 42, 89, 180, 0, 33, 4, 100]
abbrev dktX6_record_1 : List UInt8 := dkwX6_record_1 ++ dktX6_record_2
def dkwX6_record_0 : List UInt8 := [42, 180, 0, 33, 8, 160, 0, 44, 3, 60, 27, 17, 2, 100, 162, 0, 25, 42, 180, 0, 16, 27, 42]
abbrev dktX6_record_0 : List UInt8 := dkwX6_record_0 ++ dktX6_record_1
theorem dksX6_record_0 : cX6_record.data.toList.drop 0 = dktX6_record_0 := by decide +kernel
theorem dksX6_record_1 : cX6_record.data.toList.drop 23 = dktX6_record_1 := dk_seg dksX6_record_0 23 rfl rfl
theorem dksX6_record_2 : cX6_record.data.toList.drop 46 = dktX6_record_2 := dk_seg dksX6_record_1 23 rfl rfl
theorem dksX6_record_3 : cX6_record.data.toList.drop 70 = dktX6_record_3 := dk_seg dksX6_record_2 24 rfl rfl
theorem dX6_record_0 : decode cX6_record 0 = .ok (.aload_n 0, 1) := dk_42 (dk_at dksX6_record_0 0 rfl rfl)
theorem dX6_record_1 : decode cX6_record 1 = .ok (.getfield 33, 3) := dk_180 0 33 (dk_at dksX6_record_0 1 rfl rfl)
theorem dX6_record_4 : decode cX6_record 4 = .ok (.iconst 5, 1) := dk_8 (dk_at dksX6_record_0 4 rfl rfl)
theorem dX6_record_5 : decode cX6_record 5 = .ok (.if_icmp .ne 44, 3) := dk_160 0 44 (dk_at dksX6_record_0 5 rfl rfl)
theorem dX6_record_8 : decode cX6_record 8 = .ok (.iconst 0, 1) := dk_3 (dk_at dksX6_record_0 8 rfl rfl)
theorem dX6_record_9 : decode cX6_record 9 = .ok (.istore_n 1, 1) := dk_60 (dk_at dksX6_record_0 9 rfl rfl)
theorem dX6_record_10 : decode cX6_record 10 = .ok (.iload_n 1, 1) := dk_27 (dk_at dksX6_record_0 10 rfl rfl)
theorem dX6_record_11 : decode cX6_record 11 = .ok (.sipush 612, 3) := dk_17 2 100 (dk_at dksX6_record_0 11 rfl rfl)
theorem dX6_record_14 : decode cX6_record 14 = .ok (.if_icmp .ge 25, 3) := dk_162 0 25 (dk_at dksX6_record_0 14 rfl rfl)
theorem dX6_record_17 : decode cX6_record 17 = .ok (.aload_n 0, 1) := dk_42 (dk_at dksX6_record_0 17 rfl rfl)
theorem dX6_record_18 : decode cX6_record 18 = .ok (.getfield 16, 3) := dk_180 0 16 (dk_at dksX6_record_0 18 rfl rfl)
theorem dX6_record_21 : decode cX6_record 21 = .ok (.iload_n 1, 1) := dk_27 (dk_at dksX6_record_0 21 rfl rfl)
theorem dX6_record_22 : decode cX6_record 22 = .ok (.aload_n 0, 1) := dk_42 (dk_at dksX6_record_0 22 rfl rfl)
theorem dX6_record_23 : decode cX6_record 23 = .ok (.getfield 16, 3) := dk_180 0 16 (dk_at dksX6_record_1 0 rfl rfl)
theorem dX6_record_26 : decode cX6_record 26 = .ok (.iload_n 1, 1) := dk_27 (dk_at dksX6_record_1 3 rfl rfl)
theorem dX6_record_27 : decode cX6_record 27 = .ok (.sipush 153, 3) := dk_17 0 153 (dk_at dksX6_record_1 4 rfl rfl)
theorem dX6_record_30 : decode cX6_record 30 = .ok (.iadd, 1) := dk_96 (dk_at dksX6_record_1 7 rfl rfl)
theorem dX6_record_31 : decode cX6_record 31 = .ok (.iaload, 1) := dk_46 (dk_at dksX6_record_1 8 rfl rfl)
theorem dX6_record_32 : decode cX6_record 32 = .ok (.iastore, 1) := dk_79 (dk_at dksX6_record_1 9 rfl rfl)
theorem dX6_record_33 : decode cX6_record 33 = .ok (.iinc 1 1, 3) := dk_132 1 1 (dk_at dksX6_record_1 10 rfl rfl)
theorem dX6_record_36 : decode cX6_record 36 = .ok (.goto (-26), 3) := dk_167 255 230 (dk_at dksX6_record_1 13 rfl rfl)
theorem dX6_record_39 : decode cX6_record 39 = .ok (.aload_n 0, 1) := dk_42 (dk_at dksX6_record_1 16 rfl rfl)
theorem dX6_record_40 : decode cX6_record 40 = .ok (.dup, 1) := dk_89 (dk_at dksX6_record_1 17 rfl rfl)
theorem dX6_record_41 : decode cX6_record 41 = .ok (.getfield 33, 3) := dk_180 0 33 (dk_at dksX6_record_1 18 rfl rfl)
theorem dX6_record_44 : decode cX6_record 44 = .ok (.iconst 1, 1) := dk_4 (dk_at dksX6_record_1 21 rfl rfl)
theorem dX6_record_45 : decode cX6_record 45 = .ok (.isub, 1) := dk_100 (dk_at dksX6_record_1 22 rfl rfl)
theorem dX6_record_46 : decode cX6_record 46 = .ok (.putfield 33, 3) := dk_181 0 33 (dk_at dksX6_record_2 0 rfl rfl)
theorem dX6_record_49 : decode cX6_record 49 = .ok (.aload_n 0, 1) := dk_42 (dk_at dksX6_record_2 3 rfl rfl)
theorem dX6_record_50 : decode cX6_record 50 = .ok (.getfield 7, 3) := dk_180 0 7 (dk_at dksX6_record_2 4 rfl rfl)
theorem dX6_record_53 : decode cX6_record 53 = .ok (.iconst 0, 1) := dk_3 (dk_at dksX6_record_2 7 rfl rfl)
theorem dX6_record_54 : decode cX6_record 54 = .ok (.aload_n 0, 1) := dk_42 (dk_at dksX6_record_2 8 rfl rfl)
theorem dX6_record_55 : decode cX6_record 55 = .ok (.getfield 16, 3) := dk_180 0 16 (dk_at dksX6_record_2 9 rfl rfl)
theorem dX6_record_58 : decode cX6_record 58 = .ok (.sipush 153, 3) := dk_17 0 153 (dk_at dksX6_record_2 12 rfl rfl)
theorem dX6_record_61 : decode cX6_record 61 = .ok (.aload_n 0, 1) := dk_42 (dk_at dksX6_record_2 15 rfl rfl)
theorem dX6_record_62 : decode cX6_record 62 = .ok (.getfield 33, 3) := dk_180 0 33 (dk_at dksX6_record_2 16 rfl rfl)
theorem dX6_record_65 : decode cX6_record 65 = .ok (.imul, 1) := dk_104 (dk_at dksX6_record_2 19 rfl rfl)
theorem dX6_record_66 : decode cX6_record 66 = .ok (.invokestatic 36, 3) := dk_184 0 36 (dk_at dksX6_record_2 20 rfl rfl)
theorem dX6_record_69 : decode cX6_record 69 = .ok (.aload_n 0, 1) := dk_42 (dk_at dksX6_record_2 23 rfl rfl)
theorem dX6_record_70 : decode cX6_record 70 = .ok (.dup, 1) := dk_89 (dk_at dksX6_record_3 0 rfl rfl)
theorem dX6_record_71 : decode cX6_record 71 = .ok (.getfield 33, 3) := dk_180 0 33 (dk_at dksX6_record_3 1 rfl rfl)
theorem dX6_record_74 : decode cX6_record 74 = .ok (.iconst 1, 1) := dk_4 (dk_at dksX6_record_3 4 rfl rfl)
theorem dX6_record_75 : decode cX6_record 75 = .ok (.iadd, 1) := dk_96 (dk_at dksX6_record_3 5 rfl rfl)
theorem dX6_record_76 : decode cX6_record 76 = .ok (.putfield 33, 3) := dk_181 0 33 (dk_at dksX6_record_3 6 rfl rfl)
theorem dX6_record_79 : decode cX6_record 79 = .ok (.return_, 1) := dk_177 (dk_at dksX6_record_3 9 rfl rfl)
abbrev cX6_add : ByteArray := prog_11_method_38_code
def yX6_add : MethodName := ⟨RX6, "add", "(I)I"⟩
def dkwX6_add_2 : List UInt8 := [180, 0, 7, 16, 7, 46, 4, 100, 172]
abbrev dktX6_add_2 : List UInt8 := dkwX6_add_2 ++ []
def dkwX6_add_1 : List UInt8 := [167, 0, 4, 3, 182, 0, 40, 154, 0, 5, 3, 172, 42, 182, 0, 48, 42, 27, 182, 0, 109, 42]
abbrev dktX6_add_1 : List UInt8 := dkwX6_add_1 ++ dktX6_add_2
def dkwX6_add_0 : List UInt8 := [42, 27, 16, 100, 17, 3, 132, 184, 0, 29, 42, 180, 0, 7, 16, 7, 46, 16, 12, 162, 0, 7, 4]
abbrev dktX6_add_0 : List UInt8 := dkwX6_add_0 ++ dktX6_add_1
theorem dksX6_add_0 : cX6_add.data.toList.drop 0 = dktX6_add_0 := by decide +kernel
theorem dksX6_add_1 : cX6_add.data.toList.drop 23 = dktX6_add_1 := dk_seg dksX6_add_0 23 rfl rfl
theorem dksX6_add_2 : cX6_add.data.toList.drop 45 = dktX6_add_2 := dk_seg dksX6_add_1 22 rfl rfl
theorem dX6_add_0 : decode cX6_add 0 = .ok (.aload_n 0, 1) := dk_42 (dk_at dksX6_add_0 0 rfl rfl)
theorem dX6_add_1 : decode cX6_add 1 = .ok (.iload_n 1, 1) := dk_27 (dk_at dksX6_add_0 1 rfl rfl)
theorem dX6_add_2 : decode cX6_add 2 = .ok (.bipush 100, 2) := dk_16 100 (dk_at dksX6_add_0 2 rfl rfl)
theorem dX6_add_4 : decode cX6_add 4 = .ok (.sipush 900, 3) := dk_17 3 132 (dk_at dksX6_add_0 4 rfl rfl)
theorem dX6_add_7 : decode cX6_add 7 = .ok (.invokestatic 29, 3) := dk_184 0 29 (dk_at dksX6_add_0 7 rfl rfl)
theorem dX6_add_10 : decode cX6_add 10 = .ok (.aload_n 0, 1) := dk_42 (dk_at dksX6_add_0 10 rfl rfl)
theorem dX6_add_11 : decode cX6_add 11 = .ok (.getfield 7, 3) := dk_180 0 7 (dk_at dksX6_add_0 11 rfl rfl)
theorem dX6_add_14 : decode cX6_add 14 = .ok (.bipush 7, 2) := dk_16 7 (dk_at dksX6_add_0 14 rfl rfl)
theorem dX6_add_16 : decode cX6_add 16 = .ok (.iaload, 1) := dk_46 (dk_at dksX6_add_0 16 rfl rfl)
theorem dX6_add_17 : decode cX6_add 17 = .ok (.bipush 12, 2) := dk_16 12 (dk_at dksX6_add_0 17 rfl rfl)
theorem dX6_add_19 : decode cX6_add 19 = .ok (.if_icmp .ge 7, 3) := dk_162 0 7 (dk_at dksX6_add_0 19 rfl rfl)
theorem dX6_add_22 : decode cX6_add 22 = .ok (.iconst 1, 1) := dk_4 (dk_at dksX6_add_0 22 rfl rfl)
theorem dX6_add_23 : decode cX6_add 23 = .ok (.goto 4, 3) := dk_167 0 4 (dk_at dksX6_add_1 0 rfl rfl)
theorem dX6_add_26 : decode cX6_add 26 = .ok (.iconst 0, 1) := dk_3 (dk_at dksX6_add_1 3 rfl rfl)
theorem dX6_add_27 : decode cX6_add 27 = .ok (.invokevirtual 40, 3) := dk_182 0 40 (dk_at dksX6_add_1 4 rfl rfl)
theorem dX6_add_30 : decode cX6_add 30 = .ok (.ifCond .ne 5, 3) := dk_154 0 5 (dk_at dksX6_add_1 7 rfl rfl)
theorem dX6_add_33 : decode cX6_add 33 = .ok (.iconst 0, 1) := dk_3 (dk_at dksX6_add_1 10 rfl rfl)
theorem dX6_add_34 : decode cX6_add 34 = .ok (.ireturn, 1) := dk_172 (dk_at dksX6_add_1 11 rfl rfl)
theorem dX6_add_35 : decode cX6_add 35 = .ok (.aload_n 0, 1) := dk_42 (dk_at dksX6_add_1 12 rfl rfl)
theorem dX6_add_36 : decode cX6_add 36 = .ok (.invokevirtual 48, 3) := dk_182 0 48 (dk_at dksX6_add_1 13 rfl rfl)
theorem dX6_add_39 : decode cX6_add 39 = .ok (.aload_n 0, 1) := dk_42 (dk_at dksX6_add_1 16 rfl rfl)
theorem dX6_add_40 : decode cX6_add 40 = .ok (.iload_n 1, 1) := dk_27 (dk_at dksX6_add_1 17 rfl rfl)
theorem dX6_add_41 : decode cX6_add 41 = .ok (.invokevirtual 109, 3) := dk_182 0 109 (dk_at dksX6_add_1 18 rfl rfl)
theorem dX6_add_44 : decode cX6_add 44 = .ok (.aload_n 0, 1) := dk_42 (dk_at dksX6_add_1 21 rfl rfl)
theorem dX6_add_45 : decode cX6_add 45 = .ok (.getfield 7, 3) := dk_180 0 7 (dk_at dksX6_add_2 0 rfl rfl)
theorem dX6_add_48 : decode cX6_add 48 = .ok (.bipush 7, 2) := dk_16 7 (dk_at dksX6_add_2 3 rfl rfl)
theorem dX6_add_50 : decode cX6_add 50 = .ok (.iaload, 1) := dk_46 (dk_at dksX6_add_2 5 rfl rfl)
theorem dX6_add_51 : decode cX6_add 51 = .ok (.iconst 1, 1) := dk_4 (dk_at dksX6_add_2 6 rfl rfl)
theorem dX6_add_52 : decode cX6_add 52 = .ok (.isub, 1) := dk_100 (dk_at dksX6_add_2 7 rfl rfl)
theorem dX6_add_53 : decode cX6_add 53 = .ok (.ireturn, 1) := dk_172 (dk_at dksX6_add_2 8 rfl rfl)
abbrev cX6_in : ByteArray := prog_11_method_3_code
def yX6_in : MethodName := ⟨RX6, "in", "(III)Z"⟩
def dkwX6_in_0 : List UInt8 := [26, 27, 161, 0, 12, 26, 28, 163, 0, 7, 4, 167, 0, 4, 3, 172]
abbrev dktX6_in_0 : List UInt8 := dkwX6_in_0 ++ []
theorem dksX6_in_0 : cX6_in.data.toList.drop 0 = dktX6_in_0 := by decide +kernel
theorem dX6_in_0 : decode cX6_in 0 = .ok (.iload_n 0, 1) := dk_26 (dk_at dksX6_in_0 0 rfl rfl)
theorem dX6_in_1 : decode cX6_in 1 = .ok (.iload_n 1, 1) := dk_27 (dk_at dksX6_in_0 1 rfl rfl)
theorem dX6_in_2 : decode cX6_in 2 = .ok (.if_icmp .lt 12, 3) := dk_161 0 12 (dk_at dksX6_in_0 2 rfl rfl)
theorem dX6_in_5 : decode cX6_in 5 = .ok (.iload_n 0, 1) := dk_26 (dk_at dksX6_in_0 5 rfl rfl)
theorem dX6_in_6 : decode cX6_in 6 = .ok (.iload_n 2, 1) := dk_28 (dk_at dksX6_in_0 6 rfl rfl)
theorem dX6_in_7 : decode cX6_in 7 = .ok (.if_icmp .gt 7, 3) := dk_163 0 7 (dk_at dksX6_in_0 7 rfl rfl)
theorem dX6_in_10 : decode cX6_in 10 = .ok (.iconst 1, 1) := dk_4 (dk_at dksX6_in_0 10 rfl rfl)
theorem dX6_in_11 : decode cX6_in 11 = .ok (.goto 4, 3) := dk_167 0 4 (dk_at dksX6_in_0 11 rfl rfl)
theorem dX6_in_14 : decode cX6_in 14 = .ok (.iconst 0, 1) := dk_3 (dk_at dksX6_in_0 14 rfl rfl)
theorem dX6_in_15 : decode cX6_in 15 = .ok (.ireturn, 1) := dk_172 (dk_at dksX6_in_0 15 rfl rfl)
abbrev cX6_adds : ByteArray := prog_11_method_37_code
def yX6_adds : MethodName := ⟨RX6, "adds", "(I)V"⟩
def dkwX6_adds_3 : List UInt8 := [79, 177]
abbrev dktX6_adds_3 : List UInt8 := dkwX6_adds_3 ++ []
def dkwX6_adds_2 : List UInt8 := [16, 12, 182, 0, 71, 42, 28, 16, 6, 16, 15, 182, 0, 71, 42, 180, 0, 7, 16, 7, 92, 46, 4, 96]
abbrev dktX6_adds_2 : List UInt8 := dkwX6_adds_2 ++ dktX6_adds_3
def dkwX6_adds_1 : List UInt8 := [132, 3, 1, 167, 255, 240, 42, 28, 4, 2, 182, 0, 71, 42, 28, 5, 27, 182, 0, 71, 42, 28, 7]
abbrev dktX6_adds_1 : List UInt8 := dkwX6_adds_1 ++ dktX6_adds_2
def dkwX6_adds_0 : List UInt8 := [42, 180, 0, 7, 16, 7, 46, 61, 3, 62, 29, 16, 9, 162, 0, 16, 42, 28, 29, 3, 182, 0, 71]
abbrev dktX6_adds_0 : List UInt8 := dkwX6_adds_0 ++ dktX6_adds_1
theorem dksX6_adds_0 : cX6_adds.data.toList.drop 0 = dktX6_adds_0 := by decide +kernel
theorem dksX6_adds_1 : cX6_adds.data.toList.drop 23 = dktX6_adds_1 := dk_seg dksX6_adds_0 23 rfl rfl
theorem dksX6_adds_2 : cX6_adds.data.toList.drop 46 = dktX6_adds_2 := dk_seg dksX6_adds_1 23 rfl rfl
theorem dksX6_adds_3 : cX6_adds.data.toList.drop 70 = dktX6_adds_3 := dk_seg dksX6_adds_2 24 rfl rfl
theorem dX6_adds_0 : decode cX6_adds 0 = .ok (.aload_n 0, 1) := dk_42 (dk_at dksX6_adds_0 0 rfl rfl)
theorem dX6_adds_1 : decode cX6_adds 1 = .ok (.getfield 7, 3) := dk_180 0 7 (dk_at dksX6_adds_0 1 rfl rfl)
theorem dX6_adds_4 : decode cX6_adds 4 = .ok (.bipush 7, 2) := dk_16 7 (dk_at dksX6_adds_0 4 rfl rfl)
theorem dX6_adds_6 : decode cX6_adds 6 = .ok (.iaload, 1) := dk_46 (dk_at dksX6_adds_0 6 rfl rfl)
theorem dX6_adds_7 : decode cX6_adds 7 = .ok (.istore_n 2, 1) := dk_61 (dk_at dksX6_adds_0 7 rfl rfl)
theorem dX6_adds_8 : decode cX6_adds 8 = .ok (.iconst 0, 1) := dk_3 (dk_at dksX6_adds_0 8 rfl rfl)
theorem dX6_adds_9 : decode cX6_adds 9 = .ok (.istore_n 3, 1) := dk_62 (dk_at dksX6_adds_0 9 rfl rfl)
theorem dX6_adds_10 : decode cX6_adds 10 = .ok (.iload_n 3, 1) := dk_29 (dk_at dksX6_adds_0 10 rfl rfl)
theorem dX6_adds_11 : decode cX6_adds 11 = .ok (.bipush 9, 2) := dk_16 9 (dk_at dksX6_adds_0 11 rfl rfl)
theorem dX6_adds_13 : decode cX6_adds 13 = .ok (.if_icmp .ge 16, 3) := dk_162 0 16 (dk_at dksX6_adds_0 13 rfl rfl)
theorem dX6_adds_16 : decode cX6_adds 16 = .ok (.aload_n 0, 1) := dk_42 (dk_at dksX6_adds_0 16 rfl rfl)
theorem dX6_adds_17 : decode cX6_adds 17 = .ok (.iload_n 2, 1) := dk_28 (dk_at dksX6_adds_0 17 rfl rfl)
theorem dX6_adds_18 : decode cX6_adds 18 = .ok (.iload_n 3, 1) := dk_29 (dk_at dksX6_adds_0 18 rfl rfl)
theorem dX6_adds_19 : decode cX6_adds 19 = .ok (.iconst 0, 1) := dk_3 (dk_at dksX6_adds_0 19 rfl rfl)
theorem dX6_adds_20 : decode cX6_adds 20 = .ok (.invokevirtual 71, 3) := dk_182 0 71 (dk_at dksX6_adds_0 20 rfl rfl)
theorem dX6_adds_23 : decode cX6_adds 23 = .ok (.iinc 3 1, 3) := dk_132 3 1 (dk_at dksX6_adds_1 0 rfl rfl)
theorem dX6_adds_26 : decode cX6_adds 26 = .ok (.goto (-16), 3) := dk_167 255 240 (dk_at dksX6_adds_1 3 rfl rfl)
theorem dX6_adds_29 : decode cX6_adds 29 = .ok (.aload_n 0, 1) := dk_42 (dk_at dksX6_adds_1 6 rfl rfl)
theorem dX6_adds_30 : decode cX6_adds 30 = .ok (.iload_n 2, 1) := dk_28 (dk_at dksX6_adds_1 7 rfl rfl)
theorem dX6_adds_31 : decode cX6_adds 31 = .ok (.iconst 1, 1) := dk_4 (dk_at dksX6_adds_1 8 rfl rfl)
theorem dX6_adds_32 : decode cX6_adds 32 = .ok (.iconst (-1), 1) := dk_2 (dk_at dksX6_adds_1 9 rfl rfl)
theorem dX6_adds_33 : decode cX6_adds 33 = .ok (.invokevirtual 71, 3) := dk_182 0 71 (dk_at dksX6_adds_1 10 rfl rfl)
theorem dX6_adds_36 : decode cX6_adds 36 = .ok (.aload_n 0, 1) := dk_42 (dk_at dksX6_adds_1 13 rfl rfl)
theorem dX6_adds_37 : decode cX6_adds 37 = .ok (.iload_n 2, 1) := dk_28 (dk_at dksX6_adds_1 14 rfl rfl)
theorem dX6_adds_38 : decode cX6_adds 38 = .ok (.iconst 2, 1) := dk_5 (dk_at dksX6_adds_1 15 rfl rfl)
theorem dX6_adds_39 : decode cX6_adds 39 = .ok (.iload_n 1, 1) := dk_27 (dk_at dksX6_adds_1 16 rfl rfl)
theorem dX6_adds_40 : decode cX6_adds 40 = .ok (.invokevirtual 71, 3) := dk_182 0 71 (dk_at dksX6_adds_1 17 rfl rfl)
theorem dX6_adds_43 : decode cX6_adds 43 = .ok (.aload_n 0, 1) := dk_42 (dk_at dksX6_adds_1 20 rfl rfl)
theorem dX6_adds_44 : decode cX6_adds 44 = .ok (.iload_n 2, 1) := dk_28 (dk_at dksX6_adds_1 21 rfl rfl)
theorem dX6_adds_45 : decode cX6_adds 45 = .ok (.iconst 4, 1) := dk_7 (dk_at dksX6_adds_1 22 rfl rfl)
theorem dX6_adds_46 : decode cX6_adds 46 = .ok (.bipush 12, 2) := dk_16 12 (dk_at dksX6_adds_2 0 rfl rfl)
theorem dX6_adds_48 : decode cX6_adds 48 = .ok (.invokevirtual 71, 3) := dk_182 0 71 (dk_at dksX6_adds_2 2 rfl rfl)
theorem dX6_adds_51 : decode cX6_adds 51 = .ok (.aload_n 0, 1) := dk_42 (dk_at dksX6_adds_2 5 rfl rfl)
theorem dX6_adds_52 : decode cX6_adds 52 = .ok (.iload_n 2, 1) := dk_28 (dk_at dksX6_adds_2 6 rfl rfl)
theorem dX6_adds_53 : decode cX6_adds 53 = .ok (.bipush 6, 2) := dk_16 6 (dk_at dksX6_adds_2 7 rfl rfl)
theorem dX6_adds_55 : decode cX6_adds 55 = .ok (.bipush 15, 2) := dk_16 15 (dk_at dksX6_adds_2 9 rfl rfl)
theorem dX6_adds_57 : decode cX6_adds 57 = .ok (.invokevirtual 71, 3) := dk_182 0 71 (dk_at dksX6_adds_2 11 rfl rfl)
theorem dX6_adds_60 : decode cX6_adds 60 = .ok (.aload_n 0, 1) := dk_42 (dk_at dksX6_adds_2 14 rfl rfl)
theorem dX6_adds_61 : decode cX6_adds 61 = .ok (.getfield 7, 3) := dk_180 0 7 (dk_at dksX6_adds_2 15 rfl rfl)
theorem dX6_adds_64 : decode cX6_adds 64 = .ok (.bipush 7, 2) := dk_16 7 (dk_at dksX6_adds_2 18 rfl rfl)
theorem dX6_adds_66 : decode cX6_adds 66 = .ok (.dup2, 1) := dk_92 (dk_at dksX6_adds_2 20 rfl rfl)
theorem dX6_adds_67 : decode cX6_adds 67 = .ok (.iaload, 1) := dk_46 (dk_at dksX6_adds_2 21 rfl rfl)
theorem dX6_adds_68 : decode cX6_adds 68 = .ok (.iconst 1, 1) := dk_4 (dk_at dksX6_adds_2 22 rfl rfl)
theorem dX6_adds_69 : decode cX6_adds 69 = .ok (.iadd, 1) := dk_96 (dk_at dksX6_adds_2 23 rfl rfl)
theorem dX6_adds_70 : decode cX6_adds 70 = .ok (.iastore, 1) := dk_79 (dk_at dksX6_adds_3 0 rfl rfl)
theorem dX6_adds_71 : decode cX6_adds 71 = .ok (.return_, 1) := dk_177 (dk_at dksX6_adds_3 1 rfl rfl)
abbrev cX6_sets : ByteArray := prog_11_method_8_code
def yX6_sets : MethodName := ⟨RX6, "sets", "(III)V"⟩
def dkwX6_sets_0 : List UInt8 := [42, 180, 0, 7, 16, 44, 16, 9, 27, 104, 96, 28, 96, 29, 79, 177]
abbrev dktX6_sets_0 : List UInt8 := dkwX6_sets_0 ++ []
theorem dksX6_sets_0 : cX6_sets.data.toList.drop 0 = dktX6_sets_0 := by decide +kernel
theorem dX6_sets_0 : decode cX6_sets 0 = .ok (.aload_n 0, 1) := dk_42 (dk_at dksX6_sets_0 0 rfl rfl)
theorem dX6_sets_1 : decode cX6_sets 1 = .ok (.getfield 7, 3) := dk_180 0 7 (dk_at dksX6_sets_0 1 rfl rfl)
theorem dX6_sets_4 : decode cX6_sets 4 = .ok (.bipush 44, 2) := dk_16 44 (dk_at dksX6_sets_0 4 rfl rfl)
theorem dX6_sets_6 : decode cX6_sets 6 = .ok (.bipush 9, 2) := dk_16 9 (dk_at dksX6_sets_0 6 rfl rfl)
theorem dX6_sets_8 : decode cX6_sets 8 = .ok (.iload_n 1, 1) := dk_27 (dk_at dksX6_sets_0 8 rfl rfl)
theorem dX6_sets_9 : decode cX6_sets 9 = .ok (.imul, 1) := dk_104 (dk_at dksX6_sets_0 9 rfl rfl)
theorem dX6_sets_10 : decode cX6_sets 10 = .ok (.iadd, 1) := dk_96 (dk_at dksX6_sets_0 10 rfl rfl)
theorem dX6_sets_11 : decode cX6_sets 11 = .ok (.iload_n 2, 1) := dk_28 (dk_at dksX6_sets_0 11 rfl rfl)
theorem dX6_sets_12 : decode cX6_sets 12 = .ok (.iadd, 1) := dk_96 (dk_at dksX6_sets_0 12 rfl rfl)
theorem dX6_sets_13 : decode cX6_sets 13 = .ok (.iload_n 3, 1) := dk_29 (dk_at dksX6_sets_0 13 rfl rfl)
theorem dX6_sets_14 : decode cX6_sets 14 = .ok (.iastore, 1) := dk_79 (dk_at dksX6_sets_0 14 rfl rfl)
theorem dX6_sets_15 : decode cX6_sets 15 = .ok (.return_, 1) := dk_177 (dk_at dksX6_sets_0 15 rfl rfl)
abbrev cX6_steep : ByteArray := prog_11_method_41_code
def yX6_steep : MethodName := ⟨RX6, "steep", "(I)I"⟩
def dkwX6_steep_2 : List UInt8 := [180, 0, 7, 16, 8, 46, 172]
abbrev dktX6_steep_2 : List UInt8 := dkwX6_steep_2 ++ []
def dkwX6_steep_1 : List UInt8 := [167, 0, 4, 3, 182, 0, 40, 154, 0, 5, 3, 172, 42, 182, 0, 48, 42, 27, 182, 0, 121, 42]
abbrev dktX6_steep_1 : List UInt8 := dkwX6_steep_1 ++ dktX6_steep_2
def dkwX6_steep_0 : List UInt8 := [42, 42, 27, 182, 0, 115, 42, 27, 182, 0, 115, 153, 0, 11, 42, 27, 182, 0, 118, 154, 0, 7, 4]
abbrev dktX6_steep_0 : List UInt8 := dkwX6_steep_0 ++ dktX6_steep_1
theorem dksX6_steep_0 : cX6_steep.data.toList.drop 0 = dktX6_steep_0 := by decide +kernel
theorem dksX6_steep_1 : cX6_steep.data.toList.drop 23 = dktX6_steep_1 := dk_seg dksX6_steep_0 23 rfl rfl
theorem dksX6_steep_2 : cX6_steep.data.toList.drop 45 = dktX6_steep_2 := dk_seg dksX6_steep_1 22 rfl rfl
theorem dX6_steep_0 : decode cX6_steep 0 = .ok (.aload_n 0, 1) := dk_42 (dk_at dksX6_steep_0 0 rfl rfl)
theorem dX6_steep_1 : decode cX6_steep 1 = .ok (.aload_n 0, 1) := dk_42 (dk_at dksX6_steep_0 1 rfl rfl)
theorem dX6_steep_2 : decode cX6_steep 2 = .ok (.iload_n 1, 1) := dk_27 (dk_at dksX6_steep_0 2 rfl rfl)
theorem dX6_steep_3 : decode cX6_steep 3 = .ok (.invokevirtual 115, 3) := dk_182 0 115 (dk_at dksX6_steep_0 3 rfl rfl)
theorem dX6_steep_6 : decode cX6_steep 6 = .ok (.aload_n 0, 1) := dk_42 (dk_at dksX6_steep_0 6 rfl rfl)
theorem dX6_steep_7 : decode cX6_steep 7 = .ok (.iload_n 1, 1) := dk_27 (dk_at dksX6_steep_0 7 rfl rfl)
theorem dX6_steep_8 : decode cX6_steep 8 = .ok (.invokevirtual 115, 3) := dk_182 0 115 (dk_at dksX6_steep_0 8 rfl rfl)
theorem dX6_steep_11 : decode cX6_steep 11 = .ok (.ifCond .eq 11, 3) := dk_153 0 11 (dk_at dksX6_steep_0 11 rfl rfl)
theorem dX6_steep_14 : decode cX6_steep 14 = .ok (.aload_n 0, 1) := dk_42 (dk_at dksX6_steep_0 14 rfl rfl)
theorem dX6_steep_15 : decode cX6_steep 15 = .ok (.iload_n 1, 1) := dk_27 (dk_at dksX6_steep_0 15 rfl rfl)
theorem dX6_steep_16 : decode cX6_steep 16 = .ok (.invokevirtual 118, 3) := dk_182 0 118 (dk_at dksX6_steep_0 16 rfl rfl)
theorem dX6_steep_19 : decode cX6_steep 19 = .ok (.ifCond .ne 7, 3) := dk_154 0 7 (dk_at dksX6_steep_0 19 rfl rfl)
theorem dX6_steep_22 : decode cX6_steep 22 = .ok (.iconst 1, 1) := dk_4 (dk_at dksX6_steep_0 22 rfl rfl)
theorem dX6_steep_23 : decode cX6_steep 23 = .ok (.goto 4, 3) := dk_167 0 4 (dk_at dksX6_steep_1 0 rfl rfl)
theorem dX6_steep_26 : decode cX6_steep 26 = .ok (.iconst 0, 1) := dk_3 (dk_at dksX6_steep_1 3 rfl rfl)
theorem dX6_steep_27 : decode cX6_steep 27 = .ok (.invokevirtual 40, 3) := dk_182 0 40 (dk_at dksX6_steep_1 4 rfl rfl)
theorem dX6_steep_30 : decode cX6_steep 30 = .ok (.ifCond .ne 5, 3) := dk_154 0 5 (dk_at dksX6_steep_1 7 rfl rfl)
theorem dX6_steep_33 : decode cX6_steep 33 = .ok (.iconst 0, 1) := dk_3 (dk_at dksX6_steep_1 10 rfl rfl)
theorem dX6_steep_34 : decode cX6_steep 34 = .ok (.ireturn, 1) := dk_172 (dk_at dksX6_steep_1 11 rfl rfl)
theorem dX6_steep_35 : decode cX6_steep 35 = .ok (.aload_n 0, 1) := dk_42 (dk_at dksX6_steep_1 12 rfl rfl)
theorem dX6_steep_36 : decode cX6_steep 36 = .ok (.invokevirtual 48, 3) := dk_182 0 48 (dk_at dksX6_steep_1 13 rfl rfl)
theorem dX6_steep_39 : decode cX6_steep 39 = .ok (.aload_n 0, 1) := dk_42 (dk_at dksX6_steep_1 16 rfl rfl)
theorem dX6_steep_40 : decode cX6_steep 40 = .ok (.iload_n 1, 1) := dk_27 (dk_at dksX6_steep_1 17 rfl rfl)
theorem dX6_steep_41 : decode cX6_steep 41 = .ok (.invokevirtual 121, 3) := dk_182 0 121 (dk_at dksX6_steep_1 18 rfl rfl)
theorem dX6_steep_44 : decode cX6_steep 44 = .ok (.aload_n 0, 1) := dk_42 (dk_at dksX6_steep_1 21 rfl rfl)
theorem dX6_steep_45 : decode cX6_steep 45 = .ok (.getfield 7, 3) := dk_180 0 7 (dk_at dksX6_steep_2 0 rfl rfl)
theorem dX6_steep_48 : decode cX6_steep 48 = .ok (.bipush 8, 2) := dk_16 8 (dk_at dksX6_steep_2 3 rfl rfl)
theorem dX6_steep_50 : decode cX6_steep 50 = .ok (.iaload, 1) := dk_46 (dk_at dksX6_steep_2 5 rfl rfl)
theorem dX6_steep_51 : decode cX6_steep 51 = .ok (.ireturn, 1) := dk_172 (dk_at dksX6_steep_2 6 rfl rfl)
abbrev cX6_isLot : ByteArray := prog_11_method_5_code
def yX6_isLot : MethodName := ⟨RX6, "isLot", "(I)Z"⟩
def dkwX6_isLot_0 : List UInt8 := [27, 3, 42, 180, 0, 7, 16, 7, 46, 4, 100, 184, 0, 29, 172]
abbrev dktX6_isLot_0 : List UInt8 := dkwX6_isLot_0 ++ []
theorem dksX6_isLot_0 : cX6_isLot.data.toList.drop 0 = dktX6_isLot_0 := by decide +kernel
theorem dX6_isLot_0 : decode cX6_isLot 0 = .ok (.iload_n 1, 1) := dk_27 (dk_at dksX6_isLot_0 0 rfl rfl)
theorem dX6_isLot_1 : decode cX6_isLot 1 = .ok (.iconst 0, 1) := dk_3 (dk_at dksX6_isLot_0 1 rfl rfl)
theorem dX6_isLot_2 : decode cX6_isLot 2 = .ok (.aload_n 0, 1) := dk_42 (dk_at dksX6_isLot_0 2 rfl rfl)
theorem dX6_isLot_3 : decode cX6_isLot 3 = .ok (.getfield 7, 3) := dk_180 0 7 (dk_at dksX6_isLot_0 3 rfl rfl)
theorem dX6_isLot_6 : decode cX6_isLot 6 = .ok (.bipush 7, 2) := dk_16 7 (dk_at dksX6_isLot_0 6 rfl rfl)
theorem dX6_isLot_8 : decode cX6_isLot 8 = .ok (.iaload, 1) := dk_46 (dk_at dksX6_isLot_0 8 rfl rfl)
theorem dX6_isLot_9 : decode cX6_isLot 9 = .ok (.iconst 1, 1) := dk_4 (dk_at dksX6_isLot_0 9 rfl rfl)
theorem dX6_isLot_10 : decode cX6_isLot 10 = .ok (.isub, 1) := dk_100 (dk_at dksX6_isLot_0 10 rfl rfl)
theorem dX6_isLot_11 : decode cX6_isLot 11 = .ok (.invokestatic 29, 3) := dk_184 0 29 (dk_at dksX6_isLot_0 11 rfl rfl)
theorem dX6_isLot_14 : decode cX6_isLot 14 = .ok (.ireturn, 1) := dk_172 (dk_at dksX6_isLot_0 14 rfl rfl)
abbrev cX6_noSteep : ByteArray := prog_11_method_31_code
def yX6_noSteep : MethodName := ⟨RX6, "noSteep", "(I)I"⟩
def dkwX6_noSteep_1 : List UInt8 := [167, 0, 4, 3, 172]
abbrev dktX6_noSteep_1 : List UInt8 := dkwX6_noSteep_1 ++ []
def dkwX6_noSteep_0 : List UInt8 := [42, 27, 3, 182, 0, 51, 153, 0, 7, 4, 167, 0, 17, 42, 4, 182, 0, 82, 5, 160, 0, 7, 5]
abbrev dktX6_noSteep_0 : List UInt8 := dkwX6_noSteep_0 ++ dktX6_noSteep_1
theorem dksX6_noSteep_0 : cX6_noSteep.data.toList.drop 0 = dktX6_noSteep_0 := by decide +kernel
theorem dksX6_noSteep_1 : cX6_noSteep.data.toList.drop 23 = dktX6_noSteep_1 := dk_seg dksX6_noSteep_0 23 rfl rfl
theorem dX6_noSteep_0 : decode cX6_noSteep 0 = .ok (.aload_n 0, 1) := dk_42 (dk_at dksX6_noSteep_0 0 rfl rfl)
theorem dX6_noSteep_1 : decode cX6_noSteep 1 = .ok (.iload_n 1, 1) := dk_27 (dk_at dksX6_noSteep_0 1 rfl rfl)
theorem dX6_noSteep_2 : decode cX6_noSteep 2 = .ok (.iconst 0, 1) := dk_3 (dk_at dksX6_noSteep_0 2 rfl rfl)
theorem dX6_noSteep_3 : decode cX6_noSteep 3 = .ok (.invokevirtual 51, 3) := dk_182 0 51 (dk_at dksX6_noSteep_0 3 rfl rfl)
theorem dX6_noSteep_6 : decode cX6_noSteep 6 = .ok (.ifCond .eq 7, 3) := dk_153 0 7 (dk_at dksX6_noSteep_0 6 rfl rfl)
theorem dX6_noSteep_9 : decode cX6_noSteep 9 = .ok (.iconst 1, 1) := dk_4 (dk_at dksX6_noSteep_0 9 rfl rfl)
theorem dX6_noSteep_10 : decode cX6_noSteep 10 = .ok (.goto 17, 3) := dk_167 0 17 (dk_at dksX6_noSteep_0 10 rfl rfl)
theorem dX6_noSteep_13 : decode cX6_noSteep 13 = .ok (.aload_n 0, 1) := dk_42 (dk_at dksX6_noSteep_0 13 rfl rfl)
theorem dX6_noSteep_14 : decode cX6_noSteep 14 = .ok (.iconst 1, 1) := dk_4 (dk_at dksX6_noSteep_0 14 rfl rfl)
theorem dX6_noSteep_15 : decode cX6_noSteep 15 = .ok (.invokevirtual 82, 3) := dk_182 0 82 (dk_at dksX6_noSteep_0 15 rfl rfl)
theorem dX6_noSteep_18 : decode cX6_noSteep 18 = .ok (.iconst 2, 1) := dk_5 (dk_at dksX6_noSteep_0 18 rfl rfl)
theorem dX6_noSteep_19 : decode cX6_noSteep 19 = .ok (.if_icmp .ne 7, 3) := dk_160 0 7 (dk_at dksX6_noSteep_0 19 rfl rfl)
theorem dX6_noSteep_22 : decode cX6_noSteep 22 = .ok (.iconst 2, 1) := dk_5 (dk_at dksX6_noSteep_0 22 rfl rfl)
theorem dX6_noSteep_23 : decode cX6_noSteep 23 = .ok (.goto 4, 3) := dk_167 0 4 (dk_at dksX6_noSteep_1 0 rfl rfl)
theorem dX6_noSteep_26 : decode cX6_noSteep 26 = .ok (.iconst 0, 1) := dk_3 (dk_at dksX6_noSteep_1 3 rfl rfl)
theorem dX6_noSteep_27 : decode cX6_noSteep 27 = .ok (.ireturn, 1) := dk_172 (dk_at dksX6_noSteep_1 4 rfl rfl)
abbrev cX6_of : ByteArray := prog_11_method_7_code
def yX6_of : MethodName := ⟨RX6, "of", "(II)I"⟩
def dkwX6_of_0 : List UInt8 := [42, 180, 0, 7, 16, 44, 16, 9, 27, 104, 96, 28, 96, 46, 172]
abbrev dktX6_of_0 : List UInt8 := dkwX6_of_0 ++ []
theorem dksX6_of_0 : cX6_of.data.toList.drop 0 = dktX6_of_0 := by decide +kernel
theorem dX6_of_0 : decode cX6_of 0 = .ok (.aload_n 0, 1) := dk_42 (dk_at dksX6_of_0 0 rfl rfl)
theorem dX6_of_1 : decode cX6_of 1 = .ok (.getfield 7, 3) := dk_180 0 7 (dk_at dksX6_of_0 1 rfl rfl)
theorem dX6_of_4 : decode cX6_of 4 = .ok (.bipush 44, 2) := dk_16 44 (dk_at dksX6_of_0 4 rfl rfl)
theorem dX6_of_6 : decode cX6_of 6 = .ok (.bipush 9, 2) := dk_16 9 (dk_at dksX6_of_0 6 rfl rfl)
theorem dX6_of_8 : decode cX6_of 8 = .ok (.iload_n 1, 1) := dk_27 (dk_at dksX6_of_0 8 rfl rfl)
theorem dX6_of_9 : decode cX6_of 9 = .ok (.imul, 1) := dk_104 (dk_at dksX6_of_0 9 rfl rfl)
theorem dX6_of_10 : decode cX6_of 10 = .ok (.iadd, 1) := dk_96 (dk_at dksX6_of_0 10 rfl rfl)
theorem dX6_of_11 : decode cX6_of 11 = .ok (.iload_n 2, 1) := dk_28 (dk_at dksX6_of_0 11 rfl rfl)
theorem dX6_of_12 : decode cX6_of 12 = .ok (.iadd, 1) := dk_96 (dk_at dksX6_of_0 12 rfl rfl)
theorem dX6_of_13 : decode cX6_of 13 = .ok (.iaload, 1) := dk_46 (dk_at dksX6_of_0 13 rfl rfl)
theorem dX6_of_14 : decode cX6_of 14 = .ok (.ireturn, 1) := dk_172 (dk_at dksX6_of_0 14 rfl rfl)
abbrev cX6_countIn : ByteArray := prog_11_method_17_code
def yX6_countIn : MethodName := ⟨RX6, "countIn", "(I)I"⟩
def dkwX6_countIn_1 : List UInt8 := [160, 0, 7, 4, 167, 0, 4, 3, 96, 61, 132, 3, 1, 167, 255, 224, 28, 172]
abbrev dktX6_countIn_1 : List UInt8 := dkwX6_countIn_1 ++ []
def dkwX6_countIn_0 : List UInt8 := [3, 61, 3, 62, 29, 42, 180, 0, 7, 16, 7, 46, 162, 0, 27, 28, 42, 29, 3, 182, 0, 51, 27]
abbrev dktX6_countIn_0 : List UInt8 := dkwX6_countIn_0 ++ dktX6_countIn_1
theorem dksX6_countIn_0 : cX6_countIn.data.toList.drop 0 = dktX6_countIn_0 := by decide +kernel
theorem dksX6_countIn_1 : cX6_countIn.data.toList.drop 23 = dktX6_countIn_1 := dk_seg dksX6_countIn_0 23 rfl rfl
theorem dX6_countIn_0 : decode cX6_countIn 0 = .ok (.iconst 0, 1) := dk_3 (dk_at dksX6_countIn_0 0 rfl rfl)
theorem dX6_countIn_1 : decode cX6_countIn 1 = .ok (.istore_n 2, 1) := dk_61 (dk_at dksX6_countIn_0 1 rfl rfl)
theorem dX6_countIn_2 : decode cX6_countIn 2 = .ok (.iconst 0, 1) := dk_3 (dk_at dksX6_countIn_0 2 rfl rfl)
theorem dX6_countIn_3 : decode cX6_countIn 3 = .ok (.istore_n 3, 1) := dk_62 (dk_at dksX6_countIn_0 3 rfl rfl)
theorem dX6_countIn_4 : decode cX6_countIn 4 = .ok (.iload_n 3, 1) := dk_29 (dk_at dksX6_countIn_0 4 rfl rfl)
theorem dX6_countIn_5 : decode cX6_countIn 5 = .ok (.aload_n 0, 1) := dk_42 (dk_at dksX6_countIn_0 5 rfl rfl)
theorem dX6_countIn_6 : decode cX6_countIn 6 = .ok (.getfield 7, 3) := dk_180 0 7 (dk_at dksX6_countIn_0 6 rfl rfl)
theorem dX6_countIn_9 : decode cX6_countIn 9 = .ok (.bipush 7, 2) := dk_16 7 (dk_at dksX6_countIn_0 9 rfl rfl)
theorem dX6_countIn_11 : decode cX6_countIn 11 = .ok (.iaload, 1) := dk_46 (dk_at dksX6_countIn_0 11 rfl rfl)
theorem dX6_countIn_12 : decode cX6_countIn 12 = .ok (.if_icmp .ge 27, 3) := dk_162 0 27 (dk_at dksX6_countIn_0 12 rfl rfl)
theorem dX6_countIn_15 : decode cX6_countIn 15 = .ok (.iload_n 2, 1) := dk_28 (dk_at dksX6_countIn_0 15 rfl rfl)
theorem dX6_countIn_16 : decode cX6_countIn 16 = .ok (.aload_n 0, 1) := dk_42 (dk_at dksX6_countIn_0 16 rfl rfl)
theorem dX6_countIn_17 : decode cX6_countIn 17 = .ok (.iload_n 3, 1) := dk_29 (dk_at dksX6_countIn_0 17 rfl rfl)
theorem dX6_countIn_18 : decode cX6_countIn 18 = .ok (.iconst 0, 1) := dk_3 (dk_at dksX6_countIn_0 18 rfl rfl)
theorem dX6_countIn_19 : decode cX6_countIn 19 = .ok (.invokevirtual 51, 3) := dk_182 0 51 (dk_at dksX6_countIn_0 19 rfl rfl)
theorem dX6_countIn_22 : decode cX6_countIn 22 = .ok (.iload_n 1, 1) := dk_27 (dk_at dksX6_countIn_0 22 rfl rfl)
theorem dX6_countIn_23 : decode cX6_countIn 23 = .ok (.if_icmp .ne 7, 3) := dk_160 0 7 (dk_at dksX6_countIn_1 0 rfl rfl)
theorem dX6_countIn_26 : decode cX6_countIn 26 = .ok (.iconst 1, 1) := dk_4 (dk_at dksX6_countIn_1 3 rfl rfl)
theorem dX6_countIn_27 : decode cX6_countIn 27 = .ok (.goto 4, 3) := dk_167 0 4 (dk_at dksX6_countIn_1 4 rfl rfl)
theorem dX6_countIn_30 : decode cX6_countIn 30 = .ok (.iconst 0, 1) := dk_3 (dk_at dksX6_countIn_1 7 rfl rfl)
theorem dX6_countIn_31 : decode cX6_countIn 31 = .ok (.iadd, 1) := dk_96 (dk_at dksX6_countIn_1 8 rfl rfl)
theorem dX6_countIn_32 : decode cX6_countIn 32 = .ok (.istore_n 2, 1) := dk_61 (dk_at dksX6_countIn_1 9 rfl rfl)
theorem dX6_countIn_33 : decode cX6_countIn 33 = .ok (.iinc 3 1, 3) := dk_132 3 1 (dk_at dksX6_countIn_1 10 rfl rfl)
theorem dX6_countIn_36 : decode cX6_countIn 36 = .ok (.goto (-32), 3) := dk_167 255 224 (dk_at dksX6_countIn_1 13 rfl rfl)
theorem dX6_countIn_39 : decode cX6_countIn 39 = .ok (.iload_n 2, 1) := dk_28 (dk_at dksX6_countIn_1 16 rfl rfl)
theorem dX6_countIn_40 : decode cX6_countIn 40 = .ok (.ireturn, 1) := dk_172 (dk_at dksX6_countIn_1 17 rfl rfl)
abbrev cX6_steeps : ByteArray := prog_11_method_40_code
def yX6_steeps : MethodName := ⟨RX6, "steeps", "(I)V"⟩
def dkwX6_steeps_0 : List UInt8 := [42, 27, 4, 2, 182, 0, 112, 42, 180, 0, 7, 16, 8, 92, 46, 42, 27, 5, 182, 0, 51, 96, 79, 177]
abbrev dktX6_steeps_0 : List UInt8 := dkwX6_steeps_0 ++ []
theorem dksX6_steeps_0 : cX6_steeps.data.toList.drop 0 = dktX6_steeps_0 := by decide +kernel
theorem dX6_steeps_0 : decode cX6_steeps 0 = .ok (.aload_n 0, 1) := dk_42 (dk_at dksX6_steeps_0 0 rfl rfl)
theorem dX6_steeps_1 : decode cX6_steeps 1 = .ok (.iload_n 1, 1) := dk_27 (dk_at dksX6_steeps_0 1 rfl rfl)
theorem dX6_steeps_2 : decode cX6_steeps 2 = .ok (.iconst 1, 1) := dk_4 (dk_at dksX6_steeps_0 2 rfl rfl)
theorem dX6_steeps_3 : decode cX6_steeps 3 = .ok (.iconst (-1), 1) := dk_2 (dk_at dksX6_steeps_0 3 rfl rfl)
theorem dX6_steeps_4 : decode cX6_steeps 4 = .ok (.invokevirtual 112, 3) := dk_182 0 112 (dk_at dksX6_steeps_0 4 rfl rfl)
theorem dX6_steeps_7 : decode cX6_steeps 7 = .ok (.aload_n 0, 1) := dk_42 (dk_at dksX6_steeps_0 7 rfl rfl)
theorem dX6_steeps_8 : decode cX6_steeps 8 = .ok (.getfield 7, 3) := dk_180 0 7 (dk_at dksX6_steeps_0 8 rfl rfl)
theorem dX6_steeps_11 : decode cX6_steeps 11 = .ok (.bipush 8, 2) := dk_16 8 (dk_at dksX6_steeps_0 11 rfl rfl)
theorem dX6_steeps_13 : decode cX6_steeps 13 = .ok (.dup2, 1) := dk_92 (dk_at dksX6_steeps_0 13 rfl rfl)
theorem dX6_steeps_14 : decode cX6_steeps 14 = .ok (.iaload, 1) := dk_46 (dk_at dksX6_steeps_0 14 rfl rfl)
theorem dX6_steeps_15 : decode cX6_steeps 15 = .ok (.aload_n 0, 1) := dk_42 (dk_at dksX6_steeps_0 15 rfl rfl)
theorem dX6_steeps_16 : decode cX6_steeps 16 = .ok (.iload_n 1, 1) := dk_27 (dk_at dksX6_steeps_0 16 rfl rfl)
theorem dX6_steeps_17 : decode cX6_steeps 17 = .ok (.iconst 2, 1) := dk_5 (dk_at dksX6_steeps_0 17 rfl rfl)
theorem dX6_steeps_18 : decode cX6_steeps 18 = .ok (.invokevirtual 51, 3) := dk_182 0 51 (dk_at dksX6_steeps_0 18 rfl rfl)
theorem dX6_steeps_21 : decode cX6_steeps 21 = .ok (.iadd, 1) := dk_96 (dk_at dksX6_steeps_0 21 rfl rfl)
theorem dX6_steeps_22 : decode cX6_steeps 22 = .ok (.iastore, 1) := dk_79 (dk_at dksX6_steeps_0 22 rfl rfl)
theorem dX6_steeps_23 : decode cX6_steeps 23 = .ok (.return_, 1) := dk_177 (dk_at dksX6_steeps_0 23 rfl rfl)
abbrev cX6_brings : ByteArray := prog_11_method_39_code
def yX6_brings : MethodName := ⟨RX6, "brings", "(III)V"⟩
def dkwX6_brings_0 : List UInt8 := [42, 27, 3, 28, 182, 0, 71, 42, 27, 4, 29, 182, 0, 71, 42, 28, 27, 182, 0, 75, 177]
abbrev dktX6_brings_0 : List UInt8 := dkwX6_brings_0 ++ []
theorem dksX6_brings_0 : cX6_brings.data.toList.drop 0 = dktX6_brings_0 := by decide +kernel
theorem dX6_brings_0 : decode cX6_brings 0 = .ok (.aload_n 0, 1) := dk_42 (dk_at dksX6_brings_0 0 rfl rfl)
theorem dX6_brings_1 : decode cX6_brings 1 = .ok (.iload_n 1, 1) := dk_27 (dk_at dksX6_brings_0 1 rfl rfl)
theorem dX6_brings_2 : decode cX6_brings 2 = .ok (.iconst 0, 1) := dk_3 (dk_at dksX6_brings_0 2 rfl rfl)
theorem dX6_brings_3 : decode cX6_brings 3 = .ok (.iload_n 2, 1) := dk_28 (dk_at dksX6_brings_0 3 rfl rfl)
theorem dX6_brings_4 : decode cX6_brings 4 = .ok (.invokevirtual 71, 3) := dk_182 0 71 (dk_at dksX6_brings_0 4 rfl rfl)
theorem dX6_brings_7 : decode cX6_brings 7 = .ok (.aload_n 0, 1) := dk_42 (dk_at dksX6_brings_0 7 rfl rfl)
theorem dX6_brings_8 : decode cX6_brings 8 = .ok (.iload_n 1, 1) := dk_27 (dk_at dksX6_brings_0 8 rfl rfl)
theorem dX6_brings_9 : decode cX6_brings 9 = .ok (.iconst 1, 1) := dk_4 (dk_at dksX6_brings_0 9 rfl rfl)
theorem dX6_brings_10 : decode cX6_brings 10 = .ok (.iload_n 3, 1) := dk_29 (dk_at dksX6_brings_0 10 rfl rfl)
theorem dX6_brings_11 : decode cX6_brings 11 = .ok (.invokevirtual 71, 3) := dk_182 0 71 (dk_at dksX6_brings_0 11 rfl rfl)
theorem dX6_brings_14 : decode cX6_brings 14 = .ok (.aload_n 0, 1) := dk_42 (dk_at dksX6_brings_0 14 rfl rfl)
theorem dX6_brings_15 : decode cX6_brings 15 = .ok (.iload_n 2, 1) := dk_28 (dk_at dksX6_brings_0 15 rfl rfl)
theorem dX6_brings_16 : decode cX6_brings 16 = .ok (.iload_n 1, 1) := dk_27 (dk_at dksX6_brings_0 16 rfl rfl)
theorem dX6_brings_17 : decode cX6_brings 17 = .ok (.invokevirtual 75, 3) := dk_182 0 75 (dk_at dksX6_brings_0 17 rfl rfl)
theorem dX6_brings_20 : decode cX6_brings 20 = .ok (.return_, 1) := dk_177 (dk_at dksX6_brings_0 20 rfl rfl)
abbrev cX6_books : ByteArray := prog_11_method_22_code
def yX6_books : MethodName := ⟨RX6, "books", "(II)V"⟩
def dkwX6_books_3 : List UInt8 := [16, 12, 184, 0, 59, 79, 177]
abbrev dktX6_books_3 : List UInt8 := dkwX6_books_3 ++ []
def dkwX6_books_2 : List UInt8 := [16, 12, 27, 104, 96, 28, 96, 79, 42, 180, 0, 7, 16, 14, 42, 180, 0, 7, 16, 14, 46, 4, 96]
abbrev dktX6_books_2 : List UInt8 := dkwX6_books_2 ++ dktX6_books_3
def dkwX6_books_1 : List UInt8 := [100, 46, 79, 132, 3, 255, 167, 255, 229, 42, 180, 0, 7, 16, 20, 16, 100, 42, 180, 0, 7, 3, 46, 104]
abbrev dktX6_books_1 : List UInt8 := dkwX6_books_1 ++ dktX6_books_2
def dkwX6_books_0 : List UInt8 := [16, 11, 62, 29, 158, 0, 29, 42, 180, 0, 7, 16, 20, 29, 96, 42, 180, 0, 7, 16, 20, 29, 96, 4]
abbrev dktX6_books_0 : List UInt8 := dkwX6_books_0 ++ dktX6_books_1
theorem dksX6_books_0 : cX6_books.data.toList.drop 0 = dktX6_books_0 := by decide +kernel
theorem dksX6_books_1 : cX6_books.data.toList.drop 24 = dktX6_books_1 := dk_seg dksX6_books_0 24 rfl rfl
theorem dksX6_books_2 : cX6_books.data.toList.drop 48 = dktX6_books_2 := dk_seg dksX6_books_1 24 rfl rfl
theorem dksX6_books_3 : cX6_books.data.toList.drop 71 = dktX6_books_3 := dk_seg dksX6_books_2 23 rfl rfl
theorem dX6_books_0 : decode cX6_books 0 = .ok (.bipush 11, 2) := dk_16 11 (dk_at dksX6_books_0 0 rfl rfl)
theorem dX6_books_2 : decode cX6_books 2 = .ok (.istore_n 3, 1) := dk_62 (dk_at dksX6_books_0 2 rfl rfl)
theorem dX6_books_3 : decode cX6_books 3 = .ok (.iload_n 3, 1) := dk_29 (dk_at dksX6_books_0 3 rfl rfl)
theorem dX6_books_4 : decode cX6_books 4 = .ok (.ifCond .le 29, 3) := dk_158 0 29 (dk_at dksX6_books_0 4 rfl rfl)
theorem dX6_books_7 : decode cX6_books 7 = .ok (.aload_n 0, 1) := dk_42 (dk_at dksX6_books_0 7 rfl rfl)
theorem dX6_books_8 : decode cX6_books 8 = .ok (.getfield 7, 3) := dk_180 0 7 (dk_at dksX6_books_0 8 rfl rfl)
theorem dX6_books_11 : decode cX6_books 11 = .ok (.bipush 20, 2) := dk_16 20 (dk_at dksX6_books_0 11 rfl rfl)
theorem dX6_books_13 : decode cX6_books 13 = .ok (.iload_n 3, 1) := dk_29 (dk_at dksX6_books_0 13 rfl rfl)
theorem dX6_books_14 : decode cX6_books 14 = .ok (.iadd, 1) := dk_96 (dk_at dksX6_books_0 14 rfl rfl)
theorem dX6_books_15 : decode cX6_books 15 = .ok (.aload_n 0, 1) := dk_42 (dk_at dksX6_books_0 15 rfl rfl)
theorem dX6_books_16 : decode cX6_books 16 = .ok (.getfield 7, 3) := dk_180 0 7 (dk_at dksX6_books_0 16 rfl rfl)
theorem dX6_books_19 : decode cX6_books 19 = .ok (.bipush 20, 2) := dk_16 20 (dk_at dksX6_books_0 19 rfl rfl)
theorem dX6_books_21 : decode cX6_books 21 = .ok (.iload_n 3, 1) := dk_29 (dk_at dksX6_books_0 21 rfl rfl)
theorem dX6_books_22 : decode cX6_books 22 = .ok (.iadd, 1) := dk_96 (dk_at dksX6_books_0 22 rfl rfl)
theorem dX6_books_23 : decode cX6_books 23 = .ok (.iconst 1, 1) := dk_4 (dk_at dksX6_books_0 23 rfl rfl)
theorem dX6_books_24 : decode cX6_books 24 = .ok (.isub, 1) := dk_100 (dk_at dksX6_books_1 0 rfl rfl)
theorem dX6_books_25 : decode cX6_books 25 = .ok (.iaload, 1) := dk_46 (dk_at dksX6_books_1 1 rfl rfl)
theorem dX6_books_26 : decode cX6_books 26 = .ok (.iastore, 1) := dk_79 (dk_at dksX6_books_1 2 rfl rfl)
theorem dX6_books_27 : decode cX6_books 27 = .ok (.iinc 3 (-1), 3) := dk_132 3 255 (dk_at dksX6_books_1 3 rfl rfl)
theorem dX6_books_30 : decode cX6_books 30 = .ok (.goto (-27), 3) := dk_167 255 229 (dk_at dksX6_books_1 6 rfl rfl)
theorem dX6_books_33 : decode cX6_books 33 = .ok (.aload_n 0, 1) := dk_42 (dk_at dksX6_books_1 9 rfl rfl)
theorem dX6_books_34 : decode cX6_books 34 = .ok (.getfield 7, 3) := dk_180 0 7 (dk_at dksX6_books_1 10 rfl rfl)
theorem dX6_books_37 : decode cX6_books 37 = .ok (.bipush 20, 2) := dk_16 20 (dk_at dksX6_books_1 13 rfl rfl)
theorem dX6_books_39 : decode cX6_books 39 = .ok (.bipush 100, 2) := dk_16 100 (dk_at dksX6_books_1 15 rfl rfl)
theorem dX6_books_41 : decode cX6_books 41 = .ok (.aload_n 0, 1) := dk_42 (dk_at dksX6_books_1 17 rfl rfl)
theorem dX6_books_42 : decode cX6_books 42 = .ok (.getfield 7, 3) := dk_180 0 7 (dk_at dksX6_books_1 18 rfl rfl)
theorem dX6_books_45 : decode cX6_books 45 = .ok (.iconst 0, 1) := dk_3 (dk_at dksX6_books_1 21 rfl rfl)
theorem dX6_books_46 : decode cX6_books 46 = .ok (.iaload, 1) := dk_46 (dk_at dksX6_books_1 22 rfl rfl)
theorem dX6_books_47 : decode cX6_books 47 = .ok (.imul, 1) := dk_104 (dk_at dksX6_books_1 23 rfl rfl)
theorem dX6_books_48 : decode cX6_books 48 = .ok (.bipush 12, 2) := dk_16 12 (dk_at dksX6_books_2 0 rfl rfl)
theorem dX6_books_50 : decode cX6_books 50 = .ok (.iload_n 1, 1) := dk_27 (dk_at dksX6_books_2 2 rfl rfl)
theorem dX6_books_51 : decode cX6_books 51 = .ok (.imul, 1) := dk_104 (dk_at dksX6_books_2 3 rfl rfl)
theorem dX6_books_52 : decode cX6_books 52 = .ok (.iadd, 1) := dk_96 (dk_at dksX6_books_2 4 rfl rfl)
theorem dX6_books_53 : decode cX6_books 53 = .ok (.iload_n 2, 1) := dk_28 (dk_at dksX6_books_2 5 rfl rfl)
theorem dX6_books_54 : decode cX6_books 54 = .ok (.iadd, 1) := dk_96 (dk_at dksX6_books_2 6 rfl rfl)
theorem dX6_books_55 : decode cX6_books 55 = .ok (.iastore, 1) := dk_79 (dk_at dksX6_books_2 7 rfl rfl)
theorem dX6_books_56 : decode cX6_books 56 = .ok (.aload_n 0, 1) := dk_42 (dk_at dksX6_books_2 8 rfl rfl)
theorem dX6_books_57 : decode cX6_books 57 = .ok (.getfield 7, 3) := dk_180 0 7 (dk_at dksX6_books_2 9 rfl rfl)
theorem dX6_books_60 : decode cX6_books 60 = .ok (.bipush 14, 2) := dk_16 14 (dk_at dksX6_books_2 12 rfl rfl)
theorem dX6_books_62 : decode cX6_books 62 = .ok (.aload_n 0, 1) := dk_42 (dk_at dksX6_books_2 14 rfl rfl)
theorem dX6_books_63 : decode cX6_books 63 = .ok (.getfield 7, 3) := dk_180 0 7 (dk_at dksX6_books_2 15 rfl rfl)
theorem dX6_books_66 : decode cX6_books 66 = .ok (.bipush 14, 2) := dk_16 14 (dk_at dksX6_books_2 18 rfl rfl)
theorem dX6_books_68 : decode cX6_books 68 = .ok (.iaload, 1) := dk_46 (dk_at dksX6_books_2 20 rfl rfl)
theorem dX6_books_69 : decode cX6_books 69 = .ok (.iconst 1, 1) := dk_4 (dk_at dksX6_books_2 21 rfl rfl)
theorem dX6_books_70 : decode cX6_books 70 = .ok (.iadd, 1) := dk_96 (dk_at dksX6_books_2 22 rfl rfl)
theorem dX6_books_71 : decode cX6_books 71 = .ok (.bipush 12, 2) := dk_16 12 (dk_at dksX6_books_3 0 rfl rfl)
theorem dX6_books_73 : decode cX6_books 73 = .ok (.invokestatic 59, 3) := dk_184 0 59 (dk_at dksX6_books_3 2 rfl rfl)
theorem dX6_books_76 : decode cX6_books 76 = .ok (.iastore, 1) := dk_79 (dk_at dksX6_books_3 5 rfl rfl)
theorem dX6_books_77 : decode cX6_books 77 = .ok (.return_, 1) := dk_177 (dk_at dksX6_books_3 6 rfl rfl)
abbrev cX6_least : ByteArray := prog_11_method_9_code
def yX6_least : MethodName := ⟨RX6, "least", "(II)I"⟩
def dkwX6_least_0 : List UInt8 := [26, 27, 162, 0, 7, 26, 167, 0, 4, 27, 172]
abbrev dktX6_least_0 : List UInt8 := dkwX6_least_0 ++ []
theorem dksX6_least_0 : cX6_least.data.toList.drop 0 = dktX6_least_0 := by decide +kernel
theorem dX6_least_0 : decode cX6_least 0 = .ok (.iload_n 0, 1) := dk_26 (dk_at dksX6_least_0 0 rfl rfl)
theorem dX6_least_1 : decode cX6_least 1 = .ok (.iload_n 1, 1) := dk_27 (dk_at dksX6_least_0 1 rfl rfl)
theorem dX6_least_2 : decode cX6_least 2 = .ok (.if_icmp .ge 7, 3) := dk_162 0 7 (dk_at dksX6_least_0 2 rfl rfl)
theorem dX6_least_5 : decode cX6_least 5 = .ok (.iload_n 0, 1) := dk_26 (dk_at dksX6_least_0 5 rfl rfl)
theorem dX6_least_6 : decode cX6_least 6 = .ok (.goto 4, 3) := dk_167 0 4 (dk_at dksX6_least_0 6 rfl rfl)
theorem dX6_least_9 : decode cX6_least 9 = .ok (.iload_n 1, 1) := dk_27 (dk_at dksX6_least_0 9 rfl rfl)
theorem dX6_least_10 : decode cX6_least 10 = .ok (.ireturn, 1) := dk_172 (dk_at dksX6_least_0 10 rfl rfl)
abbrev cX6_toDrum : ByteArray := prog_11_method_42_code
def yX6_toDrum : MethodName := ⟨RX6, "toDrum", "(II)I"⟩
def dkwX6_toDrum_2 : List UInt8 := [172, 42, 182, 0, 48, 42, 27, 5, 28, 182, 0, 112, 42, 27, 7, 182, 0, 51, 172]
abbrev dktX6_toDrum_2 : List UInt8 := dkwX6_toDrum_2 ++ []
def dkwX6_toDrum_1 : List UInt8 := [153, 0, 12, 42, 27, 28, 182, 0, 127, 154, 0, 7, 4, 167, 0, 4, 3, 182, 0, 40, 154, 0, 5, 3]
abbrev dktX6_toDrum_1 : List UInt8 := dkwX6_toDrum_1 ++ dktX6_toDrum_2
def dkwX6_toDrum_0 : List UInt8 := [42, 27, 182, 0, 115, 153, 0, 14, 28, 184, 0, 124, 153, 0, 7, 4, 167, 0, 4, 3, 62, 42, 29, 29]
abbrev dktX6_toDrum_0 : List UInt8 := dkwX6_toDrum_0 ++ dktX6_toDrum_1
theorem dksX6_toDrum_0 : cX6_toDrum.data.toList.drop 0 = dktX6_toDrum_0 := by decide +kernel
theorem dksX6_toDrum_1 : cX6_toDrum.data.toList.drop 24 = dktX6_toDrum_1 := dk_seg dksX6_toDrum_0 24 rfl rfl
theorem dksX6_toDrum_2 : cX6_toDrum.data.toList.drop 48 = dktX6_toDrum_2 := dk_seg dksX6_toDrum_1 24 rfl rfl
theorem dX6_toDrum_0 : decode cX6_toDrum 0 = .ok (.aload_n 0, 1) := dk_42 (dk_at dksX6_toDrum_0 0 rfl rfl)
theorem dX6_toDrum_1 : decode cX6_toDrum 1 = .ok (.iload_n 1, 1) := dk_27 (dk_at dksX6_toDrum_0 1 rfl rfl)
theorem dX6_toDrum_2 : decode cX6_toDrum 2 = .ok (.invokevirtual 115, 3) := dk_182 0 115 (dk_at dksX6_toDrum_0 2 rfl rfl)
theorem dX6_toDrum_5 : decode cX6_toDrum 5 = .ok (.ifCond .eq 14, 3) := dk_153 0 14 (dk_at dksX6_toDrum_0 5 rfl rfl)
theorem dX6_toDrum_8 : decode cX6_toDrum 8 = .ok (.iload_n 2, 1) := dk_28 (dk_at dksX6_toDrum_0 8 rfl rfl)
theorem dX6_toDrum_9 : decode cX6_toDrum 9 = .ok (.invokestatic 124, 3) := dk_184 0 124 (dk_at dksX6_toDrum_0 9 rfl rfl)
theorem dX6_toDrum_12 : decode cX6_toDrum 12 = .ok (.ifCond .eq 7, 3) := dk_153 0 7 (dk_at dksX6_toDrum_0 12 rfl rfl)
theorem dX6_toDrum_15 : decode cX6_toDrum 15 = .ok (.iconst 1, 1) := dk_4 (dk_at dksX6_toDrum_0 15 rfl rfl)
theorem dX6_toDrum_16 : decode cX6_toDrum 16 = .ok (.goto 4, 3) := dk_167 0 4 (dk_at dksX6_toDrum_0 16 rfl rfl)
theorem dX6_toDrum_19 : decode cX6_toDrum 19 = .ok (.iconst 0, 1) := dk_3 (dk_at dksX6_toDrum_0 19 rfl rfl)
theorem dX6_toDrum_20 : decode cX6_toDrum 20 = .ok (.istore_n 3, 1) := dk_62 (dk_at dksX6_toDrum_0 20 rfl rfl)
theorem dX6_toDrum_21 : decode cX6_toDrum 21 = .ok (.aload_n 0, 1) := dk_42 (dk_at dksX6_toDrum_0 21 rfl rfl)
theorem dX6_toDrum_22 : decode cX6_toDrum 22 = .ok (.iload_n 3, 1) := dk_29 (dk_at dksX6_toDrum_0 22 rfl rfl)
theorem dX6_toDrum_23 : decode cX6_toDrum 23 = .ok (.iload_n 3, 1) := dk_29 (dk_at dksX6_toDrum_0 23 rfl rfl)
theorem dX6_toDrum_24 : decode cX6_toDrum 24 = .ok (.ifCond .eq 12, 3) := dk_153 0 12 (dk_at dksX6_toDrum_1 0 rfl rfl)
theorem dX6_toDrum_27 : decode cX6_toDrum 27 = .ok (.aload_n 0, 1) := dk_42 (dk_at dksX6_toDrum_1 3 rfl rfl)
theorem dX6_toDrum_28 : decode cX6_toDrum 28 = .ok (.iload_n 1, 1) := dk_27 (dk_at dksX6_toDrum_1 4 rfl rfl)
theorem dX6_toDrum_29 : decode cX6_toDrum 29 = .ok (.iload_n 2, 1) := dk_28 (dk_at dksX6_toDrum_1 5 rfl rfl)
theorem dX6_toDrum_30 : decode cX6_toDrum 30 = .ok (.invokevirtual 127, 3) := dk_182 0 127 (dk_at dksX6_toDrum_1 6 rfl rfl)
theorem dX6_toDrum_33 : decode cX6_toDrum 33 = .ok (.ifCond .ne 7, 3) := dk_154 0 7 (dk_at dksX6_toDrum_1 9 rfl rfl)
theorem dX6_toDrum_36 : decode cX6_toDrum 36 = .ok (.iconst 1, 1) := dk_4 (dk_at dksX6_toDrum_1 12 rfl rfl)
theorem dX6_toDrum_37 : decode cX6_toDrum 37 = .ok (.goto 4, 3) := dk_167 0 4 (dk_at dksX6_toDrum_1 13 rfl rfl)
theorem dX6_toDrum_40 : decode cX6_toDrum 40 = .ok (.iconst 0, 1) := dk_3 (dk_at dksX6_toDrum_1 16 rfl rfl)
theorem dX6_toDrum_41 : decode cX6_toDrum 41 = .ok (.invokevirtual 40, 3) := dk_182 0 40 (dk_at dksX6_toDrum_1 17 rfl rfl)
theorem dX6_toDrum_44 : decode cX6_toDrum 44 = .ok (.ifCond .ne 5, 3) := dk_154 0 5 (dk_at dksX6_toDrum_1 20 rfl rfl)
theorem dX6_toDrum_47 : decode cX6_toDrum 47 = .ok (.iconst 0, 1) := dk_3 (dk_at dksX6_toDrum_1 23 rfl rfl)
theorem dX6_toDrum_48 : decode cX6_toDrum 48 = .ok (.ireturn, 1) := dk_172 (dk_at dksX6_toDrum_2 0 rfl rfl)
theorem dX6_toDrum_49 : decode cX6_toDrum 49 = .ok (.aload_n 0, 1) := dk_42 (dk_at dksX6_toDrum_2 1 rfl rfl)
theorem dX6_toDrum_50 : decode cX6_toDrum 50 = .ok (.invokevirtual 48, 3) := dk_182 0 48 (dk_at dksX6_toDrum_2 2 rfl rfl)
theorem dX6_toDrum_53 : decode cX6_toDrum 53 = .ok (.aload_n 0, 1) := dk_42 (dk_at dksX6_toDrum_2 5 rfl rfl)
theorem dX6_toDrum_54 : decode cX6_toDrum 54 = .ok (.iload_n 1, 1) := dk_27 (dk_at dksX6_toDrum_2 6 rfl rfl)
theorem dX6_toDrum_55 : decode cX6_toDrum 55 = .ok (.iconst 2, 1) := dk_5 (dk_at dksX6_toDrum_2 7 rfl rfl)
theorem dX6_toDrum_56 : decode cX6_toDrum 56 = .ok (.iload_n 2, 1) := dk_28 (dk_at dksX6_toDrum_2 8 rfl rfl)
theorem dX6_toDrum_57 : decode cX6_toDrum 57 = .ok (.invokevirtual 112, 3) := dk_182 0 112 (dk_at dksX6_toDrum_2 9 rfl rfl)
theorem dX6_toDrum_60 : decode cX6_toDrum 60 = .ok (.aload_n 0, 1) := dk_42 (dk_at dksX6_toDrum_2 12 rfl rfl)
theorem dX6_toDrum_61 : decode cX6_toDrum 61 = .ok (.iload_n 1, 1) := dk_27 (dk_at dksX6_toDrum_2 13 rfl rfl)
theorem dX6_toDrum_62 : decode cX6_toDrum 62 = .ok (.iconst 4, 1) := dk_7 (dk_at dksX6_toDrum_2 14 rfl rfl)
theorem dX6_toDrum_63 : decode cX6_toDrum 63 = .ok (.invokevirtual 51, 3) := dk_182 0 51 (dk_at dksX6_toDrum_2 15 rfl rfl)
theorem dX6_toDrum_66 : decode cX6_toDrum 66 = .ok (.ireturn, 1) := dk_172 (dk_at dksX6_toDrum_2 18 rfl rfl)
abbrev cX6_isDrum : ByteArray := prog_11_method_6_code
def yX6_isDrum : MethodName := ⟨RX6, "isDrum", "(I)Z"⟩
def dkwX6_isDrum_0 : List UInt8 := [26, 3, 6, 184, 0, 29, 172]
abbrev dktX6_isDrum_0 : List UInt8 := dkwX6_isDrum_0 ++ []
theorem dksX6_isDrum_0 : cX6_isDrum.data.toList.drop 0 = dktX6_isDrum_0 := by decide +kernel
theorem dX6_isDrum_0 : decode cX6_isDrum 0 = .ok (.iload_n 0, 1) := dk_26 (dk_at dksX6_isDrum_0 0 rfl rfl)
theorem dX6_isDrum_1 : decode cX6_isDrum 1 = .ok (.iconst 0, 1) := dk_3 (dk_at dksX6_isDrum_0 1 rfl rfl)
theorem dX6_isDrum_2 : decode cX6_isDrum 2 = .ok (.iconst 3, 1) := dk_6 (dk_at dksX6_isDrum_0 2 rfl rfl)
theorem dX6_isDrum_3 : decode cX6_isDrum 3 = .ok (.invokestatic 29, 3) := dk_184 0 29 (dk_at dksX6_isDrum_0 3 rfl rfl)
theorem dX6_isDrum_6 : decode cX6_isDrum 6 = .ok (.ireturn, 1) := dk_172 (dk_at dksX6_isDrum_0 6 rfl rfl)
abbrev cX6_noDrum : ByteArray := prog_11_method_32_code
def yX6_noDrum : MethodName := ⟨RX6, "noDrum", "(II)I"⟩
def dkwX6_noDrum_2 : List UInt8 := [167, 0, 4, 3, 172]
abbrev dktX6_noDrum_2 : List UInt8 := dkwX6_noDrum_2 ++ []
def dkwX6_noDrum_1 : List UInt8 := [182, 0, 103, 2, 159, 0, 7, 5, 167, 0, 19, 42, 27, 7, 182, 0, 51, 16, 30, 162, 0, 7, 6]
abbrev dktX6_noDrum_1 : List UInt8 := dkwX6_noDrum_1 ++ dktX6_noDrum_2
def dkwX6_noDrum_0 : List UInt8 := [42, 27, 3, 182, 0, 51, 4, 159, 0, 15, 42, 27, 182, 0, 99, 154, 0, 7, 4, 167, 0, 32, 42, 28]
abbrev dktX6_noDrum_0 : List UInt8 := dkwX6_noDrum_0 ++ dktX6_noDrum_1
theorem dksX6_noDrum_0 : cX6_noDrum.data.toList.drop 0 = dktX6_noDrum_0 := by decide +kernel
theorem dksX6_noDrum_1 : cX6_noDrum.data.toList.drop 24 = dktX6_noDrum_1 := dk_seg dksX6_noDrum_0 24 rfl rfl
theorem dksX6_noDrum_2 : cX6_noDrum.data.toList.drop 47 = dktX6_noDrum_2 := dk_seg dksX6_noDrum_1 23 rfl rfl
theorem dX6_noDrum_0 : decode cX6_noDrum 0 = .ok (.aload_n 0, 1) := dk_42 (dk_at dksX6_noDrum_0 0 rfl rfl)
theorem dX6_noDrum_1 : decode cX6_noDrum 1 = .ok (.iload_n 1, 1) := dk_27 (dk_at dksX6_noDrum_0 1 rfl rfl)
theorem dX6_noDrum_2 : decode cX6_noDrum 2 = .ok (.iconst 0, 1) := dk_3 (dk_at dksX6_noDrum_0 2 rfl rfl)
theorem dX6_noDrum_3 : decode cX6_noDrum 3 = .ok (.invokevirtual 51, 3) := dk_182 0 51 (dk_at dksX6_noDrum_0 3 rfl rfl)
theorem dX6_noDrum_6 : decode cX6_noDrum 6 = .ok (.iconst 1, 1) := dk_4 (dk_at dksX6_noDrum_0 6 rfl rfl)
theorem dX6_noDrum_7 : decode cX6_noDrum 7 = .ok (.if_icmp .eq 15, 3) := dk_159 0 15 (dk_at dksX6_noDrum_0 7 rfl rfl)
theorem dX6_noDrum_10 : decode cX6_noDrum 10 = .ok (.aload_n 0, 1) := dk_42 (dk_at dksX6_noDrum_0 10 rfl rfl)
theorem dX6_noDrum_11 : decode cX6_noDrum 11 = .ok (.iload_n 1, 1) := dk_27 (dk_at dksX6_noDrum_0 11 rfl rfl)
theorem dX6_noDrum_12 : decode cX6_noDrum 12 = .ok (.invokevirtual 99, 3) := dk_182 0 99 (dk_at dksX6_noDrum_0 12 rfl rfl)
theorem dX6_noDrum_15 : decode cX6_noDrum 15 = .ok (.ifCond .ne 7, 3) := dk_154 0 7 (dk_at dksX6_noDrum_0 15 rfl rfl)
theorem dX6_noDrum_18 : decode cX6_noDrum 18 = .ok (.iconst 1, 1) := dk_4 (dk_at dksX6_noDrum_0 18 rfl rfl)
theorem dX6_noDrum_19 : decode cX6_noDrum 19 = .ok (.goto 32, 3) := dk_167 0 32 (dk_at dksX6_noDrum_0 19 rfl rfl)
theorem dX6_noDrum_22 : decode cX6_noDrum 22 = .ok (.aload_n 0, 1) := dk_42 (dk_at dksX6_noDrum_0 22 rfl rfl)
theorem dX6_noDrum_23 : decode cX6_noDrum 23 = .ok (.iload_n 2, 1) := dk_28 (dk_at dksX6_noDrum_0 23 rfl rfl)
theorem dX6_noDrum_24 : decode cX6_noDrum 24 = .ok (.invokevirtual 103, 3) := dk_182 0 103 (dk_at dksX6_noDrum_1 0 rfl rfl)
theorem dX6_noDrum_27 : decode cX6_noDrum 27 = .ok (.iconst (-1), 1) := dk_2 (dk_at dksX6_noDrum_1 3 rfl rfl)
theorem dX6_noDrum_28 : decode cX6_noDrum 28 = .ok (.if_icmp .eq 7, 3) := dk_159 0 7 (dk_at dksX6_noDrum_1 4 rfl rfl)
theorem dX6_noDrum_31 : decode cX6_noDrum 31 = .ok (.iconst 2, 1) := dk_5 (dk_at dksX6_noDrum_1 7 rfl rfl)
theorem dX6_noDrum_32 : decode cX6_noDrum 32 = .ok (.goto 19, 3) := dk_167 0 19 (dk_at dksX6_noDrum_1 8 rfl rfl)
theorem dX6_noDrum_35 : decode cX6_noDrum 35 = .ok (.aload_n 0, 1) := dk_42 (dk_at dksX6_noDrum_1 11 rfl rfl)
theorem dX6_noDrum_36 : decode cX6_noDrum 36 = .ok (.iload_n 1, 1) := dk_27 (dk_at dksX6_noDrum_1 12 rfl rfl)
theorem dX6_noDrum_37 : decode cX6_noDrum 37 = .ok (.iconst 4, 1) := dk_7 (dk_at dksX6_noDrum_1 13 rfl rfl)
theorem dX6_noDrum_38 : decode cX6_noDrum 38 = .ok (.invokevirtual 51, 3) := dk_182 0 51 (dk_at dksX6_noDrum_1 14 rfl rfl)
theorem dX6_noDrum_41 : decode cX6_noDrum 41 = .ok (.bipush 30, 2) := dk_16 30 (dk_at dksX6_noDrum_1 17 rfl rfl)
theorem dX6_noDrum_43 : decode cX6_noDrum 43 = .ok (.if_icmp .ge 7, 3) := dk_162 0 7 (dk_at dksX6_noDrum_1 19 rfl rfl)
theorem dX6_noDrum_46 : decode cX6_noDrum 46 = .ok (.iconst 3, 1) := dk_6 (dk_at dksX6_noDrum_1 22 rfl rfl)
theorem dX6_noDrum_47 : decode cX6_noDrum 47 = .ok (.goto 4, 3) := dk_167 0 4 (dk_at dksX6_noDrum_2 0 rfl rfl)
theorem dX6_noDrum_50 : decode cX6_noDrum 50 = .ok (.iconst 0, 1) := dk_3 (dk_at dksX6_noDrum_2 3 rfl rfl)
theorem dX6_noDrum_51 : decode cX6_noDrum 51 = .ok (.ireturn, 1) := dk_172 (dk_at dksX6_noDrum_2 4 rfl rfl)
abbrev cX6_isGrowing : ByteArray := prog_11_method_18_code
def yX6_isGrowing : MethodName := ⟨RX6, "isGrowing", "(I)Z"⟩
def dkwX6_isGrowing_1 : List UInt8 := [3, 172]
abbrev dktX6_isGrowing_1 : List UInt8 := dkwX6_isGrowing_1 ++ []
def dkwX6_isGrowing_0 : List UInt8 := [42, 27, 3, 182, 0, 51, 5, 159, 0, 13, 42, 27, 3, 182, 0, 51, 6, 160, 0, 7, 4, 167, 0, 4]
abbrev dktX6_isGrowing_0 : List UInt8 := dkwX6_isGrowing_0 ++ dktX6_isGrowing_1
theorem dksX6_isGrowing_0 : cX6_isGrowing.data.toList.drop 0 = dktX6_isGrowing_0 := by decide +kernel
theorem dksX6_isGrowing_1 : cX6_isGrowing.data.toList.drop 24 = dktX6_isGrowing_1 := dk_seg dksX6_isGrowing_0 24 rfl rfl
theorem dX6_isGrowing_0 : decode cX6_isGrowing 0 = .ok (.aload_n 0, 1) := dk_42 (dk_at dksX6_isGrowing_0 0 rfl rfl)
theorem dX6_isGrowing_1 : decode cX6_isGrowing 1 = .ok (.iload_n 1, 1) := dk_27 (dk_at dksX6_isGrowing_0 1 rfl rfl)
theorem dX6_isGrowing_2 : decode cX6_isGrowing 2 = .ok (.iconst 0, 1) := dk_3 (dk_at dksX6_isGrowing_0 2 rfl rfl)
theorem dX6_isGrowing_3 : decode cX6_isGrowing 3 = .ok (.invokevirtual 51, 3) := dk_182 0 51 (dk_at dksX6_isGrowing_0 3 rfl rfl)
theorem dX6_isGrowing_6 : decode cX6_isGrowing 6 = .ok (.iconst 2, 1) := dk_5 (dk_at dksX6_isGrowing_0 6 rfl rfl)
theorem dX6_isGrowing_7 : decode cX6_isGrowing 7 = .ok (.if_icmp .eq 13, 3) := dk_159 0 13 (dk_at dksX6_isGrowing_0 7 rfl rfl)
theorem dX6_isGrowing_10 : decode cX6_isGrowing 10 = .ok (.aload_n 0, 1) := dk_42 (dk_at dksX6_isGrowing_0 10 rfl rfl)
theorem dX6_isGrowing_11 : decode cX6_isGrowing 11 = .ok (.iload_n 1, 1) := dk_27 (dk_at dksX6_isGrowing_0 11 rfl rfl)
theorem dX6_isGrowing_12 : decode cX6_isGrowing 12 = .ok (.iconst 0, 1) := dk_3 (dk_at dksX6_isGrowing_0 12 rfl rfl)
theorem dX6_isGrowing_13 : decode cX6_isGrowing 13 = .ok (.invokevirtual 51, 3) := dk_182 0 51 (dk_at dksX6_isGrowing_0 13 rfl rfl)
theorem dX6_isGrowing_16 : decode cX6_isGrowing 16 = .ok (.iconst 3, 1) := dk_6 (dk_at dksX6_isGrowing_0 16 rfl rfl)
theorem dX6_isGrowing_17 : decode cX6_isGrowing 17 = .ok (.if_icmp .ne 7, 3) := dk_160 0 7 (dk_at dksX6_isGrowing_0 17 rfl rfl)
theorem dX6_isGrowing_20 : decode cX6_isGrowing 20 = .ok (.iconst 1, 1) := dk_4 (dk_at dksX6_isGrowing_0 20 rfl rfl)
theorem dX6_isGrowing_21 : decode cX6_isGrowing 21 = .ok (.goto 4, 3) := dk_167 0 4 (dk_at dksX6_isGrowing_0 21 rfl rfl)
theorem dX6_isGrowing_24 : decode cX6_isGrowing 24 = .ok (.iconst 0, 1) := dk_3 (dk_at dksX6_isGrowing_1 0 rfl rfl)
theorem dX6_isGrowing_25 : decode cX6_isGrowing 25 = .ok (.ireturn, 1) := dk_172 (dk_at dksX6_isGrowing_1 1 rfl rfl)
abbrev cX6_inDrum : ByteArray := prog_11_method_21_code
def yX6_inDrum : MethodName := ⟨RX6, "inDrum", "(I)I"⟩
def dkwX6_inDrum_2 : List UInt8 := [167, 255, 216, 28, 172]
abbrev dktX6_inDrum_2 : List UInt8 := dkwX6_inDrum_2 ++ []
def dkwX6_inDrum_1 : List UInt8 := [160, 0, 17, 42, 29, 4, 182, 0, 51, 27, 160, 0, 7, 29, 167, 0, 4, 28, 61, 132, 3, 1]
abbrev dktX6_inDrum_1 : List UInt8 := dkwX6_inDrum_1 ++ dktX6_inDrum_2
def dkwX6_inDrum_0 : List UInt8 := [2, 61, 3, 62, 29, 42, 180, 0, 7, 16, 7, 46, 162, 0, 35, 42, 29, 3, 182, 0, 51, 5]
abbrev dktX6_inDrum_0 : List UInt8 := dkwX6_inDrum_0 ++ dktX6_inDrum_1
theorem dksX6_inDrum_0 : cX6_inDrum.data.toList.drop 0 = dktX6_inDrum_0 := by decide +kernel
theorem dksX6_inDrum_1 : cX6_inDrum.data.toList.drop 22 = dktX6_inDrum_1 := dk_seg dksX6_inDrum_0 22 rfl rfl
theorem dksX6_inDrum_2 : cX6_inDrum.data.toList.drop 44 = dktX6_inDrum_2 := dk_seg dksX6_inDrum_1 22 rfl rfl
theorem dX6_inDrum_0 : decode cX6_inDrum 0 = .ok (.iconst (-1), 1) := dk_2 (dk_at dksX6_inDrum_0 0 rfl rfl)
theorem dX6_inDrum_1 : decode cX6_inDrum 1 = .ok (.istore_n 2, 1) := dk_61 (dk_at dksX6_inDrum_0 1 rfl rfl)
theorem dX6_inDrum_2 : decode cX6_inDrum 2 = .ok (.iconst 0, 1) := dk_3 (dk_at dksX6_inDrum_0 2 rfl rfl)
theorem dX6_inDrum_3 : decode cX6_inDrum 3 = .ok (.istore_n 3, 1) := dk_62 (dk_at dksX6_inDrum_0 3 rfl rfl)
theorem dX6_inDrum_4 : decode cX6_inDrum 4 = .ok (.iload_n 3, 1) := dk_29 (dk_at dksX6_inDrum_0 4 rfl rfl)
theorem dX6_inDrum_5 : decode cX6_inDrum 5 = .ok (.aload_n 0, 1) := dk_42 (dk_at dksX6_inDrum_0 5 rfl rfl)
theorem dX6_inDrum_6 : decode cX6_inDrum 6 = .ok (.getfield 7, 3) := dk_180 0 7 (dk_at dksX6_inDrum_0 6 rfl rfl)
theorem dX6_inDrum_9 : decode cX6_inDrum 9 = .ok (.bipush 7, 2) := dk_16 7 (dk_at dksX6_inDrum_0 9 rfl rfl)
theorem dX6_inDrum_11 : decode cX6_inDrum 11 = .ok (.iaload, 1) := dk_46 (dk_at dksX6_inDrum_0 11 rfl rfl)
theorem dX6_inDrum_12 : decode cX6_inDrum 12 = .ok (.if_icmp .ge 35, 3) := dk_162 0 35 (dk_at dksX6_inDrum_0 12 rfl rfl)
theorem dX6_inDrum_15 : decode cX6_inDrum 15 = .ok (.aload_n 0, 1) := dk_42 (dk_at dksX6_inDrum_0 15 rfl rfl)
theorem dX6_inDrum_16 : decode cX6_inDrum 16 = .ok (.iload_n 3, 1) := dk_29 (dk_at dksX6_inDrum_0 16 rfl rfl)
theorem dX6_inDrum_17 : decode cX6_inDrum 17 = .ok (.iconst 0, 1) := dk_3 (dk_at dksX6_inDrum_0 17 rfl rfl)
theorem dX6_inDrum_18 : decode cX6_inDrum 18 = .ok (.invokevirtual 51, 3) := dk_182 0 51 (dk_at dksX6_inDrum_0 18 rfl rfl)
theorem dX6_inDrum_21 : decode cX6_inDrum 21 = .ok (.iconst 2, 1) := dk_5 (dk_at dksX6_inDrum_0 21 rfl rfl)
theorem dX6_inDrum_22 : decode cX6_inDrum 22 = .ok (.if_icmp .ne 17, 3) := dk_160 0 17 (dk_at dksX6_inDrum_1 0 rfl rfl)
theorem dX6_inDrum_25 : decode cX6_inDrum 25 = .ok (.aload_n 0, 1) := dk_42 (dk_at dksX6_inDrum_1 3 rfl rfl)
theorem dX6_inDrum_26 : decode cX6_inDrum 26 = .ok (.iload_n 3, 1) := dk_29 (dk_at dksX6_inDrum_1 4 rfl rfl)
theorem dX6_inDrum_27 : decode cX6_inDrum 27 = .ok (.iconst 1, 1) := dk_4 (dk_at dksX6_inDrum_1 5 rfl rfl)
theorem dX6_inDrum_28 : decode cX6_inDrum 28 = .ok (.invokevirtual 51, 3) := dk_182 0 51 (dk_at dksX6_inDrum_1 6 rfl rfl)
theorem dX6_inDrum_31 : decode cX6_inDrum 31 = .ok (.iload_n 1, 1) := dk_27 (dk_at dksX6_inDrum_1 9 rfl rfl)
theorem dX6_inDrum_32 : decode cX6_inDrum 32 = .ok (.if_icmp .ne 7, 3) := dk_160 0 7 (dk_at dksX6_inDrum_1 10 rfl rfl)
theorem dX6_inDrum_35 : decode cX6_inDrum 35 = .ok (.iload_n 3, 1) := dk_29 (dk_at dksX6_inDrum_1 13 rfl rfl)
theorem dX6_inDrum_36 : decode cX6_inDrum 36 = .ok (.goto 4, 3) := dk_167 0 4 (dk_at dksX6_inDrum_1 14 rfl rfl)
theorem dX6_inDrum_39 : decode cX6_inDrum 39 = .ok (.iload_n 2, 1) := dk_28 (dk_at dksX6_inDrum_1 17 rfl rfl)
theorem dX6_inDrum_40 : decode cX6_inDrum 40 = .ok (.istore_n 2, 1) := dk_61 (dk_at dksX6_inDrum_1 18 rfl rfl)
theorem dX6_inDrum_41 : decode cX6_inDrum 41 = .ok (.iinc 3 1, 3) := dk_132 3 1 (dk_at dksX6_inDrum_1 19 rfl rfl)
theorem dX6_inDrum_44 : decode cX6_inDrum 44 = .ok (.goto (-40), 3) := dk_167 255 216 (dk_at dksX6_inDrum_2 0 rfl rfl)
theorem dX6_inDrum_47 : decode cX6_inDrum 47 = .ok (.iload_n 2, 1) := dk_28 (dk_at dksX6_inDrum_2 3 rfl rfl)
theorem dX6_inDrum_48 : decode cX6_inDrum 48 = .ok (.ireturn, 1) := dk_172 (dk_at dksX6_inDrum_2 4 rfl rfl)
abbrev cX6_toHeap : ByteArray := prog_11_method_43_code
def yX6_toHeap : MethodName := ⟨RX6, "toHeap", "(I)I"⟩
def dkwX6_toHeap_2 : List UInt8 := [6, 182, 0, 82, 172]
abbrev dktX6_toHeap_2 : List UInt8 := dkwX6_toHeap_2 ++ []
def dkwX6_toHeap_1 : List UInt8 := [167, 0, 4, 3, 182, 0, 40, 154, 0, 5, 3, 172, 42, 182, 0, 48, 42, 27, 6, 2, 182, 0, 112, 42]
abbrev dktX6_toHeap_1 : List UInt8 := dkwX6_toHeap_1 ++ dktX6_toHeap_2
def dkwX6_toHeap_0 : List UInt8 := [42, 42, 27, 182, 0, 115, 42, 27, 182, 0, 115, 153, 0, 11, 42, 27, 182, 0, 130, 153, 0, 7, 4]
abbrev dktX6_toHeap_0 : List UInt8 := dkwX6_toHeap_0 ++ dktX6_toHeap_1
theorem dksX6_toHeap_0 : cX6_toHeap.data.toList.drop 0 = dktX6_toHeap_0 := by decide +kernel
theorem dksX6_toHeap_1 : cX6_toHeap.data.toList.drop 23 = dktX6_toHeap_1 := dk_seg dksX6_toHeap_0 23 rfl rfl
theorem dksX6_toHeap_2 : cX6_toHeap.data.toList.drop 47 = dktX6_toHeap_2 := dk_seg dksX6_toHeap_1 24 rfl rfl
theorem dX6_toHeap_0 : decode cX6_toHeap 0 = .ok (.aload_n 0, 1) := dk_42 (dk_at dksX6_toHeap_0 0 rfl rfl)
theorem dX6_toHeap_1 : decode cX6_toHeap 1 = .ok (.aload_n 0, 1) := dk_42 (dk_at dksX6_toHeap_0 1 rfl rfl)
theorem dX6_toHeap_2 : decode cX6_toHeap 2 = .ok (.iload_n 1, 1) := dk_27 (dk_at dksX6_toHeap_0 2 rfl rfl)
theorem dX6_toHeap_3 : decode cX6_toHeap 3 = .ok (.invokevirtual 115, 3) := dk_182 0 115 (dk_at dksX6_toHeap_0 3 rfl rfl)
theorem dX6_toHeap_6 : decode cX6_toHeap 6 = .ok (.aload_n 0, 1) := dk_42 (dk_at dksX6_toHeap_0 6 rfl rfl)
theorem dX6_toHeap_7 : decode cX6_toHeap 7 = .ok (.iload_n 1, 1) := dk_27 (dk_at dksX6_toHeap_0 7 rfl rfl)
theorem dX6_toHeap_8 : decode cX6_toHeap 8 = .ok (.invokevirtual 115, 3) := dk_182 0 115 (dk_at dksX6_toHeap_0 8 rfl rfl)
theorem dX6_toHeap_11 : decode cX6_toHeap 11 = .ok (.ifCond .eq 11, 3) := dk_153 0 11 (dk_at dksX6_toHeap_0 11 rfl rfl)
theorem dX6_toHeap_14 : decode cX6_toHeap 14 = .ok (.aload_n 0, 1) := dk_42 (dk_at dksX6_toHeap_0 14 rfl rfl)
theorem dX6_toHeap_15 : decode cX6_toHeap 15 = .ok (.iload_n 1, 1) := dk_27 (dk_at dksX6_toHeap_0 15 rfl rfl)
theorem dX6_toHeap_16 : decode cX6_toHeap 16 = .ok (.invokevirtual 130, 3) := dk_182 0 130 (dk_at dksX6_toHeap_0 16 rfl rfl)
theorem dX6_toHeap_19 : decode cX6_toHeap 19 = .ok (.ifCond .eq 7, 3) := dk_153 0 7 (dk_at dksX6_toHeap_0 19 rfl rfl)
theorem dX6_toHeap_22 : decode cX6_toHeap 22 = .ok (.iconst 1, 1) := dk_4 (dk_at dksX6_toHeap_0 22 rfl rfl)
theorem dX6_toHeap_23 : decode cX6_toHeap 23 = .ok (.goto 4, 3) := dk_167 0 4 (dk_at dksX6_toHeap_1 0 rfl rfl)
theorem dX6_toHeap_26 : decode cX6_toHeap 26 = .ok (.iconst 0, 1) := dk_3 (dk_at dksX6_toHeap_1 3 rfl rfl)
theorem dX6_toHeap_27 : decode cX6_toHeap 27 = .ok (.invokevirtual 40, 3) := dk_182 0 40 (dk_at dksX6_toHeap_1 4 rfl rfl)
theorem dX6_toHeap_30 : decode cX6_toHeap 30 = .ok (.ifCond .ne 5, 3) := dk_154 0 5 (dk_at dksX6_toHeap_1 7 rfl rfl)
theorem dX6_toHeap_33 : decode cX6_toHeap 33 = .ok (.iconst 0, 1) := dk_3 (dk_at dksX6_toHeap_1 10 rfl rfl)
theorem dX6_toHeap_34 : decode cX6_toHeap 34 = .ok (.ireturn, 1) := dk_172 (dk_at dksX6_toHeap_1 11 rfl rfl)
theorem dX6_toHeap_35 : decode cX6_toHeap 35 = .ok (.aload_n 0, 1) := dk_42 (dk_at dksX6_toHeap_1 12 rfl rfl)
theorem dX6_toHeap_36 : decode cX6_toHeap 36 = .ok (.invokevirtual 48, 3) := dk_182 0 48 (dk_at dksX6_toHeap_1 13 rfl rfl)
theorem dX6_toHeap_39 : decode cX6_toHeap 39 = .ok (.aload_n 0, 1) := dk_42 (dk_at dksX6_toHeap_1 16 rfl rfl)
theorem dX6_toHeap_40 : decode cX6_toHeap 40 = .ok (.iload_n 1, 1) := dk_27 (dk_at dksX6_toHeap_1 17 rfl rfl)
theorem dX6_toHeap_41 : decode cX6_toHeap 41 = .ok (.iconst 3, 1) := dk_6 (dk_at dksX6_toHeap_1 18 rfl rfl)
theorem dX6_toHeap_42 : decode cX6_toHeap 42 = .ok (.iconst (-1), 1) := dk_2 (dk_at dksX6_toHeap_1 19 rfl rfl)
theorem dX6_toHeap_43 : decode cX6_toHeap 43 = .ok (.invokevirtual 112, 3) := dk_182 0 112 (dk_at dksX6_toHeap_1 20 rfl rfl)
theorem dX6_toHeap_46 : decode cX6_toHeap 46 = .ok (.aload_n 0, 1) := dk_42 (dk_at dksX6_toHeap_1 23 rfl rfl)
theorem dX6_toHeap_47 : decode cX6_toHeap 47 = .ok (.iconst 3, 1) := dk_6 (dk_at dksX6_toHeap_2 0 rfl rfl)
theorem dX6_toHeap_48 : decode cX6_toHeap 48 = .ok (.invokevirtual 82, 3) := dk_182 0 82 (dk_at dksX6_toHeap_2 1 rfl rfl)
theorem dX6_toHeap_51 : decode cX6_toHeap 51 = .ok (.ireturn, 1) := dk_172 (dk_at dksX6_toHeap_2 4 rfl rfl)
abbrev cX6_canHeap : ByteArray := prog_11_method_35_code
def yX6_canHeap : MethodName := ⟨RX6, "canHeap", "(I)Z"⟩
def dkwX6_canHeap_1 : List UInt8 := [3, 172]
abbrev dktX6_canHeap_1 : List UInt8 := dkwX6_canHeap_1 ++ []
def dkwX6_canHeap_0 : List UInt8 := [42, 27, 3, 182, 0, 51, 4, 159, 0, 13, 42, 27, 3, 182, 0, 51, 5, 160, 0, 7, 4, 167, 0, 4]
abbrev dktX6_canHeap_0 : List UInt8 := dkwX6_canHeap_0 ++ dktX6_canHeap_1
theorem dksX6_canHeap_0 : cX6_canHeap.data.toList.drop 0 = dktX6_canHeap_0 := by decide +kernel
theorem dksX6_canHeap_1 : cX6_canHeap.data.toList.drop 24 = dktX6_canHeap_1 := dk_seg dksX6_canHeap_0 24 rfl rfl
theorem dX6_canHeap_0 : decode cX6_canHeap 0 = .ok (.aload_n 0, 1) := dk_42 (dk_at dksX6_canHeap_0 0 rfl rfl)
theorem dX6_canHeap_1 : decode cX6_canHeap 1 = .ok (.iload_n 1, 1) := dk_27 (dk_at dksX6_canHeap_0 1 rfl rfl)
theorem dX6_canHeap_2 : decode cX6_canHeap 2 = .ok (.iconst 0, 1) := dk_3 (dk_at dksX6_canHeap_0 2 rfl rfl)
theorem dX6_canHeap_3 : decode cX6_canHeap 3 = .ok (.invokevirtual 51, 3) := dk_182 0 51 (dk_at dksX6_canHeap_0 3 rfl rfl)
theorem dX6_canHeap_6 : decode cX6_canHeap 6 = .ok (.iconst 1, 1) := dk_4 (dk_at dksX6_canHeap_0 6 rfl rfl)
theorem dX6_canHeap_7 : decode cX6_canHeap 7 = .ok (.if_icmp .eq 13, 3) := dk_159 0 13 (dk_at dksX6_canHeap_0 7 rfl rfl)
theorem dX6_canHeap_10 : decode cX6_canHeap 10 = .ok (.aload_n 0, 1) := dk_42 (dk_at dksX6_canHeap_0 10 rfl rfl)
theorem dX6_canHeap_11 : decode cX6_canHeap 11 = .ok (.iload_n 1, 1) := dk_27 (dk_at dksX6_canHeap_0 11 rfl rfl)
theorem dX6_canHeap_12 : decode cX6_canHeap 12 = .ok (.iconst 0, 1) := dk_3 (dk_at dksX6_canHeap_0 12 rfl rfl)
theorem dX6_canHeap_13 : decode cX6_canHeap 13 = .ok (.invokevirtual 51, 3) := dk_182 0 51 (dk_at dksX6_canHeap_0 13 rfl rfl)
theorem dX6_canHeap_16 : decode cX6_canHeap 16 = .ok (.iconst 2, 1) := dk_5 (dk_at dksX6_canHeap_0 16 rfl rfl)
theorem dX6_canHeap_17 : decode cX6_canHeap 17 = .ok (.if_icmp .ne 7, 3) := dk_160 0 7 (dk_at dksX6_canHeap_0 17 rfl rfl)
theorem dX6_canHeap_20 : decode cX6_canHeap 20 = .ok (.iconst 1, 1) := dk_4 (dk_at dksX6_canHeap_0 20 rfl rfl)
theorem dX6_canHeap_21 : decode cX6_canHeap 21 = .ok (.goto 4, 3) := dk_167 0 4 (dk_at dksX6_canHeap_0 21 rfl rfl)
theorem dX6_canHeap_24 : decode cX6_canHeap 24 = .ok (.iconst 0, 1) := dk_3 (dk_at dksX6_canHeap_1 0 rfl rfl)
theorem dX6_canHeap_25 : decode cX6_canHeap 25 = .ok (.ireturn, 1) := dk_172 (dk_at dksX6_canHeap_1 1 rfl rfl)
abbrev cX6_load : ByteArray := prog_11_method_44_code
def yX6_load : MethodName := ⟨RX6, "load", "(I)I"⟩
def dkwX6_load_2 : List UInt8 := [7, 182, 0, 106, 172]
abbrev dktX6_load_2 : List UInt8 := dkwX6_load_2 ++ []
def dkwX6_load_1 : List UInt8 := [167, 0, 4, 3, 182, 0, 40, 154, 0, 5, 3, 172, 42, 182, 0, 48, 42, 27, 7, 2, 182, 0, 112, 42]
abbrev dktX6_load_1 : List UInt8 := dkwX6_load_1 ++ dktX6_load_2
def dkwX6_load_0 : List UInt8 := [42, 42, 27, 182, 0, 115, 42, 27, 182, 0, 115, 153, 0, 11, 42, 27, 182, 0, 133, 154, 0, 7, 4]
abbrev dktX6_load_0 : List UInt8 := dkwX6_load_0 ++ dktX6_load_1
theorem dksX6_load_0 : cX6_load.data.toList.drop 0 = dktX6_load_0 := by decide +kernel
theorem dksX6_load_1 : cX6_load.data.toList.drop 23 = dktX6_load_1 := dk_seg dksX6_load_0 23 rfl rfl
theorem dksX6_load_2 : cX6_load.data.toList.drop 47 = dktX6_load_2 := dk_seg dksX6_load_1 24 rfl rfl
theorem dX6_load_0 : decode cX6_load 0 = .ok (.aload_n 0, 1) := dk_42 (dk_at dksX6_load_0 0 rfl rfl)
theorem dX6_load_1 : decode cX6_load 1 = .ok (.aload_n 0, 1) := dk_42 (dk_at dksX6_load_0 1 rfl rfl)
theorem dX6_load_2 : decode cX6_load 2 = .ok (.iload_n 1, 1) := dk_27 (dk_at dksX6_load_0 2 rfl rfl)
theorem dX6_load_3 : decode cX6_load 3 = .ok (.invokevirtual 115, 3) := dk_182 0 115 (dk_at dksX6_load_0 3 rfl rfl)
theorem dX6_load_6 : decode cX6_load 6 = .ok (.aload_n 0, 1) := dk_42 (dk_at dksX6_load_0 6 rfl rfl)
theorem dX6_load_7 : decode cX6_load 7 = .ok (.iload_n 1, 1) := dk_27 (dk_at dksX6_load_0 7 rfl rfl)
theorem dX6_load_8 : decode cX6_load 8 = .ok (.invokevirtual 115, 3) := dk_182 0 115 (dk_at dksX6_load_0 8 rfl rfl)
theorem dX6_load_11 : decode cX6_load 11 = .ok (.ifCond .eq 11, 3) := dk_153 0 11 (dk_at dksX6_load_0 11 rfl rfl)
theorem dX6_load_14 : decode cX6_load 14 = .ok (.aload_n 0, 1) := dk_42 (dk_at dksX6_load_0 14 rfl rfl)
theorem dX6_load_15 : decode cX6_load 15 = .ok (.iload_n 1, 1) := dk_27 (dk_at dksX6_load_0 15 rfl rfl)
theorem dX6_load_16 : decode cX6_load 16 = .ok (.invokevirtual 133, 3) := dk_182 0 133 (dk_at dksX6_load_0 16 rfl rfl)
theorem dX6_load_19 : decode cX6_load 19 = .ok (.ifCond .ne 7, 3) := dk_154 0 7 (dk_at dksX6_load_0 19 rfl rfl)
theorem dX6_load_22 : decode cX6_load 22 = .ok (.iconst 1, 1) := dk_4 (dk_at dksX6_load_0 22 rfl rfl)
theorem dX6_load_23 : decode cX6_load 23 = .ok (.goto 4, 3) := dk_167 0 4 (dk_at dksX6_load_1 0 rfl rfl)
theorem dX6_load_26 : decode cX6_load 26 = .ok (.iconst 0, 1) := dk_3 (dk_at dksX6_load_1 3 rfl rfl)
theorem dX6_load_27 : decode cX6_load 27 = .ok (.invokevirtual 40, 3) := dk_182 0 40 (dk_at dksX6_load_1 4 rfl rfl)
theorem dX6_load_30 : decode cX6_load 30 = .ok (.ifCond .ne 5, 3) := dk_154 0 5 (dk_at dksX6_load_1 7 rfl rfl)
theorem dX6_load_33 : decode cX6_load 33 = .ok (.iconst 0, 1) := dk_3 (dk_at dksX6_load_1 10 rfl rfl)
theorem dX6_load_34 : decode cX6_load 34 = .ok (.ireturn, 1) := dk_172 (dk_at dksX6_load_1 11 rfl rfl)
theorem dX6_load_35 : decode cX6_load 35 = .ok (.aload_n 0, 1) := dk_42 (dk_at dksX6_load_1 12 rfl rfl)
theorem dX6_load_36 : decode cX6_load 36 = .ok (.invokevirtual 48, 3) := dk_182 0 48 (dk_at dksX6_load_1 13 rfl rfl)
theorem dX6_load_39 : decode cX6_load 39 = .ok (.aload_n 0, 1) := dk_42 (dk_at dksX6_load_1 16 rfl rfl)
theorem dX6_load_40 : decode cX6_load 40 = .ok (.iload_n 1, 1) := dk_27 (dk_at dksX6_load_1 17 rfl rfl)
theorem dX6_load_41 : decode cX6_load 41 = .ok (.iconst 4, 1) := dk_7 (dk_at dksX6_load_1 18 rfl rfl)
theorem dX6_load_42 : decode cX6_load 42 = .ok (.iconst (-1), 1) := dk_2 (dk_at dksX6_load_1 19 rfl rfl)
theorem dX6_load_43 : decode cX6_load 43 = .ok (.invokevirtual 112, 3) := dk_182 0 112 (dk_at dksX6_load_1 20 rfl rfl)
theorem dX6_load_46 : decode cX6_load 46 = .ok (.aload_n 0, 1) := dk_42 (dk_at dksX6_load_1 23 rfl rfl)
theorem dX6_load_47 : decode cX6_load 47 = .ok (.iconst 4, 1) := dk_7 (dk_at dksX6_load_2 0 rfl rfl)
theorem dX6_load_48 : decode cX6_load 48 = .ok (.invokevirtual 106, 3) := dk_182 0 106 (dk_at dksX6_load_2 1 rfl rfl)
theorem dX6_load_51 : decode cX6_load 51 = .ok (.ireturn, 1) := dk_172 (dk_at dksX6_load_2 4 rfl rfl)
abbrev cX6_noLoad : ByteArray := prog_11_method_33_code
def yX6_noLoad : MethodName := ⟨RX6, "noLoad", "(I)I"⟩
def dkwX6_noLoad_2 : List UInt8 := [42, 27, 8, 182, 0, 51, 16, 40, 162, 0, 7, 7, 167, 0, 4, 3, 172]
abbrev dktX6_noLoad_2 : List UInt8 := dkwX6_noLoad_2 ++ []
def dkwX6_noLoad_1 : List UInt8 := [167, 0, 40, 42, 7, 182, 0, 106, 42, 27, 182, 0, 55, 96, 17, 7, 208, 164, 0, 7, 6, 167, 0, 19]
abbrev dktX6_noLoad_1 : List UInt8 := dkwX6_noLoad_1 ++ dktX6_noLoad_2
def dkwX6_noLoad_0 : List UInt8 := [42, 27, 182, 0, 99, 154, 0, 7, 4, 167, 0, 54, 42, 180, 0, 7, 4, 46, 4, 160, 0, 7, 5]
abbrev dktX6_noLoad_0 : List UInt8 := dkwX6_noLoad_0 ++ dktX6_noLoad_1
theorem dksX6_noLoad_0 : cX6_noLoad.data.toList.drop 0 = dktX6_noLoad_0 := by decide +kernel
theorem dksX6_noLoad_1 : cX6_noLoad.data.toList.drop 23 = dktX6_noLoad_1 := dk_seg dksX6_noLoad_0 23 rfl rfl
theorem dksX6_noLoad_2 : cX6_noLoad.data.toList.drop 47 = dktX6_noLoad_2 := dk_seg dksX6_noLoad_1 24 rfl rfl
theorem dX6_noLoad_0 : decode cX6_noLoad 0 = .ok (.aload_n 0, 1) := dk_42 (dk_at dksX6_noLoad_0 0 rfl rfl)
theorem dX6_noLoad_1 : decode cX6_noLoad 1 = .ok (.iload_n 1, 1) := dk_27 (dk_at dksX6_noLoad_0 1 rfl rfl)
theorem dX6_noLoad_2 : decode cX6_noLoad 2 = .ok (.invokevirtual 99, 3) := dk_182 0 99 (dk_at dksX6_noLoad_0 2 rfl rfl)
theorem dX6_noLoad_5 : decode cX6_noLoad 5 = .ok (.ifCond .ne 7, 3) := dk_154 0 7 (dk_at dksX6_noLoad_0 5 rfl rfl)
theorem dX6_noLoad_8 : decode cX6_noLoad 8 = .ok (.iconst 1, 1) := dk_4 (dk_at dksX6_noLoad_0 8 rfl rfl)
theorem dX6_noLoad_9 : decode cX6_noLoad 9 = .ok (.goto 54, 3) := dk_167 0 54 (dk_at dksX6_noLoad_0 9 rfl rfl)
theorem dX6_noLoad_12 : decode cX6_noLoad 12 = .ok (.aload_n 0, 1) := dk_42 (dk_at dksX6_noLoad_0 12 rfl rfl)
theorem dX6_noLoad_13 : decode cX6_noLoad 13 = .ok (.getfield 7, 3) := dk_180 0 7 (dk_at dksX6_noLoad_0 13 rfl rfl)
theorem dX6_noLoad_16 : decode cX6_noLoad 16 = .ok (.iconst 1, 1) := dk_4 (dk_at dksX6_noLoad_0 16 rfl rfl)
theorem dX6_noLoad_17 : decode cX6_noLoad 17 = .ok (.iaload, 1) := dk_46 (dk_at dksX6_noLoad_0 17 rfl rfl)
theorem dX6_noLoad_18 : decode cX6_noLoad 18 = .ok (.iconst 1, 1) := dk_4 (dk_at dksX6_noLoad_0 18 rfl rfl)
theorem dX6_noLoad_19 : decode cX6_noLoad 19 = .ok (.if_icmp .ne 7, 3) := dk_160 0 7 (dk_at dksX6_noLoad_0 19 rfl rfl)
theorem dX6_noLoad_22 : decode cX6_noLoad 22 = .ok (.iconst 2, 1) := dk_5 (dk_at dksX6_noLoad_0 22 rfl rfl)
theorem dX6_noLoad_23 : decode cX6_noLoad 23 = .ok (.goto 40, 3) := dk_167 0 40 (dk_at dksX6_noLoad_1 0 rfl rfl)
theorem dX6_noLoad_26 : decode cX6_noLoad 26 = .ok (.aload_n 0, 1) := dk_42 (dk_at dksX6_noLoad_1 3 rfl rfl)
theorem dX6_noLoad_27 : decode cX6_noLoad 27 = .ok (.iconst 4, 1) := dk_7 (dk_at dksX6_noLoad_1 4 rfl rfl)
theorem dX6_noLoad_28 : decode cX6_noLoad 28 = .ok (.invokevirtual 106, 3) := dk_182 0 106 (dk_at dksX6_noLoad_1 5 rfl rfl)
theorem dX6_noLoad_31 : decode cX6_noLoad 31 = .ok (.aload_n 0, 1) := dk_42 (dk_at dksX6_noLoad_1 8 rfl rfl)
theorem dX6_noLoad_32 : decode cX6_noLoad 32 = .ok (.iload_n 1, 1) := dk_27 (dk_at dksX6_noLoad_1 9 rfl rfl)
theorem dX6_noLoad_33 : decode cX6_noLoad 33 = .ok (.invokevirtual 55, 3) := dk_182 0 55 (dk_at dksX6_noLoad_1 10 rfl rfl)
theorem dX6_noLoad_36 : decode cX6_noLoad 36 = .ok (.iadd, 1) := dk_96 (dk_at dksX6_noLoad_1 13 rfl rfl)
theorem dX6_noLoad_37 : decode cX6_noLoad 37 = .ok (.sipush 2000, 3) := dk_17 7 208 (dk_at dksX6_noLoad_1 14 rfl rfl)
theorem dX6_noLoad_40 : decode cX6_noLoad 40 = .ok (.if_icmp .le 7, 3) := dk_164 0 7 (dk_at dksX6_noLoad_1 17 rfl rfl)
theorem dX6_noLoad_43 : decode cX6_noLoad 43 = .ok (.iconst 3, 1) := dk_6 (dk_at dksX6_noLoad_1 20 rfl rfl)
theorem dX6_noLoad_44 : decode cX6_noLoad 44 = .ok (.goto 19, 3) := dk_167 0 19 (dk_at dksX6_noLoad_1 21 rfl rfl)
theorem dX6_noLoad_47 : decode cX6_noLoad 47 = .ok (.aload_n 0, 1) := dk_42 (dk_at dksX6_noLoad_2 0 rfl rfl)
theorem dX6_noLoad_48 : decode cX6_noLoad 48 = .ok (.iload_n 1, 1) := dk_27 (dk_at dksX6_noLoad_2 1 rfl rfl)
theorem dX6_noLoad_49 : decode cX6_noLoad 49 = .ok (.iconst 5, 1) := dk_8 (dk_at dksX6_noLoad_2 2 rfl rfl)
theorem dX6_noLoad_50 : decode cX6_noLoad 50 = .ok (.invokevirtual 51, 3) := dk_182 0 51 (dk_at dksX6_noLoad_2 3 rfl rfl)
theorem dX6_noLoad_53 : decode cX6_noLoad 53 = .ok (.bipush 40, 2) := dk_16 40 (dk_at dksX6_noLoad_2 6 rfl rfl)
theorem dX6_noLoad_55 : decode cX6_noLoad 55 = .ok (.if_icmp .ge 7, 3) := dk_162 0 7 (dk_at dksX6_noLoad_2 8 rfl rfl)
theorem dX6_noLoad_58 : decode cX6_noLoad 58 = .ok (.iconst 4, 1) := dk_7 (dk_at dksX6_noLoad_2 11 rfl rfl)
theorem dX6_noLoad_59 : decode cX6_noLoad 59 = .ok (.goto 4, 3) := dk_167 0 4 (dk_at dksX6_noLoad_2 12 rfl rfl)
theorem dX6_noLoad_62 : decode cX6_noLoad 62 = .ok (.iconst 0, 1) := dk_3 (dk_at dksX6_noLoad_2 15 rfl rfl)
theorem dX6_noLoad_63 : decode cX6_noLoad 63 = .ok (.ireturn, 1) := dk_172 (dk_at dksX6_noLoad_2 16 rfl rfl)
abbrev cX6_weightIn : ByteArray := prog_11_method_20_code
def yX6_weightIn : MethodName := ⟨RX6, "weightIn", "(I)I"⟩
def dkwX6_weightIn_1 : List UInt8 := [160, 0, 11, 42, 29, 182, 0, 55, 167, 0, 4, 3, 96, 61, 132, 3, 1, 167, 255, 220, 28, 172]
abbrev dktX6_weightIn_1 : List UInt8 := dkwX6_weightIn_1 ++ []
def dkwX6_weightIn_0 : List UInt8 := [3, 61, 3, 62, 29, 42, 180, 0, 7, 16, 7, 46, 162, 0, 31, 28, 42, 29, 3, 182, 0, 51, 27]
abbrev dktX6_weightIn_0 : List UInt8 := dkwX6_weightIn_0 ++ dktX6_weightIn_1
theorem dksX6_weightIn_0 : cX6_weightIn.data.toList.drop 0 = dktX6_weightIn_0 := by decide +kernel
theorem dksX6_weightIn_1 : cX6_weightIn.data.toList.drop 23 = dktX6_weightIn_1 := dk_seg dksX6_weightIn_0 23 rfl rfl
theorem dX6_weightIn_0 : decode cX6_weightIn 0 = .ok (.iconst 0, 1) := dk_3 (dk_at dksX6_weightIn_0 0 rfl rfl)
theorem dX6_weightIn_1 : decode cX6_weightIn 1 = .ok (.istore_n 2, 1) := dk_61 (dk_at dksX6_weightIn_0 1 rfl rfl)
theorem dX6_weightIn_2 : decode cX6_weightIn 2 = .ok (.iconst 0, 1) := dk_3 (dk_at dksX6_weightIn_0 2 rfl rfl)
theorem dX6_weightIn_3 : decode cX6_weightIn 3 = .ok (.istore_n 3, 1) := dk_62 (dk_at dksX6_weightIn_0 3 rfl rfl)
theorem dX6_weightIn_4 : decode cX6_weightIn 4 = .ok (.iload_n 3, 1) := dk_29 (dk_at dksX6_weightIn_0 4 rfl rfl)
theorem dX6_weightIn_5 : decode cX6_weightIn 5 = .ok (.aload_n 0, 1) := dk_42 (dk_at dksX6_weightIn_0 5 rfl rfl)
theorem dX6_weightIn_6 : decode cX6_weightIn 6 = .ok (.getfield 7, 3) := dk_180 0 7 (dk_at dksX6_weightIn_0 6 rfl rfl)
theorem dX6_weightIn_9 : decode cX6_weightIn 9 = .ok (.bipush 7, 2) := dk_16 7 (dk_at dksX6_weightIn_0 9 rfl rfl)
theorem dX6_weightIn_11 : decode cX6_weightIn 11 = .ok (.iaload, 1) := dk_46 (dk_at dksX6_weightIn_0 11 rfl rfl)
theorem dX6_weightIn_12 : decode cX6_weightIn 12 = .ok (.if_icmp .ge 31, 3) := dk_162 0 31 (dk_at dksX6_weightIn_0 12 rfl rfl)
theorem dX6_weightIn_15 : decode cX6_weightIn 15 = .ok (.iload_n 2, 1) := dk_28 (dk_at dksX6_weightIn_0 15 rfl rfl)
theorem dX6_weightIn_16 : decode cX6_weightIn 16 = .ok (.aload_n 0, 1) := dk_42 (dk_at dksX6_weightIn_0 16 rfl rfl)
theorem dX6_weightIn_17 : decode cX6_weightIn 17 = .ok (.iload_n 3, 1) := dk_29 (dk_at dksX6_weightIn_0 17 rfl rfl)
theorem dX6_weightIn_18 : decode cX6_weightIn 18 = .ok (.iconst 0, 1) := dk_3 (dk_at dksX6_weightIn_0 18 rfl rfl)
theorem dX6_weightIn_19 : decode cX6_weightIn 19 = .ok (.invokevirtual 51, 3) := dk_182 0 51 (dk_at dksX6_weightIn_0 19 rfl rfl)
theorem dX6_weightIn_22 : decode cX6_weightIn 22 = .ok (.iload_n 1, 1) := dk_27 (dk_at dksX6_weightIn_0 22 rfl rfl)
theorem dX6_weightIn_23 : decode cX6_weightIn 23 = .ok (.if_icmp .ne 11, 3) := dk_160 0 11 (dk_at dksX6_weightIn_1 0 rfl rfl)
theorem dX6_weightIn_26 : decode cX6_weightIn 26 = .ok (.aload_n 0, 1) := dk_42 (dk_at dksX6_weightIn_1 3 rfl rfl)
theorem dX6_weightIn_27 : decode cX6_weightIn 27 = .ok (.iload_n 3, 1) := dk_29 (dk_at dksX6_weightIn_1 4 rfl rfl)
theorem dX6_weightIn_28 : decode cX6_weightIn 28 = .ok (.invokevirtual 55, 3) := dk_182 0 55 (dk_at dksX6_weightIn_1 5 rfl rfl)
theorem dX6_weightIn_31 : decode cX6_weightIn 31 = .ok (.goto 4, 3) := dk_167 0 4 (dk_at dksX6_weightIn_1 8 rfl rfl)
theorem dX6_weightIn_34 : decode cX6_weightIn 34 = .ok (.iconst 0, 1) := dk_3 (dk_at dksX6_weightIn_1 11 rfl rfl)
theorem dX6_weightIn_35 : decode cX6_weightIn 35 = .ok (.iadd, 1) := dk_96 (dk_at dksX6_weightIn_1 12 rfl rfl)
theorem dX6_weightIn_36 : decode cX6_weightIn 36 = .ok (.istore_n 2, 1) := dk_61 (dk_at dksX6_weightIn_1 13 rfl rfl)
theorem dX6_weightIn_37 : decode cX6_weightIn 37 = .ok (.iinc 3 1, 3) := dk_132 3 1 (dk_at dksX6_weightIn_1 14 rfl rfl)
theorem dX6_weightIn_40 : decode cX6_weightIn 40 = .ok (.goto (-36), 3) := dk_167 255 220 (dk_at dksX6_weightIn_1 17 rfl rfl)
theorem dX6_weightIn_43 : decode cX6_weightIn 43 = .ok (.iload_n 2, 1) := dk_28 (dk_at dksX6_weightIn_1 20 rfl rfl)
theorem dX6_weightIn_44 : decode cX6_weightIn 44 = .ok (.ireturn, 1) := dk_172 (dk_at dksX6_weightIn_1 21 rfl rfl)
abbrev cX6_weight : ByteArray := prog_11_method_19_code
def yX6_weight : MethodName := ⟨RX6, "weight", "(I)I"⟩
def dkwX6_weight_0 : List UInt8 := [42, 27, 5, 182, 0, 51, 42, 27, 6, 182, 0, 51, 96, 172]
abbrev dktX6_weight_0 : List UInt8 := dkwX6_weight_0 ++ []
theorem dksX6_weight_0 : cX6_weight.data.toList.drop 0 = dktX6_weight_0 := by decide +kernel
theorem dX6_weight_0 : decode cX6_weight 0 = .ok (.aload_n 0, 1) := dk_42 (dk_at dksX6_weight_0 0 rfl rfl)
theorem dX6_weight_1 : decode cX6_weight 1 = .ok (.iload_n 1, 1) := dk_27 (dk_at dksX6_weight_0 1 rfl rfl)
theorem dX6_weight_2 : decode cX6_weight 2 = .ok (.iconst 2, 1) := dk_5 (dk_at dksX6_weight_0 2 rfl rfl)
theorem dX6_weight_3 : decode cX6_weight 3 = .ok (.invokevirtual 51, 3) := dk_182 0 51 (dk_at dksX6_weight_0 3 rfl rfl)
theorem dX6_weight_6 : decode cX6_weight 6 = .ok (.aload_n 0, 1) := dk_42 (dk_at dksX6_weight_0 6 rfl rfl)
theorem dX6_weight_7 : decode cX6_weight 7 = .ok (.iload_n 1, 1) := dk_27 (dk_at dksX6_weight_0 7 rfl rfl)
theorem dX6_weight_8 : decode cX6_weight 8 = .ok (.iconst 3, 1) := dk_6 (dk_at dksX6_weight_0 8 rfl rfl)
theorem dX6_weight_9 : decode cX6_weight 9 = .ok (.invokevirtual 51, 3) := dk_182 0 51 (dk_at dksX6_weight_0 9 rfl rfl)
theorem dX6_weight_12 : decode cX6_weight 12 = .ok (.iadd, 1) := dk_96 (dk_at dksX6_weight_0 12 rfl rfl)
theorem dX6_weight_13 : decode cX6_weight 13 = .ok (.ireturn, 1) := dk_172 (dk_at dksX6_weight_0 13 rfl rfl)
abbrev cX6_light : ByteArray := prog_11_method_45_code
def yX6_light : MethodName := ⟨RX6, "light", "()I"⟩
def dkwX6_light_1 : List UInt8 := [79, 42, 7, 182, 0, 82, 172]
abbrev dktX6_light_1 : List UInt8 := dkwX6_light_1 ++ []
def dkwX6_light_0 : List UInt8 := [42, 42, 182, 0, 136, 4, 182, 0, 40, 154, 0, 5, 3, 172, 42, 182, 0, 48, 42, 180, 0, 7, 4, 4]
abbrev dktX6_light_0 : List UInt8 := dkwX6_light_0 ++ dktX6_light_1
theorem dksX6_light_0 : cX6_light.data.toList.drop 0 = dktX6_light_0 := by decide +kernel
theorem dksX6_light_1 : cX6_light.data.toList.drop 24 = dktX6_light_1 := dk_seg dksX6_light_0 24 rfl rfl
theorem dX6_light_0 : decode cX6_light 0 = .ok (.aload_n 0, 1) := dk_42 (dk_at dksX6_light_0 0 rfl rfl)
theorem dX6_light_1 : decode cX6_light 1 = .ok (.aload_n 0, 1) := dk_42 (dk_at dksX6_light_0 1 rfl rfl)
theorem dX6_light_2 : decode cX6_light 2 = .ok (.invokevirtual 136, 3) := dk_182 0 136 (dk_at dksX6_light_0 2 rfl rfl)
theorem dX6_light_5 : decode cX6_light 5 = .ok (.iconst 1, 1) := dk_4 (dk_at dksX6_light_0 5 rfl rfl)
theorem dX6_light_6 : decode cX6_light 6 = .ok (.invokevirtual 40, 3) := dk_182 0 40 (dk_at dksX6_light_0 6 rfl rfl)
theorem dX6_light_9 : decode cX6_light 9 = .ok (.ifCond .ne 5, 3) := dk_154 0 5 (dk_at dksX6_light_0 9 rfl rfl)
theorem dX6_light_12 : decode cX6_light 12 = .ok (.iconst 0, 1) := dk_3 (dk_at dksX6_light_0 12 rfl rfl)
theorem dX6_light_13 : decode cX6_light 13 = .ok (.ireturn, 1) := dk_172 (dk_at dksX6_light_0 13 rfl rfl)
theorem dX6_light_14 : decode cX6_light 14 = .ok (.aload_n 0, 1) := dk_42 (dk_at dksX6_light_0 14 rfl rfl)
theorem dX6_light_15 : decode cX6_light 15 = .ok (.invokevirtual 48, 3) := dk_182 0 48 (dk_at dksX6_light_0 15 rfl rfl)
theorem dX6_light_18 : decode cX6_light 18 = .ok (.aload_n 0, 1) := dk_42 (dk_at dksX6_light_0 18 rfl rfl)
theorem dX6_light_19 : decode cX6_light 19 = .ok (.getfield 7, 3) := dk_180 0 7 (dk_at dksX6_light_0 19 rfl rfl)
theorem dX6_light_22 : decode cX6_light 22 = .ok (.iconst 1, 1) := dk_4 (dk_at dksX6_light_0 22 rfl rfl)
theorem dX6_light_23 : decode cX6_light 23 = .ok (.iconst 1, 1) := dk_4 (dk_at dksX6_light_0 23 rfl rfl)
theorem dX6_light_24 : decode cX6_light 24 = .ok (.iastore, 1) := dk_79 (dk_at dksX6_light_1 0 rfl rfl)
theorem dX6_light_25 : decode cX6_light 25 = .ok (.aload_n 0, 1) := dk_42 (dk_at dksX6_light_1 1 rfl rfl)
theorem dX6_light_26 : decode cX6_light 26 = .ok (.iconst 4, 1) := dk_7 (dk_at dksX6_light_1 2 rfl rfl)
theorem dX6_light_27 : decode cX6_light 27 = .ok (.invokevirtual 82, 3) := dk_182 0 82 (dk_at dksX6_light_1 3 rfl rfl)
theorem dX6_light_30 : decode cX6_light 30 = .ok (.ireturn, 1) := dk_172 (dk_at dksX6_light_1 6 rfl rfl)
abbrev cX6_canLight : ByteArray := prog_11_method_36_code
def yX6_canLight : MethodName := ⟨RX6, "canLight", "()Z"⟩
def dkwX6_canLight_0 : List UInt8 := [42, 180, 0, 7, 4, 46, 154, 0, 15, 42, 7, 182, 0, 82, 158, 0, 7, 4, 167, 0, 4, 3, 172]
abbrev dktX6_canLight_0 : List UInt8 := dkwX6_canLight_0 ++ []
theorem dksX6_canLight_0 : cX6_canLight.data.toList.drop 0 = dktX6_canLight_0 := by decide +kernel
theorem dX6_canLight_0 : decode cX6_canLight 0 = .ok (.aload_n 0, 1) := dk_42 (dk_at dksX6_canLight_0 0 rfl rfl)
theorem dX6_canLight_1 : decode cX6_canLight 1 = .ok (.getfield 7, 3) := dk_180 0 7 (dk_at dksX6_canLight_0 1 rfl rfl)
theorem dX6_canLight_4 : decode cX6_canLight 4 = .ok (.iconst 1, 1) := dk_4 (dk_at dksX6_canLight_0 4 rfl rfl)
theorem dX6_canLight_5 : decode cX6_canLight 5 = .ok (.iaload, 1) := dk_46 (dk_at dksX6_canLight_0 5 rfl rfl)
theorem dX6_canLight_6 : decode cX6_canLight 6 = .ok (.ifCond .ne 15, 3) := dk_154 0 15 (dk_at dksX6_canLight_0 6 rfl rfl)
theorem dX6_canLight_9 : decode cX6_canLight 9 = .ok (.aload_n 0, 1) := dk_42 (dk_at dksX6_canLight_0 9 rfl rfl)
theorem dX6_canLight_10 : decode cX6_canLight 10 = .ok (.iconst 4, 1) := dk_7 (dk_at dksX6_canLight_0 10 rfl rfl)
theorem dX6_canLight_11 : decode cX6_canLight 11 = .ok (.invokevirtual 82, 3) := dk_182 0 82 (dk_at dksX6_canLight_0 11 rfl rfl)
theorem dX6_canLight_14 : decode cX6_canLight 14 = .ok (.ifCond .le 7, 3) := dk_158 0 7 (dk_at dksX6_canLight_0 14 rfl rfl)
theorem dX6_canLight_17 : decode cX6_canLight 17 = .ok (.iconst 1, 1) := dk_4 (dk_at dksX6_canLight_0 17 rfl rfl)
theorem dX6_canLight_18 : decode cX6_canLight 18 = .ok (.goto 4, 3) := dk_167 0 4 (dk_at dksX6_canLight_0 18 rfl rfl)
theorem dX6_canLight_21 : decode cX6_canLight 21 = .ok (.iconst 0, 1) := dk_3 (dk_at dksX6_canLight_0 21 rfl rfl)
theorem dX6_canLight_22 : decode cX6_canLight 22 = .ok (.ireturn, 1) := dk_172 (dk_at dksX6_canLight_0 22 rfl rfl)
abbrev cX6_spray : ByteArray := prog_11_method_47_code
def yX6_spray : MethodName := ⟨RX6, "spray", "(I)I"⟩
def dkwX6_spray_2 : List UInt8 := [180, 0, 7, 16, 6, 46, 172]
abbrev dktX6_spray_2 : List UInt8 := dkwX6_spray_2 ++ []
def dkwX6_spray_1 : List UInt8 := [167, 0, 4, 3, 182, 0, 40, 154, 0, 5, 3, 172, 42, 182, 0, 48, 42, 27, 182, 0, 143, 42]
abbrev dktX6_spray_1 : List UInt8 := dkwX6_spray_1 ++ dktX6_spray_2
def dkwX6_spray_0 : List UInt8 := [42, 42, 27, 182, 0, 115, 42, 27, 182, 0, 115, 153, 0, 11, 42, 27, 182, 0, 140, 154, 0, 7, 4]
abbrev dktX6_spray_0 : List UInt8 := dkwX6_spray_0 ++ dktX6_spray_1
theorem dksX6_spray_0 : cX6_spray.data.toList.drop 0 = dktX6_spray_0 := by decide +kernel
theorem dksX6_spray_1 : cX6_spray.data.toList.drop 23 = dktX6_spray_1 := dk_seg dksX6_spray_0 23 rfl rfl
theorem dksX6_spray_2 : cX6_spray.data.toList.drop 45 = dktX6_spray_2 := dk_seg dksX6_spray_1 22 rfl rfl
theorem dX6_spray_0 : decode cX6_spray 0 = .ok (.aload_n 0, 1) := dk_42 (dk_at dksX6_spray_0 0 rfl rfl)
theorem dX6_spray_1 : decode cX6_spray 1 = .ok (.aload_n 0, 1) := dk_42 (dk_at dksX6_spray_0 1 rfl rfl)
theorem dX6_spray_2 : decode cX6_spray 2 = .ok (.iload_n 1, 1) := dk_27 (dk_at dksX6_spray_0 2 rfl rfl)
theorem dX6_spray_3 : decode cX6_spray 3 = .ok (.invokevirtual 115, 3) := dk_182 0 115 (dk_at dksX6_spray_0 3 rfl rfl)
theorem dX6_spray_6 : decode cX6_spray 6 = .ok (.aload_n 0, 1) := dk_42 (dk_at dksX6_spray_0 6 rfl rfl)
theorem dX6_spray_7 : decode cX6_spray 7 = .ok (.iload_n 1, 1) := dk_27 (dk_at dksX6_spray_0 7 rfl rfl)
theorem dX6_spray_8 : decode cX6_spray 8 = .ok (.invokevirtual 115, 3) := dk_182 0 115 (dk_at dksX6_spray_0 8 rfl rfl)
theorem dX6_spray_11 : decode cX6_spray 11 = .ok (.ifCond .eq 11, 3) := dk_153 0 11 (dk_at dksX6_spray_0 11 rfl rfl)
theorem dX6_spray_14 : decode cX6_spray 14 = .ok (.aload_n 0, 1) := dk_42 (dk_at dksX6_spray_0 14 rfl rfl)
theorem dX6_spray_15 : decode cX6_spray 15 = .ok (.iload_n 1, 1) := dk_27 (dk_at dksX6_spray_0 15 rfl rfl)
theorem dX6_spray_16 : decode cX6_spray 16 = .ok (.invokevirtual 140, 3) := dk_182 0 140 (dk_at dksX6_spray_0 16 rfl rfl)
theorem dX6_spray_19 : decode cX6_spray 19 = .ok (.ifCond .ne 7, 3) := dk_154 0 7 (dk_at dksX6_spray_0 19 rfl rfl)
theorem dX6_spray_22 : decode cX6_spray 22 = .ok (.iconst 1, 1) := dk_4 (dk_at dksX6_spray_0 22 rfl rfl)
theorem dX6_spray_23 : decode cX6_spray 23 = .ok (.goto 4, 3) := dk_167 0 4 (dk_at dksX6_spray_1 0 rfl rfl)
theorem dX6_spray_26 : decode cX6_spray 26 = .ok (.iconst 0, 1) := dk_3 (dk_at dksX6_spray_1 3 rfl rfl)
theorem dX6_spray_27 : decode cX6_spray 27 = .ok (.invokevirtual 40, 3) := dk_182 0 40 (dk_at dksX6_spray_1 4 rfl rfl)
theorem dX6_spray_30 : decode cX6_spray 30 = .ok (.ifCond .ne 5, 3) := dk_154 0 5 (dk_at dksX6_spray_1 7 rfl rfl)
theorem dX6_spray_33 : decode cX6_spray 33 = .ok (.iconst 0, 1) := dk_3 (dk_at dksX6_spray_1 10 rfl rfl)
theorem dX6_spray_34 : decode cX6_spray 34 = .ok (.ireturn, 1) := dk_172 (dk_at dksX6_spray_1 11 rfl rfl)
theorem dX6_spray_35 : decode cX6_spray 35 = .ok (.aload_n 0, 1) := dk_42 (dk_at dksX6_spray_1 12 rfl rfl)
theorem dX6_spray_36 : decode cX6_spray 36 = .ok (.invokevirtual 48, 3) := dk_182 0 48 (dk_at dksX6_spray_1 13 rfl rfl)
theorem dX6_spray_39 : decode cX6_spray 39 = .ok (.aload_n 0, 1) := dk_42 (dk_at dksX6_spray_1 16 rfl rfl)
theorem dX6_spray_40 : decode cX6_spray 40 = .ok (.iload_n 1, 1) := dk_27 (dk_at dksX6_spray_1 17 rfl rfl)
theorem dX6_spray_41 : decode cX6_spray 41 = .ok (.invokevirtual 143, 3) := dk_182 0 143 (dk_at dksX6_spray_1 18 rfl rfl)
theorem dX6_spray_44 : decode cX6_spray 44 = .ok (.aload_n 0, 1) := dk_42 (dk_at dksX6_spray_1 21 rfl rfl)
theorem dX6_spray_45 : decode cX6_spray 45 = .ok (.getfield 7, 3) := dk_180 0 7 (dk_at dksX6_spray_2 0 rfl rfl)
theorem dX6_spray_48 : decode cX6_spray 48 = .ok (.bipush 6, 2) := dk_16 6 (dk_at dksX6_spray_2 3 rfl rfl)
theorem dX6_spray_50 : decode cX6_spray 50 = .ok (.iaload, 1) := dk_46 (dk_at dksX6_spray_2 5 rfl rfl)
theorem dX6_spray_51 : decode cX6_spray 51 = .ok (.ireturn, 1) := dk_172 (dk_at dksX6_spray_2 6 rfl rfl)
abbrev cX6_noSpray : ByteArray := prog_11_method_34_code
def yX6_noSpray : MethodName := ⟨RX6, "noSpray", "(I)I"⟩
def dkwX6_noSpray_2 : List UInt8 := [167, 0, 4, 3, 172]
abbrev dktX6_noSpray_2 : List UInt8 := dkwX6_noSpray_2 ++ []
def dkwX6_noSpray_1 : List UInt8 := [167, 0, 27, 42, 27, 3, 182, 0, 51, 5, 160, 0, 16, 42, 27, 5, 182, 0, 65, 154, 0, 7, 6]
abbrev dktX6_noSpray_1 : List UInt8 := dkwX6_noSpray_1 ++ dktX6_noSpray_2
def dkwX6_noSpray_0 : List UInt8 := [42, 27, 182, 0, 99, 154, 0, 7, 4, 167, 0, 41, 42, 180, 0, 7, 16, 6, 46, 154, 0, 7, 5]
abbrev dktX6_noSpray_0 : List UInt8 := dkwX6_noSpray_0 ++ dktX6_noSpray_1
theorem dksX6_noSpray_0 : cX6_noSpray.data.toList.drop 0 = dktX6_noSpray_0 := by decide +kernel
theorem dksX6_noSpray_1 : cX6_noSpray.data.toList.drop 23 = dktX6_noSpray_1 := dk_seg dksX6_noSpray_0 23 rfl rfl
theorem dksX6_noSpray_2 : cX6_noSpray.data.toList.drop 46 = dktX6_noSpray_2 := dk_seg dksX6_noSpray_1 23 rfl rfl
theorem dX6_noSpray_0 : decode cX6_noSpray 0 = .ok (.aload_n 0, 1) := dk_42 (dk_at dksX6_noSpray_0 0 rfl rfl)
theorem dX6_noSpray_1 : decode cX6_noSpray 1 = .ok (.iload_n 1, 1) := dk_27 (dk_at dksX6_noSpray_0 1 rfl rfl)
theorem dX6_noSpray_2 : decode cX6_noSpray 2 = .ok (.invokevirtual 99, 3) := dk_182 0 99 (dk_at dksX6_noSpray_0 2 rfl rfl)
theorem dX6_noSpray_5 : decode cX6_noSpray 5 = .ok (.ifCond .ne 7, 3) := dk_154 0 7 (dk_at dksX6_noSpray_0 5 rfl rfl)
theorem dX6_noSpray_8 : decode cX6_noSpray 8 = .ok (.iconst 1, 1) := dk_4 (dk_at dksX6_noSpray_0 8 rfl rfl)
theorem dX6_noSpray_9 : decode cX6_noSpray 9 = .ok (.goto 41, 3) := dk_167 0 41 (dk_at dksX6_noSpray_0 9 rfl rfl)
theorem dX6_noSpray_12 : decode cX6_noSpray 12 = .ok (.aload_n 0, 1) := dk_42 (dk_at dksX6_noSpray_0 12 rfl rfl)
theorem dX6_noSpray_13 : decode cX6_noSpray 13 = .ok (.getfield 7, 3) := dk_180 0 7 (dk_at dksX6_noSpray_0 13 rfl rfl)
theorem dX6_noSpray_16 : decode cX6_noSpray 16 = .ok (.bipush 6, 2) := dk_16 6 (dk_at dksX6_noSpray_0 16 rfl rfl)
theorem dX6_noSpray_18 : decode cX6_noSpray 18 = .ok (.iaload, 1) := dk_46 (dk_at dksX6_noSpray_0 18 rfl rfl)
theorem dX6_noSpray_19 : decode cX6_noSpray 19 = .ok (.ifCond .ne 7, 3) := dk_154 0 7 (dk_at dksX6_noSpray_0 19 rfl rfl)
theorem dX6_noSpray_22 : decode cX6_noSpray 22 = .ok (.iconst 2, 1) := dk_5 (dk_at dksX6_noSpray_0 22 rfl rfl)
theorem dX6_noSpray_23 : decode cX6_noSpray 23 = .ok (.goto 27, 3) := dk_167 0 27 (dk_at dksX6_noSpray_1 0 rfl rfl)
theorem dX6_noSpray_26 : decode cX6_noSpray 26 = .ok (.aload_n 0, 1) := dk_42 (dk_at dksX6_noSpray_1 3 rfl rfl)
theorem dX6_noSpray_27 : decode cX6_noSpray 27 = .ok (.iload_n 1, 1) := dk_27 (dk_at dksX6_noSpray_1 4 rfl rfl)
theorem dX6_noSpray_28 : decode cX6_noSpray 28 = .ok (.iconst 0, 1) := dk_3 (dk_at dksX6_noSpray_1 5 rfl rfl)
theorem dX6_noSpray_29 : decode cX6_noSpray 29 = .ok (.invokevirtual 51, 3) := dk_182 0 51 (dk_at dksX6_noSpray_1 6 rfl rfl)
theorem dX6_noSpray_32 : decode cX6_noSpray 32 = .ok (.iconst 2, 1) := dk_5 (dk_at dksX6_noSpray_1 9 rfl rfl)
theorem dX6_noSpray_33 : decode cX6_noSpray 33 = .ok (.if_icmp .ne 16, 3) := dk_160 0 16 (dk_at dksX6_noSpray_1 10 rfl rfl)
theorem dX6_noSpray_36 : decode cX6_noSpray 36 = .ok (.aload_n 0, 1) := dk_42 (dk_at dksX6_noSpray_1 13 rfl rfl)
theorem dX6_noSpray_37 : decode cX6_noSpray 37 = .ok (.iload_n 1, 1) := dk_27 (dk_at dksX6_noSpray_1 14 rfl rfl)
theorem dX6_noSpray_38 : decode cX6_noSpray 38 = .ok (.iconst 2, 1) := dk_5 (dk_at dksX6_noSpray_1 15 rfl rfl)
theorem dX6_noSpray_39 : decode cX6_noSpray 39 = .ok (.invokevirtual 65, 3) := dk_182 0 65 (dk_at dksX6_noSpray_1 16 rfl rfl)
theorem dX6_noSpray_42 : decode cX6_noSpray 42 = .ok (.ifCond .ne 7, 3) := dk_154 0 7 (dk_at dksX6_noSpray_1 19 rfl rfl)
theorem dX6_noSpray_45 : decode cX6_noSpray 45 = .ok (.iconst 3, 1) := dk_6 (dk_at dksX6_noSpray_1 22 rfl rfl)
theorem dX6_noSpray_46 : decode cX6_noSpray 46 = .ok (.goto 4, 3) := dk_167 0 4 (dk_at dksX6_noSpray_2 0 rfl rfl)
theorem dX6_noSpray_49 : decode cX6_noSpray 49 = .ok (.iconst 0, 1) := dk_3 (dk_at dksX6_noSpray_2 3 rfl rfl)
theorem dX6_noSpray_50 : decode cX6_noSpray 50 = .ok (.ireturn, 1) := dk_172 (dk_at dksX6_noSpray_2 4 rfl rfl)
abbrev cX6_setting : ByteArray := prog_11_method_23_code
def yX6_setting : MethodName := ⟨RX6, "setting", "(II)I"⟩
def dkwX6_setting_1 : List UInt8 := [96, 28, 96, 46, 167, 0, 13, 28, 4, 160, 0, 7, 6, 167, 0, 4, 3, 172]
abbrev dktX6_setting_1 : List UInt8 := dkwX6_setting_1 ++ []
def dkwX6_setting_0 : List UInt8 := [42, 27, 3, 182, 0, 51, 5, 160, 0, 24, 42, 180, 0, 7, 16, 32, 6, 42, 27, 4, 182, 0, 51, 104]
abbrev dktX6_setting_0 : List UInt8 := dkwX6_setting_0 ++ dktX6_setting_1
theorem dksX6_setting_0 : cX6_setting.data.toList.drop 0 = dktX6_setting_0 := by decide +kernel
theorem dksX6_setting_1 : cX6_setting.data.toList.drop 24 = dktX6_setting_1 := dk_seg dksX6_setting_0 24 rfl rfl
theorem dX6_setting_0 : decode cX6_setting 0 = .ok (.aload_n 0, 1) := dk_42 (dk_at dksX6_setting_0 0 rfl rfl)
theorem dX6_setting_1 : decode cX6_setting 1 = .ok (.iload_n 1, 1) := dk_27 (dk_at dksX6_setting_0 1 rfl rfl)
theorem dX6_setting_2 : decode cX6_setting 2 = .ok (.iconst 0, 1) := dk_3 (dk_at dksX6_setting_0 2 rfl rfl)
theorem dX6_setting_3 : decode cX6_setting 3 = .ok (.invokevirtual 51, 3) := dk_182 0 51 (dk_at dksX6_setting_0 3 rfl rfl)
theorem dX6_setting_6 : decode cX6_setting 6 = .ok (.iconst 2, 1) := dk_5 (dk_at dksX6_setting_0 6 rfl rfl)
theorem dX6_setting_7 : decode cX6_setting 7 = .ok (.if_icmp .ne 24, 3) := dk_160 0 24 (dk_at dksX6_setting_0 7 rfl rfl)
theorem dX6_setting_10 : decode cX6_setting 10 = .ok (.aload_n 0, 1) := dk_42 (dk_at dksX6_setting_0 10 rfl rfl)
theorem dX6_setting_11 : decode cX6_setting 11 = .ok (.getfield 7, 3) := dk_180 0 7 (dk_at dksX6_setting_0 11 rfl rfl)
theorem dX6_setting_14 : decode cX6_setting 14 = .ok (.bipush 32, 2) := dk_16 32 (dk_at dksX6_setting_0 14 rfl rfl)
theorem dX6_setting_16 : decode cX6_setting 16 = .ok (.iconst 3, 1) := dk_6 (dk_at dksX6_setting_0 16 rfl rfl)
theorem dX6_setting_17 : decode cX6_setting 17 = .ok (.aload_n 0, 1) := dk_42 (dk_at dksX6_setting_0 17 rfl rfl)
theorem dX6_setting_18 : decode cX6_setting 18 = .ok (.iload_n 1, 1) := dk_27 (dk_at dksX6_setting_0 18 rfl rfl)
theorem dX6_setting_19 : decode cX6_setting 19 = .ok (.iconst 1, 1) := dk_4 (dk_at dksX6_setting_0 19 rfl rfl)
theorem dX6_setting_20 : decode cX6_setting 20 = .ok (.invokevirtual 51, 3) := dk_182 0 51 (dk_at dksX6_setting_0 20 rfl rfl)
theorem dX6_setting_23 : decode cX6_setting 23 = .ok (.imul, 1) := dk_104 (dk_at dksX6_setting_0 23 rfl rfl)
theorem dX6_setting_24 : decode cX6_setting 24 = .ok (.iadd, 1) := dk_96 (dk_at dksX6_setting_1 0 rfl rfl)
theorem dX6_setting_25 : decode cX6_setting 25 = .ok (.iload_n 2, 1) := dk_28 (dk_at dksX6_setting_1 1 rfl rfl)
theorem dX6_setting_26 : decode cX6_setting 26 = .ok (.iadd, 1) := dk_96 (dk_at dksX6_setting_1 2 rfl rfl)
theorem dX6_setting_27 : decode cX6_setting 27 = .ok (.iaload, 1) := dk_46 (dk_at dksX6_setting_1 3 rfl rfl)
theorem dX6_setting_28 : decode cX6_setting 28 = .ok (.goto 13, 3) := dk_167 0 13 (dk_at dksX6_setting_1 4 rfl rfl)
theorem dX6_setting_31 : decode cX6_setting 31 = .ok (.iload_n 2, 1) := dk_28 (dk_at dksX6_setting_1 7 rfl rfl)
theorem dX6_setting_32 : decode cX6_setting 32 = .ok (.iconst 1, 1) := dk_4 (dk_at dksX6_setting_1 8 rfl rfl)
theorem dX6_setting_33 : decode cX6_setting 33 = .ok (.if_icmp .ne 7, 3) := dk_160 0 7 (dk_at dksX6_setting_1 9 rfl rfl)
theorem dX6_setting_36 : decode cX6_setting 36 = .ok (.iconst 3, 1) := dk_6 (dk_at dksX6_setting_1 12 rfl rfl)
theorem dX6_setting_37 : decode cX6_setting 37 = .ok (.goto 4, 3) := dk_167 0 4 (dk_at dksX6_setting_1 13 rfl rfl)
theorem dX6_setting_40 : decode cX6_setting 40 = .ok (.iconst 0, 1) := dk_3 (dk_at dksX6_setting_1 16 rfl rfl)
theorem dX6_setting_41 : decode cX6_setting 41 = .ok (.ireturn, 1) := dk_172 (dk_at dksX6_setting_1 17 rfl rfl)
abbrev cX6_wets : ByteArray := prog_11_method_46_code
def yX6_wets : MethodName := ⟨RX6, "wets", "(I)V"⟩
def dkwX6_wets_3 : List UInt8 := [92, 46, 4, 100, 79, 42, 180, 0, 7, 16, 13, 92, 46, 4, 96, 79, 42, 8, 27, 182, 0, 75, 177]
abbrev dktX6_wets_3 : List UInt8 := dkwX6_wets_3 ++ []
def dkwX6_wets_2 : List UInt8 := [162, 0, 7, 29, 167, 0, 11, 16, 10, 29, 5, 100, 184, 0, 68, 182, 0, 71, 42, 180, 0, 7, 16, 6]
abbrev dktX6_wets_2 : List UInt8 := dkwX6_wets_2 ++ dktX6_wets_3
def dkwX6_wets_1 : List UInt8 := [28, 167, 0, 11, 16, 48, 28, 6, 96, 184, 0, 59, 182, 0, 71, 42, 27, 16, 6, 29, 16, 10]
abbrev dktX6_wets_1 : List UInt8 := dkwX6_wets_1 ++ dktX6_wets_2
def dkwX6_wets_0 : List UInt8 := [42, 27, 7, 182, 0, 51, 61, 42, 27, 16, 6, 182, 0, 51, 62, 42, 27, 7, 28, 16, 48, 164, 0, 7]
abbrev dktX6_wets_0 : List UInt8 := dkwX6_wets_0 ++ dktX6_wets_1
theorem dksX6_wets_0 : cX6_wets.data.toList.drop 0 = dktX6_wets_0 := by decide +kernel
theorem dksX6_wets_1 : cX6_wets.data.toList.drop 24 = dktX6_wets_1 := dk_seg dksX6_wets_0 24 rfl rfl
theorem dksX6_wets_2 : cX6_wets.data.toList.drop 46 = dktX6_wets_2 := dk_seg dksX6_wets_1 22 rfl rfl
theorem dksX6_wets_3 : cX6_wets.data.toList.drop 70 = dktX6_wets_3 := dk_seg dksX6_wets_2 24 rfl rfl
theorem dX6_wets_0 : decode cX6_wets 0 = .ok (.aload_n 0, 1) := dk_42 (dk_at dksX6_wets_0 0 rfl rfl)
theorem dX6_wets_1 : decode cX6_wets 1 = .ok (.iload_n 1, 1) := dk_27 (dk_at dksX6_wets_0 1 rfl rfl)
theorem dX6_wets_2 : decode cX6_wets 2 = .ok (.iconst 4, 1) := dk_7 (dk_at dksX6_wets_0 2 rfl rfl)
theorem dX6_wets_3 : decode cX6_wets 3 = .ok (.invokevirtual 51, 3) := dk_182 0 51 (dk_at dksX6_wets_0 3 rfl rfl)
theorem dX6_wets_6 : decode cX6_wets 6 = .ok (.istore_n 2, 1) := dk_61 (dk_at dksX6_wets_0 6 rfl rfl)
theorem dX6_wets_7 : decode cX6_wets 7 = .ok (.aload_n 0, 1) := dk_42 (dk_at dksX6_wets_0 7 rfl rfl)
theorem dX6_wets_8 : decode cX6_wets 8 = .ok (.iload_n 1, 1) := dk_27 (dk_at dksX6_wets_0 8 rfl rfl)
theorem dX6_wets_9 : decode cX6_wets 9 = .ok (.bipush 6, 2) := dk_16 6 (dk_at dksX6_wets_0 9 rfl rfl)
theorem dX6_wets_11 : decode cX6_wets 11 = .ok (.invokevirtual 51, 3) := dk_182 0 51 (dk_at dksX6_wets_0 11 rfl rfl)
theorem dX6_wets_14 : decode cX6_wets 14 = .ok (.istore_n 3, 1) := dk_62 (dk_at dksX6_wets_0 14 rfl rfl)
theorem dX6_wets_15 : decode cX6_wets 15 = .ok (.aload_n 0, 1) := dk_42 (dk_at dksX6_wets_0 15 rfl rfl)
theorem dX6_wets_16 : decode cX6_wets 16 = .ok (.iload_n 1, 1) := dk_27 (dk_at dksX6_wets_0 16 rfl rfl)
theorem dX6_wets_17 : decode cX6_wets 17 = .ok (.iconst 4, 1) := dk_7 (dk_at dksX6_wets_0 17 rfl rfl)
theorem dX6_wets_18 : decode cX6_wets 18 = .ok (.iload_n 2, 1) := dk_28 (dk_at dksX6_wets_0 18 rfl rfl)
theorem dX6_wets_19 : decode cX6_wets 19 = .ok (.bipush 48, 2) := dk_16 48 (dk_at dksX6_wets_0 19 rfl rfl)
theorem dX6_wets_21 : decode cX6_wets 21 = .ok (.if_icmp .le 7, 3) := dk_164 0 7 (dk_at dksX6_wets_0 21 rfl rfl)
theorem dX6_wets_24 : decode cX6_wets 24 = .ok (.iload_n 2, 1) := dk_28 (dk_at dksX6_wets_1 0 rfl rfl)
theorem dX6_wets_25 : decode cX6_wets 25 = .ok (.goto 11, 3) := dk_167 0 11 (dk_at dksX6_wets_1 1 rfl rfl)
theorem dX6_wets_28 : decode cX6_wets 28 = .ok (.bipush 48, 2) := dk_16 48 (dk_at dksX6_wets_1 4 rfl rfl)
theorem dX6_wets_30 : decode cX6_wets 30 = .ok (.iload_n 2, 1) := dk_28 (dk_at dksX6_wets_1 6 rfl rfl)
theorem dX6_wets_31 : decode cX6_wets 31 = .ok (.iconst 3, 1) := dk_6 (dk_at dksX6_wets_1 7 rfl rfl)
theorem dX6_wets_32 : decode cX6_wets 32 = .ok (.iadd, 1) := dk_96 (dk_at dksX6_wets_1 8 rfl rfl)
theorem dX6_wets_33 : decode cX6_wets 33 = .ok (.invokestatic 59, 3) := dk_184 0 59 (dk_at dksX6_wets_1 9 rfl rfl)
theorem dX6_wets_36 : decode cX6_wets 36 = .ok (.invokevirtual 71, 3) := dk_182 0 71 (dk_at dksX6_wets_1 12 rfl rfl)
theorem dX6_wets_39 : decode cX6_wets 39 = .ok (.aload_n 0, 1) := dk_42 (dk_at dksX6_wets_1 15 rfl rfl)
theorem dX6_wets_40 : decode cX6_wets 40 = .ok (.iload_n 1, 1) := dk_27 (dk_at dksX6_wets_1 16 rfl rfl)
theorem dX6_wets_41 : decode cX6_wets 41 = .ok (.bipush 6, 2) := dk_16 6 (dk_at dksX6_wets_1 17 rfl rfl)
theorem dX6_wets_43 : decode cX6_wets 43 = .ok (.iload_n 3, 1) := dk_29 (dk_at dksX6_wets_1 19 rfl rfl)
theorem dX6_wets_44 : decode cX6_wets 44 = .ok (.bipush 10, 2) := dk_16 10 (dk_at dksX6_wets_1 20 rfl rfl)
theorem dX6_wets_46 : decode cX6_wets 46 = .ok (.if_icmp .ge 7, 3) := dk_162 0 7 (dk_at dksX6_wets_2 0 rfl rfl)
theorem dX6_wets_49 : decode cX6_wets 49 = .ok (.iload_n 3, 1) := dk_29 (dk_at dksX6_wets_2 3 rfl rfl)
theorem dX6_wets_50 : decode cX6_wets 50 = .ok (.goto 11, 3) := dk_167 0 11 (dk_at dksX6_wets_2 4 rfl rfl)
theorem dX6_wets_53 : decode cX6_wets 53 = .ok (.bipush 10, 2) := dk_16 10 (dk_at dksX6_wets_2 7 rfl rfl)
theorem dX6_wets_55 : decode cX6_wets 55 = .ok (.iload_n 3, 1) := dk_29 (dk_at dksX6_wets_2 9 rfl rfl)
theorem dX6_wets_56 : decode cX6_wets 56 = .ok (.iconst 2, 1) := dk_5 (dk_at dksX6_wets_2 10 rfl rfl)
theorem dX6_wets_57 : decode cX6_wets 57 = .ok (.isub, 1) := dk_100 (dk_at dksX6_wets_2 11 rfl rfl)
theorem dX6_wets_58 : decode cX6_wets 58 = .ok (.invokestatic 68, 3) := dk_184 0 68 (dk_at dksX6_wets_2 12 rfl rfl)
theorem dX6_wets_61 : decode cX6_wets 61 = .ok (.invokevirtual 71, 3) := dk_182 0 71 (dk_at dksX6_wets_2 15 rfl rfl)
theorem dX6_wets_64 : decode cX6_wets 64 = .ok (.aload_n 0, 1) := dk_42 (dk_at dksX6_wets_2 18 rfl rfl)
theorem dX6_wets_65 : decode cX6_wets 65 = .ok (.getfield 7, 3) := dk_180 0 7 (dk_at dksX6_wets_2 19 rfl rfl)
theorem dX6_wets_68 : decode cX6_wets 68 = .ok (.bipush 6, 2) := dk_16 6 (dk_at dksX6_wets_2 22 rfl rfl)
theorem dX6_wets_70 : decode cX6_wets 70 = .ok (.dup2, 1) := dk_92 (dk_at dksX6_wets_3 0 rfl rfl)
theorem dX6_wets_71 : decode cX6_wets 71 = .ok (.iaload, 1) := dk_46 (dk_at dksX6_wets_3 1 rfl rfl)
theorem dX6_wets_72 : decode cX6_wets 72 = .ok (.iconst 1, 1) := dk_4 (dk_at dksX6_wets_3 2 rfl rfl)
theorem dX6_wets_73 : decode cX6_wets 73 = .ok (.isub, 1) := dk_100 (dk_at dksX6_wets_3 3 rfl rfl)
theorem dX6_wets_74 : decode cX6_wets 74 = .ok (.iastore, 1) := dk_79 (dk_at dksX6_wets_3 4 rfl rfl)
theorem dX6_wets_75 : decode cX6_wets 75 = .ok (.aload_n 0, 1) := dk_42 (dk_at dksX6_wets_3 5 rfl rfl)
theorem dX6_wets_76 : decode cX6_wets 76 = .ok (.getfield 7, 3) := dk_180 0 7 (dk_at dksX6_wets_3 6 rfl rfl)
theorem dX6_wets_79 : decode cX6_wets 79 = .ok (.bipush 13, 2) := dk_16 13 (dk_at dksX6_wets_3 9 rfl rfl)
theorem dX6_wets_81 : decode cX6_wets 81 = .ok (.dup2, 1) := dk_92 (dk_at dksX6_wets_3 11 rfl rfl)
theorem dX6_wets_82 : decode cX6_wets 82 = .ok (.iaload, 1) := dk_46 (dk_at dksX6_wets_3 12 rfl rfl)
theorem dX6_wets_83 : decode cX6_wets 83 = .ok (.iconst 1, 1) := dk_4 (dk_at dksX6_wets_3 13 rfl rfl)
theorem dX6_wets_84 : decode cX6_wets 84 = .ok (.iadd, 1) := dk_96 (dk_at dksX6_wets_3 14 rfl rfl)
theorem dX6_wets_85 : decode cX6_wets 85 = .ok (.iastore, 1) := dk_79 (dk_at dksX6_wets_3 15 rfl rfl)
theorem dX6_wets_86 : decode cX6_wets 86 = .ok (.aload_n 0, 1) := dk_42 (dk_at dksX6_wets_3 16 rfl rfl)
theorem dX6_wets_87 : decode cX6_wets 87 = .ok (.iconst 5, 1) := dk_8 (dk_at dksX6_wets_3 17 rfl rfl)
theorem dX6_wets_88 : decode cX6_wets 88 = .ok (.iload_n 1, 1) := dk_27 (dk_at dksX6_wets_3 18 rfl rfl)
theorem dX6_wets_89 : decode cX6_wets 89 = .ok (.invokevirtual 75, 3) := dk_182 0 75 (dk_at dksX6_wets_3 19 rfl rfl)
theorem dX6_wets_92 : decode cX6_wets 92 = .ok (.return_, 1) := dk_177 (dk_at dksX6_wets_3 22 rfl rfl)
abbrev cX6_most : ByteArray := prog_11_method_10_code
def yX6_most : MethodName := ⟨RX6, "most", "(II)I"⟩
def dkwX6_most_0 : List UInt8 := [26, 27, 164, 0, 7, 26, 167, 0, 4, 27, 172]
abbrev dktX6_most_0 : List UInt8 := dkwX6_most_0 ++ []
theorem dksX6_most_0 : cX6_most.data.toList.drop 0 = dktX6_most_0 := by decide +kernel
theorem dX6_most_0 : decode cX6_most 0 = .ok (.iload_n 0, 1) := dk_26 (dk_at dksX6_most_0 0 rfl rfl)
theorem dX6_most_1 : decode cX6_most 1 = .ok (.iload_n 1, 1) := dk_27 (dk_at dksX6_most_0 1 rfl rfl)
theorem dX6_most_2 : decode cX6_most 2 = .ok (.if_icmp .le 7, 3) := dk_164 0 7 (dk_at dksX6_most_0 2 rfl rfl)
theorem dX6_most_5 : decode cX6_most 5 = .ok (.iload_n 0, 1) := dk_26 (dk_at dksX6_most_0 5 rfl rfl)
theorem dX6_most_6 : decode cX6_most 6 = .ok (.goto 4, 3) := dk_167 0 4 (dk_at dksX6_most_0 6 rfl rfl)
theorem dX6_most_9 : decode cX6_most 9 = .ok (.iload_n 1, 1) := dk_27 (dk_at dksX6_most_0 9 rfl rfl)
theorem dX6_most_10 : decode cX6_most 10 = .ok (.ireturn, 1) := dk_172 (dk_at dksX6_most_0 10 rfl rfl)
abbrev cX6_setAir : ByteArray := prog_11_method_49_code
def yX6_setAir : MethodName := ⟨RX6, "setAir", "(II)I"⟩
def dkwX6_setAir_0 : List UInt8 := [42, 27, 3, 28, 182, 0, 146, 172]
abbrev dktX6_setAir_0 : List UInt8 := dkwX6_setAir_0 ++ []
theorem dksX6_setAir_0 : cX6_setAir.data.toList.drop 0 = dktX6_setAir_0 := by decide +kernel
theorem dX6_setAir_0 : decode cX6_setAir 0 = .ok (.aload_n 0, 1) := dk_42 (dk_at dksX6_setAir_0 0 rfl rfl)
theorem dX6_setAir_1 : decode cX6_setAir 1 = .ok (.iload_n 1, 1) := dk_27 (dk_at dksX6_setAir_0 1 rfl rfl)
theorem dX6_setAir_2 : decode cX6_setAir 2 = .ok (.iconst 0, 1) := dk_3 (dk_at dksX6_setAir_0 2 rfl rfl)
theorem dX6_setAir_3 : decode cX6_setAir 3 = .ok (.iload_n 2, 1) := dk_28 (dk_at dksX6_setAir_0 3 rfl rfl)
theorem dX6_setAir_4 : decode cX6_setAir 4 = .ok (.invokevirtual 146, 3) := dk_182 0 146 (dk_at dksX6_setAir_0 4 rfl rfl)
theorem dX6_setAir_7 : decode cX6_setAir 7 = .ok (.ireturn, 1) := dk_172 (dk_at dksX6_setAir_0 7 rfl rfl)
abbrev cX6_changes : ByteArray := prog_11_method_48_code
def yX6_changes : MethodName := ⟨RX6, "changes", "(III)I"⟩
def dkwX6_changes_2 : List UInt8 := [28, 96, 29, 79, 21, 4, 172]
abbrev dktX6_changes_2 : List UInt8 := dkwX6_changes_2 ++ []
def dkwX6_changes_1 : List UInt8 := [180, 0, 7, 16, 32, 6, 27, 104, 96, 28, 96, 46, 54, 4, 42, 180, 0, 7, 16, 32, 6, 27, 104, 96]
abbrev dktX6_changes_1 : List UInt8 := dkwX6_changes_1 ++ dktX6_changes_2
def dkwX6_changes_0 : List UInt8 := [42, 27, 184, 0, 124, 29, 3, 6, 184, 0, 29, 182, 0, 40, 154, 0, 5, 3, 172, 42, 182, 0, 48, 42]
abbrev dktX6_changes_0 : List UInt8 := dkwX6_changes_0 ++ dktX6_changes_1
theorem dksX6_changes_0 : cX6_changes.data.toList.drop 0 = dktX6_changes_0 := by decide +kernel
theorem dksX6_changes_1 : cX6_changes.data.toList.drop 24 = dktX6_changes_1 := dk_seg dksX6_changes_0 24 rfl rfl
theorem dksX6_changes_2 : cX6_changes.data.toList.drop 48 = dktX6_changes_2 := dk_seg dksX6_changes_1 24 rfl rfl
theorem dX6_changes_0 : decode cX6_changes 0 = .ok (.aload_n 0, 1) := dk_42 (dk_at dksX6_changes_0 0 rfl rfl)
theorem dX6_changes_1 : decode cX6_changes 1 = .ok (.iload_n 1, 1) := dk_27 (dk_at dksX6_changes_0 1 rfl rfl)
theorem dX6_changes_2 : decode cX6_changes 2 = .ok (.invokestatic 124, 3) := dk_184 0 124 (dk_at dksX6_changes_0 2 rfl rfl)
theorem dX6_changes_5 : decode cX6_changes 5 = .ok (.iload_n 3, 1) := dk_29 (dk_at dksX6_changes_0 5 rfl rfl)
theorem dX6_changes_6 : decode cX6_changes 6 = .ok (.iconst 0, 1) := dk_3 (dk_at dksX6_changes_0 6 rfl rfl)
theorem dX6_changes_7 : decode cX6_changes 7 = .ok (.iconst 3, 1) := dk_6 (dk_at dksX6_changes_0 7 rfl rfl)
theorem dX6_changes_8 : decode cX6_changes 8 = .ok (.invokestatic 29, 3) := dk_184 0 29 (dk_at dksX6_changes_0 8 rfl rfl)
theorem dX6_changes_11 : decode cX6_changes 11 = .ok (.invokevirtual 40, 3) := dk_182 0 40 (dk_at dksX6_changes_0 11 rfl rfl)
theorem dX6_changes_14 : decode cX6_changes 14 = .ok (.ifCond .ne 5, 3) := dk_154 0 5 (dk_at dksX6_changes_0 14 rfl rfl)
theorem dX6_changes_17 : decode cX6_changes 17 = .ok (.iconst 0, 1) := dk_3 (dk_at dksX6_changes_0 17 rfl rfl)
theorem dX6_changes_18 : decode cX6_changes 18 = .ok (.ireturn, 1) := dk_172 (dk_at dksX6_changes_0 18 rfl rfl)
theorem dX6_changes_19 : decode cX6_changes 19 = .ok (.aload_n 0, 1) := dk_42 (dk_at dksX6_changes_0 19 rfl rfl)
theorem dX6_changes_20 : decode cX6_changes 20 = .ok (.invokevirtual 48, 3) := dk_182 0 48 (dk_at dksX6_changes_0 20 rfl rfl)
theorem dX6_changes_23 : decode cX6_changes 23 = .ok (.aload_n 0, 1) := dk_42 (dk_at dksX6_changes_0 23 rfl rfl)
theorem dX6_changes_24 : decode cX6_changes 24 = .ok (.getfield 7, 3) := dk_180 0 7 (dk_at dksX6_changes_1 0 rfl rfl)
theorem dX6_changes_27 : decode cX6_changes 27 = .ok (.bipush 32, 2) := dk_16 32 (dk_at dksX6_changes_1 3 rfl rfl)
theorem dX6_changes_29 : decode cX6_changes 29 = .ok (.iconst 3, 1) := dk_6 (dk_at dksX6_changes_1 5 rfl rfl)
theorem dX6_changes_30 : decode cX6_changes 30 = .ok (.iload_n 1, 1) := dk_27 (dk_at dksX6_changes_1 6 rfl rfl)
theorem dX6_changes_31 : decode cX6_changes 31 = .ok (.imul, 1) := dk_104 (dk_at dksX6_changes_1 7 rfl rfl)
theorem dX6_changes_32 : decode cX6_changes 32 = .ok (.iadd, 1) := dk_96 (dk_at dksX6_changes_1 8 rfl rfl)
theorem dX6_changes_33 : decode cX6_changes 33 = .ok (.iload_n 2, 1) := dk_28 (dk_at dksX6_changes_1 9 rfl rfl)
theorem dX6_changes_34 : decode cX6_changes 34 = .ok (.iadd, 1) := dk_96 (dk_at dksX6_changes_1 10 rfl rfl)
theorem dX6_changes_35 : decode cX6_changes 35 = .ok (.iaload, 1) := dk_46 (dk_at dksX6_changes_1 11 rfl rfl)
theorem dX6_changes_36 : decode cX6_changes 36 = .ok (.istore 4, 2) := dk_54 4 (dk_at dksX6_changes_1 12 rfl rfl)
theorem dX6_changes_38 : decode cX6_changes 38 = .ok (.aload_n 0, 1) := dk_42 (dk_at dksX6_changes_1 14 rfl rfl)
theorem dX6_changes_39 : decode cX6_changes 39 = .ok (.getfield 7, 3) := dk_180 0 7 (dk_at dksX6_changes_1 15 rfl rfl)
theorem dX6_changes_42 : decode cX6_changes 42 = .ok (.bipush 32, 2) := dk_16 32 (dk_at dksX6_changes_1 18 rfl rfl)
theorem dX6_changes_44 : decode cX6_changes 44 = .ok (.iconst 3, 1) := dk_6 (dk_at dksX6_changes_1 20 rfl rfl)
theorem dX6_changes_45 : decode cX6_changes 45 = .ok (.iload_n 1, 1) := dk_27 (dk_at dksX6_changes_1 21 rfl rfl)
theorem dX6_changes_46 : decode cX6_changes 46 = .ok (.imul, 1) := dk_104 (dk_at dksX6_changes_1 22 rfl rfl)
theorem dX6_changes_47 : decode cX6_changes 47 = .ok (.iadd, 1) := dk_96 (dk_at dksX6_changes_1 23 rfl rfl)
theorem dX6_changes_48 : decode cX6_changes 48 = .ok (.iload_n 2, 1) := dk_28 (dk_at dksX6_changes_2 0 rfl rfl)
theorem dX6_changes_49 : decode cX6_changes 49 = .ok (.iadd, 1) := dk_96 (dk_at dksX6_changes_2 1 rfl rfl)
theorem dX6_changes_50 : decode cX6_changes 50 = .ok (.iload_n 3, 1) := dk_29 (dk_at dksX6_changes_2 2 rfl rfl)
theorem dX6_changes_51 : decode cX6_changes 51 = .ok (.iastore, 1) := dk_79 (dk_at dksX6_changes_2 3 rfl rfl)
theorem dX6_changes_52 : decode cX6_changes 52 = .ok (.iload 4, 2) := dk_21 4 (dk_at dksX6_changes_2 4 rfl rfl)
theorem dX6_changes_54 : decode cX6_changes 54 = .ok (.ireturn, 1) := dk_172 (dk_at dksX6_changes_2 6 rfl rfl)
abbrev cX6_setDew : ByteArray := prog_11_method_50_code
def yX6_setDew : MethodName := ⟨RX6, "setDew", "(II)I"⟩
def dkwX6_setDew_0 : List UInt8 := [42, 27, 4, 28, 182, 0, 146, 172]
abbrev dktX6_setDew_0 : List UInt8 := dkwX6_setDew_0 ++ []
theorem dksX6_setDew_0 : cX6_setDew.data.toList.drop 0 = dktX6_setDew_0 := by decide +kernel
theorem dX6_setDew_0 : decode cX6_setDew 0 = .ok (.aload_n 0, 1) := dk_42 (dk_at dksX6_setDew_0 0 rfl rfl)
theorem dX6_setDew_1 : decode cX6_setDew 1 = .ok (.iload_n 1, 1) := dk_27 (dk_at dksX6_setDew_0 1 rfl rfl)
theorem dX6_setDew_2 : decode cX6_setDew 2 = .ok (.iconst 1, 1) := dk_4 (dk_at dksX6_setDew_0 2 rfl rfl)
theorem dX6_setDew_3 : decode cX6_setDew 3 = .ok (.iload_n 2, 1) := dk_28 (dk_at dksX6_setDew_0 3 rfl rfl)
theorem dX6_setDew_4 : decode cX6_setDew 4 = .ok (.invokevirtual 146, 3) := dk_182 0 146 (dk_at dksX6_setDew_0 4 rfl rfl)
theorem dX6_setDew_7 : decode cX6_setDew 7 = .ok (.ireturn, 1) := dk_172 (dk_at dksX6_setDew_0 7 rfl rfl)
abbrev cX6_setTurn : ByteArray := prog_11_method_51_code
def yX6_setTurn : MethodName := ⟨RX6, "setTurn", "(II)I"⟩
def dkwX6_setTurn_0 : List UInt8 := [42, 27, 5, 28, 182, 0, 146, 172]
abbrev dktX6_setTurn_0 : List UInt8 := dkwX6_setTurn_0 ++ []
theorem dksX6_setTurn_0 : cX6_setTurn.data.toList.drop 0 = dktX6_setTurn_0 := by decide +kernel
theorem dX6_setTurn_0 : decode cX6_setTurn 0 = .ok (.aload_n 0, 1) := dk_42 (dk_at dksX6_setTurn_0 0 rfl rfl)
theorem dX6_setTurn_1 : decode cX6_setTurn 1 = .ok (.iload_n 1, 1) := dk_27 (dk_at dksX6_setTurn_0 1 rfl rfl)
theorem dX6_setTurn_2 : decode cX6_setTurn 2 = .ok (.iconst 2, 1) := dk_5 (dk_at dksX6_setTurn_0 2 rfl rfl)
theorem dX6_setTurn_3 : decode cX6_setTurn 3 = .ok (.iload_n 2, 1) := dk_28 (dk_at dksX6_setTurn_0 3 rfl rfl)
theorem dX6_setTurn_4 : decode cX6_setTurn 4 = .ok (.invokevirtual 146, 3) := dk_182 0 146 (dk_at dksX6_setTurn_0 4 rfl rfl)
theorem dX6_setTurn_7 : decode cX6_setTurn 7 = .ok (.ireturn, 1) := dk_172 (dk_at dksX6_setTurn_0 7 rfl rfl)
abbrev cX6_setHeats : ByteArray := prog_11_method_52_code
def yX6_setHeats : MethodName := ⟨RX6, "setHeats", "(II)I"⟩
def dkwX6_setHeats_3 : List UInt8 := [180, 0, 7, 6, 27, 79, 42, 180, 0, 7, 7, 28, 79, 29, 172]
abbrev dktX6_setHeats_3 : List UInt8 := dkwX6_setHeats_3 ++ []
def dkwX6_setHeats_2 : List UInt8 := [3, 172, 42, 182, 0, 48, 16, 100, 42, 180, 0, 7, 6, 46, 104, 42, 180, 0, 7, 7, 46, 96, 62, 42]
abbrev dktX6_setHeats_2 : List UInt8 := dkwX6_setHeats_2 ++ dktX6_setHeats_3
def dkwX6_setHeats_1 : List UInt8 := [167, 0, 4, 3, 42, 180, 0, 7, 4, 46, 154, 0, 7, 4, 167, 0, 4, 3, 182, 0, 40, 154, 0, 5]
abbrev dktX6_setHeats_1 : List UInt8 := dkwX6_setHeats_1 ++ dktX6_setHeats_2
def dkwX6_setHeats_0 : List UInt8 := [42, 27, 16, 30, 16, 60, 184, 0, 29, 153, 0, 18, 28, 16, 60, 16, 99, 184, 0, 29, 153, 0, 7, 4]
abbrev dktX6_setHeats_0 : List UInt8 := dkwX6_setHeats_0 ++ dktX6_setHeats_1
theorem dksX6_setHeats_0 : cX6_setHeats.data.toList.drop 0 = dktX6_setHeats_0 := by decide +kernel
theorem dksX6_setHeats_1 : cX6_setHeats.data.toList.drop 24 = dktX6_setHeats_1 := dk_seg dksX6_setHeats_0 24 rfl rfl
theorem dksX6_setHeats_2 : cX6_setHeats.data.toList.drop 48 = dktX6_setHeats_2 := dk_seg dksX6_setHeats_1 24 rfl rfl
theorem dksX6_setHeats_3 : cX6_setHeats.data.toList.drop 72 = dktX6_setHeats_3 := dk_seg dksX6_setHeats_2 24 rfl rfl
theorem dX6_setHeats_0 : decode cX6_setHeats 0 = .ok (.aload_n 0, 1) := dk_42 (dk_at dksX6_setHeats_0 0 rfl rfl)
theorem dX6_setHeats_1 : decode cX6_setHeats 1 = .ok (.iload_n 1, 1) := dk_27 (dk_at dksX6_setHeats_0 1 rfl rfl)
theorem dX6_setHeats_2 : decode cX6_setHeats 2 = .ok (.bipush 30, 2) := dk_16 30 (dk_at dksX6_setHeats_0 2 rfl rfl)
theorem dX6_setHeats_4 : decode cX6_setHeats 4 = .ok (.bipush 60, 2) := dk_16 60 (dk_at dksX6_setHeats_0 4 rfl rfl)
theorem dX6_setHeats_6 : decode cX6_setHeats 6 = .ok (.invokestatic 29, 3) := dk_184 0 29 (dk_at dksX6_setHeats_0 6 rfl rfl)
theorem dX6_setHeats_9 : decode cX6_setHeats 9 = .ok (.ifCond .eq 18, 3) := dk_153 0 18 (dk_at dksX6_setHeats_0 9 rfl rfl)
theorem dX6_setHeats_12 : decode cX6_setHeats 12 = .ok (.iload_n 2, 1) := dk_28 (dk_at dksX6_setHeats_0 12 rfl rfl)
theorem dX6_setHeats_13 : decode cX6_setHeats 13 = .ok (.bipush 60, 2) := dk_16 60 (dk_at dksX6_setHeats_0 13 rfl rfl)
theorem dX6_setHeats_15 : decode cX6_setHeats 15 = .ok (.bipush 99, 2) := dk_16 99 (dk_at dksX6_setHeats_0 15 rfl rfl)
theorem dX6_setHeats_17 : decode cX6_setHeats 17 = .ok (.invokestatic 29, 3) := dk_184 0 29 (dk_at dksX6_setHeats_0 17 rfl rfl)
theorem dX6_setHeats_20 : decode cX6_setHeats 20 = .ok (.ifCond .eq 7, 3) := dk_153 0 7 (dk_at dksX6_setHeats_0 20 rfl rfl)
theorem dX6_setHeats_23 : decode cX6_setHeats 23 = .ok (.iconst 1, 1) := dk_4 (dk_at dksX6_setHeats_0 23 rfl rfl)
theorem dX6_setHeats_24 : decode cX6_setHeats 24 = .ok (.goto 4, 3) := dk_167 0 4 (dk_at dksX6_setHeats_1 0 rfl rfl)
theorem dX6_setHeats_27 : decode cX6_setHeats 27 = .ok (.iconst 0, 1) := dk_3 (dk_at dksX6_setHeats_1 3 rfl rfl)
theorem dX6_setHeats_28 : decode cX6_setHeats 28 = .ok (.aload_n 0, 1) := dk_42 (dk_at dksX6_setHeats_1 4 rfl rfl)
theorem dX6_setHeats_29 : decode cX6_setHeats 29 = .ok (.getfield 7, 3) := dk_180 0 7 (dk_at dksX6_setHeats_1 5 rfl rfl)
theorem dX6_setHeats_32 : decode cX6_setHeats 32 = .ok (.iconst 1, 1) := dk_4 (dk_at dksX6_setHeats_1 8 rfl rfl)
theorem dX6_setHeats_33 : decode cX6_setHeats 33 = .ok (.iaload, 1) := dk_46 (dk_at dksX6_setHeats_1 9 rfl rfl)
theorem dX6_setHeats_34 : decode cX6_setHeats 34 = .ok (.ifCond .ne 7, 3) := dk_154 0 7 (dk_at dksX6_setHeats_1 10 rfl rfl)
theorem dX6_setHeats_37 : decode cX6_setHeats 37 = .ok (.iconst 1, 1) := dk_4 (dk_at dksX6_setHeats_1 13 rfl rfl)
theorem dX6_setHeats_38 : decode cX6_setHeats 38 = .ok (.goto 4, 3) := dk_167 0 4 (dk_at dksX6_setHeats_1 14 rfl rfl)
theorem dX6_setHeats_41 : decode cX6_setHeats 41 = .ok (.iconst 0, 1) := dk_3 (dk_at dksX6_setHeats_1 17 rfl rfl)
theorem dX6_setHeats_42 : decode cX6_setHeats 42 = .ok (.invokevirtual 40, 3) := dk_182 0 40 (dk_at dksX6_setHeats_1 18 rfl rfl)
theorem dX6_setHeats_45 : decode cX6_setHeats 45 = .ok (.ifCond .ne 5, 3) := dk_154 0 5 (dk_at dksX6_setHeats_1 21 rfl rfl)
theorem dX6_setHeats_48 : decode cX6_setHeats 48 = .ok (.iconst 0, 1) := dk_3 (dk_at dksX6_setHeats_2 0 rfl rfl)
theorem dX6_setHeats_49 : decode cX6_setHeats 49 = .ok (.ireturn, 1) := dk_172 (dk_at dksX6_setHeats_2 1 rfl rfl)
theorem dX6_setHeats_50 : decode cX6_setHeats 50 = .ok (.aload_n 0, 1) := dk_42 (dk_at dksX6_setHeats_2 2 rfl rfl)
theorem dX6_setHeats_51 : decode cX6_setHeats 51 = .ok (.invokevirtual 48, 3) := dk_182 0 48 (dk_at dksX6_setHeats_2 3 rfl rfl)
theorem dX6_setHeats_54 : decode cX6_setHeats 54 = .ok (.bipush 100, 2) := dk_16 100 (dk_at dksX6_setHeats_2 6 rfl rfl)
theorem dX6_setHeats_56 : decode cX6_setHeats 56 = .ok (.aload_n 0, 1) := dk_42 (dk_at dksX6_setHeats_2 8 rfl rfl)
theorem dX6_setHeats_57 : decode cX6_setHeats 57 = .ok (.getfield 7, 3) := dk_180 0 7 (dk_at dksX6_setHeats_2 9 rfl rfl)
theorem dX6_setHeats_60 : decode cX6_setHeats 60 = .ok (.iconst 3, 1) := dk_6 (dk_at dksX6_setHeats_2 12 rfl rfl)
theorem dX6_setHeats_61 : decode cX6_setHeats 61 = .ok (.iaload, 1) := dk_46 (dk_at dksX6_setHeats_2 13 rfl rfl)
theorem dX6_setHeats_62 : decode cX6_setHeats 62 = .ok (.imul, 1) := dk_104 (dk_at dksX6_setHeats_2 14 rfl rfl)
theorem dX6_setHeats_63 : decode cX6_setHeats 63 = .ok (.aload_n 0, 1) := dk_42 (dk_at dksX6_setHeats_2 15 rfl rfl)
theorem dX6_setHeats_64 : decode cX6_setHeats 64 = .ok (.getfield 7, 3) := dk_180 0 7 (dk_at dksX6_setHeats_2 16 rfl rfl)
theorem dX6_setHeats_67 : decode cX6_setHeats 67 = .ok (.iconst 4, 1) := dk_7 (dk_at dksX6_setHeats_2 19 rfl rfl)
theorem dX6_setHeats_68 : decode cX6_setHeats 68 = .ok (.iaload, 1) := dk_46 (dk_at dksX6_setHeats_2 20 rfl rfl)
theorem dX6_setHeats_69 : decode cX6_setHeats 69 = .ok (.iadd, 1) := dk_96 (dk_at dksX6_setHeats_2 21 rfl rfl)
theorem dX6_setHeats_70 : decode cX6_setHeats 70 = .ok (.istore_n 3, 1) := dk_62 (dk_at dksX6_setHeats_2 22 rfl rfl)
theorem dX6_setHeats_71 : decode cX6_setHeats 71 = .ok (.aload_n 0, 1) := dk_42 (dk_at dksX6_setHeats_2 23 rfl rfl)
theorem dX6_setHeats_72 : decode cX6_setHeats 72 = .ok (.getfield 7, 3) := dk_180 0 7 (dk_at dksX6_setHeats_3 0 rfl rfl)
theorem dX6_setHeats_75 : decode cX6_setHeats 75 = .ok (.iconst 3, 1) := dk_6 (dk_at dksX6_setHeats_3 3 rfl rfl)
theorem dX6_setHeats_76 : decode cX6_setHeats 76 = .ok (.iload_n 1, 1) := dk_27 (dk_at dksX6_setHeats_3 4 rfl rfl)
theorem dX6_setHeats_77 : decode cX6_setHeats 77 = .ok (.iastore, 1) := dk_79 (dk_at dksX6_setHeats_3 5 rfl rfl)
theorem dX6_setHeats_78 : decode cX6_setHeats 78 = .ok (.aload_n 0, 1) := dk_42 (dk_at dksX6_setHeats_3 6 rfl rfl)
theorem dX6_setHeats_79 : decode cX6_setHeats 79 = .ok (.getfield 7, 3) := dk_180 0 7 (dk_at dksX6_setHeats_3 7 rfl rfl)
theorem dX6_setHeats_82 : decode cX6_setHeats 82 = .ok (.iconst 4, 1) := dk_7 (dk_at dksX6_setHeats_3 10 rfl rfl)
theorem dX6_setHeats_83 : decode cX6_setHeats 83 = .ok (.iload_n 2, 1) := dk_28 (dk_at dksX6_setHeats_3 11 rfl rfl)
theorem dX6_setHeats_84 : decode cX6_setHeats 84 = .ok (.iastore, 1) := dk_79 (dk_at dksX6_setHeats_3 12 rfl rfl)
theorem dX6_setHeats_85 : decode cX6_setHeats 85 = .ok (.iload_n 3, 1) := dk_29 (dk_at dksX6_setHeats_3 13 rfl rfl)
theorem dX6_setHeats_86 : decode cX6_setHeats 86 = .ok (.ireturn, 1) := dk_172 (dk_at dksX6_setHeats_3 14 rfl rfl)
abbrev cX6_setSprays : ByteArray := prog_11_method_53_code
def yX6_setSprays : MethodName := ⟨RX6, "setSprays", "(I)I"⟩
def dkwX6_setSprays_1 : List UInt8 := [180, 0, 7, 8, 46, 61, 42, 180, 0, 7, 8, 27, 79, 28, 172]
abbrev dktX6_setSprays_1 : List UInt8 := dkwX6_setSprays_1 ++ []
def dkwX6_setSprays_0 : List UInt8 := [42, 27, 3, 16, 9, 184, 0, 29, 4, 182, 0, 40, 154, 0, 5, 3, 172, 42, 182, 0, 48, 42]
abbrev dktX6_setSprays_0 : List UInt8 := dkwX6_setSprays_0 ++ dktX6_setSprays_1
theorem dksX6_setSprays_0 : cX6_setSprays.data.toList.drop 0 = dktX6_setSprays_0 := by decide +kernel
theorem dksX6_setSprays_1 : cX6_setSprays.data.toList.drop 22 = dktX6_setSprays_1 := dk_seg dksX6_setSprays_0 22 rfl rfl
theorem dX6_setSprays_0 : decode cX6_setSprays 0 = .ok (.aload_n 0, 1) := dk_42 (dk_at dksX6_setSprays_0 0 rfl rfl)
theorem dX6_setSprays_1 : decode cX6_setSprays 1 = .ok (.iload_n 1, 1) := dk_27 (dk_at dksX6_setSprays_0 1 rfl rfl)
theorem dX6_setSprays_2 : decode cX6_setSprays 2 = .ok (.iconst 0, 1) := dk_3 (dk_at dksX6_setSprays_0 2 rfl rfl)
theorem dX6_setSprays_3 : decode cX6_setSprays 3 = .ok (.bipush 9, 2) := dk_16 9 (dk_at dksX6_setSprays_0 3 rfl rfl)
theorem dX6_setSprays_5 : decode cX6_setSprays 5 = .ok (.invokestatic 29, 3) := dk_184 0 29 (dk_at dksX6_setSprays_0 5 rfl rfl)
theorem dX6_setSprays_8 : decode cX6_setSprays 8 = .ok (.iconst 1, 1) := dk_4 (dk_at dksX6_setSprays_0 8 rfl rfl)
theorem dX6_setSprays_9 : decode cX6_setSprays 9 = .ok (.invokevirtual 40, 3) := dk_182 0 40 (dk_at dksX6_setSprays_0 9 rfl rfl)
theorem dX6_setSprays_12 : decode cX6_setSprays 12 = .ok (.ifCond .ne 5, 3) := dk_154 0 5 (dk_at dksX6_setSprays_0 12 rfl rfl)
theorem dX6_setSprays_15 : decode cX6_setSprays 15 = .ok (.iconst 0, 1) := dk_3 (dk_at dksX6_setSprays_0 15 rfl rfl)
theorem dX6_setSprays_16 : decode cX6_setSprays 16 = .ok (.ireturn, 1) := dk_172 (dk_at dksX6_setSprays_0 16 rfl rfl)
theorem dX6_setSprays_17 : decode cX6_setSprays 17 = .ok (.aload_n 0, 1) := dk_42 (dk_at dksX6_setSprays_0 17 rfl rfl)
theorem dX6_setSprays_18 : decode cX6_setSprays 18 = .ok (.invokevirtual 48, 3) := dk_182 0 48 (dk_at dksX6_setSprays_0 18 rfl rfl)
theorem dX6_setSprays_21 : decode cX6_setSprays 21 = .ok (.aload_n 0, 1) := dk_42 (dk_at dksX6_setSprays_0 21 rfl rfl)
theorem dX6_setSprays_22 : decode cX6_setSprays 22 = .ok (.getfield 7, 3) := dk_180 0 7 (dk_at dksX6_setSprays_1 0 rfl rfl)
theorem dX6_setSprays_25 : decode cX6_setSprays 25 = .ok (.iconst 5, 1) := dk_8 (dk_at dksX6_setSprays_1 3 rfl rfl)
theorem dX6_setSprays_26 : decode cX6_setSprays 26 = .ok (.iaload, 1) := dk_46 (dk_at dksX6_setSprays_1 4 rfl rfl)
theorem dX6_setSprays_27 : decode cX6_setSprays 27 = .ok (.istore_n 2, 1) := dk_61 (dk_at dksX6_setSprays_1 5 rfl rfl)
theorem dX6_setSprays_28 : decode cX6_setSprays 28 = .ok (.aload_n 0, 1) := dk_42 (dk_at dksX6_setSprays_1 6 rfl rfl)
theorem dX6_setSprays_29 : decode cX6_setSprays 29 = .ok (.getfield 7, 3) := dk_180 0 7 (dk_at dksX6_setSprays_1 7 rfl rfl)
theorem dX6_setSprays_32 : decode cX6_setSprays 32 = .ok (.iconst 5, 1) := dk_8 (dk_at dksX6_setSprays_1 10 rfl rfl)
theorem dX6_setSprays_33 : decode cX6_setSprays 33 = .ok (.iload_n 1, 1) := dk_27 (dk_at dksX6_setSprays_1 11 rfl rfl)
theorem dX6_setSprays_34 : decode cX6_setSprays 34 = .ok (.iastore, 1) := dk_79 (dk_at dksX6_setSprays_1 12 rfl rfl)
theorem dX6_setSprays_35 : decode cX6_setSprays 35 = .ok (.iload_n 2, 1) := dk_28 (dk_at dksX6_setSprays_1 13 rfl rfl)
theorem dX6_setSprays_36 : decode cX6_setSprays 36 = .ok (.ireturn, 1) := dk_172 (dk_at dksX6_setSprays_1 14 rfl rfl)
abbrev cX6_pass : ByteArray := prog_11_method_54_code
def yX6_pass : MethodName := ⟨RX6, "pass", "(I)I"⟩
def dkwX6_pass_1 : List UInt8 := [182, 0, 150, 172]
abbrev dktX6_pass_1 : List UInt8 := dkwX6_pass_1 ++ []
def dkwX6_pass_0 : List UInt8 := [42, 27, 4, 16, 48, 184, 0, 29, 4, 182, 0, 40, 154, 0, 5, 3, 172, 42, 182, 0, 48, 42, 27]
abbrev dktX6_pass_0 : List UInt8 := dkwX6_pass_0 ++ dktX6_pass_1
theorem dksX6_pass_0 : cX6_pass.data.toList.drop 0 = dktX6_pass_0 := by decide +kernel
theorem dksX6_pass_1 : cX6_pass.data.toList.drop 23 = dktX6_pass_1 := dk_seg dksX6_pass_0 23 rfl rfl
theorem dX6_pass_0 : decode cX6_pass 0 = .ok (.aload_n 0, 1) := dk_42 (dk_at dksX6_pass_0 0 rfl rfl)
theorem dX6_pass_1 : decode cX6_pass 1 = .ok (.iload_n 1, 1) := dk_27 (dk_at dksX6_pass_0 1 rfl rfl)
theorem dX6_pass_2 : decode cX6_pass 2 = .ok (.iconst 1, 1) := dk_4 (dk_at dksX6_pass_0 2 rfl rfl)
theorem dX6_pass_3 : decode cX6_pass 3 = .ok (.bipush 48, 2) := dk_16 48 (dk_at dksX6_pass_0 3 rfl rfl)
theorem dX6_pass_5 : decode cX6_pass 5 = .ok (.invokestatic 29, 3) := dk_184 0 29 (dk_at dksX6_pass_0 5 rfl rfl)
theorem dX6_pass_8 : decode cX6_pass 8 = .ok (.iconst 1, 1) := dk_4 (dk_at dksX6_pass_0 8 rfl rfl)
theorem dX6_pass_9 : decode cX6_pass 9 = .ok (.invokevirtual 40, 3) := dk_182 0 40 (dk_at dksX6_pass_0 9 rfl rfl)
theorem dX6_pass_12 : decode cX6_pass 12 = .ok (.ifCond .ne 5, 3) := dk_154 0 5 (dk_at dksX6_pass_0 12 rfl rfl)
theorem dX6_pass_15 : decode cX6_pass 15 = .ok (.iconst 0, 1) := dk_3 (dk_at dksX6_pass_0 15 rfl rfl)
theorem dX6_pass_16 : decode cX6_pass 16 = .ok (.ireturn, 1) := dk_172 (dk_at dksX6_pass_0 16 rfl rfl)
theorem dX6_pass_17 : decode cX6_pass 17 = .ok (.aload_n 0, 1) := dk_42 (dk_at dksX6_pass_0 17 rfl rfl)
theorem dX6_pass_18 : decode cX6_pass 18 = .ok (.invokevirtual 48, 3) := dk_182 0 48 (dk_at dksX6_pass_0 18 rfl rfl)
theorem dX6_pass_21 : decode cX6_pass 21 = .ok (.aload_n 0, 1) := dk_42 (dk_at dksX6_pass_0 21 rfl rfl)
theorem dX6_pass_22 : decode cX6_pass 22 = .ok (.iload_n 1, 1) := dk_27 (dk_at dksX6_pass_0 22 rfl rfl)
theorem dX6_pass_23 : decode cX6_pass 23 = .ok (.invokevirtual 150, 3) := dk_182 0 150 (dk_at dksX6_pass_1 0 rfl rfl)
theorem dX6_pass_26 : decode cX6_pass 26 = .ok (.ireturn, 1) := dk_172 (dk_at dksX6_pass_1 3 rfl rfl)
abbrev cX6_hours : ByteArray := prog_11_method_30_code
def yX6_hours : MethodName := ⟨RX6, "hours", "(I)I"⟩
def dkwX6_hours_0 : List UInt8 := [3, 61, 3, 62, 29, 27, 162, 0, 16, 28, 42, 182, 0, 96, 96, 61, 132, 3, 1, 167, 255, 241, 28, 172]
abbrev dktX6_hours_0 : List UInt8 := dkwX6_hours_0 ++ []
theorem dksX6_hours_0 : cX6_hours.data.toList.drop 0 = dktX6_hours_0 := by decide +kernel
theorem dX6_hours_0 : decode cX6_hours 0 = .ok (.iconst 0, 1) := dk_3 (dk_at dksX6_hours_0 0 rfl rfl)
theorem dX6_hours_1 : decode cX6_hours 1 = .ok (.istore_n 2, 1) := dk_61 (dk_at dksX6_hours_0 1 rfl rfl)
theorem dX6_hours_2 : decode cX6_hours 2 = .ok (.iconst 0, 1) := dk_3 (dk_at dksX6_hours_0 2 rfl rfl)
theorem dX6_hours_3 : decode cX6_hours 3 = .ok (.istore_n 3, 1) := dk_62 (dk_at dksX6_hours_0 3 rfl rfl)
theorem dX6_hours_4 : decode cX6_hours 4 = .ok (.iload_n 3, 1) := dk_29 (dk_at dksX6_hours_0 4 rfl rfl)
theorem dX6_hours_5 : decode cX6_hours 5 = .ok (.iload_n 1, 1) := dk_27 (dk_at dksX6_hours_0 5 rfl rfl)
theorem dX6_hours_6 : decode cX6_hours 6 = .ok (.if_icmp .ge 16, 3) := dk_162 0 16 (dk_at dksX6_hours_0 6 rfl rfl)
theorem dX6_hours_9 : decode cX6_hours 9 = .ok (.iload_n 2, 1) := dk_28 (dk_at dksX6_hours_0 9 rfl rfl)
theorem dX6_hours_10 : decode cX6_hours 10 = .ok (.aload_n 0, 1) := dk_42 (dk_at dksX6_hours_0 10 rfl rfl)
theorem dX6_hours_11 : decode cX6_hours 11 = .ok (.invokevirtual 96, 3) := dk_182 0 96 (dk_at dksX6_hours_0 11 rfl rfl)
theorem dX6_hours_14 : decode cX6_hours 14 = .ok (.iadd, 1) := dk_96 (dk_at dksX6_hours_0 14 rfl rfl)
theorem dX6_hours_15 : decode cX6_hours 15 = .ok (.istore_n 2, 1) := dk_61 (dk_at dksX6_hours_0 15 rfl rfl)
theorem dX6_hours_16 : decode cX6_hours 16 = .ok (.iinc 3 1, 3) := dk_132 3 1 (dk_at dksX6_hours_0 16 rfl rfl)
theorem dX6_hours_19 : decode cX6_hours 19 = .ok (.goto (-15), 3) := dk_167 255 241 (dk_at dksX6_hours_0 19 rfl rfl)
theorem dX6_hours_22 : decode cX6_hours 22 = .ok (.iload_n 2, 1) := dk_28 (dk_at dksX6_hours_0 22 rfl rfl)
theorem dX6_hours_23 : decode cX6_hours 23 = .ok (.ireturn, 1) := dk_172 (dk_at dksX6_hours_0 23 rfl rfl)
abbrev cX6_hour : ByteArray := prog_11_method_29_code
def yX6_hour : MethodName := ⟨RX6, "hour", "()I"⟩
def dkwX6_hour_10 : List UInt8 := [3, 167, 0, 9, 42, 180, 0, 7, 5, 46, 79, 27, 28, 96, 60, 27, 172]
abbrev dktX6_hour_10 : List UInt8 := dkwX6_hour_10 ++ []
def dkwX6_hour_9 : List UInt8 := [42, 180, 0, 7, 4, 28, 158, 0, 7, 3, 167, 0, 4, 4, 79, 42, 180, 0, 7, 5, 28, 158, 0, 7]
abbrev dktX6_hour_9 : List UInt8 := dkwX6_hour_9 ++ dktX6_hour_10
def dkwX6_hour_8 : List UInt8 := [180, 0, 7, 4, 46, 4, 160, 0, 57, 42, 180, 0, 7, 5, 92, 46, 4, 96, 79, 42, 182, 0, 92, 61]
abbrev dktX6_hour_8 : List UInt8 := dkwX6_hour_8 ++ dktX6_hour_9
def dkwX6_hour_7 : List UInt8 := [42, 180, 0, 7, 4, 46, 4, 160, 0, 8, 42, 28, 182, 0, 88, 132, 2, 1, 167, 255, 123, 42]
abbrev dktX6_hour_7 : List UInt8 := dkwX6_hour_7 ++ dktX6_hour_8
def dkwX6_hour_6 : List UInt8 := [159, 0, 8, 29, 6, 160, 0, 14, 27, 42, 28, 182, 0, 85, 96, 60, 167, 0, 23, 29, 7, 160, 0, 18]
abbrev dktX6_hour_6 : List UInt8 := dkwX6_hour_6 ++ dktX6_hour_7
def dkwX6_hour_5 : List UInt8 := [184, 0, 68, 167, 0, 12, 16, 14, 21, 4, 5, 96, 184, 0, 59, 182, 0, 71, 167, 0, 44, 29, 5]
abbrev dktX6_hour_5 : List UInt8 := dkwX6_hour_5 ++ dktX6_hour_6
def dkwX6_hour_4 : List UInt8 := [184, 0, 59, 182, 0, 71, 42, 28, 16, 6, 21, 4, 16, 14, 164, 0, 15, 16, 14, 21, 4, 5, 100]
abbrev dktX6_hour_4 : List UInt8 := dkwX6_hour_4 ++ dktX6_hour_5
def dkwX6_hour_3 : List UInt8 := [42, 28, 16, 6, 182, 0, 51, 54, 4, 42, 28, 7, 16, 46, 42, 28, 7, 182, 0, 51, 7, 96]
abbrev dktX6_hour_3 : List UInt8 := dkwX6_hour_3 ++ dktX6_hour_4
def dkwX6_hour_2 : List UInt8 := [61, 28, 42, 180, 0, 7, 16, 7, 46, 162, 0, 128, 42, 28, 3, 182, 0, 51, 62, 29, 4, 160, 0, 69]
abbrev dktX6_hour_2 : List UInt8 := dkwX6_hour_2 ++ dktX6_hour_3
def dkwX6_hour_1 : List UInt8 := [16, 24, 112, 154, 0, 12, 42, 180, 0, 7, 8, 46, 167, 0, 10, 42, 180, 0, 7, 16, 6, 46, 79, 3]
abbrev dktX6_hour_1 : List UInt8 := dkwX6_hour_1 ++ dktX6_hour_2
def dkwX6_hour_0 : List UInt8 := [3, 60, 42, 180, 0, 7, 3, 92, 46, 4, 96, 79, 42, 180, 0, 7, 16, 6, 42, 180, 0, 7, 3, 46]
abbrev dktX6_hour_0 : List UInt8 := dkwX6_hour_0 ++ dktX6_hour_1
theorem dksX6_hour_0 : cX6_hour.data.toList.drop 0 = dktX6_hour_0 := by decide +kernel
theorem dksX6_hour_1 : cX6_hour.data.toList.drop 24 = dktX6_hour_1 := dk_seg dksX6_hour_0 24 rfl rfl
theorem dksX6_hour_2 : cX6_hour.data.toList.drop 48 = dktX6_hour_2 := dk_seg dksX6_hour_1 24 rfl rfl
theorem dksX6_hour_3 : cX6_hour.data.toList.drop 72 = dktX6_hour_3 := dk_seg dksX6_hour_2 24 rfl rfl
theorem dksX6_hour_4 : cX6_hour.data.toList.drop 94 = dktX6_hour_4 := dk_seg dksX6_hour_3 22 rfl rfl
theorem dksX6_hour_5 : cX6_hour.data.toList.drop 117 = dktX6_hour_5 := dk_seg dksX6_hour_4 23 rfl rfl
theorem dksX6_hour_6 : cX6_hour.data.toList.drop 140 = dktX6_hour_6 := dk_seg dksX6_hour_5 23 rfl rfl
theorem dksX6_hour_7 : cX6_hour.data.toList.drop 164 = dktX6_hour_7 := dk_seg dksX6_hour_6 24 rfl rfl
theorem dksX6_hour_8 : cX6_hour.data.toList.drop 186 = dktX6_hour_8 := dk_seg dksX6_hour_7 22 rfl rfl
theorem dksX6_hour_9 : cX6_hour.data.toList.drop 210 = dktX6_hour_9 := dk_seg dksX6_hour_8 24 rfl rfl
theorem dksX6_hour_10 : cX6_hour.data.toList.drop 234 = dktX6_hour_10 := dk_seg dksX6_hour_9 24 rfl rfl
theorem dX6_hour_0 : decode cX6_hour 0 = .ok (.iconst 0, 1) := dk_3 (dk_at dksX6_hour_0 0 rfl rfl)
theorem dX6_hour_1 : decode cX6_hour 1 = .ok (.istore_n 1, 1) := dk_60 (dk_at dksX6_hour_0 1 rfl rfl)
theorem dX6_hour_2 : decode cX6_hour 2 = .ok (.aload_n 0, 1) := dk_42 (dk_at dksX6_hour_0 2 rfl rfl)
theorem dX6_hour_3 : decode cX6_hour 3 = .ok (.getfield 7, 3) := dk_180 0 7 (dk_at dksX6_hour_0 3 rfl rfl)
theorem dX6_hour_6 : decode cX6_hour 6 = .ok (.iconst 0, 1) := dk_3 (dk_at dksX6_hour_0 6 rfl rfl)
theorem dX6_hour_7 : decode cX6_hour 7 = .ok (.dup2, 1) := dk_92 (dk_at dksX6_hour_0 7 rfl rfl)
theorem dX6_hour_8 : decode cX6_hour 8 = .ok (.iaload, 1) := dk_46 (dk_at dksX6_hour_0 8 rfl rfl)
theorem dX6_hour_9 : decode cX6_hour 9 = .ok (.iconst 1, 1) := dk_4 (dk_at dksX6_hour_0 9 rfl rfl)
theorem dX6_hour_10 : decode cX6_hour 10 = .ok (.iadd, 1) := dk_96 (dk_at dksX6_hour_0 10 rfl rfl)
theorem dX6_hour_11 : decode cX6_hour 11 = .ok (.iastore, 1) := dk_79 (dk_at dksX6_hour_0 11 rfl rfl)
theorem dX6_hour_12 : decode cX6_hour 12 = .ok (.aload_n 0, 1) := dk_42 (dk_at dksX6_hour_0 12 rfl rfl)
theorem dX6_hour_13 : decode cX6_hour 13 = .ok (.getfield 7, 3) := dk_180 0 7 (dk_at dksX6_hour_0 13 rfl rfl)
theorem dX6_hour_16 : decode cX6_hour 16 = .ok (.bipush 6, 2) := dk_16 6 (dk_at dksX6_hour_0 16 rfl rfl)
theorem dX6_hour_18 : decode cX6_hour 18 = .ok (.aload_n 0, 1) := dk_42 (dk_at dksX6_hour_0 18 rfl rfl)
theorem dX6_hour_19 : decode cX6_hour 19 = .ok (.getfield 7, 3) := dk_180 0 7 (dk_at dksX6_hour_0 19 rfl rfl)
theorem dX6_hour_22 : decode cX6_hour 22 = .ok (.iconst 0, 1) := dk_3 (dk_at dksX6_hour_0 22 rfl rfl)
theorem dX6_hour_23 : decode cX6_hour 23 = .ok (.iaload, 1) := dk_46 (dk_at dksX6_hour_0 23 rfl rfl)
theorem dX6_hour_24 : decode cX6_hour 24 = .ok (.bipush 24, 2) := dk_16 24 (dk_at dksX6_hour_1 0 rfl rfl)
theorem dX6_hour_26 : decode cX6_hour 26 = .ok (.irem, 1) := dk_112 (dk_at dksX6_hour_1 2 rfl rfl)
theorem dX6_hour_27 : decode cX6_hour 27 = .ok (.ifCond .ne 12, 3) := dk_154 0 12 (dk_at dksX6_hour_1 3 rfl rfl)
theorem dX6_hour_30 : decode cX6_hour 30 = .ok (.aload_n 0, 1) := dk_42 (dk_at dksX6_hour_1 6 rfl rfl)
theorem dX6_hour_31 : decode cX6_hour 31 = .ok (.getfield 7, 3) := dk_180 0 7 (dk_at dksX6_hour_1 7 rfl rfl)
theorem dX6_hour_34 : decode cX6_hour 34 = .ok (.iconst 5, 1) := dk_8 (dk_at dksX6_hour_1 10 rfl rfl)
theorem dX6_hour_35 : decode cX6_hour 35 = .ok (.iaload, 1) := dk_46 (dk_at dksX6_hour_1 11 rfl rfl)
theorem dX6_hour_36 : decode cX6_hour 36 = .ok (.goto 10, 3) := dk_167 0 10 (dk_at dksX6_hour_1 12 rfl rfl)
theorem dX6_hour_39 : decode cX6_hour 39 = .ok (.aload_n 0, 1) := dk_42 (dk_at dksX6_hour_1 15 rfl rfl)
theorem dX6_hour_40 : decode cX6_hour 40 = .ok (.getfield 7, 3) := dk_180 0 7 (dk_at dksX6_hour_1 16 rfl rfl)
theorem dX6_hour_43 : decode cX6_hour 43 = .ok (.bipush 6, 2) := dk_16 6 (dk_at dksX6_hour_1 19 rfl rfl)
theorem dX6_hour_45 : decode cX6_hour 45 = .ok (.iaload, 1) := dk_46 (dk_at dksX6_hour_1 21 rfl rfl)
theorem dX6_hour_46 : decode cX6_hour 46 = .ok (.iastore, 1) := dk_79 (dk_at dksX6_hour_1 22 rfl rfl)
theorem dX6_hour_47 : decode cX6_hour 47 = .ok (.iconst 0, 1) := dk_3 (dk_at dksX6_hour_1 23 rfl rfl)
theorem dX6_hour_48 : decode cX6_hour 48 = .ok (.istore_n 2, 1) := dk_61 (dk_at dksX6_hour_2 0 rfl rfl)
theorem dX6_hour_49 : decode cX6_hour 49 = .ok (.iload_n 2, 1) := dk_28 (dk_at dksX6_hour_2 1 rfl rfl)
theorem dX6_hour_50 : decode cX6_hour 50 = .ok (.aload_n 0, 1) := dk_42 (dk_at dksX6_hour_2 2 rfl rfl)
theorem dX6_hour_51 : decode cX6_hour 51 = .ok (.getfield 7, 3) := dk_180 0 7 (dk_at dksX6_hour_2 3 rfl rfl)
theorem dX6_hour_54 : decode cX6_hour 54 = .ok (.bipush 7, 2) := dk_16 7 (dk_at dksX6_hour_2 6 rfl rfl)
theorem dX6_hour_56 : decode cX6_hour 56 = .ok (.iaload, 1) := dk_46 (dk_at dksX6_hour_2 8 rfl rfl)
theorem dX6_hour_57 : decode cX6_hour 57 = .ok (.if_icmp .ge 128, 3) := dk_162 0 128 (dk_at dksX6_hour_2 9 rfl rfl)
theorem dX6_hour_60 : decode cX6_hour 60 = .ok (.aload_n 0, 1) := dk_42 (dk_at dksX6_hour_2 12 rfl rfl)
theorem dX6_hour_61 : decode cX6_hour 61 = .ok (.iload_n 2, 1) := dk_28 (dk_at dksX6_hour_2 13 rfl rfl)
theorem dX6_hour_62 : decode cX6_hour 62 = .ok (.iconst 0, 1) := dk_3 (dk_at dksX6_hour_2 14 rfl rfl)
theorem dX6_hour_63 : decode cX6_hour 63 = .ok (.invokevirtual 51, 3) := dk_182 0 51 (dk_at dksX6_hour_2 15 rfl rfl)
theorem dX6_hour_66 : decode cX6_hour 66 = .ok (.istore_n 3, 1) := dk_62 (dk_at dksX6_hour_2 18 rfl rfl)
theorem dX6_hour_67 : decode cX6_hour 67 = .ok (.iload_n 3, 1) := dk_29 (dk_at dksX6_hour_2 19 rfl rfl)
theorem dX6_hour_68 : decode cX6_hour 68 = .ok (.iconst 1, 1) := dk_4 (dk_at dksX6_hour_2 20 rfl rfl)
theorem dX6_hour_69 : decode cX6_hour 69 = .ok (.if_icmp .ne 69, 3) := dk_160 0 69 (dk_at dksX6_hour_2 21 rfl rfl)
theorem dX6_hour_72 : decode cX6_hour 72 = .ok (.aload_n 0, 1) := dk_42 (dk_at dksX6_hour_3 0 rfl rfl)
theorem dX6_hour_73 : decode cX6_hour 73 = .ok (.iload_n 2, 1) := dk_28 (dk_at dksX6_hour_3 1 rfl rfl)
theorem dX6_hour_74 : decode cX6_hour 74 = .ok (.bipush 6, 2) := dk_16 6 (dk_at dksX6_hour_3 2 rfl rfl)
theorem dX6_hour_76 : decode cX6_hour 76 = .ok (.invokevirtual 51, 3) := dk_182 0 51 (dk_at dksX6_hour_3 4 rfl rfl)
theorem dX6_hour_79 : decode cX6_hour 79 = .ok (.istore 4, 2) := dk_54 4 (dk_at dksX6_hour_3 7 rfl rfl)
theorem dX6_hour_81 : decode cX6_hour 81 = .ok (.aload_n 0, 1) := dk_42 (dk_at dksX6_hour_3 9 rfl rfl)
theorem dX6_hour_82 : decode cX6_hour 82 = .ok (.iload_n 2, 1) := dk_28 (dk_at dksX6_hour_3 10 rfl rfl)
theorem dX6_hour_83 : decode cX6_hour 83 = .ok (.iconst 4, 1) := dk_7 (dk_at dksX6_hour_3 11 rfl rfl)
theorem dX6_hour_84 : decode cX6_hour 84 = .ok (.bipush 46, 2) := dk_16 46 (dk_at dksX6_hour_3 12 rfl rfl)
theorem dX6_hour_86 : decode cX6_hour 86 = .ok (.aload_n 0, 1) := dk_42 (dk_at dksX6_hour_3 14 rfl rfl)
theorem dX6_hour_87 : decode cX6_hour 87 = .ok (.iload_n 2, 1) := dk_28 (dk_at dksX6_hour_3 15 rfl rfl)
theorem dX6_hour_88 : decode cX6_hour 88 = .ok (.iconst 4, 1) := dk_7 (dk_at dksX6_hour_3 16 rfl rfl)
theorem dX6_hour_89 : decode cX6_hour 89 = .ok (.invokevirtual 51, 3) := dk_182 0 51 (dk_at dksX6_hour_3 17 rfl rfl)
theorem dX6_hour_92 : decode cX6_hour 92 = .ok (.iconst 4, 1) := dk_7 (dk_at dksX6_hour_3 20 rfl rfl)
theorem dX6_hour_93 : decode cX6_hour 93 = .ok (.iadd, 1) := dk_96 (dk_at dksX6_hour_3 21 rfl rfl)
theorem dX6_hour_94 : decode cX6_hour 94 = .ok (.invokestatic 59, 3) := dk_184 0 59 (dk_at dksX6_hour_4 0 rfl rfl)
theorem dX6_hour_97 : decode cX6_hour 97 = .ok (.invokevirtual 71, 3) := dk_182 0 71 (dk_at dksX6_hour_4 3 rfl rfl)
theorem dX6_hour_100 : decode cX6_hour 100 = .ok (.aload_n 0, 1) := dk_42 (dk_at dksX6_hour_4 6 rfl rfl)
theorem dX6_hour_101 : decode cX6_hour 101 = .ok (.iload_n 2, 1) := dk_28 (dk_at dksX6_hour_4 7 rfl rfl)
theorem dX6_hour_102 : decode cX6_hour 102 = .ok (.bipush 6, 2) := dk_16 6 (dk_at dksX6_hour_4 8 rfl rfl)
theorem dX6_hour_104 : decode cX6_hour 104 = .ok (.iload 4, 2) := dk_21 4 (dk_at dksX6_hour_4 10 rfl rfl)
theorem dX6_hour_106 : decode cX6_hour 106 = .ok (.bipush 14, 2) := dk_16 14 (dk_at dksX6_hour_4 12 rfl rfl)
theorem dX6_hour_108 : decode cX6_hour 108 = .ok (.if_icmp .le 15, 3) := dk_164 0 15 (dk_at dksX6_hour_4 14 rfl rfl)
theorem dX6_hour_111 : decode cX6_hour 111 = .ok (.bipush 14, 2) := dk_16 14 (dk_at dksX6_hour_4 17 rfl rfl)
theorem dX6_hour_113 : decode cX6_hour 113 = .ok (.iload 4, 2) := dk_21 4 (dk_at dksX6_hour_4 19 rfl rfl)
theorem dX6_hour_115 : decode cX6_hour 115 = .ok (.iconst 2, 1) := dk_5 (dk_at dksX6_hour_4 21 rfl rfl)
theorem dX6_hour_116 : decode cX6_hour 116 = .ok (.isub, 1) := dk_100 (dk_at dksX6_hour_4 22 rfl rfl)
theorem dX6_hour_117 : decode cX6_hour 117 = .ok (.invokestatic 68, 3) := dk_184 0 68 (dk_at dksX6_hour_5 0 rfl rfl)
theorem dX6_hour_120 : decode cX6_hour 120 = .ok (.goto 12, 3) := dk_167 0 12 (dk_at dksX6_hour_5 3 rfl rfl)
theorem dX6_hour_123 : decode cX6_hour 123 = .ok (.bipush 14, 2) := dk_16 14 (dk_at dksX6_hour_5 6 rfl rfl)
theorem dX6_hour_125 : decode cX6_hour 125 = .ok (.iload 4, 2) := dk_21 4 (dk_at dksX6_hour_5 8 rfl rfl)
theorem dX6_hour_127 : decode cX6_hour 127 = .ok (.iconst 2, 1) := dk_5 (dk_at dksX6_hour_5 10 rfl rfl)
theorem dX6_hour_128 : decode cX6_hour 128 = .ok (.iadd, 1) := dk_96 (dk_at dksX6_hour_5 11 rfl rfl)
theorem dX6_hour_129 : decode cX6_hour 129 = .ok (.invokestatic 59, 3) := dk_184 0 59 (dk_at dksX6_hour_5 12 rfl rfl)
theorem dX6_hour_132 : decode cX6_hour 132 = .ok (.invokevirtual 71, 3) := dk_182 0 71 (dk_at dksX6_hour_5 15 rfl rfl)
theorem dX6_hour_135 : decode cX6_hour 135 = .ok (.goto 44, 3) := dk_167 0 44 (dk_at dksX6_hour_5 18 rfl rfl)
theorem dX6_hour_138 : decode cX6_hour 138 = .ok (.iload_n 3, 1) := dk_29 (dk_at dksX6_hour_5 21 rfl rfl)
theorem dX6_hour_139 : decode cX6_hour 139 = .ok (.iconst 2, 1) := dk_5 (dk_at dksX6_hour_5 22 rfl rfl)
theorem dX6_hour_140 : decode cX6_hour 140 = .ok (.if_icmp .eq 8, 3) := dk_159 0 8 (dk_at dksX6_hour_6 0 rfl rfl)
theorem dX6_hour_143 : decode cX6_hour 143 = .ok (.iload_n 3, 1) := dk_29 (dk_at dksX6_hour_6 3 rfl rfl)
theorem dX6_hour_144 : decode cX6_hour 144 = .ok (.iconst 3, 1) := dk_6 (dk_at dksX6_hour_6 4 rfl rfl)
theorem dX6_hour_145 : decode cX6_hour 145 = .ok (.if_icmp .ne 14, 3) := dk_160 0 14 (dk_at dksX6_hour_6 5 rfl rfl)
theorem dX6_hour_148 : decode cX6_hour 148 = .ok (.iload_n 1, 1) := dk_27 (dk_at dksX6_hour_6 8 rfl rfl)
theorem dX6_hour_149 : decode cX6_hour 149 = .ok (.aload_n 0, 1) := dk_42 (dk_at dksX6_hour_6 9 rfl rfl)
theorem dX6_hour_150 : decode cX6_hour 150 = .ok (.iload_n 2, 1) := dk_28 (dk_at dksX6_hour_6 10 rfl rfl)
theorem dX6_hour_151 : decode cX6_hour 151 = .ok (.invokevirtual 85, 3) := dk_182 0 85 (dk_at dksX6_hour_6 11 rfl rfl)
theorem dX6_hour_154 : decode cX6_hour 154 = .ok (.iadd, 1) := dk_96 (dk_at dksX6_hour_6 14 rfl rfl)
theorem dX6_hour_155 : decode cX6_hour 155 = .ok (.istore_n 1, 1) := dk_60 (dk_at dksX6_hour_6 15 rfl rfl)
theorem dX6_hour_156 : decode cX6_hour 156 = .ok (.goto 23, 3) := dk_167 0 23 (dk_at dksX6_hour_6 16 rfl rfl)
theorem dX6_hour_159 : decode cX6_hour 159 = .ok (.iload_n 3, 1) := dk_29 (dk_at dksX6_hour_6 19 rfl rfl)
theorem dX6_hour_160 : decode cX6_hour 160 = .ok (.iconst 4, 1) := dk_7 (dk_at dksX6_hour_6 20 rfl rfl)
theorem dX6_hour_161 : decode cX6_hour 161 = .ok (.if_icmp .ne 18, 3) := dk_160 0 18 (dk_at dksX6_hour_6 21 rfl rfl)
theorem dX6_hour_164 : decode cX6_hour 164 = .ok (.aload_n 0, 1) := dk_42 (dk_at dksX6_hour_7 0 rfl rfl)
theorem dX6_hour_165 : decode cX6_hour 165 = .ok (.getfield 7, 3) := dk_180 0 7 (dk_at dksX6_hour_7 1 rfl rfl)
theorem dX6_hour_168 : decode cX6_hour 168 = .ok (.iconst 1, 1) := dk_4 (dk_at dksX6_hour_7 4 rfl rfl)
theorem dX6_hour_169 : decode cX6_hour 169 = .ok (.iaload, 1) := dk_46 (dk_at dksX6_hour_7 5 rfl rfl)
theorem dX6_hour_170 : decode cX6_hour 170 = .ok (.iconst 1, 1) := dk_4 (dk_at dksX6_hour_7 6 rfl rfl)
theorem dX6_hour_171 : decode cX6_hour 171 = .ok (.if_icmp .ne 8, 3) := dk_160 0 8 (dk_at dksX6_hour_7 7 rfl rfl)
theorem dX6_hour_174 : decode cX6_hour 174 = .ok (.aload_n 0, 1) := dk_42 (dk_at dksX6_hour_7 10 rfl rfl)
theorem dX6_hour_175 : decode cX6_hour 175 = .ok (.iload_n 2, 1) := dk_28 (dk_at dksX6_hour_7 11 rfl rfl)
theorem dX6_hour_176 : decode cX6_hour 176 = .ok (.invokevirtual 88, 3) := dk_182 0 88 (dk_at dksX6_hour_7 12 rfl rfl)
theorem dX6_hour_179 : decode cX6_hour 179 = .ok (.iinc 2 1, 3) := dk_132 2 1 (dk_at dksX6_hour_7 15 rfl rfl)
theorem dX6_hour_182 : decode cX6_hour 182 = .ok (.goto (-133), 3) := dk_167 255 123 (dk_at dksX6_hour_7 18 rfl rfl)
theorem dX6_hour_185 : decode cX6_hour 185 = .ok (.aload_n 0, 1) := dk_42 (dk_at dksX6_hour_7 21 rfl rfl)
theorem dX6_hour_186 : decode cX6_hour 186 = .ok (.getfield 7, 3) := dk_180 0 7 (dk_at dksX6_hour_8 0 rfl rfl)
theorem dX6_hour_189 : decode cX6_hour 189 = .ok (.iconst 1, 1) := dk_4 (dk_at dksX6_hour_8 3 rfl rfl)
theorem dX6_hour_190 : decode cX6_hour 190 = .ok (.iaload, 1) := dk_46 (dk_at dksX6_hour_8 4 rfl rfl)
theorem dX6_hour_191 : decode cX6_hour 191 = .ok (.iconst 1, 1) := dk_4 (dk_at dksX6_hour_8 5 rfl rfl)
theorem dX6_hour_192 : decode cX6_hour 192 = .ok (.if_icmp .ne 57, 3) := dk_160 0 57 (dk_at dksX6_hour_8 6 rfl rfl)
theorem dX6_hour_195 : decode cX6_hour 195 = .ok (.aload_n 0, 1) := dk_42 (dk_at dksX6_hour_8 9 rfl rfl)
theorem dX6_hour_196 : decode cX6_hour 196 = .ok (.getfield 7, 3) := dk_180 0 7 (dk_at dksX6_hour_8 10 rfl rfl)
theorem dX6_hour_199 : decode cX6_hour 199 = .ok (.iconst 2, 1) := dk_5 (dk_at dksX6_hour_8 13 rfl rfl)
theorem dX6_hour_200 : decode cX6_hour 200 = .ok (.dup2, 1) := dk_92 (dk_at dksX6_hour_8 14 rfl rfl)
theorem dX6_hour_201 : decode cX6_hour 201 = .ok (.iaload, 1) := dk_46 (dk_at dksX6_hour_8 15 rfl rfl)
theorem dX6_hour_202 : decode cX6_hour 202 = .ok (.iconst 1, 1) := dk_4 (dk_at dksX6_hour_8 16 rfl rfl)
theorem dX6_hour_203 : decode cX6_hour 203 = .ok (.iadd, 1) := dk_96 (dk_at dksX6_hour_8 17 rfl rfl)
theorem dX6_hour_204 : decode cX6_hour 204 = .ok (.iastore, 1) := dk_79 (dk_at dksX6_hour_8 18 rfl rfl)
theorem dX6_hour_205 : decode cX6_hour 205 = .ok (.aload_n 0, 1) := dk_42 (dk_at dksX6_hour_8 19 rfl rfl)
theorem dX6_hour_206 : decode cX6_hour 206 = .ok (.invokevirtual 92, 3) := dk_182 0 92 (dk_at dksX6_hour_8 20 rfl rfl)
theorem dX6_hour_209 : decode cX6_hour 209 = .ok (.istore_n 2, 1) := dk_61 (dk_at dksX6_hour_8 23 rfl rfl)
theorem dX6_hour_210 : decode cX6_hour 210 = .ok (.aload_n 0, 1) := dk_42 (dk_at dksX6_hour_9 0 rfl rfl)
theorem dX6_hour_211 : decode cX6_hour 211 = .ok (.getfield 7, 3) := dk_180 0 7 (dk_at dksX6_hour_9 1 rfl rfl)
theorem dX6_hour_214 : decode cX6_hour 214 = .ok (.iconst 1, 1) := dk_4 (dk_at dksX6_hour_9 4 rfl rfl)
theorem dX6_hour_215 : decode cX6_hour 215 = .ok (.iload_n 2, 1) := dk_28 (dk_at dksX6_hour_9 5 rfl rfl)
theorem dX6_hour_216 : decode cX6_hour 216 = .ok (.ifCond .le 7, 3) := dk_158 0 7 (dk_at dksX6_hour_9 6 rfl rfl)
theorem dX6_hour_219 : decode cX6_hour 219 = .ok (.iconst 0, 1) := dk_3 (dk_at dksX6_hour_9 9 rfl rfl)
theorem dX6_hour_220 : decode cX6_hour 220 = .ok (.goto 4, 3) := dk_167 0 4 (dk_at dksX6_hour_9 10 rfl rfl)
theorem dX6_hour_223 : decode cX6_hour 223 = .ok (.iconst 1, 1) := dk_4 (dk_at dksX6_hour_9 13 rfl rfl)
theorem dX6_hour_224 : decode cX6_hour 224 = .ok (.iastore, 1) := dk_79 (dk_at dksX6_hour_9 14 rfl rfl)
theorem dX6_hour_225 : decode cX6_hour 225 = .ok (.aload_n 0, 1) := dk_42 (dk_at dksX6_hour_9 15 rfl rfl)
theorem dX6_hour_226 : decode cX6_hour 226 = .ok (.getfield 7, 3) := dk_180 0 7 (dk_at dksX6_hour_9 16 rfl rfl)
theorem dX6_hour_229 : decode cX6_hour 229 = .ok (.iconst 2, 1) := dk_5 (dk_at dksX6_hour_9 19 rfl rfl)
theorem dX6_hour_230 : decode cX6_hour 230 = .ok (.iload_n 2, 1) := dk_28 (dk_at dksX6_hour_9 20 rfl rfl)
theorem dX6_hour_231 : decode cX6_hour 231 = .ok (.ifCond .le 7, 3) := dk_158 0 7 (dk_at dksX6_hour_9 21 rfl rfl)
theorem dX6_hour_234 : decode cX6_hour 234 = .ok (.iconst 0, 1) := dk_3 (dk_at dksX6_hour_10 0 rfl rfl)
theorem dX6_hour_235 : decode cX6_hour 235 = .ok (.goto 9, 3) := dk_167 0 9 (dk_at dksX6_hour_10 1 rfl rfl)
theorem dX6_hour_238 : decode cX6_hour 238 = .ok (.aload_n 0, 1) := dk_42 (dk_at dksX6_hour_10 4 rfl rfl)
theorem dX6_hour_239 : decode cX6_hour 239 = .ok (.getfield 7, 3) := dk_180 0 7 (dk_at dksX6_hour_10 5 rfl rfl)
theorem dX6_hour_242 : decode cX6_hour 242 = .ok (.iconst 2, 1) := dk_5 (dk_at dksX6_hour_10 8 rfl rfl)
theorem dX6_hour_243 : decode cX6_hour 243 = .ok (.iaload, 1) := dk_46 (dk_at dksX6_hour_10 9 rfl rfl)
theorem dX6_hour_244 : decode cX6_hour 244 = .ok (.iastore, 1) := dk_79 (dk_at dksX6_hour_10 10 rfl rfl)
theorem dX6_hour_245 : decode cX6_hour 245 = .ok (.iload_n 1, 1) := dk_27 (dk_at dksX6_hour_10 11 rfl rfl)
theorem dX6_hour_246 : decode cX6_hour 246 = .ok (.iload_n 2, 1) := dk_28 (dk_at dksX6_hour_10 12 rfl rfl)
theorem dX6_hour_247 : decode cX6_hour 247 = .ok (.iadd, 1) := dk_96 (dk_at dksX6_hour_10 13 rfl rfl)
theorem dX6_hour_248 : decode cX6_hour 248 = .ok (.istore_n 1, 1) := dk_60 (dk_at dksX6_hour_10 14 rfl rfl)
theorem dX6_hour_249 : decode cX6_hour 249 = .ok (.iload_n 1, 1) := dk_27 (dk_at dksX6_hour_10 15 rfl rfl)
theorem dX6_hour_250 : decode cX6_hour 250 = .ok (.ireturn, 1) := dk_172 (dk_at dksX6_hour_10 16 rfl rfl)
abbrev cX6_grows : ByteArray := prog_11_method_25_code
def yX6_grows : MethodName := ⟨RX6, "grows", "(I)I"⟩
def dkwX6_grows_13 : List UInt8 := [182, 0, 75, 4, 172]
abbrev dktX6_grows_13 : List UInt8 := dkwX6_grows_13 ++ []
def dkwX6_grows_12 : List UInt8 := [182, 0, 71, 42, 180, 0, 7, 16, 11, 92, 46, 42, 27, 182, 0, 55, 96, 79, 42, 16, 6, 27]
abbrev dktX6_grows_12 : List UInt8 := dkwX6_grows_12 ++ dktX6_grows_13
def dkwX6_grows_11 : List UInt8 := [182, 0, 71, 21, 10, 16, 42, 163, 0, 5, 3, 172, 42, 27, 3, 16, 6, 182, 0, 71, 42, 27, 4, 2]
abbrev dktX6_grows_11 : List UInt8 := dkwX6_grows_11 ++ dktX6_grows_12
def dkwX6_grows_10 : List UInt8 := [21, 9, 6, 21, 7, 104, 100, 184, 0, 68, 167, 0, 12, 16, 20, 21, 9, 4, 96, 184, 0, 59]
abbrev dktX6_grows_10 : List UInt8 := dkwX6_grows_10 ++ dktX6_grows_11
def dkwX6_grows_9 : List UInt8 := [27, 16, 6, 16, 10, 21, 10, 184, 0, 68, 182, 0, 71, 42, 27, 16, 7, 21, 7, 158, 0, 17, 3]
abbrev dktX6_grows_9 : List UInt8 := dkwX6_grows_9 ++ dktX6_grows_10
def dkwX6_grows_8 : List UInt8 := [182, 0, 51, 6, 160, 0, 7, 4, 167, 0, 4, 3, 96, 5, 21, 6, 104, 100, 21, 7, 100, 54, 10, 42]
abbrev dktX6_grows_8 : List UInt8 := dkwX6_grows_8 ++ dktX6_grows_9
def dkwX6_grows_7 : List UInt8 := [16, 6, 182, 0, 51, 28, 96, 21, 9, 16, 8, 161, 0, 7, 4, 167, 0, 4, 3, 96, 42, 27, 3]
abbrev dktX6_grows_7 : List UInt8 := dkwX6_grows_7 ++ dktX6_grows_8
def dkwX6_grows_6 : List UInt8 := [182, 0, 51, 21, 8, 100, 184, 0, 68, 167, 0, 9, 42, 27, 7, 182, 0, 51, 182, 0, 71, 42, 27]
abbrev dktX6_grows_6 : List UInt8 := dkwX6_grows_6 ++ dktX6_grows_7
def dkwX6_grows_5 : List UInt8 := [180, 0, 7, 16, 12, 92, 46, 21, 4, 96, 79, 42, 27, 7, 21, 8, 158, 0, 20, 16, 12, 42, 27, 7]
abbrev dktX6_grows_5 : List UInt8 := dkwX6_grows_5 ++ dktX6_grows_6
def dkwX6_grows_4 : List UInt8 := [100, 21, 5, 100, 182, 0, 71, 42, 27, 6, 42, 27, 6, 182, 0, 51, 21, 5, 96, 182, 0, 71, 42]
abbrev dktX6_grows_4 : List UInt8 := dkwX6_grows_4 ++ dktX6_grows_5
def dkwX6_grows_3 : List UInt8 := [27, 8, 16, 100, 42, 27, 8, 182, 0, 51, 28, 96, 184, 0, 59, 182, 0, 71, 42, 27, 5, 29, 21, 4]
abbrev dktX6_grows_3 : List UInt8 := dkwX6_grows_3 ++ dktX6_grows_4
def dkwX6_grows_2 : List UInt8 := [21, 6, 42, 27, 4, 182, 0, 65, 100, 184, 0, 68, 54, 8, 42, 27, 16, 7, 182, 0, 51, 54, 9, 42]
abbrev dktX6_grows_2 : List UInt8 := dkwX6_grows_2 ++ dktX6_grows_3
def dkwX6_grows_1 : List UInt8 := [104, 17, 1, 44, 108, 54, 5, 42, 27, 3, 182, 0, 65, 54, 6, 42, 27, 5, 182, 0, 65, 54, 7, 3]
abbrev dktX6_grows_1 : List UInt8 := dkwX6_grows_1 ++ dktX6_grows_2
def dkwX6_grows_0 : List UInt8 := [42, 27, 182, 0, 62, 61, 42, 27, 5, 182, 0, 51, 62, 29, 28, 104, 17, 3, 32, 108, 54, 4, 29, 28]
abbrev dktX6_grows_0 : List UInt8 := dkwX6_grows_0 ++ dktX6_grows_1
theorem dksX6_grows_0 : cX6_grows.data.toList.drop 0 = dktX6_grows_0 := by decide +kernel
theorem dksX6_grows_1 : cX6_grows.data.toList.drop 24 = dktX6_grows_1 := dk_seg dksX6_grows_0 24 rfl rfl
theorem dksX6_grows_2 : cX6_grows.data.toList.drop 48 = dktX6_grows_2 := dk_seg dksX6_grows_1 24 rfl rfl
theorem dksX6_grows_3 : cX6_grows.data.toList.drop 72 = dktX6_grows_3 := dk_seg dksX6_grows_2 24 rfl rfl
theorem dksX6_grows_4 : cX6_grows.data.toList.drop 96 = dktX6_grows_4 := dk_seg dksX6_grows_3 24 rfl rfl
theorem dksX6_grows_5 : cX6_grows.data.toList.drop 119 = dktX6_grows_5 := dk_seg dksX6_grows_4 23 rfl rfl
theorem dksX6_grows_6 : cX6_grows.data.toList.drop 143 = dktX6_grows_6 := dk_seg dksX6_grows_5 24 rfl rfl
theorem dksX6_grows_7 : cX6_grows.data.toList.drop 166 = dktX6_grows_7 := dk_seg dksX6_grows_6 23 rfl rfl
theorem dksX6_grows_8 : cX6_grows.data.toList.drop 189 = dktX6_grows_8 := dk_seg dksX6_grows_7 23 rfl rfl
theorem dksX6_grows_9 : cX6_grows.data.toList.drop 213 = dktX6_grows_9 := dk_seg dksX6_grows_8 24 rfl rfl
theorem dksX6_grows_10 : cX6_grows.data.toList.drop 236 = dktX6_grows_10 := dk_seg dksX6_grows_9 23 rfl rfl
theorem dksX6_grows_11 : cX6_grows.data.toList.drop 258 = dktX6_grows_11 := dk_seg dksX6_grows_10 22 rfl rfl
theorem dksX6_grows_12 : cX6_grows.data.toList.drop 282 = dktX6_grows_12 := dk_seg dksX6_grows_11 24 rfl rfl
theorem dksX6_grows_13 : cX6_grows.data.toList.drop 304 = dktX6_grows_13 := dk_seg dksX6_grows_12 22 rfl rfl
theorem dX6_grows_0 : decode cX6_grows 0 = .ok (.aload_n 0, 1) := dk_42 (dk_at dksX6_grows_0 0 rfl rfl)
theorem dX6_grows_1 : decode cX6_grows 1 = .ok (.iload_n 1, 1) := dk_27 (dk_at dksX6_grows_0 1 rfl rfl)
theorem dX6_grows_2 : decode cX6_grows 2 = .ok (.invokevirtual 62, 3) := dk_182 0 62 (dk_at dksX6_grows_0 2 rfl rfl)
theorem dX6_grows_5 : decode cX6_grows 5 = .ok (.istore_n 2, 1) := dk_61 (dk_at dksX6_grows_0 5 rfl rfl)
theorem dX6_grows_6 : decode cX6_grows 6 = .ok (.aload_n 0, 1) := dk_42 (dk_at dksX6_grows_0 6 rfl rfl)
theorem dX6_grows_7 : decode cX6_grows 7 = .ok (.iload_n 1, 1) := dk_27 (dk_at dksX6_grows_0 7 rfl rfl)
theorem dX6_grows_8 : decode cX6_grows 8 = .ok (.iconst 2, 1) := dk_5 (dk_at dksX6_grows_0 8 rfl rfl)
theorem dX6_grows_9 : decode cX6_grows 9 = .ok (.invokevirtual 51, 3) := dk_182 0 51 (dk_at dksX6_grows_0 9 rfl rfl)
theorem dX6_grows_12 : decode cX6_grows 12 = .ok (.istore_n 3, 1) := dk_62 (dk_at dksX6_grows_0 12 rfl rfl)
theorem dX6_grows_13 : decode cX6_grows 13 = .ok (.iload_n 3, 1) := dk_29 (dk_at dksX6_grows_0 13 rfl rfl)
theorem dX6_grows_14 : decode cX6_grows 14 = .ok (.iload_n 2, 1) := dk_28 (dk_at dksX6_grows_0 14 rfl rfl)
theorem dX6_grows_15 : decode cX6_grows 15 = .ok (.imul, 1) := dk_104 (dk_at dksX6_grows_0 15 rfl rfl)
theorem dX6_grows_16 : decode cX6_grows 16 = .ok (.sipush 800, 3) := dk_17 3 32 (dk_at dksX6_grows_0 16 rfl rfl)
theorem dX6_grows_19 : decode cX6_grows 19 = .ok (.idiv, 1) := dk_108 (dk_at dksX6_grows_0 19 rfl rfl)
theorem dX6_grows_20 : decode cX6_grows 20 = .ok (.istore 4, 2) := dk_54 4 (dk_at dksX6_grows_0 20 rfl rfl)
theorem dX6_grows_22 : decode cX6_grows 22 = .ok (.iload_n 3, 1) := dk_29 (dk_at dksX6_grows_0 22 rfl rfl)
theorem dX6_grows_23 : decode cX6_grows 23 = .ok (.iload_n 2, 1) := dk_28 (dk_at dksX6_grows_0 23 rfl rfl)
theorem dX6_grows_24 : decode cX6_grows 24 = .ok (.imul, 1) := dk_104 (dk_at dksX6_grows_1 0 rfl rfl)
theorem dX6_grows_25 : decode cX6_grows 25 = .ok (.sipush 300, 3) := dk_17 1 44 (dk_at dksX6_grows_1 1 rfl rfl)
theorem dX6_grows_28 : decode cX6_grows 28 = .ok (.idiv, 1) := dk_108 (dk_at dksX6_grows_1 4 rfl rfl)
theorem dX6_grows_29 : decode cX6_grows 29 = .ok (.istore 5, 2) := dk_54 5 (dk_at dksX6_grows_1 5 rfl rfl)
theorem dX6_grows_31 : decode cX6_grows 31 = .ok (.aload_n 0, 1) := dk_42 (dk_at dksX6_grows_1 7 rfl rfl)
theorem dX6_grows_32 : decode cX6_grows 32 = .ok (.iload_n 1, 1) := dk_27 (dk_at dksX6_grows_1 8 rfl rfl)
theorem dX6_grows_33 : decode cX6_grows 33 = .ok (.iconst 0, 1) := dk_3 (dk_at dksX6_grows_1 9 rfl rfl)
theorem dX6_grows_34 : decode cX6_grows 34 = .ok (.invokevirtual 65, 3) := dk_182 0 65 (dk_at dksX6_grows_1 10 rfl rfl)
theorem dX6_grows_37 : decode cX6_grows 37 = .ok (.istore 6, 2) := dk_54 6 (dk_at dksX6_grows_1 13 rfl rfl)
theorem dX6_grows_39 : decode cX6_grows 39 = .ok (.aload_n 0, 1) := dk_42 (dk_at dksX6_grows_1 15 rfl rfl)
theorem dX6_grows_40 : decode cX6_grows 40 = .ok (.iload_n 1, 1) := dk_27 (dk_at dksX6_grows_1 16 rfl rfl)
theorem dX6_grows_41 : decode cX6_grows 41 = .ok (.iconst 2, 1) := dk_5 (dk_at dksX6_grows_1 17 rfl rfl)
theorem dX6_grows_42 : decode cX6_grows 42 = .ok (.invokevirtual 65, 3) := dk_182 0 65 (dk_at dksX6_grows_1 18 rfl rfl)
theorem dX6_grows_45 : decode cX6_grows 45 = .ok (.istore 7, 2) := dk_54 7 (dk_at dksX6_grows_1 21 rfl rfl)
theorem dX6_grows_47 : decode cX6_grows 47 = .ok (.iconst 0, 1) := dk_3 (dk_at dksX6_grows_1 23 rfl rfl)
theorem dX6_grows_48 : decode cX6_grows 48 = .ok (.iload 6, 2) := dk_21 6 (dk_at dksX6_grows_2 0 rfl rfl)
theorem dX6_grows_50 : decode cX6_grows 50 = .ok (.aload_n 0, 1) := dk_42 (dk_at dksX6_grows_2 2 rfl rfl)
theorem dX6_grows_51 : decode cX6_grows 51 = .ok (.iload_n 1, 1) := dk_27 (dk_at dksX6_grows_2 3 rfl rfl)
theorem dX6_grows_52 : decode cX6_grows 52 = .ok (.iconst 1, 1) := dk_4 (dk_at dksX6_grows_2 4 rfl rfl)
theorem dX6_grows_53 : decode cX6_grows 53 = .ok (.invokevirtual 65, 3) := dk_182 0 65 (dk_at dksX6_grows_2 5 rfl rfl)
theorem dX6_grows_56 : decode cX6_grows 56 = .ok (.isub, 1) := dk_100 (dk_at dksX6_grows_2 8 rfl rfl)
theorem dX6_grows_57 : decode cX6_grows 57 = .ok (.invokestatic 68, 3) := dk_184 0 68 (dk_at dksX6_grows_2 9 rfl rfl)
theorem dX6_grows_60 : decode cX6_grows 60 = .ok (.istore 8, 2) := dk_54 8 (dk_at dksX6_grows_2 12 rfl rfl)
theorem dX6_grows_62 : decode cX6_grows 62 = .ok (.aload_n 0, 1) := dk_42 (dk_at dksX6_grows_2 14 rfl rfl)
theorem dX6_grows_63 : decode cX6_grows 63 = .ok (.iload_n 1, 1) := dk_27 (dk_at dksX6_grows_2 15 rfl rfl)
theorem dX6_grows_64 : decode cX6_grows 64 = .ok (.bipush 7, 2) := dk_16 7 (dk_at dksX6_grows_2 16 rfl rfl)
theorem dX6_grows_66 : decode cX6_grows 66 = .ok (.invokevirtual 51, 3) := dk_182 0 51 (dk_at dksX6_grows_2 18 rfl rfl)
theorem dX6_grows_69 : decode cX6_grows 69 = .ok (.istore 9, 2) := dk_54 9 (dk_at dksX6_grows_2 21 rfl rfl)
theorem dX6_grows_71 : decode cX6_grows 71 = .ok (.aload_n 0, 1) := dk_42 (dk_at dksX6_grows_2 23 rfl rfl)
theorem dX6_grows_72 : decode cX6_grows 72 = .ok (.iload_n 1, 1) := dk_27 (dk_at dksX6_grows_3 0 rfl rfl)
theorem dX6_grows_73 : decode cX6_grows 73 = .ok (.iconst 5, 1) := dk_8 (dk_at dksX6_grows_3 1 rfl rfl)
theorem dX6_grows_74 : decode cX6_grows 74 = .ok (.bipush 100, 2) := dk_16 100 (dk_at dksX6_grows_3 2 rfl rfl)
theorem dX6_grows_76 : decode cX6_grows 76 = .ok (.aload_n 0, 1) := dk_42 (dk_at dksX6_grows_3 4 rfl rfl)
theorem dX6_grows_77 : decode cX6_grows 77 = .ok (.iload_n 1, 1) := dk_27 (dk_at dksX6_grows_3 5 rfl rfl)
theorem dX6_grows_78 : decode cX6_grows 78 = .ok (.iconst 5, 1) := dk_8 (dk_at dksX6_grows_3 6 rfl rfl)
theorem dX6_grows_79 : decode cX6_grows 79 = .ok (.invokevirtual 51, 3) := dk_182 0 51 (dk_at dksX6_grows_3 7 rfl rfl)
theorem dX6_grows_82 : decode cX6_grows 82 = .ok (.iload_n 2, 1) := dk_28 (dk_at dksX6_grows_3 10 rfl rfl)
theorem dX6_grows_83 : decode cX6_grows 83 = .ok (.iadd, 1) := dk_96 (dk_at dksX6_grows_3 11 rfl rfl)
theorem dX6_grows_84 : decode cX6_grows 84 = .ok (.invokestatic 59, 3) := dk_184 0 59 (dk_at dksX6_grows_3 12 rfl rfl)
theorem dX6_grows_87 : decode cX6_grows 87 = .ok (.invokevirtual 71, 3) := dk_182 0 71 (dk_at dksX6_grows_3 15 rfl rfl)
theorem dX6_grows_90 : decode cX6_grows 90 = .ok (.aload_n 0, 1) := dk_42 (dk_at dksX6_grows_3 18 rfl rfl)
theorem dX6_grows_91 : decode cX6_grows 91 = .ok (.iload_n 1, 1) := dk_27 (dk_at dksX6_grows_3 19 rfl rfl)
theorem dX6_grows_92 : decode cX6_grows 92 = .ok (.iconst 2, 1) := dk_5 (dk_at dksX6_grows_3 20 rfl rfl)
theorem dX6_grows_93 : decode cX6_grows 93 = .ok (.iload_n 3, 1) := dk_29 (dk_at dksX6_grows_3 21 rfl rfl)
theorem dX6_grows_94 : decode cX6_grows 94 = .ok (.iload 4, 2) := dk_21 4 (dk_at dksX6_grows_3 22 rfl rfl)
theorem dX6_grows_96 : decode cX6_grows 96 = .ok (.isub, 1) := dk_100 (dk_at dksX6_grows_4 0 rfl rfl)
theorem dX6_grows_97 : decode cX6_grows 97 = .ok (.iload 5, 2) := dk_21 5 (dk_at dksX6_grows_4 1 rfl rfl)
theorem dX6_grows_99 : decode cX6_grows 99 = .ok (.isub, 1) := dk_100 (dk_at dksX6_grows_4 3 rfl rfl)
theorem dX6_grows_100 : decode cX6_grows 100 = .ok (.invokevirtual 71, 3) := dk_182 0 71 (dk_at dksX6_grows_4 4 rfl rfl)
theorem dX6_grows_103 : decode cX6_grows 103 = .ok (.aload_n 0, 1) := dk_42 (dk_at dksX6_grows_4 7 rfl rfl)
theorem dX6_grows_104 : decode cX6_grows 104 = .ok (.iload_n 1, 1) := dk_27 (dk_at dksX6_grows_4 8 rfl rfl)
theorem dX6_grows_105 : decode cX6_grows 105 = .ok (.iconst 3, 1) := dk_6 (dk_at dksX6_grows_4 9 rfl rfl)
theorem dX6_grows_106 : decode cX6_grows 106 = .ok (.aload_n 0, 1) := dk_42 (dk_at dksX6_grows_4 10 rfl rfl)
theorem dX6_grows_107 : decode cX6_grows 107 = .ok (.iload_n 1, 1) := dk_27 (dk_at dksX6_grows_4 11 rfl rfl)
theorem dX6_grows_108 : decode cX6_grows 108 = .ok (.iconst 3, 1) := dk_6 (dk_at dksX6_grows_4 12 rfl rfl)
theorem dX6_grows_109 : decode cX6_grows 109 = .ok (.invokevirtual 51, 3) := dk_182 0 51 (dk_at dksX6_grows_4 13 rfl rfl)
theorem dX6_grows_112 : decode cX6_grows 112 = .ok (.iload 5, 2) := dk_21 5 (dk_at dksX6_grows_4 16 rfl rfl)
theorem dX6_grows_114 : decode cX6_grows 114 = .ok (.iadd, 1) := dk_96 (dk_at dksX6_grows_4 18 rfl rfl)
theorem dX6_grows_115 : decode cX6_grows 115 = .ok (.invokevirtual 71, 3) := dk_182 0 71 (dk_at dksX6_grows_4 19 rfl rfl)
theorem dX6_grows_118 : decode cX6_grows 118 = .ok (.aload_n 0, 1) := dk_42 (dk_at dksX6_grows_4 22 rfl rfl)
theorem dX6_grows_119 : decode cX6_grows 119 = .ok (.getfield 7, 3) := dk_180 0 7 (dk_at dksX6_grows_5 0 rfl rfl)
theorem dX6_grows_122 : decode cX6_grows 122 = .ok (.bipush 12, 2) := dk_16 12 (dk_at dksX6_grows_5 3 rfl rfl)
theorem dX6_grows_124 : decode cX6_grows 124 = .ok (.dup2, 1) := dk_92 (dk_at dksX6_grows_5 5 rfl rfl)
theorem dX6_grows_125 : decode cX6_grows 125 = .ok (.iaload, 1) := dk_46 (dk_at dksX6_grows_5 6 rfl rfl)
theorem dX6_grows_126 : decode cX6_grows 126 = .ok (.iload 4, 2) := dk_21 4 (dk_at dksX6_grows_5 7 rfl rfl)
theorem dX6_grows_128 : decode cX6_grows 128 = .ok (.iadd, 1) := dk_96 (dk_at dksX6_grows_5 9 rfl rfl)
theorem dX6_grows_129 : decode cX6_grows 129 = .ok (.iastore, 1) := dk_79 (dk_at dksX6_grows_5 10 rfl rfl)
theorem dX6_grows_130 : decode cX6_grows 130 = .ok (.aload_n 0, 1) := dk_42 (dk_at dksX6_grows_5 11 rfl rfl)
theorem dX6_grows_131 : decode cX6_grows 131 = .ok (.iload_n 1, 1) := dk_27 (dk_at dksX6_grows_5 12 rfl rfl)
theorem dX6_grows_132 : decode cX6_grows 132 = .ok (.iconst 4, 1) := dk_7 (dk_at dksX6_grows_5 13 rfl rfl)
theorem dX6_grows_133 : decode cX6_grows 133 = .ok (.iload 8, 2) := dk_21 8 (dk_at dksX6_grows_5 14 rfl rfl)
theorem dX6_grows_135 : decode cX6_grows 135 = .ok (.ifCond .le 20, 3) := dk_158 0 20 (dk_at dksX6_grows_5 16 rfl rfl)
theorem dX6_grows_138 : decode cX6_grows 138 = .ok (.bipush 12, 2) := dk_16 12 (dk_at dksX6_grows_5 19 rfl rfl)
theorem dX6_grows_140 : decode cX6_grows 140 = .ok (.aload_n 0, 1) := dk_42 (dk_at dksX6_grows_5 21 rfl rfl)
theorem dX6_grows_141 : decode cX6_grows 141 = .ok (.iload_n 1, 1) := dk_27 (dk_at dksX6_grows_5 22 rfl rfl)
theorem dX6_grows_142 : decode cX6_grows 142 = .ok (.iconst 4, 1) := dk_7 (dk_at dksX6_grows_5 23 rfl rfl)
theorem dX6_grows_143 : decode cX6_grows 143 = .ok (.invokevirtual 51, 3) := dk_182 0 51 (dk_at dksX6_grows_6 0 rfl rfl)
theorem dX6_grows_146 : decode cX6_grows 146 = .ok (.iload 8, 2) := dk_21 8 (dk_at dksX6_grows_6 3 rfl rfl)
theorem dX6_grows_148 : decode cX6_grows 148 = .ok (.isub, 1) := dk_100 (dk_at dksX6_grows_6 5 rfl rfl)
theorem dX6_grows_149 : decode cX6_grows 149 = .ok (.invokestatic 68, 3) := dk_184 0 68 (dk_at dksX6_grows_6 6 rfl rfl)
theorem dX6_grows_152 : decode cX6_grows 152 = .ok (.goto 9, 3) := dk_167 0 9 (dk_at dksX6_grows_6 9 rfl rfl)
theorem dX6_grows_155 : decode cX6_grows 155 = .ok (.aload_n 0, 1) := dk_42 (dk_at dksX6_grows_6 12 rfl rfl)
theorem dX6_grows_156 : decode cX6_grows 156 = .ok (.iload_n 1, 1) := dk_27 (dk_at dksX6_grows_6 13 rfl rfl)
theorem dX6_grows_157 : decode cX6_grows 157 = .ok (.iconst 4, 1) := dk_7 (dk_at dksX6_grows_6 14 rfl rfl)
theorem dX6_grows_158 : decode cX6_grows 158 = .ok (.invokevirtual 51, 3) := dk_182 0 51 (dk_at dksX6_grows_6 15 rfl rfl)
theorem dX6_grows_161 : decode cX6_grows 161 = .ok (.invokevirtual 71, 3) := dk_182 0 71 (dk_at dksX6_grows_6 18 rfl rfl)
theorem dX6_grows_164 : decode cX6_grows 164 = .ok (.aload_n 0, 1) := dk_42 (dk_at dksX6_grows_6 21 rfl rfl)
theorem dX6_grows_165 : decode cX6_grows 165 = .ok (.iload_n 1, 1) := dk_27 (dk_at dksX6_grows_6 22 rfl rfl)
theorem dX6_grows_166 : decode cX6_grows 166 = .ok (.bipush 6, 2) := dk_16 6 (dk_at dksX6_grows_7 0 rfl rfl)
theorem dX6_grows_168 : decode cX6_grows 168 = .ok (.invokevirtual 51, 3) := dk_182 0 51 (dk_at dksX6_grows_7 2 rfl rfl)
theorem dX6_grows_171 : decode cX6_grows 171 = .ok (.iload_n 2, 1) := dk_28 (dk_at dksX6_grows_7 5 rfl rfl)
theorem dX6_grows_172 : decode cX6_grows 172 = .ok (.iadd, 1) := dk_96 (dk_at dksX6_grows_7 6 rfl rfl)
theorem dX6_grows_173 : decode cX6_grows 173 = .ok (.iload 9, 2) := dk_21 9 (dk_at dksX6_grows_7 7 rfl rfl)
theorem dX6_grows_175 : decode cX6_grows 175 = .ok (.bipush 8, 2) := dk_16 8 (dk_at dksX6_grows_7 9 rfl rfl)
theorem dX6_grows_177 : decode cX6_grows 177 = .ok (.if_icmp .lt 7, 3) := dk_161 0 7 (dk_at dksX6_grows_7 11 rfl rfl)
theorem dX6_grows_180 : decode cX6_grows 180 = .ok (.iconst 1, 1) := dk_4 (dk_at dksX6_grows_7 14 rfl rfl)
theorem dX6_grows_181 : decode cX6_grows 181 = .ok (.goto 4, 3) := dk_167 0 4 (dk_at dksX6_grows_7 15 rfl rfl)
theorem dX6_grows_184 : decode cX6_grows 184 = .ok (.iconst 0, 1) := dk_3 (dk_at dksX6_grows_7 18 rfl rfl)
theorem dX6_grows_185 : decode cX6_grows 185 = .ok (.iadd, 1) := dk_96 (dk_at dksX6_grows_7 19 rfl rfl)
theorem dX6_grows_186 : decode cX6_grows 186 = .ok (.aload_n 0, 1) := dk_42 (dk_at dksX6_grows_7 20 rfl rfl)
theorem dX6_grows_187 : decode cX6_grows 187 = .ok (.iload_n 1, 1) := dk_27 (dk_at dksX6_grows_7 21 rfl rfl)
theorem dX6_grows_188 : decode cX6_grows 188 = .ok (.iconst 0, 1) := dk_3 (dk_at dksX6_grows_7 22 rfl rfl)
theorem dX6_grows_189 : decode cX6_grows 189 = .ok (.invokevirtual 51, 3) := dk_182 0 51 (dk_at dksX6_grows_8 0 rfl rfl)
theorem dX6_grows_192 : decode cX6_grows 192 = .ok (.iconst 3, 1) := dk_6 (dk_at dksX6_grows_8 3 rfl rfl)
theorem dX6_grows_193 : decode cX6_grows 193 = .ok (.if_icmp .ne 7, 3) := dk_160 0 7 (dk_at dksX6_grows_8 4 rfl rfl)
theorem dX6_grows_196 : decode cX6_grows 196 = .ok (.iconst 1, 1) := dk_4 (dk_at dksX6_grows_8 7 rfl rfl)
theorem dX6_grows_197 : decode cX6_grows 197 = .ok (.goto 4, 3) := dk_167 0 4 (dk_at dksX6_grows_8 8 rfl rfl)
theorem dX6_grows_200 : decode cX6_grows 200 = .ok (.iconst 0, 1) := dk_3 (dk_at dksX6_grows_8 11 rfl rfl)
theorem dX6_grows_201 : decode cX6_grows 201 = .ok (.iadd, 1) := dk_96 (dk_at dksX6_grows_8 12 rfl rfl)
theorem dX6_grows_202 : decode cX6_grows 202 = .ok (.iconst 2, 1) := dk_5 (dk_at dksX6_grows_8 13 rfl rfl)
theorem dX6_grows_203 : decode cX6_grows 203 = .ok (.iload 6, 2) := dk_21 6 (dk_at dksX6_grows_8 14 rfl rfl)
theorem dX6_grows_205 : decode cX6_grows 205 = .ok (.imul, 1) := dk_104 (dk_at dksX6_grows_8 16 rfl rfl)
theorem dX6_grows_206 : decode cX6_grows 206 = .ok (.isub, 1) := dk_100 (dk_at dksX6_grows_8 17 rfl rfl)
theorem dX6_grows_207 : decode cX6_grows 207 = .ok (.iload 7, 2) := dk_21 7 (dk_at dksX6_grows_8 18 rfl rfl)
theorem dX6_grows_209 : decode cX6_grows 209 = .ok (.isub, 1) := dk_100 (dk_at dksX6_grows_8 20 rfl rfl)
theorem dX6_grows_210 : decode cX6_grows 210 = .ok (.istore 10, 2) := dk_54 10 (dk_at dksX6_grows_8 21 rfl rfl)
theorem dX6_grows_212 : decode cX6_grows 212 = .ok (.aload_n 0, 1) := dk_42 (dk_at dksX6_grows_8 23 rfl rfl)
theorem dX6_grows_213 : decode cX6_grows 213 = .ok (.iload_n 1, 1) := dk_27 (dk_at dksX6_grows_9 0 rfl rfl)
theorem dX6_grows_214 : decode cX6_grows 214 = .ok (.bipush 6, 2) := dk_16 6 (dk_at dksX6_grows_9 1 rfl rfl)
theorem dX6_grows_216 : decode cX6_grows 216 = .ok (.bipush 10, 2) := dk_16 10 (dk_at dksX6_grows_9 3 rfl rfl)
theorem dX6_grows_218 : decode cX6_grows 218 = .ok (.iload 10, 2) := dk_21 10 (dk_at dksX6_grows_9 5 rfl rfl)
theorem dX6_grows_220 : decode cX6_grows 220 = .ok (.invokestatic 68, 3) := dk_184 0 68 (dk_at dksX6_grows_9 7 rfl rfl)
theorem dX6_grows_223 : decode cX6_grows 223 = .ok (.invokevirtual 71, 3) := dk_182 0 71 (dk_at dksX6_grows_9 10 rfl rfl)
theorem dX6_grows_226 : decode cX6_grows 226 = .ok (.aload_n 0, 1) := dk_42 (dk_at dksX6_grows_9 13 rfl rfl)
theorem dX6_grows_227 : decode cX6_grows 227 = .ok (.iload_n 1, 1) := dk_27 (dk_at dksX6_grows_9 14 rfl rfl)
theorem dX6_grows_228 : decode cX6_grows 228 = .ok (.bipush 7, 2) := dk_16 7 (dk_at dksX6_grows_9 15 rfl rfl)
theorem dX6_grows_230 : decode cX6_grows 230 = .ok (.iload 7, 2) := dk_21 7 (dk_at dksX6_grows_9 17 rfl rfl)
theorem dX6_grows_232 : decode cX6_grows 232 = .ok (.ifCond .le 17, 3) := dk_158 0 17 (dk_at dksX6_grows_9 19 rfl rfl)
theorem dX6_grows_235 : decode cX6_grows 235 = .ok (.iconst 0, 1) := dk_3 (dk_at dksX6_grows_9 22 rfl rfl)
theorem dX6_grows_236 : decode cX6_grows 236 = .ok (.iload 9, 2) := dk_21 9 (dk_at dksX6_grows_10 0 rfl rfl)
theorem dX6_grows_238 : decode cX6_grows 238 = .ok (.iconst 3, 1) := dk_6 (dk_at dksX6_grows_10 2 rfl rfl)
theorem dX6_grows_239 : decode cX6_grows 239 = .ok (.iload 7, 2) := dk_21 7 (dk_at dksX6_grows_10 3 rfl rfl)
theorem dX6_grows_241 : decode cX6_grows 241 = .ok (.imul, 1) := dk_104 (dk_at dksX6_grows_10 5 rfl rfl)
theorem dX6_grows_242 : decode cX6_grows 242 = .ok (.isub, 1) := dk_100 (dk_at dksX6_grows_10 6 rfl rfl)
theorem dX6_grows_243 : decode cX6_grows 243 = .ok (.invokestatic 68, 3) := dk_184 0 68 (dk_at dksX6_grows_10 7 rfl rfl)
theorem dX6_grows_246 : decode cX6_grows 246 = .ok (.goto 12, 3) := dk_167 0 12 (dk_at dksX6_grows_10 10 rfl rfl)
theorem dX6_grows_249 : decode cX6_grows 249 = .ok (.bipush 20, 2) := dk_16 20 (dk_at dksX6_grows_10 13 rfl rfl)
theorem dX6_grows_251 : decode cX6_grows 251 = .ok (.iload 9, 2) := dk_21 9 (dk_at dksX6_grows_10 15 rfl rfl)
theorem dX6_grows_253 : decode cX6_grows 253 = .ok (.iconst 1, 1) := dk_4 (dk_at dksX6_grows_10 17 rfl rfl)
theorem dX6_grows_254 : decode cX6_grows 254 = .ok (.iadd, 1) := dk_96 (dk_at dksX6_grows_10 18 rfl rfl)
theorem dX6_grows_255 : decode cX6_grows 255 = .ok (.invokestatic 59, 3) := dk_184 0 59 (dk_at dksX6_grows_10 19 rfl rfl)
theorem dX6_grows_258 : decode cX6_grows 258 = .ok (.invokevirtual 71, 3) := dk_182 0 71 (dk_at dksX6_grows_11 0 rfl rfl)
theorem dX6_grows_261 : decode cX6_grows 261 = .ok (.iload 10, 2) := dk_21 10 (dk_at dksX6_grows_11 3 rfl rfl)
theorem dX6_grows_263 : decode cX6_grows 263 = .ok (.bipush 42, 2) := dk_16 42 (dk_at dksX6_grows_11 5 rfl rfl)
theorem dX6_grows_265 : decode cX6_grows 265 = .ok (.if_icmp .gt 5, 3) := dk_163 0 5 (dk_at dksX6_grows_11 7 rfl rfl)
theorem dX6_grows_268 : decode cX6_grows 268 = .ok (.iconst 0, 1) := dk_3 (dk_at dksX6_grows_11 10 rfl rfl)
theorem dX6_grows_269 : decode cX6_grows 269 = .ok (.ireturn, 1) := dk_172 (dk_at dksX6_grows_11 11 rfl rfl)
theorem dX6_grows_270 : decode cX6_grows 270 = .ok (.aload_n 0, 1) := dk_42 (dk_at dksX6_grows_11 12 rfl rfl)
theorem dX6_grows_271 : decode cX6_grows 271 = .ok (.iload_n 1, 1) := dk_27 (dk_at dksX6_grows_11 13 rfl rfl)
theorem dX6_grows_272 : decode cX6_grows 272 = .ok (.iconst 0, 1) := dk_3 (dk_at dksX6_grows_11 14 rfl rfl)
theorem dX6_grows_273 : decode cX6_grows 273 = .ok (.bipush 6, 2) := dk_16 6 (dk_at dksX6_grows_11 15 rfl rfl)
theorem dX6_grows_275 : decode cX6_grows 275 = .ok (.invokevirtual 71, 3) := dk_182 0 71 (dk_at dksX6_grows_11 17 rfl rfl)
theorem dX6_grows_278 : decode cX6_grows 278 = .ok (.aload_n 0, 1) := dk_42 (dk_at dksX6_grows_11 20 rfl rfl)
theorem dX6_grows_279 : decode cX6_grows 279 = .ok (.iload_n 1, 1) := dk_27 (dk_at dksX6_grows_11 21 rfl rfl)
theorem dX6_grows_280 : decode cX6_grows 280 = .ok (.iconst 1, 1) := dk_4 (dk_at dksX6_grows_11 22 rfl rfl)
theorem dX6_grows_281 : decode cX6_grows 281 = .ok (.iconst (-1), 1) := dk_2 (dk_at dksX6_grows_11 23 rfl rfl)
theorem dX6_grows_282 : decode cX6_grows 282 = .ok (.invokevirtual 71, 3) := dk_182 0 71 (dk_at dksX6_grows_12 0 rfl rfl)
theorem dX6_grows_285 : decode cX6_grows 285 = .ok (.aload_n 0, 1) := dk_42 (dk_at dksX6_grows_12 3 rfl rfl)
theorem dX6_grows_286 : decode cX6_grows 286 = .ok (.getfield 7, 3) := dk_180 0 7 (dk_at dksX6_grows_12 4 rfl rfl)
theorem dX6_grows_289 : decode cX6_grows 289 = .ok (.bipush 11, 2) := dk_16 11 (dk_at dksX6_grows_12 7 rfl rfl)
theorem dX6_grows_291 : decode cX6_grows 291 = .ok (.dup2, 1) := dk_92 (dk_at dksX6_grows_12 9 rfl rfl)
theorem dX6_grows_292 : decode cX6_grows 292 = .ok (.iaload, 1) := dk_46 (dk_at dksX6_grows_12 10 rfl rfl)
theorem dX6_grows_293 : decode cX6_grows 293 = .ok (.aload_n 0, 1) := dk_42 (dk_at dksX6_grows_12 11 rfl rfl)
theorem dX6_grows_294 : decode cX6_grows 294 = .ok (.iload_n 1, 1) := dk_27 (dk_at dksX6_grows_12 12 rfl rfl)
theorem dX6_grows_295 : decode cX6_grows 295 = .ok (.invokevirtual 55, 3) := dk_182 0 55 (dk_at dksX6_grows_12 13 rfl rfl)
theorem dX6_grows_298 : decode cX6_grows 298 = .ok (.iadd, 1) := dk_96 (dk_at dksX6_grows_12 16 rfl rfl)
theorem dX6_grows_299 : decode cX6_grows 299 = .ok (.iastore, 1) := dk_79 (dk_at dksX6_grows_12 17 rfl rfl)
theorem dX6_grows_300 : decode cX6_grows 300 = .ok (.aload_n 0, 1) := dk_42 (dk_at dksX6_grows_12 18 rfl rfl)
theorem dX6_grows_301 : decode cX6_grows 301 = .ok (.bipush 6, 2) := dk_16 6 (dk_at dksX6_grows_12 19 rfl rfl)
theorem dX6_grows_303 : decode cX6_grows 303 = .ok (.iload_n 1, 1) := dk_27 (dk_at dksX6_grows_12 21 rfl rfl)
theorem dX6_grows_304 : decode cX6_grows 304 = .ok (.invokevirtual 75, 3) := dk_182 0 75 (dk_at dksX6_grows_13 0 rfl rfl)
theorem dX6_grows_307 : decode cX6_grows 307 = .ok (.iconst 1, 1) := dk_4 (dk_at dksX6_grows_13 3 rfl rfl)
theorem dX6_grows_308 : decode cX6_grows 308 = .ok (.ireturn, 1) := dk_172 (dk_at dksX6_grows_13 4 rfl rfl)
abbrev cX6_pace : ByteArray := prog_11_method_24_code
def yX6_pace : MethodName := ⟨RX6, "pace", "(I)I"⟩
def dkwX6_pace_2 : List UInt8 := [108, 62, 42, 27, 16, 7, 182, 0, 51, 16, 8, 161, 0, 11, 29, 4, 96, 5, 108, 167, 0, 4, 29, 172]
abbrev dktX6_pace_2 : List UInt8 := dkwX6_pace_2 ++ []
def dkwX6_pace_1 : List UInt8 := [184, 0, 29, 153, 0, 14, 42, 27, 8, 182, 0, 51, 16, 100, 160, 0, 5, 3, 172, 28, 16, 25, 100, 8]
abbrev dktX6_pace_1 : List UInt8 := dkwX6_pace_1 ++ dktX6_pace_2
def dkwX6_pace_0 : List UInt8 := [42, 27, 7, 182, 0, 51, 61, 28, 16, 30, 161, 0, 31, 42, 27, 16, 6, 182, 0, 51, 16, 8, 16, 34]
abbrev dktX6_pace_0 : List UInt8 := dkwX6_pace_0 ++ dktX6_pace_1
theorem dksX6_pace_0 : cX6_pace.data.toList.drop 0 = dktX6_pace_0 := by decide +kernel
theorem dksX6_pace_1 : cX6_pace.data.toList.drop 24 = dktX6_pace_1 := dk_seg dksX6_pace_0 24 rfl rfl
theorem dksX6_pace_2 : cX6_pace.data.toList.drop 48 = dktX6_pace_2 := dk_seg dksX6_pace_1 24 rfl rfl
theorem dX6_pace_0 : decode cX6_pace 0 = .ok (.aload_n 0, 1) := dk_42 (dk_at dksX6_pace_0 0 rfl rfl)
theorem dX6_pace_1 : decode cX6_pace 1 = .ok (.iload_n 1, 1) := dk_27 (dk_at dksX6_pace_0 1 rfl rfl)
theorem dX6_pace_2 : decode cX6_pace 2 = .ok (.iconst 4, 1) := dk_7 (dk_at dksX6_pace_0 2 rfl rfl)
theorem dX6_pace_3 : decode cX6_pace 3 = .ok (.invokevirtual 51, 3) := dk_182 0 51 (dk_at dksX6_pace_0 3 rfl rfl)
theorem dX6_pace_6 : decode cX6_pace 6 = .ok (.istore_n 2, 1) := dk_61 (dk_at dksX6_pace_0 6 rfl rfl)
theorem dX6_pace_7 : decode cX6_pace 7 = .ok (.iload_n 2, 1) := dk_28 (dk_at dksX6_pace_0 7 rfl rfl)
theorem dX6_pace_8 : decode cX6_pace 8 = .ok (.bipush 30, 2) := dk_16 30 (dk_at dksX6_pace_0 8 rfl rfl)
theorem dX6_pace_10 : decode cX6_pace 10 = .ok (.if_icmp .lt 31, 3) := dk_161 0 31 (dk_at dksX6_pace_0 10 rfl rfl)
theorem dX6_pace_13 : decode cX6_pace 13 = .ok (.aload_n 0, 1) := dk_42 (dk_at dksX6_pace_0 13 rfl rfl)
theorem dX6_pace_14 : decode cX6_pace 14 = .ok (.iload_n 1, 1) := dk_27 (dk_at dksX6_pace_0 14 rfl rfl)
theorem dX6_pace_15 : decode cX6_pace 15 = .ok (.bipush 6, 2) := dk_16 6 (dk_at dksX6_pace_0 15 rfl rfl)
theorem dX6_pace_17 : decode cX6_pace 17 = .ok (.invokevirtual 51, 3) := dk_182 0 51 (dk_at dksX6_pace_0 17 rfl rfl)
theorem dX6_pace_20 : decode cX6_pace 20 = .ok (.bipush 8, 2) := dk_16 8 (dk_at dksX6_pace_0 20 rfl rfl)
theorem dX6_pace_22 : decode cX6_pace 22 = .ok (.bipush 34, 2) := dk_16 34 (dk_at dksX6_pace_0 22 rfl rfl)
theorem dX6_pace_24 : decode cX6_pace 24 = .ok (.invokestatic 29, 3) := dk_184 0 29 (dk_at dksX6_pace_1 0 rfl rfl)
theorem dX6_pace_27 : decode cX6_pace 27 = .ok (.ifCond .eq 14, 3) := dk_153 0 14 (dk_at dksX6_pace_1 3 rfl rfl)
theorem dX6_pace_30 : decode cX6_pace 30 = .ok (.aload_n 0, 1) := dk_42 (dk_at dksX6_pace_1 6 rfl rfl)
theorem dX6_pace_31 : decode cX6_pace 31 = .ok (.iload_n 1, 1) := dk_27 (dk_at dksX6_pace_1 7 rfl rfl)
theorem dX6_pace_32 : decode cX6_pace 32 = .ok (.iconst 5, 1) := dk_8 (dk_at dksX6_pace_1 8 rfl rfl)
theorem dX6_pace_33 : decode cX6_pace 33 = .ok (.invokevirtual 51, 3) := dk_182 0 51 (dk_at dksX6_pace_1 9 rfl rfl)
theorem dX6_pace_36 : decode cX6_pace 36 = .ok (.bipush 100, 2) := dk_16 100 (dk_at dksX6_pace_1 12 rfl rfl)
theorem dX6_pace_38 : decode cX6_pace 38 = .ok (.if_icmp .ne 5, 3) := dk_160 0 5 (dk_at dksX6_pace_1 14 rfl rfl)
theorem dX6_pace_41 : decode cX6_pace 41 = .ok (.iconst 0, 1) := dk_3 (dk_at dksX6_pace_1 17 rfl rfl)
theorem dX6_pace_42 : decode cX6_pace 42 = .ok (.ireturn, 1) := dk_172 (dk_at dksX6_pace_1 18 rfl rfl)
theorem dX6_pace_43 : decode cX6_pace 43 = .ok (.iload_n 2, 1) := dk_28 (dk_at dksX6_pace_1 19 rfl rfl)
theorem dX6_pace_44 : decode cX6_pace 44 = .ok (.bipush 25, 2) := dk_16 25 (dk_at dksX6_pace_1 20 rfl rfl)
theorem dX6_pace_46 : decode cX6_pace 46 = .ok (.isub, 1) := dk_100 (dk_at dksX6_pace_1 22 rfl rfl)
theorem dX6_pace_47 : decode cX6_pace 47 = .ok (.iconst 5, 1) := dk_8 (dk_at dksX6_pace_1 23 rfl rfl)
theorem dX6_pace_48 : decode cX6_pace 48 = .ok (.idiv, 1) := dk_108 (dk_at dksX6_pace_2 0 rfl rfl)
theorem dX6_pace_49 : decode cX6_pace 49 = .ok (.istore_n 3, 1) := dk_62 (dk_at dksX6_pace_2 1 rfl rfl)
theorem dX6_pace_50 : decode cX6_pace 50 = .ok (.aload_n 0, 1) := dk_42 (dk_at dksX6_pace_2 2 rfl rfl)
theorem dX6_pace_51 : decode cX6_pace 51 = .ok (.iload_n 1, 1) := dk_27 (dk_at dksX6_pace_2 3 rfl rfl)
theorem dX6_pace_52 : decode cX6_pace 52 = .ok (.bipush 7, 2) := dk_16 7 (dk_at dksX6_pace_2 4 rfl rfl)
theorem dX6_pace_54 : decode cX6_pace 54 = .ok (.invokevirtual 51, 3) := dk_182 0 51 (dk_at dksX6_pace_2 6 rfl rfl)
theorem dX6_pace_57 : decode cX6_pace 57 = .ok (.bipush 8, 2) := dk_16 8 (dk_at dksX6_pace_2 9 rfl rfl)
theorem dX6_pace_59 : decode cX6_pace 59 = .ok (.if_icmp .lt 11, 3) := dk_161 0 11 (dk_at dksX6_pace_2 11 rfl rfl)
theorem dX6_pace_62 : decode cX6_pace 62 = .ok (.iload_n 3, 1) := dk_29 (dk_at dksX6_pace_2 14 rfl rfl)
theorem dX6_pace_63 : decode cX6_pace 63 = .ok (.iconst 1, 1) := dk_4 (dk_at dksX6_pace_2 15 rfl rfl)
theorem dX6_pace_64 : decode cX6_pace 64 = .ok (.iadd, 1) := dk_96 (dk_at dksX6_pace_2 16 rfl rfl)
theorem dX6_pace_65 : decode cX6_pace 65 = .ok (.iconst 2, 1) := dk_5 (dk_at dksX6_pace_2 17 rfl rfl)
theorem dX6_pace_66 : decode cX6_pace 66 = .ok (.idiv, 1) := dk_108 (dk_at dksX6_pace_2 18 rfl rfl)
theorem dX6_pace_67 : decode cX6_pace 67 = .ok (.goto 4, 3) := dk_167 0 4 (dk_at dksX6_pace_2 19 rfl rfl)
theorem dX6_pace_70 : decode cX6_pace 70 = .ok (.iload_n 3, 1) := dk_29 (dk_at dksX6_pace_2 22 rfl rfl)
theorem dX6_pace_71 : decode cX6_pace 71 = .ok (.ireturn, 1) := dk_172 (dk_at dksX6_pace_2 23 rfl rfl)
abbrev cX6_dries : ByteArray := prog_11_method_27_code
def yX6_dries : MethodName := ⟨RX6, "dries", "(I)V"⟩
def dkwX6_dries_3 : List UInt8 := [182, 0, 71, 177]
abbrev dktX6_dries_3 : List UInt8 := dkwX6_dries_3 ++ []
def dkwX6_dries_2 : List UInt8 := [28, 16, 80, 164, 0, 13, 29, 16, 20, 164, 0, 7, 4, 167, 0, 10, 42, 27, 16, 8, 182, 0, 51]
abbrev dktX6_dries_2 : List UInt8 := dkwX6_dries_2 ++ dktX6_dries_3
def dkwX6_dries_1 : List UInt8 := [28, 182, 0, 71, 42, 27, 7, 6, 29, 28, 16, 20, 108, 100, 184, 0, 68, 182, 0, 71, 42, 27, 16, 8]
abbrev dktX6_dries_1 : List UInt8 := dkwX6_dries_1 ++ dktX6_dries_2
def dkwX6_dries_0 : List UInt8 := [42, 42, 180, 0, 7, 5, 46, 4, 96, 182, 0, 79, 61, 42, 27, 7, 182, 0, 51, 62, 42, 27, 16, 6]
abbrev dktX6_dries_0 : List UInt8 := dkwX6_dries_0 ++ dktX6_dries_1
theorem dksX6_dries_0 : cX6_dries.data.toList.drop 0 = dktX6_dries_0 := by decide +kernel
theorem dksX6_dries_1 : cX6_dries.data.toList.drop 24 = dktX6_dries_1 := dk_seg dksX6_dries_0 24 rfl rfl
theorem dksX6_dries_2 : cX6_dries.data.toList.drop 48 = dktX6_dries_2 := dk_seg dksX6_dries_1 24 rfl rfl
theorem dksX6_dries_3 : cX6_dries.data.toList.drop 71 = dktX6_dries_3 := dk_seg dksX6_dries_2 23 rfl rfl
theorem dX6_dries_0 : decode cX6_dries 0 = .ok (.aload_n 0, 1) := dk_42 (dk_at dksX6_dries_0 0 rfl rfl)
theorem dX6_dries_1 : decode cX6_dries 1 = .ok (.aload_n 0, 1) := dk_42 (dk_at dksX6_dries_0 1 rfl rfl)
theorem dX6_dries_2 : decode cX6_dries 2 = .ok (.getfield 7, 3) := dk_180 0 7 (dk_at dksX6_dries_0 2 rfl rfl)
theorem dX6_dries_5 : decode cX6_dries 5 = .ok (.iconst 2, 1) := dk_5 (dk_at dksX6_dries_0 5 rfl rfl)
theorem dX6_dries_6 : decode cX6_dries 6 = .ok (.iaload, 1) := dk_46 (dk_at dksX6_dries_0 6 rfl rfl)
theorem dX6_dries_7 : decode cX6_dries 7 = .ok (.iconst 1, 1) := dk_4 (dk_at dksX6_dries_0 7 rfl rfl)
theorem dX6_dries_8 : decode cX6_dries 8 = .ok (.iadd, 1) := dk_96 (dk_at dksX6_dries_0 8 rfl rfl)
theorem dX6_dries_9 : decode cX6_dries 9 = .ok (.invokevirtual 79, 3) := dk_182 0 79 (dk_at dksX6_dries_0 9 rfl rfl)
theorem dX6_dries_12 : decode cX6_dries 12 = .ok (.istore_n 2, 1) := dk_61 (dk_at dksX6_dries_0 12 rfl rfl)
theorem dX6_dries_13 : decode cX6_dries 13 = .ok (.aload_n 0, 1) := dk_42 (dk_at dksX6_dries_0 13 rfl rfl)
theorem dX6_dries_14 : decode cX6_dries 14 = .ok (.iload_n 1, 1) := dk_27 (dk_at dksX6_dries_0 14 rfl rfl)
theorem dX6_dries_15 : decode cX6_dries 15 = .ok (.iconst 4, 1) := dk_7 (dk_at dksX6_dries_0 15 rfl rfl)
theorem dX6_dries_16 : decode cX6_dries 16 = .ok (.invokevirtual 51, 3) := dk_182 0 51 (dk_at dksX6_dries_0 16 rfl rfl)
theorem dX6_dries_19 : decode cX6_dries 19 = .ok (.istore_n 3, 1) := dk_62 (dk_at dksX6_dries_0 19 rfl rfl)
theorem dX6_dries_20 : decode cX6_dries 20 = .ok (.aload_n 0, 1) := dk_42 (dk_at dksX6_dries_0 20 rfl rfl)
theorem dX6_dries_21 : decode cX6_dries 21 = .ok (.iload_n 1, 1) := dk_27 (dk_at dksX6_dries_0 21 rfl rfl)
theorem dX6_dries_22 : decode cX6_dries 22 = .ok (.bipush 6, 2) := dk_16 6 (dk_at dksX6_dries_0 22 rfl rfl)
theorem dX6_dries_24 : decode cX6_dries 24 = .ok (.iload_n 2, 1) := dk_28 (dk_at dksX6_dries_1 0 rfl rfl)
theorem dX6_dries_25 : decode cX6_dries 25 = .ok (.invokevirtual 71, 3) := dk_182 0 71 (dk_at dksX6_dries_1 1 rfl rfl)
theorem dX6_dries_28 : decode cX6_dries 28 = .ok (.aload_n 0, 1) := dk_42 (dk_at dksX6_dries_1 4 rfl rfl)
theorem dX6_dries_29 : decode cX6_dries 29 = .ok (.iload_n 1, 1) := dk_27 (dk_at dksX6_dries_1 5 rfl rfl)
theorem dX6_dries_30 : decode cX6_dries 30 = .ok (.iconst 4, 1) := dk_7 (dk_at dksX6_dries_1 6 rfl rfl)
theorem dX6_dries_31 : decode cX6_dries 31 = .ok (.iconst 3, 1) := dk_6 (dk_at dksX6_dries_1 7 rfl rfl)
theorem dX6_dries_32 : decode cX6_dries 32 = .ok (.iload_n 3, 1) := dk_29 (dk_at dksX6_dries_1 8 rfl rfl)
theorem dX6_dries_33 : decode cX6_dries 33 = .ok (.iload_n 2, 1) := dk_28 (dk_at dksX6_dries_1 9 rfl rfl)
theorem dX6_dries_34 : decode cX6_dries 34 = .ok (.bipush 20, 2) := dk_16 20 (dk_at dksX6_dries_1 10 rfl rfl)
theorem dX6_dries_36 : decode cX6_dries 36 = .ok (.idiv, 1) := dk_108 (dk_at dksX6_dries_1 12 rfl rfl)
theorem dX6_dries_37 : decode cX6_dries 37 = .ok (.isub, 1) := dk_100 (dk_at dksX6_dries_1 13 rfl rfl)
theorem dX6_dries_38 : decode cX6_dries 38 = .ok (.invokestatic 68, 3) := dk_184 0 68 (dk_at dksX6_dries_1 14 rfl rfl)
theorem dX6_dries_41 : decode cX6_dries 41 = .ok (.invokevirtual 71, 3) := dk_182 0 71 (dk_at dksX6_dries_1 17 rfl rfl)
theorem dX6_dries_44 : decode cX6_dries 44 = .ok (.aload_n 0, 1) := dk_42 (dk_at dksX6_dries_1 20 rfl rfl)
theorem dX6_dries_45 : decode cX6_dries 45 = .ok (.iload_n 1, 1) := dk_27 (dk_at dksX6_dries_1 21 rfl rfl)
theorem dX6_dries_46 : decode cX6_dries 46 = .ok (.bipush 8, 2) := dk_16 8 (dk_at dksX6_dries_1 22 rfl rfl)
theorem dX6_dries_48 : decode cX6_dries 48 = .ok (.iload_n 2, 1) := dk_28 (dk_at dksX6_dries_2 0 rfl rfl)
theorem dX6_dries_49 : decode cX6_dries 49 = .ok (.bipush 80, 2) := dk_16 80 (dk_at dksX6_dries_2 1 rfl rfl)
theorem dX6_dries_51 : decode cX6_dries 51 = .ok (.if_icmp .le 13, 3) := dk_164 0 13 (dk_at dksX6_dries_2 3 rfl rfl)
theorem dX6_dries_54 : decode cX6_dries 54 = .ok (.iload_n 3, 1) := dk_29 (dk_at dksX6_dries_2 6 rfl rfl)
theorem dX6_dries_55 : decode cX6_dries 55 = .ok (.bipush 20, 2) := dk_16 20 (dk_at dksX6_dries_2 7 rfl rfl)
theorem dX6_dries_57 : decode cX6_dries 57 = .ok (.if_icmp .le 7, 3) := dk_164 0 7 (dk_at dksX6_dries_2 9 rfl rfl)
theorem dX6_dries_60 : decode cX6_dries 60 = .ok (.iconst 1, 1) := dk_4 (dk_at dksX6_dries_2 12 rfl rfl)
theorem dX6_dries_61 : decode cX6_dries 61 = .ok (.goto 10, 3) := dk_167 0 10 (dk_at dksX6_dries_2 13 rfl rfl)
theorem dX6_dries_64 : decode cX6_dries 64 = .ok (.aload_n 0, 1) := dk_42 (dk_at dksX6_dries_2 16 rfl rfl)
theorem dX6_dries_65 : decode cX6_dries 65 = .ok (.iload_n 1, 1) := dk_27 (dk_at dksX6_dries_2 17 rfl rfl)
theorem dX6_dries_66 : decode cX6_dries 66 = .ok (.bipush 8, 2) := dk_16 8 (dk_at dksX6_dries_2 18 rfl rfl)
theorem dX6_dries_68 : decode cX6_dries 68 = .ok (.invokevirtual 51, 3) := dk_182 0 51 (dk_at dksX6_dries_2 20 rfl rfl)
theorem dX6_dries_71 : decode cX6_dries 71 = .ok (.invokevirtual 71, 3) := dk_182 0 71 (dk_at dksX6_dries_3 0 rfl rfl)
theorem dX6_dries_74 : decode cX6_dries 74 = .ok (.return_, 1) := dk_177 (dk_at dksX6_dries_3 3 rfl rfl)
abbrev cX6_kilnHeat : ByteArray := prog_11_method_26_code
def yX6_kilnHeat : MethodName := ⟨RX6, "kilnHeat", "(I)I"⟩
def dkwX6_kilnHeat_0 : List UInt8 := [27, 16, 10, 164, 0, 12, 42, 180, 0, 7, 7, 46, 167, 0, 9, 42, 180, 0, 7, 6, 46, 172]
abbrev dktX6_kilnHeat_0 : List UInt8 := dkwX6_kilnHeat_0 ++ []
theorem dksX6_kilnHeat_0 : cX6_kilnHeat.data.toList.drop 0 = dktX6_kilnHeat_0 := by decide +kernel
theorem dX6_kilnHeat_0 : decode cX6_kilnHeat 0 = .ok (.iload_n 1, 1) := dk_27 (dk_at dksX6_kilnHeat_0 0 rfl rfl)
theorem dX6_kilnHeat_1 : decode cX6_kilnHeat 1 = .ok (.bipush 10, 2) := dk_16 10 (dk_at dksX6_kilnHeat_0 1 rfl rfl)
theorem dX6_kilnHeat_3 : decode cX6_kilnHeat 3 = .ok (.if_icmp .le 12, 3) := dk_164 0 12 (dk_at dksX6_kilnHeat_0 3 rfl rfl)
theorem dX6_kilnHeat_6 : decode cX6_kilnHeat 6 = .ok (.aload_n 0, 1) := dk_42 (dk_at dksX6_kilnHeat_0 6 rfl rfl)
theorem dX6_kilnHeat_7 : decode cX6_kilnHeat 7 = .ok (.getfield 7, 3) := dk_180 0 7 (dk_at dksX6_kilnHeat_0 7 rfl rfl)
theorem dX6_kilnHeat_10 : decode cX6_kilnHeat 10 = .ok (.iconst 4, 1) := dk_7 (dk_at dksX6_kilnHeat_0 10 rfl rfl)
theorem dX6_kilnHeat_11 : decode cX6_kilnHeat 11 = .ok (.iaload, 1) := dk_46 (dk_at dksX6_kilnHeat_0 11 rfl rfl)
theorem dX6_kilnHeat_12 : decode cX6_kilnHeat 12 = .ok (.goto 9, 3) := dk_167 0 9 (dk_at dksX6_kilnHeat_0 12 rfl rfl)
theorem dX6_kilnHeat_15 : decode cX6_kilnHeat 15 = .ok (.aload_n 0, 1) := dk_42 (dk_at dksX6_kilnHeat_0 15 rfl rfl)
theorem dX6_kilnHeat_16 : decode cX6_kilnHeat 16 = .ok (.getfield 7, 3) := dk_180 0 7 (dk_at dksX6_kilnHeat_0 16 rfl rfl)
theorem dX6_kilnHeat_19 : decode cX6_kilnHeat 19 = .ok (.iconst 3, 1) := dk_6 (dk_at dksX6_kilnHeat_0 19 rfl rfl)
theorem dX6_kilnHeat_20 : decode cX6_kilnHeat 20 = .ok (.iaload, 1) := dk_46 (dk_at dksX6_kilnHeat_0 20 rfl rfl)
theorem dX6_kilnHeat_21 : decode cX6_kilnHeat 21 = .ok (.ireturn, 1) := dk_172 (dk_at dksX6_kilnHeat_0 21 rfl rfl)
abbrev cX6_malts : ByteArray := prog_11_method_28_code
def yX6_malts : MethodName := ⟨RX6, "malts", "()I"⟩
def dkwX6_malts_5 : List UInt8 := [42, 16, 7, 28, 182, 0, 75, 132, 2, 1, 167, 255, 182, 27, 172]
abbrev dktX6_malts_5 : List UInt8 := dkwX6_malts_5 ++ []
def dkwX6_malts_4 : List UInt8 := [42, 28, 5, 182, 0, 51, 96, 79, 42, 180, 0, 7, 16, 10, 92, 46, 42, 28, 6, 182, 0, 51, 96, 79]
abbrev dktX6_malts_4 : List UInt8 := dkwX6_malts_4 ++ dktX6_malts_5
def dkwX6_malts_3 : List UInt8 := [28, 3, 182, 0, 51, 7, 160, 0, 49, 42, 28, 3, 8, 182, 0, 71, 42, 180, 0, 7, 16, 9, 92, 46]
abbrev dktX6_malts_3 : List UInt8 := dkwX6_malts_3 ++ dktX6_malts_4
def dkwX6_malts_2 : List UInt8 := [132, 2, 1, 167, 255, 216, 3, 61, 28, 42, 180, 0, 7, 16, 7, 46, 162, 0, 69, 27, 158, 0, 65, 42]
abbrev dktX6_malts_2 : List UInt8 := dkwX6_malts_2 ++ dktX6_malts_3
def dkwX6_malts_1 : List UInt8 := [182, 0, 51, 7, 160, 0, 17, 42, 28, 7, 182, 0, 51, 7, 164, 0, 7, 3, 167, 0, 4, 27, 60]
abbrev dktX6_malts_1 : List UInt8 := dkwX6_malts_1 ++ dktX6_malts_2
def dkwX6_malts_0 : List UInt8 := [42, 7, 182, 0, 82, 60, 3, 61, 28, 42, 180, 0, 7, 16, 7, 46, 162, 0, 35, 42, 28, 3]
abbrev dktX6_malts_0 : List UInt8 := dkwX6_malts_0 ++ dktX6_malts_1
theorem dksX6_malts_0 : cX6_malts.data.toList.drop 0 = dktX6_malts_0 := by decide +kernel
theorem dksX6_malts_1 : cX6_malts.data.toList.drop 22 = dktX6_malts_1 := dk_seg dksX6_malts_0 22 rfl rfl
theorem dksX6_malts_2 : cX6_malts.data.toList.drop 45 = dktX6_malts_2 := dk_seg dksX6_malts_1 23 rfl rfl
theorem dksX6_malts_3 : cX6_malts.data.toList.drop 69 = dktX6_malts_3 := dk_seg dksX6_malts_2 24 rfl rfl
theorem dksX6_malts_4 : cX6_malts.data.toList.drop 93 = dktX6_malts_4 := dk_seg dksX6_malts_3 24 rfl rfl
theorem dksX6_malts_5 : cX6_malts.data.toList.drop 117 = dktX6_malts_5 := dk_seg dksX6_malts_4 24 rfl rfl
theorem dX6_malts_0 : decode cX6_malts 0 = .ok (.aload_n 0, 1) := dk_42 (dk_at dksX6_malts_0 0 rfl rfl)
theorem dX6_malts_1 : decode cX6_malts 1 = .ok (.iconst 4, 1) := dk_7 (dk_at dksX6_malts_0 1 rfl rfl)
theorem dX6_malts_2 : decode cX6_malts 2 = .ok (.invokevirtual 82, 3) := dk_182 0 82 (dk_at dksX6_malts_0 2 rfl rfl)
theorem dX6_malts_5 : decode cX6_malts 5 = .ok (.istore_n 1, 1) := dk_60 (dk_at dksX6_malts_0 5 rfl rfl)
theorem dX6_malts_6 : decode cX6_malts 6 = .ok (.iconst 0, 1) := dk_3 (dk_at dksX6_malts_0 6 rfl rfl)
theorem dX6_malts_7 : decode cX6_malts 7 = .ok (.istore_n 2, 1) := dk_61 (dk_at dksX6_malts_0 7 rfl rfl)
theorem dX6_malts_8 : decode cX6_malts 8 = .ok (.iload_n 2, 1) := dk_28 (dk_at dksX6_malts_0 8 rfl rfl)
theorem dX6_malts_9 : decode cX6_malts 9 = .ok (.aload_n 0, 1) := dk_42 (dk_at dksX6_malts_0 9 rfl rfl)
theorem dX6_malts_10 : decode cX6_malts 10 = .ok (.getfield 7, 3) := dk_180 0 7 (dk_at dksX6_malts_0 10 rfl rfl)
theorem dX6_malts_13 : decode cX6_malts 13 = .ok (.bipush 7, 2) := dk_16 7 (dk_at dksX6_malts_0 13 rfl rfl)
theorem dX6_malts_15 : decode cX6_malts 15 = .ok (.iaload, 1) := dk_46 (dk_at dksX6_malts_0 15 rfl rfl)
theorem dX6_malts_16 : decode cX6_malts 16 = .ok (.if_icmp .ge 35, 3) := dk_162 0 35 (dk_at dksX6_malts_0 16 rfl rfl)
theorem dX6_malts_19 : decode cX6_malts 19 = .ok (.aload_n 0, 1) := dk_42 (dk_at dksX6_malts_0 19 rfl rfl)
theorem dX6_malts_20 : decode cX6_malts 20 = .ok (.iload_n 2, 1) := dk_28 (dk_at dksX6_malts_0 20 rfl rfl)
theorem dX6_malts_21 : decode cX6_malts 21 = .ok (.iconst 0, 1) := dk_3 (dk_at dksX6_malts_0 21 rfl rfl)
theorem dX6_malts_22 : decode cX6_malts 22 = .ok (.invokevirtual 51, 3) := dk_182 0 51 (dk_at dksX6_malts_1 0 rfl rfl)
theorem dX6_malts_25 : decode cX6_malts 25 = .ok (.iconst 4, 1) := dk_7 (dk_at dksX6_malts_1 3 rfl rfl)
theorem dX6_malts_26 : decode cX6_malts 26 = .ok (.if_icmp .ne 17, 3) := dk_160 0 17 (dk_at dksX6_malts_1 4 rfl rfl)
theorem dX6_malts_29 : decode cX6_malts 29 = .ok (.aload_n 0, 1) := dk_42 (dk_at dksX6_malts_1 7 rfl rfl)
theorem dX6_malts_30 : decode cX6_malts 30 = .ok (.iload_n 2, 1) := dk_28 (dk_at dksX6_malts_1 8 rfl rfl)
theorem dX6_malts_31 : decode cX6_malts 31 = .ok (.iconst 4, 1) := dk_7 (dk_at dksX6_malts_1 9 rfl rfl)
theorem dX6_malts_32 : decode cX6_malts 32 = .ok (.invokevirtual 51, 3) := dk_182 0 51 (dk_at dksX6_malts_1 10 rfl rfl)
theorem dX6_malts_35 : decode cX6_malts 35 = .ok (.iconst 4, 1) := dk_7 (dk_at dksX6_malts_1 13 rfl rfl)
theorem dX6_malts_36 : decode cX6_malts 36 = .ok (.if_icmp .le 7, 3) := dk_164 0 7 (dk_at dksX6_malts_1 14 rfl rfl)
theorem dX6_malts_39 : decode cX6_malts 39 = .ok (.iconst 0, 1) := dk_3 (dk_at dksX6_malts_1 17 rfl rfl)
theorem dX6_malts_40 : decode cX6_malts 40 = .ok (.goto 4, 3) := dk_167 0 4 (dk_at dksX6_malts_1 18 rfl rfl)
theorem dX6_malts_43 : decode cX6_malts 43 = .ok (.iload_n 1, 1) := dk_27 (dk_at dksX6_malts_1 21 rfl rfl)
theorem dX6_malts_44 : decode cX6_malts 44 = .ok (.istore_n 1, 1) := dk_60 (dk_at dksX6_malts_1 22 rfl rfl)
theorem dX6_malts_45 : decode cX6_malts 45 = .ok (.iinc 2 1, 3) := dk_132 2 1 (dk_at dksX6_malts_2 0 rfl rfl)
theorem dX6_malts_48 : decode cX6_malts 48 = .ok (.goto (-40), 3) := dk_167 255 216 (dk_at dksX6_malts_2 3 rfl rfl)
theorem dX6_malts_51 : decode cX6_malts 51 = .ok (.iconst 0, 1) := dk_3 (dk_at dksX6_malts_2 6 rfl rfl)
theorem dX6_malts_52 : decode cX6_malts 52 = .ok (.istore_n 2, 1) := dk_61 (dk_at dksX6_malts_2 7 rfl rfl)
theorem dX6_malts_53 : decode cX6_malts 53 = .ok (.iload_n 2, 1) := dk_28 (dk_at dksX6_malts_2 8 rfl rfl)
theorem dX6_malts_54 : decode cX6_malts 54 = .ok (.aload_n 0, 1) := dk_42 (dk_at dksX6_malts_2 9 rfl rfl)
theorem dX6_malts_55 : decode cX6_malts 55 = .ok (.getfield 7, 3) := dk_180 0 7 (dk_at dksX6_malts_2 10 rfl rfl)
theorem dX6_malts_58 : decode cX6_malts 58 = .ok (.bipush 7, 2) := dk_16 7 (dk_at dksX6_malts_2 13 rfl rfl)
theorem dX6_malts_60 : decode cX6_malts 60 = .ok (.iaload, 1) := dk_46 (dk_at dksX6_malts_2 15 rfl rfl)
theorem dX6_malts_61 : decode cX6_malts 61 = .ok (.if_icmp .ge 69, 3) := dk_162 0 69 (dk_at dksX6_malts_2 16 rfl rfl)
theorem dX6_malts_64 : decode cX6_malts 64 = .ok (.iload_n 1, 1) := dk_27 (dk_at dksX6_malts_2 19 rfl rfl)
theorem dX6_malts_65 : decode cX6_malts 65 = .ok (.ifCond .le 65, 3) := dk_158 0 65 (dk_at dksX6_malts_2 20 rfl rfl)
theorem dX6_malts_68 : decode cX6_malts 68 = .ok (.aload_n 0, 1) := dk_42 (dk_at dksX6_malts_2 23 rfl rfl)
theorem dX6_malts_69 : decode cX6_malts 69 = .ok (.iload_n 2, 1) := dk_28 (dk_at dksX6_malts_3 0 rfl rfl)
theorem dX6_malts_70 : decode cX6_malts 70 = .ok (.iconst 0, 1) := dk_3 (dk_at dksX6_malts_3 1 rfl rfl)
theorem dX6_malts_71 : decode cX6_malts 71 = .ok (.invokevirtual 51, 3) := dk_182 0 51 (dk_at dksX6_malts_3 2 rfl rfl)
theorem dX6_malts_74 : decode cX6_malts 74 = .ok (.iconst 4, 1) := dk_7 (dk_at dksX6_malts_3 5 rfl rfl)
theorem dX6_malts_75 : decode cX6_malts 75 = .ok (.if_icmp .ne 49, 3) := dk_160 0 49 (dk_at dksX6_malts_3 6 rfl rfl)
theorem dX6_malts_78 : decode cX6_malts 78 = .ok (.aload_n 0, 1) := dk_42 (dk_at dksX6_malts_3 9 rfl rfl)
theorem dX6_malts_79 : decode cX6_malts 79 = .ok (.iload_n 2, 1) := dk_28 (dk_at dksX6_malts_3 10 rfl rfl)
theorem dX6_malts_80 : decode cX6_malts 80 = .ok (.iconst 0, 1) := dk_3 (dk_at dksX6_malts_3 11 rfl rfl)
theorem dX6_malts_81 : decode cX6_malts 81 = .ok (.iconst 5, 1) := dk_8 (dk_at dksX6_malts_3 12 rfl rfl)
theorem dX6_malts_82 : decode cX6_malts 82 = .ok (.invokevirtual 71, 3) := dk_182 0 71 (dk_at dksX6_malts_3 13 rfl rfl)
theorem dX6_malts_85 : decode cX6_malts 85 = .ok (.aload_n 0, 1) := dk_42 (dk_at dksX6_malts_3 16 rfl rfl)
theorem dX6_malts_86 : decode cX6_malts 86 = .ok (.getfield 7, 3) := dk_180 0 7 (dk_at dksX6_malts_3 17 rfl rfl)
theorem dX6_malts_89 : decode cX6_malts 89 = .ok (.bipush 9, 2) := dk_16 9 (dk_at dksX6_malts_3 20 rfl rfl)
theorem dX6_malts_91 : decode cX6_malts 91 = .ok (.dup2, 1) := dk_92 (dk_at dksX6_malts_3 22 rfl rfl)
theorem dX6_malts_92 : decode cX6_malts 92 = .ok (.iaload, 1) := dk_46 (dk_at dksX6_malts_3 23 rfl rfl)
theorem dX6_malts_93 : decode cX6_malts 93 = .ok (.aload_n 0, 1) := dk_42 (dk_at dksX6_malts_4 0 rfl rfl)
theorem dX6_malts_94 : decode cX6_malts 94 = .ok (.iload_n 2, 1) := dk_28 (dk_at dksX6_malts_4 1 rfl rfl)
theorem dX6_malts_95 : decode cX6_malts 95 = .ok (.iconst 2, 1) := dk_5 (dk_at dksX6_malts_4 2 rfl rfl)
theorem dX6_malts_96 : decode cX6_malts 96 = .ok (.invokevirtual 51, 3) := dk_182 0 51 (dk_at dksX6_malts_4 3 rfl rfl)
theorem dX6_malts_99 : decode cX6_malts 99 = .ok (.iadd, 1) := dk_96 (dk_at dksX6_malts_4 6 rfl rfl)
theorem dX6_malts_100 : decode cX6_malts 100 = .ok (.iastore, 1) := dk_79 (dk_at dksX6_malts_4 7 rfl rfl)
theorem dX6_malts_101 : decode cX6_malts 101 = .ok (.aload_n 0, 1) := dk_42 (dk_at dksX6_malts_4 8 rfl rfl)
theorem dX6_malts_102 : decode cX6_malts 102 = .ok (.getfield 7, 3) := dk_180 0 7 (dk_at dksX6_malts_4 9 rfl rfl)
theorem dX6_malts_105 : decode cX6_malts 105 = .ok (.bipush 10, 2) := dk_16 10 (dk_at dksX6_malts_4 12 rfl rfl)
theorem dX6_malts_107 : decode cX6_malts 107 = .ok (.dup2, 1) := dk_92 (dk_at dksX6_malts_4 14 rfl rfl)
theorem dX6_malts_108 : decode cX6_malts 108 = .ok (.iaload, 1) := dk_46 (dk_at dksX6_malts_4 15 rfl rfl)
theorem dX6_malts_109 : decode cX6_malts 109 = .ok (.aload_n 0, 1) := dk_42 (dk_at dksX6_malts_4 16 rfl rfl)
theorem dX6_malts_110 : decode cX6_malts 110 = .ok (.iload_n 2, 1) := dk_28 (dk_at dksX6_malts_4 17 rfl rfl)
theorem dX6_malts_111 : decode cX6_malts 111 = .ok (.iconst 3, 1) := dk_6 (dk_at dksX6_malts_4 18 rfl rfl)
theorem dX6_malts_112 : decode cX6_malts 112 = .ok (.invokevirtual 51, 3) := dk_182 0 51 (dk_at dksX6_malts_4 19 rfl rfl)
theorem dX6_malts_115 : decode cX6_malts 115 = .ok (.iadd, 1) := dk_96 (dk_at dksX6_malts_4 22 rfl rfl)
theorem dX6_malts_116 : decode cX6_malts 116 = .ok (.iastore, 1) := dk_79 (dk_at dksX6_malts_4 23 rfl rfl)
theorem dX6_malts_117 : decode cX6_malts 117 = .ok (.aload_n 0, 1) := dk_42 (dk_at dksX6_malts_5 0 rfl rfl)
theorem dX6_malts_118 : decode cX6_malts 118 = .ok (.bipush 7, 2) := dk_16 7 (dk_at dksX6_malts_5 1 rfl rfl)
theorem dX6_malts_120 : decode cX6_malts 120 = .ok (.iload_n 2, 1) := dk_28 (dk_at dksX6_malts_5 3 rfl rfl)
theorem dX6_malts_121 : decode cX6_malts 121 = .ok (.invokevirtual 75, 3) := dk_182 0 75 (dk_at dksX6_malts_5 4 rfl rfl)
theorem dX6_malts_124 : decode cX6_malts 124 = .ok (.iinc 2 1, 3) := dk_132 2 1 (dk_at dksX6_malts_5 7 rfl rfl)
theorem dX6_malts_127 : decode cX6_malts 127 = .ok (.goto (-74), 3) := dk_167 255 182 (dk_at dksX6_malts_5 10 rfl rfl)
theorem dX6_malts_130 : decode cX6_malts 130 = .ok (.iload_n 1, 1) := dk_27 (dk_at dksX6_malts_5 13 rfl rfl)
theorem dX6_malts_131 : decode cX6_malts 131 = .ok (.ireturn, 1) := dk_172 (dk_at dksX6_malts_5 14 rfl rfl)
abbrev cX6_append : ByteArray := prog_11_method_55_code
def yX6_append : MethodName := ⟨RX6, "append", "(I)I"⟩
def dkwX6_append_2 : List UInt8 := [96, 181, 0, 153, 42, 180, 0, 153, 172]
abbrev dktX6_append_2 : List UInt8 := dkwX6_append_2 ++ []
def dkwX6_append_1 : List UInt8 := [182, 0, 40, 154, 0, 5, 3, 172, 42, 180, 0, 22, 42, 180, 0, 153, 27, 79, 42, 89, 180, 0, 153, 4]
abbrev dktX6_append_1 : List UInt8 := dkwX6_append_1 ++ dktX6_append_2
def dkwX6_append_0 : List UInt8 := [42, 27, 16, 32, 16, 126, 184, 0, 29, 42, 180, 0, 153, 16, 60, 162, 0, 7, 4, 167, 0, 4, 3]
abbrev dktX6_append_0 : List UInt8 := dkwX6_append_0 ++ dktX6_append_1
theorem dksX6_append_0 : cX6_append.data.toList.drop 0 = dktX6_append_0 := by decide +kernel
theorem dksX6_append_1 : cX6_append.data.toList.drop 23 = dktX6_append_1 := dk_seg dksX6_append_0 23 rfl rfl
theorem dksX6_append_2 : cX6_append.data.toList.drop 47 = dktX6_append_2 := dk_seg dksX6_append_1 24 rfl rfl
theorem dX6_append_0 : decode cX6_append 0 = .ok (.aload_n 0, 1) := dk_42 (dk_at dksX6_append_0 0 rfl rfl)
theorem dX6_append_1 : decode cX6_append 1 = .ok (.iload_n 1, 1) := dk_27 (dk_at dksX6_append_0 1 rfl rfl)
theorem dX6_append_2 : decode cX6_append 2 = .ok (.bipush 32, 2) := dk_16 32 (dk_at dksX6_append_0 2 rfl rfl)
theorem dX6_append_4 : decode cX6_append 4 = .ok (.bipush 126, 2) := dk_16 126 (dk_at dksX6_append_0 4 rfl rfl)
theorem dX6_append_6 : decode cX6_append 6 = .ok (.invokestatic 29, 3) := dk_184 0 29 (dk_at dksX6_append_0 6 rfl rfl)
theorem dX6_append_9 : decode cX6_append 9 = .ok (.aload_n 0, 1) := dk_42 (dk_at dksX6_append_0 9 rfl rfl)
theorem dX6_append_10 : decode cX6_append 10 = .ok (.getfield 153, 3) := dk_180 0 153 (dk_at dksX6_append_0 10 rfl rfl)
theorem dX6_append_13 : decode cX6_append 13 = .ok (.bipush 60, 2) := dk_16 60 (dk_at dksX6_append_0 13 rfl rfl)
theorem dX6_append_15 : decode cX6_append 15 = .ok (.if_icmp .ge 7, 3) := dk_162 0 7 (dk_at dksX6_append_0 15 rfl rfl)
theorem dX6_append_18 : decode cX6_append 18 = .ok (.iconst 1, 1) := dk_4 (dk_at dksX6_append_0 18 rfl rfl)
theorem dX6_append_19 : decode cX6_append 19 = .ok (.goto 4, 3) := dk_167 0 4 (dk_at dksX6_append_0 19 rfl rfl)
theorem dX6_append_22 : decode cX6_append 22 = .ok (.iconst 0, 1) := dk_3 (dk_at dksX6_append_0 22 rfl rfl)
theorem dX6_append_23 : decode cX6_append 23 = .ok (.invokevirtual 40, 3) := dk_182 0 40 (dk_at dksX6_append_1 0 rfl rfl)
theorem dX6_append_26 : decode cX6_append 26 = .ok (.ifCond .ne 5, 3) := dk_154 0 5 (dk_at dksX6_append_1 3 rfl rfl)
theorem dX6_append_29 : decode cX6_append 29 = .ok (.iconst 0, 1) := dk_3 (dk_at dksX6_append_1 6 rfl rfl)
theorem dX6_append_30 : decode cX6_append 30 = .ok (.ireturn, 1) := dk_172 (dk_at dksX6_append_1 7 rfl rfl)
theorem dX6_append_31 : decode cX6_append 31 = .ok (.aload_n 0, 1) := dk_42 (dk_at dksX6_append_1 8 rfl rfl)
theorem dX6_append_32 : decode cX6_append 32 = .ok (.getfield 22, 3) := dk_180 0 22 (dk_at dksX6_append_1 9 rfl rfl)
theorem dX6_append_35 : decode cX6_append 35 = .ok (.aload_n 0, 1) := dk_42 (dk_at dksX6_append_1 12 rfl rfl)
theorem dX6_append_36 : decode cX6_append 36 = .ok (.getfield 153, 3) := dk_180 0 153 (dk_at dksX6_append_1 13 rfl rfl)
theorem dX6_append_39 : decode cX6_append 39 = .ok (.iload_n 1, 1) := dk_27 (dk_at dksX6_append_1 16 rfl rfl)
theorem dX6_append_40 : decode cX6_append 40 = .ok (.iastore, 1) := dk_79 (dk_at dksX6_append_1 17 rfl rfl)
theorem dX6_append_41 : decode cX6_append 41 = .ok (.aload_n 0, 1) := dk_42 (dk_at dksX6_append_1 18 rfl rfl)
theorem dX6_append_42 : decode cX6_append 42 = .ok (.dup, 1) := dk_89 (dk_at dksX6_append_1 19 rfl rfl)
theorem dX6_append_43 : decode cX6_append 43 = .ok (.getfield 153, 3) := dk_180 0 153 (dk_at dksX6_append_1 20 rfl rfl)
theorem dX6_append_46 : decode cX6_append 46 = .ok (.iconst 1, 1) := dk_4 (dk_at dksX6_append_1 23 rfl rfl)
theorem dX6_append_47 : decode cX6_append 47 = .ok (.iadd, 1) := dk_96 (dk_at dksX6_append_2 0 rfl rfl)
theorem dX6_append_48 : decode cX6_append 48 = .ok (.putfield 153, 3) := dk_181 0 153 (dk_at dksX6_append_2 1 rfl rfl)
theorem dX6_append_51 : decode cX6_append 51 = .ok (.aload_n 0, 1) := dk_42 (dk_at dksX6_append_2 4 rfl rfl)
theorem dX6_append_52 : decode cX6_append 52 = .ok (.getfield 153, 3) := dk_180 0 153 (dk_at dksX6_append_2 5 rfl rfl)
theorem dX6_append_55 : decode cX6_append 55 = .ok (.ireturn, 1) := dk_172 (dk_at dksX6_append_2 8 rfl rfl)
abbrev cX6_clearText : ByteArray := prog_11_method_56_code
def yX6_clearText : MethodName := ⟨RX6, "clearText", "()I"⟩
def dkwX6_clearText_0 : List UInt8 := [42, 3, 181, 0, 25, 42, 180, 0, 153, 60, 42, 3, 181, 0, 153, 27, 172]
abbrev dktX6_clearText_0 : List UInt8 := dkwX6_clearText_0 ++ []
theorem dksX6_clearText_0 : cX6_clearText.data.toList.drop 0 = dktX6_clearText_0 := by decide +kernel
theorem dX6_clearText_0 : decode cX6_clearText 0 = .ok (.aload_n 0, 1) := dk_42 (dk_at dksX6_clearText_0 0 rfl rfl)
theorem dX6_clearText_1 : decode cX6_clearText 1 = .ok (.iconst 0, 1) := dk_3 (dk_at dksX6_clearText_0 1 rfl rfl)
theorem dX6_clearText_2 : decode cX6_clearText 2 = .ok (.putfield 25, 3) := dk_181 0 25 (dk_at dksX6_clearText_0 2 rfl rfl)
theorem dX6_clearText_5 : decode cX6_clearText 5 = .ok (.aload_n 0, 1) := dk_42 (dk_at dksX6_clearText_0 5 rfl rfl)
theorem dX6_clearText_6 : decode cX6_clearText 6 = .ok (.getfield 153, 3) := dk_180 0 153 (dk_at dksX6_clearText_0 6 rfl rfl)
theorem dX6_clearText_9 : decode cX6_clearText 9 = .ok (.istore_n 1, 1) := dk_60 (dk_at dksX6_clearText_0 9 rfl rfl)
theorem dX6_clearText_10 : decode cX6_clearText 10 = .ok (.aload_n 0, 1) := dk_42 (dk_at dksX6_clearText_0 10 rfl rfl)
theorem dX6_clearText_11 : decode cX6_clearText 11 = .ok (.iconst 0, 1) := dk_3 (dk_at dksX6_clearText_0 11 rfl rfl)
theorem dX6_clearText_12 : decode cX6_clearText 12 = .ok (.putfield 153, 3) := dk_181 0 153 (dk_at dksX6_clearText_0 12 rfl rfl)
theorem dX6_clearText_15 : decode cX6_clearText 15 = .ok (.iload_n 1, 1) := dk_27 (dk_at dksX6_clearText_0 15 rfl rfl)
theorem dX6_clearText_16 : decode cX6_clearText 16 = .ok (.ireturn, 1) := dk_172 (dk_at dksX6_clearText_0 16 rfl rfl)
abbrev cX6_fault : ByteArray := prog_11_method_62_code
def yX6_fault : MethodName := ⟨RX6, "fault", "()I"⟩
def dkwX6_fault_0 : List UInt8 := [42, 3, 181, 0, 25, 42, 182, 0, 168, 172]
abbrev dktX6_fault_0 : List UInt8 := dkwX6_fault_0 ++ []
theorem dksX6_fault_0 : cX6_fault.data.toList.drop 0 = dktX6_fault_0 := by decide +kernel
theorem dX6_fault_0 : decode cX6_fault 0 = .ok (.aload_n 0, 1) := dk_42 (dk_at dksX6_fault_0 0 rfl rfl)
theorem dX6_fault_1 : decode cX6_fault 1 = .ok (.iconst 0, 1) := dk_3 (dk_at dksX6_fault_0 1 rfl rfl)
theorem dX6_fault_2 : decode cX6_fault 2 = .ok (.putfield 25, 3) := dk_181 0 25 (dk_at dksX6_fault_0 2 rfl rfl)
theorem dX6_fault_5 : decode cX6_fault 5 = .ok (.aload_n 0, 1) := dk_42 (dk_at dksX6_fault_0 5 rfl rfl)
theorem dX6_fault_6 : decode cX6_fault 6 = .ok (.invokevirtual 168, 3) := dk_182 0 168 (dk_at dksX6_fault_0 6 rfl rfl)
theorem dX6_fault_9 : decode cX6_fault 9 = .ok (.ireturn, 1) := dk_172 (dk_at dksX6_fault_0 9 rfl rfl)
abbrev cX6_faulty : ByteArray := prog_11_method_61_code
def yX6_faulty : MethodName := ⟨RX6, "faulty", "()I"⟩
def dkwX6_faulty_6 : List UInt8 := [180, 0, 153, 172]
abbrev dktX6_faulty_6 : List UInt8 := dkwX6_faulty_6 ++ []
def dkwX6_faulty_5 : List UInt8 := [160, 0, 12, 28, 2, 159, 0, 7, 4, 167, 0, 4, 3, 62, 29, 153, 0, 7, 2, 167, 0, 7, 42]
abbrev dktX6_faulty_5 : List UInt8 := dkwX6_faulty_5 ++ dktX6_faulty_6
def dkwX6_faulty_4 : List UInt8 := [27, 16, 8, 159, 0, 29, 27, 4, 160, 0, 9, 28, 16, 100, 162, 0, 18, 27, 5, 159, 0, 8, 27, 7]
abbrev dktX6_faulty_4 : List UInt8 := dkwX6_faulty_4 ++ dktX6_faulty_5
def dkwX6_faulty_3 : List UInt8 := [16, 10, 28, 104, 42, 180, 0, 22, 29, 46, 96, 16, 48, 100, 61, 21, 4, 60, 132, 3, 1, 167, 255, 173]
abbrev dktX6_faulty_3 : List UInt8 := dkwX6_faulty_3 ++ dktX6_faulty_4
def dkwX6_faulty_2 : List UInt8 := [154, 0, 7, 2, 167, 0, 34, 28, 2, 160, 0, 15, 42, 180, 0, 22, 29, 46, 16, 48, 100, 167, 0, 17]
abbrev dktX6_faulty_2 : List UInt8 := dkwX6_faulty_2 ++ dktX6_faulty_3
def dkwX6_faulty_1 : List UInt8 := [184, 0, 165, 54, 4, 21, 4, 156, 0, 5, 29, 172, 21, 4, 27, 160, 0, 10, 27, 184, 0, 156]
abbrev dktX6_faulty_1 : List UInt8 := dkwX6_faulty_1 ++ dktX6_faulty_2
def dkwX6_faulty_0 : List UInt8 := [3, 60, 2, 61, 3, 62, 29, 42, 180, 0, 153, 162, 0, 81, 27, 28, 42, 180, 0, 22, 29, 46]
abbrev dktX6_faulty_0 : List UInt8 := dkwX6_faulty_0 ++ dktX6_faulty_1
theorem dksX6_faulty_0 : cX6_faulty.data.toList.drop 0 = dktX6_faulty_0 := by decide +kernel
theorem dksX6_faulty_1 : cX6_faulty.data.toList.drop 22 = dktX6_faulty_1 := dk_seg dksX6_faulty_0 22 rfl rfl
theorem dksX6_faulty_2 : cX6_faulty.data.toList.drop 44 = dktX6_faulty_2 := dk_seg dksX6_faulty_1 22 rfl rfl
theorem dksX6_faulty_3 : cX6_faulty.data.toList.drop 68 = dktX6_faulty_3 := dk_seg dksX6_faulty_2 24 rfl rfl
theorem dksX6_faulty_4 : cX6_faulty.data.toList.drop 92 = dktX6_faulty_4 := dk_seg dksX6_faulty_3 24 rfl rfl
theorem dksX6_faulty_5 : cX6_faulty.data.toList.drop 116 = dktX6_faulty_5 := dk_seg dksX6_faulty_4 24 rfl rfl
theorem dksX6_faulty_6 : cX6_faulty.data.toList.drop 139 = dktX6_faulty_6 := dk_seg dksX6_faulty_5 23 rfl rfl
theorem dX6_faulty_0 : decode cX6_faulty 0 = .ok (.iconst 0, 1) := dk_3 (dk_at dksX6_faulty_0 0 rfl rfl)
theorem dX6_faulty_1 : decode cX6_faulty 1 = .ok (.istore_n 1, 1) := dk_60 (dk_at dksX6_faulty_0 1 rfl rfl)
theorem dX6_faulty_2 : decode cX6_faulty 2 = .ok (.iconst (-1), 1) := dk_2 (dk_at dksX6_faulty_0 2 rfl rfl)
theorem dX6_faulty_3 : decode cX6_faulty 3 = .ok (.istore_n 2, 1) := dk_61 (dk_at dksX6_faulty_0 3 rfl rfl)
theorem dX6_faulty_4 : decode cX6_faulty 4 = .ok (.iconst 0, 1) := dk_3 (dk_at dksX6_faulty_0 4 rfl rfl)
theorem dX6_faulty_5 : decode cX6_faulty 5 = .ok (.istore_n 3, 1) := dk_62 (dk_at dksX6_faulty_0 5 rfl rfl)
theorem dX6_faulty_6 : decode cX6_faulty 6 = .ok (.iload_n 3, 1) := dk_29 (dk_at dksX6_faulty_0 6 rfl rfl)
theorem dX6_faulty_7 : decode cX6_faulty 7 = .ok (.aload_n 0, 1) := dk_42 (dk_at dksX6_faulty_0 7 rfl rfl)
theorem dX6_faulty_8 : decode cX6_faulty 8 = .ok (.getfield 153, 3) := dk_180 0 153 (dk_at dksX6_faulty_0 8 rfl rfl)
theorem dX6_faulty_11 : decode cX6_faulty 11 = .ok (.if_icmp .ge 81, 3) := dk_162 0 81 (dk_at dksX6_faulty_0 11 rfl rfl)
theorem dX6_faulty_14 : decode cX6_faulty 14 = .ok (.iload_n 1, 1) := dk_27 (dk_at dksX6_faulty_0 14 rfl rfl)
theorem dX6_faulty_15 : decode cX6_faulty 15 = .ok (.iload_n 2, 1) := dk_28 (dk_at dksX6_faulty_0 15 rfl rfl)
theorem dX6_faulty_16 : decode cX6_faulty 16 = .ok (.aload_n 0, 1) := dk_42 (dk_at dksX6_faulty_0 16 rfl rfl)
theorem dX6_faulty_17 : decode cX6_faulty 17 = .ok (.getfield 22, 3) := dk_180 0 22 (dk_at dksX6_faulty_0 17 rfl rfl)
theorem dX6_faulty_20 : decode cX6_faulty 20 = .ok (.iload_n 3, 1) := dk_29 (dk_at dksX6_faulty_0 20 rfl rfl)
theorem dX6_faulty_21 : decode cX6_faulty 21 = .ok (.iaload, 1) := dk_46 (dk_at dksX6_faulty_0 21 rfl rfl)
theorem dX6_faulty_22 : decode cX6_faulty 22 = .ok (.invokestatic 165, 3) := dk_184 0 165 (dk_at dksX6_faulty_1 0 rfl rfl)
theorem dX6_faulty_25 : decode cX6_faulty 25 = .ok (.istore 4, 2) := dk_54 4 (dk_at dksX6_faulty_1 3 rfl rfl)
theorem dX6_faulty_27 : decode cX6_faulty 27 = .ok (.iload 4, 2) := dk_21 4 (dk_at dksX6_faulty_1 5 rfl rfl)
theorem dX6_faulty_29 : decode cX6_faulty 29 = .ok (.ifCond .ge 5, 3) := dk_156 0 5 (dk_at dksX6_faulty_1 7 rfl rfl)
theorem dX6_faulty_32 : decode cX6_faulty 32 = .ok (.iload_n 3, 1) := dk_29 (dk_at dksX6_faulty_1 10 rfl rfl)
theorem dX6_faulty_33 : decode cX6_faulty 33 = .ok (.ireturn, 1) := dk_172 (dk_at dksX6_faulty_1 11 rfl rfl)
theorem dX6_faulty_34 : decode cX6_faulty 34 = .ok (.iload 4, 2) := dk_21 4 (dk_at dksX6_faulty_1 12 rfl rfl)
theorem dX6_faulty_36 : decode cX6_faulty 36 = .ok (.iload_n 1, 1) := dk_27 (dk_at dksX6_faulty_1 14 rfl rfl)
theorem dX6_faulty_37 : decode cX6_faulty 37 = .ok (.if_icmp .ne 10, 3) := dk_160 0 10 (dk_at dksX6_faulty_1 15 rfl rfl)
theorem dX6_faulty_40 : decode cX6_faulty 40 = .ok (.iload_n 1, 1) := dk_27 (dk_at dksX6_faulty_1 18 rfl rfl)
theorem dX6_faulty_41 : decode cX6_faulty 41 = .ok (.invokestatic 156, 3) := dk_184 0 156 (dk_at dksX6_faulty_1 19 rfl rfl)
theorem dX6_faulty_44 : decode cX6_faulty 44 = .ok (.ifCond .ne 7, 3) := dk_154 0 7 (dk_at dksX6_faulty_2 0 rfl rfl)
theorem dX6_faulty_47 : decode cX6_faulty 47 = .ok (.iconst (-1), 1) := dk_2 (dk_at dksX6_faulty_2 3 rfl rfl)
theorem dX6_faulty_48 : decode cX6_faulty 48 = .ok (.goto 34, 3) := dk_167 0 34 (dk_at dksX6_faulty_2 4 rfl rfl)
theorem dX6_faulty_51 : decode cX6_faulty 51 = .ok (.iload_n 2, 1) := dk_28 (dk_at dksX6_faulty_2 7 rfl rfl)
theorem dX6_faulty_52 : decode cX6_faulty 52 = .ok (.iconst (-1), 1) := dk_2 (dk_at dksX6_faulty_2 8 rfl rfl)
theorem dX6_faulty_53 : decode cX6_faulty 53 = .ok (.if_icmp .ne 15, 3) := dk_160 0 15 (dk_at dksX6_faulty_2 9 rfl rfl)
theorem dX6_faulty_56 : decode cX6_faulty 56 = .ok (.aload_n 0, 1) := dk_42 (dk_at dksX6_faulty_2 12 rfl rfl)
theorem dX6_faulty_57 : decode cX6_faulty 57 = .ok (.getfield 22, 3) := dk_180 0 22 (dk_at dksX6_faulty_2 13 rfl rfl)
theorem dX6_faulty_60 : decode cX6_faulty 60 = .ok (.iload_n 3, 1) := dk_29 (dk_at dksX6_faulty_2 16 rfl rfl)
theorem dX6_faulty_61 : decode cX6_faulty 61 = .ok (.iaload, 1) := dk_46 (dk_at dksX6_faulty_2 17 rfl rfl)
theorem dX6_faulty_62 : decode cX6_faulty 62 = .ok (.bipush 48, 2) := dk_16 48 (dk_at dksX6_faulty_2 18 rfl rfl)
theorem dX6_faulty_64 : decode cX6_faulty 64 = .ok (.isub, 1) := dk_100 (dk_at dksX6_faulty_2 20 rfl rfl)
theorem dX6_faulty_65 : decode cX6_faulty 65 = .ok (.goto 17, 3) := dk_167 0 17 (dk_at dksX6_faulty_2 21 rfl rfl)
theorem dX6_faulty_68 : decode cX6_faulty 68 = .ok (.bipush 10, 2) := dk_16 10 (dk_at dksX6_faulty_3 0 rfl rfl)
theorem dX6_faulty_70 : decode cX6_faulty 70 = .ok (.iload_n 2, 1) := dk_28 (dk_at dksX6_faulty_3 2 rfl rfl)
theorem dX6_faulty_71 : decode cX6_faulty 71 = .ok (.imul, 1) := dk_104 (dk_at dksX6_faulty_3 3 rfl rfl)
theorem dX6_faulty_72 : decode cX6_faulty 72 = .ok (.aload_n 0, 1) := dk_42 (dk_at dksX6_faulty_3 4 rfl rfl)
theorem dX6_faulty_73 : decode cX6_faulty 73 = .ok (.getfield 22, 3) := dk_180 0 22 (dk_at dksX6_faulty_3 5 rfl rfl)
theorem dX6_faulty_76 : decode cX6_faulty 76 = .ok (.iload_n 3, 1) := dk_29 (dk_at dksX6_faulty_3 8 rfl rfl)
theorem dX6_faulty_77 : decode cX6_faulty 77 = .ok (.iaload, 1) := dk_46 (dk_at dksX6_faulty_3 9 rfl rfl)
theorem dX6_faulty_78 : decode cX6_faulty 78 = .ok (.iadd, 1) := dk_96 (dk_at dksX6_faulty_3 10 rfl rfl)
theorem dX6_faulty_79 : decode cX6_faulty 79 = .ok (.bipush 48, 2) := dk_16 48 (dk_at dksX6_faulty_3 11 rfl rfl)
theorem dX6_faulty_81 : decode cX6_faulty 81 = .ok (.isub, 1) := dk_100 (dk_at dksX6_faulty_3 13 rfl rfl)
theorem dX6_faulty_82 : decode cX6_faulty 82 = .ok (.istore_n 2, 1) := dk_61 (dk_at dksX6_faulty_3 14 rfl rfl)
theorem dX6_faulty_83 : decode cX6_faulty 83 = .ok (.iload 4, 2) := dk_21 4 (dk_at dksX6_faulty_3 15 rfl rfl)
theorem dX6_faulty_85 : decode cX6_faulty 85 = .ok (.istore_n 1, 1) := dk_60 (dk_at dksX6_faulty_3 17 rfl rfl)
theorem dX6_faulty_86 : decode cX6_faulty 86 = .ok (.iinc 3 1, 3) := dk_132 3 1 (dk_at dksX6_faulty_3 18 rfl rfl)
theorem dX6_faulty_89 : decode cX6_faulty 89 = .ok (.goto (-83), 3) := dk_167 255 173 (dk_at dksX6_faulty_3 21 rfl rfl)
theorem dX6_faulty_92 : decode cX6_faulty 92 = .ok (.iload_n 1, 1) := dk_27 (dk_at dksX6_faulty_4 0 rfl rfl)
theorem dX6_faulty_93 : decode cX6_faulty 93 = .ok (.bipush 8, 2) := dk_16 8 (dk_at dksX6_faulty_4 1 rfl rfl)
theorem dX6_faulty_95 : decode cX6_faulty 95 = .ok (.if_icmp .eq 29, 3) := dk_159 0 29 (dk_at dksX6_faulty_4 3 rfl rfl)
theorem dX6_faulty_98 : decode cX6_faulty 98 = .ok (.iload_n 1, 1) := dk_27 (dk_at dksX6_faulty_4 6 rfl rfl)
theorem dX6_faulty_99 : decode cX6_faulty 99 = .ok (.iconst 1, 1) := dk_4 (dk_at dksX6_faulty_4 7 rfl rfl)
theorem dX6_faulty_100 : decode cX6_faulty 100 = .ok (.if_icmp .ne 9, 3) := dk_160 0 9 (dk_at dksX6_faulty_4 8 rfl rfl)
theorem dX6_faulty_103 : decode cX6_faulty 103 = .ok (.iload_n 2, 1) := dk_28 (dk_at dksX6_faulty_4 11 rfl rfl)
theorem dX6_faulty_104 : decode cX6_faulty 104 = .ok (.bipush 100, 2) := dk_16 100 (dk_at dksX6_faulty_4 12 rfl rfl)
theorem dX6_faulty_106 : decode cX6_faulty 106 = .ok (.if_icmp .ge 18, 3) := dk_162 0 18 (dk_at dksX6_faulty_4 14 rfl rfl)
theorem dX6_faulty_109 : decode cX6_faulty 109 = .ok (.iload_n 1, 1) := dk_27 (dk_at dksX6_faulty_4 17 rfl rfl)
theorem dX6_faulty_110 : decode cX6_faulty 110 = .ok (.iconst 2, 1) := dk_5 (dk_at dksX6_faulty_4 18 rfl rfl)
theorem dX6_faulty_111 : decode cX6_faulty 111 = .ok (.if_icmp .eq 8, 3) := dk_159 0 8 (dk_at dksX6_faulty_4 19 rfl rfl)
theorem dX6_faulty_114 : decode cX6_faulty 114 = .ok (.iload_n 1, 1) := dk_27 (dk_at dksX6_faulty_4 22 rfl rfl)
theorem dX6_faulty_115 : decode cX6_faulty 115 = .ok (.iconst 4, 1) := dk_7 (dk_at dksX6_faulty_4 23 rfl rfl)
theorem dX6_faulty_116 : decode cX6_faulty 116 = .ok (.if_icmp .ne 12, 3) := dk_160 0 12 (dk_at dksX6_faulty_5 0 rfl rfl)
theorem dX6_faulty_119 : decode cX6_faulty 119 = .ok (.iload_n 2, 1) := dk_28 (dk_at dksX6_faulty_5 3 rfl rfl)
theorem dX6_faulty_120 : decode cX6_faulty 120 = .ok (.iconst (-1), 1) := dk_2 (dk_at dksX6_faulty_5 4 rfl rfl)
theorem dX6_faulty_121 : decode cX6_faulty 121 = .ok (.if_icmp .eq 7, 3) := dk_159 0 7 (dk_at dksX6_faulty_5 5 rfl rfl)
theorem dX6_faulty_124 : decode cX6_faulty 124 = .ok (.iconst 1, 1) := dk_4 (dk_at dksX6_faulty_5 8 rfl rfl)
theorem dX6_faulty_125 : decode cX6_faulty 125 = .ok (.goto 4, 3) := dk_167 0 4 (dk_at dksX6_faulty_5 9 rfl rfl)
theorem dX6_faulty_128 : decode cX6_faulty 128 = .ok (.iconst 0, 1) := dk_3 (dk_at dksX6_faulty_5 12 rfl rfl)
theorem dX6_faulty_129 : decode cX6_faulty 129 = .ok (.istore_n 3, 1) := dk_62 (dk_at dksX6_faulty_5 13 rfl rfl)
theorem dX6_faulty_130 : decode cX6_faulty 130 = .ok (.iload_n 3, 1) := dk_29 (dk_at dksX6_faulty_5 14 rfl rfl)
theorem dX6_faulty_131 : decode cX6_faulty 131 = .ok (.ifCond .eq 7, 3) := dk_153 0 7 (dk_at dksX6_faulty_5 15 rfl rfl)
theorem dX6_faulty_134 : decode cX6_faulty 134 = .ok (.iconst (-1), 1) := dk_2 (dk_at dksX6_faulty_5 18 rfl rfl)
theorem dX6_faulty_135 : decode cX6_faulty 135 = .ok (.goto 7, 3) := dk_167 0 7 (dk_at dksX6_faulty_5 19 rfl rfl)
theorem dX6_faulty_138 : decode cX6_faulty 138 = .ok (.aload_n 0, 1) := dk_42 (dk_at dksX6_faulty_5 22 rfl rfl)
theorem dX6_faulty_139 : decode cX6_faulty 139 = .ok (.getfield 153, 3) := dk_180 0 153 (dk_at dksX6_faulty_6 0 rfl rfl)
theorem dX6_faulty_142 : decode cX6_faulty 142 = .ok (.ireturn, 1) := dk_172 (dk_at dksX6_faulty_6 3 rfl rfl)
abbrev cX6_follows : ByteArray := prog_11_method_60_code
def yX6_follows : MethodName := ⟨RX6, "follows", "(III)I"⟩
def dkwX6_follows_10 : List UInt8 := [2, 172, 28, 16, 48, 16, 51, 184, 0, 29, 153, 0, 8, 16, 8, 167, 0, 4, 2, 172, 29, 172]
abbrev dktX6_follows_10 : List UInt8 := dkwX6_follows_10 ++ []
def dkwX6_follows_9 : List UInt8 := [184, 0, 29, 153, 0, 8, 16, 6, 167, 0, 4, 2, 172, 28, 16, 61, 160, 0, 8, 16, 7, 167, 0, 4]
abbrev dktX6_follows_9 : List UInt8 := dkwX6_follows_9 ++ dktX6_follows_10
def dkwX6_follows_8 : List UInt8 := [172, 27, 2, 159, 0, 14, 28, 16, 62, 160, 0, 8, 16, 7, 167, 0, 4, 2, 172, 28, 16, 48, 16, 51]
abbrev dktX6_follows_8 : List UInt8 := dkwX6_follows_8 ++ dktX6_follows_9
def dkwX6_follows_7 : List UInt8 := [2, 172, 27, 16, 100, 161, 0, 7, 29, 167, 0, 4, 2, 172, 27, 2, 159, 0, 7, 29, 167, 0, 4, 2]
abbrev dktX6_follows_7 : List UInt8 := dkwX6_follows_7 ++ dktX6_follows_8
def dkwX6_follows_6 : List UInt8 := [159, 0, 9, 28, 16, 116, 160, 0, 7, 8, 167, 0, 15, 28, 16, 108, 160, 0, 8, 16, 8, 167, 0, 4]
abbrev dktX6_follows_6 : List UInt8 := dkwX6_follows_6 ++ dktX6_follows_7
def dkwX6_follows_5 : List UInt8 := [167, 0, 47, 28, 16, 110, 160, 0, 7, 7, 167, 0, 37, 28, 16, 97, 159, 0, 15, 28, 16, 119]
abbrev dktX6_follows_5 : List UInt8 := dkwX6_follows_5 ++ dktX6_follows_6
def dkwX6_follows_4 : List UInt8 := [16, 107, 159, 0, 9, 28, 16, 112, 160, 0, 7, 5, 167, 0, 57, 28, 16, 100, 160, 0, 7, 6]
abbrev dktX6_follows_4 : List UInt8 := dkwX6_follows_4 ++ dktX6_follows_5
def dkwX6_follows_3 : List UInt8 := [28, 16, 43, 160, 0, 7, 4, 167, 0, 85, 28, 16, 115, 159, 0, 21, 28, 16, 104, 159, 0, 15, 28]
abbrev dktX6_follows_3 : List UInt8 := dkwX6_follows_3 ++ dktX6_follows_4
def dkwX6_follows_2 : List UInt8 := [170, 0, 0, 0, 0, 0, 230, 0, 0, 0, 0, 0, 0, 0, 7, 0, 0, 0, 47, 0, 0, 0, 140, 0, 0, 0, 152, 0, 0, 0, 163, 0, 0, 0, 152, 0, 0, 0, 181, 0, 0, 0, 199, 0, 0, 0, 212]
abbrev dktX6_follows_2 : List UInt8 := dkwX6_follows_2 ++ dktX6_follows_3
def dkwX6_follows_1 : List UInt8 := [153, 0, 7, 26, 167, 0, 4, 2, 172, 28, 16, 44, 160, 0, 7, 3, 167, 0, 4, 2, 62, 26]
abbrev dktX6_follows_1 : List UInt8 := dkwX6_follows_1 ++ dktX6_follows_2
def dkwX6_follows_0 : List UInt8 := [26, 184, 0, 156, 153, 0, 28, 28, 184, 0, 159, 153, 0, 21, 26, 27, 28, 16, 48, 100, 184, 0, 162]
abbrev dktX6_follows_0 : List UInt8 := dkwX6_follows_0 ++ dktX6_follows_1
theorem dksX6_follows_0 : cX6_follows.data.toList.drop 0 = dktX6_follows_0 := by decide +kernel
theorem dksX6_follows_1 : cX6_follows.data.toList.drop 23 = dktX6_follows_1 := dk_seg dksX6_follows_0 23 rfl rfl
theorem dksX6_follows_2 : cX6_follows.data.toList.drop 45 = dktX6_follows_2 := dk_seg dksX6_follows_1 22 rfl rfl
theorem dksX6_follows_3 : cX6_follows.data.toList.drop 92 = dktX6_follows_3 := dk_seg dksX6_follows_2 47 rfl rfl
theorem dksX6_follows_4 : cX6_follows.data.toList.drop 115 = dktX6_follows_4 := dk_seg dksX6_follows_3 23 rfl rfl
theorem dksX6_follows_5 : cX6_follows.data.toList.drop 137 = dktX6_follows_5 := dk_seg dksX6_follows_4 22 rfl rfl
theorem dksX6_follows_6 : cX6_follows.data.toList.drop 159 = dktX6_follows_6 := dk_seg dksX6_follows_5 22 rfl rfl
theorem dksX6_follows_7 : cX6_follows.data.toList.drop 183 = dktX6_follows_7 := dk_seg dksX6_follows_6 24 rfl rfl
theorem dksX6_follows_8 : cX6_follows.data.toList.drop 207 = dktX6_follows_8 := dk_seg dksX6_follows_7 24 rfl rfl
theorem dksX6_follows_9 : cX6_follows.data.toList.drop 231 = dktX6_follows_9 := dk_seg dksX6_follows_8 24 rfl rfl
theorem dksX6_follows_10 : cX6_follows.data.toList.drop 255 = dktX6_follows_10 := dk_seg dksX6_follows_9 24 rfl rfl
theorem dX6_follows_0 : decode cX6_follows 0 = .ok (.iload_n 0, 1) := dk_26 (dk_at dksX6_follows_0 0 rfl rfl)
theorem dX6_follows_1 : decode cX6_follows 1 = .ok (.invokestatic 156, 3) := dk_184 0 156 (dk_at dksX6_follows_0 1 rfl rfl)
theorem dX6_follows_4 : decode cX6_follows 4 = .ok (.ifCond .eq 28, 3) := dk_153 0 28 (dk_at dksX6_follows_0 4 rfl rfl)
theorem dX6_follows_7 : decode cX6_follows 7 = .ok (.iload_n 2, 1) := dk_28 (dk_at dksX6_follows_0 7 rfl rfl)
theorem dX6_follows_8 : decode cX6_follows 8 = .ok (.invokestatic 159, 3) := dk_184 0 159 (dk_at dksX6_follows_0 8 rfl rfl)
theorem dX6_follows_11 : decode cX6_follows 11 = .ok (.ifCond .eq 21, 3) := dk_153 0 21 (dk_at dksX6_follows_0 11 rfl rfl)
theorem dX6_follows_14 : decode cX6_follows 14 = .ok (.iload_n 0, 1) := dk_26 (dk_at dksX6_follows_0 14 rfl rfl)
theorem dX6_follows_15 : decode cX6_follows 15 = .ok (.iload_n 1, 1) := dk_27 (dk_at dksX6_follows_0 15 rfl rfl)
theorem dX6_follows_16 : decode cX6_follows 16 = .ok (.iload_n 2, 1) := dk_28 (dk_at dksX6_follows_0 16 rfl rfl)
theorem dX6_follows_17 : decode cX6_follows 17 = .ok (.bipush 48, 2) := dk_16 48 (dk_at dksX6_follows_0 17 rfl rfl)
theorem dX6_follows_19 : decode cX6_follows 19 = .ok (.isub, 1) := dk_100 (dk_at dksX6_follows_0 19 rfl rfl)
theorem dX6_follows_20 : decode cX6_follows 20 = .ok (.invokestatic 162, 3) := dk_184 0 162 (dk_at dksX6_follows_0 20 rfl rfl)
theorem dX6_follows_23 : decode cX6_follows 23 = .ok (.ifCond .eq 7, 3) := dk_153 0 7 (dk_at dksX6_follows_1 0 rfl rfl)
theorem dX6_follows_26 : decode cX6_follows 26 = .ok (.iload_n 0, 1) := dk_26 (dk_at dksX6_follows_1 3 rfl rfl)
theorem dX6_follows_27 : decode cX6_follows 27 = .ok (.goto 4, 3) := dk_167 0 4 (dk_at dksX6_follows_1 4 rfl rfl)
theorem dX6_follows_30 : decode cX6_follows 30 = .ok (.iconst (-1), 1) := dk_2 (dk_at dksX6_follows_1 7 rfl rfl)
theorem dX6_follows_31 : decode cX6_follows 31 = .ok (.ireturn, 1) := dk_172 (dk_at dksX6_follows_1 8 rfl rfl)
theorem dX6_follows_32 : decode cX6_follows 32 = .ok (.iload_n 2, 1) := dk_28 (dk_at dksX6_follows_1 9 rfl rfl)
theorem dX6_follows_33 : decode cX6_follows 33 = .ok (.bipush 44, 2) := dk_16 44 (dk_at dksX6_follows_1 10 rfl rfl)
theorem dX6_follows_35 : decode cX6_follows 35 = .ok (.if_icmp .ne 7, 3) := dk_160 0 7 (dk_at dksX6_follows_1 12 rfl rfl)
theorem dX6_follows_38 : decode cX6_follows 38 = .ok (.iconst 0, 1) := dk_3 (dk_at dksX6_follows_1 15 rfl rfl)
theorem dX6_follows_39 : decode cX6_follows 39 = .ok (.goto 4, 3) := dk_167 0 4 (dk_at dksX6_follows_1 16 rfl rfl)
theorem dX6_follows_42 : decode cX6_follows 42 = .ok (.iconst (-1), 1) := dk_2 (dk_at dksX6_follows_1 19 rfl rfl)
theorem dX6_follows_43 : decode cX6_follows 43 = .ok (.istore_n 3, 1) := dk_62 (dk_at dksX6_follows_1 20 rfl rfl)
theorem dX6_follows_44 : decode cX6_follows 44 = .ok (.iload_n 0, 1) := dk_26 (dk_at dksX6_follows_1 21 rfl rfl)
theorem dX6_follows_45 : decode cX6_follows 45 = .ok (.tableswitch 230 0 7 #[47, 140, 152, 163, 152, 181, 199, 212], 47) := by decide +kernel
theorem dX6_follows_92 : decode cX6_follows 92 = .ok (.iload_n 2, 1) := dk_28 (dk_at dksX6_follows_3 0 rfl rfl)
theorem dX6_follows_93 : decode cX6_follows 93 = .ok (.bipush 43, 2) := dk_16 43 (dk_at dksX6_follows_3 1 rfl rfl)
theorem dX6_follows_95 : decode cX6_follows 95 = .ok (.if_icmp .ne 7, 3) := dk_160 0 7 (dk_at dksX6_follows_3 3 rfl rfl)
theorem dX6_follows_98 : decode cX6_follows 98 = .ok (.iconst 1, 1) := dk_4 (dk_at dksX6_follows_3 6 rfl rfl)
theorem dX6_follows_99 : decode cX6_follows 99 = .ok (.goto 85, 3) := dk_167 0 85 (dk_at dksX6_follows_3 7 rfl rfl)
theorem dX6_follows_102 : decode cX6_follows 102 = .ok (.iload_n 2, 1) := dk_28 (dk_at dksX6_follows_3 10 rfl rfl)
theorem dX6_follows_103 : decode cX6_follows 103 = .ok (.bipush 115, 2) := dk_16 115 (dk_at dksX6_follows_3 11 rfl rfl)
theorem dX6_follows_105 : decode cX6_follows 105 = .ok (.if_icmp .eq 21, 3) := dk_159 0 21 (dk_at dksX6_follows_3 13 rfl rfl)
theorem dX6_follows_108 : decode cX6_follows 108 = .ok (.iload_n 2, 1) := dk_28 (dk_at dksX6_follows_3 16 rfl rfl)
theorem dX6_follows_109 : decode cX6_follows 109 = .ok (.bipush 104, 2) := dk_16 104 (dk_at dksX6_follows_3 17 rfl rfl)
theorem dX6_follows_111 : decode cX6_follows 111 = .ok (.if_icmp .eq 15, 3) := dk_159 0 15 (dk_at dksX6_follows_3 19 rfl rfl)
theorem dX6_follows_114 : decode cX6_follows 114 = .ok (.iload_n 2, 1) := dk_28 (dk_at dksX6_follows_3 22 rfl rfl)
theorem dX6_follows_115 : decode cX6_follows 115 = .ok (.bipush 107, 2) := dk_16 107 (dk_at dksX6_follows_4 0 rfl rfl)
theorem dX6_follows_117 : decode cX6_follows 117 = .ok (.if_icmp .eq 9, 3) := dk_159 0 9 (dk_at dksX6_follows_4 2 rfl rfl)
theorem dX6_follows_120 : decode cX6_follows 120 = .ok (.iload_n 2, 1) := dk_28 (dk_at dksX6_follows_4 5 rfl rfl)
theorem dX6_follows_121 : decode cX6_follows 121 = .ok (.bipush 112, 2) := dk_16 112 (dk_at dksX6_follows_4 6 rfl rfl)
theorem dX6_follows_123 : decode cX6_follows 123 = .ok (.if_icmp .ne 7, 3) := dk_160 0 7 (dk_at dksX6_follows_4 8 rfl rfl)
theorem dX6_follows_126 : decode cX6_follows 126 = .ok (.iconst 2, 1) := dk_5 (dk_at dksX6_follows_4 11 rfl rfl)
theorem dX6_follows_127 : decode cX6_follows 127 = .ok (.goto 57, 3) := dk_167 0 57 (dk_at dksX6_follows_4 12 rfl rfl)
theorem dX6_follows_130 : decode cX6_follows 130 = .ok (.iload_n 2, 1) := dk_28 (dk_at dksX6_follows_4 15 rfl rfl)
theorem dX6_follows_131 : decode cX6_follows 131 = .ok (.bipush 100, 2) := dk_16 100 (dk_at dksX6_follows_4 16 rfl rfl)
theorem dX6_follows_133 : decode cX6_follows 133 = .ok (.if_icmp .ne 7, 3) := dk_160 0 7 (dk_at dksX6_follows_4 18 rfl rfl)
theorem dX6_follows_136 : decode cX6_follows 136 = .ok (.iconst 3, 1) := dk_6 (dk_at dksX6_follows_4 21 rfl rfl)
theorem dX6_follows_137 : decode cX6_follows 137 = .ok (.goto 47, 3) := dk_167 0 47 (dk_at dksX6_follows_5 0 rfl rfl)
theorem dX6_follows_140 : decode cX6_follows 140 = .ok (.iload_n 2, 1) := dk_28 (dk_at dksX6_follows_5 3 rfl rfl)
theorem dX6_follows_141 : decode cX6_follows 141 = .ok (.bipush 110, 2) := dk_16 110 (dk_at dksX6_follows_5 4 rfl rfl)
theorem dX6_follows_143 : decode cX6_follows 143 = .ok (.if_icmp .ne 7, 3) := dk_160 0 7 (dk_at dksX6_follows_5 6 rfl rfl)
theorem dX6_follows_146 : decode cX6_follows 146 = .ok (.iconst 4, 1) := dk_7 (dk_at dksX6_follows_5 9 rfl rfl)
theorem dX6_follows_147 : decode cX6_follows 147 = .ok (.goto 37, 3) := dk_167 0 37 (dk_at dksX6_follows_5 10 rfl rfl)
theorem dX6_follows_150 : decode cX6_follows 150 = .ok (.iload_n 2, 1) := dk_28 (dk_at dksX6_follows_5 13 rfl rfl)
theorem dX6_follows_151 : decode cX6_follows 151 = .ok (.bipush 97, 2) := dk_16 97 (dk_at dksX6_follows_5 14 rfl rfl)
theorem dX6_follows_153 : decode cX6_follows 153 = .ok (.if_icmp .eq 15, 3) := dk_159 0 15 (dk_at dksX6_follows_5 16 rfl rfl)
theorem dX6_follows_156 : decode cX6_follows 156 = .ok (.iload_n 2, 1) := dk_28 (dk_at dksX6_follows_5 19 rfl rfl)
theorem dX6_follows_157 : decode cX6_follows 157 = .ok (.bipush 119, 2) := dk_16 119 (dk_at dksX6_follows_5 20 rfl rfl)
theorem dX6_follows_159 : decode cX6_follows 159 = .ok (.if_icmp .eq 9, 3) := dk_159 0 9 (dk_at dksX6_follows_6 0 rfl rfl)
theorem dX6_follows_162 : decode cX6_follows 162 = .ok (.iload_n 2, 1) := dk_28 (dk_at dksX6_follows_6 3 rfl rfl)
theorem dX6_follows_163 : decode cX6_follows 163 = .ok (.bipush 116, 2) := dk_16 116 (dk_at dksX6_follows_6 4 rfl rfl)
theorem dX6_follows_165 : decode cX6_follows 165 = .ok (.if_icmp .ne 7, 3) := dk_160 0 7 (dk_at dksX6_follows_6 6 rfl rfl)
theorem dX6_follows_168 : decode cX6_follows 168 = .ok (.iconst 5, 1) := dk_8 (dk_at dksX6_follows_6 9 rfl rfl)
theorem dX6_follows_169 : decode cX6_follows 169 = .ok (.goto 15, 3) := dk_167 0 15 (dk_at dksX6_follows_6 10 rfl rfl)
theorem dX6_follows_172 : decode cX6_follows 172 = .ok (.iload_n 2, 1) := dk_28 (dk_at dksX6_follows_6 13 rfl rfl)
theorem dX6_follows_173 : decode cX6_follows 173 = .ok (.bipush 108, 2) := dk_16 108 (dk_at dksX6_follows_6 14 rfl rfl)
theorem dX6_follows_175 : decode cX6_follows 175 = .ok (.if_icmp .ne 8, 3) := dk_160 0 8 (dk_at dksX6_follows_6 16 rfl rfl)
theorem dX6_follows_178 : decode cX6_follows 178 = .ok (.bipush 8, 2) := dk_16 8 (dk_at dksX6_follows_6 19 rfl rfl)
theorem dX6_follows_180 : decode cX6_follows 180 = .ok (.goto 4, 3) := dk_167 0 4 (dk_at dksX6_follows_6 21 rfl rfl)
theorem dX6_follows_183 : decode cX6_follows 183 = .ok (.iconst (-1), 1) := dk_2 (dk_at dksX6_follows_7 0 rfl rfl)
theorem dX6_follows_184 : decode cX6_follows 184 = .ok (.ireturn, 1) := dk_172 (dk_at dksX6_follows_7 1 rfl rfl)
theorem dX6_follows_185 : decode cX6_follows 185 = .ok (.iload_n 1, 1) := dk_27 (dk_at dksX6_follows_7 2 rfl rfl)
theorem dX6_follows_186 : decode cX6_follows 186 = .ok (.bipush 100, 2) := dk_16 100 (dk_at dksX6_follows_7 3 rfl rfl)
theorem dX6_follows_188 : decode cX6_follows 188 = .ok (.if_icmp .lt 7, 3) := dk_161 0 7 (dk_at dksX6_follows_7 5 rfl rfl)
theorem dX6_follows_191 : decode cX6_follows 191 = .ok (.iload_n 3, 1) := dk_29 (dk_at dksX6_follows_7 8 rfl rfl)
theorem dX6_follows_192 : decode cX6_follows 192 = .ok (.goto 4, 3) := dk_167 0 4 (dk_at dksX6_follows_7 9 rfl rfl)
theorem dX6_follows_195 : decode cX6_follows 195 = .ok (.iconst (-1), 1) := dk_2 (dk_at dksX6_follows_7 12 rfl rfl)
theorem dX6_follows_196 : decode cX6_follows 196 = .ok (.ireturn, 1) := dk_172 (dk_at dksX6_follows_7 13 rfl rfl)
theorem dX6_follows_197 : decode cX6_follows 197 = .ok (.iload_n 1, 1) := dk_27 (dk_at dksX6_follows_7 14 rfl rfl)
theorem dX6_follows_198 : decode cX6_follows 198 = .ok (.iconst (-1), 1) := dk_2 (dk_at dksX6_follows_7 15 rfl rfl)
theorem dX6_follows_199 : decode cX6_follows 199 = .ok (.if_icmp .eq 7, 3) := dk_159 0 7 (dk_at dksX6_follows_7 16 rfl rfl)
theorem dX6_follows_202 : decode cX6_follows 202 = .ok (.iload_n 3, 1) := dk_29 (dk_at dksX6_follows_7 19 rfl rfl)
theorem dX6_follows_203 : decode cX6_follows 203 = .ok (.goto 4, 3) := dk_167 0 4 (dk_at dksX6_follows_7 20 rfl rfl)
theorem dX6_follows_206 : decode cX6_follows 206 = .ok (.iconst (-1), 1) := dk_2 (dk_at dksX6_follows_7 23 rfl rfl)
theorem dX6_follows_207 : decode cX6_follows 207 = .ok (.ireturn, 1) := dk_172 (dk_at dksX6_follows_8 0 rfl rfl)
theorem dX6_follows_208 : decode cX6_follows 208 = .ok (.iload_n 1, 1) := dk_27 (dk_at dksX6_follows_8 1 rfl rfl)
theorem dX6_follows_209 : decode cX6_follows 209 = .ok (.iconst (-1), 1) := dk_2 (dk_at dksX6_follows_8 2 rfl rfl)
theorem dX6_follows_210 : decode cX6_follows 210 = .ok (.if_icmp .eq 14, 3) := dk_159 0 14 (dk_at dksX6_follows_8 3 rfl rfl)
theorem dX6_follows_213 : decode cX6_follows 213 = .ok (.iload_n 2, 1) := dk_28 (dk_at dksX6_follows_8 6 rfl rfl)
theorem dX6_follows_214 : decode cX6_follows 214 = .ok (.bipush 62, 2) := dk_16 62 (dk_at dksX6_follows_8 7 rfl rfl)
theorem dX6_follows_216 : decode cX6_follows 216 = .ok (.if_icmp .ne 8, 3) := dk_160 0 8 (dk_at dksX6_follows_8 9 rfl rfl)
theorem dX6_follows_219 : decode cX6_follows 219 = .ok (.bipush 7, 2) := dk_16 7 (dk_at dksX6_follows_8 12 rfl rfl)
theorem dX6_follows_221 : decode cX6_follows 221 = .ok (.goto 4, 3) := dk_167 0 4 (dk_at dksX6_follows_8 14 rfl rfl)
theorem dX6_follows_224 : decode cX6_follows 224 = .ok (.iconst (-1), 1) := dk_2 (dk_at dksX6_follows_8 17 rfl rfl)
theorem dX6_follows_225 : decode cX6_follows 225 = .ok (.ireturn, 1) := dk_172 (dk_at dksX6_follows_8 18 rfl rfl)
theorem dX6_follows_226 : decode cX6_follows 226 = .ok (.iload_n 2, 1) := dk_28 (dk_at dksX6_follows_8 19 rfl rfl)
theorem dX6_follows_227 : decode cX6_follows 227 = .ok (.bipush 48, 2) := dk_16 48 (dk_at dksX6_follows_8 20 rfl rfl)
theorem dX6_follows_229 : decode cX6_follows 229 = .ok (.bipush 51, 2) := dk_16 51 (dk_at dksX6_follows_8 22 rfl rfl)
theorem dX6_follows_231 : decode cX6_follows 231 = .ok (.invokestatic 29, 3) := dk_184 0 29 (dk_at dksX6_follows_9 0 rfl rfl)
theorem dX6_follows_234 : decode cX6_follows 234 = .ok (.ifCond .eq 8, 3) := dk_153 0 8 (dk_at dksX6_follows_9 3 rfl rfl)
theorem dX6_follows_237 : decode cX6_follows 237 = .ok (.bipush 6, 2) := dk_16 6 (dk_at dksX6_follows_9 6 rfl rfl)
theorem dX6_follows_239 : decode cX6_follows 239 = .ok (.goto 4, 3) := dk_167 0 4 (dk_at dksX6_follows_9 8 rfl rfl)
theorem dX6_follows_242 : decode cX6_follows 242 = .ok (.iconst (-1), 1) := dk_2 (dk_at dksX6_follows_9 11 rfl rfl)
theorem dX6_follows_243 : decode cX6_follows 243 = .ok (.ireturn, 1) := dk_172 (dk_at dksX6_follows_9 12 rfl rfl)
theorem dX6_follows_244 : decode cX6_follows 244 = .ok (.iload_n 2, 1) := dk_28 (dk_at dksX6_follows_9 13 rfl rfl)
theorem dX6_follows_245 : decode cX6_follows 245 = .ok (.bipush 61, 2) := dk_16 61 (dk_at dksX6_follows_9 14 rfl rfl)
theorem dX6_follows_247 : decode cX6_follows 247 = .ok (.if_icmp .ne 8, 3) := dk_160 0 8 (dk_at dksX6_follows_9 16 rfl rfl)
theorem dX6_follows_250 : decode cX6_follows 250 = .ok (.bipush 7, 2) := dk_16 7 (dk_at dksX6_follows_9 19 rfl rfl)
theorem dX6_follows_252 : decode cX6_follows 252 = .ok (.goto 4, 3) := dk_167 0 4 (dk_at dksX6_follows_9 21 rfl rfl)
theorem dX6_follows_255 : decode cX6_follows 255 = .ok (.iconst (-1), 1) := dk_2 (dk_at dksX6_follows_10 0 rfl rfl)
theorem dX6_follows_256 : decode cX6_follows 256 = .ok (.ireturn, 1) := dk_172 (dk_at dksX6_follows_10 1 rfl rfl)
theorem dX6_follows_257 : decode cX6_follows 257 = .ok (.iload_n 2, 1) := dk_28 (dk_at dksX6_follows_10 2 rfl rfl)
theorem dX6_follows_258 : decode cX6_follows 258 = .ok (.bipush 48, 2) := dk_16 48 (dk_at dksX6_follows_10 3 rfl rfl)
theorem dX6_follows_260 : decode cX6_follows 260 = .ok (.bipush 51, 2) := dk_16 51 (dk_at dksX6_follows_10 5 rfl rfl)
theorem dX6_follows_262 : decode cX6_follows 262 = .ok (.invokestatic 29, 3) := dk_184 0 29 (dk_at dksX6_follows_10 7 rfl rfl)
theorem dX6_follows_265 : decode cX6_follows 265 = .ok (.ifCond .eq 8, 3) := dk_153 0 8 (dk_at dksX6_follows_10 10 rfl rfl)
theorem dX6_follows_268 : decode cX6_follows 268 = .ok (.bipush 8, 2) := dk_16 8 (dk_at dksX6_follows_10 13 rfl rfl)
theorem dX6_follows_270 : decode cX6_follows 270 = .ok (.goto 4, 3) := dk_167 0 4 (dk_at dksX6_follows_10 15 rfl rfl)
theorem dX6_follows_273 : decode cX6_follows 273 = .ok (.iconst (-1), 1) := dk_2 (dk_at dksX6_follows_10 18 rfl rfl)
theorem dX6_follows_274 : decode cX6_follows 274 = .ok (.ireturn, 1) := dk_172 (dk_at dksX6_follows_10 19 rfl rfl)
theorem dX6_follows_275 : decode cX6_follows 275 = .ok (.iload_n 3, 1) := dk_29 (dk_at dksX6_follows_10 20 rfl rfl)
theorem dX6_follows_276 : decode cX6_follows 276 = .ok (.ireturn, 1) := dk_172 (dk_at dksX6_follows_10 21 rfl rfl)
abbrev cX6_isNumber : ByteArray := prog_11_method_58_code
def yX6_isNumber : MethodName := ⟨RX6, "isNumber", "(I)Z"⟩
def dkwX6_isNumber_0 : List UInt8 := [26, 4, 7, 184, 0, 29, 172]
abbrev dktX6_isNumber_0 : List UInt8 := dkwX6_isNumber_0 ++ []
theorem dksX6_isNumber_0 : cX6_isNumber.data.toList.drop 0 = dktX6_isNumber_0 := by decide +kernel
theorem dX6_isNumber_0 : decode cX6_isNumber 0 = .ok (.iload_n 0, 1) := dk_26 (dk_at dksX6_isNumber_0 0 rfl rfl)
theorem dX6_isNumber_1 : decode cX6_isNumber 1 = .ok (.iconst 1, 1) := dk_4 (dk_at dksX6_isNumber_0 1 rfl rfl)
theorem dX6_isNumber_2 : decode cX6_isNumber 2 = .ok (.iconst 4, 1) := dk_7 (dk_at dksX6_isNumber_0 2 rfl rfl)
theorem dX6_isNumber_3 : decode cX6_isNumber 3 = .ok (.invokestatic 29, 3) := dk_184 0 29 (dk_at dksX6_isNumber_0 3 rfl rfl)
theorem dX6_isNumber_6 : decode cX6_isNumber 6 = .ok (.ireturn, 1) := dk_172 (dk_at dksX6_isNumber_0 6 rfl rfl)
abbrev cX6_isDigit : ByteArray := prog_11_method_57_code
def yX6_isDigit : MethodName := ⟨RX6, "isDigit", "(I)Z"⟩
def dkwX6_isDigit_0 : List UInt8 := [26, 16, 48, 16, 57, 184, 0, 29, 172]
abbrev dktX6_isDigit_0 : List UInt8 := dkwX6_isDigit_0 ++ []
theorem dksX6_isDigit_0 : cX6_isDigit.data.toList.drop 0 = dktX6_isDigit_0 := by decide +kernel
theorem dX6_isDigit_0 : decode cX6_isDigit 0 = .ok (.iload_n 0, 1) := dk_26 (dk_at dksX6_isDigit_0 0 rfl rfl)
theorem dX6_isDigit_1 : decode cX6_isDigit 1 = .ok (.bipush 48, 2) := dk_16 48 (dk_at dksX6_isDigit_0 1 rfl rfl)
theorem dX6_isDigit_3 : decode cX6_isDigit 3 = .ok (.bipush 57, 2) := dk_16 57 (dk_at dksX6_isDigit_0 3 rfl rfl)
theorem dX6_isDigit_5 : decode cX6_isDigit 5 = .ok (.invokestatic 29, 3) := dk_184 0 29 (dk_at dksX6_isDigit_0 5 rfl rfl)
theorem dX6_isDigit_8 : decode cX6_isDigit 8 = .ok (.ireturn, 1) := dk_172 (dk_at dksX6_isDigit_0 8 rfl rfl)
abbrev cX6_canGo : ByteArray := prog_11_method_59_code
def yX6_canGo : MethodName := ⟨RX6, "canGo", "(III)Z"⟩
def dkwX6_canGo_4 : List UInt8 := [172]
abbrev dktX6_canGo_4 : List UInt8 := dkwX6_canGo_4 ++ []
def dkwX6_canGo_3 : List UInt8 := [158, 0, 23, 29, 26, 7, 160, 0, 8, 16, 48, 167, 0, 5, 16, 11, 163, 0, 7, 4, 167, 0, 4, 3]
abbrev dktX6_canGo_3 : List UInt8 := dkwX6_canGo_3 ++ dktX6_canGo_4
def dkwX6_canGo_2 : List UInt8 := [162, 0, 8, 16, 90, 167, 0, 6, 17, 3, 132, 163, 0, 7, 4, 167, 0, 32, 3, 167, 0, 28, 27]
abbrev dktX6_canGo_2 : List UInt8 := dkwX6_canGo_2 ++ dktX6_canGo_3
def dkwX6_canGo_1 : List UInt8 := [172, 16, 10, 27, 104, 28, 96, 62, 26, 4, 160, 0, 35, 27, 16, 100, 162, 0, 25, 29, 27, 16, 10]
abbrev dktX6_canGo_1 : List UInt8 := dkwX6_canGo_1 ++ dktX6_canGo_2
def dkwX6_canGo_0 : List UInt8 := [27, 2, 160, 0, 23, 28, 157, 0, 13, 26, 5, 159, 0, 8, 26, 6, 160, 0, 7, 4, 167, 0, 4, 3]
abbrev dktX6_canGo_0 : List UInt8 := dkwX6_canGo_0 ++ dktX6_canGo_1
theorem dksX6_canGo_0 : cX6_canGo.data.toList.drop 0 = dktX6_canGo_0 := by decide +kernel
theorem dksX6_canGo_1 : cX6_canGo.data.toList.drop 24 = dktX6_canGo_1 := dk_seg dksX6_canGo_0 24 rfl rfl
theorem dksX6_canGo_2 : cX6_canGo.data.toList.drop 47 = dktX6_canGo_2 := dk_seg dksX6_canGo_1 23 rfl rfl
theorem dksX6_canGo_3 : cX6_canGo.data.toList.drop 70 = dktX6_canGo_3 := dk_seg dksX6_canGo_2 23 rfl rfl
theorem dksX6_canGo_4 : cX6_canGo.data.toList.drop 94 = dktX6_canGo_4 := dk_seg dksX6_canGo_3 24 rfl rfl
theorem dX6_canGo_0 : decode cX6_canGo 0 = .ok (.iload_n 1, 1) := dk_27 (dk_at dksX6_canGo_0 0 rfl rfl)
theorem dX6_canGo_1 : decode cX6_canGo 1 = .ok (.iconst (-1), 1) := dk_2 (dk_at dksX6_canGo_0 1 rfl rfl)
theorem dX6_canGo_2 : decode cX6_canGo 2 = .ok (.if_icmp .ne 23, 3) := dk_160 0 23 (dk_at dksX6_canGo_0 2 rfl rfl)
theorem dX6_canGo_5 : decode cX6_canGo 5 = .ok (.iload_n 2, 1) := dk_28 (dk_at dksX6_canGo_0 5 rfl rfl)
theorem dX6_canGo_6 : decode cX6_canGo 6 = .ok (.ifCond .gt 13, 3) := dk_157 0 13 (dk_at dksX6_canGo_0 6 rfl rfl)
theorem dX6_canGo_9 : decode cX6_canGo 9 = .ok (.iload_n 0, 1) := dk_26 (dk_at dksX6_canGo_0 9 rfl rfl)
theorem dX6_canGo_10 : decode cX6_canGo 10 = .ok (.iconst 2, 1) := dk_5 (dk_at dksX6_canGo_0 10 rfl rfl)
theorem dX6_canGo_11 : decode cX6_canGo 11 = .ok (.if_icmp .eq 8, 3) := dk_159 0 8 (dk_at dksX6_canGo_0 11 rfl rfl)
theorem dX6_canGo_14 : decode cX6_canGo 14 = .ok (.iload_n 0, 1) := dk_26 (dk_at dksX6_canGo_0 14 rfl rfl)
theorem dX6_canGo_15 : decode cX6_canGo 15 = .ok (.iconst 3, 1) := dk_6 (dk_at dksX6_canGo_0 15 rfl rfl)
theorem dX6_canGo_16 : decode cX6_canGo 16 = .ok (.if_icmp .ne 7, 3) := dk_160 0 7 (dk_at dksX6_canGo_0 16 rfl rfl)
theorem dX6_canGo_19 : decode cX6_canGo 19 = .ok (.iconst 1, 1) := dk_4 (dk_at dksX6_canGo_0 19 rfl rfl)
theorem dX6_canGo_20 : decode cX6_canGo 20 = .ok (.goto 4, 3) := dk_167 0 4 (dk_at dksX6_canGo_0 20 rfl rfl)
theorem dX6_canGo_23 : decode cX6_canGo 23 = .ok (.iconst 0, 1) := dk_3 (dk_at dksX6_canGo_0 23 rfl rfl)
theorem dX6_canGo_24 : decode cX6_canGo 24 = .ok (.ireturn, 1) := dk_172 (dk_at dksX6_canGo_1 0 rfl rfl)
theorem dX6_canGo_25 : decode cX6_canGo 25 = .ok (.bipush 10, 2) := dk_16 10 (dk_at dksX6_canGo_1 1 rfl rfl)
theorem dX6_canGo_27 : decode cX6_canGo 27 = .ok (.iload_n 1, 1) := dk_27 (dk_at dksX6_canGo_1 3 rfl rfl)
theorem dX6_canGo_28 : decode cX6_canGo 28 = .ok (.imul, 1) := dk_104 (dk_at dksX6_canGo_1 4 rfl rfl)
theorem dX6_canGo_29 : decode cX6_canGo 29 = .ok (.iload_n 2, 1) := dk_28 (dk_at dksX6_canGo_1 5 rfl rfl)
theorem dX6_canGo_30 : decode cX6_canGo 30 = .ok (.iadd, 1) := dk_96 (dk_at dksX6_canGo_1 6 rfl rfl)
theorem dX6_canGo_31 : decode cX6_canGo 31 = .ok (.istore_n 3, 1) := dk_62 (dk_at dksX6_canGo_1 7 rfl rfl)
theorem dX6_canGo_32 : decode cX6_canGo 32 = .ok (.iload_n 0, 1) := dk_26 (dk_at dksX6_canGo_1 8 rfl rfl)
theorem dX6_canGo_33 : decode cX6_canGo 33 = .ok (.iconst 1, 1) := dk_4 (dk_at dksX6_canGo_1 9 rfl rfl)
theorem dX6_canGo_34 : decode cX6_canGo 34 = .ok (.if_icmp .ne 35, 3) := dk_160 0 35 (dk_at dksX6_canGo_1 10 rfl rfl)
theorem dX6_canGo_37 : decode cX6_canGo 37 = .ok (.iload_n 1, 1) := dk_27 (dk_at dksX6_canGo_1 13 rfl rfl)
theorem dX6_canGo_38 : decode cX6_canGo 38 = .ok (.bipush 100, 2) := dk_16 100 (dk_at dksX6_canGo_1 14 rfl rfl)
theorem dX6_canGo_40 : decode cX6_canGo 40 = .ok (.if_icmp .ge 25, 3) := dk_162 0 25 (dk_at dksX6_canGo_1 16 rfl rfl)
theorem dX6_canGo_43 : decode cX6_canGo 43 = .ok (.iload_n 3, 1) := dk_29 (dk_at dksX6_canGo_1 19 rfl rfl)
theorem dX6_canGo_44 : decode cX6_canGo 44 = .ok (.iload_n 1, 1) := dk_27 (dk_at dksX6_canGo_1 20 rfl rfl)
theorem dX6_canGo_45 : decode cX6_canGo 45 = .ok (.bipush 10, 2) := dk_16 10 (dk_at dksX6_canGo_1 21 rfl rfl)
theorem dX6_canGo_47 : decode cX6_canGo 47 = .ok (.if_icmp .ge 8, 3) := dk_162 0 8 (dk_at dksX6_canGo_2 0 rfl rfl)
theorem dX6_canGo_50 : decode cX6_canGo 50 = .ok (.bipush 90, 2) := dk_16 90 (dk_at dksX6_canGo_2 3 rfl rfl)
theorem dX6_canGo_52 : decode cX6_canGo 52 = .ok (.goto 6, 3) := dk_167 0 6 (dk_at dksX6_canGo_2 5 rfl rfl)
theorem dX6_canGo_55 : decode cX6_canGo 55 = .ok (.sipush 900, 3) := dk_17 3 132 (dk_at dksX6_canGo_2 8 rfl rfl)
theorem dX6_canGo_58 : decode cX6_canGo 58 = .ok (.if_icmp .gt 7, 3) := dk_163 0 7 (dk_at dksX6_canGo_2 11 rfl rfl)
theorem dX6_canGo_61 : decode cX6_canGo 61 = .ok (.iconst 1, 1) := dk_4 (dk_at dksX6_canGo_2 14 rfl rfl)
theorem dX6_canGo_62 : decode cX6_canGo 62 = .ok (.goto 32, 3) := dk_167 0 32 (dk_at dksX6_canGo_2 15 rfl rfl)
theorem dX6_canGo_65 : decode cX6_canGo 65 = .ok (.iconst 0, 1) := dk_3 (dk_at dksX6_canGo_2 18 rfl rfl)
theorem dX6_canGo_66 : decode cX6_canGo 66 = .ok (.goto 28, 3) := dk_167 0 28 (dk_at dksX6_canGo_2 19 rfl rfl)
theorem dX6_canGo_69 : decode cX6_canGo 69 = .ok (.iload_n 1, 1) := dk_27 (dk_at dksX6_canGo_2 22 rfl rfl)
theorem dX6_canGo_70 : decode cX6_canGo 70 = .ok (.ifCond .le 23, 3) := dk_158 0 23 (dk_at dksX6_canGo_3 0 rfl rfl)
theorem dX6_canGo_73 : decode cX6_canGo 73 = .ok (.iload_n 3, 1) := dk_29 (dk_at dksX6_canGo_3 3 rfl rfl)
theorem dX6_canGo_74 : decode cX6_canGo 74 = .ok (.iload_n 0, 1) := dk_26 (dk_at dksX6_canGo_3 4 rfl rfl)
theorem dX6_canGo_75 : decode cX6_canGo 75 = .ok (.iconst 4, 1) := dk_7 (dk_at dksX6_canGo_3 5 rfl rfl)
theorem dX6_canGo_76 : decode cX6_canGo 76 = .ok (.if_icmp .ne 8, 3) := dk_160 0 8 (dk_at dksX6_canGo_3 6 rfl rfl)
theorem dX6_canGo_79 : decode cX6_canGo 79 = .ok (.bipush 48, 2) := dk_16 48 (dk_at dksX6_canGo_3 9 rfl rfl)
theorem dX6_canGo_81 : decode cX6_canGo 81 = .ok (.goto 5, 3) := dk_167 0 5 (dk_at dksX6_canGo_3 11 rfl rfl)
theorem dX6_canGo_84 : decode cX6_canGo 84 = .ok (.bipush 11, 2) := dk_16 11 (dk_at dksX6_canGo_3 14 rfl rfl)
theorem dX6_canGo_86 : decode cX6_canGo 86 = .ok (.if_icmp .gt 7, 3) := dk_163 0 7 (dk_at dksX6_canGo_3 16 rfl rfl)
theorem dX6_canGo_89 : decode cX6_canGo 89 = .ok (.iconst 1, 1) := dk_4 (dk_at dksX6_canGo_3 19 rfl rfl)
theorem dX6_canGo_90 : decode cX6_canGo 90 = .ok (.goto 4, 3) := dk_167 0 4 (dk_at dksX6_canGo_3 20 rfl rfl)
theorem dX6_canGo_93 : decode cX6_canGo 93 = .ok (.iconst 0, 1) := dk_3 (dk_at dksX6_canGo_3 23 rfl rfl)
theorem dX6_canGo_94 : decode cX6_canGo 94 = .ok (.ireturn, 1) := dk_172 (dk_at dksX6_canGo_4 0 rfl rfl)
abbrev cX6_run : ByteArray := prog_11_method_65_code
def yX6_run : MethodName := ⟨RX6, "run", "()I"⟩
def dkwX6_run_4 : List UInt8 := [172]
abbrev dktX6_run_4 : List UInt8 := dkwX6_run_4 ++ []
def dkwX6_run_3 : List UInt8 := [42, 180, 0, 22, 28, 46, 16, 44, 159, 0, 9, 132, 2, 1, 167, 255, 234, 132, 2, 1, 167, 255, 198, 27]
abbrev dktX6_run_3 : List UInt8 := dkwX6_run_3 ++ dktX6_run_4
def dkwX6_run_2 : List UInt8 := [182, 0, 174, 62, 27, 29, 153, 0, 7, 4, 167, 0, 4, 3, 96, 60, 28, 42, 180, 0, 153, 162, 0, 20]
abbrev dktX6_run_2 : List UInt8 := dkwX6_run_2 ++ dktX6_run_3
def dkwX6_run_1 : List UInt8 := [182, 0, 48, 3, 60, 3, 61, 4, 62, 28, 42, 180, 0, 153, 162, 0, 56, 29, 153, 0, 52, 42, 28]
abbrev dktX6_run_1 : List UInt8 := dkwX6_run_1 ++ dktX6_run_2
def dkwX6_run_0 : List UInt8 := [42, 42, 182, 0, 168, 2, 160, 0, 7, 4, 167, 0, 4, 3, 4, 182, 0, 40, 154, 0, 5, 3, 172, 42]
abbrev dktX6_run_0 : List UInt8 := dkwX6_run_0 ++ dktX6_run_1
theorem dksX6_run_0 : cX6_run.data.toList.drop 0 = dktX6_run_0 := by decide +kernel
theorem dksX6_run_1 : cX6_run.data.toList.drop 24 = dktX6_run_1 := dk_seg dksX6_run_0 24 rfl rfl
theorem dksX6_run_2 : cX6_run.data.toList.drop 47 = dktX6_run_2 := dk_seg dksX6_run_1 23 rfl rfl
theorem dksX6_run_3 : cX6_run.data.toList.drop 71 = dktX6_run_3 := dk_seg dksX6_run_2 24 rfl rfl
theorem dksX6_run_4 : cX6_run.data.toList.drop 95 = dktX6_run_4 := dk_seg dksX6_run_3 24 rfl rfl
theorem dX6_run_0 : decode cX6_run 0 = .ok (.aload_n 0, 1) := dk_42 (dk_at dksX6_run_0 0 rfl rfl)
theorem dX6_run_1 : decode cX6_run 1 = .ok (.aload_n 0, 1) := dk_42 (dk_at dksX6_run_0 1 rfl rfl)
theorem dX6_run_2 : decode cX6_run 2 = .ok (.invokevirtual 168, 3) := dk_182 0 168 (dk_at dksX6_run_0 2 rfl rfl)
theorem dX6_run_5 : decode cX6_run 5 = .ok (.iconst (-1), 1) := dk_2 (dk_at dksX6_run_0 5 rfl rfl)
theorem dX6_run_6 : decode cX6_run 6 = .ok (.if_icmp .ne 7, 3) := dk_160 0 7 (dk_at dksX6_run_0 6 rfl rfl)
theorem dX6_run_9 : decode cX6_run 9 = .ok (.iconst 1, 1) := dk_4 (dk_at dksX6_run_0 9 rfl rfl)
theorem dX6_run_10 : decode cX6_run 10 = .ok (.goto 4, 3) := dk_167 0 4 (dk_at dksX6_run_0 10 rfl rfl)
theorem dX6_run_13 : decode cX6_run 13 = .ok (.iconst 0, 1) := dk_3 (dk_at dksX6_run_0 13 rfl rfl)
theorem dX6_run_14 : decode cX6_run 14 = .ok (.iconst 1, 1) := dk_4 (dk_at dksX6_run_0 14 rfl rfl)
theorem dX6_run_15 : decode cX6_run 15 = .ok (.invokevirtual 40, 3) := dk_182 0 40 (dk_at dksX6_run_0 15 rfl rfl)
theorem dX6_run_18 : decode cX6_run 18 = .ok (.ifCond .ne 5, 3) := dk_154 0 5 (dk_at dksX6_run_0 18 rfl rfl)
theorem dX6_run_21 : decode cX6_run 21 = .ok (.iconst 0, 1) := dk_3 (dk_at dksX6_run_0 21 rfl rfl)
theorem dX6_run_22 : decode cX6_run 22 = .ok (.ireturn, 1) := dk_172 (dk_at dksX6_run_0 22 rfl rfl)
theorem dX6_run_23 : decode cX6_run 23 = .ok (.aload_n 0, 1) := dk_42 (dk_at dksX6_run_0 23 rfl rfl)
theorem dX6_run_24 : decode cX6_run 24 = .ok (.invokevirtual 48, 3) := dk_182 0 48 (dk_at dksX6_run_1 0 rfl rfl)
theorem dX6_run_27 : decode cX6_run 27 = .ok (.iconst 0, 1) := dk_3 (dk_at dksX6_run_1 3 rfl rfl)
theorem dX6_run_28 : decode cX6_run 28 = .ok (.istore_n 1, 1) := dk_60 (dk_at dksX6_run_1 4 rfl rfl)
theorem dX6_run_29 : decode cX6_run 29 = .ok (.iconst 0, 1) := dk_3 (dk_at dksX6_run_1 5 rfl rfl)
theorem dX6_run_30 : decode cX6_run 30 = .ok (.istore_n 2, 1) := dk_61 (dk_at dksX6_run_1 6 rfl rfl)
theorem dX6_run_31 : decode cX6_run 31 = .ok (.iconst 1, 1) := dk_4 (dk_at dksX6_run_1 7 rfl rfl)
theorem dX6_run_32 : decode cX6_run 32 = .ok (.istore_n 3, 1) := dk_62 (dk_at dksX6_run_1 8 rfl rfl)
theorem dX6_run_33 : decode cX6_run 33 = .ok (.iload_n 2, 1) := dk_28 (dk_at dksX6_run_1 9 rfl rfl)
theorem dX6_run_34 : decode cX6_run 34 = .ok (.aload_n 0, 1) := dk_42 (dk_at dksX6_run_1 10 rfl rfl)
theorem dX6_run_35 : decode cX6_run 35 = .ok (.getfield 153, 3) := dk_180 0 153 (dk_at dksX6_run_1 11 rfl rfl)
theorem dX6_run_38 : decode cX6_run 38 = .ok (.if_icmp .ge 56, 3) := dk_162 0 56 (dk_at dksX6_run_1 14 rfl rfl)
theorem dX6_run_41 : decode cX6_run 41 = .ok (.iload_n 3, 1) := dk_29 (dk_at dksX6_run_1 17 rfl rfl)
theorem dX6_run_42 : decode cX6_run 42 = .ok (.ifCond .eq 52, 3) := dk_153 0 52 (dk_at dksX6_run_1 18 rfl rfl)
theorem dX6_run_45 : decode cX6_run 45 = .ok (.aload_n 0, 1) := dk_42 (dk_at dksX6_run_1 21 rfl rfl)
theorem dX6_run_46 : decode cX6_run 46 = .ok (.iload_n 2, 1) := dk_28 (dk_at dksX6_run_1 22 rfl rfl)
theorem dX6_run_47 : decode cX6_run 47 = .ok (.invokevirtual 174, 3) := dk_182 0 174 (dk_at dksX6_run_2 0 rfl rfl)
theorem dX6_run_50 : decode cX6_run 50 = .ok (.istore_n 3, 1) := dk_62 (dk_at dksX6_run_2 3 rfl rfl)
theorem dX6_run_51 : decode cX6_run 51 = .ok (.iload_n 1, 1) := dk_27 (dk_at dksX6_run_2 4 rfl rfl)
theorem dX6_run_52 : decode cX6_run 52 = .ok (.iload_n 3, 1) := dk_29 (dk_at dksX6_run_2 5 rfl rfl)
theorem dX6_run_53 : decode cX6_run 53 = .ok (.ifCond .eq 7, 3) := dk_153 0 7 (dk_at dksX6_run_2 6 rfl rfl)
theorem dX6_run_56 : decode cX6_run 56 = .ok (.iconst 1, 1) := dk_4 (dk_at dksX6_run_2 9 rfl rfl)
theorem dX6_run_57 : decode cX6_run 57 = .ok (.goto 4, 3) := dk_167 0 4 (dk_at dksX6_run_2 10 rfl rfl)
theorem dX6_run_60 : decode cX6_run 60 = .ok (.iconst 0, 1) := dk_3 (dk_at dksX6_run_2 13 rfl rfl)
theorem dX6_run_61 : decode cX6_run 61 = .ok (.iadd, 1) := dk_96 (dk_at dksX6_run_2 14 rfl rfl)
theorem dX6_run_62 : decode cX6_run 62 = .ok (.istore_n 1, 1) := dk_60 (dk_at dksX6_run_2 15 rfl rfl)
theorem dX6_run_63 : decode cX6_run 63 = .ok (.iload_n 2, 1) := dk_28 (dk_at dksX6_run_2 16 rfl rfl)
theorem dX6_run_64 : decode cX6_run 64 = .ok (.aload_n 0, 1) := dk_42 (dk_at dksX6_run_2 17 rfl rfl)
theorem dX6_run_65 : decode cX6_run 65 = .ok (.getfield 153, 3) := dk_180 0 153 (dk_at dksX6_run_2 18 rfl rfl)
theorem dX6_run_68 : decode cX6_run 68 = .ok (.if_icmp .ge 20, 3) := dk_162 0 20 (dk_at dksX6_run_2 21 rfl rfl)
theorem dX6_run_71 : decode cX6_run 71 = .ok (.aload_n 0, 1) := dk_42 (dk_at dksX6_run_3 0 rfl rfl)
theorem dX6_run_72 : decode cX6_run 72 = .ok (.getfield 22, 3) := dk_180 0 22 (dk_at dksX6_run_3 1 rfl rfl)
theorem dX6_run_75 : decode cX6_run 75 = .ok (.iload_n 2, 1) := dk_28 (dk_at dksX6_run_3 4 rfl rfl)
theorem dX6_run_76 : decode cX6_run 76 = .ok (.iaload, 1) := dk_46 (dk_at dksX6_run_3 5 rfl rfl)
theorem dX6_run_77 : decode cX6_run 77 = .ok (.bipush 44, 2) := dk_16 44 (dk_at dksX6_run_3 6 rfl rfl)
theorem dX6_run_79 : decode cX6_run 79 = .ok (.if_icmp .eq 9, 3) := dk_159 0 9 (dk_at dksX6_run_3 8 rfl rfl)
theorem dX6_run_82 : decode cX6_run 82 = .ok (.iinc 2 1, 3) := dk_132 2 1 (dk_at dksX6_run_3 11 rfl rfl)
theorem dX6_run_85 : decode cX6_run 85 = .ok (.goto (-22), 3) := dk_167 255 234 (dk_at dksX6_run_3 14 rfl rfl)
theorem dX6_run_88 : decode cX6_run 88 = .ok (.iinc 2 1, 3) := dk_132 2 1 (dk_at dksX6_run_3 17 rfl rfl)
theorem dX6_run_91 : decode cX6_run 91 = .ok (.goto (-58), 3) := dk_167 255 198 (dk_at dksX6_run_3 20 rfl rfl)
theorem dX6_run_94 : decode cX6_run 94 = .ok (.iload_n 1, 1) := dk_27 (dk_at dksX6_run_3 23 rfl rfl)
theorem dX6_run_95 : decode cX6_run 95 = .ok (.ireturn, 1) := dk_172 (dk_at dksX6_run_4 0 rfl rfl)
abbrev cX6_does : ByteArray := prog_11_method_64_code
def yX6_does : MethodName := ⟨RX6, "does", "(I)Z"⟩
def dkwX6_does_16 : List UInt8 := [96, 182, 0, 171, 79, 21, 5, 172]
abbrev dktX6_does_16 : List UInt8 := dkwX6_does_16 ++ []
def dkwX6_does_15 : List UInt8 := [16, 97, 160, 0, 7, 3, 167, 0, 14, 28, 16, 119, 160, 0, 7, 4, 167, 0, 4, 5, 96, 42, 27, 6]
abbrev dktX6_does_15 : List UInt8 := dkwX6_does_15 ++ dktX6_does_16
def dkwX6_does_14 : List UInt8 := [160, 0, 13, 42, 29, 182, 0, 150, 54, 6, 167, 0, 43, 42, 180, 0, 7, 16, 32, 6, 29, 104, 96, 28]
abbrev dktX6_does_14 : List UInt8 := dkwX6_does_14 ++ dktX6_does_15
def dkwX6_does_13 : List UInt8 := [4, 167, 0, 4, 3, 54, 5, 21, 5, 153, 0, 67, 42, 29, 182, 0, 143, 167, 0, 59, 28, 16, 110]
abbrev dktX6_does_13 : List UInt8 := dkwX6_does_13 ++ dktX6_does_14
def dkwX6_does_12 : List UInt8 := [46, 79, 167, 0, 98, 28, 16, 112, 160, 0, 36, 21, 4, 153, 0, 15, 42, 29, 182, 0, 140, 154, 0, 7]
abbrev dktX6_does_12 : List UInt8 := dkwX6_does_12 ++ dktX6_does_13
def dkwX6_does_11 : List UInt8 := [182, 0, 136, 54, 5, 42, 180, 0, 7, 4, 21, 5, 153, 0, 7, 4, 167, 0, 9, 42, 180, 0, 7, 4]
abbrev dktX6_does_11 : List UInt8 := dkwX6_does_11 ++ dktX6_does_12
def dkwX6_does_10 : List UInt8 := [21, 5, 153, 0, 144, 42, 29, 7, 2, 182, 0, 112, 167, 0, 134, 28, 16, 108, 160, 0, 33, 42]
abbrev dktX6_does_10 : List UInt8 := dkwX6_does_10 ++ dktX6_does_11
def dkwX6_does_9 : List UInt8 := [160, 0, 38, 21, 4, 153, 0, 15, 42, 29, 182, 0, 133, 154, 0, 7, 4, 167, 0, 4, 3, 54, 5]
abbrev dktX6_does_9 : List UInt8 := dkwX6_does_9 ++ dktX6_does_10
def dkwX6_does_8 : List UInt8 := [167, 0, 4, 3, 54, 5, 21, 5, 153, 0, 185, 42, 29, 6, 2, 182, 0, 112, 167, 0, 175, 28, 16, 107]
abbrev dktX6_does_8 : List UInt8 := dkwX6_does_8 ++ dktX6_does_9
def dkwX6_does_7 : List UInt8 := [167, 0, 216, 28, 16, 104, 160, 0, 38, 21, 4, 153, 0, 15, 42, 29, 182, 0, 130, 153, 0, 7, 4]
abbrev dktX6_does_7 : List UInt8 := dkwX6_does_7 ++ dktX6_does_8
def dkwX6_does_6 : List UInt8 := [154, 0, 7, 4, 167, 0, 4, 3, 54, 5, 21, 5, 153, 0, 11, 42, 29, 5, 21, 6, 182, 0, 112]
abbrev dktX6_does_6 : List UInt8 := dkwX6_does_6 ++ dktX6_does_7
def dkwX6_does_5 : List UInt8 := [167, 0, 4, 7, 96, 182, 0, 171, 54, 6, 21, 4, 153, 0, 17, 42, 29, 21, 6, 182, 0, 127]
abbrev dktX6_does_5 : List UInt8 := dkwX6_does_5 ++ dktX6_does_6
def dkwX6_does_4 : List UInt8 := [29, 182, 0, 121, 167, 1, 23, 28, 16, 100, 160, 0, 60, 42, 27, 29, 16, 10, 162, 0, 7, 6]
abbrev dktX6_does_4 : List UInt8 := dkwX6_does_4 ++ dktX6_does_5
def dkwX6_does_3 : List UInt8 := [153, 0, 15, 42, 29, 182, 0, 118, 154, 0, 7, 4, 167, 0, 4, 3, 54, 5, 21, 5, 153, 1, 31, 42]
abbrev dktX6_does_3 : List UInt8 := dkwX6_does_3 ++ dktX6_does_4
def dkwX6_does_2 : List UInt8 := [3, 54, 5, 21, 5, 153, 1, 70, 42, 29, 182, 0, 109, 167, 1, 62, 28, 16, 115, 160, 0, 36, 21, 4]
abbrev dktX6_does_2 : List UInt8 := dkwX6_does_2 ++ dktX6_does_3
def dkwX6_does_1 : List UInt8 := [54, 5, 28, 16, 43, 160, 0, 35, 42, 180, 0, 7, 16, 7, 46, 16, 12, 162, 0, 7, 4, 167, 0, 4]
abbrev dktX6_does_1 : List UInt8 := dkwX6_does_1 ++ dktX6_does_2
def dkwX6_does_0 : List UInt8 := [42, 180, 0, 22, 27, 46, 61, 42, 27, 4, 96, 182, 0, 171, 62, 42, 29, 182, 0, 115, 54, 4, 4]
abbrev dktX6_does_0 : List UInt8 := dkwX6_does_0 ++ dktX6_does_1
theorem dksX6_does_0 : cX6_does.data.toList.drop 0 = dktX6_does_0 := by decide +kernel
theorem dksX6_does_1 : cX6_does.data.toList.drop 23 = dktX6_does_1 := dk_seg dksX6_does_0 23 rfl rfl
theorem dksX6_does_2 : cX6_does.data.toList.drop 47 = dktX6_does_2 := dk_seg dksX6_does_1 24 rfl rfl
theorem dksX6_does_3 : cX6_does.data.toList.drop 71 = dktX6_does_3 := dk_seg dksX6_does_2 24 rfl rfl
theorem dksX6_does_4 : cX6_does.data.toList.drop 95 = dktX6_does_4 := dk_seg dksX6_does_3 24 rfl rfl
theorem dksX6_does_5 : cX6_does.data.toList.drop 117 = dktX6_does_5 := dk_seg dksX6_does_4 22 rfl rfl
theorem dksX6_does_6 : cX6_does.data.toList.drop 139 = dktX6_does_6 := dk_seg dksX6_does_5 22 rfl rfl
theorem dksX6_does_7 : cX6_does.data.toList.drop 162 = dktX6_does_7 := dk_seg dksX6_does_6 23 rfl rfl
theorem dksX6_does_8 : cX6_does.data.toList.drop 185 = dktX6_does_8 := dk_seg dksX6_does_7 23 rfl rfl
theorem dksX6_does_9 : cX6_does.data.toList.drop 209 = dktX6_does_9 := dk_seg dksX6_does_8 24 rfl rfl
theorem dksX6_does_10 : cX6_does.data.toList.drop 232 = dktX6_does_10 := dk_seg dksX6_does_9 23 rfl rfl
theorem dksX6_does_11 : cX6_does.data.toList.drop 254 = dktX6_does_11 := dk_seg dksX6_does_10 22 rfl rfl
theorem dksX6_does_12 : cX6_does.data.toList.drop 278 = dktX6_does_12 := dk_seg dksX6_does_11 24 rfl rfl
theorem dksX6_does_13 : cX6_does.data.toList.drop 302 = dktX6_does_13 := dk_seg dksX6_does_12 24 rfl rfl
theorem dksX6_does_14 : cX6_does.data.toList.drop 325 = dktX6_does_14 := dk_seg dksX6_does_13 23 rfl rfl
theorem dksX6_does_15 : cX6_does.data.toList.drop 349 = dktX6_does_15 := dk_seg dksX6_does_14 24 rfl rfl
theorem dksX6_does_16 : cX6_does.data.toList.drop 373 = dktX6_does_16 := dk_seg dksX6_does_15 24 rfl rfl
theorem dX6_does_0 : decode cX6_does 0 = .ok (.aload_n 0, 1) := dk_42 (dk_at dksX6_does_0 0 rfl rfl)
theorem dX6_does_1 : decode cX6_does 1 = .ok (.getfield 22, 3) := dk_180 0 22 (dk_at dksX6_does_0 1 rfl rfl)
theorem dX6_does_4 : decode cX6_does 4 = .ok (.iload_n 1, 1) := dk_27 (dk_at dksX6_does_0 4 rfl rfl)
theorem dX6_does_5 : decode cX6_does 5 = .ok (.iaload, 1) := dk_46 (dk_at dksX6_does_0 5 rfl rfl)
theorem dX6_does_6 : decode cX6_does 6 = .ok (.istore_n 2, 1) := dk_61 (dk_at dksX6_does_0 6 rfl rfl)
theorem dX6_does_7 : decode cX6_does 7 = .ok (.aload_n 0, 1) := dk_42 (dk_at dksX6_does_0 7 rfl rfl)
theorem dX6_does_8 : decode cX6_does 8 = .ok (.iload_n 1, 1) := dk_27 (dk_at dksX6_does_0 8 rfl rfl)
theorem dX6_does_9 : decode cX6_does 9 = .ok (.iconst 1, 1) := dk_4 (dk_at dksX6_does_0 9 rfl rfl)
theorem dX6_does_10 : decode cX6_does 10 = .ok (.iadd, 1) := dk_96 (dk_at dksX6_does_0 10 rfl rfl)
theorem dX6_does_11 : decode cX6_does 11 = .ok (.invokevirtual 171, 3) := dk_182 0 171 (dk_at dksX6_does_0 11 rfl rfl)
theorem dX6_does_14 : decode cX6_does 14 = .ok (.istore_n 3, 1) := dk_62 (dk_at dksX6_does_0 14 rfl rfl)
theorem dX6_does_15 : decode cX6_does 15 = .ok (.aload_n 0, 1) := dk_42 (dk_at dksX6_does_0 15 rfl rfl)
theorem dX6_does_16 : decode cX6_does 16 = .ok (.iload_n 3, 1) := dk_29 (dk_at dksX6_does_0 16 rfl rfl)
theorem dX6_does_17 : decode cX6_does 17 = .ok (.invokevirtual 115, 3) := dk_182 0 115 (dk_at dksX6_does_0 17 rfl rfl)
theorem dX6_does_20 : decode cX6_does 20 = .ok (.istore 4, 2) := dk_54 4 (dk_at dksX6_does_0 20 rfl rfl)
theorem dX6_does_22 : decode cX6_does 22 = .ok (.iconst 1, 1) := dk_4 (dk_at dksX6_does_0 22 rfl rfl)
theorem dX6_does_23 : decode cX6_does 23 = .ok (.istore 5, 2) := dk_54 5 (dk_at dksX6_does_1 0 rfl rfl)
theorem dX6_does_25 : decode cX6_does 25 = .ok (.iload_n 2, 1) := dk_28 (dk_at dksX6_does_1 2 rfl rfl)
theorem dX6_does_26 : decode cX6_does 26 = .ok (.bipush 43, 2) := dk_16 43 (dk_at dksX6_does_1 3 rfl rfl)
theorem dX6_does_28 : decode cX6_does 28 = .ok (.if_icmp .ne 35, 3) := dk_160 0 35 (dk_at dksX6_does_1 5 rfl rfl)
theorem dX6_does_31 : decode cX6_does 31 = .ok (.aload_n 0, 1) := dk_42 (dk_at dksX6_does_1 8 rfl rfl)
theorem dX6_does_32 : decode cX6_does 32 = .ok (.getfield 7, 3) := dk_180 0 7 (dk_at dksX6_does_1 9 rfl rfl)
theorem dX6_does_35 : decode cX6_does 35 = .ok (.bipush 7, 2) := dk_16 7 (dk_at dksX6_does_1 12 rfl rfl)
theorem dX6_does_37 : decode cX6_does 37 = .ok (.iaload, 1) := dk_46 (dk_at dksX6_does_1 14 rfl rfl)
theorem dX6_does_38 : decode cX6_does 38 = .ok (.bipush 12, 2) := dk_16 12 (dk_at dksX6_does_1 15 rfl rfl)
theorem dX6_does_40 : decode cX6_does 40 = .ok (.if_icmp .ge 7, 3) := dk_162 0 7 (dk_at dksX6_does_1 17 rfl rfl)
theorem dX6_does_43 : decode cX6_does 43 = .ok (.iconst 1, 1) := dk_4 (dk_at dksX6_does_1 20 rfl rfl)
theorem dX6_does_44 : decode cX6_does 44 = .ok (.goto 4, 3) := dk_167 0 4 (dk_at dksX6_does_1 21 rfl rfl)
theorem dX6_does_47 : decode cX6_does 47 = .ok (.iconst 0, 1) := dk_3 (dk_at dksX6_does_2 0 rfl rfl)
theorem dX6_does_48 : decode cX6_does 48 = .ok (.istore 5, 2) := dk_54 5 (dk_at dksX6_does_2 1 rfl rfl)
theorem dX6_does_50 : decode cX6_does 50 = .ok (.iload 5, 2) := dk_21 5 (dk_at dksX6_does_2 3 rfl rfl)
theorem dX6_does_52 : decode cX6_does 52 = .ok (.ifCond .eq 326, 3) := dk_153 1 70 (dk_at dksX6_does_2 5 rfl rfl)
theorem dX6_does_55 : decode cX6_does 55 = .ok (.aload_n 0, 1) := dk_42 (dk_at dksX6_does_2 8 rfl rfl)
theorem dX6_does_56 : decode cX6_does 56 = .ok (.iload_n 3, 1) := dk_29 (dk_at dksX6_does_2 9 rfl rfl)
theorem dX6_does_57 : decode cX6_does 57 = .ok (.invokevirtual 109, 3) := dk_182 0 109 (dk_at dksX6_does_2 10 rfl rfl)
theorem dX6_does_60 : decode cX6_does 60 = .ok (.goto 318, 3) := dk_167 1 62 (dk_at dksX6_does_2 13 rfl rfl)
theorem dX6_does_63 : decode cX6_does 63 = .ok (.iload_n 2, 1) := dk_28 (dk_at dksX6_does_2 16 rfl rfl)
theorem dX6_does_64 : decode cX6_does 64 = .ok (.bipush 115, 2) := dk_16 115 (dk_at dksX6_does_2 17 rfl rfl)
theorem dX6_does_66 : decode cX6_does 66 = .ok (.if_icmp .ne 36, 3) := dk_160 0 36 (dk_at dksX6_does_2 19 rfl rfl)
theorem dX6_does_69 : decode cX6_does 69 = .ok (.iload 4, 2) := dk_21 4 (dk_at dksX6_does_2 22 rfl rfl)
theorem dX6_does_71 : decode cX6_does 71 = .ok (.ifCond .eq 15, 3) := dk_153 0 15 (dk_at dksX6_does_3 0 rfl rfl)
theorem dX6_does_74 : decode cX6_does 74 = .ok (.aload_n 0, 1) := dk_42 (dk_at dksX6_does_3 3 rfl rfl)
theorem dX6_does_75 : decode cX6_does 75 = .ok (.iload_n 3, 1) := dk_29 (dk_at dksX6_does_3 4 rfl rfl)
theorem dX6_does_76 : decode cX6_does 76 = .ok (.invokevirtual 118, 3) := dk_182 0 118 (dk_at dksX6_does_3 5 rfl rfl)
theorem dX6_does_79 : decode cX6_does 79 = .ok (.ifCond .ne 7, 3) := dk_154 0 7 (dk_at dksX6_does_3 8 rfl rfl)
theorem dX6_does_82 : decode cX6_does 82 = .ok (.iconst 1, 1) := dk_4 (dk_at dksX6_does_3 11 rfl rfl)
theorem dX6_does_83 : decode cX6_does 83 = .ok (.goto 4, 3) := dk_167 0 4 (dk_at dksX6_does_3 12 rfl rfl)
theorem dX6_does_86 : decode cX6_does 86 = .ok (.iconst 0, 1) := dk_3 (dk_at dksX6_does_3 15 rfl rfl)
theorem dX6_does_87 : decode cX6_does 87 = .ok (.istore 5, 2) := dk_54 5 (dk_at dksX6_does_3 16 rfl rfl)
theorem dX6_does_89 : decode cX6_does 89 = .ok (.iload 5, 2) := dk_21 5 (dk_at dksX6_does_3 18 rfl rfl)
theorem dX6_does_91 : decode cX6_does 91 = .ok (.ifCond .eq 287, 3) := dk_153 1 31 (dk_at dksX6_does_3 20 rfl rfl)
theorem dX6_does_94 : decode cX6_does 94 = .ok (.aload_n 0, 1) := dk_42 (dk_at dksX6_does_3 23 rfl rfl)
theorem dX6_does_95 : decode cX6_does 95 = .ok (.iload_n 3, 1) := dk_29 (dk_at dksX6_does_4 0 rfl rfl)
theorem dX6_does_96 : decode cX6_does 96 = .ok (.invokevirtual 121, 3) := dk_182 0 121 (dk_at dksX6_does_4 1 rfl rfl)
theorem dX6_does_99 : decode cX6_does 99 = .ok (.goto 279, 3) := dk_167 1 23 (dk_at dksX6_does_4 4 rfl rfl)
theorem dX6_does_102 : decode cX6_does 102 = .ok (.iload_n 2, 1) := dk_28 (dk_at dksX6_does_4 7 rfl rfl)
theorem dX6_does_103 : decode cX6_does 103 = .ok (.bipush 100, 2) := dk_16 100 (dk_at dksX6_does_4 8 rfl rfl)
theorem dX6_does_105 : decode cX6_does 105 = .ok (.if_icmp .ne 60, 3) := dk_160 0 60 (dk_at dksX6_does_4 10 rfl rfl)
theorem dX6_does_108 : decode cX6_does 108 = .ok (.aload_n 0, 1) := dk_42 (dk_at dksX6_does_4 13 rfl rfl)
theorem dX6_does_109 : decode cX6_does 109 = .ok (.iload_n 1, 1) := dk_27 (dk_at dksX6_does_4 14 rfl rfl)
theorem dX6_does_110 : decode cX6_does 110 = .ok (.iload_n 3, 1) := dk_29 (dk_at dksX6_does_4 15 rfl rfl)
theorem dX6_does_111 : decode cX6_does 111 = .ok (.bipush 10, 2) := dk_16 10 (dk_at dksX6_does_4 16 rfl rfl)
theorem dX6_does_113 : decode cX6_does 113 = .ok (.if_icmp .ge 7, 3) := dk_162 0 7 (dk_at dksX6_does_4 18 rfl rfl)
theorem dX6_does_116 : decode cX6_does 116 = .ok (.iconst 3, 1) := dk_6 (dk_at dksX6_does_4 21 rfl rfl)
theorem dX6_does_117 : decode cX6_does 117 = .ok (.goto 4, 3) := dk_167 0 4 (dk_at dksX6_does_5 0 rfl rfl)
theorem dX6_does_120 : decode cX6_does 120 = .ok (.iconst 4, 1) := dk_7 (dk_at dksX6_does_5 3 rfl rfl)
theorem dX6_does_121 : decode cX6_does 121 = .ok (.iadd, 1) := dk_96 (dk_at dksX6_does_5 4 rfl rfl)
theorem dX6_does_122 : decode cX6_does 122 = .ok (.invokevirtual 171, 3) := dk_182 0 171 (dk_at dksX6_does_5 5 rfl rfl)
theorem dX6_does_125 : decode cX6_does 125 = .ok (.istore 6, 2) := dk_54 6 (dk_at dksX6_does_5 8 rfl rfl)
theorem dX6_does_127 : decode cX6_does 127 = .ok (.iload 4, 2) := dk_21 4 (dk_at dksX6_does_5 10 rfl rfl)
theorem dX6_does_129 : decode cX6_does 129 = .ok (.ifCond .eq 17, 3) := dk_153 0 17 (dk_at dksX6_does_5 12 rfl rfl)
theorem dX6_does_132 : decode cX6_does 132 = .ok (.aload_n 0, 1) := dk_42 (dk_at dksX6_does_5 15 rfl rfl)
theorem dX6_does_133 : decode cX6_does 133 = .ok (.iload_n 3, 1) := dk_29 (dk_at dksX6_does_5 16 rfl rfl)
theorem dX6_does_134 : decode cX6_does 134 = .ok (.iload 6, 2) := dk_21 6 (dk_at dksX6_does_5 17 rfl rfl)
theorem dX6_does_136 : decode cX6_does 136 = .ok (.invokevirtual 127, 3) := dk_182 0 127 (dk_at dksX6_does_5 19 rfl rfl)
theorem dX6_does_139 : decode cX6_does 139 = .ok (.ifCond .ne 7, 3) := dk_154 0 7 (dk_at dksX6_does_6 0 rfl rfl)
theorem dX6_does_142 : decode cX6_does 142 = .ok (.iconst 1, 1) := dk_4 (dk_at dksX6_does_6 3 rfl rfl)
theorem dX6_does_143 : decode cX6_does 143 = .ok (.goto 4, 3) := dk_167 0 4 (dk_at dksX6_does_6 4 rfl rfl)
theorem dX6_does_146 : decode cX6_does 146 = .ok (.iconst 0, 1) := dk_3 (dk_at dksX6_does_6 7 rfl rfl)
theorem dX6_does_147 : decode cX6_does 147 = .ok (.istore 5, 2) := dk_54 5 (dk_at dksX6_does_6 8 rfl rfl)
theorem dX6_does_149 : decode cX6_does 149 = .ok (.iload 5, 2) := dk_21 5 (dk_at dksX6_does_6 10 rfl rfl)
theorem dX6_does_151 : decode cX6_does 151 = .ok (.ifCond .eq 11, 3) := dk_153 0 11 (dk_at dksX6_does_6 12 rfl rfl)
theorem dX6_does_154 : decode cX6_does 154 = .ok (.aload_n 0, 1) := dk_42 (dk_at dksX6_does_6 15 rfl rfl)
theorem dX6_does_155 : decode cX6_does 155 = .ok (.iload_n 3, 1) := dk_29 (dk_at dksX6_does_6 16 rfl rfl)
theorem dX6_does_156 : decode cX6_does 156 = .ok (.iconst 2, 1) := dk_5 (dk_at dksX6_does_6 17 rfl rfl)
theorem dX6_does_157 : decode cX6_does 157 = .ok (.iload 6, 2) := dk_21 6 (dk_at dksX6_does_6 18 rfl rfl)
theorem dX6_does_159 : decode cX6_does 159 = .ok (.invokevirtual 112, 3) := dk_182 0 112 (dk_at dksX6_does_6 20 rfl rfl)
theorem dX6_does_162 : decode cX6_does 162 = .ok (.goto 216, 3) := dk_167 0 216 (dk_at dksX6_does_7 0 rfl rfl)
theorem dX6_does_165 : decode cX6_does 165 = .ok (.iload_n 2, 1) := dk_28 (dk_at dksX6_does_7 3 rfl rfl)
theorem dX6_does_166 : decode cX6_does 166 = .ok (.bipush 104, 2) := dk_16 104 (dk_at dksX6_does_7 4 rfl rfl)
theorem dX6_does_168 : decode cX6_does 168 = .ok (.if_icmp .ne 38, 3) := dk_160 0 38 (dk_at dksX6_does_7 6 rfl rfl)
theorem dX6_does_171 : decode cX6_does 171 = .ok (.iload 4, 2) := dk_21 4 (dk_at dksX6_does_7 9 rfl rfl)
theorem dX6_does_173 : decode cX6_does 173 = .ok (.ifCond .eq 15, 3) := dk_153 0 15 (dk_at dksX6_does_7 11 rfl rfl)
theorem dX6_does_176 : decode cX6_does 176 = .ok (.aload_n 0, 1) := dk_42 (dk_at dksX6_does_7 14 rfl rfl)
theorem dX6_does_177 : decode cX6_does 177 = .ok (.iload_n 3, 1) := dk_29 (dk_at dksX6_does_7 15 rfl rfl)
theorem dX6_does_178 : decode cX6_does 178 = .ok (.invokevirtual 130, 3) := dk_182 0 130 (dk_at dksX6_does_7 16 rfl rfl)
theorem dX6_does_181 : decode cX6_does 181 = .ok (.ifCond .eq 7, 3) := dk_153 0 7 (dk_at dksX6_does_7 19 rfl rfl)
theorem dX6_does_184 : decode cX6_does 184 = .ok (.iconst 1, 1) := dk_4 (dk_at dksX6_does_7 22 rfl rfl)
theorem dX6_does_185 : decode cX6_does 185 = .ok (.goto 4, 3) := dk_167 0 4 (dk_at dksX6_does_8 0 rfl rfl)
theorem dX6_does_188 : decode cX6_does 188 = .ok (.iconst 0, 1) := dk_3 (dk_at dksX6_does_8 3 rfl rfl)
theorem dX6_does_189 : decode cX6_does 189 = .ok (.istore 5, 2) := dk_54 5 (dk_at dksX6_does_8 4 rfl rfl)
theorem dX6_does_191 : decode cX6_does 191 = .ok (.iload 5, 2) := dk_21 5 (dk_at dksX6_does_8 6 rfl rfl)
theorem dX6_does_193 : decode cX6_does 193 = .ok (.ifCond .eq 185, 3) := dk_153 0 185 (dk_at dksX6_does_8 8 rfl rfl)
theorem dX6_does_196 : decode cX6_does 196 = .ok (.aload_n 0, 1) := dk_42 (dk_at dksX6_does_8 11 rfl rfl)
theorem dX6_does_197 : decode cX6_does 197 = .ok (.iload_n 3, 1) := dk_29 (dk_at dksX6_does_8 12 rfl rfl)
theorem dX6_does_198 : decode cX6_does 198 = .ok (.iconst 3, 1) := dk_6 (dk_at dksX6_does_8 13 rfl rfl)
theorem dX6_does_199 : decode cX6_does 199 = .ok (.iconst (-1), 1) := dk_2 (dk_at dksX6_does_8 14 rfl rfl)
theorem dX6_does_200 : decode cX6_does 200 = .ok (.invokevirtual 112, 3) := dk_182 0 112 (dk_at dksX6_does_8 15 rfl rfl)
theorem dX6_does_203 : decode cX6_does 203 = .ok (.goto 175, 3) := dk_167 0 175 (dk_at dksX6_does_8 18 rfl rfl)
theorem dX6_does_206 : decode cX6_does 206 = .ok (.iload_n 2, 1) := dk_28 (dk_at dksX6_does_8 21 rfl rfl)
theorem dX6_does_207 : decode cX6_does 207 = .ok (.bipush 107, 2) := dk_16 107 (dk_at dksX6_does_8 22 rfl rfl)
theorem dX6_does_209 : decode cX6_does 209 = .ok (.if_icmp .ne 38, 3) := dk_160 0 38 (dk_at dksX6_does_9 0 rfl rfl)
theorem dX6_does_212 : decode cX6_does 212 = .ok (.iload 4, 2) := dk_21 4 (dk_at dksX6_does_9 3 rfl rfl)
theorem dX6_does_214 : decode cX6_does 214 = .ok (.ifCond .eq 15, 3) := dk_153 0 15 (dk_at dksX6_does_9 5 rfl rfl)
theorem dX6_does_217 : decode cX6_does 217 = .ok (.aload_n 0, 1) := dk_42 (dk_at dksX6_does_9 8 rfl rfl)
theorem dX6_does_218 : decode cX6_does 218 = .ok (.iload_n 3, 1) := dk_29 (dk_at dksX6_does_9 9 rfl rfl)
theorem dX6_does_219 : decode cX6_does 219 = .ok (.invokevirtual 133, 3) := dk_182 0 133 (dk_at dksX6_does_9 10 rfl rfl)
theorem dX6_does_222 : decode cX6_does 222 = .ok (.ifCond .ne 7, 3) := dk_154 0 7 (dk_at dksX6_does_9 13 rfl rfl)
theorem dX6_does_225 : decode cX6_does 225 = .ok (.iconst 1, 1) := dk_4 (dk_at dksX6_does_9 16 rfl rfl)
theorem dX6_does_226 : decode cX6_does 226 = .ok (.goto 4, 3) := dk_167 0 4 (dk_at dksX6_does_9 17 rfl rfl)
theorem dX6_does_229 : decode cX6_does 229 = .ok (.iconst 0, 1) := dk_3 (dk_at dksX6_does_9 20 rfl rfl)
theorem dX6_does_230 : decode cX6_does 230 = .ok (.istore 5, 2) := dk_54 5 (dk_at dksX6_does_9 21 rfl rfl)
theorem dX6_does_232 : decode cX6_does 232 = .ok (.iload 5, 2) := dk_21 5 (dk_at dksX6_does_10 0 rfl rfl)
theorem dX6_does_234 : decode cX6_does 234 = .ok (.ifCond .eq 144, 3) := dk_153 0 144 (dk_at dksX6_does_10 2 rfl rfl)
theorem dX6_does_237 : decode cX6_does 237 = .ok (.aload_n 0, 1) := dk_42 (dk_at dksX6_does_10 5 rfl rfl)
theorem dX6_does_238 : decode cX6_does 238 = .ok (.iload_n 3, 1) := dk_29 (dk_at dksX6_does_10 6 rfl rfl)
theorem dX6_does_239 : decode cX6_does 239 = .ok (.iconst 4, 1) := dk_7 (dk_at dksX6_does_10 7 rfl rfl)
theorem dX6_does_240 : decode cX6_does 240 = .ok (.iconst (-1), 1) := dk_2 (dk_at dksX6_does_10 8 rfl rfl)
theorem dX6_does_241 : decode cX6_does 241 = .ok (.invokevirtual 112, 3) := dk_182 0 112 (dk_at dksX6_does_10 9 rfl rfl)
theorem dX6_does_244 : decode cX6_does 244 = .ok (.goto 134, 3) := dk_167 0 134 (dk_at dksX6_does_10 12 rfl rfl)
theorem dX6_does_247 : decode cX6_does 247 = .ok (.iload_n 2, 1) := dk_28 (dk_at dksX6_does_10 15 rfl rfl)
theorem dX6_does_248 : decode cX6_does 248 = .ok (.bipush 108, 2) := dk_16 108 (dk_at dksX6_does_10 16 rfl rfl)
theorem dX6_does_250 : decode cX6_does 250 = .ok (.if_icmp .ne 33, 3) := dk_160 0 33 (dk_at dksX6_does_10 18 rfl rfl)
theorem dX6_does_253 : decode cX6_does 253 = .ok (.aload_n 0, 1) := dk_42 (dk_at dksX6_does_10 21 rfl rfl)
theorem dX6_does_254 : decode cX6_does 254 = .ok (.invokevirtual 136, 3) := dk_182 0 136 (dk_at dksX6_does_11 0 rfl rfl)
theorem dX6_does_257 : decode cX6_does 257 = .ok (.istore 5, 2) := dk_54 5 (dk_at dksX6_does_11 3 rfl rfl)
theorem dX6_does_259 : decode cX6_does 259 = .ok (.aload_n 0, 1) := dk_42 (dk_at dksX6_does_11 5 rfl rfl)
theorem dX6_does_260 : decode cX6_does 260 = .ok (.getfield 7, 3) := dk_180 0 7 (dk_at dksX6_does_11 6 rfl rfl)
theorem dX6_does_263 : decode cX6_does 263 = .ok (.iconst 1, 1) := dk_4 (dk_at dksX6_does_11 9 rfl rfl)
theorem dX6_does_264 : decode cX6_does 264 = .ok (.iload 5, 2) := dk_21 5 (dk_at dksX6_does_11 10 rfl rfl)
theorem dX6_does_266 : decode cX6_does 266 = .ok (.ifCond .eq 7, 3) := dk_153 0 7 (dk_at dksX6_does_11 12 rfl rfl)
theorem dX6_does_269 : decode cX6_does 269 = .ok (.iconst 1, 1) := dk_4 (dk_at dksX6_does_11 15 rfl rfl)
theorem dX6_does_270 : decode cX6_does 270 = .ok (.goto 9, 3) := dk_167 0 9 (dk_at dksX6_does_11 16 rfl rfl)
theorem dX6_does_273 : decode cX6_does 273 = .ok (.aload_n 0, 1) := dk_42 (dk_at dksX6_does_11 19 rfl rfl)
theorem dX6_does_274 : decode cX6_does 274 = .ok (.getfield 7, 3) := dk_180 0 7 (dk_at dksX6_does_11 20 rfl rfl)
theorem dX6_does_277 : decode cX6_does 277 = .ok (.iconst 1, 1) := dk_4 (dk_at dksX6_does_11 23 rfl rfl)
theorem dX6_does_278 : decode cX6_does 278 = .ok (.iaload, 1) := dk_46 (dk_at dksX6_does_12 0 rfl rfl)
theorem dX6_does_279 : decode cX6_does 279 = .ok (.iastore, 1) := dk_79 (dk_at dksX6_does_12 1 rfl rfl)
theorem dX6_does_280 : decode cX6_does 280 = .ok (.goto 98, 3) := dk_167 0 98 (dk_at dksX6_does_12 2 rfl rfl)
theorem dX6_does_283 : decode cX6_does 283 = .ok (.iload_n 2, 1) := dk_28 (dk_at dksX6_does_12 5 rfl rfl)
theorem dX6_does_284 : decode cX6_does 284 = .ok (.bipush 112, 2) := dk_16 112 (dk_at dksX6_does_12 6 rfl rfl)
theorem dX6_does_286 : decode cX6_does 286 = .ok (.if_icmp .ne 36, 3) := dk_160 0 36 (dk_at dksX6_does_12 8 rfl rfl)
theorem dX6_does_289 : decode cX6_does 289 = .ok (.iload 4, 2) := dk_21 4 (dk_at dksX6_does_12 11 rfl rfl)
theorem dX6_does_291 : decode cX6_does 291 = .ok (.ifCond .eq 15, 3) := dk_153 0 15 (dk_at dksX6_does_12 13 rfl rfl)
theorem dX6_does_294 : decode cX6_does 294 = .ok (.aload_n 0, 1) := dk_42 (dk_at dksX6_does_12 16 rfl rfl)
theorem dX6_does_295 : decode cX6_does 295 = .ok (.iload_n 3, 1) := dk_29 (dk_at dksX6_does_12 17 rfl rfl)
theorem dX6_does_296 : decode cX6_does 296 = .ok (.invokevirtual 140, 3) := dk_182 0 140 (dk_at dksX6_does_12 18 rfl rfl)
theorem dX6_does_299 : decode cX6_does 299 = .ok (.ifCond .ne 7, 3) := dk_154 0 7 (dk_at dksX6_does_12 21 rfl rfl)
theorem dX6_does_302 : decode cX6_does 302 = .ok (.iconst 1, 1) := dk_4 (dk_at dksX6_does_13 0 rfl rfl)
theorem dX6_does_303 : decode cX6_does 303 = .ok (.goto 4, 3) := dk_167 0 4 (dk_at dksX6_does_13 1 rfl rfl)
theorem dX6_does_306 : decode cX6_does 306 = .ok (.iconst 0, 1) := dk_3 (dk_at dksX6_does_13 4 rfl rfl)
theorem dX6_does_307 : decode cX6_does 307 = .ok (.istore 5, 2) := dk_54 5 (dk_at dksX6_does_13 5 rfl rfl)
theorem dX6_does_309 : decode cX6_does 309 = .ok (.iload 5, 2) := dk_21 5 (dk_at dksX6_does_13 7 rfl rfl)
theorem dX6_does_311 : decode cX6_does 311 = .ok (.ifCond .eq 67, 3) := dk_153 0 67 (dk_at dksX6_does_13 9 rfl rfl)
theorem dX6_does_314 : decode cX6_does 314 = .ok (.aload_n 0, 1) := dk_42 (dk_at dksX6_does_13 12 rfl rfl)
theorem dX6_does_315 : decode cX6_does 315 = .ok (.iload_n 3, 1) := dk_29 (dk_at dksX6_does_13 13 rfl rfl)
theorem dX6_does_316 : decode cX6_does 316 = .ok (.invokevirtual 143, 3) := dk_182 0 143 (dk_at dksX6_does_13 14 rfl rfl)
theorem dX6_does_319 : decode cX6_does 319 = .ok (.goto 59, 3) := dk_167 0 59 (dk_at dksX6_does_13 17 rfl rfl)
theorem dX6_does_322 : decode cX6_does 322 = .ok (.iload_n 2, 1) := dk_28 (dk_at dksX6_does_13 20 rfl rfl)
theorem dX6_does_323 : decode cX6_does 323 = .ok (.bipush 110, 2) := dk_16 110 (dk_at dksX6_does_13 21 rfl rfl)
theorem dX6_does_325 : decode cX6_does 325 = .ok (.if_icmp .ne 13, 3) := dk_160 0 13 (dk_at dksX6_does_14 0 rfl rfl)
theorem dX6_does_328 : decode cX6_does 328 = .ok (.aload_n 0, 1) := dk_42 (dk_at dksX6_does_14 3 rfl rfl)
theorem dX6_does_329 : decode cX6_does 329 = .ok (.iload_n 3, 1) := dk_29 (dk_at dksX6_does_14 4 rfl rfl)
theorem dX6_does_330 : decode cX6_does 330 = .ok (.invokevirtual 150, 3) := dk_182 0 150 (dk_at dksX6_does_14 5 rfl rfl)
theorem dX6_does_333 : decode cX6_does 333 = .ok (.istore 6, 2) := dk_54 6 (dk_at dksX6_does_14 8 rfl rfl)
theorem dX6_does_335 : decode cX6_does 335 = .ok (.goto 43, 3) := dk_167 0 43 (dk_at dksX6_does_14 10 rfl rfl)
theorem dX6_does_338 : decode cX6_does 338 = .ok (.aload_n 0, 1) := dk_42 (dk_at dksX6_does_14 13 rfl rfl)
theorem dX6_does_339 : decode cX6_does 339 = .ok (.getfield 7, 3) := dk_180 0 7 (dk_at dksX6_does_14 14 rfl rfl)
theorem dX6_does_342 : decode cX6_does 342 = .ok (.bipush 32, 2) := dk_16 32 (dk_at dksX6_does_14 17 rfl rfl)
theorem dX6_does_344 : decode cX6_does 344 = .ok (.iconst 3, 1) := dk_6 (dk_at dksX6_does_14 19 rfl rfl)
theorem dX6_does_345 : decode cX6_does 345 = .ok (.iload_n 3, 1) := dk_29 (dk_at dksX6_does_14 20 rfl rfl)
theorem dX6_does_346 : decode cX6_does 346 = .ok (.imul, 1) := dk_104 (dk_at dksX6_does_14 21 rfl rfl)
theorem dX6_does_347 : decode cX6_does 347 = .ok (.iadd, 1) := dk_96 (dk_at dksX6_does_14 22 rfl rfl)
theorem dX6_does_348 : decode cX6_does 348 = .ok (.iload_n 2, 1) := dk_28 (dk_at dksX6_does_14 23 rfl rfl)
theorem dX6_does_349 : decode cX6_does 349 = .ok (.bipush 97, 2) := dk_16 97 (dk_at dksX6_does_15 0 rfl rfl)
theorem dX6_does_351 : decode cX6_does 351 = .ok (.if_icmp .ne 7, 3) := dk_160 0 7 (dk_at dksX6_does_15 2 rfl rfl)
theorem dX6_does_354 : decode cX6_does 354 = .ok (.iconst 0, 1) := dk_3 (dk_at dksX6_does_15 5 rfl rfl)
theorem dX6_does_355 : decode cX6_does 355 = .ok (.goto 14, 3) := dk_167 0 14 (dk_at dksX6_does_15 6 rfl rfl)
theorem dX6_does_358 : decode cX6_does 358 = .ok (.iload_n 2, 1) := dk_28 (dk_at dksX6_does_15 9 rfl rfl)
theorem dX6_does_359 : decode cX6_does 359 = .ok (.bipush 119, 2) := dk_16 119 (dk_at dksX6_does_15 10 rfl rfl)
theorem dX6_does_361 : decode cX6_does 361 = .ok (.if_icmp .ne 7, 3) := dk_160 0 7 (dk_at dksX6_does_15 12 rfl rfl)
theorem dX6_does_364 : decode cX6_does 364 = .ok (.iconst 1, 1) := dk_4 (dk_at dksX6_does_15 15 rfl rfl)
theorem dX6_does_365 : decode cX6_does 365 = .ok (.goto 4, 3) := dk_167 0 4 (dk_at dksX6_does_15 16 rfl rfl)
theorem dX6_does_368 : decode cX6_does 368 = .ok (.iconst 2, 1) := dk_5 (dk_at dksX6_does_15 19 rfl rfl)
theorem dX6_does_369 : decode cX6_does 369 = .ok (.iadd, 1) := dk_96 (dk_at dksX6_does_15 20 rfl rfl)
theorem dX6_does_370 : decode cX6_does 370 = .ok (.aload_n 0, 1) := dk_42 (dk_at dksX6_does_15 21 rfl rfl)
theorem dX6_does_371 : decode cX6_does 371 = .ok (.iload_n 1, 1) := dk_27 (dk_at dksX6_does_15 22 rfl rfl)
theorem dX6_does_372 : decode cX6_does 372 = .ok (.iconst 3, 1) := dk_6 (dk_at dksX6_does_15 23 rfl rfl)
theorem dX6_does_373 : decode cX6_does 373 = .ok (.iadd, 1) := dk_96 (dk_at dksX6_does_16 0 rfl rfl)
theorem dX6_does_374 : decode cX6_does 374 = .ok (.invokevirtual 171, 3) := dk_182 0 171 (dk_at dksX6_does_16 1 rfl rfl)
theorem dX6_does_377 : decode cX6_does 377 = .ok (.iastore, 1) := dk_79 (dk_at dksX6_does_16 4 rfl rfl)
theorem dX6_does_378 : decode cX6_does 378 = .ok (.iload 5, 2) := dk_21 5 (dk_at dksX6_does_16 5 rfl rfl)
theorem dX6_does_380 : decode cX6_does 380 = .ok (.ireturn, 1) := dk_172 (dk_at dksX6_does_16 7 rfl rfl)
abbrev cX6_numberAt : ByteArray := prog_11_method_63_code
def yX6_numberAt : MethodName := ⟨RX6, "numberAt", "(I)I"⟩
def dkwX6_numberAt_1 : List UInt8 := [16, 10, 28, 104, 42, 180, 0, 22, 29, 46, 96, 16, 48, 100, 61, 132, 3, 1, 167, 255, 218, 28, 172]
abbrev dktX6_numberAt_1 : List UInt8 := dkwX6_numberAt_1 ++ []
def dkwX6_numberAt_0 : List UInt8 := [3, 61, 27, 62, 29, 42, 180, 0, 153, 162, 0, 36, 42, 180, 0, 22, 29, 46, 184, 0, 159, 153, 0, 24]
abbrev dktX6_numberAt_0 : List UInt8 := dkwX6_numberAt_0 ++ dktX6_numberAt_1
theorem dksX6_numberAt_0 : cX6_numberAt.data.toList.drop 0 = dktX6_numberAt_0 := by decide +kernel
theorem dksX6_numberAt_1 : cX6_numberAt.data.toList.drop 24 = dktX6_numberAt_1 := dk_seg dksX6_numberAt_0 24 rfl rfl
theorem dX6_numberAt_0 : decode cX6_numberAt 0 = .ok (.iconst 0, 1) := dk_3 (dk_at dksX6_numberAt_0 0 rfl rfl)
theorem dX6_numberAt_1 : decode cX6_numberAt 1 = .ok (.istore_n 2, 1) := dk_61 (dk_at dksX6_numberAt_0 1 rfl rfl)
theorem dX6_numberAt_2 : decode cX6_numberAt 2 = .ok (.iload_n 1, 1) := dk_27 (dk_at dksX6_numberAt_0 2 rfl rfl)
theorem dX6_numberAt_3 : decode cX6_numberAt 3 = .ok (.istore_n 3, 1) := dk_62 (dk_at dksX6_numberAt_0 3 rfl rfl)
theorem dX6_numberAt_4 : decode cX6_numberAt 4 = .ok (.iload_n 3, 1) := dk_29 (dk_at dksX6_numberAt_0 4 rfl rfl)
theorem dX6_numberAt_5 : decode cX6_numberAt 5 = .ok (.aload_n 0, 1) := dk_42 (dk_at dksX6_numberAt_0 5 rfl rfl)
theorem dX6_numberAt_6 : decode cX6_numberAt 6 = .ok (.getfield 153, 3) := dk_180 0 153 (dk_at dksX6_numberAt_0 6 rfl rfl)
theorem dX6_numberAt_9 : decode cX6_numberAt 9 = .ok (.if_icmp .ge 36, 3) := dk_162 0 36 (dk_at dksX6_numberAt_0 9 rfl rfl)
theorem dX6_numberAt_12 : decode cX6_numberAt 12 = .ok (.aload_n 0, 1) := dk_42 (dk_at dksX6_numberAt_0 12 rfl rfl)
theorem dX6_numberAt_13 : decode cX6_numberAt 13 = .ok (.getfield 22, 3) := dk_180 0 22 (dk_at dksX6_numberAt_0 13 rfl rfl)
theorem dX6_numberAt_16 : decode cX6_numberAt 16 = .ok (.iload_n 3, 1) := dk_29 (dk_at dksX6_numberAt_0 16 rfl rfl)
theorem dX6_numberAt_17 : decode cX6_numberAt 17 = .ok (.iaload, 1) := dk_46 (dk_at dksX6_numberAt_0 17 rfl rfl)
theorem dX6_numberAt_18 : decode cX6_numberAt 18 = .ok (.invokestatic 159, 3) := dk_184 0 159 (dk_at dksX6_numberAt_0 18 rfl rfl)
theorem dX6_numberAt_21 : decode cX6_numberAt 21 = .ok (.ifCond .eq 24, 3) := dk_153 0 24 (dk_at dksX6_numberAt_0 21 rfl rfl)
theorem dX6_numberAt_24 : decode cX6_numberAt 24 = .ok (.bipush 10, 2) := dk_16 10 (dk_at dksX6_numberAt_1 0 rfl rfl)
theorem dX6_numberAt_26 : decode cX6_numberAt 26 = .ok (.iload_n 2, 1) := dk_28 (dk_at dksX6_numberAt_1 2 rfl rfl)
theorem dX6_numberAt_27 : decode cX6_numberAt 27 = .ok (.imul, 1) := dk_104 (dk_at dksX6_numberAt_1 3 rfl rfl)
theorem dX6_numberAt_28 : decode cX6_numberAt 28 = .ok (.aload_n 0, 1) := dk_42 (dk_at dksX6_numberAt_1 4 rfl rfl)
theorem dX6_numberAt_29 : decode cX6_numberAt 29 = .ok (.getfield 22, 3) := dk_180 0 22 (dk_at dksX6_numberAt_1 5 rfl rfl)
theorem dX6_numberAt_32 : decode cX6_numberAt 32 = .ok (.iload_n 3, 1) := dk_29 (dk_at dksX6_numberAt_1 8 rfl rfl)
theorem dX6_numberAt_33 : decode cX6_numberAt 33 = .ok (.iaload, 1) := dk_46 (dk_at dksX6_numberAt_1 9 rfl rfl)
theorem dX6_numberAt_34 : decode cX6_numberAt 34 = .ok (.iadd, 1) := dk_96 (dk_at dksX6_numberAt_1 10 rfl rfl)
theorem dX6_numberAt_35 : decode cX6_numberAt 35 = .ok (.bipush 48, 2) := dk_16 48 (dk_at dksX6_numberAt_1 11 rfl rfl)
theorem dX6_numberAt_37 : decode cX6_numberAt 37 = .ok (.isub, 1) := dk_100 (dk_at dksX6_numberAt_1 13 rfl rfl)
theorem dX6_numberAt_38 : decode cX6_numberAt 38 = .ok (.istore_n 2, 1) := dk_61 (dk_at dksX6_numberAt_1 14 rfl rfl)
theorem dX6_numberAt_39 : decode cX6_numberAt 39 = .ok (.iinc 3 1, 3) := dk_132 3 1 (dk_at dksX6_numberAt_1 15 rfl rfl)
theorem dX6_numberAt_42 : decode cX6_numberAt 42 = .ok (.goto (-38), 3) := dk_167 255 218 (dk_at dksX6_numberAt_1 18 rfl rfl)
theorem dX6_numberAt_45 : decode cX6_numberAt 45 = .ok (.iload_n 2, 1) := dk_28 (dk_at dksX6_numberAt_1 21 rfl rfl)
theorem dX6_numberAt_46 : decode cX6_numberAt 46 = .ok (.ireturn, 1) := dk_172 (dk_at dksX6_numberAt_1 22 rfl rfl)
abbrev cX6_lots : ByteArray := prog_11_method_66_code
def yX6_lots : MethodName := ⟨RX6, "lots", "()I"⟩
def dkwX6_lots_0 : List UInt8 := [42, 3, 181, 0, 25, 42, 180, 0, 7, 16, 7, 46, 172]
abbrev dktX6_lots_0 : List UInt8 := dkwX6_lots_0 ++ []
theorem dksX6_lots_0 : cX6_lots.data.toList.drop 0 = dktX6_lots_0 := by decide +kernel
theorem dX6_lots_0 : decode cX6_lots 0 = .ok (.aload_n 0, 1) := dk_42 (dk_at dksX6_lots_0 0 rfl rfl)
theorem dX6_lots_1 : decode cX6_lots 1 = .ok (.iconst 0, 1) := dk_3 (dk_at dksX6_lots_0 1 rfl rfl)
theorem dX6_lots_2 : decode cX6_lots 2 = .ok (.putfield 25, 3) := dk_181 0 25 (dk_at dksX6_lots_0 2 rfl rfl)
theorem dX6_lots_5 : decode cX6_lots 5 = .ok (.aload_n 0, 1) := dk_42 (dk_at dksX6_lots_0 5 rfl rfl)
theorem dX6_lots_6 : decode cX6_lots 6 = .ok (.getfield 7, 3) := dk_180 0 7 (dk_at dksX6_lots_0 6 rfl rfl)
theorem dX6_lots_9 : decode cX6_lots 9 = .ok (.bipush 7, 2) := dk_16 7 (dk_at dksX6_lots_0 9 rfl rfl)
theorem dX6_lots_11 : decode cX6_lots 11 = .ok (.iaload, 1) := dk_46 (dk_at dksX6_lots_0 11 rfl rfl)
theorem dX6_lots_12 : decode cX6_lots 12 = .ok (.ireturn, 1) := dk_172 (dk_at dksX6_lots_0 12 rfl rfl)
abbrev cX6_placeOf : ByteArray := prog_11_method_68_code
def yX6_placeOf : MethodName := ⟨RX6, "placeOf", "(I)I"⟩
def dkwX6_placeOf_0 : List UInt8 := [42, 27, 3, 182, 0, 177, 172]
abbrev dktX6_placeOf_0 : List UInt8 := dkwX6_placeOf_0 ++ []
theorem dksX6_placeOf_0 : cX6_placeOf.data.toList.drop 0 = dktX6_placeOf_0 := by decide +kernel
theorem dX6_placeOf_0 : decode cX6_placeOf 0 = .ok (.aload_n 0, 1) := dk_42 (dk_at dksX6_placeOf_0 0 rfl rfl)
theorem dX6_placeOf_1 : decode cX6_placeOf 1 = .ok (.iload_n 1, 1) := dk_27 (dk_at dksX6_placeOf_0 1 rfl rfl)
theorem dX6_placeOf_2 : decode cX6_placeOf 2 = .ok (.iconst 0, 1) := dk_3 (dk_at dksX6_placeOf_0 2 rfl rfl)
theorem dX6_placeOf_3 : decode cX6_placeOf 3 = .ok (.invokevirtual 177, 3) := dk_182 0 177 (dk_at dksX6_placeOf_0 3 rfl rfl)
theorem dX6_placeOf_6 : decode cX6_placeOf 6 = .ok (.ireturn, 1) := dk_172 (dk_at dksX6_placeOf_0 6 rfl rfl)
abbrev cX6_tells : ByteArray := prog_11_method_67_code
def yX6_tells : MethodName := ⟨RX6, "tells", "(II)I"⟩
def dkwX6_tells_0 : List UInt8 := [42, 42, 27, 182, 0, 115, 4, 182, 0, 40, 153, 0, 12, 42, 27, 28, 182, 0, 51, 167, 0, 4, 3, 172]
abbrev dktX6_tells_0 : List UInt8 := dkwX6_tells_0 ++ []
theorem dksX6_tells_0 : cX6_tells.data.toList.drop 0 = dktX6_tells_0 := by decide +kernel
theorem dX6_tells_0 : decode cX6_tells 0 = .ok (.aload_n 0, 1) := dk_42 (dk_at dksX6_tells_0 0 rfl rfl)
theorem dX6_tells_1 : decode cX6_tells 1 = .ok (.aload_n 0, 1) := dk_42 (dk_at dksX6_tells_0 1 rfl rfl)
theorem dX6_tells_2 : decode cX6_tells 2 = .ok (.iload_n 1, 1) := dk_27 (dk_at dksX6_tells_0 2 rfl rfl)
theorem dX6_tells_3 : decode cX6_tells 3 = .ok (.invokevirtual 115, 3) := dk_182 0 115 (dk_at dksX6_tells_0 3 rfl rfl)
theorem dX6_tells_6 : decode cX6_tells 6 = .ok (.iconst 1, 1) := dk_4 (dk_at dksX6_tells_0 6 rfl rfl)
theorem dX6_tells_7 : decode cX6_tells 7 = .ok (.invokevirtual 40, 3) := dk_182 0 40 (dk_at dksX6_tells_0 7 rfl rfl)
theorem dX6_tells_10 : decode cX6_tells 10 = .ok (.ifCond .eq 12, 3) := dk_153 0 12 (dk_at dksX6_tells_0 10 rfl rfl)
theorem dX6_tells_13 : decode cX6_tells 13 = .ok (.aload_n 0, 1) := dk_42 (dk_at dksX6_tells_0 13 rfl rfl)
theorem dX6_tells_14 : decode cX6_tells 14 = .ok (.iload_n 1, 1) := dk_27 (dk_at dksX6_tells_0 14 rfl rfl)
theorem dX6_tells_15 : decode cX6_tells 15 = .ok (.iload_n 2, 1) := dk_28 (dk_at dksX6_tells_0 15 rfl rfl)
theorem dX6_tells_16 : decode cX6_tells 16 = .ok (.invokevirtual 51, 3) := dk_182 0 51 (dk_at dksX6_tells_0 16 rfl rfl)
theorem dX6_tells_19 : decode cX6_tells 19 = .ok (.goto 4, 3) := dk_167 0 4 (dk_at dksX6_tells_0 19 rfl rfl)
theorem dX6_tells_22 : decode cX6_tells 22 = .ok (.iconst 0, 1) := dk_3 (dk_at dksX6_tells_0 22 rfl rfl)
theorem dX6_tells_23 : decode cX6_tells 23 = .ok (.ireturn, 1) := dk_172 (dk_at dksX6_tells_0 23 rfl rfl)
abbrev cX6_drumOf : ByteArray := prog_11_method_69_code
def yX6_drumOf : MethodName := ⟨RX6, "drumOf", "(I)I"⟩
def dkwX6_drumOf_0 : List UInt8 := [42, 27, 4, 182, 0, 177, 172]
abbrev dktX6_drumOf_0 : List UInt8 := dkwX6_drumOf_0 ++ []
theorem dksX6_drumOf_0 : cX6_drumOf.data.toList.drop 0 = dktX6_drumOf_0 := by decide +kernel
theorem dX6_drumOf_0 : decode cX6_drumOf 0 = .ok (.aload_n 0, 1) := dk_42 (dk_at dksX6_drumOf_0 0 rfl rfl)
theorem dX6_drumOf_1 : decode cX6_drumOf 1 = .ok (.iload_n 1, 1) := dk_27 (dk_at dksX6_drumOf_0 1 rfl rfl)
theorem dX6_drumOf_2 : decode cX6_drumOf 2 = .ok (.iconst 1, 1) := dk_4 (dk_at dksX6_drumOf_0 2 rfl rfl)
theorem dX6_drumOf_3 : decode cX6_drumOf 3 = .ok (.invokevirtual 177, 3) := dk_182 0 177 (dk_at dksX6_drumOf_0 3 rfl rfl)
theorem dX6_drumOf_6 : decode cX6_drumOf 6 = .ok (.ireturn, 1) := dk_172 (dk_at dksX6_drumOf_0 6 rfl rfl)
abbrev cX6_weightOf : ByteArray := prog_11_method_70_code
def yX6_weightOf : MethodName := ⟨RX6, "weightOf", "(I)I"⟩
def dkwX6_weightOf_1 : List UInt8 := [27, 6, 182, 0, 51, 96, 167, 0, 4, 3, 172]
abbrev dktX6_weightOf_1 : List UInt8 := dkwX6_weightOf_1 ++ []
def dkwX6_weightOf_0 : List UInt8 := [42, 42, 27, 182, 0, 115, 4, 182, 0, 40, 153, 0, 23, 17, 3, 232, 42, 27, 5, 182, 0, 51, 104, 42]
abbrev dktX6_weightOf_0 : List UInt8 := dkwX6_weightOf_0 ++ dktX6_weightOf_1
theorem dksX6_weightOf_0 : cX6_weightOf.data.toList.drop 0 = dktX6_weightOf_0 := by decide +kernel
theorem dksX6_weightOf_1 : cX6_weightOf.data.toList.drop 24 = dktX6_weightOf_1 := dk_seg dksX6_weightOf_0 24 rfl rfl
theorem dX6_weightOf_0 : decode cX6_weightOf 0 = .ok (.aload_n 0, 1) := dk_42 (dk_at dksX6_weightOf_0 0 rfl rfl)
theorem dX6_weightOf_1 : decode cX6_weightOf 1 = .ok (.aload_n 0, 1) := dk_42 (dk_at dksX6_weightOf_0 1 rfl rfl)
theorem dX6_weightOf_2 : decode cX6_weightOf 2 = .ok (.iload_n 1, 1) := dk_27 (dk_at dksX6_weightOf_0 2 rfl rfl)
theorem dX6_weightOf_3 : decode cX6_weightOf 3 = .ok (.invokevirtual 115, 3) := dk_182 0 115 (dk_at dksX6_weightOf_0 3 rfl rfl)
theorem dX6_weightOf_6 : decode cX6_weightOf 6 = .ok (.iconst 1, 1) := dk_4 (dk_at dksX6_weightOf_0 6 rfl rfl)
theorem dX6_weightOf_7 : decode cX6_weightOf 7 = .ok (.invokevirtual 40, 3) := dk_182 0 40 (dk_at dksX6_weightOf_0 7 rfl rfl)
theorem dX6_weightOf_10 : decode cX6_weightOf 10 = .ok (.ifCond .eq 23, 3) := dk_153 0 23 (dk_at dksX6_weightOf_0 10 rfl rfl)
theorem dX6_weightOf_13 : decode cX6_weightOf 13 = .ok (.sipush 1000, 3) := dk_17 3 232 (dk_at dksX6_weightOf_0 13 rfl rfl)
theorem dX6_weightOf_16 : decode cX6_weightOf 16 = .ok (.aload_n 0, 1) := dk_42 (dk_at dksX6_weightOf_0 16 rfl rfl)
theorem dX6_weightOf_17 : decode cX6_weightOf 17 = .ok (.iload_n 1, 1) := dk_27 (dk_at dksX6_weightOf_0 17 rfl rfl)
theorem dX6_weightOf_18 : decode cX6_weightOf 18 = .ok (.iconst 2, 1) := dk_5 (dk_at dksX6_weightOf_0 18 rfl rfl)
theorem dX6_weightOf_19 : decode cX6_weightOf 19 = .ok (.invokevirtual 51, 3) := dk_182 0 51 (dk_at dksX6_weightOf_0 19 rfl rfl)
theorem dX6_weightOf_22 : decode cX6_weightOf 22 = .ok (.imul, 1) := dk_104 (dk_at dksX6_weightOf_0 22 rfl rfl)
theorem dX6_weightOf_23 : decode cX6_weightOf 23 = .ok (.aload_n 0, 1) := dk_42 (dk_at dksX6_weightOf_0 23 rfl rfl)
theorem dX6_weightOf_24 : decode cX6_weightOf 24 = .ok (.iload_n 1, 1) := dk_27 (dk_at dksX6_weightOf_1 0 rfl rfl)
theorem dX6_weightOf_25 : decode cX6_weightOf 25 = .ok (.iconst 3, 1) := dk_6 (dk_at dksX6_weightOf_1 1 rfl rfl)
theorem dX6_weightOf_26 : decode cX6_weightOf 26 = .ok (.invokevirtual 51, 3) := dk_182 0 51 (dk_at dksX6_weightOf_1 2 rfl rfl)
theorem dX6_weightOf_29 : decode cX6_weightOf 29 = .ok (.iadd, 1) := dk_96 (dk_at dksX6_weightOf_1 5 rfl rfl)
theorem dX6_weightOf_30 : decode cX6_weightOf 30 = .ok (.goto 4, 3) := dk_167 0 4 (dk_at dksX6_weightOf_1 6 rfl rfl)
theorem dX6_weightOf_33 : decode cX6_weightOf 33 = .ok (.iconst 0, 1) := dk_3 (dk_at dksX6_weightOf_1 9 rfl rfl)
theorem dX6_weightOf_34 : decode cX6_weightOf 34 = .ok (.ireturn, 1) := dk_172 (dk_at dksX6_weightOf_1 10 rfl rfl)
abbrev cX6_wetnessOf : ByteArray := prog_11_method_71_code
def yX6_wetnessOf : MethodName := ⟨RX6, "wetnessOf", "(I)I"⟩
def dkwX6_wetnessOf_0 : List UInt8 := [42, 27, 7, 182, 0, 177, 172]
abbrev dktX6_wetnessOf_0 : List UInt8 := dkwX6_wetnessOf_0 ++ []
theorem dksX6_wetnessOf_0 : cX6_wetnessOf.data.toList.drop 0 = dktX6_wetnessOf_0 := by decide +kernel
theorem dX6_wetnessOf_0 : decode cX6_wetnessOf 0 = .ok (.aload_n 0, 1) := dk_42 (dk_at dksX6_wetnessOf_0 0 rfl rfl)
theorem dX6_wetnessOf_1 : decode cX6_wetnessOf 1 = .ok (.iload_n 1, 1) := dk_27 (dk_at dksX6_wetnessOf_0 1 rfl rfl)
theorem dX6_wetnessOf_2 : decode cX6_wetnessOf 2 = .ok (.iconst 4, 1) := dk_7 (dk_at dksX6_wetnessOf_0 2 rfl rfl)
theorem dX6_wetnessOf_3 : decode cX6_wetnessOf 3 = .ok (.invokevirtual 177, 3) := dk_182 0 177 (dk_at dksX6_wetnessOf_0 3 rfl rfl)
theorem dX6_wetnessOf_6 : decode cX6_wetnessOf 6 = .ok (.ireturn, 1) := dk_172 (dk_at dksX6_wetnessOf_0 6 rfl rfl)
abbrev cX6_growthOf : ByteArray := prog_11_method_72_code
def yX6_growthOf : MethodName := ⟨RX6, "growthOf", "(I)I"⟩
def dkwX6_growthOf_0 : List UInt8 := [42, 27, 8, 182, 0, 177, 172]
abbrev dktX6_growthOf_0 : List UInt8 := dkwX6_growthOf_0 ++ []
theorem dksX6_growthOf_0 : cX6_growthOf.data.toList.drop 0 = dktX6_growthOf_0 := by decide +kernel
theorem dX6_growthOf_0 : decode cX6_growthOf 0 = .ok (.aload_n 0, 1) := dk_42 (dk_at dksX6_growthOf_0 0 rfl rfl)
theorem dX6_growthOf_1 : decode cX6_growthOf 1 = .ok (.iload_n 1, 1) := dk_27 (dk_at dksX6_growthOf_0 1 rfl rfl)
theorem dX6_growthOf_2 : decode cX6_growthOf 2 = .ok (.iconst 5, 1) := dk_8 (dk_at dksX6_growthOf_0 2 rfl rfl)
theorem dX6_growthOf_3 : decode cX6_growthOf 3 = .ok (.invokevirtual 177, 3) := dk_182 0 177 (dk_at dksX6_growthOf_0 3 rfl rfl)
theorem dX6_growthOf_6 : decode cX6_growthOf 6 = .ok (.ireturn, 1) := dk_172 (dk_at dksX6_growthOf_0 6 rfl rfl)
abbrev cX6_heatOf : ByteArray := prog_11_method_73_code
def yX6_heatOf : MethodName := ⟨RX6, "heatOf", "(I)I"⟩
def dkwX6_heatOf_0 : List UInt8 := [42, 27, 16, 6, 182, 0, 177, 172]
abbrev dktX6_heatOf_0 : List UInt8 := dkwX6_heatOf_0 ++ []
theorem dksX6_heatOf_0 : cX6_heatOf.data.toList.drop 0 = dktX6_heatOf_0 := by decide +kernel
theorem dX6_heatOf_0 : decode cX6_heatOf 0 = .ok (.aload_n 0, 1) := dk_42 (dk_at dksX6_heatOf_0 0 rfl rfl)
theorem dX6_heatOf_1 : decode cX6_heatOf 1 = .ok (.iload_n 1, 1) := dk_27 (dk_at dksX6_heatOf_0 1 rfl rfl)
theorem dX6_heatOf_2 : decode cX6_heatOf 2 = .ok (.bipush 6, 2) := dk_16 6 (dk_at dksX6_heatOf_0 2 rfl rfl)
theorem dX6_heatOf_4 : decode cX6_heatOf 4 = .ok (.invokevirtual 177, 3) := dk_182 0 177 (dk_at dksX6_heatOf_0 4 rfl rfl)
theorem dX6_heatOf_7 : decode cX6_heatOf 7 = .ok (.ireturn, 1) := dk_172 (dk_at dksX6_heatOf_0 7 rfl rfl)
abbrev cX6_feltOf : ByteArray := prog_11_method_74_code
def yX6_feltOf : MethodName := ⟨RX6, "feltOf", "(I)I"⟩
def dkwX6_feltOf_0 : List UInt8 := [42, 27, 16, 7, 182, 0, 177, 172]
abbrev dktX6_feltOf_0 : List UInt8 := dkwX6_feltOf_0 ++ []
theorem dksX6_feltOf_0 : cX6_feltOf.data.toList.drop 0 = dktX6_feltOf_0 := by decide +kernel
theorem dX6_feltOf_0 : decode cX6_feltOf 0 = .ok (.aload_n 0, 1) := dk_42 (dk_at dksX6_feltOf_0 0 rfl rfl)
theorem dX6_feltOf_1 : decode cX6_feltOf 1 = .ok (.iload_n 1, 1) := dk_27 (dk_at dksX6_feltOf_0 1 rfl rfl)
theorem dX6_feltOf_2 : decode cX6_feltOf 2 = .ok (.bipush 7, 2) := dk_16 7 (dk_at dksX6_feltOf_0 2 rfl rfl)
theorem dX6_feltOf_4 : decode cX6_feltOf 4 = .ok (.invokevirtual 177, 3) := dk_182 0 177 (dk_at dksX6_feltOf_0 4 rfl rfl)
theorem dX6_feltOf_7 : decode cX6_feltOf 7 = .ok (.ireturn, 1) := dk_172 (dk_at dksX6_feltOf_0 7 rfl rfl)
abbrev cX6_isGlassy : ByteArray := prog_11_method_75_code
def yX6_isGlassy : MethodName := ⟨RX6, "isGlassy", "(I)Z"⟩
def dkwX6_isGlassy_0 : List UInt8 := [42, 27, 16, 8, 182, 0, 177, 4, 160, 0, 7, 4, 167, 0, 4, 3, 172]
abbrev dktX6_isGlassy_0 : List UInt8 := dkwX6_isGlassy_0 ++ []
theorem dksX6_isGlassy_0 : cX6_isGlassy.data.toList.drop 0 = dktX6_isGlassy_0 := by decide +kernel
theorem dX6_isGlassy_0 : decode cX6_isGlassy 0 = .ok (.aload_n 0, 1) := dk_42 (dk_at dksX6_isGlassy_0 0 rfl rfl)
theorem dX6_isGlassy_1 : decode cX6_isGlassy 1 = .ok (.iload_n 1, 1) := dk_27 (dk_at dksX6_isGlassy_0 1 rfl rfl)
theorem dX6_isGlassy_2 : decode cX6_isGlassy 2 = .ok (.bipush 8, 2) := dk_16 8 (dk_at dksX6_isGlassy_0 2 rfl rfl)
theorem dX6_isGlassy_4 : decode cX6_isGlassy 4 = .ok (.invokevirtual 177, 3) := dk_182 0 177 (dk_at dksX6_isGlassy_0 4 rfl rfl)
theorem dX6_isGlassy_7 : decode cX6_isGlassy 7 = .ok (.iconst 1, 1) := dk_4 (dk_at dksX6_isGlassy_0 7 rfl rfl)
theorem dX6_isGlassy_8 : decode cX6_isGlassy 8 = .ok (.if_icmp .ne 7, 3) := dk_160 0 7 (dk_at dksX6_isGlassy_0 8 rfl rfl)
theorem dX6_isGlassy_11 : decode cX6_isGlassy 11 = .ok (.iconst 1, 1) := dk_4 (dk_at dksX6_isGlassy_0 11 rfl rfl)
theorem dX6_isGlassy_12 : decode cX6_isGlassy 12 = .ok (.goto 4, 3) := dk_167 0 4 (dk_at dksX6_isGlassy_0 12 rfl rfl)
theorem dX6_isGlassy_15 : decode cX6_isGlassy 15 = .ok (.iconst 0, 1) := dk_3 (dk_at dksX6_isGlassy_0 15 rfl rfl)
theorem dX6_isGlassy_16 : decode cX6_isGlassy 16 = .ok (.ireturn, 1) := dk_172 (dk_at dksX6_isGlassy_0 16 rfl rfl)
abbrev cX6_paceOf : ByteArray := prog_11_method_76_code
def yX6_paceOf : MethodName := ⟨RX6, "paceOf", "(I)I"⟩
def dkwX6_paceOf_1 : List UInt8 := [182, 0, 62, 167, 0, 4, 3, 172]
abbrev dktX6_paceOf_1 : List UInt8 := dkwX6_paceOf_1 ++ []
def dkwX6_paceOf_0 : List UInt8 := [42, 42, 27, 182, 0, 115, 4, 182, 0, 40, 153, 0, 19, 42, 27, 182, 0, 99, 153, 0, 11, 42, 27]
abbrev dktX6_paceOf_0 : List UInt8 := dkwX6_paceOf_0 ++ dktX6_paceOf_1
theorem dksX6_paceOf_0 : cX6_paceOf.data.toList.drop 0 = dktX6_paceOf_0 := by decide +kernel
theorem dksX6_paceOf_1 : cX6_paceOf.data.toList.drop 23 = dktX6_paceOf_1 := dk_seg dksX6_paceOf_0 23 rfl rfl
theorem dX6_paceOf_0 : decode cX6_paceOf 0 = .ok (.aload_n 0, 1) := dk_42 (dk_at dksX6_paceOf_0 0 rfl rfl)
theorem dX6_paceOf_1 : decode cX6_paceOf 1 = .ok (.aload_n 0, 1) := dk_42 (dk_at dksX6_paceOf_0 1 rfl rfl)
theorem dX6_paceOf_2 : decode cX6_paceOf 2 = .ok (.iload_n 1, 1) := dk_27 (dk_at dksX6_paceOf_0 2 rfl rfl)
theorem dX6_paceOf_3 : decode cX6_paceOf 3 = .ok (.invokevirtual 115, 3) := dk_182 0 115 (dk_at dksX6_paceOf_0 3 rfl rfl)
theorem dX6_paceOf_6 : decode cX6_paceOf 6 = .ok (.iconst 1, 1) := dk_4 (dk_at dksX6_paceOf_0 6 rfl rfl)
theorem dX6_paceOf_7 : decode cX6_paceOf 7 = .ok (.invokevirtual 40, 3) := dk_182 0 40 (dk_at dksX6_paceOf_0 7 rfl rfl)
theorem dX6_paceOf_10 : decode cX6_paceOf 10 = .ok (.ifCond .eq 19, 3) := dk_153 0 19 (dk_at dksX6_paceOf_0 10 rfl rfl)
theorem dX6_paceOf_13 : decode cX6_paceOf 13 = .ok (.aload_n 0, 1) := dk_42 (dk_at dksX6_paceOf_0 13 rfl rfl)
theorem dX6_paceOf_14 : decode cX6_paceOf 14 = .ok (.iload_n 1, 1) := dk_27 (dk_at dksX6_paceOf_0 14 rfl rfl)
theorem dX6_paceOf_15 : decode cX6_paceOf 15 = .ok (.invokevirtual 99, 3) := dk_182 0 99 (dk_at dksX6_paceOf_0 15 rfl rfl)
theorem dX6_paceOf_18 : decode cX6_paceOf 18 = .ok (.ifCond .eq 11, 3) := dk_153 0 11 (dk_at dksX6_paceOf_0 18 rfl rfl)
theorem dX6_paceOf_21 : decode cX6_paceOf 21 = .ok (.aload_n 0, 1) := dk_42 (dk_at dksX6_paceOf_0 21 rfl rfl)
theorem dX6_paceOf_22 : decode cX6_paceOf 22 = .ok (.iload_n 1, 1) := dk_27 (dk_at dksX6_paceOf_0 22 rfl rfl)
theorem dX6_paceOf_23 : decode cX6_paceOf 23 = .ok (.invokevirtual 62, 3) := dk_182 0 62 (dk_at dksX6_paceOf_1 0 rfl rfl)
theorem dX6_paceOf_26 : decode cX6_paceOf 26 = .ok (.goto 4, 3) := dk_167 0 4 (dk_at dksX6_paceOf_1 3 rfl rfl)
theorem dX6_paceOf_29 : decode cX6_paceOf 29 = .ok (.iconst 0, 1) := dk_3 (dk_at dksX6_paceOf_1 6 rfl rfl)
theorem dX6_paceOf_30 : decode cX6_paceOf 30 = .ok (.ireturn, 1) := dk_172 (dk_at dksX6_paceOf_1 7 rfl rfl)
abbrev cX6_lotsIn : ByteArray := prog_11_method_77_code
def yX6_lotsIn : MethodName := ⟨RX6, "lotsIn", "(I)I"⟩
def dkwX6_lotsIn_2 : List UInt8 := [167, 0, 4, 3, 128, 61, 132, 3, 1, 167, 255, 222, 28, 172]
abbrev dktX6_lotsIn_2 : List UInt8 := dkwX6_lotsIn_2 ++ []
def dkwX6_lotsIn_1 : List UInt8 := [180, 0, 7, 16, 7, 46, 162, 0, 29, 28, 42, 29, 3, 182, 0, 51, 27, 160, 0, 9, 4, 29, 120]
abbrev dktX6_lotsIn_1 : List UInt8 := dkwX6_lotsIn_1 ++ dktX6_lotsIn_2
def dkwX6_lotsIn_0 : List UInt8 := [42, 27, 3, 16, 6, 184, 0, 29, 4, 182, 0, 40, 154, 0, 5, 3, 172, 3, 61, 3, 62, 29, 42]
abbrev dktX6_lotsIn_0 : List UInt8 := dkwX6_lotsIn_0 ++ dktX6_lotsIn_1
theorem dksX6_lotsIn_0 : cX6_lotsIn.data.toList.drop 0 = dktX6_lotsIn_0 := by decide +kernel
theorem dksX6_lotsIn_1 : cX6_lotsIn.data.toList.drop 23 = dktX6_lotsIn_1 := dk_seg dksX6_lotsIn_0 23 rfl rfl
theorem dksX6_lotsIn_2 : cX6_lotsIn.data.toList.drop 46 = dktX6_lotsIn_2 := dk_seg dksX6_lotsIn_1 23 rfl rfl
theorem dX6_lotsIn_0 : decode cX6_lotsIn 0 = .ok (.aload_n 0, 1) := dk_42 (dk_at dksX6_lotsIn_0 0 rfl rfl)
theorem dX6_lotsIn_1 : decode cX6_lotsIn 1 = .ok (.iload_n 1, 1) := dk_27 (dk_at dksX6_lotsIn_0 1 rfl rfl)
theorem dX6_lotsIn_2 : decode cX6_lotsIn 2 = .ok (.iconst 0, 1) := dk_3 (dk_at dksX6_lotsIn_0 2 rfl rfl)
theorem dX6_lotsIn_3 : decode cX6_lotsIn 3 = .ok (.bipush 6, 2) := dk_16 6 (dk_at dksX6_lotsIn_0 3 rfl rfl)
theorem dX6_lotsIn_5 : decode cX6_lotsIn 5 = .ok (.invokestatic 29, 3) := dk_184 0 29 (dk_at dksX6_lotsIn_0 5 rfl rfl)
theorem dX6_lotsIn_8 : decode cX6_lotsIn 8 = .ok (.iconst 1, 1) := dk_4 (dk_at dksX6_lotsIn_0 8 rfl rfl)
theorem dX6_lotsIn_9 : decode cX6_lotsIn 9 = .ok (.invokevirtual 40, 3) := dk_182 0 40 (dk_at dksX6_lotsIn_0 9 rfl rfl)
theorem dX6_lotsIn_12 : decode cX6_lotsIn 12 = .ok (.ifCond .ne 5, 3) := dk_154 0 5 (dk_at dksX6_lotsIn_0 12 rfl rfl)
theorem dX6_lotsIn_15 : decode cX6_lotsIn 15 = .ok (.iconst 0, 1) := dk_3 (dk_at dksX6_lotsIn_0 15 rfl rfl)
theorem dX6_lotsIn_16 : decode cX6_lotsIn 16 = .ok (.ireturn, 1) := dk_172 (dk_at dksX6_lotsIn_0 16 rfl rfl)
theorem dX6_lotsIn_17 : decode cX6_lotsIn 17 = .ok (.iconst 0, 1) := dk_3 (dk_at dksX6_lotsIn_0 17 rfl rfl)
theorem dX6_lotsIn_18 : decode cX6_lotsIn 18 = .ok (.istore_n 2, 1) := dk_61 (dk_at dksX6_lotsIn_0 18 rfl rfl)
theorem dX6_lotsIn_19 : decode cX6_lotsIn 19 = .ok (.iconst 0, 1) := dk_3 (dk_at dksX6_lotsIn_0 19 rfl rfl)
theorem dX6_lotsIn_20 : decode cX6_lotsIn 20 = .ok (.istore_n 3, 1) := dk_62 (dk_at dksX6_lotsIn_0 20 rfl rfl)
theorem dX6_lotsIn_21 : decode cX6_lotsIn 21 = .ok (.iload_n 3, 1) := dk_29 (dk_at dksX6_lotsIn_0 21 rfl rfl)
theorem dX6_lotsIn_22 : decode cX6_lotsIn 22 = .ok (.aload_n 0, 1) := dk_42 (dk_at dksX6_lotsIn_0 22 rfl rfl)
theorem dX6_lotsIn_23 : decode cX6_lotsIn 23 = .ok (.getfield 7, 3) := dk_180 0 7 (dk_at dksX6_lotsIn_1 0 rfl rfl)
theorem dX6_lotsIn_26 : decode cX6_lotsIn 26 = .ok (.bipush 7, 2) := dk_16 7 (dk_at dksX6_lotsIn_1 3 rfl rfl)
theorem dX6_lotsIn_28 : decode cX6_lotsIn 28 = .ok (.iaload, 1) := dk_46 (dk_at dksX6_lotsIn_1 5 rfl rfl)
theorem dX6_lotsIn_29 : decode cX6_lotsIn 29 = .ok (.if_icmp .ge 29, 3) := dk_162 0 29 (dk_at dksX6_lotsIn_1 6 rfl rfl)
theorem dX6_lotsIn_32 : decode cX6_lotsIn 32 = .ok (.iload_n 2, 1) := dk_28 (dk_at dksX6_lotsIn_1 9 rfl rfl)
theorem dX6_lotsIn_33 : decode cX6_lotsIn 33 = .ok (.aload_n 0, 1) := dk_42 (dk_at dksX6_lotsIn_1 10 rfl rfl)
theorem dX6_lotsIn_34 : decode cX6_lotsIn 34 = .ok (.iload_n 3, 1) := dk_29 (dk_at dksX6_lotsIn_1 11 rfl rfl)
theorem dX6_lotsIn_35 : decode cX6_lotsIn 35 = .ok (.iconst 0, 1) := dk_3 (dk_at dksX6_lotsIn_1 12 rfl rfl)
theorem dX6_lotsIn_36 : decode cX6_lotsIn 36 = .ok (.invokevirtual 51, 3) := dk_182 0 51 (dk_at dksX6_lotsIn_1 13 rfl rfl)
theorem dX6_lotsIn_39 : decode cX6_lotsIn 39 = .ok (.iload_n 1, 1) := dk_27 (dk_at dksX6_lotsIn_1 16 rfl rfl)
theorem dX6_lotsIn_40 : decode cX6_lotsIn 40 = .ok (.if_icmp .ne 9, 3) := dk_160 0 9 (dk_at dksX6_lotsIn_1 17 rfl rfl)
theorem dX6_lotsIn_43 : decode cX6_lotsIn 43 = .ok (.iconst 1, 1) := dk_4 (dk_at dksX6_lotsIn_1 20 rfl rfl)
theorem dX6_lotsIn_44 : decode cX6_lotsIn 44 = .ok (.iload_n 3, 1) := dk_29 (dk_at dksX6_lotsIn_1 21 rfl rfl)
theorem dX6_lotsIn_45 : decode cX6_lotsIn 45 = .ok (.ishl, 1) := dk_120 (dk_at dksX6_lotsIn_1 22 rfl rfl)
theorem dX6_lotsIn_46 : decode cX6_lotsIn 46 = .ok (.goto 4, 3) := dk_167 0 4 (dk_at dksX6_lotsIn_2 0 rfl rfl)
theorem dX6_lotsIn_49 : decode cX6_lotsIn 49 = .ok (.iconst 0, 1) := dk_3 (dk_at dksX6_lotsIn_2 3 rfl rfl)
theorem dX6_lotsIn_50 : decode cX6_lotsIn 50 = .ok (.ior, 1) := dk_128 (dk_at dksX6_lotsIn_2 4 rfl rfl)
theorem dX6_lotsIn_51 : decode cX6_lotsIn 51 = .ok (.istore_n 2, 1) := dk_61 (dk_at dksX6_lotsIn_2 5 rfl rfl)
theorem dX6_lotsIn_52 : decode cX6_lotsIn 52 = .ok (.iinc 3 1, 3) := dk_132 3 1 (dk_at dksX6_lotsIn_2 6 rfl rfl)
theorem dX6_lotsIn_55 : decode cX6_lotsIn 55 = .ok (.goto (-34), 3) := dk_167 255 222 (dk_at dksX6_lotsIn_2 9 rfl rfl)
theorem dX6_lotsIn_58 : decode cX6_lotsIn 58 = .ok (.iload_n 2, 1) := dk_28 (dk_at dksX6_lotsIn_2 12 rfl rfl)
theorem dX6_lotsIn_59 : decode cX6_lotsIn 59 = .ok (.ireturn, 1) := dk_172 (dk_at dksX6_lotsIn_2 13 rfl rfl)
abbrev cX6_ripest : ByteArray := prog_11_method_79_code
def yX6_ripest : MethodName := ⟨RX6, "ripest", "(I)I"⟩
def dkwX6_ripest_4 : List UInt8 := [153, 0, 13, 21, 4, 27, 160, 0, 7, 29, 167, 0, 4, 28, 61, 132, 3, 1, 167, 255, 169, 28, 172]
abbrev dktX6_ripest_4 : List UInt8 := dkwX6_ripest_4 ++ []
def dkwX6_ripest_3 : List UInt8 := [153, 0, 7, 4, 167, 0, 4, 3, 96, 54, 4, 132, 5, 1, 167, 255, 212, 42, 29, 182, 0, 99]
abbrev dktX6_ripest_3 : List UInt8 := dkwX6_ripest_3 ++ dktX6_ripest_4
def dkwX6_ripest_2 : List UInt8 := [46, 162, 0, 38, 21, 4, 42, 21, 5, 182, 0, 99, 153, 0, 17, 42, 21, 5, 29, 182, 0, 180]
abbrev dktX6_ripest_2 : List UInt8 := dkwX6_ripest_2 ++ dktX6_ripest_3
def dkwX6_ripest_1 : List UInt8 := [42, 180, 0, 7, 16, 7, 46, 162, 0, 82, 3, 54, 4, 3, 54, 5, 21, 5, 42, 180, 0, 7, 16, 7]
abbrev dktX6_ripest_1 : List UInt8 := dkwX6_ripest_1 ++ dktX6_ripest_2
def dkwX6_ripest_0 : List UInt8 := [42, 27, 155, 0, 7, 4, 167, 0, 4, 3, 4, 182, 0, 40, 154, 0, 5, 3, 172, 2, 61, 3, 62, 29]
abbrev dktX6_ripest_0 : List UInt8 := dkwX6_ripest_0 ++ dktX6_ripest_1
theorem dksX6_ripest_0 : cX6_ripest.data.toList.drop 0 = dktX6_ripest_0 := by decide +kernel
theorem dksX6_ripest_1 : cX6_ripest.data.toList.drop 24 = dktX6_ripest_1 := dk_seg dksX6_ripest_0 24 rfl rfl
theorem dksX6_ripest_2 : cX6_ripest.data.toList.drop 48 = dktX6_ripest_2 := dk_seg dksX6_ripest_1 24 rfl rfl
theorem dksX6_ripest_3 : cX6_ripest.data.toList.drop 70 = dktX6_ripest_3 := dk_seg dksX6_ripest_2 22 rfl rfl
theorem dksX6_ripest_4 : cX6_ripest.data.toList.drop 92 = dktX6_ripest_4 := dk_seg dksX6_ripest_3 22 rfl rfl
theorem dX6_ripest_0 : decode cX6_ripest 0 = .ok (.aload_n 0, 1) := dk_42 (dk_at dksX6_ripest_0 0 rfl rfl)
theorem dX6_ripest_1 : decode cX6_ripest 1 = .ok (.iload_n 1, 1) := dk_27 (dk_at dksX6_ripest_0 1 rfl rfl)
theorem dX6_ripest_2 : decode cX6_ripest 2 = .ok (.ifCond .lt 7, 3) := dk_155 0 7 (dk_at dksX6_ripest_0 2 rfl rfl)
theorem dX6_ripest_5 : decode cX6_ripest 5 = .ok (.iconst 1, 1) := dk_4 (dk_at dksX6_ripest_0 5 rfl rfl)
theorem dX6_ripest_6 : decode cX6_ripest 6 = .ok (.goto 4, 3) := dk_167 0 4 (dk_at dksX6_ripest_0 6 rfl rfl)
theorem dX6_ripest_9 : decode cX6_ripest 9 = .ok (.iconst 0, 1) := dk_3 (dk_at dksX6_ripest_0 9 rfl rfl)
theorem dX6_ripest_10 : decode cX6_ripest 10 = .ok (.iconst 1, 1) := dk_4 (dk_at dksX6_ripest_0 10 rfl rfl)
theorem dX6_ripest_11 : decode cX6_ripest 11 = .ok (.invokevirtual 40, 3) := dk_182 0 40 (dk_at dksX6_ripest_0 11 rfl rfl)
theorem dX6_ripest_14 : decode cX6_ripest 14 = .ok (.ifCond .ne 5, 3) := dk_154 0 5 (dk_at dksX6_ripest_0 14 rfl rfl)
theorem dX6_ripest_17 : decode cX6_ripest 17 = .ok (.iconst 0, 1) := dk_3 (dk_at dksX6_ripest_0 17 rfl rfl)
theorem dX6_ripest_18 : decode cX6_ripest 18 = .ok (.ireturn, 1) := dk_172 (dk_at dksX6_ripest_0 18 rfl rfl)
theorem dX6_ripest_19 : decode cX6_ripest 19 = .ok (.iconst (-1), 1) := dk_2 (dk_at dksX6_ripest_0 19 rfl rfl)
theorem dX6_ripest_20 : decode cX6_ripest 20 = .ok (.istore_n 2, 1) := dk_61 (dk_at dksX6_ripest_0 20 rfl rfl)
theorem dX6_ripest_21 : decode cX6_ripest 21 = .ok (.iconst 0, 1) := dk_3 (dk_at dksX6_ripest_0 21 rfl rfl)
theorem dX6_ripest_22 : decode cX6_ripest 22 = .ok (.istore_n 3, 1) := dk_62 (dk_at dksX6_ripest_0 22 rfl rfl)
theorem dX6_ripest_23 : decode cX6_ripest 23 = .ok (.iload_n 3, 1) := dk_29 (dk_at dksX6_ripest_0 23 rfl rfl)
theorem dX6_ripest_24 : decode cX6_ripest 24 = .ok (.aload_n 0, 1) := dk_42 (dk_at dksX6_ripest_1 0 rfl rfl)
theorem dX6_ripest_25 : decode cX6_ripest 25 = .ok (.getfield 7, 3) := dk_180 0 7 (dk_at dksX6_ripest_1 1 rfl rfl)
theorem dX6_ripest_28 : decode cX6_ripest 28 = .ok (.bipush 7, 2) := dk_16 7 (dk_at dksX6_ripest_1 4 rfl rfl)
theorem dX6_ripest_30 : decode cX6_ripest 30 = .ok (.iaload, 1) := dk_46 (dk_at dksX6_ripest_1 6 rfl rfl)
theorem dX6_ripest_31 : decode cX6_ripest 31 = .ok (.if_icmp .ge 82, 3) := dk_162 0 82 (dk_at dksX6_ripest_1 7 rfl rfl)
theorem dX6_ripest_34 : decode cX6_ripest 34 = .ok (.iconst 0, 1) := dk_3 (dk_at dksX6_ripest_1 10 rfl rfl)
theorem dX6_ripest_35 : decode cX6_ripest 35 = .ok (.istore 4, 2) := dk_54 4 (dk_at dksX6_ripest_1 11 rfl rfl)
theorem dX6_ripest_37 : decode cX6_ripest 37 = .ok (.iconst 0, 1) := dk_3 (dk_at dksX6_ripest_1 13 rfl rfl)
theorem dX6_ripest_38 : decode cX6_ripest 38 = .ok (.istore 5, 2) := dk_54 5 (dk_at dksX6_ripest_1 14 rfl rfl)
theorem dX6_ripest_40 : decode cX6_ripest 40 = .ok (.iload 5, 2) := dk_21 5 (dk_at dksX6_ripest_1 16 rfl rfl)
theorem dX6_ripest_42 : decode cX6_ripest 42 = .ok (.aload_n 0, 1) := dk_42 (dk_at dksX6_ripest_1 18 rfl rfl)
theorem dX6_ripest_43 : decode cX6_ripest 43 = .ok (.getfield 7, 3) := dk_180 0 7 (dk_at dksX6_ripest_1 19 rfl rfl)
theorem dX6_ripest_46 : decode cX6_ripest 46 = .ok (.bipush 7, 2) := dk_16 7 (dk_at dksX6_ripest_1 22 rfl rfl)
theorem dX6_ripest_48 : decode cX6_ripest 48 = .ok (.iaload, 1) := dk_46 (dk_at dksX6_ripest_2 0 rfl rfl)
theorem dX6_ripest_49 : decode cX6_ripest 49 = .ok (.if_icmp .ge 38, 3) := dk_162 0 38 (dk_at dksX6_ripest_2 1 rfl rfl)
theorem dX6_ripest_52 : decode cX6_ripest 52 = .ok (.iload 4, 2) := dk_21 4 (dk_at dksX6_ripest_2 4 rfl rfl)
theorem dX6_ripest_54 : decode cX6_ripest 54 = .ok (.aload_n 0, 1) := dk_42 (dk_at dksX6_ripest_2 6 rfl rfl)
theorem dX6_ripest_55 : decode cX6_ripest 55 = .ok (.iload 5, 2) := dk_21 5 (dk_at dksX6_ripest_2 7 rfl rfl)
theorem dX6_ripest_57 : decode cX6_ripest 57 = .ok (.invokevirtual 99, 3) := dk_182 0 99 (dk_at dksX6_ripest_2 9 rfl rfl)
theorem dX6_ripest_60 : decode cX6_ripest 60 = .ok (.ifCond .eq 17, 3) := dk_153 0 17 (dk_at dksX6_ripest_2 12 rfl rfl)
theorem dX6_ripest_63 : decode cX6_ripest 63 = .ok (.aload_n 0, 1) := dk_42 (dk_at dksX6_ripest_2 15 rfl rfl)
theorem dX6_ripest_64 : decode cX6_ripest 64 = .ok (.iload 5, 2) := dk_21 5 (dk_at dksX6_ripest_2 16 rfl rfl)
theorem dX6_ripest_66 : decode cX6_ripest 66 = .ok (.iload_n 3, 1) := dk_29 (dk_at dksX6_ripest_2 18 rfl rfl)
theorem dX6_ripest_67 : decode cX6_ripest 67 = .ok (.invokevirtual 180, 3) := dk_182 0 180 (dk_at dksX6_ripest_2 19 rfl rfl)
theorem dX6_ripest_70 : decode cX6_ripest 70 = .ok (.ifCond .eq 7, 3) := dk_153 0 7 (dk_at dksX6_ripest_3 0 rfl rfl)
theorem dX6_ripest_73 : decode cX6_ripest 73 = .ok (.iconst 1, 1) := dk_4 (dk_at dksX6_ripest_3 3 rfl rfl)
theorem dX6_ripest_74 : decode cX6_ripest 74 = .ok (.goto 4, 3) := dk_167 0 4 (dk_at dksX6_ripest_3 4 rfl rfl)
theorem dX6_ripest_77 : decode cX6_ripest 77 = .ok (.iconst 0, 1) := dk_3 (dk_at dksX6_ripest_3 7 rfl rfl)
theorem dX6_ripest_78 : decode cX6_ripest 78 = .ok (.iadd, 1) := dk_96 (dk_at dksX6_ripest_3 8 rfl rfl)
theorem dX6_ripest_79 : decode cX6_ripest 79 = .ok (.istore 4, 2) := dk_54 4 (dk_at dksX6_ripest_3 9 rfl rfl)
theorem dX6_ripest_81 : decode cX6_ripest 81 = .ok (.iinc 5 1, 3) := dk_132 5 1 (dk_at dksX6_ripest_3 11 rfl rfl)
theorem dX6_ripest_84 : decode cX6_ripest 84 = .ok (.goto (-44), 3) := dk_167 255 212 (dk_at dksX6_ripest_3 14 rfl rfl)
theorem dX6_ripest_87 : decode cX6_ripest 87 = .ok (.aload_n 0, 1) := dk_42 (dk_at dksX6_ripest_3 17 rfl rfl)
theorem dX6_ripest_88 : decode cX6_ripest 88 = .ok (.iload_n 3, 1) := dk_29 (dk_at dksX6_ripest_3 18 rfl rfl)
theorem dX6_ripest_89 : decode cX6_ripest 89 = .ok (.invokevirtual 99, 3) := dk_182 0 99 (dk_at dksX6_ripest_3 19 rfl rfl)
theorem dX6_ripest_92 : decode cX6_ripest 92 = .ok (.ifCond .eq 13, 3) := dk_153 0 13 (dk_at dksX6_ripest_4 0 rfl rfl)
theorem dX6_ripest_95 : decode cX6_ripest 95 = .ok (.iload 4, 2) := dk_21 4 (dk_at dksX6_ripest_4 3 rfl rfl)
theorem dX6_ripest_97 : decode cX6_ripest 97 = .ok (.iload_n 1, 1) := dk_27 (dk_at dksX6_ripest_4 5 rfl rfl)
theorem dX6_ripest_98 : decode cX6_ripest 98 = .ok (.if_icmp .ne 7, 3) := dk_160 0 7 (dk_at dksX6_ripest_4 6 rfl rfl)
theorem dX6_ripest_101 : decode cX6_ripest 101 = .ok (.iload_n 3, 1) := dk_29 (dk_at dksX6_ripest_4 9 rfl rfl)
theorem dX6_ripest_102 : decode cX6_ripest 102 = .ok (.goto 4, 3) := dk_167 0 4 (dk_at dksX6_ripest_4 10 rfl rfl)
theorem dX6_ripest_105 : decode cX6_ripest 105 = .ok (.iload_n 2, 1) := dk_28 (dk_at dksX6_ripest_4 13 rfl rfl)
theorem dX6_ripest_106 : decode cX6_ripest 106 = .ok (.istore_n 2, 1) := dk_61 (dk_at dksX6_ripest_4 14 rfl rfl)
theorem dX6_ripest_107 : decode cX6_ripest 107 = .ok (.iinc 3 1, 3) := dk_132 3 1 (dk_at dksX6_ripest_4 15 rfl rfl)
theorem dX6_ripest_110 : decode cX6_ripest 110 = .ok (.goto (-87), 3) := dk_167 255 169 (dk_at dksX6_ripest_4 18 rfl rfl)
theorem dX6_ripest_113 : decode cX6_ripest 113 = .ok (.iload_n 2, 1) := dk_28 (dk_at dksX6_ripest_4 21 rfl rfl)
theorem dX6_ripest_114 : decode cX6_ripest 114 = .ok (.ireturn, 1) := dk_172 (dk_at dksX6_ripest_4 22 rfl rfl)
abbrev cX6_isRiper : ByteArray := prog_11_method_78_code
def yX6_isRiper : MethodName := ⟨RX6, "isRiper", "(II)Z"⟩
def dkwX6_isRiper_2 : List UInt8 := [154, 0, 12, 27, 28, 162, 0, 7, 4, 167, 0, 4, 3, 172]
abbrev dktX6_isRiper_2 : List UInt8 := dkwX6_isRiper_2 ++ []
def dkwX6_isRiper_1 : List UInt8 := [16, 6, 182, 0, 51, 100, 54, 4, 29, 157, 0, 22, 29, 154, 0, 22, 21, 4, 157, 0, 13, 21, 4]
abbrev dktX6_isRiper_1 : List UInt8 := dkwX6_isRiper_1 ++ dktX6_isRiper_2
def dkwX6_isRiper_0 : List UInt8 := [42, 27, 8, 182, 0, 51, 42, 28, 8, 182, 0, 51, 100, 62, 42, 27, 16, 6, 182, 0, 51, 42, 28]
abbrev dktX6_isRiper_0 : List UInt8 := dkwX6_isRiper_0 ++ dktX6_isRiper_1
theorem dksX6_isRiper_0 : cX6_isRiper.data.toList.drop 0 = dktX6_isRiper_0 := by decide +kernel
theorem dksX6_isRiper_1 : cX6_isRiper.data.toList.drop 23 = dktX6_isRiper_1 := dk_seg dksX6_isRiper_0 23 rfl rfl
theorem dksX6_isRiper_2 : cX6_isRiper.data.toList.drop 46 = dktX6_isRiper_2 := dk_seg dksX6_isRiper_1 23 rfl rfl
theorem dX6_isRiper_0 : decode cX6_isRiper 0 = .ok (.aload_n 0, 1) := dk_42 (dk_at dksX6_isRiper_0 0 rfl rfl)
theorem dX6_isRiper_1 : decode cX6_isRiper 1 = .ok (.iload_n 1, 1) := dk_27 (dk_at dksX6_isRiper_0 1 rfl rfl)
theorem dX6_isRiper_2 : decode cX6_isRiper 2 = .ok (.iconst 5, 1) := dk_8 (dk_at dksX6_isRiper_0 2 rfl rfl)
theorem dX6_isRiper_3 : decode cX6_isRiper 3 = .ok (.invokevirtual 51, 3) := dk_182 0 51 (dk_at dksX6_isRiper_0 3 rfl rfl)
theorem dX6_isRiper_6 : decode cX6_isRiper 6 = .ok (.aload_n 0, 1) := dk_42 (dk_at dksX6_isRiper_0 6 rfl rfl)
theorem dX6_isRiper_7 : decode cX6_isRiper 7 = .ok (.iload_n 2, 1) := dk_28 (dk_at dksX6_isRiper_0 7 rfl rfl)
theorem dX6_isRiper_8 : decode cX6_isRiper 8 = .ok (.iconst 5, 1) := dk_8 (dk_at dksX6_isRiper_0 8 rfl rfl)
theorem dX6_isRiper_9 : decode cX6_isRiper 9 = .ok (.invokevirtual 51, 3) := dk_182 0 51 (dk_at dksX6_isRiper_0 9 rfl rfl)
theorem dX6_isRiper_12 : decode cX6_isRiper 12 = .ok (.isub, 1) := dk_100 (dk_at dksX6_isRiper_0 12 rfl rfl)
theorem dX6_isRiper_13 : decode cX6_isRiper 13 = .ok (.istore_n 3, 1) := dk_62 (dk_at dksX6_isRiper_0 13 rfl rfl)
theorem dX6_isRiper_14 : decode cX6_isRiper 14 = .ok (.aload_n 0, 1) := dk_42 (dk_at dksX6_isRiper_0 14 rfl rfl)
theorem dX6_isRiper_15 : decode cX6_isRiper 15 = .ok (.iload_n 1, 1) := dk_27 (dk_at dksX6_isRiper_0 15 rfl rfl)
theorem dX6_isRiper_16 : decode cX6_isRiper 16 = .ok (.bipush 6, 2) := dk_16 6 (dk_at dksX6_isRiper_0 16 rfl rfl)
theorem dX6_isRiper_18 : decode cX6_isRiper 18 = .ok (.invokevirtual 51, 3) := dk_182 0 51 (dk_at dksX6_isRiper_0 18 rfl rfl)
theorem dX6_isRiper_21 : decode cX6_isRiper 21 = .ok (.aload_n 0, 1) := dk_42 (dk_at dksX6_isRiper_0 21 rfl rfl)
theorem dX6_isRiper_22 : decode cX6_isRiper 22 = .ok (.iload_n 2, 1) := dk_28 (dk_at dksX6_isRiper_0 22 rfl rfl)
theorem dX6_isRiper_23 : decode cX6_isRiper 23 = .ok (.bipush 6, 2) := dk_16 6 (dk_at dksX6_isRiper_1 0 rfl rfl)
theorem dX6_isRiper_25 : decode cX6_isRiper 25 = .ok (.invokevirtual 51, 3) := dk_182 0 51 (dk_at dksX6_isRiper_1 2 rfl rfl)
theorem dX6_isRiper_28 : decode cX6_isRiper 28 = .ok (.isub, 1) := dk_100 (dk_at dksX6_isRiper_1 5 rfl rfl)
theorem dX6_isRiper_29 : decode cX6_isRiper 29 = .ok (.istore 4, 2) := dk_54 4 (dk_at dksX6_isRiper_1 6 rfl rfl)
theorem dX6_isRiper_31 : decode cX6_isRiper 31 = .ok (.iload_n 3, 1) := dk_29 (dk_at dksX6_isRiper_1 8 rfl rfl)
theorem dX6_isRiper_32 : decode cX6_isRiper 32 = .ok (.ifCond .gt 22, 3) := dk_157 0 22 (dk_at dksX6_isRiper_1 9 rfl rfl)
theorem dX6_isRiper_35 : decode cX6_isRiper 35 = .ok (.iload_n 3, 1) := dk_29 (dk_at dksX6_isRiper_1 12 rfl rfl)
theorem dX6_isRiper_36 : decode cX6_isRiper 36 = .ok (.ifCond .ne 22, 3) := dk_154 0 22 (dk_at dksX6_isRiper_1 13 rfl rfl)
theorem dX6_isRiper_39 : decode cX6_isRiper 39 = .ok (.iload 4, 2) := dk_21 4 (dk_at dksX6_isRiper_1 16 rfl rfl)
theorem dX6_isRiper_41 : decode cX6_isRiper 41 = .ok (.ifCond .gt 13, 3) := dk_157 0 13 (dk_at dksX6_isRiper_1 18 rfl rfl)
theorem dX6_isRiper_44 : decode cX6_isRiper 44 = .ok (.iload 4, 2) := dk_21 4 (dk_at dksX6_isRiper_1 21 rfl rfl)
theorem dX6_isRiper_46 : decode cX6_isRiper 46 = .ok (.ifCond .ne 12, 3) := dk_154 0 12 (dk_at dksX6_isRiper_2 0 rfl rfl)
theorem dX6_isRiper_49 : decode cX6_isRiper 49 = .ok (.iload_n 1, 1) := dk_27 (dk_at dksX6_isRiper_2 3 rfl rfl)
theorem dX6_isRiper_50 : decode cX6_isRiper 50 = .ok (.iload_n 2, 1) := dk_28 (dk_at dksX6_isRiper_2 4 rfl rfl)
theorem dX6_isRiper_51 : decode cX6_isRiper 51 = .ok (.if_icmp .ge 7, 3) := dk_162 0 7 (dk_at dksX6_isRiper_2 5 rfl rfl)
theorem dX6_isRiper_54 : decode cX6_isRiper 54 = .ok (.iconst 1, 1) := dk_4 (dk_at dksX6_isRiper_2 8 rfl rfl)
theorem dX6_isRiper_55 : decode cX6_isRiper 55 = .ok (.goto 4, 3) := dk_167 0 4 (dk_at dksX6_isRiper_2 9 rfl rfl)
theorem dX6_isRiper_58 : decode cX6_isRiper 58 = .ok (.iconst 0, 1) := dk_3 (dk_at dksX6_isRiper_2 12 rfl rfl)
theorem dX6_isRiper_59 : decode cX6_isRiper 59 = .ok (.ireturn, 1) := dk_172 (dk_at dksX6_isRiper_2 13 rfl rfl)
abbrev cX6_lotIn : ByteArray := prog_11_method_80_code
def yX6_lotIn : MethodName := ⟨RX6, "lotIn", "(I)I"⟩
def dkwX6_lotIn_0 : List UInt8 := [42, 27, 184, 0, 124, 4, 182, 0, 40, 153, 0, 11, 42, 27, 182, 0, 103, 167, 0, 4, 3, 172]
abbrev dktX6_lotIn_0 : List UInt8 := dkwX6_lotIn_0 ++ []
theorem dksX6_lotIn_0 : cX6_lotIn.data.toList.drop 0 = dktX6_lotIn_0 := by decide +kernel
theorem dX6_lotIn_0 : decode cX6_lotIn 0 = .ok (.aload_n 0, 1) := dk_42 (dk_at dksX6_lotIn_0 0 rfl rfl)
theorem dX6_lotIn_1 : decode cX6_lotIn 1 = .ok (.iload_n 1, 1) := dk_27 (dk_at dksX6_lotIn_0 1 rfl rfl)
theorem dX6_lotIn_2 : decode cX6_lotIn 2 = .ok (.invokestatic 124, 3) := dk_184 0 124 (dk_at dksX6_lotIn_0 2 rfl rfl)
theorem dX6_lotIn_5 : decode cX6_lotIn 5 = .ok (.iconst 1, 1) := dk_4 (dk_at dksX6_lotIn_0 5 rfl rfl)
theorem dX6_lotIn_6 : decode cX6_lotIn 6 = .ok (.invokevirtual 40, 3) := dk_182 0 40 (dk_at dksX6_lotIn_0 6 rfl rfl)
theorem dX6_lotIn_9 : decode cX6_lotIn 9 = .ok (.ifCond .eq 11, 3) := dk_153 0 11 (dk_at dksX6_lotIn_0 9 rfl rfl)
theorem dX6_lotIn_12 : decode cX6_lotIn 12 = .ok (.aload_n 0, 1) := dk_42 (dk_at dksX6_lotIn_0 12 rfl rfl)
theorem dX6_lotIn_13 : decode cX6_lotIn 13 = .ok (.iload_n 1, 1) := dk_27 (dk_at dksX6_lotIn_0 13 rfl rfl)
theorem dX6_lotIn_14 : decode cX6_lotIn 14 = .ok (.invokevirtual 103, 3) := dk_182 0 103 (dk_at dksX6_lotIn_0 14 rfl rfl)
theorem dX6_lotIn_17 : decode cX6_lotIn 17 = .ok (.goto 4, 3) := dk_167 0 4 (dk_at dksX6_lotIn_0 17 rfl rfl)
theorem dX6_lotIn_20 : decode cX6_lotIn 20 = .ok (.iconst 0, 1) := dk_3 (dk_at dksX6_lotIn_0 20 rfl rfl)
theorem dX6_lotIn_21 : decode cX6_lotIn 21 = .ok (.ireturn, 1) := dk_172 (dk_at dksX6_lotIn_0 21 rfl rfl)
abbrev cX6_settingsOf : ByteArray := prog_11_method_81_code
def yX6_settingsOf : MethodName := ⟨RX6, "settingsOf", "(I)I"⟩
def dkwX6_settingsOf_2 : List UInt8 := [16, 32, 6, 27, 104, 96, 5, 96, 46, 96, 167, 0, 4, 3, 172]
abbrev dktX6_settingsOf_2 : List UInt8 := dkwX6_settingsOf_2 ++ []
def dkwX6_settingsOf_1 : List UInt8 := [46, 104, 16, 10, 42, 180, 0, 7, 16, 32, 6, 27, 104, 96, 4, 96, 46, 104, 96, 42, 180, 0, 7]
abbrev dktX6_settingsOf_1 : List UInt8 := dkwX6_settingsOf_1 ++ dktX6_settingsOf_2
def dkwX6_settingsOf_0 : List UInt8 := [42, 27, 184, 0, 124, 4, 182, 0, 40, 153, 0, 51, 16, 100, 42, 180, 0, 7, 16, 32, 6, 27, 104, 96]
abbrev dktX6_settingsOf_0 : List UInt8 := dkwX6_settingsOf_0 ++ dktX6_settingsOf_1
theorem dksX6_settingsOf_0 : cX6_settingsOf.data.toList.drop 0 = dktX6_settingsOf_0 := by decide +kernel
theorem dksX6_settingsOf_1 : cX6_settingsOf.data.toList.drop 24 = dktX6_settingsOf_1 := dk_seg dksX6_settingsOf_0 24 rfl rfl
theorem dksX6_settingsOf_2 : cX6_settingsOf.data.toList.drop 47 = dktX6_settingsOf_2 := dk_seg dksX6_settingsOf_1 23 rfl rfl
theorem dX6_settingsOf_0 : decode cX6_settingsOf 0 = .ok (.aload_n 0, 1) := dk_42 (dk_at dksX6_settingsOf_0 0 rfl rfl)
theorem dX6_settingsOf_1 : decode cX6_settingsOf 1 = .ok (.iload_n 1, 1) := dk_27 (dk_at dksX6_settingsOf_0 1 rfl rfl)
theorem dX6_settingsOf_2 : decode cX6_settingsOf 2 = .ok (.invokestatic 124, 3) := dk_184 0 124 (dk_at dksX6_settingsOf_0 2 rfl rfl)
theorem dX6_settingsOf_5 : decode cX6_settingsOf 5 = .ok (.iconst 1, 1) := dk_4 (dk_at dksX6_settingsOf_0 5 rfl rfl)
theorem dX6_settingsOf_6 : decode cX6_settingsOf 6 = .ok (.invokevirtual 40, 3) := dk_182 0 40 (dk_at dksX6_settingsOf_0 6 rfl rfl)
theorem dX6_settingsOf_9 : decode cX6_settingsOf 9 = .ok (.ifCond .eq 51, 3) := dk_153 0 51 (dk_at dksX6_settingsOf_0 9 rfl rfl)
theorem dX6_settingsOf_12 : decode cX6_settingsOf 12 = .ok (.bipush 100, 2) := dk_16 100 (dk_at dksX6_settingsOf_0 12 rfl rfl)
theorem dX6_settingsOf_14 : decode cX6_settingsOf 14 = .ok (.aload_n 0, 1) := dk_42 (dk_at dksX6_settingsOf_0 14 rfl rfl)
theorem dX6_settingsOf_15 : decode cX6_settingsOf 15 = .ok (.getfield 7, 3) := dk_180 0 7 (dk_at dksX6_settingsOf_0 15 rfl rfl)
theorem dX6_settingsOf_18 : decode cX6_settingsOf 18 = .ok (.bipush 32, 2) := dk_16 32 (dk_at dksX6_settingsOf_0 18 rfl rfl)
theorem dX6_settingsOf_20 : decode cX6_settingsOf 20 = .ok (.iconst 3, 1) := dk_6 (dk_at dksX6_settingsOf_0 20 rfl rfl)
theorem dX6_settingsOf_21 : decode cX6_settingsOf 21 = .ok (.iload_n 1, 1) := dk_27 (dk_at dksX6_settingsOf_0 21 rfl rfl)
theorem dX6_settingsOf_22 : decode cX6_settingsOf 22 = .ok (.imul, 1) := dk_104 (dk_at dksX6_settingsOf_0 22 rfl rfl)
theorem dX6_settingsOf_23 : decode cX6_settingsOf 23 = .ok (.iadd, 1) := dk_96 (dk_at dksX6_settingsOf_0 23 rfl rfl)
theorem dX6_settingsOf_24 : decode cX6_settingsOf 24 = .ok (.iaload, 1) := dk_46 (dk_at dksX6_settingsOf_1 0 rfl rfl)
theorem dX6_settingsOf_25 : decode cX6_settingsOf 25 = .ok (.imul, 1) := dk_104 (dk_at dksX6_settingsOf_1 1 rfl rfl)
theorem dX6_settingsOf_26 : decode cX6_settingsOf 26 = .ok (.bipush 10, 2) := dk_16 10 (dk_at dksX6_settingsOf_1 2 rfl rfl)
theorem dX6_settingsOf_28 : decode cX6_settingsOf 28 = .ok (.aload_n 0, 1) := dk_42 (dk_at dksX6_settingsOf_1 4 rfl rfl)
theorem dX6_settingsOf_29 : decode cX6_settingsOf 29 = .ok (.getfield 7, 3) := dk_180 0 7 (dk_at dksX6_settingsOf_1 5 rfl rfl)
theorem dX6_settingsOf_32 : decode cX6_settingsOf 32 = .ok (.bipush 32, 2) := dk_16 32 (dk_at dksX6_settingsOf_1 8 rfl rfl)
theorem dX6_settingsOf_34 : decode cX6_settingsOf 34 = .ok (.iconst 3, 1) := dk_6 (dk_at dksX6_settingsOf_1 10 rfl rfl)
theorem dX6_settingsOf_35 : decode cX6_settingsOf 35 = .ok (.iload_n 1, 1) := dk_27 (dk_at dksX6_settingsOf_1 11 rfl rfl)
theorem dX6_settingsOf_36 : decode cX6_settingsOf 36 = .ok (.imul, 1) := dk_104 (dk_at dksX6_settingsOf_1 12 rfl rfl)
theorem dX6_settingsOf_37 : decode cX6_settingsOf 37 = .ok (.iadd, 1) := dk_96 (dk_at dksX6_settingsOf_1 13 rfl rfl)
theorem dX6_settingsOf_38 : decode cX6_settingsOf 38 = .ok (.iconst 1, 1) := dk_4 (dk_at dksX6_settingsOf_1 14 rfl rfl)
theorem dX6_settingsOf_39 : decode cX6_settingsOf 39 = .ok (.iadd, 1) := dk_96 (dk_at dksX6_settingsOf_1 15 rfl rfl)
theorem dX6_settingsOf_40 : decode cX6_settingsOf 40 = .ok (.iaload, 1) := dk_46 (dk_at dksX6_settingsOf_1 16 rfl rfl)
theorem dX6_settingsOf_41 : decode cX6_settingsOf 41 = .ok (.imul, 1) := dk_104 (dk_at dksX6_settingsOf_1 17 rfl rfl)
theorem dX6_settingsOf_42 : decode cX6_settingsOf 42 = .ok (.iadd, 1) := dk_96 (dk_at dksX6_settingsOf_1 18 rfl rfl)
theorem dX6_settingsOf_43 : decode cX6_settingsOf 43 = .ok (.aload_n 0, 1) := dk_42 (dk_at dksX6_settingsOf_1 19 rfl rfl)
theorem dX6_settingsOf_44 : decode cX6_settingsOf 44 = .ok (.getfield 7, 3) := dk_180 0 7 (dk_at dksX6_settingsOf_1 20 rfl rfl)
theorem dX6_settingsOf_47 : decode cX6_settingsOf 47 = .ok (.bipush 32, 2) := dk_16 32 (dk_at dksX6_settingsOf_2 0 rfl rfl)
theorem dX6_settingsOf_49 : decode cX6_settingsOf 49 = .ok (.iconst 3, 1) := dk_6 (dk_at dksX6_settingsOf_2 2 rfl rfl)
theorem dX6_settingsOf_50 : decode cX6_settingsOf 50 = .ok (.iload_n 1, 1) := dk_27 (dk_at dksX6_settingsOf_2 3 rfl rfl)
theorem dX6_settingsOf_51 : decode cX6_settingsOf 51 = .ok (.imul, 1) := dk_104 (dk_at dksX6_settingsOf_2 4 rfl rfl)
theorem dX6_settingsOf_52 : decode cX6_settingsOf 52 = .ok (.iadd, 1) := dk_96 (dk_at dksX6_settingsOf_2 5 rfl rfl)
theorem dX6_settingsOf_53 : decode cX6_settingsOf 53 = .ok (.iconst 2, 1) := dk_5 (dk_at dksX6_settingsOf_2 6 rfl rfl)
theorem dX6_settingsOf_54 : decode cX6_settingsOf 54 = .ok (.iadd, 1) := dk_96 (dk_at dksX6_settingsOf_2 7 rfl rfl)
theorem dX6_settingsOf_55 : decode cX6_settingsOf 55 = .ok (.iaload, 1) := dk_46 (dk_at dksX6_settingsOf_2 8 rfl rfl)
theorem dX6_settingsOf_56 : decode cX6_settingsOf 56 = .ok (.iadd, 1) := dk_96 (dk_at dksX6_settingsOf_2 9 rfl rfl)
theorem dX6_settingsOf_57 : decode cX6_settingsOf 57 = .ok (.goto 4, 3) := dk_167 0 4 (dk_at dksX6_settingsOf_2 10 rfl rfl)
theorem dX6_settingsOf_60 : decode cX6_settingsOf 60 = .ok (.iconst 0, 1) := dk_3 (dk_at dksX6_settingsOf_2 13 rfl rfl)
theorem dX6_settingsOf_61 : decode cX6_settingsOf 61 = .ok (.ireturn, 1) := dk_172 (dk_at dksX6_settingsOf_2 14 rfl rfl)
abbrev cX6_isLit : ByteArray := prog_11_method_82_code
def yX6_isLit : MethodName := ⟨RX6, "isLit", "()Z"⟩
def dkwX6_isLit_0 : List UInt8 := [42, 3, 181, 0, 25, 42, 180, 0, 7, 4, 46, 4, 160, 0, 7, 4, 167, 0, 4, 3, 172]
abbrev dktX6_isLit_0 : List UInt8 := dkwX6_isLit_0 ++ []
theorem dksX6_isLit_0 : cX6_isLit.data.toList.drop 0 = dktX6_isLit_0 := by decide +kernel
theorem dX6_isLit_0 : decode cX6_isLit 0 = .ok (.aload_n 0, 1) := dk_42 (dk_at dksX6_isLit_0 0 rfl rfl)
theorem dX6_isLit_1 : decode cX6_isLit 1 = .ok (.iconst 0, 1) := dk_3 (dk_at dksX6_isLit_0 1 rfl rfl)
theorem dX6_isLit_2 : decode cX6_isLit 2 = .ok (.putfield 25, 3) := dk_181 0 25 (dk_at dksX6_isLit_0 2 rfl rfl)
theorem dX6_isLit_5 : decode cX6_isLit 5 = .ok (.aload_n 0, 1) := dk_42 (dk_at dksX6_isLit_0 5 rfl rfl)
theorem dX6_isLit_6 : decode cX6_isLit 6 = .ok (.getfield 7, 3) := dk_180 0 7 (dk_at dksX6_isLit_0 6 rfl rfl)
theorem dX6_isLit_9 : decode cX6_isLit 9 = .ok (.iconst 1, 1) := dk_4 (dk_at dksX6_isLit_0 9 rfl rfl)
theorem dX6_isLit_10 : decode cX6_isLit 10 = .ok (.iaload, 1) := dk_46 (dk_at dksX6_isLit_0 10 rfl rfl)
theorem dX6_isLit_11 : decode cX6_isLit 11 = .ok (.iconst 1, 1) := dk_4 (dk_at dksX6_isLit_0 11 rfl rfl)
theorem dX6_isLit_12 : decode cX6_isLit 12 = .ok (.if_icmp .ne 7, 3) := dk_160 0 7 (dk_at dksX6_isLit_0 12 rfl rfl)
theorem dX6_isLit_15 : decode cX6_isLit 15 = .ok (.iconst 1, 1) := dk_4 (dk_at dksX6_isLit_0 15 rfl rfl)
theorem dX6_isLit_16 : decode cX6_isLit 16 = .ok (.goto 4, 3) := dk_167 0 4 (dk_at dksX6_isLit_0 16 rfl rfl)
theorem dX6_isLit_19 : decode cX6_isLit 19 = .ok (.iconst 0, 1) := dk_3 (dk_at dksX6_isLit_0 19 rfl rfl)
theorem dX6_isLit_20 : decode cX6_isLit 20 = .ok (.ireturn, 1) := dk_172 (dk_at dksX6_isLit_0 20 rfl rfl)
abbrev cX6_litFor : ByteArray := prog_11_method_83_code
def yX6_litFor : MethodName := ⟨RX6, "litFor", "()I"⟩
def dkwX6_litFor_0 : List UInt8 := [42, 3, 181, 0, 25, 42, 180, 0, 7, 5, 46, 172]
abbrev dktX6_litFor_0 : List UInt8 := dkwX6_litFor_0 ++ []
theorem dksX6_litFor_0 : cX6_litFor.data.toList.drop 0 = dktX6_litFor_0 := by decide +kernel
theorem dX6_litFor_0 : decode cX6_litFor 0 = .ok (.aload_n 0, 1) := dk_42 (dk_at dksX6_litFor_0 0 rfl rfl)
theorem dX6_litFor_1 : decode cX6_litFor 1 = .ok (.iconst 0, 1) := dk_3 (dk_at dksX6_litFor_0 1 rfl rfl)
theorem dX6_litFor_2 : decode cX6_litFor 2 = .ok (.putfield 25, 3) := dk_181 0 25 (dk_at dksX6_litFor_0 2 rfl rfl)
theorem dX6_litFor_5 : decode cX6_litFor 5 = .ok (.aload_n 0, 1) := dk_42 (dk_at dksX6_litFor_0 5 rfl rfl)
theorem dX6_litFor_6 : decode cX6_litFor 6 = .ok (.getfield 7, 3) := dk_180 0 7 (dk_at dksX6_litFor_0 6 rfl rfl)
theorem dX6_litFor_9 : decode cX6_litFor 9 = .ok (.iconst 2, 1) := dk_5 (dk_at dksX6_litFor_0 9 rfl rfl)
theorem dX6_litFor_10 : decode cX6_litFor 10 = .ok (.iaload, 1) := dk_46 (dk_at dksX6_litFor_0 10 rfl rfl)
theorem dX6_litFor_11 : decode cX6_litFor 11 = .ok (.ireturn, 1) := dk_172 (dk_at dksX6_litFor_0 11 rfl rfl)
abbrev cX6_charge : ByteArray := prog_11_method_84_code
def yX6_charge : MethodName := ⟨RX6, "charge", "()I"⟩
def dkwX6_charge_0 : List UInt8 := [42, 3, 181, 0, 25, 42, 7, 182, 0, 106, 172]
abbrev dktX6_charge_0 : List UInt8 := dkwX6_charge_0 ++ []
theorem dksX6_charge_0 : cX6_charge.data.toList.drop 0 = dktX6_charge_0 := by decide +kernel
theorem dX6_charge_0 : decode cX6_charge 0 = .ok (.aload_n 0, 1) := dk_42 (dk_at dksX6_charge_0 0 rfl rfl)
theorem dX6_charge_1 : decode cX6_charge 1 = .ok (.iconst 0, 1) := dk_3 (dk_at dksX6_charge_0 1 rfl rfl)
theorem dX6_charge_2 : decode cX6_charge 2 = .ok (.putfield 25, 3) := dk_181 0 25 (dk_at dksX6_charge_0 2 rfl rfl)
theorem dX6_charge_5 : decode cX6_charge 5 = .ok (.aload_n 0, 1) := dk_42 (dk_at dksX6_charge_0 5 rfl rfl)
theorem dX6_charge_6 : decode cX6_charge 6 = .ok (.iconst 4, 1) := dk_7 (dk_at dksX6_charge_0 6 rfl rfl)
theorem dX6_charge_7 : decode cX6_charge 7 = .ok (.invokevirtual 106, 3) := dk_182 0 106 (dk_at dksX6_charge_0 7 rfl rfl)
theorem dX6_charge_10 : decode cX6_charge 10 = .ok (.ireturn, 1) := dk_172 (dk_at dksX6_charge_0 10 rfl rfl)
abbrev cX6_spraysLeft : ByteArray := prog_11_method_85_code
def yX6_spraysLeft : MethodName := ⟨RX6, "spraysLeft", "()I"⟩
def dkwX6_spraysLeft_0 : List UInt8 := [42, 3, 181, 0, 25, 42, 180, 0, 7, 16, 6, 46, 172]
abbrev dktX6_spraysLeft_0 : List UInt8 := dkwX6_spraysLeft_0 ++ []
theorem dksX6_spraysLeft_0 : cX6_spraysLeft.data.toList.drop 0 = dktX6_spraysLeft_0 := by decide +kernel
theorem dX6_spraysLeft_0 : decode cX6_spraysLeft 0 = .ok (.aload_n 0, 1) := dk_42 (dk_at dksX6_spraysLeft_0 0 rfl rfl)
theorem dX6_spraysLeft_1 : decode cX6_spraysLeft 1 = .ok (.iconst 0, 1) := dk_3 (dk_at dksX6_spraysLeft_0 1 rfl rfl)
theorem dX6_spraysLeft_2 : decode cX6_spraysLeft 2 = .ok (.putfield 25, 3) := dk_181 0 25 (dk_at dksX6_spraysLeft_0 2 rfl rfl)
theorem dX6_spraysLeft_5 : decode cX6_spraysLeft 5 = .ok (.aload_n 0, 1) := dk_42 (dk_at dksX6_spraysLeft_0 5 rfl rfl)
theorem dX6_spraysLeft_6 : decode cX6_spraysLeft 6 = .ok (.getfield 7, 3) := dk_180 0 7 (dk_at dksX6_spraysLeft_0 6 rfl rfl)
theorem dX6_spraysLeft_9 : decode cX6_spraysLeft 9 = .ok (.bipush 6, 2) := dk_16 6 (dk_at dksX6_spraysLeft_0 9 rfl rfl)
theorem dX6_spraysLeft_11 : decode cX6_spraysLeft 11 = .ok (.iaload, 1) := dk_46 (dk_at dksX6_spraysLeft_0 11 rfl rfl)
theorem dX6_spraysLeft_12 : decode cX6_spraysLeft 12 = .ok (.ireturn, 1) := dk_172 (dk_at dksX6_spraysLeft_0 12 rfl rfl)
abbrev cX6_whyNotSteep : ByteArray := prog_11_method_86_code
def yX6_whyNotSteep : MethodName := ⟨RX6, "whyNotSteep", "(I)I"⟩
def dkwX6_whyNotSteep_0 : List UInt8 := [42, 42, 27, 182, 0, 115, 4, 182, 0, 40, 153, 0, 11, 42, 27, 182, 0, 118, 167, 0, 4, 3, 172]
abbrev dktX6_whyNotSteep_0 : List UInt8 := dkwX6_whyNotSteep_0 ++ []
theorem dksX6_whyNotSteep_0 : cX6_whyNotSteep.data.toList.drop 0 = dktX6_whyNotSteep_0 := by decide +kernel
theorem dX6_whyNotSteep_0 : decode cX6_whyNotSteep 0 = .ok (.aload_n 0, 1) := dk_42 (dk_at dksX6_whyNotSteep_0 0 rfl rfl)
theorem dX6_whyNotSteep_1 : decode cX6_whyNotSteep 1 = .ok (.aload_n 0, 1) := dk_42 (dk_at dksX6_whyNotSteep_0 1 rfl rfl)
theorem dX6_whyNotSteep_2 : decode cX6_whyNotSteep 2 = .ok (.iload_n 1, 1) := dk_27 (dk_at dksX6_whyNotSteep_0 2 rfl rfl)
theorem dX6_whyNotSteep_3 : decode cX6_whyNotSteep 3 = .ok (.invokevirtual 115, 3) := dk_182 0 115 (dk_at dksX6_whyNotSteep_0 3 rfl rfl)
theorem dX6_whyNotSteep_6 : decode cX6_whyNotSteep 6 = .ok (.iconst 1, 1) := dk_4 (dk_at dksX6_whyNotSteep_0 6 rfl rfl)
theorem dX6_whyNotSteep_7 : decode cX6_whyNotSteep 7 = .ok (.invokevirtual 40, 3) := dk_182 0 40 (dk_at dksX6_whyNotSteep_0 7 rfl rfl)
theorem dX6_whyNotSteep_10 : decode cX6_whyNotSteep 10 = .ok (.ifCond .eq 11, 3) := dk_153 0 11 (dk_at dksX6_whyNotSteep_0 10 rfl rfl)
theorem dX6_whyNotSteep_13 : decode cX6_whyNotSteep 13 = .ok (.aload_n 0, 1) := dk_42 (dk_at dksX6_whyNotSteep_0 13 rfl rfl)
theorem dX6_whyNotSteep_14 : decode cX6_whyNotSteep 14 = .ok (.iload_n 1, 1) := dk_27 (dk_at dksX6_whyNotSteep_0 14 rfl rfl)
theorem dX6_whyNotSteep_15 : decode cX6_whyNotSteep 15 = .ok (.invokevirtual 118, 3) := dk_182 0 118 (dk_at dksX6_whyNotSteep_0 15 rfl rfl)
theorem dX6_whyNotSteep_18 : decode cX6_whyNotSteep 18 = .ok (.goto 4, 3) := dk_167 0 4 (dk_at dksX6_whyNotSteep_0 18 rfl rfl)
theorem dX6_whyNotSteep_21 : decode cX6_whyNotSteep 21 = .ok (.iconst 0, 1) := dk_3 (dk_at dksX6_whyNotSteep_0 21 rfl rfl)
theorem dX6_whyNotSteep_22 : decode cX6_whyNotSteep 22 = .ok (.ireturn, 1) := dk_172 (dk_at dksX6_whyNotSteep_0 22 rfl rfl)
abbrev cX6_whyNotDrum : ByteArray := prog_11_method_87_code
def yX6_whyNotDrum : MethodName := ⟨RX6, "whyNotDrum", "(II)I"⟩
def dkwX6_whyNotDrum_1 : List UInt8 := [182, 0, 40, 153, 0, 12, 42, 27, 28, 182, 0, 127, 167, 0, 4, 3, 172]
abbrev dktX6_whyNotDrum_1 : List UInt8 := dkwX6_whyNotDrum_1 ++ []
def dkwX6_whyNotDrum_0 : List UInt8 := [42, 42, 27, 182, 0, 115, 153, 0, 14, 28, 184, 0, 124, 153, 0, 7, 4, 167, 0, 4, 3, 4]
abbrev dktX6_whyNotDrum_0 : List UInt8 := dkwX6_whyNotDrum_0 ++ dktX6_whyNotDrum_1
theorem dksX6_whyNotDrum_0 : cX6_whyNotDrum.data.toList.drop 0 = dktX6_whyNotDrum_0 := by decide +kernel
theorem dksX6_whyNotDrum_1 : cX6_whyNotDrum.data.toList.drop 22 = dktX6_whyNotDrum_1 := dk_seg dksX6_whyNotDrum_0 22 rfl rfl
theorem dX6_whyNotDrum_0 : decode cX6_whyNotDrum 0 = .ok (.aload_n 0, 1) := dk_42 (dk_at dksX6_whyNotDrum_0 0 rfl rfl)
theorem dX6_whyNotDrum_1 : decode cX6_whyNotDrum 1 = .ok (.aload_n 0, 1) := dk_42 (dk_at dksX6_whyNotDrum_0 1 rfl rfl)
theorem dX6_whyNotDrum_2 : decode cX6_whyNotDrum 2 = .ok (.iload_n 1, 1) := dk_27 (dk_at dksX6_whyNotDrum_0 2 rfl rfl)
theorem dX6_whyNotDrum_3 : decode cX6_whyNotDrum 3 = .ok (.invokevirtual 115, 3) := dk_182 0 115 (dk_at dksX6_whyNotDrum_0 3 rfl rfl)
theorem dX6_whyNotDrum_6 : decode cX6_whyNotDrum 6 = .ok (.ifCond .eq 14, 3) := dk_153 0 14 (dk_at dksX6_whyNotDrum_0 6 rfl rfl)
theorem dX6_whyNotDrum_9 : decode cX6_whyNotDrum 9 = .ok (.iload_n 2, 1) := dk_28 (dk_at dksX6_whyNotDrum_0 9 rfl rfl)
theorem dX6_whyNotDrum_10 : decode cX6_whyNotDrum 10 = .ok (.invokestatic 124, 3) := dk_184 0 124 (dk_at dksX6_whyNotDrum_0 10 rfl rfl)
theorem dX6_whyNotDrum_13 : decode cX6_whyNotDrum 13 = .ok (.ifCond .eq 7, 3) := dk_153 0 7 (dk_at dksX6_whyNotDrum_0 13 rfl rfl)
theorem dX6_whyNotDrum_16 : decode cX6_whyNotDrum 16 = .ok (.iconst 1, 1) := dk_4 (dk_at dksX6_whyNotDrum_0 16 rfl rfl)
theorem dX6_whyNotDrum_17 : decode cX6_whyNotDrum 17 = .ok (.goto 4, 3) := dk_167 0 4 (dk_at dksX6_whyNotDrum_0 17 rfl rfl)
theorem dX6_whyNotDrum_20 : decode cX6_whyNotDrum 20 = .ok (.iconst 0, 1) := dk_3 (dk_at dksX6_whyNotDrum_0 20 rfl rfl)
theorem dX6_whyNotDrum_21 : decode cX6_whyNotDrum 21 = .ok (.iconst 1, 1) := dk_4 (dk_at dksX6_whyNotDrum_0 21 rfl rfl)
theorem dX6_whyNotDrum_22 : decode cX6_whyNotDrum 22 = .ok (.invokevirtual 40, 3) := dk_182 0 40 (dk_at dksX6_whyNotDrum_1 0 rfl rfl)
theorem dX6_whyNotDrum_25 : decode cX6_whyNotDrum 25 = .ok (.ifCond .eq 12, 3) := dk_153 0 12 (dk_at dksX6_whyNotDrum_1 3 rfl rfl)
theorem dX6_whyNotDrum_28 : decode cX6_whyNotDrum 28 = .ok (.aload_n 0, 1) := dk_42 (dk_at dksX6_whyNotDrum_1 6 rfl rfl)
theorem dX6_whyNotDrum_29 : decode cX6_whyNotDrum 29 = .ok (.iload_n 1, 1) := dk_27 (dk_at dksX6_whyNotDrum_1 7 rfl rfl)
theorem dX6_whyNotDrum_30 : decode cX6_whyNotDrum 30 = .ok (.iload_n 2, 1) := dk_28 (dk_at dksX6_whyNotDrum_1 8 rfl rfl)
theorem dX6_whyNotDrum_31 : decode cX6_whyNotDrum 31 = .ok (.invokevirtual 127, 3) := dk_182 0 127 (dk_at dksX6_whyNotDrum_1 9 rfl rfl)
theorem dX6_whyNotDrum_34 : decode cX6_whyNotDrum 34 = .ok (.goto 4, 3) := dk_167 0 4 (dk_at dksX6_whyNotDrum_1 12 rfl rfl)
theorem dX6_whyNotDrum_37 : decode cX6_whyNotDrum 37 = .ok (.iconst 0, 1) := dk_3 (dk_at dksX6_whyNotDrum_1 15 rfl rfl)
theorem dX6_whyNotDrum_38 : decode cX6_whyNotDrum 38 = .ok (.ireturn, 1) := dk_172 (dk_at dksX6_whyNotDrum_1 16 rfl rfl)
abbrev cX6_whyNotLoad : ByteArray := prog_11_method_88_code
def yX6_whyNotLoad : MethodName := ⟨RX6, "whyNotLoad", "(I)I"⟩
def dkwX6_whyNotLoad_0 : List UInt8 := [42, 42, 27, 182, 0, 115, 4, 182, 0, 40, 153, 0, 11, 42, 27, 182, 0, 133, 167, 0, 4, 3, 172]
abbrev dktX6_whyNotLoad_0 : List UInt8 := dkwX6_whyNotLoad_0 ++ []
theorem dksX6_whyNotLoad_0 : cX6_whyNotLoad.data.toList.drop 0 = dktX6_whyNotLoad_0 := by decide +kernel
theorem dX6_whyNotLoad_0 : decode cX6_whyNotLoad 0 = .ok (.aload_n 0, 1) := dk_42 (dk_at dksX6_whyNotLoad_0 0 rfl rfl)
theorem dX6_whyNotLoad_1 : decode cX6_whyNotLoad 1 = .ok (.aload_n 0, 1) := dk_42 (dk_at dksX6_whyNotLoad_0 1 rfl rfl)
theorem dX6_whyNotLoad_2 : decode cX6_whyNotLoad 2 = .ok (.iload_n 1, 1) := dk_27 (dk_at dksX6_whyNotLoad_0 2 rfl rfl)
theorem dX6_whyNotLoad_3 : decode cX6_whyNotLoad 3 = .ok (.invokevirtual 115, 3) := dk_182 0 115 (dk_at dksX6_whyNotLoad_0 3 rfl rfl)
theorem dX6_whyNotLoad_6 : decode cX6_whyNotLoad 6 = .ok (.iconst 1, 1) := dk_4 (dk_at dksX6_whyNotLoad_0 6 rfl rfl)
theorem dX6_whyNotLoad_7 : decode cX6_whyNotLoad 7 = .ok (.invokevirtual 40, 3) := dk_182 0 40 (dk_at dksX6_whyNotLoad_0 7 rfl rfl)
theorem dX6_whyNotLoad_10 : decode cX6_whyNotLoad 10 = .ok (.ifCond .eq 11, 3) := dk_153 0 11 (dk_at dksX6_whyNotLoad_0 10 rfl rfl)
theorem dX6_whyNotLoad_13 : decode cX6_whyNotLoad 13 = .ok (.aload_n 0, 1) := dk_42 (dk_at dksX6_whyNotLoad_0 13 rfl rfl)
theorem dX6_whyNotLoad_14 : decode cX6_whyNotLoad 14 = .ok (.iload_n 1, 1) := dk_27 (dk_at dksX6_whyNotLoad_0 14 rfl rfl)
theorem dX6_whyNotLoad_15 : decode cX6_whyNotLoad 15 = .ok (.invokevirtual 133, 3) := dk_182 0 133 (dk_at dksX6_whyNotLoad_0 15 rfl rfl)
theorem dX6_whyNotLoad_18 : decode cX6_whyNotLoad 18 = .ok (.goto 4, 3) := dk_167 0 4 (dk_at dksX6_whyNotLoad_0 18 rfl rfl)
theorem dX6_whyNotLoad_21 : decode cX6_whyNotLoad 21 = .ok (.iconst 0, 1) := dk_3 (dk_at dksX6_whyNotLoad_0 21 rfl rfl)
theorem dX6_whyNotLoad_22 : decode cX6_whyNotLoad 22 = .ok (.ireturn, 1) := dk_172 (dk_at dksX6_whyNotLoad_0 22 rfl rfl)
abbrev cX6_whyNotSpray : ByteArray := prog_11_method_89_code
def yX6_whyNotSpray : MethodName := ⟨RX6, "whyNotSpray", "(I)I"⟩
def dkwX6_whyNotSpray_0 : List UInt8 := [42, 42, 27, 182, 0, 115, 4, 182, 0, 40, 153, 0, 11, 42, 27, 182, 0, 140, 167, 0, 4, 3, 172]
abbrev dktX6_whyNotSpray_0 : List UInt8 := dkwX6_whyNotSpray_0 ++ []
theorem dksX6_whyNotSpray_0 : cX6_whyNotSpray.data.toList.drop 0 = dktX6_whyNotSpray_0 := by decide +kernel
theorem dX6_whyNotSpray_0 : decode cX6_whyNotSpray 0 = .ok (.aload_n 0, 1) := dk_42 (dk_at dksX6_whyNotSpray_0 0 rfl rfl)
theorem dX6_whyNotSpray_1 : decode cX6_whyNotSpray 1 = .ok (.aload_n 0, 1) := dk_42 (dk_at dksX6_whyNotSpray_0 1 rfl rfl)
theorem dX6_whyNotSpray_2 : decode cX6_whyNotSpray 2 = .ok (.iload_n 1, 1) := dk_27 (dk_at dksX6_whyNotSpray_0 2 rfl rfl)
theorem dX6_whyNotSpray_3 : decode cX6_whyNotSpray 3 = .ok (.invokevirtual 115, 3) := dk_182 0 115 (dk_at dksX6_whyNotSpray_0 3 rfl rfl)
theorem dX6_whyNotSpray_6 : decode cX6_whyNotSpray 6 = .ok (.iconst 1, 1) := dk_4 (dk_at dksX6_whyNotSpray_0 6 rfl rfl)
theorem dX6_whyNotSpray_7 : decode cX6_whyNotSpray 7 = .ok (.invokevirtual 40, 3) := dk_182 0 40 (dk_at dksX6_whyNotSpray_0 7 rfl rfl)
theorem dX6_whyNotSpray_10 : decode cX6_whyNotSpray 10 = .ok (.ifCond .eq 11, 3) := dk_153 0 11 (dk_at dksX6_whyNotSpray_0 10 rfl rfl)
theorem dX6_whyNotSpray_13 : decode cX6_whyNotSpray 13 = .ok (.aload_n 0, 1) := dk_42 (dk_at dksX6_whyNotSpray_0 13 rfl rfl)
theorem dX6_whyNotSpray_14 : decode cX6_whyNotSpray 14 = .ok (.iload_n 1, 1) := dk_27 (dk_at dksX6_whyNotSpray_0 14 rfl rfl)
theorem dX6_whyNotSpray_15 : decode cX6_whyNotSpray 15 = .ok (.invokevirtual 140, 3) := dk_182 0 140 (dk_at dksX6_whyNotSpray_0 15 rfl rfl)
theorem dX6_whyNotSpray_18 : decode cX6_whyNotSpray 18 = .ok (.goto 4, 3) := dk_167 0 4 (dk_at dksX6_whyNotSpray_0 18 rfl rfl)
theorem dX6_whyNotSpray_21 : decode cX6_whyNotSpray 21 = .ok (.iconst 0, 1) := dk_3 (dk_at dksX6_whyNotSpray_0 21 rfl rfl)
theorem dX6_whyNotSpray_22 : decode cX6_whyNotSpray 22 = .ok (.ireturn, 1) := dk_172 (dk_at dksX6_whyNotSpray_0 22 rfl rfl)
abbrev cX6_hoursToGrow : ByteArray := prog_11_method_90_code
def yX6_hoursToGrow : MethodName := ⟨RX6, "hoursToGrow", "(II)I"⟩
def dkwX6_hoursToGrow_5 : List UInt8 := [180, 0, 13, 3, 42, 180, 0, 7, 3, 184, 0, 36, 21, 4, 172]
abbrev dktX6_hoursToGrow_5 : List UInt8 := dkwX6_hoursToGrow_5 ++ []
def dkwX6_hoursToGrow_4 : List UInt8 := [161, 0, 18, 42, 27, 3, 182, 0, 51, 16, 6, 159, 0, 7, 29, 167, 0, 4, 2, 54, 4, 42]
abbrev dktX6_hoursToGrow_4 : List UInt8 := dkwX6_hoursToGrow_4 ++ dktX6_hoursToGrow_5
def dkwX6_hoursToGrow_3 : List UInt8 := [153, 0, 15, 42, 182, 0, 96, 54, 4, 132, 3, 1, 167, 255, 222, 42, 27, 8, 182, 0, 51, 28]
abbrev dktX6_hoursToGrow_3 : List UInt8 := dkwX6_hoursToGrow_3 ++ dktX6_hoursToGrow_4
def dkwX6_hoursToGrow_2 : List UInt8 := [29, 17, 0, 240, 162, 0, 33, 42, 27, 8, 182, 0, 51, 28, 162, 0, 23, 42, 27, 182, 0, 99]
abbrev dktX6_hoursToGrow_2 : List UInt8 := dkwX6_hoursToGrow_2 ++ dktX6_hoursToGrow_3
def dkwX6_hoursToGrow_1 : List UInt8 := [182, 0, 51, 28, 161, 0, 5, 3, 172, 42, 180, 0, 7, 3, 42, 180, 0, 13, 3, 184, 0, 36, 3, 62]
abbrev dktX6_hoursToGrow_1 : List UInt8 := dkwX6_hoursToGrow_1 ++ dktX6_hoursToGrow_2
def dkwX6_hoursToGrow_0 : List UInt8 := [42, 42, 27, 182, 0, 115, 28, 3, 16, 100, 184, 0, 29, 182, 0, 40, 154, 0, 5, 3, 172, 42, 27, 8]
abbrev dktX6_hoursToGrow_0 : List UInt8 := dkwX6_hoursToGrow_0 ++ dktX6_hoursToGrow_1
theorem dksX6_hoursToGrow_0 : cX6_hoursToGrow.data.toList.drop 0 = dktX6_hoursToGrow_0 := by decide +kernel
theorem dksX6_hoursToGrow_1 : cX6_hoursToGrow.data.toList.drop 24 = dktX6_hoursToGrow_1 := dk_seg dksX6_hoursToGrow_0 24 rfl rfl
theorem dksX6_hoursToGrow_2 : cX6_hoursToGrow.data.toList.drop 48 = dktX6_hoursToGrow_2 := dk_seg dksX6_hoursToGrow_1 24 rfl rfl
theorem dksX6_hoursToGrow_3 : cX6_hoursToGrow.data.toList.drop 70 = dktX6_hoursToGrow_3 := dk_seg dksX6_hoursToGrow_2 22 rfl rfl
theorem dksX6_hoursToGrow_4 : cX6_hoursToGrow.data.toList.drop 92 = dktX6_hoursToGrow_4 := dk_seg dksX6_hoursToGrow_3 22 rfl rfl
theorem dksX6_hoursToGrow_5 : cX6_hoursToGrow.data.toList.drop 114 = dktX6_hoursToGrow_5 := dk_seg dksX6_hoursToGrow_4 22 rfl rfl
theorem dX6_hoursToGrow_0 : decode cX6_hoursToGrow 0 = .ok (.aload_n 0, 1) := dk_42 (dk_at dksX6_hoursToGrow_0 0 rfl rfl)
theorem dX6_hoursToGrow_1 : decode cX6_hoursToGrow 1 = .ok (.aload_n 0, 1) := dk_42 (dk_at dksX6_hoursToGrow_0 1 rfl rfl)
theorem dX6_hoursToGrow_2 : decode cX6_hoursToGrow 2 = .ok (.iload_n 1, 1) := dk_27 (dk_at dksX6_hoursToGrow_0 2 rfl rfl)
theorem dX6_hoursToGrow_3 : decode cX6_hoursToGrow 3 = .ok (.invokevirtual 115, 3) := dk_182 0 115 (dk_at dksX6_hoursToGrow_0 3 rfl rfl)
theorem dX6_hoursToGrow_6 : decode cX6_hoursToGrow 6 = .ok (.iload_n 2, 1) := dk_28 (dk_at dksX6_hoursToGrow_0 6 rfl rfl)
theorem dX6_hoursToGrow_7 : decode cX6_hoursToGrow 7 = .ok (.iconst 0, 1) := dk_3 (dk_at dksX6_hoursToGrow_0 7 rfl rfl)
theorem dX6_hoursToGrow_8 : decode cX6_hoursToGrow 8 = .ok (.bipush 100, 2) := dk_16 100 (dk_at dksX6_hoursToGrow_0 8 rfl rfl)
theorem dX6_hoursToGrow_10 : decode cX6_hoursToGrow 10 = .ok (.invokestatic 29, 3) := dk_184 0 29 (dk_at dksX6_hoursToGrow_0 10 rfl rfl)
theorem dX6_hoursToGrow_13 : decode cX6_hoursToGrow 13 = .ok (.invokevirtual 40, 3) := dk_182 0 40 (dk_at dksX6_hoursToGrow_0 13 rfl rfl)
theorem dX6_hoursToGrow_16 : decode cX6_hoursToGrow 16 = .ok (.ifCond .ne 5, 3) := dk_154 0 5 (dk_at dksX6_hoursToGrow_0 16 rfl rfl)
theorem dX6_hoursToGrow_19 : decode cX6_hoursToGrow 19 = .ok (.iconst 0, 1) := dk_3 (dk_at dksX6_hoursToGrow_0 19 rfl rfl)
theorem dX6_hoursToGrow_20 : decode cX6_hoursToGrow 20 = .ok (.ireturn, 1) := dk_172 (dk_at dksX6_hoursToGrow_0 20 rfl rfl)
theorem dX6_hoursToGrow_21 : decode cX6_hoursToGrow 21 = .ok (.aload_n 0, 1) := dk_42 (dk_at dksX6_hoursToGrow_0 21 rfl rfl)
theorem dX6_hoursToGrow_22 : decode cX6_hoursToGrow 22 = .ok (.iload_n 1, 1) := dk_27 (dk_at dksX6_hoursToGrow_0 22 rfl rfl)
theorem dX6_hoursToGrow_23 : decode cX6_hoursToGrow 23 = .ok (.iconst 5, 1) := dk_8 (dk_at dksX6_hoursToGrow_0 23 rfl rfl)
theorem dX6_hoursToGrow_24 : decode cX6_hoursToGrow 24 = .ok (.invokevirtual 51, 3) := dk_182 0 51 (dk_at dksX6_hoursToGrow_1 0 rfl rfl)
theorem dX6_hoursToGrow_27 : decode cX6_hoursToGrow 27 = .ok (.iload_n 2, 1) := dk_28 (dk_at dksX6_hoursToGrow_1 3 rfl rfl)
theorem dX6_hoursToGrow_28 : decode cX6_hoursToGrow 28 = .ok (.if_icmp .lt 5, 3) := dk_161 0 5 (dk_at dksX6_hoursToGrow_1 4 rfl rfl)
theorem dX6_hoursToGrow_31 : decode cX6_hoursToGrow 31 = .ok (.iconst 0, 1) := dk_3 (dk_at dksX6_hoursToGrow_1 7 rfl rfl)
theorem dX6_hoursToGrow_32 : decode cX6_hoursToGrow 32 = .ok (.ireturn, 1) := dk_172 (dk_at dksX6_hoursToGrow_1 8 rfl rfl)
theorem dX6_hoursToGrow_33 : decode cX6_hoursToGrow 33 = .ok (.aload_n 0, 1) := dk_42 (dk_at dksX6_hoursToGrow_1 9 rfl rfl)
theorem dX6_hoursToGrow_34 : decode cX6_hoursToGrow 34 = .ok (.getfield 7, 3) := dk_180 0 7 (dk_at dksX6_hoursToGrow_1 10 rfl rfl)
theorem dX6_hoursToGrow_37 : decode cX6_hoursToGrow 37 = .ok (.iconst 0, 1) := dk_3 (dk_at dksX6_hoursToGrow_1 13 rfl rfl)
theorem dX6_hoursToGrow_38 : decode cX6_hoursToGrow 38 = .ok (.aload_n 0, 1) := dk_42 (dk_at dksX6_hoursToGrow_1 14 rfl rfl)
theorem dX6_hoursToGrow_39 : decode cX6_hoursToGrow 39 = .ok (.getfield 13, 3) := dk_180 0 13 (dk_at dksX6_hoursToGrow_1 15 rfl rfl)
theorem dX6_hoursToGrow_42 : decode cX6_hoursToGrow 42 = .ok (.iconst 0, 1) := dk_3 (dk_at dksX6_hoursToGrow_1 18 rfl rfl)
theorem dX6_hoursToGrow_43 : decode cX6_hoursToGrow 43 = .ok (.invokestatic 36, 3) := dk_184 0 36 (dk_at dksX6_hoursToGrow_1 19 rfl rfl)
theorem dX6_hoursToGrow_46 : decode cX6_hoursToGrow 46 = .ok (.iconst 0, 1) := dk_3 (dk_at dksX6_hoursToGrow_1 22 rfl rfl)
theorem dX6_hoursToGrow_47 : decode cX6_hoursToGrow 47 = .ok (.istore_n 3, 1) := dk_62 (dk_at dksX6_hoursToGrow_1 23 rfl rfl)
theorem dX6_hoursToGrow_48 : decode cX6_hoursToGrow 48 = .ok (.iload_n 3, 1) := dk_29 (dk_at dksX6_hoursToGrow_2 0 rfl rfl)
theorem dX6_hoursToGrow_49 : decode cX6_hoursToGrow 49 = .ok (.sipush 240, 3) := dk_17 0 240 (dk_at dksX6_hoursToGrow_2 1 rfl rfl)
theorem dX6_hoursToGrow_52 : decode cX6_hoursToGrow 52 = .ok (.if_icmp .ge 33, 3) := dk_162 0 33 (dk_at dksX6_hoursToGrow_2 4 rfl rfl)
theorem dX6_hoursToGrow_55 : decode cX6_hoursToGrow 55 = .ok (.aload_n 0, 1) := dk_42 (dk_at dksX6_hoursToGrow_2 7 rfl rfl)
theorem dX6_hoursToGrow_56 : decode cX6_hoursToGrow 56 = .ok (.iload_n 1, 1) := dk_27 (dk_at dksX6_hoursToGrow_2 8 rfl rfl)
theorem dX6_hoursToGrow_57 : decode cX6_hoursToGrow 57 = .ok (.iconst 5, 1) := dk_8 (dk_at dksX6_hoursToGrow_2 9 rfl rfl)
theorem dX6_hoursToGrow_58 : decode cX6_hoursToGrow 58 = .ok (.invokevirtual 51, 3) := dk_182 0 51 (dk_at dksX6_hoursToGrow_2 10 rfl rfl)
theorem dX6_hoursToGrow_61 : decode cX6_hoursToGrow 61 = .ok (.iload_n 2, 1) := dk_28 (dk_at dksX6_hoursToGrow_2 13 rfl rfl)
theorem dX6_hoursToGrow_62 : decode cX6_hoursToGrow 62 = .ok (.if_icmp .ge 23, 3) := dk_162 0 23 (dk_at dksX6_hoursToGrow_2 14 rfl rfl)
theorem dX6_hoursToGrow_65 : decode cX6_hoursToGrow 65 = .ok (.aload_n 0, 1) := dk_42 (dk_at dksX6_hoursToGrow_2 17 rfl rfl)
theorem dX6_hoursToGrow_66 : decode cX6_hoursToGrow 66 = .ok (.iload_n 1, 1) := dk_27 (dk_at dksX6_hoursToGrow_2 18 rfl rfl)
theorem dX6_hoursToGrow_67 : decode cX6_hoursToGrow 67 = .ok (.invokevirtual 99, 3) := dk_182 0 99 (dk_at dksX6_hoursToGrow_2 19 rfl rfl)
theorem dX6_hoursToGrow_70 : decode cX6_hoursToGrow 70 = .ok (.ifCond .eq 15, 3) := dk_153 0 15 (dk_at dksX6_hoursToGrow_3 0 rfl rfl)
theorem dX6_hoursToGrow_73 : decode cX6_hoursToGrow 73 = .ok (.aload_n 0, 1) := dk_42 (dk_at dksX6_hoursToGrow_3 3 rfl rfl)
theorem dX6_hoursToGrow_74 : decode cX6_hoursToGrow 74 = .ok (.invokevirtual 96, 3) := dk_182 0 96 (dk_at dksX6_hoursToGrow_3 4 rfl rfl)
theorem dX6_hoursToGrow_77 : decode cX6_hoursToGrow 77 = .ok (.istore 4, 2) := dk_54 4 (dk_at dksX6_hoursToGrow_3 7 rfl rfl)
theorem dX6_hoursToGrow_79 : decode cX6_hoursToGrow 79 = .ok (.iinc 3 1, 3) := dk_132 3 1 (dk_at dksX6_hoursToGrow_3 9 rfl rfl)
theorem dX6_hoursToGrow_82 : decode cX6_hoursToGrow 82 = .ok (.goto (-34), 3) := dk_167 255 222 (dk_at dksX6_hoursToGrow_3 12 rfl rfl)
theorem dX6_hoursToGrow_85 : decode cX6_hoursToGrow 85 = .ok (.aload_n 0, 1) := dk_42 (dk_at dksX6_hoursToGrow_3 15 rfl rfl)
theorem dX6_hoursToGrow_86 : decode cX6_hoursToGrow 86 = .ok (.iload_n 1, 1) := dk_27 (dk_at dksX6_hoursToGrow_3 16 rfl rfl)
theorem dX6_hoursToGrow_87 : decode cX6_hoursToGrow 87 = .ok (.iconst 5, 1) := dk_8 (dk_at dksX6_hoursToGrow_3 17 rfl rfl)
theorem dX6_hoursToGrow_88 : decode cX6_hoursToGrow 88 = .ok (.invokevirtual 51, 3) := dk_182 0 51 (dk_at dksX6_hoursToGrow_3 18 rfl rfl)
theorem dX6_hoursToGrow_91 : decode cX6_hoursToGrow 91 = .ok (.iload_n 2, 1) := dk_28 (dk_at dksX6_hoursToGrow_3 21 rfl rfl)
theorem dX6_hoursToGrow_92 : decode cX6_hoursToGrow 92 = .ok (.if_icmp .lt 18, 3) := dk_161 0 18 (dk_at dksX6_hoursToGrow_4 0 rfl rfl)
theorem dX6_hoursToGrow_95 : decode cX6_hoursToGrow 95 = .ok (.aload_n 0, 1) := dk_42 (dk_at dksX6_hoursToGrow_4 3 rfl rfl)
theorem dX6_hoursToGrow_96 : decode cX6_hoursToGrow 96 = .ok (.iload_n 1, 1) := dk_27 (dk_at dksX6_hoursToGrow_4 4 rfl rfl)
theorem dX6_hoursToGrow_97 : decode cX6_hoursToGrow 97 = .ok (.iconst 0, 1) := dk_3 (dk_at dksX6_hoursToGrow_4 5 rfl rfl)
theorem dX6_hoursToGrow_98 : decode cX6_hoursToGrow 98 = .ok (.invokevirtual 51, 3) := dk_182 0 51 (dk_at dksX6_hoursToGrow_4 6 rfl rfl)
theorem dX6_hoursToGrow_101 : decode cX6_hoursToGrow 101 = .ok (.bipush 6, 2) := dk_16 6 (dk_at dksX6_hoursToGrow_4 9 rfl rfl)
theorem dX6_hoursToGrow_103 : decode cX6_hoursToGrow 103 = .ok (.if_icmp .eq 7, 3) := dk_159 0 7 (dk_at dksX6_hoursToGrow_4 11 rfl rfl)
theorem dX6_hoursToGrow_106 : decode cX6_hoursToGrow 106 = .ok (.iload_n 3, 1) := dk_29 (dk_at dksX6_hoursToGrow_4 14 rfl rfl)
theorem dX6_hoursToGrow_107 : decode cX6_hoursToGrow 107 = .ok (.goto 4, 3) := dk_167 0 4 (dk_at dksX6_hoursToGrow_4 15 rfl rfl)
theorem dX6_hoursToGrow_110 : decode cX6_hoursToGrow 110 = .ok (.iconst (-1), 1) := dk_2 (dk_at dksX6_hoursToGrow_4 18 rfl rfl)
theorem dX6_hoursToGrow_111 : decode cX6_hoursToGrow 111 = .ok (.istore 4, 2) := dk_54 4 (dk_at dksX6_hoursToGrow_4 19 rfl rfl)
theorem dX6_hoursToGrow_113 : decode cX6_hoursToGrow 113 = .ok (.aload_n 0, 1) := dk_42 (dk_at dksX6_hoursToGrow_4 21 rfl rfl)
theorem dX6_hoursToGrow_114 : decode cX6_hoursToGrow 114 = .ok (.getfield 13, 3) := dk_180 0 13 (dk_at dksX6_hoursToGrow_5 0 rfl rfl)
theorem dX6_hoursToGrow_117 : decode cX6_hoursToGrow 117 = .ok (.iconst 0, 1) := dk_3 (dk_at dksX6_hoursToGrow_5 3 rfl rfl)
theorem dX6_hoursToGrow_118 : decode cX6_hoursToGrow 118 = .ok (.aload_n 0, 1) := dk_42 (dk_at dksX6_hoursToGrow_5 4 rfl rfl)
theorem dX6_hoursToGrow_119 : decode cX6_hoursToGrow 119 = .ok (.getfield 7, 3) := dk_180 0 7 (dk_at dksX6_hoursToGrow_5 5 rfl rfl)
theorem dX6_hoursToGrow_122 : decode cX6_hoursToGrow 122 = .ok (.iconst 0, 1) := dk_3 (dk_at dksX6_hoursToGrow_5 8 rfl rfl)
theorem dX6_hoursToGrow_123 : decode cX6_hoursToGrow 123 = .ok (.invokestatic 36, 3) := dk_184 0 36 (dk_at dksX6_hoursToGrow_5 9 rfl rfl)
theorem dX6_hoursToGrow_126 : decode cX6_hoursToGrow 126 = .ok (.iload 4, 2) := dk_21 4 (dk_at dksX6_hoursToGrow_5 12 rfl rfl)
theorem dX6_hoursToGrow_128 : decode cX6_hoursToGrow 128 = .ok (.ireturn, 1) := dk_172 (dk_at dksX6_hoursToGrow_5 14 rfl rfl)
abbrev cX6_hoursToSpoil : ByteArray := prog_11_method_91_code
def yX6_hoursToSpoil : MethodName := ⟨RX6, "hoursToSpoil", "(I)I"⟩
def dkwX6_hoursToSpoil_3 : List UInt8 := [167, 0, 4, 2, 62, 42, 180, 0, 13, 3, 42, 180, 0, 7, 3, 184, 0, 36, 29, 172]
abbrev dktX6_hoursToSpoil_3 : List UInt8 := dkwX6_hoursToSpoil_3 ++ []
def dkwX6_hoursToSpoil_2 : List UInt8 := [182, 0, 96, 62, 132, 2, 1, 167, 255, 233, 42, 27, 3, 182, 0, 51, 16, 6, 160, 0, 7, 28]
abbrev dktX6_hoursToSpoil_2 : List UInt8 := dkwX6_hoursToSpoil_2 ++ dktX6_hoursToSpoil_3
def dkwX6_hoursToSpoil_1 : List UInt8 := [3, 184, 0, 36, 3, 61, 28, 17, 0, 240, 162, 0, 22, 42, 27, 182, 0, 99, 153, 0, 14, 42]
abbrev dktX6_hoursToSpoil_1 : List UInt8 := dkwX6_hoursToSpoil_1 ++ dktX6_hoursToSpoil_2
def dkwX6_hoursToSpoil_0 : List UInt8 := [42, 42, 27, 182, 0, 115, 4, 182, 0, 40, 154, 0, 5, 3, 172, 42, 180, 0, 7, 3, 42, 180, 0, 13]
abbrev dktX6_hoursToSpoil_0 : List UInt8 := dkwX6_hoursToSpoil_0 ++ dktX6_hoursToSpoil_1
theorem dksX6_hoursToSpoil_0 : cX6_hoursToSpoil.data.toList.drop 0 = dktX6_hoursToSpoil_0 := by decide +kernel
theorem dksX6_hoursToSpoil_1 : cX6_hoursToSpoil.data.toList.drop 24 = dktX6_hoursToSpoil_1 := dk_seg dksX6_hoursToSpoil_0 24 rfl rfl
theorem dksX6_hoursToSpoil_2 : cX6_hoursToSpoil.data.toList.drop 46 = dktX6_hoursToSpoil_2 := dk_seg dksX6_hoursToSpoil_1 22 rfl rfl
theorem dksX6_hoursToSpoil_3 : cX6_hoursToSpoil.data.toList.drop 68 = dktX6_hoursToSpoil_3 := dk_seg dksX6_hoursToSpoil_2 22 rfl rfl
theorem dX6_hoursToSpoil_0 : decode cX6_hoursToSpoil 0 = .ok (.aload_n 0, 1) := dk_42 (dk_at dksX6_hoursToSpoil_0 0 rfl rfl)
theorem dX6_hoursToSpoil_1 : decode cX6_hoursToSpoil 1 = .ok (.aload_n 0, 1) := dk_42 (dk_at dksX6_hoursToSpoil_0 1 rfl rfl)
theorem dX6_hoursToSpoil_2 : decode cX6_hoursToSpoil 2 = .ok (.iload_n 1, 1) := dk_27 (dk_at dksX6_hoursToSpoil_0 2 rfl rfl)
theorem dX6_hoursToSpoil_3 : decode cX6_hoursToSpoil 3 = .ok (.invokevirtual 115, 3) := dk_182 0 115 (dk_at dksX6_hoursToSpoil_0 3 rfl rfl)
theorem dX6_hoursToSpoil_6 : decode cX6_hoursToSpoil 6 = .ok (.iconst 1, 1) := dk_4 (dk_at dksX6_hoursToSpoil_0 6 rfl rfl)
theorem dX6_hoursToSpoil_7 : decode cX6_hoursToSpoil 7 = .ok (.invokevirtual 40, 3) := dk_182 0 40 (dk_at dksX6_hoursToSpoil_0 7 rfl rfl)
theorem dX6_hoursToSpoil_10 : decode cX6_hoursToSpoil 10 = .ok (.ifCond .ne 5, 3) := dk_154 0 5 (dk_at dksX6_hoursToSpoil_0 10 rfl rfl)
theorem dX6_hoursToSpoil_13 : decode cX6_hoursToSpoil 13 = .ok (.iconst 0, 1) := dk_3 (dk_at dksX6_hoursToSpoil_0 13 rfl rfl)
theorem dX6_hoursToSpoil_14 : decode cX6_hoursToSpoil 14 = .ok (.ireturn, 1) := dk_172 (dk_at dksX6_hoursToSpoil_0 14 rfl rfl)
theorem dX6_hoursToSpoil_15 : decode cX6_hoursToSpoil 15 = .ok (.aload_n 0, 1) := dk_42 (dk_at dksX6_hoursToSpoil_0 15 rfl rfl)
theorem dX6_hoursToSpoil_16 : decode cX6_hoursToSpoil 16 = .ok (.getfield 7, 3) := dk_180 0 7 (dk_at dksX6_hoursToSpoil_0 16 rfl rfl)
theorem dX6_hoursToSpoil_19 : decode cX6_hoursToSpoil 19 = .ok (.iconst 0, 1) := dk_3 (dk_at dksX6_hoursToSpoil_0 19 rfl rfl)
theorem dX6_hoursToSpoil_20 : decode cX6_hoursToSpoil 20 = .ok (.aload_n 0, 1) := dk_42 (dk_at dksX6_hoursToSpoil_0 20 rfl rfl)
theorem dX6_hoursToSpoil_21 : decode cX6_hoursToSpoil 21 = .ok (.getfield 13, 3) := dk_180 0 13 (dk_at dksX6_hoursToSpoil_0 21 rfl rfl)
theorem dX6_hoursToSpoil_24 : decode cX6_hoursToSpoil 24 = .ok (.iconst 0, 1) := dk_3 (dk_at dksX6_hoursToSpoil_1 0 rfl rfl)
theorem dX6_hoursToSpoil_25 : decode cX6_hoursToSpoil 25 = .ok (.invokestatic 36, 3) := dk_184 0 36 (dk_at dksX6_hoursToSpoil_1 1 rfl rfl)
theorem dX6_hoursToSpoil_28 : decode cX6_hoursToSpoil 28 = .ok (.iconst 0, 1) := dk_3 (dk_at dksX6_hoursToSpoil_1 4 rfl rfl)
theorem dX6_hoursToSpoil_29 : decode cX6_hoursToSpoil 29 = .ok (.istore_n 2, 1) := dk_61 (dk_at dksX6_hoursToSpoil_1 5 rfl rfl)
theorem dX6_hoursToSpoil_30 : decode cX6_hoursToSpoil 30 = .ok (.iload_n 2, 1) := dk_28 (dk_at dksX6_hoursToSpoil_1 6 rfl rfl)
theorem dX6_hoursToSpoil_31 : decode cX6_hoursToSpoil 31 = .ok (.sipush 240, 3) := dk_17 0 240 (dk_at dksX6_hoursToSpoil_1 7 rfl rfl)
theorem dX6_hoursToSpoil_34 : decode cX6_hoursToSpoil 34 = .ok (.if_icmp .ge 22, 3) := dk_162 0 22 (dk_at dksX6_hoursToSpoil_1 10 rfl rfl)
theorem dX6_hoursToSpoil_37 : decode cX6_hoursToSpoil 37 = .ok (.aload_n 0, 1) := dk_42 (dk_at dksX6_hoursToSpoil_1 13 rfl rfl)
theorem dX6_hoursToSpoil_38 : decode cX6_hoursToSpoil 38 = .ok (.iload_n 1, 1) := dk_27 (dk_at dksX6_hoursToSpoil_1 14 rfl rfl)
theorem dX6_hoursToSpoil_39 : decode cX6_hoursToSpoil 39 = .ok (.invokevirtual 99, 3) := dk_182 0 99 (dk_at dksX6_hoursToSpoil_1 15 rfl rfl)
theorem dX6_hoursToSpoil_42 : decode cX6_hoursToSpoil 42 = .ok (.ifCond .eq 14, 3) := dk_153 0 14 (dk_at dksX6_hoursToSpoil_1 18 rfl rfl)
theorem dX6_hoursToSpoil_45 : decode cX6_hoursToSpoil 45 = .ok (.aload_n 0, 1) := dk_42 (dk_at dksX6_hoursToSpoil_1 21 rfl rfl)
theorem dX6_hoursToSpoil_46 : decode cX6_hoursToSpoil 46 = .ok (.invokevirtual 96, 3) := dk_182 0 96 (dk_at dksX6_hoursToSpoil_2 0 rfl rfl)
theorem dX6_hoursToSpoil_49 : decode cX6_hoursToSpoil 49 = .ok (.istore_n 3, 1) := dk_62 (dk_at dksX6_hoursToSpoil_2 3 rfl rfl)
theorem dX6_hoursToSpoil_50 : decode cX6_hoursToSpoil 50 = .ok (.iinc 2 1, 3) := dk_132 2 1 (dk_at dksX6_hoursToSpoil_2 4 rfl rfl)
theorem dX6_hoursToSpoil_53 : decode cX6_hoursToSpoil 53 = .ok (.goto (-23), 3) := dk_167 255 233 (dk_at dksX6_hoursToSpoil_2 7 rfl rfl)
theorem dX6_hoursToSpoil_56 : decode cX6_hoursToSpoil 56 = .ok (.aload_n 0, 1) := dk_42 (dk_at dksX6_hoursToSpoil_2 10 rfl rfl)
theorem dX6_hoursToSpoil_57 : decode cX6_hoursToSpoil 57 = .ok (.iload_n 1, 1) := dk_27 (dk_at dksX6_hoursToSpoil_2 11 rfl rfl)
theorem dX6_hoursToSpoil_58 : decode cX6_hoursToSpoil 58 = .ok (.iconst 0, 1) := dk_3 (dk_at dksX6_hoursToSpoil_2 12 rfl rfl)
theorem dX6_hoursToSpoil_59 : decode cX6_hoursToSpoil 59 = .ok (.invokevirtual 51, 3) := dk_182 0 51 (dk_at dksX6_hoursToSpoil_2 13 rfl rfl)
theorem dX6_hoursToSpoil_62 : decode cX6_hoursToSpoil 62 = .ok (.bipush 6, 2) := dk_16 6 (dk_at dksX6_hoursToSpoil_2 16 rfl rfl)
theorem dX6_hoursToSpoil_64 : decode cX6_hoursToSpoil 64 = .ok (.if_icmp .ne 7, 3) := dk_160 0 7 (dk_at dksX6_hoursToSpoil_2 18 rfl rfl)
theorem dX6_hoursToSpoil_67 : decode cX6_hoursToSpoil 67 = .ok (.iload_n 2, 1) := dk_28 (dk_at dksX6_hoursToSpoil_2 21 rfl rfl)
theorem dX6_hoursToSpoil_68 : decode cX6_hoursToSpoil 68 = .ok (.goto 4, 3) := dk_167 0 4 (dk_at dksX6_hoursToSpoil_3 0 rfl rfl)
theorem dX6_hoursToSpoil_71 : decode cX6_hoursToSpoil 71 = .ok (.iconst (-1), 1) := dk_2 (dk_at dksX6_hoursToSpoil_3 3 rfl rfl)
theorem dX6_hoursToSpoil_72 : decode cX6_hoursToSpoil 72 = .ok (.istore_n 3, 1) := dk_62 (dk_at dksX6_hoursToSpoil_3 4 rfl rfl)
theorem dX6_hoursToSpoil_73 : decode cX6_hoursToSpoil 73 = .ok (.aload_n 0, 1) := dk_42 (dk_at dksX6_hoursToSpoil_3 5 rfl rfl)
theorem dX6_hoursToSpoil_74 : decode cX6_hoursToSpoil 74 = .ok (.getfield 13, 3) := dk_180 0 13 (dk_at dksX6_hoursToSpoil_3 6 rfl rfl)
theorem dX6_hoursToSpoil_77 : decode cX6_hoursToSpoil 77 = .ok (.iconst 0, 1) := dk_3 (dk_at dksX6_hoursToSpoil_3 9 rfl rfl)
theorem dX6_hoursToSpoil_78 : decode cX6_hoursToSpoil 78 = .ok (.aload_n 0, 1) := dk_42 (dk_at dksX6_hoursToSpoil_3 10 rfl rfl)
theorem dX6_hoursToSpoil_79 : decode cX6_hoursToSpoil 79 = .ok (.getfield 7, 3) := dk_180 0 7 (dk_at dksX6_hoursToSpoil_3 11 rfl rfl)
theorem dX6_hoursToSpoil_82 : decode cX6_hoursToSpoil 82 = .ok (.iconst 0, 1) := dk_3 (dk_at dksX6_hoursToSpoil_3 14 rfl rfl)
theorem dX6_hoursToSpoil_83 : decode cX6_hoursToSpoil 83 = .ok (.invokestatic 36, 3) := dk_184 0 36 (dk_at dksX6_hoursToSpoil_3 15 rfl rfl)
theorem dX6_hoursToSpoil_86 : decode cX6_hoursToSpoil 86 = .ok (.iload_n 3, 1) := dk_29 (dk_at dksX6_hoursToSpoil_3 18 rfl rfl)
theorem dX6_hoursToSpoil_87 : decode cX6_hoursToSpoil 87 = .ok (.ireturn, 1) := dk_172 (dk_at dksX6_hoursToSpoil_3 19 rfl rfl)
abbrev cX6_hoursToDry : ByteArray := prog_11_method_92_code
def yX6_hoursToDry : MethodName := ⟨RX6, "hoursToDry", "(Z)I"⟩
def dkwX6_hoursToDry_4 : List UInt8 := [61, 167, 255, 222, 29, 172]
abbrev dktX6_hoursToDry_4 : List UInt8 := dkwX6_hoursToDry_4 ++ []
def dkwX6_hoursToDry_3 : List UInt8 := [132, 3, 1, 6, 28, 42, 42, 180, 0, 7, 5, 46, 29, 96, 182, 0, 79, 16, 20, 108, 100, 184, 0, 68]
abbrev dktX6_hoursToDry_3 : List UInt8 := dkwX6_hoursToDry_3 ++ dktX6_hoursToDry_4
def dkwX6_hoursToDry_2 : List UInt8 := [132, 3, 1, 167, 255, 217, 28, 154, 0, 5, 2, 172, 3, 62, 29, 153, 0, 8, 28, 7, 164, 0, 31]
abbrev dktX6_hoursToDry_2 : List UInt8 := dkwX6_hoursToDry_2 ++ dktX6_hoursToDry_3
def dkwX6_hoursToDry_1 : List UInt8 := [182, 0, 51, 7, 160, 0, 16, 28, 42, 29, 7, 182, 0, 51, 184, 0, 68, 167, 0, 4, 28, 61]
abbrev dktX6_hoursToDry_1 : List UInt8 := dkwX6_hoursToDry_1 ++ dktX6_hoursToDry_2
def dkwX6_hoursToDry_0 : List UInt8 := [42, 3, 181, 0, 25, 3, 61, 3, 62, 29, 42, 180, 0, 7, 16, 7, 46, 162, 0, 34, 42, 29, 3]
abbrev dktX6_hoursToDry_0 : List UInt8 := dkwX6_hoursToDry_0 ++ dktX6_hoursToDry_1
theorem dksX6_hoursToDry_0 : cX6_hoursToDry.data.toList.drop 0 = dktX6_hoursToDry_0 := by decide +kernel
theorem dksX6_hoursToDry_1 : cX6_hoursToDry.data.toList.drop 23 = dktX6_hoursToDry_1 := dk_seg dksX6_hoursToDry_0 23 rfl rfl
theorem dksX6_hoursToDry_2 : cX6_hoursToDry.data.toList.drop 45 = dktX6_hoursToDry_2 := dk_seg dksX6_hoursToDry_1 22 rfl rfl
theorem dksX6_hoursToDry_3 : cX6_hoursToDry.data.toList.drop 68 = dktX6_hoursToDry_3 := dk_seg dksX6_hoursToDry_2 23 rfl rfl
theorem dksX6_hoursToDry_4 : cX6_hoursToDry.data.toList.drop 92 = dktX6_hoursToDry_4 := dk_seg dksX6_hoursToDry_3 24 rfl rfl
theorem dX6_hoursToDry_0 : decode cX6_hoursToDry 0 = .ok (.aload_n 0, 1) := dk_42 (dk_at dksX6_hoursToDry_0 0 rfl rfl)
theorem dX6_hoursToDry_1 : decode cX6_hoursToDry 1 = .ok (.iconst 0, 1) := dk_3 (dk_at dksX6_hoursToDry_0 1 rfl rfl)
theorem dX6_hoursToDry_2 : decode cX6_hoursToDry 2 = .ok (.putfield 25, 3) := dk_181 0 25 (dk_at dksX6_hoursToDry_0 2 rfl rfl)
theorem dX6_hoursToDry_5 : decode cX6_hoursToDry 5 = .ok (.iconst 0, 1) := dk_3 (dk_at dksX6_hoursToDry_0 5 rfl rfl)
theorem dX6_hoursToDry_6 : decode cX6_hoursToDry 6 = .ok (.istore_n 2, 1) := dk_61 (dk_at dksX6_hoursToDry_0 6 rfl rfl)
theorem dX6_hoursToDry_7 : decode cX6_hoursToDry 7 = .ok (.iconst 0, 1) := dk_3 (dk_at dksX6_hoursToDry_0 7 rfl rfl)
theorem dX6_hoursToDry_8 : decode cX6_hoursToDry 8 = .ok (.istore_n 3, 1) := dk_62 (dk_at dksX6_hoursToDry_0 8 rfl rfl)
theorem dX6_hoursToDry_9 : decode cX6_hoursToDry 9 = .ok (.iload_n 3, 1) := dk_29 (dk_at dksX6_hoursToDry_0 9 rfl rfl)
theorem dX6_hoursToDry_10 : decode cX6_hoursToDry 10 = .ok (.aload_n 0, 1) := dk_42 (dk_at dksX6_hoursToDry_0 10 rfl rfl)
theorem dX6_hoursToDry_11 : decode cX6_hoursToDry 11 = .ok (.getfield 7, 3) := dk_180 0 7 (dk_at dksX6_hoursToDry_0 11 rfl rfl)
theorem dX6_hoursToDry_14 : decode cX6_hoursToDry 14 = .ok (.bipush 7, 2) := dk_16 7 (dk_at dksX6_hoursToDry_0 14 rfl rfl)
theorem dX6_hoursToDry_16 : decode cX6_hoursToDry 16 = .ok (.iaload, 1) := dk_46 (dk_at dksX6_hoursToDry_0 16 rfl rfl)
theorem dX6_hoursToDry_17 : decode cX6_hoursToDry 17 = .ok (.if_icmp .ge 34, 3) := dk_162 0 34 (dk_at dksX6_hoursToDry_0 17 rfl rfl)
theorem dX6_hoursToDry_20 : decode cX6_hoursToDry 20 = .ok (.aload_n 0, 1) := dk_42 (dk_at dksX6_hoursToDry_0 20 rfl rfl)
theorem dX6_hoursToDry_21 : decode cX6_hoursToDry 21 = .ok (.iload_n 3, 1) := dk_29 (dk_at dksX6_hoursToDry_0 21 rfl rfl)
theorem dX6_hoursToDry_22 : decode cX6_hoursToDry 22 = .ok (.iconst 0, 1) := dk_3 (dk_at dksX6_hoursToDry_0 22 rfl rfl)
theorem dX6_hoursToDry_23 : decode cX6_hoursToDry 23 = .ok (.invokevirtual 51, 3) := dk_182 0 51 (dk_at dksX6_hoursToDry_1 0 rfl rfl)
theorem dX6_hoursToDry_26 : decode cX6_hoursToDry 26 = .ok (.iconst 4, 1) := dk_7 (dk_at dksX6_hoursToDry_1 3 rfl rfl)
theorem dX6_hoursToDry_27 : decode cX6_hoursToDry 27 = .ok (.if_icmp .ne 16, 3) := dk_160 0 16 (dk_at dksX6_hoursToDry_1 4 rfl rfl)
theorem dX6_hoursToDry_30 : decode cX6_hoursToDry 30 = .ok (.iload_n 2, 1) := dk_28 (dk_at dksX6_hoursToDry_1 7 rfl rfl)
theorem dX6_hoursToDry_31 : decode cX6_hoursToDry 31 = .ok (.aload_n 0, 1) := dk_42 (dk_at dksX6_hoursToDry_1 8 rfl rfl)
theorem dX6_hoursToDry_32 : decode cX6_hoursToDry 32 = .ok (.iload_n 3, 1) := dk_29 (dk_at dksX6_hoursToDry_1 9 rfl rfl)
theorem dX6_hoursToDry_33 : decode cX6_hoursToDry 33 = .ok (.iconst 4, 1) := dk_7 (dk_at dksX6_hoursToDry_1 10 rfl rfl)
theorem dX6_hoursToDry_34 : decode cX6_hoursToDry 34 = .ok (.invokevirtual 51, 3) := dk_182 0 51 (dk_at dksX6_hoursToDry_1 11 rfl rfl)
theorem dX6_hoursToDry_37 : decode cX6_hoursToDry 37 = .ok (.invokestatic 68, 3) := dk_184 0 68 (dk_at dksX6_hoursToDry_1 14 rfl rfl)
theorem dX6_hoursToDry_40 : decode cX6_hoursToDry 40 = .ok (.goto 4, 3) := dk_167 0 4 (dk_at dksX6_hoursToDry_1 17 rfl rfl)
theorem dX6_hoursToDry_43 : decode cX6_hoursToDry 43 = .ok (.iload_n 2, 1) := dk_28 (dk_at dksX6_hoursToDry_1 20 rfl rfl)
theorem dX6_hoursToDry_44 : decode cX6_hoursToDry 44 = .ok (.istore_n 2, 1) := dk_61 (dk_at dksX6_hoursToDry_1 21 rfl rfl)
theorem dX6_hoursToDry_45 : decode cX6_hoursToDry 45 = .ok (.iinc 3 1, 3) := dk_132 3 1 (dk_at dksX6_hoursToDry_2 0 rfl rfl)
theorem dX6_hoursToDry_48 : decode cX6_hoursToDry 48 = .ok (.goto (-39), 3) := dk_167 255 217 (dk_at dksX6_hoursToDry_2 3 rfl rfl)
theorem dX6_hoursToDry_51 : decode cX6_hoursToDry 51 = .ok (.iload_n 2, 1) := dk_28 (dk_at dksX6_hoursToDry_2 6 rfl rfl)
theorem dX6_hoursToDry_52 : decode cX6_hoursToDry 52 = .ok (.ifCond .ne 5, 3) := dk_154 0 5 (dk_at dksX6_hoursToDry_2 7 rfl rfl)
theorem dX6_hoursToDry_55 : decode cX6_hoursToDry 55 = .ok (.iconst (-1), 1) := dk_2 (dk_at dksX6_hoursToDry_2 10 rfl rfl)
theorem dX6_hoursToDry_56 : decode cX6_hoursToDry 56 = .ok (.ireturn, 1) := dk_172 (dk_at dksX6_hoursToDry_2 11 rfl rfl)
theorem dX6_hoursToDry_57 : decode cX6_hoursToDry 57 = .ok (.iconst 0, 1) := dk_3 (dk_at dksX6_hoursToDry_2 12 rfl rfl)
theorem dX6_hoursToDry_58 : decode cX6_hoursToDry 58 = .ok (.istore_n 3, 1) := dk_62 (dk_at dksX6_hoursToDry_2 13 rfl rfl)
theorem dX6_hoursToDry_59 : decode cX6_hoursToDry 59 = .ok (.iload_n 3, 1) := dk_29 (dk_at dksX6_hoursToDry_2 14 rfl rfl)
theorem dX6_hoursToDry_60 : decode cX6_hoursToDry 60 = .ok (.ifCond .eq 8, 3) := dk_153 0 8 (dk_at dksX6_hoursToDry_2 15 rfl rfl)
theorem dX6_hoursToDry_63 : decode cX6_hoursToDry 63 = .ok (.iload_n 2, 1) := dk_28 (dk_at dksX6_hoursToDry_2 18 rfl rfl)
theorem dX6_hoursToDry_64 : decode cX6_hoursToDry 64 = .ok (.iconst 4, 1) := dk_7 (dk_at dksX6_hoursToDry_2 19 rfl rfl)
theorem dX6_hoursToDry_65 : decode cX6_hoursToDry 65 = .ok (.if_icmp .le 31, 3) := dk_164 0 31 (dk_at dksX6_hoursToDry_2 20 rfl rfl)
theorem dX6_hoursToDry_68 : decode cX6_hoursToDry 68 = .ok (.iinc 3 1, 3) := dk_132 3 1 (dk_at dksX6_hoursToDry_3 0 rfl rfl)
theorem dX6_hoursToDry_71 : decode cX6_hoursToDry 71 = .ok (.iconst 3, 1) := dk_6 (dk_at dksX6_hoursToDry_3 3 rfl rfl)
theorem dX6_hoursToDry_72 : decode cX6_hoursToDry 72 = .ok (.iload_n 2, 1) := dk_28 (dk_at dksX6_hoursToDry_3 4 rfl rfl)
theorem dX6_hoursToDry_73 : decode cX6_hoursToDry 73 = .ok (.aload_n 0, 1) := dk_42 (dk_at dksX6_hoursToDry_3 5 rfl rfl)
theorem dX6_hoursToDry_74 : decode cX6_hoursToDry 74 = .ok (.aload_n 0, 1) := dk_42 (dk_at dksX6_hoursToDry_3 6 rfl rfl)
theorem dX6_hoursToDry_75 : decode cX6_hoursToDry 75 = .ok (.getfield 7, 3) := dk_180 0 7 (dk_at dksX6_hoursToDry_3 7 rfl rfl)
theorem dX6_hoursToDry_78 : decode cX6_hoursToDry 78 = .ok (.iconst 2, 1) := dk_5 (dk_at dksX6_hoursToDry_3 10 rfl rfl)
theorem dX6_hoursToDry_79 : decode cX6_hoursToDry 79 = .ok (.iaload, 1) := dk_46 (dk_at dksX6_hoursToDry_3 11 rfl rfl)
theorem dX6_hoursToDry_80 : decode cX6_hoursToDry 80 = .ok (.iload_n 3, 1) := dk_29 (dk_at dksX6_hoursToDry_3 12 rfl rfl)
theorem dX6_hoursToDry_81 : decode cX6_hoursToDry 81 = .ok (.iadd, 1) := dk_96 (dk_at dksX6_hoursToDry_3 13 rfl rfl)
theorem dX6_hoursToDry_82 : decode cX6_hoursToDry 82 = .ok (.invokevirtual 79, 3) := dk_182 0 79 (dk_at dksX6_hoursToDry_3 14 rfl rfl)
theorem dX6_hoursToDry_85 : decode cX6_hoursToDry 85 = .ok (.bipush 20, 2) := dk_16 20 (dk_at dksX6_hoursToDry_3 17 rfl rfl)
theorem dX6_hoursToDry_87 : decode cX6_hoursToDry 87 = .ok (.idiv, 1) := dk_108 (dk_at dksX6_hoursToDry_3 19 rfl rfl)
theorem dX6_hoursToDry_88 : decode cX6_hoursToDry 88 = .ok (.isub, 1) := dk_100 (dk_at dksX6_hoursToDry_3 20 rfl rfl)
theorem dX6_hoursToDry_89 : decode cX6_hoursToDry 89 = .ok (.invokestatic 68, 3) := dk_184 0 68 (dk_at dksX6_hoursToDry_3 21 rfl rfl)
theorem dX6_hoursToDry_92 : decode cX6_hoursToDry 92 = .ok (.istore_n 2, 1) := dk_61 (dk_at dksX6_hoursToDry_4 0 rfl rfl)
theorem dX6_hoursToDry_93 : decode cX6_hoursToDry 93 = .ok (.goto (-34), 3) := dk_167 255 222 (dk_at dksX6_hoursToDry_4 1 rfl rfl)
theorem dX6_hoursToDry_96 : decode cX6_hoursToDry 96 = .ok (.iload_n 3, 1) := dk_29 (dk_at dksX6_hoursToDry_4 4 rfl rfl)
theorem dX6_hoursToDry_97 : decode cX6_hoursToDry 97 = .ok (.ireturn, 1) := dk_172 (dk_at dksX6_hoursToDry_4 5 rfl rfl)
abbrev cX6_bestAir : ByteArray := prog_11_method_93_code
def yX6_bestAir : MethodName := ⟨RX6, "bestAir", "(I)I"⟩
def dkwX6_bestAir_6 : List UInt8 := [42, 180, 0, 7, 3, 184, 0, 36, 132, 5, 1, 167, 255, 168, 28, 172]
abbrev dktX6_bestAir_6 : List UInt8 := dkwX6_bestAir_6 ++ []
def dkwX6_bestAir_5 : List UInt8 := [182, 0, 51, 5, 160, 0, 15, 21, 7, 29, 162, 0, 9, 21, 5, 61, 21, 7, 62, 42, 180, 0, 13, 3]
abbrev dktX6_bestAir_5 : List UInt8 := dkwX6_bestAir_5 ++ dktX6_bestAir_6
def dkwX6_bestAir_4 : List UInt8 := [16, 18, 100, 54, 7, 21, 7, 156, 0, 9, 21, 7, 116, 167, 0, 5, 21, 7, 54, 7, 42, 27, 3]
abbrev dktX6_bestAir_4 : List UInt8 := dkwX6_bestAir_4 ++ dktX6_bestAir_5
def dkwX6_bestAir_3 : List UInt8 := [180, 0, 7, 21, 4, 21, 5, 79, 42, 16, 24, 182, 0, 150, 54, 6, 42, 27, 16, 6, 182, 0, 51]
abbrev dktX6_bestAir_3 : List UInt8 := dkwX6_bestAir_3 ++ dktX6_bestAir_4
def dkwX6_bestAir_2 : List UInt8 := [42, 180, 0, 7, 3, 42, 180, 0, 13, 3, 184, 0, 36, 3, 54, 5, 21, 5, 6, 163, 0, 88, 42]
abbrev dktX6_bestAir_2 : List UInt8 := dkwX6_bestAir_2 ++ dktX6_bestAir_3
def dkwX6_bestAir_1 : List UInt8 := [159, 0, 5, 2, 172, 2, 61, 17, 3, 232, 62, 16, 32, 6, 42, 27, 4, 182, 0, 51, 104, 96, 54, 4]
abbrev dktX6_bestAir_1 : List UInt8 := dkwX6_bestAir_1 ++ dktX6_bestAir_2
def dkwX6_bestAir_0 : List UInt8 := [42, 42, 27, 182, 0, 115, 4, 182, 0, 40, 154, 0, 5, 3, 172, 42, 27, 3, 182, 0, 51, 5]
abbrev dktX6_bestAir_0 : List UInt8 := dkwX6_bestAir_0 ++ dktX6_bestAir_1
theorem dksX6_bestAir_0 : cX6_bestAir.data.toList.drop 0 = dktX6_bestAir_0 := by decide +kernel
theorem dksX6_bestAir_1 : cX6_bestAir.data.toList.drop 22 = dktX6_bestAir_1 := dk_seg dksX6_bestAir_0 22 rfl rfl
theorem dksX6_bestAir_2 : cX6_bestAir.data.toList.drop 46 = dktX6_bestAir_2 := dk_seg dksX6_bestAir_1 24 rfl rfl
theorem dksX6_bestAir_3 : cX6_bestAir.data.toList.drop 69 = dktX6_bestAir_3 := dk_seg dksX6_bestAir_2 23 rfl rfl
theorem dksX6_bestAir_4 : cX6_bestAir.data.toList.drop 92 = dktX6_bestAir_4 := dk_seg dksX6_bestAir_3 23 rfl rfl
theorem dksX6_bestAir_5 : cX6_bestAir.data.toList.drop 115 = dktX6_bestAir_5 := dk_seg dksX6_bestAir_4 23 rfl rfl
theorem dksX6_bestAir_6 : cX6_bestAir.data.toList.drop 139 = dktX6_bestAir_6 := dk_seg dksX6_bestAir_5 24 rfl rfl
theorem dX6_bestAir_0 : decode cX6_bestAir 0 = .ok (.aload_n 0, 1) := dk_42 (dk_at dksX6_bestAir_0 0 rfl rfl)
theorem dX6_bestAir_1 : decode cX6_bestAir 1 = .ok (.aload_n 0, 1) := dk_42 (dk_at dksX6_bestAir_0 1 rfl rfl)
theorem dX6_bestAir_2 : decode cX6_bestAir 2 = .ok (.iload_n 1, 1) := dk_27 (dk_at dksX6_bestAir_0 2 rfl rfl)
theorem dX6_bestAir_3 : decode cX6_bestAir 3 = .ok (.invokevirtual 115, 3) := dk_182 0 115 (dk_at dksX6_bestAir_0 3 rfl rfl)
theorem dX6_bestAir_6 : decode cX6_bestAir 6 = .ok (.iconst 1, 1) := dk_4 (dk_at dksX6_bestAir_0 6 rfl rfl)
theorem dX6_bestAir_7 : decode cX6_bestAir 7 = .ok (.invokevirtual 40, 3) := dk_182 0 40 (dk_at dksX6_bestAir_0 7 rfl rfl)
theorem dX6_bestAir_10 : decode cX6_bestAir 10 = .ok (.ifCond .ne 5, 3) := dk_154 0 5 (dk_at dksX6_bestAir_0 10 rfl rfl)
theorem dX6_bestAir_13 : decode cX6_bestAir 13 = .ok (.iconst 0, 1) := dk_3 (dk_at dksX6_bestAir_0 13 rfl rfl)
theorem dX6_bestAir_14 : decode cX6_bestAir 14 = .ok (.ireturn, 1) := dk_172 (dk_at dksX6_bestAir_0 14 rfl rfl)
theorem dX6_bestAir_15 : decode cX6_bestAir 15 = .ok (.aload_n 0, 1) := dk_42 (dk_at dksX6_bestAir_0 15 rfl rfl)
theorem dX6_bestAir_16 : decode cX6_bestAir 16 = .ok (.iload_n 1, 1) := dk_27 (dk_at dksX6_bestAir_0 16 rfl rfl)
theorem dX6_bestAir_17 : decode cX6_bestAir 17 = .ok (.iconst 0, 1) := dk_3 (dk_at dksX6_bestAir_0 17 rfl rfl)
theorem dX6_bestAir_18 : decode cX6_bestAir 18 = .ok (.invokevirtual 51, 3) := dk_182 0 51 (dk_at dksX6_bestAir_0 18 rfl rfl)
theorem dX6_bestAir_21 : decode cX6_bestAir 21 = .ok (.iconst 2, 1) := dk_5 (dk_at dksX6_bestAir_0 21 rfl rfl)
theorem dX6_bestAir_22 : decode cX6_bestAir 22 = .ok (.if_icmp .eq 5, 3) := dk_159 0 5 (dk_at dksX6_bestAir_1 0 rfl rfl)
theorem dX6_bestAir_25 : decode cX6_bestAir 25 = .ok (.iconst (-1), 1) := dk_2 (dk_at dksX6_bestAir_1 3 rfl rfl)
theorem dX6_bestAir_26 : decode cX6_bestAir 26 = .ok (.ireturn, 1) := dk_172 (dk_at dksX6_bestAir_1 4 rfl rfl)
theorem dX6_bestAir_27 : decode cX6_bestAir 27 = .ok (.iconst (-1), 1) := dk_2 (dk_at dksX6_bestAir_1 5 rfl rfl)
theorem dX6_bestAir_28 : decode cX6_bestAir 28 = .ok (.istore_n 2, 1) := dk_61 (dk_at dksX6_bestAir_1 6 rfl rfl)
theorem dX6_bestAir_29 : decode cX6_bestAir 29 = .ok (.sipush 1000, 3) := dk_17 3 232 (dk_at dksX6_bestAir_1 7 rfl rfl)
theorem dX6_bestAir_32 : decode cX6_bestAir 32 = .ok (.istore_n 3, 1) := dk_62 (dk_at dksX6_bestAir_1 10 rfl rfl)
theorem dX6_bestAir_33 : decode cX6_bestAir 33 = .ok (.bipush 32, 2) := dk_16 32 (dk_at dksX6_bestAir_1 11 rfl rfl)
theorem dX6_bestAir_35 : decode cX6_bestAir 35 = .ok (.iconst 3, 1) := dk_6 (dk_at dksX6_bestAir_1 13 rfl rfl)
theorem dX6_bestAir_36 : decode cX6_bestAir 36 = .ok (.aload_n 0, 1) := dk_42 (dk_at dksX6_bestAir_1 14 rfl rfl)
theorem dX6_bestAir_37 : decode cX6_bestAir 37 = .ok (.iload_n 1, 1) := dk_27 (dk_at dksX6_bestAir_1 15 rfl rfl)
theorem dX6_bestAir_38 : decode cX6_bestAir 38 = .ok (.iconst 1, 1) := dk_4 (dk_at dksX6_bestAir_1 16 rfl rfl)
theorem dX6_bestAir_39 : decode cX6_bestAir 39 = .ok (.invokevirtual 51, 3) := dk_182 0 51 (dk_at dksX6_bestAir_1 17 rfl rfl)
theorem dX6_bestAir_42 : decode cX6_bestAir 42 = .ok (.imul, 1) := dk_104 (dk_at dksX6_bestAir_1 20 rfl rfl)
theorem dX6_bestAir_43 : decode cX6_bestAir 43 = .ok (.iadd, 1) := dk_96 (dk_at dksX6_bestAir_1 21 rfl rfl)
theorem dX6_bestAir_44 : decode cX6_bestAir 44 = .ok (.istore 4, 2) := dk_54 4 (dk_at dksX6_bestAir_1 22 rfl rfl)
theorem dX6_bestAir_46 : decode cX6_bestAir 46 = .ok (.aload_n 0, 1) := dk_42 (dk_at dksX6_bestAir_2 0 rfl rfl)
theorem dX6_bestAir_47 : decode cX6_bestAir 47 = .ok (.getfield 7, 3) := dk_180 0 7 (dk_at dksX6_bestAir_2 1 rfl rfl)
theorem dX6_bestAir_50 : decode cX6_bestAir 50 = .ok (.iconst 0, 1) := dk_3 (dk_at dksX6_bestAir_2 4 rfl rfl)
theorem dX6_bestAir_51 : decode cX6_bestAir 51 = .ok (.aload_n 0, 1) := dk_42 (dk_at dksX6_bestAir_2 5 rfl rfl)
theorem dX6_bestAir_52 : decode cX6_bestAir 52 = .ok (.getfield 13, 3) := dk_180 0 13 (dk_at dksX6_bestAir_2 6 rfl rfl)
theorem dX6_bestAir_55 : decode cX6_bestAir 55 = .ok (.iconst 0, 1) := dk_3 (dk_at dksX6_bestAir_2 9 rfl rfl)
theorem dX6_bestAir_56 : decode cX6_bestAir 56 = .ok (.invokestatic 36, 3) := dk_184 0 36 (dk_at dksX6_bestAir_2 10 rfl rfl)
theorem dX6_bestAir_59 : decode cX6_bestAir 59 = .ok (.iconst 0, 1) := dk_3 (dk_at dksX6_bestAir_2 13 rfl rfl)
theorem dX6_bestAir_60 : decode cX6_bestAir 60 = .ok (.istore 5, 2) := dk_54 5 (dk_at dksX6_bestAir_2 14 rfl rfl)
theorem dX6_bestAir_62 : decode cX6_bestAir 62 = .ok (.iload 5, 2) := dk_21 5 (dk_at dksX6_bestAir_2 16 rfl rfl)
theorem dX6_bestAir_64 : decode cX6_bestAir 64 = .ok (.iconst 3, 1) := dk_6 (dk_at dksX6_bestAir_2 18 rfl rfl)
theorem dX6_bestAir_65 : decode cX6_bestAir 65 = .ok (.if_icmp .gt 88, 3) := dk_163 0 88 (dk_at dksX6_bestAir_2 19 rfl rfl)
theorem dX6_bestAir_68 : decode cX6_bestAir 68 = .ok (.aload_n 0, 1) := dk_42 (dk_at dksX6_bestAir_2 22 rfl rfl)
theorem dX6_bestAir_69 : decode cX6_bestAir 69 = .ok (.getfield 7, 3) := dk_180 0 7 (dk_at dksX6_bestAir_3 0 rfl rfl)
theorem dX6_bestAir_72 : decode cX6_bestAir 72 = .ok (.iload 4, 2) := dk_21 4 (dk_at dksX6_bestAir_3 3 rfl rfl)
theorem dX6_bestAir_74 : decode cX6_bestAir 74 = .ok (.iload 5, 2) := dk_21 5 (dk_at dksX6_bestAir_3 5 rfl rfl)
theorem dX6_bestAir_76 : decode cX6_bestAir 76 = .ok (.iastore, 1) := dk_79 (dk_at dksX6_bestAir_3 7 rfl rfl)
theorem dX6_bestAir_77 : decode cX6_bestAir 77 = .ok (.aload_n 0, 1) := dk_42 (dk_at dksX6_bestAir_3 8 rfl rfl)
theorem dX6_bestAir_78 : decode cX6_bestAir 78 = .ok (.bipush 24, 2) := dk_16 24 (dk_at dksX6_bestAir_3 9 rfl rfl)
theorem dX6_bestAir_80 : decode cX6_bestAir 80 = .ok (.invokevirtual 150, 3) := dk_182 0 150 (dk_at dksX6_bestAir_3 11 rfl rfl)
theorem dX6_bestAir_83 : decode cX6_bestAir 83 = .ok (.istore 6, 2) := dk_54 6 (dk_at dksX6_bestAir_3 14 rfl rfl)
theorem dX6_bestAir_85 : decode cX6_bestAir 85 = .ok (.aload_n 0, 1) := dk_42 (dk_at dksX6_bestAir_3 16 rfl rfl)
theorem dX6_bestAir_86 : decode cX6_bestAir 86 = .ok (.iload_n 1, 1) := dk_27 (dk_at dksX6_bestAir_3 17 rfl rfl)
theorem dX6_bestAir_87 : decode cX6_bestAir 87 = .ok (.bipush 6, 2) := dk_16 6 (dk_at dksX6_bestAir_3 18 rfl rfl)
theorem dX6_bestAir_89 : decode cX6_bestAir 89 = .ok (.invokevirtual 51, 3) := dk_182 0 51 (dk_at dksX6_bestAir_3 20 rfl rfl)
theorem dX6_bestAir_92 : decode cX6_bestAir 92 = .ok (.bipush 18, 2) := dk_16 18 (dk_at dksX6_bestAir_4 0 rfl rfl)
theorem dX6_bestAir_94 : decode cX6_bestAir 94 = .ok (.isub, 1) := dk_100 (dk_at dksX6_bestAir_4 2 rfl rfl)
theorem dX6_bestAir_95 : decode cX6_bestAir 95 = .ok (.istore 7, 2) := dk_54 7 (dk_at dksX6_bestAir_4 3 rfl rfl)
theorem dX6_bestAir_97 : decode cX6_bestAir 97 = .ok (.iload 7, 2) := dk_21 7 (dk_at dksX6_bestAir_4 5 rfl rfl)
theorem dX6_bestAir_99 : decode cX6_bestAir 99 = .ok (.ifCond .ge 9, 3) := dk_156 0 9 (dk_at dksX6_bestAir_4 7 rfl rfl)
theorem dX6_bestAir_102 : decode cX6_bestAir 102 = .ok (.iload 7, 2) := dk_21 7 (dk_at dksX6_bestAir_4 10 rfl rfl)
theorem dX6_bestAir_104 : decode cX6_bestAir 104 = .ok (.ineg, 1) := dk_116 (dk_at dksX6_bestAir_4 12 rfl rfl)
theorem dX6_bestAir_105 : decode cX6_bestAir 105 = .ok (.goto 5, 3) := dk_167 0 5 (dk_at dksX6_bestAir_4 13 rfl rfl)
theorem dX6_bestAir_108 : decode cX6_bestAir 108 = .ok (.iload 7, 2) := dk_21 7 (dk_at dksX6_bestAir_4 16 rfl rfl)
theorem dX6_bestAir_110 : decode cX6_bestAir 110 = .ok (.istore 7, 2) := dk_54 7 (dk_at dksX6_bestAir_4 18 rfl rfl)
theorem dX6_bestAir_112 : decode cX6_bestAir 112 = .ok (.aload_n 0, 1) := dk_42 (dk_at dksX6_bestAir_4 20 rfl rfl)
theorem dX6_bestAir_113 : decode cX6_bestAir 113 = .ok (.iload_n 1, 1) := dk_27 (dk_at dksX6_bestAir_4 21 rfl rfl)
theorem dX6_bestAir_114 : decode cX6_bestAir 114 = .ok (.iconst 0, 1) := dk_3 (dk_at dksX6_bestAir_4 22 rfl rfl)
theorem dX6_bestAir_115 : decode cX6_bestAir 115 = .ok (.invokevirtual 51, 3) := dk_182 0 51 (dk_at dksX6_bestAir_5 0 rfl rfl)
theorem dX6_bestAir_118 : decode cX6_bestAir 118 = .ok (.iconst 2, 1) := dk_5 (dk_at dksX6_bestAir_5 3 rfl rfl)
theorem dX6_bestAir_119 : decode cX6_bestAir 119 = .ok (.if_icmp .ne 15, 3) := dk_160 0 15 (dk_at dksX6_bestAir_5 4 rfl rfl)
theorem dX6_bestAir_122 : decode cX6_bestAir 122 = .ok (.iload 7, 2) := dk_21 7 (dk_at dksX6_bestAir_5 7 rfl rfl)
theorem dX6_bestAir_124 : decode cX6_bestAir 124 = .ok (.iload_n 3, 1) := dk_29 (dk_at dksX6_bestAir_5 9 rfl rfl)
theorem dX6_bestAir_125 : decode cX6_bestAir 125 = .ok (.if_icmp .ge 9, 3) := dk_162 0 9 (dk_at dksX6_bestAir_5 10 rfl rfl)
theorem dX6_bestAir_128 : decode cX6_bestAir 128 = .ok (.iload 5, 2) := dk_21 5 (dk_at dksX6_bestAir_5 13 rfl rfl)
theorem dX6_bestAir_130 : decode cX6_bestAir 130 = .ok (.istore_n 2, 1) := dk_61 (dk_at dksX6_bestAir_5 15 rfl rfl)
theorem dX6_bestAir_131 : decode cX6_bestAir 131 = .ok (.iload 7, 2) := dk_21 7 (dk_at dksX6_bestAir_5 16 rfl rfl)
theorem dX6_bestAir_133 : decode cX6_bestAir 133 = .ok (.istore_n 3, 1) := dk_62 (dk_at dksX6_bestAir_5 18 rfl rfl)
theorem dX6_bestAir_134 : decode cX6_bestAir 134 = .ok (.aload_n 0, 1) := dk_42 (dk_at dksX6_bestAir_5 19 rfl rfl)
theorem dX6_bestAir_135 : decode cX6_bestAir 135 = .ok (.getfield 13, 3) := dk_180 0 13 (dk_at dksX6_bestAir_5 20 rfl rfl)
theorem dX6_bestAir_138 : decode cX6_bestAir 138 = .ok (.iconst 0, 1) := dk_3 (dk_at dksX6_bestAir_5 23 rfl rfl)
theorem dX6_bestAir_139 : decode cX6_bestAir 139 = .ok (.aload_n 0, 1) := dk_42 (dk_at dksX6_bestAir_6 0 rfl rfl)
theorem dX6_bestAir_140 : decode cX6_bestAir 140 = .ok (.getfield 7, 3) := dk_180 0 7 (dk_at dksX6_bestAir_6 1 rfl rfl)
theorem dX6_bestAir_143 : decode cX6_bestAir 143 = .ok (.iconst 0, 1) := dk_3 (dk_at dksX6_bestAir_6 4 rfl rfl)
theorem dX6_bestAir_144 : decode cX6_bestAir 144 = .ok (.invokestatic 36, 3) := dk_184 0 36 (dk_at dksX6_bestAir_6 5 rfl rfl)
theorem dX6_bestAir_147 : decode cX6_bestAir 147 = .ok (.iinc 5 1, 3) := dk_132 5 1 (dk_at dksX6_bestAir_6 8 rfl rfl)
theorem dX6_bestAir_150 : decode cX6_bestAir 150 = .ok (.goto (-88), 3) := dk_167 255 168 (dk_at dksX6_bestAir_6 11 rfl rfl)
theorem dX6_bestAir_153 : decode cX6_bestAir 153 = .ok (.iload_n 2, 1) := dk_28 (dk_at dksX6_bestAir_6 14 rfl rfl)
theorem dX6_bestAir_154 : decode cX6_bestAir 154 = .ok (.ireturn, 1) := dk_172 (dk_at dksX6_bestAir_6 15 rfl rfl)
abbrev cX6_entries : ByteArray := prog_11_method_94_code
def yX6_entries : MethodName := ⟨RX6, "entries", "()I"⟩
def dkwX6_entries_0 : List UInt8 := [42, 3, 181, 0, 25, 42, 180, 0, 7, 16, 14, 46, 172]
abbrev dktX6_entries_0 : List UInt8 := dkwX6_entries_0 ++ []
theorem dksX6_entries_0 : cX6_entries.data.toList.drop 0 = dktX6_entries_0 := by decide +kernel
theorem dX6_entries_0 : decode cX6_entries 0 = .ok (.aload_n 0, 1) := dk_42 (dk_at dksX6_entries_0 0 rfl rfl)
theorem dX6_entries_1 : decode cX6_entries 1 = .ok (.iconst 0, 1) := dk_3 (dk_at dksX6_entries_0 1 rfl rfl)
theorem dX6_entries_2 : decode cX6_entries 2 = .ok (.putfield 25, 3) := dk_181 0 25 (dk_at dksX6_entries_0 2 rfl rfl)
theorem dX6_entries_5 : decode cX6_entries 5 = .ok (.aload_n 0, 1) := dk_42 (dk_at dksX6_entries_0 5 rfl rfl)
theorem dX6_entries_6 : decode cX6_entries 6 = .ok (.getfield 7, 3) := dk_180 0 7 (dk_at dksX6_entries_0 6 rfl rfl)
theorem dX6_entries_9 : decode cX6_entries 9 = .ok (.bipush 14, 2) := dk_16 14 (dk_at dksX6_entries_0 9 rfl rfl)
theorem dX6_entries_11 : decode cX6_entries 11 = .ok (.iaload, 1) := dk_46 (dk_at dksX6_entries_0 11 rfl rfl)
theorem dX6_entries_12 : decode cX6_entries 12 = .ok (.ireturn, 1) := dk_172 (dk_at dksX6_entries_0 12 rfl rfl)
abbrev cX6_entryAt : ByteArray := prog_11_method_95_code
def yX6_entryAt : MethodName := ⟨RX6, "entryAt", "(I)I"⟩
def dkwX6_entryAt_1 : List UInt8 := [180, 0, 7, 16, 20, 27, 96, 46, 167, 0, 4, 3, 172]
abbrev dktX6_entryAt_1 : List UInt8 := dkwX6_entryAt_1 ++ []
def dkwX6_entryAt_0 : List UInt8 := [42, 27, 3, 42, 180, 0, 7, 16, 14, 46, 4, 100, 184, 0, 29, 4, 182, 0, 40, 153, 0, 15, 42]
abbrev dktX6_entryAt_0 : List UInt8 := dkwX6_entryAt_0 ++ dktX6_entryAt_1
theorem dksX6_entryAt_0 : cX6_entryAt.data.toList.drop 0 = dktX6_entryAt_0 := by decide +kernel
theorem dksX6_entryAt_1 : cX6_entryAt.data.toList.drop 23 = dktX6_entryAt_1 := dk_seg dksX6_entryAt_0 23 rfl rfl
theorem dX6_entryAt_0 : decode cX6_entryAt 0 = .ok (.aload_n 0, 1) := dk_42 (dk_at dksX6_entryAt_0 0 rfl rfl)
theorem dX6_entryAt_1 : decode cX6_entryAt 1 = .ok (.iload_n 1, 1) := dk_27 (dk_at dksX6_entryAt_0 1 rfl rfl)
theorem dX6_entryAt_2 : decode cX6_entryAt 2 = .ok (.iconst 0, 1) := dk_3 (dk_at dksX6_entryAt_0 2 rfl rfl)
theorem dX6_entryAt_3 : decode cX6_entryAt 3 = .ok (.aload_n 0, 1) := dk_42 (dk_at dksX6_entryAt_0 3 rfl rfl)
theorem dX6_entryAt_4 : decode cX6_entryAt 4 = .ok (.getfield 7, 3) := dk_180 0 7 (dk_at dksX6_entryAt_0 4 rfl rfl)
theorem dX6_entryAt_7 : decode cX6_entryAt 7 = .ok (.bipush 14, 2) := dk_16 14 (dk_at dksX6_entryAt_0 7 rfl rfl)
theorem dX6_entryAt_9 : decode cX6_entryAt 9 = .ok (.iaload, 1) := dk_46 (dk_at dksX6_entryAt_0 9 rfl rfl)
theorem dX6_entryAt_10 : decode cX6_entryAt 10 = .ok (.iconst 1, 1) := dk_4 (dk_at dksX6_entryAt_0 10 rfl rfl)
theorem dX6_entryAt_11 : decode cX6_entryAt 11 = .ok (.isub, 1) := dk_100 (dk_at dksX6_entryAt_0 11 rfl rfl)
theorem dX6_entryAt_12 : decode cX6_entryAt 12 = .ok (.invokestatic 29, 3) := dk_184 0 29 (dk_at dksX6_entryAt_0 12 rfl rfl)
theorem dX6_entryAt_15 : decode cX6_entryAt 15 = .ok (.iconst 1, 1) := dk_4 (dk_at dksX6_entryAt_0 15 rfl rfl)
theorem dX6_entryAt_16 : decode cX6_entryAt 16 = .ok (.invokevirtual 40, 3) := dk_182 0 40 (dk_at dksX6_entryAt_0 16 rfl rfl)
theorem dX6_entryAt_19 : decode cX6_entryAt 19 = .ok (.ifCond .eq 15, 3) := dk_153 0 15 (dk_at dksX6_entryAt_0 19 rfl rfl)
theorem dX6_entryAt_22 : decode cX6_entryAt 22 = .ok (.aload_n 0, 1) := dk_42 (dk_at dksX6_entryAt_0 22 rfl rfl)
theorem dX6_entryAt_23 : decode cX6_entryAt 23 = .ok (.getfield 7, 3) := dk_180 0 7 (dk_at dksX6_entryAt_1 0 rfl rfl)
theorem dX6_entryAt_26 : decode cX6_entryAt 26 = .ok (.bipush 20, 2) := dk_16 20 (dk_at dksX6_entryAt_1 3 rfl rfl)
theorem dX6_entryAt_28 : decode cX6_entryAt 28 = .ok (.iload_n 1, 1) := dk_27 (dk_at dksX6_entryAt_1 5 rfl rfl)
theorem dX6_entryAt_29 : decode cX6_entryAt 29 = .ok (.iadd, 1) := dk_96 (dk_at dksX6_entryAt_1 6 rfl rfl)
theorem dX6_entryAt_30 : decode cX6_entryAt 30 = .ok (.iaload, 1) := dk_46 (dk_at dksX6_entryAt_1 7 rfl rfl)
theorem dX6_entryAt_31 : decode cX6_entryAt 31 = .ok (.goto 4, 3) := dk_167 0 4 (dk_at dksX6_entryAt_1 8 rfl rfl)
theorem dX6_entryAt_34 : decode cX6_entryAt 34 = .ok (.iconst 0, 1) := dk_3 (dk_at dksX6_entryAt_1 11 rfl rfl)
theorem dX6_entryAt_35 : decode cX6_entryAt 35 = .ok (.ireturn, 1) := dk_172 (dk_at dksX6_entryAt_1 12 rfl rfl)
abbrev cX6_time : ByteArray := prog_11_method_96_code
def yX6_time : MethodName := ⟨RX6, "time", "()I"⟩
def dkwX6_time_0 : List UInt8 := [42, 3, 181, 0, 25, 42, 180, 0, 7, 3, 46, 172]
abbrev dktX6_time_0 : List UInt8 := dkwX6_time_0 ++ []
theorem dksX6_time_0 : cX6_time.data.toList.drop 0 = dktX6_time_0 := by decide +kernel
theorem dX6_time_0 : decode cX6_time 0 = .ok (.aload_n 0, 1) := dk_42 (dk_at dksX6_time_0 0 rfl rfl)
theorem dX6_time_1 : decode cX6_time 1 = .ok (.iconst 0, 1) := dk_3 (dk_at dksX6_time_0 1 rfl rfl)
theorem dX6_time_2 : decode cX6_time 2 = .ok (.putfield 25, 3) := dk_181 0 25 (dk_at dksX6_time_0 2 rfl rfl)
theorem dX6_time_5 : decode cX6_time 5 = .ok (.aload_n 0, 1) := dk_42 (dk_at dksX6_time_0 5 rfl rfl)
theorem dX6_time_6 : decode cX6_time 6 = .ok (.getfield 7, 3) := dk_180 0 7 (dk_at dksX6_time_0 6 rfl rfl)
theorem dX6_time_9 : decode cX6_time 9 = .ok (.iconst 0, 1) := dk_3 (dk_at dksX6_time_0 9 rfl rfl)
theorem dX6_time_10 : decode cX6_time 10 = .ok (.iaload, 1) := dk_46 (dk_at dksX6_time_0 10 rfl rfl)
theorem dX6_time_11 : decode cX6_time 11 = .ok (.ireturn, 1) := dk_172 (dk_at dksX6_time_0 11 rfl rfl)
abbrev cX6_steeped : ByteArray := prog_11_method_97_code
def yX6_steeped : MethodName := ⟨RX6, "steeped", "(Z)I"⟩
def dkwX6_steeped_3 : List UInt8 := [16, 8, 46, 172]
abbrev dktX6_steeped_3 : List UInt8 := dkwX6_steeped_3 ++ []
def dkwX6_steeped_2 : List UInt8 := [182, 0, 106, 96, 42, 6, 182, 0, 106, 96, 42, 7, 182, 0, 106, 96, 167, 0, 10, 42, 180, 0, 7]
abbrev dktX6_steeped_2 : List UInt8 := dkwX6_steeped_2 ++ dktX6_steeped_3
def dkwX6_steeped_1 : List UInt8 := [42, 180, 0, 7, 16, 11, 46, 96, 42, 180, 0, 7, 16, 12, 46, 96, 42, 4, 182, 0, 106, 96, 42, 5]
abbrev dktX6_steeped_1 : List UInt8 := dkwX6_steeped_1 ++ dktX6_steeped_2
def dkwX6_steeped_0 : List UInt8 := [42, 3, 181, 0, 25, 27, 153, 0, 61, 42, 180, 0, 7, 16, 9, 46, 42, 180, 0, 7, 16, 10, 46, 96]
abbrev dktX6_steeped_0 : List UInt8 := dkwX6_steeped_0 ++ dktX6_steeped_1
theorem dksX6_steeped_0 : cX6_steeped.data.toList.drop 0 = dktX6_steeped_0 := by decide +kernel
theorem dksX6_steeped_1 : cX6_steeped.data.toList.drop 24 = dktX6_steeped_1 := dk_seg dksX6_steeped_0 24 rfl rfl
theorem dksX6_steeped_2 : cX6_steeped.data.toList.drop 48 = dktX6_steeped_2 := dk_seg dksX6_steeped_1 24 rfl rfl
theorem dksX6_steeped_3 : cX6_steeped.data.toList.drop 71 = dktX6_steeped_3 := dk_seg dksX6_steeped_2 23 rfl rfl
theorem dX6_steeped_0 : decode cX6_steeped 0 = .ok (.aload_n 0, 1) := dk_42 (dk_at dksX6_steeped_0 0 rfl rfl)
theorem dX6_steeped_1 : decode cX6_steeped 1 = .ok (.iconst 0, 1) := dk_3 (dk_at dksX6_steeped_0 1 rfl rfl)
theorem dX6_steeped_2 : decode cX6_steeped 2 = .ok (.putfield 25, 3) := dk_181 0 25 (dk_at dksX6_steeped_0 2 rfl rfl)
theorem dX6_steeped_5 : decode cX6_steeped 5 = .ok (.iload_n 1, 1) := dk_27 (dk_at dksX6_steeped_0 5 rfl rfl)
theorem dX6_steeped_6 : decode cX6_steeped 6 = .ok (.ifCond .eq 61, 3) := dk_153 0 61 (dk_at dksX6_steeped_0 6 rfl rfl)
theorem dX6_steeped_9 : decode cX6_steeped 9 = .ok (.aload_n 0, 1) := dk_42 (dk_at dksX6_steeped_0 9 rfl rfl)
theorem dX6_steeped_10 : decode cX6_steeped 10 = .ok (.getfield 7, 3) := dk_180 0 7 (dk_at dksX6_steeped_0 10 rfl rfl)
theorem dX6_steeped_13 : decode cX6_steeped 13 = .ok (.bipush 9, 2) := dk_16 9 (dk_at dksX6_steeped_0 13 rfl rfl)
theorem dX6_steeped_15 : decode cX6_steeped 15 = .ok (.iaload, 1) := dk_46 (dk_at dksX6_steeped_0 15 rfl rfl)
theorem dX6_steeped_16 : decode cX6_steeped 16 = .ok (.aload_n 0, 1) := dk_42 (dk_at dksX6_steeped_0 16 rfl rfl)
theorem dX6_steeped_17 : decode cX6_steeped 17 = .ok (.getfield 7, 3) := dk_180 0 7 (dk_at dksX6_steeped_0 17 rfl rfl)
theorem dX6_steeped_20 : decode cX6_steeped 20 = .ok (.bipush 10, 2) := dk_16 10 (dk_at dksX6_steeped_0 20 rfl rfl)
theorem dX6_steeped_22 : decode cX6_steeped 22 = .ok (.iaload, 1) := dk_46 (dk_at dksX6_steeped_0 22 rfl rfl)
theorem dX6_steeped_23 : decode cX6_steeped 23 = .ok (.iadd, 1) := dk_96 (dk_at dksX6_steeped_0 23 rfl rfl)
theorem dX6_steeped_24 : decode cX6_steeped 24 = .ok (.aload_n 0, 1) := dk_42 (dk_at dksX6_steeped_1 0 rfl rfl)
theorem dX6_steeped_25 : decode cX6_steeped 25 = .ok (.getfield 7, 3) := dk_180 0 7 (dk_at dksX6_steeped_1 1 rfl rfl)
theorem dX6_steeped_28 : decode cX6_steeped 28 = .ok (.bipush 11, 2) := dk_16 11 (dk_at dksX6_steeped_1 4 rfl rfl)
theorem dX6_steeped_30 : decode cX6_steeped 30 = .ok (.iaload, 1) := dk_46 (dk_at dksX6_steeped_1 6 rfl rfl)
theorem dX6_steeped_31 : decode cX6_steeped 31 = .ok (.iadd, 1) := dk_96 (dk_at dksX6_steeped_1 7 rfl rfl)
theorem dX6_steeped_32 : decode cX6_steeped 32 = .ok (.aload_n 0, 1) := dk_42 (dk_at dksX6_steeped_1 8 rfl rfl)
theorem dX6_steeped_33 : decode cX6_steeped 33 = .ok (.getfield 7, 3) := dk_180 0 7 (dk_at dksX6_steeped_1 9 rfl rfl)
theorem dX6_steeped_36 : decode cX6_steeped 36 = .ok (.bipush 12, 2) := dk_16 12 (dk_at dksX6_steeped_1 12 rfl rfl)
theorem dX6_steeped_38 : decode cX6_steeped 38 = .ok (.iaload, 1) := dk_46 (dk_at dksX6_steeped_1 14 rfl rfl)
theorem dX6_steeped_39 : decode cX6_steeped 39 = .ok (.iadd, 1) := dk_96 (dk_at dksX6_steeped_1 15 rfl rfl)
theorem dX6_steeped_40 : decode cX6_steeped 40 = .ok (.aload_n 0, 1) := dk_42 (dk_at dksX6_steeped_1 16 rfl rfl)
theorem dX6_steeped_41 : decode cX6_steeped 41 = .ok (.iconst 1, 1) := dk_4 (dk_at dksX6_steeped_1 17 rfl rfl)
theorem dX6_steeped_42 : decode cX6_steeped 42 = .ok (.invokevirtual 106, 3) := dk_182 0 106 (dk_at dksX6_steeped_1 18 rfl rfl)
theorem dX6_steeped_45 : decode cX6_steeped 45 = .ok (.iadd, 1) := dk_96 (dk_at dksX6_steeped_1 21 rfl rfl)
theorem dX6_steeped_46 : decode cX6_steeped 46 = .ok (.aload_n 0, 1) := dk_42 (dk_at dksX6_steeped_1 22 rfl rfl)
theorem dX6_steeped_47 : decode cX6_steeped 47 = .ok (.iconst 2, 1) := dk_5 (dk_at dksX6_steeped_1 23 rfl rfl)
theorem dX6_steeped_48 : decode cX6_steeped 48 = .ok (.invokevirtual 106, 3) := dk_182 0 106 (dk_at dksX6_steeped_2 0 rfl rfl)
theorem dX6_steeped_51 : decode cX6_steeped 51 = .ok (.iadd, 1) := dk_96 (dk_at dksX6_steeped_2 3 rfl rfl)
theorem dX6_steeped_52 : decode cX6_steeped 52 = .ok (.aload_n 0, 1) := dk_42 (dk_at dksX6_steeped_2 4 rfl rfl)
theorem dX6_steeped_53 : decode cX6_steeped 53 = .ok (.iconst 3, 1) := dk_6 (dk_at dksX6_steeped_2 5 rfl rfl)
theorem dX6_steeped_54 : decode cX6_steeped 54 = .ok (.invokevirtual 106, 3) := dk_182 0 106 (dk_at dksX6_steeped_2 6 rfl rfl)
theorem dX6_steeped_57 : decode cX6_steeped 57 = .ok (.iadd, 1) := dk_96 (dk_at dksX6_steeped_2 9 rfl rfl)
theorem dX6_steeped_58 : decode cX6_steeped 58 = .ok (.aload_n 0, 1) := dk_42 (dk_at dksX6_steeped_2 10 rfl rfl)
theorem dX6_steeped_59 : decode cX6_steeped 59 = .ok (.iconst 4, 1) := dk_7 (dk_at dksX6_steeped_2 11 rfl rfl)
theorem dX6_steeped_60 : decode cX6_steeped 60 = .ok (.invokevirtual 106, 3) := dk_182 0 106 (dk_at dksX6_steeped_2 12 rfl rfl)
theorem dX6_steeped_63 : decode cX6_steeped 63 = .ok (.iadd, 1) := dk_96 (dk_at dksX6_steeped_2 15 rfl rfl)
theorem dX6_steeped_64 : decode cX6_steeped 64 = .ok (.goto 10, 3) := dk_167 0 10 (dk_at dksX6_steeped_2 16 rfl rfl)
theorem dX6_steeped_67 : decode cX6_steeped 67 = .ok (.aload_n 0, 1) := dk_42 (dk_at dksX6_steeped_2 19 rfl rfl)
theorem dX6_steeped_68 : decode cX6_steeped 68 = .ok (.getfield 7, 3) := dk_180 0 7 (dk_at dksX6_steeped_2 20 rfl rfl)
theorem dX6_steeped_71 : decode cX6_steeped 71 = .ok (.bipush 8, 2) := dk_16 8 (dk_at dksX6_steeped_3 0 rfl rfl)
theorem dX6_steeped_73 : decode cX6_steeped 73 = .ok (.iaload, 1) := dk_46 (dk_at dksX6_steeped_3 2 rfl rfl)
theorem dX6_steeped_74 : decode cX6_steeped 74 = .ok (.ireturn, 1) := dk_172 (dk_at dksX6_steeped_3 3 rfl rfl)
abbrev cX6_malt : ByteArray := prog_11_method_98_code
def yX6_malt : MethodName := ⟨RX6, "malt", "()I"⟩
def dkwX6_malt_0 : List UInt8 := [42, 3, 181, 0, 25, 42, 180, 0, 7, 16, 9, 46, 172]
abbrev dktX6_malt_0 : List UInt8 := dkwX6_malt_0 ++ []
theorem dksX6_malt_0 : cX6_malt.data.toList.drop 0 = dktX6_malt_0 := by decide +kernel
theorem dX6_malt_0 : decode cX6_malt 0 = .ok (.aload_n 0, 1) := dk_42 (dk_at dksX6_malt_0 0 rfl rfl)
theorem dX6_malt_1 : decode cX6_malt 1 = .ok (.iconst 0, 1) := dk_3 (dk_at dksX6_malt_0 1 rfl rfl)
theorem dX6_malt_2 : decode cX6_malt 2 = .ok (.putfield 25, 3) := dk_181 0 25 (dk_at dksX6_malt_0 2 rfl rfl)
theorem dX6_malt_5 : decode cX6_malt 5 = .ok (.aload_n 0, 1) := dk_42 (dk_at dksX6_malt_0 5 rfl rfl)
theorem dX6_malt_6 : decode cX6_malt 6 = .ok (.getfield 7, 3) := dk_180 0 7 (dk_at dksX6_malt_0 6 rfl rfl)
theorem dX6_malt_9 : decode cX6_malt 9 = .ok (.bipush 9, 2) := dk_16 9 (dk_at dksX6_malt_0 9 rfl rfl)
theorem dX6_malt_11 : decode cX6_malt 11 = .ok (.iaload, 1) := dk_46 (dk_at dksX6_malt_0 11 rfl rfl)
theorem dX6_malt_12 : decode cX6_malt 12 = .ok (.ireturn, 1) := dk_172 (dk_at dksX6_malt_0 12 rfl rfl)
abbrev cX6_culms : ByteArray := prog_11_method_99_code
def yX6_culms : MethodName := ⟨RX6, "culms", "()I"⟩
def dkwX6_culms_0 : List UInt8 := [42, 3, 181, 0, 25, 42, 180, 0, 7, 16, 10, 46, 172]
abbrev dktX6_culms_0 : List UInt8 := dkwX6_culms_0 ++ []
theorem dksX6_culms_0 : cX6_culms.data.toList.drop 0 = dktX6_culms_0 := by decide +kernel
theorem dX6_culms_0 : decode cX6_culms 0 = .ok (.aload_n 0, 1) := dk_42 (dk_at dksX6_culms_0 0 rfl rfl)
theorem dX6_culms_1 : decode cX6_culms 1 = .ok (.iconst 0, 1) := dk_3 (dk_at dksX6_culms_0 1 rfl rfl)
theorem dX6_culms_2 : decode cX6_culms 2 = .ok (.putfield 25, 3) := dk_181 0 25 (dk_at dksX6_culms_0 2 rfl rfl)
theorem dX6_culms_5 : decode cX6_culms 5 = .ok (.aload_n 0, 1) := dk_42 (dk_at dksX6_culms_0 5 rfl rfl)
theorem dX6_culms_6 : decode cX6_culms 6 = .ok (.getfield 7, 3) := dk_180 0 7 (dk_at dksX6_culms_0 6 rfl rfl)
theorem dX6_culms_9 : decode cX6_culms 9 = .ok (.bipush 10, 2) := dk_16 10 (dk_at dksX6_culms_0 9 rfl rfl)
theorem dX6_culms_11 : decode cX6_culms 11 = .ok (.iaload, 1) := dk_46 (dk_at dksX6_culms_0 11 rfl rfl)
theorem dX6_culms_12 : decode cX6_culms 12 = .ok (.ireturn, 1) := dk_172 (dk_at dksX6_culms_0 12 rfl rfl)
abbrev cX6_spoilt : ByteArray := prog_11_method_100_code
def yX6_spoilt : MethodName := ⟨RX6, "spoilt", "()I"⟩
def dkwX6_spoilt_0 : List UInt8 := [42, 3, 181, 0, 25, 42, 180, 0, 7, 16, 11, 46, 172]
abbrev dktX6_spoilt_0 : List UInt8 := dkwX6_spoilt_0 ++ []
theorem dksX6_spoilt_0 : cX6_spoilt.data.toList.drop 0 = dktX6_spoilt_0 := by decide +kernel
theorem dX6_spoilt_0 : decode cX6_spoilt 0 = .ok (.aload_n 0, 1) := dk_42 (dk_at dksX6_spoilt_0 0 rfl rfl)
theorem dX6_spoilt_1 : decode cX6_spoilt 1 = .ok (.iconst 0, 1) := dk_3 (dk_at dksX6_spoilt_0 1 rfl rfl)
theorem dX6_spoilt_2 : decode cX6_spoilt 2 = .ok (.putfield 25, 3) := dk_181 0 25 (dk_at dksX6_spoilt_0 2 rfl rfl)
theorem dX6_spoilt_5 : decode cX6_spoilt 5 = .ok (.aload_n 0, 1) := dk_42 (dk_at dksX6_spoilt_0 5 rfl rfl)
theorem dX6_spoilt_6 : decode cX6_spoilt 6 = .ok (.getfield 7, 3) := dk_180 0 7 (dk_at dksX6_spoilt_0 6 rfl rfl)
theorem dX6_spoilt_9 : decode cX6_spoilt 9 = .ok (.bipush 11, 2) := dk_16 11 (dk_at dksX6_spoilt_0 9 rfl rfl)
theorem dX6_spoilt_11 : decode cX6_spoilt 11 = .ok (.iaload, 1) := dk_46 (dk_at dksX6_spoilt_0 11 rfl rfl)
theorem dX6_spoilt_12 : decode cX6_spoilt 12 = .ok (.ireturn, 1) := dk_172 (dk_at dksX6_spoilt_0 12 rfl rfl)
abbrev cX6_breathed : ByteArray := prog_11_method_101_code
def yX6_breathed : MethodName := ⟨RX6, "breathed", "()I"⟩
def dkwX6_breathed_0 : List UInt8 := [42, 3, 181, 0, 25, 42, 180, 0, 7, 16, 12, 46, 172]
abbrev dktX6_breathed_0 : List UInt8 := dkwX6_breathed_0 ++ []
theorem dksX6_breathed_0 : cX6_breathed.data.toList.drop 0 = dktX6_breathed_0 := by decide +kernel
theorem dX6_breathed_0 : decode cX6_breathed 0 = .ok (.aload_n 0, 1) := dk_42 (dk_at dksX6_breathed_0 0 rfl rfl)
theorem dX6_breathed_1 : decode cX6_breathed 1 = .ok (.iconst 0, 1) := dk_3 (dk_at dksX6_breathed_0 1 rfl rfl)
theorem dX6_breathed_2 : decode cX6_breathed 2 = .ok (.putfield 25, 3) := dk_181 0 25 (dk_at dksX6_breathed_0 2 rfl rfl)
theorem dX6_breathed_5 : decode cX6_breathed 5 = .ok (.aload_n 0, 1) := dk_42 (dk_at dksX6_breathed_0 5 rfl rfl)
theorem dX6_breathed_6 : decode cX6_breathed 6 = .ok (.getfield 7, 3) := dk_180 0 7 (dk_at dksX6_breathed_0 6 rfl rfl)
theorem dX6_breathed_9 : decode cX6_breathed 9 = .ok (.bipush 12, 2) := dk_16 12 (dk_at dksX6_breathed_0 9 rfl rfl)
theorem dX6_breathed_11 : decode cX6_breathed 11 = .ok (.iaload, 1) := dk_46 (dk_at dksX6_breathed_0 11 rfl rfl)
theorem dX6_breathed_12 : decode cX6_breathed 12 = .ok (.ireturn, 1) := dk_172 (dk_at dksX6_breathed_0 12 rfl rfl)
abbrev cX6_sprays : ByteArray := prog_11_method_102_code
def yX6_sprays : MethodName := ⟨RX6, "sprays", "()I"⟩
def dkwX6_sprays_0 : List UInt8 := [42, 3, 181, 0, 25, 42, 180, 0, 7, 16, 13, 46, 172]
abbrev dktX6_sprays_0 : List UInt8 := dkwX6_sprays_0 ++ []
theorem dksX6_sprays_0 : cX6_sprays.data.toList.drop 0 = dktX6_sprays_0 := by decide +kernel
theorem dX6_sprays_0 : decode cX6_sprays 0 = .ok (.aload_n 0, 1) := dk_42 (dk_at dksX6_sprays_0 0 rfl rfl)
theorem dX6_sprays_1 : decode cX6_sprays 1 = .ok (.iconst 0, 1) := dk_3 (dk_at dksX6_sprays_0 1 rfl rfl)
theorem dX6_sprays_2 : decode cX6_sprays 2 = .ok (.putfield 25, 3) := dk_181 0 25 (dk_at dksX6_sprays_0 2 rfl rfl)
theorem dX6_sprays_5 : decode cX6_sprays 5 = .ok (.aload_n 0, 1) := dk_42 (dk_at dksX6_sprays_0 5 rfl rfl)
theorem dX6_sprays_6 : decode cX6_sprays 6 = .ok (.getfield 7, 3) := dk_180 0 7 (dk_at dksX6_sprays_0 6 rfl rfl)
theorem dX6_sprays_9 : decode cX6_sprays 9 = .ok (.bipush 13, 2) := dk_16 13 (dk_at dksX6_sprays_0 9 rfl rfl)
theorem dX6_sprays_11 : decode cX6_sprays 11 = .ok (.iaload, 1) := dk_46 (dk_at dksX6_sprays_0 11 rfl rfl)
theorem dX6_sprays_12 : decode cX6_sprays 12 = .ok (.ireturn, 1) := dk_172 (dk_at dksX6_sprays_0 12 rfl rfl)
abbrev cX6_meanGrowth : ByteArray := prog_11_method_103_code
def yX6_meanGrowth : MethodName := ⟨RX6, "meanGrowth", "()D"⟩
def dkwX6_meanGrowth_2 : List UInt8 := [96, 60, 132, 3, 1, 167, 255, 219, 28, 154, 0, 7, 14, 167, 0, 8, 27, 135, 28, 135, 111, 175]
abbrev dktX6_meanGrowth_2 : List UInt8 := dkwX6_meanGrowth_2 ++ []
def dkwX6_meanGrowth_1 : List UInt8 := [162, 0, 32, 27, 42, 29, 3, 182, 0, 51, 8, 160, 0, 12, 42, 29, 8, 182, 0, 51, 167, 0, 4, 3]
abbrev dktX6_meanGrowth_1 : List UInt8 := dkwX6_meanGrowth_1 ++ dktX6_meanGrowth_2
def dkwX6_meanGrowth_0 : List UInt8 := [42, 3, 181, 0, 25, 3, 60, 42, 8, 182, 0, 82, 61, 3, 62, 29, 42, 180, 0, 7, 16, 7, 46]
abbrev dktX6_meanGrowth_0 : List UInt8 := dkwX6_meanGrowth_0 ++ dktX6_meanGrowth_1
theorem dksX6_meanGrowth_0 : cX6_meanGrowth.data.toList.drop 0 = dktX6_meanGrowth_0 := by decide +kernel
theorem dksX6_meanGrowth_1 : cX6_meanGrowth.data.toList.drop 23 = dktX6_meanGrowth_1 := dk_seg dksX6_meanGrowth_0 23 rfl rfl
theorem dksX6_meanGrowth_2 : cX6_meanGrowth.data.toList.drop 47 = dktX6_meanGrowth_2 := dk_seg dksX6_meanGrowth_1 24 rfl rfl
theorem dX6_meanGrowth_0 : decode cX6_meanGrowth 0 = .ok (.aload_n 0, 1) := dk_42 (dk_at dksX6_meanGrowth_0 0 rfl rfl)
theorem dX6_meanGrowth_1 : decode cX6_meanGrowth 1 = .ok (.iconst 0, 1) := dk_3 (dk_at dksX6_meanGrowth_0 1 rfl rfl)
theorem dX6_meanGrowth_2 : decode cX6_meanGrowth 2 = .ok (.putfield 25, 3) := dk_181 0 25 (dk_at dksX6_meanGrowth_0 2 rfl rfl)
theorem dX6_meanGrowth_5 : decode cX6_meanGrowth 5 = .ok (.iconst 0, 1) := dk_3 (dk_at dksX6_meanGrowth_0 5 rfl rfl)
theorem dX6_meanGrowth_6 : decode cX6_meanGrowth 6 = .ok (.istore_n 1, 1) := dk_60 (dk_at dksX6_meanGrowth_0 6 rfl rfl)
theorem dX6_meanGrowth_7 : decode cX6_meanGrowth 7 = .ok (.aload_n 0, 1) := dk_42 (dk_at dksX6_meanGrowth_0 7 rfl rfl)
theorem dX6_meanGrowth_8 : decode cX6_meanGrowth 8 = .ok (.iconst 5, 1) := dk_8 (dk_at dksX6_meanGrowth_0 8 rfl rfl)
theorem dX6_meanGrowth_9 : decode cX6_meanGrowth 9 = .ok (.invokevirtual 82, 3) := dk_182 0 82 (dk_at dksX6_meanGrowth_0 9 rfl rfl)
theorem dX6_meanGrowth_12 : decode cX6_meanGrowth 12 = .ok (.istore_n 2, 1) := dk_61 (dk_at dksX6_meanGrowth_0 12 rfl rfl)
theorem dX6_meanGrowth_13 : decode cX6_meanGrowth 13 = .ok (.iconst 0, 1) := dk_3 (dk_at dksX6_meanGrowth_0 13 rfl rfl)
theorem dX6_meanGrowth_14 : decode cX6_meanGrowth 14 = .ok (.istore_n 3, 1) := dk_62 (dk_at dksX6_meanGrowth_0 14 rfl rfl)
theorem dX6_meanGrowth_15 : decode cX6_meanGrowth 15 = .ok (.iload_n 3, 1) := dk_29 (dk_at dksX6_meanGrowth_0 15 rfl rfl)
theorem dX6_meanGrowth_16 : decode cX6_meanGrowth 16 = .ok (.aload_n 0, 1) := dk_42 (dk_at dksX6_meanGrowth_0 16 rfl rfl)
theorem dX6_meanGrowth_17 : decode cX6_meanGrowth 17 = .ok (.getfield 7, 3) := dk_180 0 7 (dk_at dksX6_meanGrowth_0 17 rfl rfl)
theorem dX6_meanGrowth_20 : decode cX6_meanGrowth 20 = .ok (.bipush 7, 2) := dk_16 7 (dk_at dksX6_meanGrowth_0 20 rfl rfl)
theorem dX6_meanGrowth_22 : decode cX6_meanGrowth 22 = .ok (.iaload, 1) := dk_46 (dk_at dksX6_meanGrowth_0 22 rfl rfl)
theorem dX6_meanGrowth_23 : decode cX6_meanGrowth 23 = .ok (.if_icmp .ge 32, 3) := dk_162 0 32 (dk_at dksX6_meanGrowth_1 0 rfl rfl)
theorem dX6_meanGrowth_26 : decode cX6_meanGrowth 26 = .ok (.iload_n 1, 1) := dk_27 (dk_at dksX6_meanGrowth_1 3 rfl rfl)
theorem dX6_meanGrowth_27 : decode cX6_meanGrowth 27 = .ok (.aload_n 0, 1) := dk_42 (dk_at dksX6_meanGrowth_1 4 rfl rfl)
theorem dX6_meanGrowth_28 : decode cX6_meanGrowth 28 = .ok (.iload_n 3, 1) := dk_29 (dk_at dksX6_meanGrowth_1 5 rfl rfl)
theorem dX6_meanGrowth_29 : decode cX6_meanGrowth 29 = .ok (.iconst 0, 1) := dk_3 (dk_at dksX6_meanGrowth_1 6 rfl rfl)
theorem dX6_meanGrowth_30 : decode cX6_meanGrowth 30 = .ok (.invokevirtual 51, 3) := dk_182 0 51 (dk_at dksX6_meanGrowth_1 7 rfl rfl)
theorem dX6_meanGrowth_33 : decode cX6_meanGrowth 33 = .ok (.iconst 5, 1) := dk_8 (dk_at dksX6_meanGrowth_1 10 rfl rfl)
theorem dX6_meanGrowth_34 : decode cX6_meanGrowth 34 = .ok (.if_icmp .ne 12, 3) := dk_160 0 12 (dk_at dksX6_meanGrowth_1 11 rfl rfl)
theorem dX6_meanGrowth_37 : decode cX6_meanGrowth 37 = .ok (.aload_n 0, 1) := dk_42 (dk_at dksX6_meanGrowth_1 14 rfl rfl)
theorem dX6_meanGrowth_38 : decode cX6_meanGrowth 38 = .ok (.iload_n 3, 1) := dk_29 (dk_at dksX6_meanGrowth_1 15 rfl rfl)
theorem dX6_meanGrowth_39 : decode cX6_meanGrowth 39 = .ok (.iconst 5, 1) := dk_8 (dk_at dksX6_meanGrowth_1 16 rfl rfl)
theorem dX6_meanGrowth_40 : decode cX6_meanGrowth 40 = .ok (.invokevirtual 51, 3) := dk_182 0 51 (dk_at dksX6_meanGrowth_1 17 rfl rfl)
theorem dX6_meanGrowth_43 : decode cX6_meanGrowth 43 = .ok (.goto 4, 3) := dk_167 0 4 (dk_at dksX6_meanGrowth_1 20 rfl rfl)
theorem dX6_meanGrowth_46 : decode cX6_meanGrowth 46 = .ok (.iconst 0, 1) := dk_3 (dk_at dksX6_meanGrowth_1 23 rfl rfl)
theorem dX6_meanGrowth_47 : decode cX6_meanGrowth 47 = .ok (.iadd, 1) := dk_96 (dk_at dksX6_meanGrowth_2 0 rfl rfl)
theorem dX6_meanGrowth_48 : decode cX6_meanGrowth 48 = .ok (.istore_n 1, 1) := dk_60 (dk_at dksX6_meanGrowth_2 1 rfl rfl)
theorem dX6_meanGrowth_49 : decode cX6_meanGrowth 49 = .ok (.iinc 3 1, 3) := dk_132 3 1 (dk_at dksX6_meanGrowth_2 2 rfl rfl)
theorem dX6_meanGrowth_52 : decode cX6_meanGrowth 52 = .ok (.goto (-37), 3) := dk_167 255 219 (dk_at dksX6_meanGrowth_2 5 rfl rfl)
theorem dX6_meanGrowth_55 : decode cX6_meanGrowth 55 = .ok (.iload_n 2, 1) := dk_28 (dk_at dksX6_meanGrowth_2 8 rfl rfl)
theorem dX6_meanGrowth_56 : decode cX6_meanGrowth 56 = .ok (.ifCond .ne 7, 3) := dk_154 0 7 (dk_at dksX6_meanGrowth_2 9 rfl rfl)
theorem dX6_meanGrowth_59 : decode cX6_meanGrowth 59 = .ok (.dconst 0, 1) := dk_14 (dk_at dksX6_meanGrowth_2 12 rfl rfl)
theorem dX6_meanGrowth_60 : decode cX6_meanGrowth 60 = .ok (.goto 8, 3) := dk_167 0 8 (dk_at dksX6_meanGrowth_2 13 rfl rfl)
theorem dX6_meanGrowth_63 : decode cX6_meanGrowth 63 = .ok (.iload_n 1, 1) := dk_27 (dk_at dksX6_meanGrowth_2 16 rfl rfl)
theorem dX6_meanGrowth_64 : decode cX6_meanGrowth 64 = .ok (.i2d, 1) := dk_135 (dk_at dksX6_meanGrowth_2 17 rfl rfl)
theorem dX6_meanGrowth_65 : decode cX6_meanGrowth 65 = .ok (.iload_n 2, 1) := dk_28 (dk_at dksX6_meanGrowth_2 18 rfl rfl)
theorem dX6_meanGrowth_66 : decode cX6_meanGrowth 66 = .ok (.i2d, 1) := dk_135 (dk_at dksX6_meanGrowth_2 19 rfl rfl)
theorem dX6_meanGrowth_67 : decode cX6_meanGrowth 67 = .ok (.ddiv, 1) := dk_111 (dk_at dksX6_meanGrowth_2 20 rfl rfl)
theorem dX6_meanGrowth_68 : decode cX6_meanGrowth 68 = .ok (.dreturn, 1) := dk_175 (dk_at dksX6_meanGrowth_2 21 rfl rfl)
abbrev cX6_meanHeat : ByteArray := prog_11_method_104_code
def yX6_meanHeat : MethodName := ⟨RX6, "meanHeat", "()D"⟩
def dkwX6_meanHeat_3 : List UInt8 := [135, 28, 135, 111, 175]
abbrev dktX6_meanHeat_3 : List UInt8 := dkwX6_meanHeat_3 ++ []
def dkwX6_meanHeat_2 : List UInt8 := [182, 0, 51, 167, 0, 4, 3, 96, 60, 132, 3, 1, 167, 255, 220, 28, 154, 0, 7, 14, 167, 0, 8, 27]
abbrev dktX6_meanHeat_2 : List UInt8 := dkwX6_meanHeat_2 ++ dktX6_meanHeat_3
def dkwX6_meanHeat_1 : List UInt8 := [180, 0, 7, 16, 7, 46, 162, 0, 31, 27, 42, 29, 182, 0, 99, 153, 0, 13, 42, 29, 16, 6]
abbrev dktX6_meanHeat_1 : List UInt8 := dkwX6_meanHeat_1 ++ dktX6_meanHeat_2
def dkwX6_meanHeat_0 : List UInt8 := [42, 3, 181, 0, 25, 3, 60, 42, 5, 182, 0, 82, 42, 6, 182, 0, 82, 96, 61, 3, 62, 29, 42]
abbrev dktX6_meanHeat_0 : List UInt8 := dkwX6_meanHeat_0 ++ dktX6_meanHeat_1
theorem dksX6_meanHeat_0 : cX6_meanHeat.data.toList.drop 0 = dktX6_meanHeat_0 := by decide +kernel
theorem dksX6_meanHeat_1 : cX6_meanHeat.data.toList.drop 23 = dktX6_meanHeat_1 := dk_seg dksX6_meanHeat_0 23 rfl rfl
theorem dksX6_meanHeat_2 : cX6_meanHeat.data.toList.drop 45 = dktX6_meanHeat_2 := dk_seg dksX6_meanHeat_1 22 rfl rfl
theorem dksX6_meanHeat_3 : cX6_meanHeat.data.toList.drop 69 = dktX6_meanHeat_3 := dk_seg dksX6_meanHeat_2 24 rfl rfl
theorem dX6_meanHeat_0 : decode cX6_meanHeat 0 = .ok (.aload_n 0, 1) := dk_42 (dk_at dksX6_meanHeat_0 0 rfl rfl)
theorem dX6_meanHeat_1 : decode cX6_meanHeat 1 = .ok (.iconst 0, 1) := dk_3 (dk_at dksX6_meanHeat_0 1 rfl rfl)
theorem dX6_meanHeat_2 : decode cX6_meanHeat 2 = .ok (.putfield 25, 3) := dk_181 0 25 (dk_at dksX6_meanHeat_0 2 rfl rfl)
theorem dX6_meanHeat_5 : decode cX6_meanHeat 5 = .ok (.iconst 0, 1) := dk_3 (dk_at dksX6_meanHeat_0 5 rfl rfl)
theorem dX6_meanHeat_6 : decode cX6_meanHeat 6 = .ok (.istore_n 1, 1) := dk_60 (dk_at dksX6_meanHeat_0 6 rfl rfl)
theorem dX6_meanHeat_7 : decode cX6_meanHeat 7 = .ok (.aload_n 0, 1) := dk_42 (dk_at dksX6_meanHeat_0 7 rfl rfl)
theorem dX6_meanHeat_8 : decode cX6_meanHeat 8 = .ok (.iconst 2, 1) := dk_5 (dk_at dksX6_meanHeat_0 8 rfl rfl)
theorem dX6_meanHeat_9 : decode cX6_meanHeat 9 = .ok (.invokevirtual 82, 3) := dk_182 0 82 (dk_at dksX6_meanHeat_0 9 rfl rfl)
theorem dX6_meanHeat_12 : decode cX6_meanHeat 12 = .ok (.aload_n 0, 1) := dk_42 (dk_at dksX6_meanHeat_0 12 rfl rfl)
theorem dX6_meanHeat_13 : decode cX6_meanHeat 13 = .ok (.iconst 3, 1) := dk_6 (dk_at dksX6_meanHeat_0 13 rfl rfl)
theorem dX6_meanHeat_14 : decode cX6_meanHeat 14 = .ok (.invokevirtual 82, 3) := dk_182 0 82 (dk_at dksX6_meanHeat_0 14 rfl rfl)
theorem dX6_meanHeat_17 : decode cX6_meanHeat 17 = .ok (.iadd, 1) := dk_96 (dk_at dksX6_meanHeat_0 17 rfl rfl)
theorem dX6_meanHeat_18 : decode cX6_meanHeat 18 = .ok (.istore_n 2, 1) := dk_61 (dk_at dksX6_meanHeat_0 18 rfl rfl)
theorem dX6_meanHeat_19 : decode cX6_meanHeat 19 = .ok (.iconst 0, 1) := dk_3 (dk_at dksX6_meanHeat_0 19 rfl rfl)
theorem dX6_meanHeat_20 : decode cX6_meanHeat 20 = .ok (.istore_n 3, 1) := dk_62 (dk_at dksX6_meanHeat_0 20 rfl rfl)
theorem dX6_meanHeat_21 : decode cX6_meanHeat 21 = .ok (.iload_n 3, 1) := dk_29 (dk_at dksX6_meanHeat_0 21 rfl rfl)
theorem dX6_meanHeat_22 : decode cX6_meanHeat 22 = .ok (.aload_n 0, 1) := dk_42 (dk_at dksX6_meanHeat_0 22 rfl rfl)
theorem dX6_meanHeat_23 : decode cX6_meanHeat 23 = .ok (.getfield 7, 3) := dk_180 0 7 (dk_at dksX6_meanHeat_1 0 rfl rfl)
theorem dX6_meanHeat_26 : decode cX6_meanHeat 26 = .ok (.bipush 7, 2) := dk_16 7 (dk_at dksX6_meanHeat_1 3 rfl rfl)
theorem dX6_meanHeat_28 : decode cX6_meanHeat 28 = .ok (.iaload, 1) := dk_46 (dk_at dksX6_meanHeat_1 5 rfl rfl)
theorem dX6_meanHeat_29 : decode cX6_meanHeat 29 = .ok (.if_icmp .ge 31, 3) := dk_162 0 31 (dk_at dksX6_meanHeat_1 6 rfl rfl)
theorem dX6_meanHeat_32 : decode cX6_meanHeat 32 = .ok (.iload_n 1, 1) := dk_27 (dk_at dksX6_meanHeat_1 9 rfl rfl)
theorem dX6_meanHeat_33 : decode cX6_meanHeat 33 = .ok (.aload_n 0, 1) := dk_42 (dk_at dksX6_meanHeat_1 10 rfl rfl)
theorem dX6_meanHeat_34 : decode cX6_meanHeat 34 = .ok (.iload_n 3, 1) := dk_29 (dk_at dksX6_meanHeat_1 11 rfl rfl)
theorem dX6_meanHeat_35 : decode cX6_meanHeat 35 = .ok (.invokevirtual 99, 3) := dk_182 0 99 (dk_at dksX6_meanHeat_1 12 rfl rfl)
theorem dX6_meanHeat_38 : decode cX6_meanHeat 38 = .ok (.ifCond .eq 13, 3) := dk_153 0 13 (dk_at dksX6_meanHeat_1 15 rfl rfl)
theorem dX6_meanHeat_41 : decode cX6_meanHeat 41 = .ok (.aload_n 0, 1) := dk_42 (dk_at dksX6_meanHeat_1 18 rfl rfl)
theorem dX6_meanHeat_42 : decode cX6_meanHeat 42 = .ok (.iload_n 3, 1) := dk_29 (dk_at dksX6_meanHeat_1 19 rfl rfl)
theorem dX6_meanHeat_43 : decode cX6_meanHeat 43 = .ok (.bipush 6, 2) := dk_16 6 (dk_at dksX6_meanHeat_1 20 rfl rfl)
theorem dX6_meanHeat_45 : decode cX6_meanHeat 45 = .ok (.invokevirtual 51, 3) := dk_182 0 51 (dk_at dksX6_meanHeat_2 0 rfl rfl)
theorem dX6_meanHeat_48 : decode cX6_meanHeat 48 = .ok (.goto 4, 3) := dk_167 0 4 (dk_at dksX6_meanHeat_2 3 rfl rfl)
theorem dX6_meanHeat_51 : decode cX6_meanHeat 51 = .ok (.iconst 0, 1) := dk_3 (dk_at dksX6_meanHeat_2 6 rfl rfl)
theorem dX6_meanHeat_52 : decode cX6_meanHeat 52 = .ok (.iadd, 1) := dk_96 (dk_at dksX6_meanHeat_2 7 rfl rfl)
theorem dX6_meanHeat_53 : decode cX6_meanHeat 53 = .ok (.istore_n 1, 1) := dk_60 (dk_at dksX6_meanHeat_2 8 rfl rfl)
theorem dX6_meanHeat_54 : decode cX6_meanHeat 54 = .ok (.iinc 3 1, 3) := dk_132 3 1 (dk_at dksX6_meanHeat_2 9 rfl rfl)
theorem dX6_meanHeat_57 : decode cX6_meanHeat 57 = .ok (.goto (-36), 3) := dk_167 255 220 (dk_at dksX6_meanHeat_2 12 rfl rfl)
theorem dX6_meanHeat_60 : decode cX6_meanHeat 60 = .ok (.iload_n 2, 1) := dk_28 (dk_at dksX6_meanHeat_2 15 rfl rfl)
theorem dX6_meanHeat_61 : decode cX6_meanHeat 61 = .ok (.ifCond .ne 7, 3) := dk_154 0 7 (dk_at dksX6_meanHeat_2 16 rfl rfl)
theorem dX6_meanHeat_64 : decode cX6_meanHeat 64 = .ok (.dconst 0, 1) := dk_14 (dk_at dksX6_meanHeat_2 19 rfl rfl)
theorem dX6_meanHeat_65 : decode cX6_meanHeat 65 = .ok (.goto 8, 3) := dk_167 0 8 (dk_at dksX6_meanHeat_2 20 rfl rfl)
theorem dX6_meanHeat_68 : decode cX6_meanHeat 68 = .ok (.iload_n 1, 1) := dk_27 (dk_at dksX6_meanHeat_2 23 rfl rfl)
theorem dX6_meanHeat_69 : decode cX6_meanHeat 69 = .ok (.i2d, 1) := dk_135 (dk_at dksX6_meanHeat_3 0 rfl rfl)
theorem dX6_meanHeat_70 : decode cX6_meanHeat 70 = .ok (.iload_n 2, 1) := dk_28 (dk_at dksX6_meanHeat_3 1 rfl rfl)
theorem dX6_meanHeat_71 : decode cX6_meanHeat 71 = .ok (.i2d, 1) := dk_135 (dk_at dksX6_meanHeat_3 2 rfl rfl)
theorem dX6_meanHeat_72 : decode cX6_meanHeat 72 = .ok (.ddiv, 1) := dk_111 (dk_at dksX6_meanHeat_3 3 rfl rfl)
theorem dX6_meanHeat_73 : decode cX6_meanHeat 73 = .ok (.dreturn, 1) := dk_175 (dk_at dksX6_meanHeat_3 4 rfl rfl)
theorem q77 : (Jvm.Cond.initialized "MaltDrumsModel") ∈ lw_all := lw_g (lw_at lw_m1 13 rfl) rfl
theorem q937 : (Jvm.Cond.selects "MaltDrumsModel" ({ cls := "java/lang/Object", name := "getClass", desc := "()Ljava/lang/Class;" } : Jvm.MethodName) ({ cls := "java/lang/Object", name := "getClass", desc := "()Ljava/lang/Class;" } : Jvm.MethodName)) ∈ lw_all := lw_g (lw_at lw_m4 153 rfl) rfl
theorem q1753 : (Jvm.Cond.instantiable "MaltDrumsModel" (9 : Nat)) ∈ lw_all := lw_g (lw_at lw_m8 9 rfl) rfl
theorem q1755 : (Jvm.Cond.instanceMethod ({ cls := "MaltDrumsModel", name := "<init>", desc := "()V" } : Jvm.MethodName)) ∈ lw_all := lw_g (lw_at lw_m8 11 rfl) rfl
theorem q1756 : (Jvm.Cond.code ({ cls := "MaltDrumsModel", name := "<init>", desc := "()V" } : Jvm.MethodName) prog_11_method_1_code (1 : Nat) (Option.none : Option Jvm.ClassFile.FieldType)) ∈ lw_all := lw_g (lw_at lw_m8 12 rfl) rfl
theorem q1757 : (Jvm.Cond.methodLink "MaltDrumsModel" (1 : Nat) ({ cls := "java/lang/Object", name := "<init>", desc := "()V" } : Jvm.MethodName)) ∈ lw_all := lw_g (lw_at lw_m8 13 rfl) rfl
theorem q1758 : (Jvm.Cond.fieldLink "MaltDrumsModel" (7 : Nat) "MaltDrumsModel" "z" "[I") ∈ lw_all := lw_g (lw_at lw_m8 14 rfl) rfl
theorem q1759 : (Jvm.Cond.fieldLink "MaltDrumsModel" (13 : Nat) "MaltDrumsModel" "spare" "[I") ∈ lw_all := lw_g (lw_at lw_m8 15 rfl) rfl
theorem q1760 : (Jvm.Cond.fieldLink "MaltDrumsModel" (16 : Nat) "MaltDrumsModel" "past" "[I") ∈ lw_all := lw_g (lw_at lw_m8 16 rfl) rfl
theorem q1761 : (Jvm.Cond.fieldLink "MaltDrumsModel" (33 : Nat) "MaltDrumsModel" "states" "I") ∈ lw_all := lw_g (lw_at lw_m8 17 rfl) rfl
theorem q1762 : (Jvm.Cond.fieldLink "MaltDrumsModel" (19 : Nat) "MaltDrumsModel" "kept" "[I") ∈ lw_all := lw_g (lw_at lw_m8 18 rfl) rfl
theorem q1763 : (Jvm.Cond.fieldLink "MaltDrumsModel" (44 : Nat) "MaltDrumsModel" "isKept" "Z") ∈ lw_all := lw_g (lw_at lw_m8 19 rfl) rfl
theorem q1764 : (Jvm.Cond.fieldLink "MaltDrumsModel" (22 : Nat) "MaltDrumsModel" "buffer" "[I") ∈ lw_all := lw_g (lw_at lw_m8 20 rfl) rfl
theorem q1765 : (Jvm.Cond.fieldLink "MaltDrumsModel" (153 : Nat) "MaltDrumsModel" "length" "I") ∈ lw_all := lw_g (lw_at lw_m8 21 rfl) rfl
theorem q1766 : (Jvm.Cond.fieldLink "MaltDrumsModel" (25 : Nat) "MaltDrumsModel" "thrown" "I") ∈ lw_all := lw_g (lw_at lw_m8 22 rfl) rfl
theorem q1767 : (Jvm.Cond.laysFinal "MaltDrumsModel" "MaltDrumsModel" "z" "[I") ∈ lw_all := lw_g (lw_at lw_m8 23 rfl) rfl
theorem q1768 : (Jvm.Cond.soleField "MaltDrumsModel" "z") ∈ lw_all := lw_g (lw_at lw_m8 24 rfl) rfl
theorem q1769 : (Jvm.Cond.laysFinal "MaltDrumsModel" "MaltDrumsModel" "spare" "[I") ∈ lw_all := lw_g (lw_at lw_m8 25 rfl) rfl
theorem q1770 : (Jvm.Cond.soleField "MaltDrumsModel" "spare") ∈ lw_all := lw_g (lw_at lw_m8 26 rfl) rfl
theorem q1771 : (Jvm.Cond.laysFinal "MaltDrumsModel" "MaltDrumsModel" "past" "[I") ∈ lw_all := lw_g (lw_at lw_m8 27 rfl) rfl
theorem q1772 : (Jvm.Cond.soleField "MaltDrumsModel" "past") ∈ lw_all := lw_g (lw_at lw_m8 28 rfl) rfl
theorem q1773 : (Jvm.Cond.lays "MaltDrumsModel" "MaltDrumsModel" "states" "I") ∈ lw_all := lw_g (lw_at lw_m8 29 rfl) rfl
theorem q1774 : (Jvm.Cond.soleField "MaltDrumsModel" "states") ∈ lw_all := lw_g (lw_at lw_m8 30 rfl) rfl
theorem q1775 : (Jvm.Cond.laysFinal "MaltDrumsModel" "MaltDrumsModel" "kept" "[I") ∈ lw_all := lw_g (lw_at lw_m8 31 rfl) rfl
theorem q1776 : (Jvm.Cond.soleField "MaltDrumsModel" "kept") ∈ lw_all := lw_g (lw_at lw_m8 32 rfl) rfl
theorem q1777 : (Jvm.Cond.lays "MaltDrumsModel" "MaltDrumsModel" "isKept" "Z") ∈ lw_all := lw_g (lw_at lw_m8 33 rfl) rfl
theorem q1778 : (Jvm.Cond.soleField "MaltDrumsModel" "isKept") ∈ lw_all := lw_g (lw_at lw_m8 34 rfl) rfl
theorem q1779 : (Jvm.Cond.laysFinal "MaltDrumsModel" "MaltDrumsModel" "buffer" "[I") ∈ lw_all := lw_g (lw_at lw_m8 35 rfl) rfl
theorem q1780 : (Jvm.Cond.soleField "MaltDrumsModel" "buffer") ∈ lw_all := lw_g (lw_at lw_m8 36 rfl) rfl
theorem q1781 : (Jvm.Cond.lays "MaltDrumsModel" "MaltDrumsModel" "length" "I") ∈ lw_all := lw_g (lw_at lw_m8 37 rfl) rfl
theorem q1782 : (Jvm.Cond.soleField "MaltDrumsModel" "length") ∈ lw_all := lw_g (lw_at lw_m8 38 rfl) rfl
theorem q1783 : (Jvm.Cond.lays "MaltDrumsModel" "MaltDrumsModel" "thrown" "I") ∈ lw_all := lw_g (lw_at lw_m8 39 rfl) rfl
theorem q1784 : (Jvm.Cond.soleField "MaltDrumsModel" "thrown") ∈ lw_all := lw_g (lw_at lw_m8 40 rfl) rfl
theorem q1785 : (Jvm.Cond.superclass "MaltDrumsModel" "java/lang/Object") ∈ lw_all := lw_g (lw_at lw_m8 41 rfl) rfl
theorem q1787 : (Jvm.Cond.instanceMethod ({ cls := "MaltDrumsModel", name := "thrown", desc := "()I" } : Jvm.MethodName)) ∈ lw_all := lw_g (lw_at lw_m8 43 rfl) rfl
theorem q1788 : (Jvm.Cond.selects "MaltDrumsModel" ({ cls := "MaltDrumsModel", name := "thrown", desc := "()I" } : Jvm.MethodName) ({ cls := "MaltDrumsModel", name := "thrown", desc := "()I" } : Jvm.MethodName)) ∈ lw_all := lw_g (lw_at lw_m8 44 rfl) rfl
theorem q1789 : (Jvm.Cond.code ({ cls := "MaltDrumsModel", name := "thrown", desc := "()I" } : Jvm.MethodName) prog_11_method_2_code (1 : Nat) (Option.some Jvm.ClassFile.FieldType.int)) ∈ lw_all := lw_g (lw_at lw_m8 45 rfl) rfl
theorem q1791 : (Jvm.Cond.instanceMethod ({ cls := "MaltDrumsModel", name := "undo", desc := "()I" } : Jvm.MethodName)) ∈ lw_all := lw_g (lw_at lw_m8 47 rfl) rfl
theorem q1792 : (Jvm.Cond.selects "MaltDrumsModel" ({ cls := "MaltDrumsModel", name := "undo", desc := "()I" } : Jvm.MethodName) ({ cls := "MaltDrumsModel", name := "undo", desc := "()I" } : Jvm.MethodName)) ∈ lw_all := lw_g (lw_at lw_m8 48 rfl) rfl
theorem q1793 : (Jvm.Cond.code ({ cls := "MaltDrumsModel", name := "undo", desc := "()I" } : Jvm.MethodName) prog_11_method_13_code (1 : Nat) (Option.some Jvm.ClassFile.FieldType.int)) ∈ lw_all := lw_g (lw_at lw_m8 49 rfl) rfl
theorem q1794 : (Jvm.Cond.methodLink "MaltDrumsModel" (40 : Nat) ({ cls := "MaltDrumsModel", name := "goes", desc := "(ZZ)Z" } : Jvm.MethodName)) ∈ lw_all := lw_g (lw_at lw_m8 50 rfl) rfl
theorem q1795 : (Jvm.Cond.privateMethod ({ cls := "MaltDrumsModel", name := "goes", desc := "(ZZ)Z" } : Jvm.MethodName)) ∈ lw_tbl := lw_at lw_m8 51 rfl
theorem q1796 : (Jvm.Cond.instanceMethod ({ cls := "MaltDrumsModel", name := "goes", desc := "(ZZ)Z" } : Jvm.MethodName)) ∈ lw_all := lw_g (lw_at lw_m8 52 rfl) rfl
theorem q1797 : (Jvm.Cond.code ({ cls := "MaltDrumsModel", name := "goes", desc := "(ZZ)Z" } : Jvm.MethodName) prog_11_method_4_code (3 : Nat) (Option.some Jvm.ClassFile.FieldType.boolean)) ∈ lw_all := lw_g (lw_at lw_m8 53 rfl) rfl
theorem q1798 : (Jvm.Cond.methodLink "MaltDrumsModel" (36 : Nat) ({ cls := "MaltDrumsModel", name := "copyState", desc := "([II[II)V" } : Jvm.MethodName)) ∈ lw_all := lw_g (lw_at lw_m8 54 rfl) rfl
theorem q1799 : (Jvm.Cond.static ({ cls := "MaltDrumsModel", name := "copyState", desc := "([II[II)V" } : Jvm.MethodName)) ∈ lw_all := lw_g (lw_at lw_m8 55 rfl) rfl
theorem q1800 : (Jvm.Cond.code ({ cls := "MaltDrumsModel", name := "copyState", desc := "([II[II)V" } : Jvm.MethodName) prog_11_method_11_code (5 : Nat) (Option.none : Option Jvm.ClassFile.FieldType)) ∈ lw_all := lw_g (lw_at lw_m8 56 rfl) rfl
theorem q1802 : (Jvm.Cond.instanceMethod ({ cls := "MaltDrumsModel", name := "savedStates", desc := "()I" } : Jvm.MethodName)) ∈ lw_all := lw_g (lw_at lw_m8 58 rfl) rfl
theorem q1803 : (Jvm.Cond.selects "MaltDrumsModel" ({ cls := "MaltDrumsModel", name := "savedStates", desc := "()I" } : Jvm.MethodName) ({ cls := "MaltDrumsModel", name := "savedStates", desc := "()I" } : Jvm.MethodName)) ∈ lw_all := lw_g (lw_at lw_m8 59 rfl) rfl
theorem q1804 : (Jvm.Cond.code ({ cls := "MaltDrumsModel", name := "savedStates", desc := "()I" } : Jvm.MethodName) prog_11_method_14_code (1 : Nat) (Option.some Jvm.ClassFile.FieldType.int)) ∈ lw_all := lw_g (lw_at lw_m8 60 rfl) rfl
theorem q1806 : (Jvm.Cond.instanceMethod ({ cls := "MaltDrumsModel", name := "keep", desc := "()I" } : Jvm.MethodName)) ∈ lw_all := lw_g (lw_at lw_m8 62 rfl) rfl
theorem q1807 : (Jvm.Cond.selects "MaltDrumsModel" ({ cls := "MaltDrumsModel", name := "keep", desc := "()I" } : Jvm.MethodName) ({ cls := "MaltDrumsModel", name := "keep", desc := "()I" } : Jvm.MethodName)) ∈ lw_all := lw_g (lw_at lw_m8 63 rfl) rfl
theorem q1808 : (Jvm.Cond.code ({ cls := "MaltDrumsModel", name := "keep", desc := "()I" } : Jvm.MethodName) prog_11_method_15_code (1 : Nat) (Option.some Jvm.ClassFile.FieldType.int)) ∈ lw_all := lw_g (lw_at lw_m8 64 rfl) rfl
theorem q1810 : (Jvm.Cond.instanceMethod ({ cls := "MaltDrumsModel", name := "restore", desc := "()I" } : Jvm.MethodName)) ∈ lw_all := lw_g (lw_at lw_m8 66 rfl) rfl
theorem q1811 : (Jvm.Cond.selects "MaltDrumsModel" ({ cls := "MaltDrumsModel", name := "restore", desc := "()I" } : Jvm.MethodName) ({ cls := "MaltDrumsModel", name := "restore", desc := "()I" } : Jvm.MethodName)) ∈ lw_all := lw_g (lw_at lw_m8 67 rfl) rfl
theorem q1812 : (Jvm.Cond.code ({ cls := "MaltDrumsModel", name := "restore", desc := "()I" } : Jvm.MethodName) prog_11_method_16_code (1 : Nat) (Option.some Jvm.ClassFile.FieldType.int)) ∈ lw_all := lw_g (lw_at lw_m8 68 rfl) rfl
theorem q1813 : (Jvm.Cond.methodLink "MaltDrumsModel" (48 : Nat) ({ cls := "MaltDrumsModel", name := "record", desc := "()V" } : Jvm.MethodName)) ∈ lw_all := lw_g (lw_at lw_m8 69 rfl) rfl
theorem q1814 : (Jvm.Cond.privateMethod ({ cls := "MaltDrumsModel", name := "record", desc := "()V" } : Jvm.MethodName)) ∈ lw_tbl := lw_at lw_m8 70 rfl
theorem q1815 : (Jvm.Cond.instanceMethod ({ cls := "MaltDrumsModel", name := "record", desc := "()V" } : Jvm.MethodName)) ∈ lw_all := lw_g (lw_at lw_m8 71 rfl) rfl
theorem q1816 : (Jvm.Cond.code ({ cls := "MaltDrumsModel", name := "record", desc := "()V" } : Jvm.MethodName) prog_11_method_12_code (2 : Nat) (Option.none : Option Jvm.ClassFile.FieldType)) ∈ lw_all := lw_g (lw_at lw_m8 72 rfl) rfl
theorem q1818 : (Jvm.Cond.instanceMethod ({ cls := "MaltDrumsModel", name := "add", desc := "(I)I" } : Jvm.MethodName)) ∈ lw_all := lw_g (lw_at lw_m8 74 rfl) rfl
theorem q1819 : (Jvm.Cond.selects "MaltDrumsModel" ({ cls := "MaltDrumsModel", name := "add", desc := "(I)I" } : Jvm.MethodName) ({ cls := "MaltDrumsModel", name := "add", desc := "(I)I" } : Jvm.MethodName)) ∈ lw_all := lw_g (lw_at lw_m8 75 rfl) rfl
theorem q1820 : (Jvm.Cond.code ({ cls := "MaltDrumsModel", name := "add", desc := "(I)I" } : Jvm.MethodName) prog_11_method_38_code (2 : Nat) (Option.some Jvm.ClassFile.FieldType.int)) ∈ lw_all := lw_g (lw_at lw_m8 76 rfl) rfl
theorem q1821 : (Jvm.Cond.methodLink "MaltDrumsModel" (29 : Nat) ({ cls := "MaltDrumsModel", name := "in", desc := "(III)Z" } : Jvm.MethodName)) ∈ lw_all := lw_g (lw_at lw_m8 77 rfl) rfl
theorem q1822 : (Jvm.Cond.static ({ cls := "MaltDrumsModel", name := "in", desc := "(III)Z" } : Jvm.MethodName)) ∈ lw_all := lw_g (lw_at lw_m8 78 rfl) rfl
theorem q1823 : (Jvm.Cond.code ({ cls := "MaltDrumsModel", name := "in", desc := "(III)Z" } : Jvm.MethodName) prog_11_method_3_code (3 : Nat) (Option.some Jvm.ClassFile.FieldType.boolean)) ∈ lw_all := lw_g (lw_at lw_m8 79 rfl) rfl
theorem q1824 : (Jvm.Cond.methodLink "MaltDrumsModel" (109 : Nat) ({ cls := "MaltDrumsModel", name := "adds", desc := "(I)V" } : Jvm.MethodName)) ∈ lw_all := lw_g (lw_at lw_m8 80 rfl) rfl
theorem q1825 : (Jvm.Cond.privateMethod ({ cls := "MaltDrumsModel", name := "adds", desc := "(I)V" } : Jvm.MethodName)) ∈ lw_tbl := lw_at lw_m8 81 rfl
theorem q1826 : (Jvm.Cond.instanceMethod ({ cls := "MaltDrumsModel", name := "adds", desc := "(I)V" } : Jvm.MethodName)) ∈ lw_all := lw_g (lw_at lw_m8 82 rfl) rfl
theorem q1827 : (Jvm.Cond.code ({ cls := "MaltDrumsModel", name := "adds", desc := "(I)V" } : Jvm.MethodName) prog_11_method_37_code (4 : Nat) (Option.none : Option Jvm.ClassFile.FieldType)) ∈ lw_all := lw_g (lw_at lw_m8 83 rfl) rfl
theorem q1828 : (Jvm.Cond.methodLink "MaltDrumsModel" (71 : Nat) ({ cls := "MaltDrumsModel", name := "sets", desc := "(III)V" } : Jvm.MethodName)) ∈ lw_all := lw_g (lw_at lw_m8 84 rfl) rfl
theorem q1829 : (Jvm.Cond.privateMethod ({ cls := "MaltDrumsModel", name := "sets", desc := "(III)V" } : Jvm.MethodName)) ∈ lw_tbl := lw_at lw_m8 85 rfl
theorem q1830 : (Jvm.Cond.instanceMethod ({ cls := "MaltDrumsModel", name := "sets", desc := "(III)V" } : Jvm.MethodName)) ∈ lw_all := lw_g (lw_at lw_m8 86 rfl) rfl
theorem q1831 : (Jvm.Cond.code ({ cls := "MaltDrumsModel", name := "sets", desc := "(III)V" } : Jvm.MethodName) prog_11_method_8_code (4 : Nat) (Option.none : Option Jvm.ClassFile.FieldType)) ∈ lw_all := lw_g (lw_at lw_m8 87 rfl) rfl
theorem q1833 : (Jvm.Cond.instanceMethod ({ cls := "MaltDrumsModel", name := "steep", desc := "(I)I" } : Jvm.MethodName)) ∈ lw_all := lw_g (lw_at lw_m8 89 rfl) rfl
theorem q1834 : (Jvm.Cond.selects "MaltDrumsModel" ({ cls := "MaltDrumsModel", name := "steep", desc := "(I)I" } : Jvm.MethodName) ({ cls := "MaltDrumsModel", name := "steep", desc := "(I)I" } : Jvm.MethodName)) ∈ lw_all := lw_g (lw_at lw_m8 90 rfl) rfl
theorem q1835 : (Jvm.Cond.code ({ cls := "MaltDrumsModel", name := "steep", desc := "(I)I" } : Jvm.MethodName) prog_11_method_41_code (2 : Nat) (Option.some Jvm.ClassFile.FieldType.int)) ∈ lw_all := lw_g (lw_at lw_m8 91 rfl) rfl
theorem q1836 : (Jvm.Cond.methodLink "MaltDrumsModel" (115 : Nat) ({ cls := "MaltDrumsModel", name := "isLot", desc := "(I)Z" } : Jvm.MethodName)) ∈ lw_all := lw_g (lw_at lw_m8 92 rfl) rfl
theorem q1837 : (Jvm.Cond.privateMethod ({ cls := "MaltDrumsModel", name := "isLot", desc := "(I)Z" } : Jvm.MethodName)) ∈ lw_tbl := lw_at lw_m8 93 rfl
theorem q1838 : (Jvm.Cond.instanceMethod ({ cls := "MaltDrumsModel", name := "isLot", desc := "(I)Z" } : Jvm.MethodName)) ∈ lw_all := lw_g (lw_at lw_m8 94 rfl) rfl
theorem q1839 : (Jvm.Cond.code ({ cls := "MaltDrumsModel", name := "isLot", desc := "(I)Z" } : Jvm.MethodName) prog_11_method_5_code (2 : Nat) (Option.some Jvm.ClassFile.FieldType.boolean)) ∈ lw_all := lw_g (lw_at lw_m8 95 rfl) rfl
theorem q1840 : (Jvm.Cond.methodLink "MaltDrumsModel" (118 : Nat) ({ cls := "MaltDrumsModel", name := "noSteep", desc := "(I)I" } : Jvm.MethodName)) ∈ lw_all := lw_g (lw_at lw_m8 96 rfl) rfl
theorem q1841 : (Jvm.Cond.privateMethod ({ cls := "MaltDrumsModel", name := "noSteep", desc := "(I)I" } : Jvm.MethodName)) ∈ lw_tbl := lw_at lw_m8 97 rfl
theorem q1842 : (Jvm.Cond.instanceMethod ({ cls := "MaltDrumsModel", name := "noSteep", desc := "(I)I" } : Jvm.MethodName)) ∈ lw_all := lw_g (lw_at lw_m8 98 rfl) rfl
theorem q1843 : (Jvm.Cond.code ({ cls := "MaltDrumsModel", name := "noSteep", desc := "(I)I" } : Jvm.MethodName) prog_11_method_31_code (2 : Nat) (Option.some Jvm.ClassFile.FieldType.int)) ∈ lw_all := lw_g (lw_at lw_m8 99 rfl) rfl
theorem q1844 : (Jvm.Cond.methodLink "MaltDrumsModel" (51 : Nat) ({ cls := "MaltDrumsModel", name := "of", desc := "(II)I" } : Jvm.MethodName)) ∈ lw_all := lw_g (lw_at lw_m8 100 rfl) rfl
theorem q1845 : (Jvm.Cond.privateMethod ({ cls := "MaltDrumsModel", name := "of", desc := "(II)I" } : Jvm.MethodName)) ∈ lw_tbl := lw_at lw_m8 101 rfl
theorem q1846 : (Jvm.Cond.instanceMethod ({ cls := "MaltDrumsModel", name := "of", desc := "(II)I" } : Jvm.MethodName)) ∈ lw_all := lw_g (lw_at lw_m8 102 rfl) rfl
theorem q1847 : (Jvm.Cond.code ({ cls := "MaltDrumsModel", name := "of", desc := "(II)I" } : Jvm.MethodName) prog_11_method_7_code (3 : Nat) (Option.some Jvm.ClassFile.FieldType.int)) ∈ lw_all := lw_g (lw_at lw_m8 103 rfl) rfl
theorem q1848 : (Jvm.Cond.methodLink "MaltDrumsModel" (82 : Nat) ({ cls := "MaltDrumsModel", name := "countIn", desc := "(I)I" } : Jvm.MethodName)) ∈ lw_all := lw_g (lw_at lw_m8 104 rfl) rfl
theorem q1849 : (Jvm.Cond.privateMethod ({ cls := "MaltDrumsModel", name := "countIn", desc := "(I)I" } : Jvm.MethodName)) ∈ lw_tbl := lw_at lw_m8 105 rfl
theorem q1850 : (Jvm.Cond.instanceMethod ({ cls := "MaltDrumsModel", name := "countIn", desc := "(I)I" } : Jvm.MethodName)) ∈ lw_all := lw_g (lw_at lw_m8 106 rfl) rfl
theorem q1851 : (Jvm.Cond.code ({ cls := "MaltDrumsModel", name := "countIn", desc := "(I)I" } : Jvm.MethodName) prog_11_method_17_code (4 : Nat) (Option.some Jvm.ClassFile.FieldType.int)) ∈ lw_all := lw_g (lw_at lw_m8 107 rfl) rfl
theorem q1852 : (Jvm.Cond.methodLink "MaltDrumsModel" (121 : Nat) ({ cls := "MaltDrumsModel", name := "steeps", desc := "(I)V" } : Jvm.MethodName)) ∈ lw_all := lw_g (lw_at lw_m8 108 rfl) rfl
theorem q1853 : (Jvm.Cond.privateMethod ({ cls := "MaltDrumsModel", name := "steeps", desc := "(I)V" } : Jvm.MethodName)) ∈ lw_tbl := lw_at lw_m8 109 rfl
theorem q1854 : (Jvm.Cond.instanceMethod ({ cls := "MaltDrumsModel", name := "steeps", desc := "(I)V" } : Jvm.MethodName)) ∈ lw_all := lw_g (lw_at lw_m8 110 rfl) rfl
theorem q1855 : (Jvm.Cond.code ({ cls := "MaltDrumsModel", name := "steeps", desc := "(I)V" } : Jvm.MethodName) prog_11_method_40_code (2 : Nat) (Option.none : Option Jvm.ClassFile.FieldType)) ∈ lw_all := lw_g (lw_at lw_m8 111 rfl) rfl
theorem q1856 : (Jvm.Cond.methodLink "MaltDrumsModel" (112 : Nat) ({ cls := "MaltDrumsModel", name := "brings", desc := "(III)V" } : Jvm.MethodName)) ∈ lw_all := lw_g (lw_at lw_m8 112 rfl) rfl
theorem q1857 : (Jvm.Cond.privateMethod ({ cls := "MaltDrumsModel", name := "brings", desc := "(III)V" } : Jvm.MethodName)) ∈ lw_tbl := lw_at lw_m8 113 rfl
theorem q1858 : (Jvm.Cond.instanceMethod ({ cls := "MaltDrumsModel", name := "brings", desc := "(III)V" } : Jvm.MethodName)) ∈ lw_all := lw_g (lw_at lw_m8 114 rfl) rfl
theorem q1859 : (Jvm.Cond.code ({ cls := "MaltDrumsModel", name := "brings", desc := "(III)V" } : Jvm.MethodName) prog_11_method_39_code (4 : Nat) (Option.none : Option Jvm.ClassFile.FieldType)) ∈ lw_all := lw_g (lw_at lw_m8 115 rfl) rfl
theorem q1860 : (Jvm.Cond.methodLink "MaltDrumsModel" (75 : Nat) ({ cls := "MaltDrumsModel", name := "books", desc := "(II)V" } : Jvm.MethodName)) ∈ lw_all := lw_g (lw_at lw_m8 116 rfl) rfl
theorem q1861 : (Jvm.Cond.privateMethod ({ cls := "MaltDrumsModel", name := "books", desc := "(II)V" } : Jvm.MethodName)) ∈ lw_tbl := lw_at lw_m8 117 rfl
theorem q1862 : (Jvm.Cond.instanceMethod ({ cls := "MaltDrumsModel", name := "books", desc := "(II)V" } : Jvm.MethodName)) ∈ lw_all := lw_g (lw_at lw_m8 118 rfl) rfl
theorem q1863 : (Jvm.Cond.code ({ cls := "MaltDrumsModel", name := "books", desc := "(II)V" } : Jvm.MethodName) prog_11_method_22_code (4 : Nat) (Option.none : Option Jvm.ClassFile.FieldType)) ∈ lw_all := lw_g (lw_at lw_m8 119 rfl) rfl
theorem q1864 : (Jvm.Cond.methodLink "MaltDrumsModel" (59 : Nat) ({ cls := "MaltDrumsModel", name := "least", desc := "(II)I" } : Jvm.MethodName)) ∈ lw_all := lw_g (lw_at lw_m8 120 rfl) rfl
theorem q1865 : (Jvm.Cond.static ({ cls := "MaltDrumsModel", name := "least", desc := "(II)I" } : Jvm.MethodName)) ∈ lw_all := lw_g (lw_at lw_m8 121 rfl) rfl
theorem q1866 : (Jvm.Cond.code ({ cls := "MaltDrumsModel", name := "least", desc := "(II)I" } : Jvm.MethodName) prog_11_method_9_code (2 : Nat) (Option.some Jvm.ClassFile.FieldType.int)) ∈ lw_all := lw_g (lw_at lw_m8 122 rfl) rfl
theorem q1868 : (Jvm.Cond.instanceMethod ({ cls := "MaltDrumsModel", name := "toDrum", desc := "(II)I" } : Jvm.MethodName)) ∈ lw_all := lw_g (lw_at lw_m8 124 rfl) rfl
theorem q1869 : (Jvm.Cond.selects "MaltDrumsModel" ({ cls := "MaltDrumsModel", name := "toDrum", desc := "(II)I" } : Jvm.MethodName) ({ cls := "MaltDrumsModel", name := "toDrum", desc := "(II)I" } : Jvm.MethodName)) ∈ lw_all := lw_g (lw_at lw_m8 125 rfl) rfl
theorem q1870 : (Jvm.Cond.code ({ cls := "MaltDrumsModel", name := "toDrum", desc := "(II)I" } : Jvm.MethodName) prog_11_method_42_code (4 : Nat) (Option.some Jvm.ClassFile.FieldType.int)) ∈ lw_all := lw_g (lw_at lw_m8 126 rfl) rfl
theorem q1871 : (Jvm.Cond.methodLink "MaltDrumsModel" (124 : Nat) ({ cls := "MaltDrumsModel", name := "isDrum", desc := "(I)Z" } : Jvm.MethodName)) ∈ lw_all := lw_g (lw_at lw_m8 127 rfl) rfl
theorem q1872 : (Jvm.Cond.static ({ cls := "MaltDrumsModel", name := "isDrum", desc := "(I)Z" } : Jvm.MethodName)) ∈ lw_all := lw_g (lw_at lw_m8 128 rfl) rfl
theorem q1873 : (Jvm.Cond.code ({ cls := "MaltDrumsModel", name := "isDrum", desc := "(I)Z" } : Jvm.MethodName) prog_11_method_6_code (1 : Nat) (Option.some Jvm.ClassFile.FieldType.boolean)) ∈ lw_all := lw_g (lw_at lw_m8 129 rfl) rfl
theorem q1874 : (Jvm.Cond.methodLink "MaltDrumsModel" (127 : Nat) ({ cls := "MaltDrumsModel", name := "noDrum", desc := "(II)I" } : Jvm.MethodName)) ∈ lw_all := lw_g (lw_at lw_m8 130 rfl) rfl
theorem q1875 : (Jvm.Cond.privateMethod ({ cls := "MaltDrumsModel", name := "noDrum", desc := "(II)I" } : Jvm.MethodName)) ∈ lw_tbl := lw_at lw_m8 131 rfl
theorem q1876 : (Jvm.Cond.instanceMethod ({ cls := "MaltDrumsModel", name := "noDrum", desc := "(II)I" } : Jvm.MethodName)) ∈ lw_all := lw_g (lw_at lw_m8 132 rfl) rfl
theorem q1877 : (Jvm.Cond.code ({ cls := "MaltDrumsModel", name := "noDrum", desc := "(II)I" } : Jvm.MethodName) prog_11_method_32_code (3 : Nat) (Option.some Jvm.ClassFile.FieldType.int)) ∈ lw_all := lw_g (lw_at lw_m8 133 rfl) rfl
theorem q1878 : (Jvm.Cond.methodLink "MaltDrumsModel" (99 : Nat) ({ cls := "MaltDrumsModel", name := "isGrowing", desc := "(I)Z" } : Jvm.MethodName)) ∈ lw_all := lw_g (lw_at lw_m8 134 rfl) rfl
theorem q1879 : (Jvm.Cond.privateMethod ({ cls := "MaltDrumsModel", name := "isGrowing", desc := "(I)Z" } : Jvm.MethodName)) ∈ lw_tbl := lw_at lw_m8 135 rfl
theorem q1880 : (Jvm.Cond.instanceMethod ({ cls := "MaltDrumsModel", name := "isGrowing", desc := "(I)Z" } : Jvm.MethodName)) ∈ lw_all := lw_g (lw_at lw_m8 136 rfl) rfl
theorem q1881 : (Jvm.Cond.code ({ cls := "MaltDrumsModel", name := "isGrowing", desc := "(I)Z" } : Jvm.MethodName) prog_11_method_18_code (2 : Nat) (Option.some Jvm.ClassFile.FieldType.boolean)) ∈ lw_all := lw_g (lw_at lw_m8 137 rfl) rfl
theorem q1882 : (Jvm.Cond.methodLink "MaltDrumsModel" (103 : Nat) ({ cls := "MaltDrumsModel", name := "inDrum", desc := "(I)I" } : Jvm.MethodName)) ∈ lw_all := lw_g (lw_at lw_m8 138 rfl) rfl
theorem q1883 : (Jvm.Cond.privateMethod ({ cls := "MaltDrumsModel", name := "inDrum", desc := "(I)I" } : Jvm.MethodName)) ∈ lw_tbl := lw_at lw_m8 139 rfl
theorem q1884 : (Jvm.Cond.instanceMethod ({ cls := "MaltDrumsModel", name := "inDrum", desc := "(I)I" } : Jvm.MethodName)) ∈ lw_all := lw_g (lw_at lw_m8 140 rfl) rfl
theorem q1885 : (Jvm.Cond.code ({ cls := "MaltDrumsModel", name := "inDrum", desc := "(I)I" } : Jvm.MethodName) prog_11_method_21_code (4 : Nat) (Option.some Jvm.ClassFile.FieldType.int)) ∈ lw_all := lw_g (lw_at lw_m8 141 rfl) rfl
theorem q1887 : (Jvm.Cond.instanceMethod ({ cls := "MaltDrumsModel", name := "toHeap", desc := "(I)I" } : Jvm.MethodName)) ∈ lw_all := lw_g (lw_at lw_m8 143 rfl) rfl
theorem q1888 : (Jvm.Cond.selects "MaltDrumsModel" ({ cls := "MaltDrumsModel", name := "toHeap", desc := "(I)I" } : Jvm.MethodName) ({ cls := "MaltDrumsModel", name := "toHeap", desc := "(I)I" } : Jvm.MethodName)) ∈ lw_all := lw_g (lw_at lw_m8 144 rfl) rfl
theorem q1889 : (Jvm.Cond.code ({ cls := "MaltDrumsModel", name := "toHeap", desc := "(I)I" } : Jvm.MethodName) prog_11_method_43_code (2 : Nat) (Option.some Jvm.ClassFile.FieldType.int)) ∈ lw_all := lw_g (lw_at lw_m8 145 rfl) rfl
theorem q1890 : (Jvm.Cond.methodLink "MaltDrumsModel" (130 : Nat) ({ cls := "MaltDrumsModel", name := "canHeap", desc := "(I)Z" } : Jvm.MethodName)) ∈ lw_all := lw_g (lw_at lw_m8 146 rfl) rfl
theorem q1891 : (Jvm.Cond.privateMethod ({ cls := "MaltDrumsModel", name := "canHeap", desc := "(I)Z" } : Jvm.MethodName)) ∈ lw_tbl := lw_at lw_m8 147 rfl
theorem q1892 : (Jvm.Cond.instanceMethod ({ cls := "MaltDrumsModel", name := "canHeap", desc := "(I)Z" } : Jvm.MethodName)) ∈ lw_all := lw_g (lw_at lw_m8 148 rfl) rfl
theorem q1893 : (Jvm.Cond.code ({ cls := "MaltDrumsModel", name := "canHeap", desc := "(I)Z" } : Jvm.MethodName) prog_11_method_35_code (2 : Nat) (Option.some Jvm.ClassFile.FieldType.boolean)) ∈ lw_all := lw_g (lw_at lw_m8 149 rfl) rfl
theorem q1895 : (Jvm.Cond.instanceMethod ({ cls := "MaltDrumsModel", name := "load", desc := "(I)I" } : Jvm.MethodName)) ∈ lw_all := lw_g (lw_at lw_m8 151 rfl) rfl
theorem q1896 : (Jvm.Cond.selects "MaltDrumsModel" ({ cls := "MaltDrumsModel", name := "load", desc := "(I)I" } : Jvm.MethodName) ({ cls := "MaltDrumsModel", name := "load", desc := "(I)I" } : Jvm.MethodName)) ∈ lw_all := lw_g (lw_at lw_m8 152 rfl) rfl
theorem q1897 : (Jvm.Cond.code ({ cls := "MaltDrumsModel", name := "load", desc := "(I)I" } : Jvm.MethodName) prog_11_method_44_code (2 : Nat) (Option.some Jvm.ClassFile.FieldType.int)) ∈ lw_all := lw_g (lw_at lw_m8 153 rfl) rfl
theorem q1898 : (Jvm.Cond.methodLink "MaltDrumsModel" (133 : Nat) ({ cls := "MaltDrumsModel", name := "noLoad", desc := "(I)I" } : Jvm.MethodName)) ∈ lw_all := lw_g (lw_at lw_m8 154 rfl) rfl
theorem q1899 : (Jvm.Cond.privateMethod ({ cls := "MaltDrumsModel", name := "noLoad", desc := "(I)I" } : Jvm.MethodName)) ∈ lw_tbl := lw_at lw_m8 155 rfl
theorem q1900 : (Jvm.Cond.instanceMethod ({ cls := "MaltDrumsModel", name := "noLoad", desc := "(I)I" } : Jvm.MethodName)) ∈ lw_all := lw_g (lw_at lw_m8 156 rfl) rfl
theorem q1901 : (Jvm.Cond.code ({ cls := "MaltDrumsModel", name := "noLoad", desc := "(I)I" } : Jvm.MethodName) prog_11_method_33_code (2 : Nat) (Option.some Jvm.ClassFile.FieldType.int)) ∈ lw_all := lw_g (lw_at lw_m8 157 rfl) rfl
theorem q1902 : (Jvm.Cond.methodLink "MaltDrumsModel" (106 : Nat) ({ cls := "MaltDrumsModel", name := "weightIn", desc := "(I)I" } : Jvm.MethodName)) ∈ lw_all := lw_g (lw_at lw_m8 158 rfl) rfl
theorem q1903 : (Jvm.Cond.privateMethod ({ cls := "MaltDrumsModel", name := "weightIn", desc := "(I)I" } : Jvm.MethodName)) ∈ lw_tbl := lw_at lw_m8 159 rfl
theorem q1904 : (Jvm.Cond.instanceMethod ({ cls := "MaltDrumsModel", name := "weightIn", desc := "(I)I" } : Jvm.MethodName)) ∈ lw_all := lw_g (lw_at lw_m8 160 rfl) rfl
theorem q1905 : (Jvm.Cond.code ({ cls := "MaltDrumsModel", name := "weightIn", desc := "(I)I" } : Jvm.MethodName) prog_11_method_20_code (4 : Nat) (Option.some Jvm.ClassFile.FieldType.int)) ∈ lw_all := lw_g (lw_at lw_m8 161 rfl) rfl
theorem q1906 : (Jvm.Cond.methodLink "MaltDrumsModel" (55 : Nat) ({ cls := "MaltDrumsModel", name := "weight", desc := "(I)I" } : Jvm.MethodName)) ∈ lw_all := lw_g (lw_at lw_m8 162 rfl) rfl
theorem q1907 : (Jvm.Cond.privateMethod ({ cls := "MaltDrumsModel", name := "weight", desc := "(I)I" } : Jvm.MethodName)) ∈ lw_tbl := lw_at lw_m8 163 rfl
theorem q1908 : (Jvm.Cond.instanceMethod ({ cls := "MaltDrumsModel", name := "weight", desc := "(I)I" } : Jvm.MethodName)) ∈ lw_all := lw_g (lw_at lw_m8 164 rfl) rfl
theorem q1909 : (Jvm.Cond.code ({ cls := "MaltDrumsModel", name := "weight", desc := "(I)I" } : Jvm.MethodName) prog_11_method_19_code (2 : Nat) (Option.some Jvm.ClassFile.FieldType.int)) ∈ lw_all := lw_g (lw_at lw_m8 165 rfl) rfl
theorem q1911 : (Jvm.Cond.instanceMethod ({ cls := "MaltDrumsModel", name := "light", desc := "()I" } : Jvm.MethodName)) ∈ lw_all := lw_g (lw_at lw_m8 167 rfl) rfl
theorem q1912 : (Jvm.Cond.selects "MaltDrumsModel" ({ cls := "MaltDrumsModel", name := "light", desc := "()I" } : Jvm.MethodName) ({ cls := "MaltDrumsModel", name := "light", desc := "()I" } : Jvm.MethodName)) ∈ lw_all := lw_g (lw_at lw_m8 168 rfl) rfl
theorem q1913 : (Jvm.Cond.code ({ cls := "MaltDrumsModel", name := "light", desc := "()I" } : Jvm.MethodName) prog_11_method_45_code (1 : Nat) (Option.some Jvm.ClassFile.FieldType.int)) ∈ lw_all := lw_g (lw_at lw_m8 169 rfl) rfl
theorem q1914 : (Jvm.Cond.methodLink "MaltDrumsModel" (136 : Nat) ({ cls := "MaltDrumsModel", name := "canLight", desc := "()Z" } : Jvm.MethodName)) ∈ lw_all := lw_g (lw_at lw_m8 170 rfl) rfl
theorem q1915 : (Jvm.Cond.privateMethod ({ cls := "MaltDrumsModel", name := "canLight", desc := "()Z" } : Jvm.MethodName)) ∈ lw_tbl := lw_at lw_m8 171 rfl
theorem q1916 : (Jvm.Cond.instanceMethod ({ cls := "MaltDrumsModel", name := "canLight", desc := "()Z" } : Jvm.MethodName)) ∈ lw_all := lw_g (lw_at lw_m8 172 rfl) rfl
theorem q1917 : (Jvm.Cond.code ({ cls := "MaltDrumsModel", name := "canLight", desc := "()Z" } : Jvm.MethodName) prog_11_method_36_code (1 : Nat) (Option.some Jvm.ClassFile.FieldType.boolean)) ∈ lw_all := lw_g (lw_at lw_m8 173 rfl) rfl
theorem q1919 : (Jvm.Cond.instanceMethod ({ cls := "MaltDrumsModel", name := "spray", desc := "(I)I" } : Jvm.MethodName)) ∈ lw_all := lw_g (lw_at lw_m8 175 rfl) rfl
theorem q1920 : (Jvm.Cond.selects "MaltDrumsModel" ({ cls := "MaltDrumsModel", name := "spray", desc := "(I)I" } : Jvm.MethodName) ({ cls := "MaltDrumsModel", name := "spray", desc := "(I)I" } : Jvm.MethodName)) ∈ lw_all := lw_g (lw_at lw_m8 176 rfl) rfl
theorem q1921 : (Jvm.Cond.code ({ cls := "MaltDrumsModel", name := "spray", desc := "(I)I" } : Jvm.MethodName) prog_11_method_47_code (2 : Nat) (Option.some Jvm.ClassFile.FieldType.int)) ∈ lw_all := lw_g (lw_at lw_m8 177 rfl) rfl
theorem q1922 : (Jvm.Cond.methodLink "MaltDrumsModel" (140 : Nat) ({ cls := "MaltDrumsModel", name := "noSpray", desc := "(I)I" } : Jvm.MethodName)) ∈ lw_all := lw_g (lw_at lw_m8 178 rfl) rfl
theorem q1923 : (Jvm.Cond.privateMethod ({ cls := "MaltDrumsModel", name := "noSpray", desc := "(I)I" } : Jvm.MethodName)) ∈ lw_tbl := lw_at lw_m8 179 rfl
theorem q1924 : (Jvm.Cond.instanceMethod ({ cls := "MaltDrumsModel", name := "noSpray", desc := "(I)I" } : Jvm.MethodName)) ∈ lw_all := lw_g (lw_at lw_m8 180 rfl) rfl
theorem q1925 : (Jvm.Cond.code ({ cls := "MaltDrumsModel", name := "noSpray", desc := "(I)I" } : Jvm.MethodName) prog_11_method_34_code (2 : Nat) (Option.some Jvm.ClassFile.FieldType.int)) ∈ lw_all := lw_g (lw_at lw_m8 181 rfl) rfl
theorem q1926 : (Jvm.Cond.methodLink "MaltDrumsModel" (65 : Nat) ({ cls := "MaltDrumsModel", name := "setting", desc := "(II)I" } : Jvm.MethodName)) ∈ lw_all := lw_g (lw_at lw_m8 182 rfl) rfl
theorem q1927 : (Jvm.Cond.privateMethod ({ cls := "MaltDrumsModel", name := "setting", desc := "(II)I" } : Jvm.MethodName)) ∈ lw_tbl := lw_at lw_m8 183 rfl
theorem q1928 : (Jvm.Cond.instanceMethod ({ cls := "MaltDrumsModel", name := "setting", desc := "(II)I" } : Jvm.MethodName)) ∈ lw_all := lw_g (lw_at lw_m8 184 rfl) rfl
theorem q1929 : (Jvm.Cond.code ({ cls := "MaltDrumsModel", name := "setting", desc := "(II)I" } : Jvm.MethodName) prog_11_method_23_code (3 : Nat) (Option.some Jvm.ClassFile.FieldType.int)) ∈ lw_all := lw_g (lw_at lw_m8 185 rfl) rfl
theorem q1930 : (Jvm.Cond.methodLink "MaltDrumsModel" (143 : Nat) ({ cls := "MaltDrumsModel", name := "wets", desc := "(I)V" } : Jvm.MethodName)) ∈ lw_all := lw_g (lw_at lw_m8 186 rfl) rfl
theorem q1931 : (Jvm.Cond.privateMethod ({ cls := "MaltDrumsModel", name := "wets", desc := "(I)V" } : Jvm.MethodName)) ∈ lw_tbl := lw_at lw_m8 187 rfl
theorem q1932 : (Jvm.Cond.instanceMethod ({ cls := "MaltDrumsModel", name := "wets", desc := "(I)V" } : Jvm.MethodName)) ∈ lw_all := lw_g (lw_at lw_m8 188 rfl) rfl
theorem q1933 : (Jvm.Cond.code ({ cls := "MaltDrumsModel", name := "wets", desc := "(I)V" } : Jvm.MethodName) prog_11_method_46_code (4 : Nat) (Option.none : Option Jvm.ClassFile.FieldType)) ∈ lw_all := lw_g (lw_at lw_m8 189 rfl) rfl
theorem q1934 : (Jvm.Cond.methodLink "MaltDrumsModel" (68 : Nat) ({ cls := "MaltDrumsModel", name := "most", desc := "(II)I" } : Jvm.MethodName)) ∈ lw_all := lw_g (lw_at lw_m8 190 rfl) rfl
theorem q1935 : (Jvm.Cond.static ({ cls := "MaltDrumsModel", name := "most", desc := "(II)I" } : Jvm.MethodName)) ∈ lw_all := lw_g (lw_at lw_m8 191 rfl) rfl
theorem q1936 : (Jvm.Cond.code ({ cls := "MaltDrumsModel", name := "most", desc := "(II)I" } : Jvm.MethodName) prog_11_method_10_code (2 : Nat) (Option.some Jvm.ClassFile.FieldType.int)) ∈ lw_all := lw_g (lw_at lw_m8 192 rfl) rfl
theorem q1938 : (Jvm.Cond.instanceMethod ({ cls := "MaltDrumsModel", name := "setAir", desc := "(II)I" } : Jvm.MethodName)) ∈ lw_all := lw_g (lw_at lw_m8 194 rfl) rfl
theorem q1939 : (Jvm.Cond.selects "MaltDrumsModel" ({ cls := "MaltDrumsModel", name := "setAir", desc := "(II)I" } : Jvm.MethodName) ({ cls := "MaltDrumsModel", name := "setAir", desc := "(II)I" } : Jvm.MethodName)) ∈ lw_all := lw_g (lw_at lw_m8 195 rfl) rfl
theorem q1940 : (Jvm.Cond.code ({ cls := "MaltDrumsModel", name := "setAir", desc := "(II)I" } : Jvm.MethodName) prog_11_method_49_code (3 : Nat) (Option.some Jvm.ClassFile.FieldType.int)) ∈ lw_all := lw_g (lw_at lw_m8 196 rfl) rfl
theorem q1941 : (Jvm.Cond.methodLink "MaltDrumsModel" (146 : Nat) ({ cls := "MaltDrumsModel", name := "changes", desc := "(III)I" } : Jvm.MethodName)) ∈ lw_all := lw_g (lw_at lw_m8 197 rfl) rfl
theorem q1942 : (Jvm.Cond.privateMethod ({ cls := "MaltDrumsModel", name := "changes", desc := "(III)I" } : Jvm.MethodName)) ∈ lw_tbl := lw_at lw_m8 198 rfl
theorem q1943 : (Jvm.Cond.instanceMethod ({ cls := "MaltDrumsModel", name := "changes", desc := "(III)I" } : Jvm.MethodName)) ∈ lw_all := lw_g (lw_at lw_m8 199 rfl) rfl
theorem q1944 : (Jvm.Cond.code ({ cls := "MaltDrumsModel", name := "changes", desc := "(III)I" } : Jvm.MethodName) prog_11_method_48_code (5 : Nat) (Option.some Jvm.ClassFile.FieldType.int)) ∈ lw_all := lw_g (lw_at lw_m8 200 rfl) rfl
theorem q1946 : (Jvm.Cond.instanceMethod ({ cls := "MaltDrumsModel", name := "setDew", desc := "(II)I" } : Jvm.MethodName)) ∈ lw_all := lw_g (lw_at lw_m8 202 rfl) rfl
theorem q1947 : (Jvm.Cond.selects "MaltDrumsModel" ({ cls := "MaltDrumsModel", name := "setDew", desc := "(II)I" } : Jvm.MethodName) ({ cls := "MaltDrumsModel", name := "setDew", desc := "(II)I" } : Jvm.MethodName)) ∈ lw_all := lw_g (lw_at lw_m8 203 rfl) rfl
theorem q1948 : (Jvm.Cond.code ({ cls := "MaltDrumsModel", name := "setDew", desc := "(II)I" } : Jvm.MethodName) prog_11_method_50_code (3 : Nat) (Option.some Jvm.ClassFile.FieldType.int)) ∈ lw_all := lw_g (lw_at lw_m8 204 rfl) rfl
theorem q1950 : (Jvm.Cond.instanceMethod ({ cls := "MaltDrumsModel", name := "setTurn", desc := "(II)I" } : Jvm.MethodName)) ∈ lw_all := lw_g (lw_at lw_m8 206 rfl) rfl
theorem q1951 : (Jvm.Cond.selects "MaltDrumsModel" ({ cls := "MaltDrumsModel", name := "setTurn", desc := "(II)I" } : Jvm.MethodName) ({ cls := "MaltDrumsModel", name := "setTurn", desc := "(II)I" } : Jvm.MethodName)) ∈ lw_all := lw_g (lw_at lw_m8 207 rfl) rfl
theorem q1952 : (Jvm.Cond.code ({ cls := "MaltDrumsModel", name := "setTurn", desc := "(II)I" } : Jvm.MethodName) prog_11_method_51_code (3 : Nat) (Option.some Jvm.ClassFile.FieldType.int)) ∈ lw_all := lw_g (lw_at lw_m8 208 rfl) rfl
theorem q1954 : (Jvm.Cond.instanceMethod ({ cls := "MaltDrumsModel", name := "setHeats", desc := "(II)I" } : Jvm.MethodName)) ∈ lw_all := lw_g (lw_at lw_m8 210 rfl) rfl
theorem q1955 : (Jvm.Cond.selects "MaltDrumsModel" ({ cls := "MaltDrumsModel", name := "setHeats", desc := "(II)I" } : Jvm.MethodName) ({ cls := "MaltDrumsModel", name := "setHeats", desc := "(II)I" } : Jvm.MethodName)) ∈ lw_all := lw_g (lw_at lw_m8 211 rfl) rfl
theorem q1956 : (Jvm.Cond.code ({ cls := "MaltDrumsModel", name := "setHeats", desc := "(II)I" } : Jvm.MethodName) prog_11_method_52_code (4 : Nat) (Option.some Jvm.ClassFile.FieldType.int)) ∈ lw_all := lw_g (lw_at lw_m8 212 rfl) rfl
theorem q1958 : (Jvm.Cond.instanceMethod ({ cls := "MaltDrumsModel", name := "setSprays", desc := "(I)I" } : Jvm.MethodName)) ∈ lw_all := lw_g (lw_at lw_m8 214 rfl) rfl
theorem q1959 : (Jvm.Cond.selects "MaltDrumsModel" ({ cls := "MaltDrumsModel", name := "setSprays", desc := "(I)I" } : Jvm.MethodName) ({ cls := "MaltDrumsModel", name := "setSprays", desc := "(I)I" } : Jvm.MethodName)) ∈ lw_all := lw_g (lw_at lw_m8 215 rfl) rfl
theorem q1960 : (Jvm.Cond.code ({ cls := "MaltDrumsModel", name := "setSprays", desc := "(I)I" } : Jvm.MethodName) prog_11_method_53_code (3 : Nat) (Option.some Jvm.ClassFile.FieldType.int)) ∈ lw_all := lw_g (lw_at lw_m8 216 rfl) rfl
theorem q1962 : (Jvm.Cond.instanceMethod ({ cls := "MaltDrumsModel", name := "pass", desc := "(I)I" } : Jvm.MethodName)) ∈ lw_all := lw_g (lw_at lw_m8 218 rfl) rfl
theorem q1963 : (Jvm.Cond.selects "MaltDrumsModel" ({ cls := "MaltDrumsModel", name := "pass", desc := "(I)I" } : Jvm.MethodName) ({ cls := "MaltDrumsModel", name := "pass", desc := "(I)I" } : Jvm.MethodName)) ∈ lw_all := lw_g (lw_at lw_m8 219 rfl) rfl
theorem q1964 : (Jvm.Cond.code ({ cls := "MaltDrumsModel", name := "pass", desc := "(I)I" } : Jvm.MethodName) prog_11_method_54_code (2 : Nat) (Option.some Jvm.ClassFile.FieldType.int)) ∈ lw_all := lw_g (lw_at lw_m8 220 rfl) rfl
theorem q1965 : (Jvm.Cond.methodLink "MaltDrumsModel" (150 : Nat) ({ cls := "MaltDrumsModel", name := "hours", desc := "(I)I" } : Jvm.MethodName)) ∈ lw_all := lw_g (lw_at lw_m8 221 rfl) rfl
theorem q1966 : (Jvm.Cond.privateMethod ({ cls := "MaltDrumsModel", name := "hours", desc := "(I)I" } : Jvm.MethodName)) ∈ lw_tbl := lw_at lw_m8 222 rfl
theorem q1967 : (Jvm.Cond.instanceMethod ({ cls := "MaltDrumsModel", name := "hours", desc := "(I)I" } : Jvm.MethodName)) ∈ lw_all := lw_g (lw_at lw_m8 223 rfl) rfl
theorem q1968 : (Jvm.Cond.code ({ cls := "MaltDrumsModel", name := "hours", desc := "(I)I" } : Jvm.MethodName) prog_11_method_30_code (4 : Nat) (Option.some Jvm.ClassFile.FieldType.int)) ∈ lw_all := lw_g (lw_at lw_m8 224 rfl) rfl
theorem q1969 : (Jvm.Cond.methodLink "MaltDrumsModel" (96 : Nat) ({ cls := "MaltDrumsModel", name := "hour", desc := "()I" } : Jvm.MethodName)) ∈ lw_all := lw_g (lw_at lw_m8 225 rfl) rfl
theorem q1970 : (Jvm.Cond.privateMethod ({ cls := "MaltDrumsModel", name := "hour", desc := "()I" } : Jvm.MethodName)) ∈ lw_tbl := lw_at lw_m8 226 rfl
theorem q1971 : (Jvm.Cond.instanceMethod ({ cls := "MaltDrumsModel", name := "hour", desc := "()I" } : Jvm.MethodName)) ∈ lw_all := lw_g (lw_at lw_m8 227 rfl) rfl
theorem q1972 : (Jvm.Cond.code ({ cls := "MaltDrumsModel", name := "hour", desc := "()I" } : Jvm.MethodName) prog_11_method_29_code (5 : Nat) (Option.some Jvm.ClassFile.FieldType.int)) ∈ lw_all := lw_g (lw_at lw_m8 228 rfl) rfl
theorem q1973 : (Jvm.Cond.methodLink "MaltDrumsModel" (85 : Nat) ({ cls := "MaltDrumsModel", name := "grows", desc := "(I)I" } : Jvm.MethodName)) ∈ lw_all := lw_g (lw_at lw_m8 229 rfl) rfl
theorem q1974 : (Jvm.Cond.privateMethod ({ cls := "MaltDrumsModel", name := "grows", desc := "(I)I" } : Jvm.MethodName)) ∈ lw_tbl := lw_at lw_m8 230 rfl
theorem q1975 : (Jvm.Cond.instanceMethod ({ cls := "MaltDrumsModel", name := "grows", desc := "(I)I" } : Jvm.MethodName)) ∈ lw_all := lw_g (lw_at lw_m8 231 rfl) rfl
theorem q1976 : (Jvm.Cond.code ({ cls := "MaltDrumsModel", name := "grows", desc := "(I)I" } : Jvm.MethodName) prog_11_method_25_code (11 : Nat) (Option.some Jvm.ClassFile.FieldType.int)) ∈ lw_all := lw_g (lw_at lw_m8 232 rfl) rfl
theorem q1977 : (Jvm.Cond.methodLink "MaltDrumsModel" (62 : Nat) ({ cls := "MaltDrumsModel", name := "pace", desc := "(I)I" } : Jvm.MethodName)) ∈ lw_all := lw_g (lw_at lw_m8 233 rfl) rfl
theorem q1978 : (Jvm.Cond.privateMethod ({ cls := "MaltDrumsModel", name := "pace", desc := "(I)I" } : Jvm.MethodName)) ∈ lw_tbl := lw_at lw_m8 234 rfl
theorem q1979 : (Jvm.Cond.instanceMethod ({ cls := "MaltDrumsModel", name := "pace", desc := "(I)I" } : Jvm.MethodName)) ∈ lw_all := lw_g (lw_at lw_m8 235 rfl) rfl
theorem q1980 : (Jvm.Cond.code ({ cls := "MaltDrumsModel", name := "pace", desc := "(I)I" } : Jvm.MethodName) prog_11_method_24_code (4 : Nat) (Option.some Jvm.ClassFile.FieldType.int)) ∈ lw_all := lw_g (lw_at lw_m8 236 rfl) rfl
theorem q1981 : (Jvm.Cond.methodLink "MaltDrumsModel" (88 : Nat) ({ cls := "MaltDrumsModel", name := "dries", desc := "(I)V" } : Jvm.MethodName)) ∈ lw_all := lw_g (lw_at lw_m8 237 rfl) rfl
theorem q1982 : (Jvm.Cond.privateMethod ({ cls := "MaltDrumsModel", name := "dries", desc := "(I)V" } : Jvm.MethodName)) ∈ lw_tbl := lw_at lw_m8 238 rfl
theorem q1983 : (Jvm.Cond.instanceMethod ({ cls := "MaltDrumsModel", name := "dries", desc := "(I)V" } : Jvm.MethodName)) ∈ lw_all := lw_g (lw_at lw_m8 239 rfl) rfl
theorem q1984 : (Jvm.Cond.code ({ cls := "MaltDrumsModel", name := "dries", desc := "(I)V" } : Jvm.MethodName) prog_11_method_27_code (4 : Nat) (Option.none : Option Jvm.ClassFile.FieldType)) ∈ lw_all := lw_g (lw_at lw_m9 0 rfl) rfl
theorem q1985 : (Jvm.Cond.methodLink "MaltDrumsModel" (79 : Nat) ({ cls := "MaltDrumsModel", name := "kilnHeat", desc := "(I)I" } : Jvm.MethodName)) ∈ lw_all := lw_g (lw_at lw_m9 1 rfl) rfl
theorem q1986 : (Jvm.Cond.privateMethod ({ cls := "MaltDrumsModel", name := "kilnHeat", desc := "(I)I" } : Jvm.MethodName)) ∈ lw_tbl := lw_at lw_m9 2 rfl
theorem q1987 : (Jvm.Cond.instanceMethod ({ cls := "MaltDrumsModel", name := "kilnHeat", desc := "(I)I" } : Jvm.MethodName)) ∈ lw_all := lw_g (lw_at lw_m9 3 rfl) rfl
theorem q1988 : (Jvm.Cond.code ({ cls := "MaltDrumsModel", name := "kilnHeat", desc := "(I)I" } : Jvm.MethodName) prog_11_method_26_code (2 : Nat) (Option.some Jvm.ClassFile.FieldType.int)) ∈ lw_all := lw_g (lw_at lw_m9 4 rfl) rfl
theorem q1989 : (Jvm.Cond.methodLink "MaltDrumsModel" (92 : Nat) ({ cls := "MaltDrumsModel", name := "malts", desc := "()I" } : Jvm.MethodName)) ∈ lw_all := lw_g (lw_at lw_m9 5 rfl) rfl
theorem q1990 : (Jvm.Cond.privateMethod ({ cls := "MaltDrumsModel", name := "malts", desc := "()I" } : Jvm.MethodName)) ∈ lw_tbl := lw_at lw_m9 6 rfl
theorem q1991 : (Jvm.Cond.instanceMethod ({ cls := "MaltDrumsModel", name := "malts", desc := "()I" } : Jvm.MethodName)) ∈ lw_all := lw_g (lw_at lw_m9 7 rfl) rfl
theorem q1992 : (Jvm.Cond.code ({ cls := "MaltDrumsModel", name := "malts", desc := "()I" } : Jvm.MethodName) prog_11_method_28_code (3 : Nat) (Option.some Jvm.ClassFile.FieldType.int)) ∈ lw_all := lw_g (lw_at lw_m9 8 rfl) rfl
theorem q1994 : (Jvm.Cond.instanceMethod ({ cls := "MaltDrumsModel", name := "append", desc := "(I)I" } : Jvm.MethodName)) ∈ lw_all := lw_g (lw_at lw_m9 10 rfl) rfl
theorem q1995 : (Jvm.Cond.selects "MaltDrumsModel" ({ cls := "MaltDrumsModel", name := "append", desc := "(I)I" } : Jvm.MethodName) ({ cls := "MaltDrumsModel", name := "append", desc := "(I)I" } : Jvm.MethodName)) ∈ lw_all := lw_g (lw_at lw_m9 11 rfl) rfl
theorem q1996 : (Jvm.Cond.code ({ cls := "MaltDrumsModel", name := "append", desc := "(I)I" } : Jvm.MethodName) prog_11_method_55_code (2 : Nat) (Option.some Jvm.ClassFile.FieldType.int)) ∈ lw_all := lw_g (lw_at lw_m9 12 rfl) rfl
theorem q1998 : (Jvm.Cond.instanceMethod ({ cls := "MaltDrumsModel", name := "clearText", desc := "()I" } : Jvm.MethodName)) ∈ lw_all := lw_g (lw_at lw_m9 14 rfl) rfl
theorem q1999 : (Jvm.Cond.selects "MaltDrumsModel" ({ cls := "MaltDrumsModel", name := "clearText", desc := "()I" } : Jvm.MethodName) ({ cls := "MaltDrumsModel", name := "clearText", desc := "()I" } : Jvm.MethodName)) ∈ lw_all := lw_g (lw_at lw_m9 15 rfl) rfl
theorem q2000 : (Jvm.Cond.code ({ cls := "MaltDrumsModel", name := "clearText", desc := "()I" } : Jvm.MethodName) prog_11_method_56_code (2 : Nat) (Option.some Jvm.ClassFile.FieldType.int)) ∈ lw_all := lw_g (lw_at lw_m9 16 rfl) rfl
theorem q2002 : (Jvm.Cond.instanceMethod ({ cls := "MaltDrumsModel", name := "fault", desc := "()I" } : Jvm.MethodName)) ∈ lw_all := lw_g (lw_at lw_m9 18 rfl) rfl
theorem q2003 : (Jvm.Cond.selects "MaltDrumsModel" ({ cls := "MaltDrumsModel", name := "fault", desc := "()I" } : Jvm.MethodName) ({ cls := "MaltDrumsModel", name := "fault", desc := "()I" } : Jvm.MethodName)) ∈ lw_all := lw_g (lw_at lw_m9 19 rfl) rfl
theorem q2004 : (Jvm.Cond.code ({ cls := "MaltDrumsModel", name := "fault", desc := "()I" } : Jvm.MethodName) prog_11_method_62_code (1 : Nat) (Option.some Jvm.ClassFile.FieldType.int)) ∈ lw_all := lw_g (lw_at lw_m9 20 rfl) rfl
theorem q2005 : (Jvm.Cond.methodLink "MaltDrumsModel" (168 : Nat) ({ cls := "MaltDrumsModel", name := "faulty", desc := "()I" } : Jvm.MethodName)) ∈ lw_all := lw_g (lw_at lw_m9 21 rfl) rfl
theorem q2006 : (Jvm.Cond.privateMethod ({ cls := "MaltDrumsModel", name := "faulty", desc := "()I" } : Jvm.MethodName)) ∈ lw_tbl := lw_at lw_m9 22 rfl
theorem q2007 : (Jvm.Cond.instanceMethod ({ cls := "MaltDrumsModel", name := "faulty", desc := "()I" } : Jvm.MethodName)) ∈ lw_all := lw_g (lw_at lw_m9 23 rfl) rfl
theorem q2008 : (Jvm.Cond.code ({ cls := "MaltDrumsModel", name := "faulty", desc := "()I" } : Jvm.MethodName) prog_11_method_61_code (5 : Nat) (Option.some Jvm.ClassFile.FieldType.int)) ∈ lw_all := lw_g (lw_at lw_m9 24 rfl) rfl
theorem q2009 : (Jvm.Cond.methodLink "MaltDrumsModel" (165 : Nat) ({ cls := "MaltDrumsModel", name := "follows", desc := "(III)I" } : Jvm.MethodName)) ∈ lw_all := lw_g (lw_at lw_m9 25 rfl) rfl
theorem q2010 : (Jvm.Cond.static ({ cls := "MaltDrumsModel", name := "follows", desc := "(III)I" } : Jvm.MethodName)) ∈ lw_all := lw_g (lw_at lw_m9 26 rfl) rfl
theorem q2011 : (Jvm.Cond.code ({ cls := "MaltDrumsModel", name := "follows", desc := "(III)I" } : Jvm.MethodName) prog_11_method_60_code (4 : Nat) (Option.some Jvm.ClassFile.FieldType.int)) ∈ lw_all := lw_g (lw_at lw_m9 27 rfl) rfl
theorem q2012 : (Jvm.Cond.methodLink "MaltDrumsModel" (156 : Nat) ({ cls := "MaltDrumsModel", name := "isNumber", desc := "(I)Z" } : Jvm.MethodName)) ∈ lw_all := lw_g (lw_at lw_m9 28 rfl) rfl
theorem q2013 : (Jvm.Cond.static ({ cls := "MaltDrumsModel", name := "isNumber", desc := "(I)Z" } : Jvm.MethodName)) ∈ lw_all := lw_g (lw_at lw_m9 29 rfl) rfl
theorem q2014 : (Jvm.Cond.code ({ cls := "MaltDrumsModel", name := "isNumber", desc := "(I)Z" } : Jvm.MethodName) prog_11_method_58_code (1 : Nat) (Option.some Jvm.ClassFile.FieldType.boolean)) ∈ lw_all := lw_g (lw_at lw_m9 30 rfl) rfl
theorem q2015 : (Jvm.Cond.methodLink "MaltDrumsModel" (159 : Nat) ({ cls := "MaltDrumsModel", name := "isDigit", desc := "(I)Z" } : Jvm.MethodName)) ∈ lw_all := lw_g (lw_at lw_m9 31 rfl) rfl
theorem q2016 : (Jvm.Cond.static ({ cls := "MaltDrumsModel", name := "isDigit", desc := "(I)Z" } : Jvm.MethodName)) ∈ lw_all := lw_g (lw_at lw_m9 32 rfl) rfl
theorem q2017 : (Jvm.Cond.code ({ cls := "MaltDrumsModel", name := "isDigit", desc := "(I)Z" } : Jvm.MethodName) prog_11_method_57_code (1 : Nat) (Option.some Jvm.ClassFile.FieldType.boolean)) ∈ lw_all := lw_g (lw_at lw_m9 33 rfl) rfl
theorem q2018 : (Jvm.Cond.methodLink "MaltDrumsModel" (162 : Nat) ({ cls := "MaltDrumsModel", name := "canGo", desc := "(III)Z" } : Jvm.MethodName)) ∈ lw_all := lw_g (lw_at lw_m9 34 rfl) rfl
theorem q2019 : (Jvm.Cond.static ({ cls := "MaltDrumsModel", name := "canGo", desc := "(III)Z" } : Jvm.MethodName)) ∈ lw_all := lw_g (lw_at lw_m9 35 rfl) rfl
theorem q2020 : (Jvm.Cond.code ({ cls := "MaltDrumsModel", name := "canGo", desc := "(III)Z" } : Jvm.MethodName) prog_11_method_59_code (4 : Nat) (Option.some Jvm.ClassFile.FieldType.boolean)) ∈ lw_all := lw_g (lw_at lw_m9 36 rfl) rfl
theorem q2022 : (Jvm.Cond.instanceMethod ({ cls := "MaltDrumsModel", name := "run", desc := "()I" } : Jvm.MethodName)) ∈ lw_all := lw_g (lw_at lw_m9 38 rfl) rfl
theorem q2023 : (Jvm.Cond.selects "MaltDrumsModel" ({ cls := "MaltDrumsModel", name := "run", desc := "()I" } : Jvm.MethodName) ({ cls := "MaltDrumsModel", name := "run", desc := "()I" } : Jvm.MethodName)) ∈ lw_all := lw_g (lw_at lw_m9 39 rfl) rfl
theorem q2024 : (Jvm.Cond.code ({ cls := "MaltDrumsModel", name := "run", desc := "()I" } : Jvm.MethodName) prog_11_method_65_code (4 : Nat) (Option.some Jvm.ClassFile.FieldType.int)) ∈ lw_all := lw_g (lw_at lw_m9 40 rfl) rfl
theorem q2025 : (Jvm.Cond.methodLink "MaltDrumsModel" (174 : Nat) ({ cls := "MaltDrumsModel", name := "does", desc := "(I)Z" } : Jvm.MethodName)) ∈ lw_all := lw_g (lw_at lw_m9 41 rfl) rfl
theorem q2026 : (Jvm.Cond.privateMethod ({ cls := "MaltDrumsModel", name := "does", desc := "(I)Z" } : Jvm.MethodName)) ∈ lw_tbl := lw_at lw_m9 42 rfl
theorem q2027 : (Jvm.Cond.instanceMethod ({ cls := "MaltDrumsModel", name := "does", desc := "(I)Z" } : Jvm.MethodName)) ∈ lw_all := lw_g (lw_at lw_m9 43 rfl) rfl
theorem q2028 : (Jvm.Cond.code ({ cls := "MaltDrumsModel", name := "does", desc := "(I)Z" } : Jvm.MethodName) prog_11_method_64_code (7 : Nat) (Option.some Jvm.ClassFile.FieldType.boolean)) ∈ lw_all := lw_g (lw_at lw_m9 44 rfl) rfl
theorem q2029 : (Jvm.Cond.methodLink "MaltDrumsModel" (171 : Nat) ({ cls := "MaltDrumsModel", name := "numberAt", desc := "(I)I" } : Jvm.MethodName)) ∈ lw_all := lw_g (lw_at lw_m9 45 rfl) rfl
theorem q2030 : (Jvm.Cond.privateMethod ({ cls := "MaltDrumsModel", name := "numberAt", desc := "(I)I" } : Jvm.MethodName)) ∈ lw_tbl := lw_at lw_m9 46 rfl
theorem q2031 : (Jvm.Cond.instanceMethod ({ cls := "MaltDrumsModel", name := "numberAt", desc := "(I)I" } : Jvm.MethodName)) ∈ lw_all := lw_g (lw_at lw_m9 47 rfl) rfl
theorem q2032 : (Jvm.Cond.code ({ cls := "MaltDrumsModel", name := "numberAt", desc := "(I)I" } : Jvm.MethodName) prog_11_method_63_code (4 : Nat) (Option.some Jvm.ClassFile.FieldType.int)) ∈ lw_all := lw_g (lw_at lw_m9 48 rfl) rfl
theorem q2034 : (Jvm.Cond.instanceMethod ({ cls := "MaltDrumsModel", name := "lots", desc := "()I" } : Jvm.MethodName)) ∈ lw_all := lw_g (lw_at lw_m9 50 rfl) rfl
theorem q2035 : (Jvm.Cond.selects "MaltDrumsModel" ({ cls := "MaltDrumsModel", name := "lots", desc := "()I" } : Jvm.MethodName) ({ cls := "MaltDrumsModel", name := "lots", desc := "()I" } : Jvm.MethodName)) ∈ lw_all := lw_g (lw_at lw_m9 51 rfl) rfl
theorem q2036 : (Jvm.Cond.code ({ cls := "MaltDrumsModel", name := "lots", desc := "()I" } : Jvm.MethodName) prog_11_method_66_code (1 : Nat) (Option.some Jvm.ClassFile.FieldType.int)) ∈ lw_all := lw_g (lw_at lw_m9 52 rfl) rfl
theorem q2038 : (Jvm.Cond.instanceMethod ({ cls := "MaltDrumsModel", name := "placeOf", desc := "(I)I" } : Jvm.MethodName)) ∈ lw_all := lw_g (lw_at lw_m9 54 rfl) rfl
theorem q2039 : (Jvm.Cond.selects "MaltDrumsModel" ({ cls := "MaltDrumsModel", name := "placeOf", desc := "(I)I" } : Jvm.MethodName) ({ cls := "MaltDrumsModel", name := "placeOf", desc := "(I)I" } : Jvm.MethodName)) ∈ lw_all := lw_g (lw_at lw_m9 55 rfl) rfl
theorem q2040 : (Jvm.Cond.code ({ cls := "MaltDrumsModel", name := "placeOf", desc := "(I)I" } : Jvm.MethodName) prog_11_method_68_code (2 : Nat) (Option.some Jvm.ClassFile.FieldType.int)) ∈ lw_all := lw_g (lw_at lw_m9 56 rfl) rfl
theorem q2041 : (Jvm.Cond.methodLink "MaltDrumsModel" (177 : Nat) ({ cls := "MaltDrumsModel", name := "tells", desc := "(II)I" } : Jvm.MethodName)) ∈ lw_all := lw_g (lw_at lw_m9 57 rfl) rfl
theorem q2042 : (Jvm.Cond.privateMethod ({ cls := "MaltDrumsModel", name := "tells", desc := "(II)I" } : Jvm.MethodName)) ∈ lw_tbl := lw_at lw_m9 58 rfl
theorem q2043 : (Jvm.Cond.instanceMethod ({ cls := "MaltDrumsModel", name := "tells", desc := "(II)I" } : Jvm.MethodName)) ∈ lw_all := lw_g (lw_at lw_m9 59 rfl) rfl
theorem q2044 : (Jvm.Cond.code ({ cls := "MaltDrumsModel", name := "tells", desc := "(II)I" } : Jvm.MethodName) prog_11_method_67_code (3 : Nat) (Option.some Jvm.ClassFile.FieldType.int)) ∈ lw_all := lw_g (lw_at lw_m9 60 rfl) rfl
theorem q2046 : (Jvm.Cond.instanceMethod ({ cls := "MaltDrumsModel", name := "drumOf", desc := "(I)I" } : Jvm.MethodName)) ∈ lw_all := lw_g (lw_at lw_m9 62 rfl) rfl
theorem q2047 : (Jvm.Cond.selects "MaltDrumsModel" ({ cls := "MaltDrumsModel", name := "drumOf", desc := "(I)I" } : Jvm.MethodName) ({ cls := "MaltDrumsModel", name := "drumOf", desc := "(I)I" } : Jvm.MethodName)) ∈ lw_all := lw_g (lw_at lw_m9 63 rfl) rfl
theorem q2048 : (Jvm.Cond.code ({ cls := "MaltDrumsModel", name := "drumOf", desc := "(I)I" } : Jvm.MethodName) prog_11_method_69_code (2 : Nat) (Option.some Jvm.ClassFile.FieldType.int)) ∈ lw_all := lw_g (lw_at lw_m9 64 rfl) rfl
theorem q2050 : (Jvm.Cond.instanceMethod ({ cls := "MaltDrumsModel", name := "weightOf", desc := "(I)I" } : Jvm.MethodName)) ∈ lw_all := lw_g (lw_at lw_m9 66 rfl) rfl
theorem q2051 : (Jvm.Cond.selects "MaltDrumsModel" ({ cls := "MaltDrumsModel", name := "weightOf", desc := "(I)I" } : Jvm.MethodName) ({ cls := "MaltDrumsModel", name := "weightOf", desc := "(I)I" } : Jvm.MethodName)) ∈ lw_all := lw_g (lw_at lw_m9 67 rfl) rfl
theorem q2052 : (Jvm.Cond.code ({ cls := "MaltDrumsModel", name := "weightOf", desc := "(I)I" } : Jvm.MethodName) prog_11_method_70_code (2 : Nat) (Option.some Jvm.ClassFile.FieldType.int)) ∈ lw_all := lw_g (lw_at lw_m9 68 rfl) rfl
theorem q2054 : (Jvm.Cond.instanceMethod ({ cls := "MaltDrumsModel", name := "wetnessOf", desc := "(I)I" } : Jvm.MethodName)) ∈ lw_all := lw_g (lw_at lw_m9 70 rfl) rfl
theorem q2055 : (Jvm.Cond.selects "MaltDrumsModel" ({ cls := "MaltDrumsModel", name := "wetnessOf", desc := "(I)I" } : Jvm.MethodName) ({ cls := "MaltDrumsModel", name := "wetnessOf", desc := "(I)I" } : Jvm.MethodName)) ∈ lw_all := lw_g (lw_at lw_m9 71 rfl) rfl
theorem q2056 : (Jvm.Cond.code ({ cls := "MaltDrumsModel", name := "wetnessOf", desc := "(I)I" } : Jvm.MethodName) prog_11_method_71_code (2 : Nat) (Option.some Jvm.ClassFile.FieldType.int)) ∈ lw_all := lw_g (lw_at lw_m9 72 rfl) rfl
theorem q2058 : (Jvm.Cond.instanceMethod ({ cls := "MaltDrumsModel", name := "growthOf", desc := "(I)I" } : Jvm.MethodName)) ∈ lw_all := lw_g (lw_at lw_m9 74 rfl) rfl
theorem q2059 : (Jvm.Cond.selects "MaltDrumsModel" ({ cls := "MaltDrumsModel", name := "growthOf", desc := "(I)I" } : Jvm.MethodName) ({ cls := "MaltDrumsModel", name := "growthOf", desc := "(I)I" } : Jvm.MethodName)) ∈ lw_all := lw_g (lw_at lw_m9 75 rfl) rfl
theorem q2060 : (Jvm.Cond.code ({ cls := "MaltDrumsModel", name := "growthOf", desc := "(I)I" } : Jvm.MethodName) prog_11_method_72_code (2 : Nat) (Option.some Jvm.ClassFile.FieldType.int)) ∈ lw_all := lw_g (lw_at lw_m9 76 rfl) rfl
theorem q2062 : (Jvm.Cond.instanceMethod ({ cls := "MaltDrumsModel", name := "heatOf", desc := "(I)I" } : Jvm.MethodName)) ∈ lw_all := lw_g (lw_at lw_m9 78 rfl) rfl
theorem q2063 : (Jvm.Cond.selects "MaltDrumsModel" ({ cls := "MaltDrumsModel", name := "heatOf", desc := "(I)I" } : Jvm.MethodName) ({ cls := "MaltDrumsModel", name := "heatOf", desc := "(I)I" } : Jvm.MethodName)) ∈ lw_all := lw_g (lw_at lw_m9 79 rfl) rfl
theorem q2064 : (Jvm.Cond.code ({ cls := "MaltDrumsModel", name := "heatOf", desc := "(I)I" } : Jvm.MethodName) prog_11_method_73_code (2 : Nat) (Option.some Jvm.ClassFile.FieldType.int)) ∈ lw_all := lw_g (lw_at lw_m9 80 rfl) rfl
theorem q2066 : (Jvm.Cond.instanceMethod ({ cls := "MaltDrumsModel", name := "feltOf", desc := "(I)I" } : Jvm.MethodName)) ∈ lw_all := lw_g (lw_at lw_m9 82 rfl) rfl
theorem q2067 : (Jvm.Cond.selects "MaltDrumsModel" ({ cls := "MaltDrumsModel", name := "feltOf", desc := "(I)I" } : Jvm.MethodName) ({ cls := "MaltDrumsModel", name := "feltOf", desc := "(I)I" } : Jvm.MethodName)) ∈ lw_all := lw_g (lw_at lw_m9 83 rfl) rfl
theorem q2068 : (Jvm.Cond.code ({ cls := "MaltDrumsModel", name := "feltOf", desc := "(I)I" } : Jvm.MethodName) prog_11_method_74_code (2 : Nat) (Option.some Jvm.ClassFile.FieldType.int)) ∈ lw_all := lw_g (lw_at lw_m9 84 rfl) rfl
theorem q2070 : (Jvm.Cond.instanceMethod ({ cls := "MaltDrumsModel", name := "isGlassy", desc := "(I)Z" } : Jvm.MethodName)) ∈ lw_all := lw_g (lw_at lw_m9 86 rfl) rfl
theorem q2071 : (Jvm.Cond.selects "MaltDrumsModel" ({ cls := "MaltDrumsModel", name := "isGlassy", desc := "(I)Z" } : Jvm.MethodName) ({ cls := "MaltDrumsModel", name := "isGlassy", desc := "(I)Z" } : Jvm.MethodName)) ∈ lw_all := lw_g (lw_at lw_m9 87 rfl) rfl
theorem q2072 : (Jvm.Cond.code ({ cls := "MaltDrumsModel", name := "isGlassy", desc := "(I)Z" } : Jvm.MethodName) prog_11_method_75_code (2 : Nat) (Option.some Jvm.ClassFile.FieldType.boolean)) ∈ lw_all := lw_g (lw_at lw_m9 88 rfl) rfl
theorem q2074 : (Jvm.Cond.instanceMethod ({ cls := "MaltDrumsModel", name := "paceOf", desc := "(I)I" } : Jvm.MethodName)) ∈ lw_all := lw_g (lw_at lw_m9 90 rfl) rfl
theorem q2075 : (Jvm.Cond.selects "MaltDrumsModel" ({ cls := "MaltDrumsModel", name := "paceOf", desc := "(I)I" } : Jvm.MethodName) ({ cls := "MaltDrumsModel", name := "paceOf", desc := "(I)I" } : Jvm.MethodName)) ∈ lw_all := lw_g (lw_at lw_m9 91 rfl) rfl
theorem q2076 : (Jvm.Cond.code ({ cls := "MaltDrumsModel", name := "paceOf", desc := "(I)I" } : Jvm.MethodName) prog_11_method_76_code (2 : Nat) (Option.some Jvm.ClassFile.FieldType.int)) ∈ lw_all := lw_g (lw_at lw_m9 92 rfl) rfl
theorem q2078 : (Jvm.Cond.instanceMethod ({ cls := "MaltDrumsModel", name := "lotsIn", desc := "(I)I" } : Jvm.MethodName)) ∈ lw_all := lw_g (lw_at lw_m9 94 rfl) rfl
theorem q2079 : (Jvm.Cond.selects "MaltDrumsModel" ({ cls := "MaltDrumsModel", name := "lotsIn", desc := "(I)I" } : Jvm.MethodName) ({ cls := "MaltDrumsModel", name := "lotsIn", desc := "(I)I" } : Jvm.MethodName)) ∈ lw_all := lw_g (lw_at lw_m9 95 rfl) rfl
theorem q2080 : (Jvm.Cond.code ({ cls := "MaltDrumsModel", name := "lotsIn", desc := "(I)I" } : Jvm.MethodName) prog_11_method_77_code (4 : Nat) (Option.some Jvm.ClassFile.FieldType.int)) ∈ lw_all := lw_g (lw_at lw_m9 96 rfl) rfl
theorem q2082 : (Jvm.Cond.instanceMethod ({ cls := "MaltDrumsModel", name := "ripest", desc := "(I)I" } : Jvm.MethodName)) ∈ lw_all := lw_g (lw_at lw_m9 98 rfl) rfl
theorem q2083 : (Jvm.Cond.selects "MaltDrumsModel" ({ cls := "MaltDrumsModel", name := "ripest", desc := "(I)I" } : Jvm.MethodName) ({ cls := "MaltDrumsModel", name := "ripest", desc := "(I)I" } : Jvm.MethodName)) ∈ lw_all := lw_g (lw_at lw_m9 99 rfl) rfl
theorem q2084 : (Jvm.Cond.code ({ cls := "MaltDrumsModel", name := "ripest", desc := "(I)I" } : Jvm.MethodName) prog_11_method_79_code (6 : Nat) (Option.some Jvm.ClassFile.FieldType.int)) ∈ lw_all := lw_g (lw_at lw_m9 100 rfl) rfl
theorem q2085 : (Jvm.Cond.methodLink "MaltDrumsModel" (180 : Nat) ({ cls := "MaltDrumsModel", name := "isRiper", desc := "(II)Z" } : Jvm.MethodName)) ∈ lw_all := lw_g (lw_at lw_m9 101 rfl) rfl
theorem q2086 : (Jvm.Cond.privateMethod ({ cls := "MaltDrumsModel", name := "isRiper", desc := "(II)Z" } : Jvm.MethodName)) ∈ lw_tbl := lw_at lw_m9 102 rfl
theorem q2087 : (Jvm.Cond.instanceMethod ({ cls := "MaltDrumsModel", name := "isRiper", desc := "(II)Z" } : Jvm.MethodName)) ∈ lw_all := lw_g (lw_at lw_m9 103 rfl) rfl
theorem q2088 : (Jvm.Cond.code ({ cls := "MaltDrumsModel", name := "isRiper", desc := "(II)Z" } : Jvm.MethodName) prog_11_method_78_code (5 : Nat) (Option.some Jvm.ClassFile.FieldType.boolean)) ∈ lw_all := lw_g (lw_at lw_m9 104 rfl) rfl
theorem q2090 : (Jvm.Cond.instanceMethod ({ cls := "MaltDrumsModel", name := "lotIn", desc := "(I)I" } : Jvm.MethodName)) ∈ lw_all := lw_g (lw_at lw_m9 106 rfl) rfl
theorem q2091 : (Jvm.Cond.selects "MaltDrumsModel" ({ cls := "MaltDrumsModel", name := "lotIn", desc := "(I)I" } : Jvm.MethodName) ({ cls := "MaltDrumsModel", name := "lotIn", desc := "(I)I" } : Jvm.MethodName)) ∈ lw_all := lw_g (lw_at lw_m9 107 rfl) rfl
theorem q2092 : (Jvm.Cond.code ({ cls := "MaltDrumsModel", name := "lotIn", desc := "(I)I" } : Jvm.MethodName) prog_11_method_80_code (2 : Nat) (Option.some Jvm.ClassFile.FieldType.int)) ∈ lw_all := lw_g (lw_at lw_m9 108 rfl) rfl
theorem q2094 : (Jvm.Cond.instanceMethod ({ cls := "MaltDrumsModel", name := "settingsOf", desc := "(I)I" } : Jvm.MethodName)) ∈ lw_all := lw_g (lw_at lw_m9 110 rfl) rfl
theorem q2095 : (Jvm.Cond.selects "MaltDrumsModel" ({ cls := "MaltDrumsModel", name := "settingsOf", desc := "(I)I" } : Jvm.MethodName) ({ cls := "MaltDrumsModel", name := "settingsOf", desc := "(I)I" } : Jvm.MethodName)) ∈ lw_all := lw_g (lw_at lw_m9 111 rfl) rfl
theorem q2096 : (Jvm.Cond.code ({ cls := "MaltDrumsModel", name := "settingsOf", desc := "(I)I" } : Jvm.MethodName) prog_11_method_81_code (2 : Nat) (Option.some Jvm.ClassFile.FieldType.int)) ∈ lw_all := lw_g (lw_at lw_m9 112 rfl) rfl
theorem q2098 : (Jvm.Cond.instanceMethod ({ cls := "MaltDrumsModel", name := "isLit", desc := "()Z" } : Jvm.MethodName)) ∈ lw_all := lw_g (lw_at lw_m9 114 rfl) rfl
theorem q2099 : (Jvm.Cond.selects "MaltDrumsModel" ({ cls := "MaltDrumsModel", name := "isLit", desc := "()Z" } : Jvm.MethodName) ({ cls := "MaltDrumsModel", name := "isLit", desc := "()Z" } : Jvm.MethodName)) ∈ lw_all := lw_g (lw_at lw_m9 115 rfl) rfl
theorem q2100 : (Jvm.Cond.code ({ cls := "MaltDrumsModel", name := "isLit", desc := "()Z" } : Jvm.MethodName) prog_11_method_82_code (1 : Nat) (Option.some Jvm.ClassFile.FieldType.boolean)) ∈ lw_all := lw_g (lw_at lw_m9 116 rfl) rfl
theorem q2102 : (Jvm.Cond.instanceMethod ({ cls := "MaltDrumsModel", name := "litFor", desc := "()I" } : Jvm.MethodName)) ∈ lw_all := lw_g (lw_at lw_m9 118 rfl) rfl
theorem q2103 : (Jvm.Cond.selects "MaltDrumsModel" ({ cls := "MaltDrumsModel", name := "litFor", desc := "()I" } : Jvm.MethodName) ({ cls := "MaltDrumsModel", name := "litFor", desc := "()I" } : Jvm.MethodName)) ∈ lw_all := lw_g (lw_at lw_m9 119 rfl) rfl
theorem q2104 : (Jvm.Cond.code ({ cls := "MaltDrumsModel", name := "litFor", desc := "()I" } : Jvm.MethodName) prog_11_method_83_code (1 : Nat) (Option.some Jvm.ClassFile.FieldType.int)) ∈ lw_all := lw_g (lw_at lw_m9 120 rfl) rfl
theorem q2106 : (Jvm.Cond.instanceMethod ({ cls := "MaltDrumsModel", name := "charge", desc := "()I" } : Jvm.MethodName)) ∈ lw_all := lw_g (lw_at lw_m9 122 rfl) rfl
theorem q2107 : (Jvm.Cond.selects "MaltDrumsModel" ({ cls := "MaltDrumsModel", name := "charge", desc := "()I" } : Jvm.MethodName) ({ cls := "MaltDrumsModel", name := "charge", desc := "()I" } : Jvm.MethodName)) ∈ lw_all := lw_g (lw_at lw_m9 123 rfl) rfl
theorem q2108 : (Jvm.Cond.code ({ cls := "MaltDrumsModel", name := "charge", desc := "()I" } : Jvm.MethodName) prog_11_method_84_code (1 : Nat) (Option.some Jvm.ClassFile.FieldType.int)) ∈ lw_all := lw_g (lw_at lw_m9 124 rfl) rfl
theorem q2110 : (Jvm.Cond.instanceMethod ({ cls := "MaltDrumsModel", name := "spraysLeft", desc := "()I" } : Jvm.MethodName)) ∈ lw_all := lw_g (lw_at lw_m9 126 rfl) rfl
theorem q2111 : (Jvm.Cond.selects "MaltDrumsModel" ({ cls := "MaltDrumsModel", name := "spraysLeft", desc := "()I" } : Jvm.MethodName) ({ cls := "MaltDrumsModel", name := "spraysLeft", desc := "()I" } : Jvm.MethodName)) ∈ lw_all := lw_g (lw_at lw_m9 127 rfl) rfl
theorem q2112 : (Jvm.Cond.code ({ cls := "MaltDrumsModel", name := "spraysLeft", desc := "()I" } : Jvm.MethodName) prog_11_method_85_code (1 : Nat) (Option.some Jvm.ClassFile.FieldType.int)) ∈ lw_all := lw_g (lw_at lw_m9 128 rfl) rfl
theorem q2114 : (Jvm.Cond.instanceMethod ({ cls := "MaltDrumsModel", name := "whyNotSteep", desc := "(I)I" } : Jvm.MethodName)) ∈ lw_all := lw_g (lw_at lw_m9 130 rfl) rfl
theorem q2115 : (Jvm.Cond.selects "MaltDrumsModel" ({ cls := "MaltDrumsModel", name := "whyNotSteep", desc := "(I)I" } : Jvm.MethodName) ({ cls := "MaltDrumsModel", name := "whyNotSteep", desc := "(I)I" } : Jvm.MethodName)) ∈ lw_all := lw_g (lw_at lw_m9 131 rfl) rfl
theorem q2116 : (Jvm.Cond.code ({ cls := "MaltDrumsModel", name := "whyNotSteep", desc := "(I)I" } : Jvm.MethodName) prog_11_method_86_code (2 : Nat) (Option.some Jvm.ClassFile.FieldType.int)) ∈ lw_all := lw_g (lw_at lw_m9 132 rfl) rfl
theorem q2118 : (Jvm.Cond.instanceMethod ({ cls := "MaltDrumsModel", name := "whyNotDrum", desc := "(II)I" } : Jvm.MethodName)) ∈ lw_all := lw_g (lw_at lw_m9 134 rfl) rfl
theorem q2119 : (Jvm.Cond.selects "MaltDrumsModel" ({ cls := "MaltDrumsModel", name := "whyNotDrum", desc := "(II)I" } : Jvm.MethodName) ({ cls := "MaltDrumsModel", name := "whyNotDrum", desc := "(II)I" } : Jvm.MethodName)) ∈ lw_all := lw_g (lw_at lw_m9 135 rfl) rfl
theorem q2120 : (Jvm.Cond.code ({ cls := "MaltDrumsModel", name := "whyNotDrum", desc := "(II)I" } : Jvm.MethodName) prog_11_method_87_code (3 : Nat) (Option.some Jvm.ClassFile.FieldType.int)) ∈ lw_all := lw_g (lw_at lw_m9 136 rfl) rfl
theorem q2122 : (Jvm.Cond.instanceMethod ({ cls := "MaltDrumsModel", name := "whyNotLoad", desc := "(I)I" } : Jvm.MethodName)) ∈ lw_all := lw_g (lw_at lw_m9 138 rfl) rfl
theorem q2123 : (Jvm.Cond.selects "MaltDrumsModel" ({ cls := "MaltDrumsModel", name := "whyNotLoad", desc := "(I)I" } : Jvm.MethodName) ({ cls := "MaltDrumsModel", name := "whyNotLoad", desc := "(I)I" } : Jvm.MethodName)) ∈ lw_all := lw_g (lw_at lw_m9 139 rfl) rfl
theorem q2124 : (Jvm.Cond.code ({ cls := "MaltDrumsModel", name := "whyNotLoad", desc := "(I)I" } : Jvm.MethodName) prog_11_method_88_code (2 : Nat) (Option.some Jvm.ClassFile.FieldType.int)) ∈ lw_all := lw_g (lw_at lw_m9 140 rfl) rfl
theorem q2126 : (Jvm.Cond.instanceMethod ({ cls := "MaltDrumsModel", name := "whyNotSpray", desc := "(I)I" } : Jvm.MethodName)) ∈ lw_all := lw_g (lw_at lw_m9 142 rfl) rfl
theorem q2127 : (Jvm.Cond.selects "MaltDrumsModel" ({ cls := "MaltDrumsModel", name := "whyNotSpray", desc := "(I)I" } : Jvm.MethodName) ({ cls := "MaltDrumsModel", name := "whyNotSpray", desc := "(I)I" } : Jvm.MethodName)) ∈ lw_all := lw_g (lw_at lw_m9 143 rfl) rfl
theorem q2128 : (Jvm.Cond.code ({ cls := "MaltDrumsModel", name := "whyNotSpray", desc := "(I)I" } : Jvm.MethodName) prog_11_method_89_code (2 : Nat) (Option.some Jvm.ClassFile.FieldType.int)) ∈ lw_all := lw_g (lw_at lw_m9 144 rfl) rfl
theorem q2130 : (Jvm.Cond.instanceMethod ({ cls := "MaltDrumsModel", name := "hoursToGrow", desc := "(II)I" } : Jvm.MethodName)) ∈ lw_all := lw_g (lw_at lw_m9 146 rfl) rfl
theorem q2131 : (Jvm.Cond.selects "MaltDrumsModel" ({ cls := "MaltDrumsModel", name := "hoursToGrow", desc := "(II)I" } : Jvm.MethodName) ({ cls := "MaltDrumsModel", name := "hoursToGrow", desc := "(II)I" } : Jvm.MethodName)) ∈ lw_all := lw_g (lw_at lw_m9 147 rfl) rfl
theorem q2132 : (Jvm.Cond.code ({ cls := "MaltDrumsModel", name := "hoursToGrow", desc := "(II)I" } : Jvm.MethodName) prog_11_method_90_code (5 : Nat) (Option.some Jvm.ClassFile.FieldType.int)) ∈ lw_all := lw_g (lw_at lw_m9 148 rfl) rfl
theorem q2134 : (Jvm.Cond.instanceMethod ({ cls := "MaltDrumsModel", name := "hoursToSpoil", desc := "(I)I" } : Jvm.MethodName)) ∈ lw_all := lw_g (lw_at lw_m9 150 rfl) rfl
theorem q2135 : (Jvm.Cond.selects "MaltDrumsModel" ({ cls := "MaltDrumsModel", name := "hoursToSpoil", desc := "(I)I" } : Jvm.MethodName) ({ cls := "MaltDrumsModel", name := "hoursToSpoil", desc := "(I)I" } : Jvm.MethodName)) ∈ lw_all := lw_g (lw_at lw_m9 151 rfl) rfl
theorem q2136 : (Jvm.Cond.code ({ cls := "MaltDrumsModel", name := "hoursToSpoil", desc := "(I)I" } : Jvm.MethodName) prog_11_method_91_code (4 : Nat) (Option.some Jvm.ClassFile.FieldType.int)) ∈ lw_all := lw_g (lw_at lw_m9 152 rfl) rfl
theorem q2138 : (Jvm.Cond.instanceMethod ({ cls := "MaltDrumsModel", name := "hoursToDry", desc := "(Z)I" } : Jvm.MethodName)) ∈ lw_all := lw_g (lw_at lw_m9 154 rfl) rfl
theorem q2139 : (Jvm.Cond.selects "MaltDrumsModel" ({ cls := "MaltDrumsModel", name := "hoursToDry", desc := "(Z)I" } : Jvm.MethodName) ({ cls := "MaltDrumsModel", name := "hoursToDry", desc := "(Z)I" } : Jvm.MethodName)) ∈ lw_all := lw_g (lw_at lw_m9 155 rfl) rfl
theorem q2140 : (Jvm.Cond.code ({ cls := "MaltDrumsModel", name := "hoursToDry", desc := "(Z)I" } : Jvm.MethodName) prog_11_method_92_code (4 : Nat) (Option.some Jvm.ClassFile.FieldType.int)) ∈ lw_all := lw_g (lw_at lw_m9 156 rfl) rfl
theorem q2142 : (Jvm.Cond.instanceMethod ({ cls := "MaltDrumsModel", name := "bestAir", desc := "(I)I" } : Jvm.MethodName)) ∈ lw_all := lw_g (lw_at lw_m9 158 rfl) rfl
theorem q2143 : (Jvm.Cond.selects "MaltDrumsModel" ({ cls := "MaltDrumsModel", name := "bestAir", desc := "(I)I" } : Jvm.MethodName) ({ cls := "MaltDrumsModel", name := "bestAir", desc := "(I)I" } : Jvm.MethodName)) ∈ lw_all := lw_g (lw_at lw_m9 159 rfl) rfl
theorem q2144 : (Jvm.Cond.code ({ cls := "MaltDrumsModel", name := "bestAir", desc := "(I)I" } : Jvm.MethodName) prog_11_method_93_code (8 : Nat) (Option.some Jvm.ClassFile.FieldType.int)) ∈ lw_all := lw_g (lw_at lw_m9 160 rfl) rfl
theorem q2146 : (Jvm.Cond.instanceMethod ({ cls := "MaltDrumsModel", name := "entries", desc := "()I" } : Jvm.MethodName)) ∈ lw_all := lw_g (lw_at lw_m9 162 rfl) rfl
theorem q2147 : (Jvm.Cond.selects "MaltDrumsModel" ({ cls := "MaltDrumsModel", name := "entries", desc := "()I" } : Jvm.MethodName) ({ cls := "MaltDrumsModel", name := "entries", desc := "()I" } : Jvm.MethodName)) ∈ lw_all := lw_g (lw_at lw_m9 163 rfl) rfl
theorem q2148 : (Jvm.Cond.code ({ cls := "MaltDrumsModel", name := "entries", desc := "()I" } : Jvm.MethodName) prog_11_method_94_code (1 : Nat) (Option.some Jvm.ClassFile.FieldType.int)) ∈ lw_all := lw_g (lw_at lw_m9 164 rfl) rfl
theorem q2150 : (Jvm.Cond.instanceMethod ({ cls := "MaltDrumsModel", name := "entryAt", desc := "(I)I" } : Jvm.MethodName)) ∈ lw_all := lw_g (lw_at lw_m9 166 rfl) rfl
theorem q2151 : (Jvm.Cond.selects "MaltDrumsModel" ({ cls := "MaltDrumsModel", name := "entryAt", desc := "(I)I" } : Jvm.MethodName) ({ cls := "MaltDrumsModel", name := "entryAt", desc := "(I)I" } : Jvm.MethodName)) ∈ lw_all := lw_g (lw_at lw_m9 167 rfl) rfl
theorem q2152 : (Jvm.Cond.code ({ cls := "MaltDrumsModel", name := "entryAt", desc := "(I)I" } : Jvm.MethodName) prog_11_method_95_code (2 : Nat) (Option.some Jvm.ClassFile.FieldType.int)) ∈ lw_all := lw_g (lw_at lw_m9 168 rfl) rfl
theorem q2154 : (Jvm.Cond.instanceMethod ({ cls := "MaltDrumsModel", name := "time", desc := "()I" } : Jvm.MethodName)) ∈ lw_all := lw_g (lw_at lw_m9 170 rfl) rfl
theorem q2155 : (Jvm.Cond.selects "MaltDrumsModel" ({ cls := "MaltDrumsModel", name := "time", desc := "()I" } : Jvm.MethodName) ({ cls := "MaltDrumsModel", name := "time", desc := "()I" } : Jvm.MethodName)) ∈ lw_all := lw_g (lw_at lw_m9 171 rfl) rfl
theorem q2156 : (Jvm.Cond.code ({ cls := "MaltDrumsModel", name := "time", desc := "()I" } : Jvm.MethodName) prog_11_method_96_code (1 : Nat) (Option.some Jvm.ClassFile.FieldType.int)) ∈ lw_all := lw_g (lw_at lw_m9 172 rfl) rfl
theorem q2158 : (Jvm.Cond.instanceMethod ({ cls := "MaltDrumsModel", name := "steeped", desc := "(Z)I" } : Jvm.MethodName)) ∈ lw_all := lw_g (lw_at lw_m9 174 rfl) rfl
theorem q2159 : (Jvm.Cond.selects "MaltDrumsModel" ({ cls := "MaltDrumsModel", name := "steeped", desc := "(Z)I" } : Jvm.MethodName) ({ cls := "MaltDrumsModel", name := "steeped", desc := "(Z)I" } : Jvm.MethodName)) ∈ lw_all := lw_g (lw_at lw_m9 175 rfl) rfl
theorem q2160 : (Jvm.Cond.code ({ cls := "MaltDrumsModel", name := "steeped", desc := "(Z)I" } : Jvm.MethodName) prog_11_method_97_code (2 : Nat) (Option.some Jvm.ClassFile.FieldType.int)) ∈ lw_all := lw_g (lw_at lw_m9 176 rfl) rfl
theorem q2162 : (Jvm.Cond.instanceMethod ({ cls := "MaltDrumsModel", name := "malt", desc := "()I" } : Jvm.MethodName)) ∈ lw_all := lw_g (lw_at lw_m9 178 rfl) rfl
theorem q2163 : (Jvm.Cond.selects "MaltDrumsModel" ({ cls := "MaltDrumsModel", name := "malt", desc := "()I" } : Jvm.MethodName) ({ cls := "MaltDrumsModel", name := "malt", desc := "()I" } : Jvm.MethodName)) ∈ lw_all := lw_g (lw_at lw_m9 179 rfl) rfl
theorem q2164 : (Jvm.Cond.code ({ cls := "MaltDrumsModel", name := "malt", desc := "()I" } : Jvm.MethodName) prog_11_method_98_code (1 : Nat) (Option.some Jvm.ClassFile.FieldType.int)) ∈ lw_all := lw_g (lw_at lw_m9 180 rfl) rfl
theorem q2166 : (Jvm.Cond.instanceMethod ({ cls := "MaltDrumsModel", name := "culms", desc := "()I" } : Jvm.MethodName)) ∈ lw_all := lw_g (lw_at lw_m9 182 rfl) rfl
theorem q2167 : (Jvm.Cond.selects "MaltDrumsModel" ({ cls := "MaltDrumsModel", name := "culms", desc := "()I" } : Jvm.MethodName) ({ cls := "MaltDrumsModel", name := "culms", desc := "()I" } : Jvm.MethodName)) ∈ lw_all := lw_g (lw_at lw_m9 183 rfl) rfl
theorem q2168 : (Jvm.Cond.code ({ cls := "MaltDrumsModel", name := "culms", desc := "()I" } : Jvm.MethodName) prog_11_method_99_code (1 : Nat) (Option.some Jvm.ClassFile.FieldType.int)) ∈ lw_all := lw_g (lw_at lw_m9 184 rfl) rfl
theorem q2170 : (Jvm.Cond.instanceMethod ({ cls := "MaltDrumsModel", name := "spoilt", desc := "()I" } : Jvm.MethodName)) ∈ lw_all := lw_g (lw_at lw_m9 186 rfl) rfl
theorem q2171 : (Jvm.Cond.selects "MaltDrumsModel" ({ cls := "MaltDrumsModel", name := "spoilt", desc := "()I" } : Jvm.MethodName) ({ cls := "MaltDrumsModel", name := "spoilt", desc := "()I" } : Jvm.MethodName)) ∈ lw_all := lw_g (lw_at lw_m9 187 rfl) rfl
theorem q2172 : (Jvm.Cond.code ({ cls := "MaltDrumsModel", name := "spoilt", desc := "()I" } : Jvm.MethodName) prog_11_method_100_code (1 : Nat) (Option.some Jvm.ClassFile.FieldType.int)) ∈ lw_all := lw_g (lw_at lw_m9 188 rfl) rfl
theorem q2174 : (Jvm.Cond.instanceMethod ({ cls := "MaltDrumsModel", name := "breathed", desc := "()I" } : Jvm.MethodName)) ∈ lw_all := lw_g (lw_at lw_m9 190 rfl) rfl
theorem q2175 : (Jvm.Cond.selects "MaltDrumsModel" ({ cls := "MaltDrumsModel", name := "breathed", desc := "()I" } : Jvm.MethodName) ({ cls := "MaltDrumsModel", name := "breathed", desc := "()I" } : Jvm.MethodName)) ∈ lw_all := lw_g (lw_at lw_m9 191 rfl) rfl
theorem q2176 : (Jvm.Cond.code ({ cls := "MaltDrumsModel", name := "breathed", desc := "()I" } : Jvm.MethodName) prog_11_method_101_code (1 : Nat) (Option.some Jvm.ClassFile.FieldType.int)) ∈ lw_all := lw_g (lw_at lw_m9 192 rfl) rfl
theorem q2178 : (Jvm.Cond.instanceMethod ({ cls := "MaltDrumsModel", name := "sprays", desc := "()I" } : Jvm.MethodName)) ∈ lw_all := lw_g (lw_at lw_m9 194 rfl) rfl
theorem q2179 : (Jvm.Cond.selects "MaltDrumsModel" ({ cls := "MaltDrumsModel", name := "sprays", desc := "()I" } : Jvm.MethodName) ({ cls := "MaltDrumsModel", name := "sprays", desc := "()I" } : Jvm.MethodName)) ∈ lw_all := lw_g (lw_at lw_m9 195 rfl) rfl
theorem q2180 : (Jvm.Cond.code ({ cls := "MaltDrumsModel", name := "sprays", desc := "()I" } : Jvm.MethodName) prog_11_method_102_code (1 : Nat) (Option.some Jvm.ClassFile.FieldType.int)) ∈ lw_all := lw_g (lw_at lw_m9 196 rfl) rfl
theorem q2182 : (Jvm.Cond.instanceMethod ({ cls := "MaltDrumsModel", name := "meanGrowth", desc := "()D" } : Jvm.MethodName)) ∈ lw_all := lw_g (lw_at lw_m9 198 rfl) rfl
theorem q2183 : (Jvm.Cond.selects "MaltDrumsModel" ({ cls := "MaltDrumsModel", name := "meanGrowth", desc := "()D" } : Jvm.MethodName) ({ cls := "MaltDrumsModel", name := "meanGrowth", desc := "()D" } : Jvm.MethodName)) ∈ lw_all := lw_g (lw_at lw_m9 199 rfl) rfl
theorem q2184 : (Jvm.Cond.code ({ cls := "MaltDrumsModel", name := "meanGrowth", desc := "()D" } : Jvm.MethodName) prog_11_method_103_code (4 : Nat) (Option.some Jvm.ClassFile.FieldType.double)) ∈ lw_all := lw_g (lw_at lw_m9 200 rfl) rfl
theorem q2186 : (Jvm.Cond.instanceMethod ({ cls := "MaltDrumsModel", name := "meanHeat", desc := "()D" } : Jvm.MethodName)) ∈ lw_all := lw_g (lw_at lw_m9 202 rfl) rfl
theorem q2187 : (Jvm.Cond.selects "MaltDrumsModel" ({ cls := "MaltDrumsModel", name := "meanHeat", desc := "()D" } : Jvm.MethodName) ({ cls := "MaltDrumsModel", name := "meanHeat", desc := "()D" } : Jvm.MethodName)) ∈ lw_all := lw_g (lw_at lw_m9 203 rfl) rfl
theorem q2188 : (Jvm.Cond.code ({ cls := "MaltDrumsModel", name := "meanHeat", desc := "()D" } : Jvm.MethodName) prog_11_method_104_code (4 : Nat) (Option.some Jvm.ClassFile.FieldType.double)) ∈ lw_all := lw_g (lw_at lw_m9 204 rfl) rfl
theorem q2214 : (Jvm.Cond.castable "MaltDrumsModel" "java/lang/Object") ∈ lw_tbl := lw_at lw_m9 230 rfl
theorem in_X6 : ∀ w ∈ wsX60, w ∈ lw_all := lw_in wsX60 [1767, 1769, 1771, 1773, 1775, 1777, 1779, 1781, 1783] (by decide +kernel) (by decide +kernel)
