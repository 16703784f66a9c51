theorem q373 : (Jvm.Cond.sameMethod "[B" "java/lang/Object" "clone" "()Ljava/lang/Object;") ∈ lw_all := lw_g (lw_at lw_m2 69 rfl) rfl
set_option maxRecDepth 100000
theorem q376 : (Jvm.Cond.selects "[B" ({ cls := "[B", name := "clone", desc := "()Ljava/lang/Object;" } : Jvm.MethodName) ({ cls := "java/lang/Object", name := "clone", desc := "()Ljava/lang/Object;" } : Jvm.MethodName)) ∈ lw_all := lw_g (lw_at lw_m2 72 rfl) rfl
theorem q377 : (Jvm.Cond.castable "[B" "java/lang/Cloneable") ∈ lw_tbl := lw_at lw_m2 73 rfl
theorem q2234 : (Jvm.Cond.castable "[B" "java/lang/Object") ∈ lw_tbl := lw_at lw_m10 10 rfl
theorem q2232 : (Jvm.Cond.castable "[I" "java/lang/Object") ∈ lw_tbl := lw_at lw_m10 8 rfl
set_option maxRecDepth 100000
theorem q2235 : (Jvm.Cond.castable "[J" "java/lang/Object") ∈ lw_tbl := lw_at lw_m10 11 rfl
set_option maxRecDepth 100000
theorem q2231 : (Jvm.Cond.castable "[LMaltDrums$Drum;" "java/lang/Object") ∈ lw_tbl := lw_at lw_m10 7 rfl
set_option maxRecDepth 100000
theorem q2228 : (Jvm.Cond.sameMethod "[Ljava/lang/Object;" "java/lang/Object" "getClass" "()Ljava/lang/Class;") ∈ lw_all := lw_g (lw_at lw_m10 4 rfl) rfl
set_option maxRecDepth 100000
theorem q2229 : (Jvm.Cond.selects "[Ljava/lang/Object;" ({ cls := "java/lang/Object", name := "getClass", desc := "()Ljava/lang/Class;" } : Jvm.MethodName) ({ cls := "java/lang/Object", name := "getClass", desc := "()Ljava/lang/Class;" } : Jvm.MethodName)) ∈ lw_all := lw_g (lw_at lw_m10 5 rfl) rfl
theorem q2233 : (Jvm.Cond.castable "[Ljava/lang/Object;" "java/lang/Object") ∈ lw_tbl := lw_at lw_m10 9 rfl
theorem q88 : (Jvm.Cond.initialized "java/lang/Number") ∈ lw_all := lw_g (lw_at lw_m1 24 rfl) rfl
set_option maxRecDepth 100000
theorem q85 : (Jvm.Cond.initialized "java/lang/System") ∈ lw_all := lw_g (lw_at lw_m1 21 rfl) rfl
set_option maxRecDepth 100000
theorem q383 : (Jvm.Cond.static ({ cls := "java/lang/System", name := "arraycopy", desc := "(Ljava/lang/Object;ILjava/lang/Object;II)V" } : Jvm.MethodName)) ∈ lw_all := lw_g (lw_at lw_m2 79 rfl) rfl
theorem q384 : (Jvm.Cond.native ({ cls := "java/lang/System", name := "arraycopy", desc := "(Ljava/lang/Object;ILjava/lang/Object;II)V" } : Jvm.MethodName)) ∈ lw_all := lw_g (lw_at lw_m2 80 rfl) rfl
theorem q902 : (Jvm.Cond.interfaceMethod "java/util/List" "java/util/List" "add" "(Ljava/lang/Object;)Z") ∈ lw_tbl := lw_at lw_m4 118 rfl
set_option maxRecDepth 100000
theorem q903 : (Jvm.Cond.declares ({ cls := "java/util/List", name := "add", desc := "(Ljava/lang/Object;)Z" } : Jvm.MethodName)) ∈ lw_tbl := lw_at lw_m4 119 rfl
theorem q1504 : (Jvm.Cond.interfaceMethod "java/util/List" "java/util/List" "size" "()I") ∈ lw_tbl := lw_at lw_m7 0 rfl
theorem q1505 : (Jvm.Cond.declares ({ cls := "java/util/List", name := "size", desc := "()I" } : Jvm.MethodName)) ∈ lw_tbl := lw_at lw_m7 1 rfl
theorem q1513 : (Jvm.Cond.interfaceMethod "java/util/List" "java/util/List" "get" "(I)Ljava/lang/Object;") ∈ lw_tbl := lw_at lw_m7 9 rfl
theorem q1514 : (Jvm.Cond.declares ({ cls := "java/util/List", name := "get", desc := "(I)Ljava/lang/Object;" } : Jvm.MethodName)) ∈ lw_tbl := lw_at lw_m7 10 rfl
theorem q771 : (Jvm.Cond.interfaceMethod "jdk/internal/access/JavaLangAccess" "jdk/internal/access/JavaLangAccess" "getUTF16Char" "([BI)C") ∈ lw_tbl := lw_at lw_m3 227 rfl
set_option maxRecDepth 100000
theorem q772 : (Jvm.Cond.declares ({ cls := "jdk/internal/access/JavaLangAccess", name := "getUTF16Char", desc := "([BI)C" } : Jvm.MethodName)) ∈ lw_tbl := lw_at lw_m3 228 rfl
theorem q116 : (Jvm.Cond.arrayOver (Jvm.ClassFile.FieldType.object "MaltDrums$Drum")) ∈ lw_tbl := lw_at lw_m1 52 rfl
set_option maxRecDepth 100000
theorem q133 : (Jvm.Cond.arrayClass Jvm.ClassFile.FieldType.int) ∈ lw_all := lw_g (lw_at lw_m1 69 rfl) rfl
theorem q255 : (Jvm.Cond.arrayOver (Jvm.ClassFile.FieldType.object "java/lang/Object")) ∈ lw_tbl := lw_at lw_m1 191 rfl
theorem q298 : (Jvm.Cond.arrayClass Jvm.ClassFile.FieldType.byte) ∈ lw_all := lw_g (lw_at lw_m1 234 rfl) rfl
theorem q2189 : (Jvm.Cond.arrayClass Jvm.ClassFile.FieldType.long) ∈ lw_all := lw_g (lw_at lw_m9 205 rfl) rfl
theorem q2236 : (Jvm.Cond.arrayClass Jvm.ClassFile.FieldType.char) ∈ lw_all := lw_g (lw_at lw_m10 12 rfl) rfl
theorem q2237 : (Jvm.Cond.arrayClass Jvm.ClassFile.FieldType.short) ∈ lw_all := lw_g (lw_at lw_m10 13 rfl) rfl
/-! MaltDrums$Bed -/
set_option maxRecDepth 100000
def RX3 : String := "MaltDrums$Bed"
abbrev cX3_heap : ByteArray := prog_2_method_5_code
def yX3_heap : MethodName := ⟨RX3, "heap", "()LMaltDrums$Bed;"⟩
def dkwX3_heap_0 : List UInt8 := [187, 0, 3, 89, 3, 183, 0, 5, 176]
abbrev dktX3_heap_0 : List UInt8 := dkwX3_heap_0 ++ []
theorem dksX3_heap_0 : cX3_heap.data.toList.drop 0 = dktX3_heap_0 := by decide +kernel
theorem dX3_heap_0 : decode cX3_heap 0 = .ok (.new 3, 3) := dk_187 0 3 (dk_at dksX3_heap_0 0 rfl rfl)
theorem dX3_heap_3 : decode cX3_heap 3 = .ok (.dup, 1) := dk_89 (dk_at dksX3_heap_0 3 rfl rfl)
theorem dX3_heap_4 : decode cX3_heap 4 = .ok (.iconst 0, 1) := dk_3 (dk_at dksX3_heap_0 4 rfl rfl)
theorem dX3_heap_5 : decode cX3_heap 5 = .ok (.invokespecial 5, 3) := dk_183 0 5 (dk_at dksX3_heap_0 5 rfl rfl)
theorem dX3_heap_8 : decode cX3_heap 8 = .ok (.areturn, 1) := dk_176 (dk_at dksX3_heap_0 8 rfl rfl)
abbrev cX3_dew : ByteArray := prog_2_method_2_code
def yX3_dew : MethodName := ⟨RX3, "dew", "()I"⟩
theorem dX3_dew_0 : decode cX3_dew 0 = .ok (.iconst 3, 1) := by decide +kernel
theorem dX3_dew_1 : decode cX3_dew 1 = .ok (.ireturn, 1) := by decide +kernel
abbrev cX3_isHeap : ByteArray := prog_2_method_4_code
def yX3_isHeap : MethodName := ⟨RX3, "isHeap", "()Z"⟩
theorem dX3_isHeap_0 : decode cX3_isHeap 0 = .ok (.iconst 1, 1) := by decide +kernel
theorem dX3_isHeap_1 : decode cX3_isHeap 1 = .ok (.ireturn, 1) := by decide +kernel
abbrev cX3_turn : ByteArray := prog_2_method_3_code
def yX3_turn : MethodName := ⟨RX3, "turn", "()I"⟩
theorem dX3_turn_0 : decode cX3_turn 0 = .ok (.iconst 0, 1) := by decide +kernel
theorem dX3_turn_1 : decode cX3_turn 1 = .ok (.ireturn, 1) := by decide +kernel
theorem q67 : (Jvm.Cond.initialized "MaltDrums$Bed") ∈ lw_all := lw_g (lw_at lw_m1 3 rfl) rfl
theorem q118 : (Jvm.Cond.static ({ cls := "MaltDrums$Bed", name := "heap", desc := "()LMaltDrums$Bed;" } : Jvm.MethodName)) ∈ lw_all := lw_g (lw_at lw_m1 54 rfl) rfl
theorem q119 : (Jvm.Cond.code ({ cls := "MaltDrums$Bed", name := "heap", desc := "()LMaltDrums$Bed;" } : Jvm.MethodName) prog_2_method_5_code (0 : Nat) (Option.some (Jvm.ClassFile.FieldType.object "MaltDrums$Bed"))) ∈ lw_all := lw_g (lw_at lw_m1 55 rfl) rfl
theorem q120 : (Jvm.Cond.classLink "MaltDrums$Bed" (3 : Nat) "MaltDrums$Heap") ∈ lw_all := lw_g (lw_at lw_m1 56 rfl) rfl
theorem q122 : (Jvm.Cond.methodLinkNest "MaltDrums$Bed" (5 : Nat) ({ cls := "MaltDrums$Heap", name := "<init>", desc := "(I)V" } : Jvm.MethodName) "MaltDrums") ∈ lw_tbl := lw_at lw_m1 58 rfl
theorem q1063 : (Jvm.Cond.interfaceMethod "MaltDrums$Bed" "MaltDrums$Bed" "air" "()I") ∈ lw_tbl := lw_at lw_m5 39 rfl
theorem q1064 : (Jvm.Cond.declares ({ cls := "MaltDrums$Bed", name := "air", desc := "()I" } : Jvm.MethodName)) ∈ lw_tbl := lw_at lw_m5 40 rfl
theorem q1079 : (Jvm.Cond.interfaceMethod "MaltDrums$Bed" "MaltDrums$Bed" "dew" "()I") ∈ lw_tbl := lw_at lw_m5 55 rfl
theorem q1080 : (Jvm.Cond.declares ({ cls := "MaltDrums$Bed", name := "dew", desc := "()I" } : Jvm.MethodName)) ∈ lw_tbl := lw_at lw_m5 56 rfl
theorem q1087 : (Jvm.Cond.instanceMethod ({ cls := "MaltDrums$Bed", name := "dew", desc := "()I" } : Jvm.MethodName)) ∈ lw_all := lw_g (lw_at lw_m5 63 rfl) rfl
theorem q1088 : (Jvm.Cond.publicMethod ({ cls := "MaltDrums$Bed", name := "dew", desc := "()I" } : Jvm.MethodName)) ∈ lw_tbl := lw_at lw_m5 64 rfl
theorem q1089 : (Jvm.Cond.code ({ cls := "MaltDrums$Bed", name := "dew", desc := "()I" } : Jvm.MethodName) prog_2_method_2_code (1 : Nat) (Option.some Jvm.ClassFile.FieldType.int)) ∈ lw_all := lw_g (lw_at lw_m5 65 rfl) rfl
theorem q1092 : (Jvm.Cond.interfaceMethod "MaltDrums$Bed" "MaltDrums$Bed" "isHeap" "()Z") ∈ lw_tbl := lw_at lw_m5 68 rfl
theorem q1093 : (Jvm.Cond.declares ({ cls := "MaltDrums$Bed", name := "isHeap", desc := "()Z" } : Jvm.MethodName)) ∈ lw_tbl := lw_at lw_m5 69 rfl
theorem q1100 : (Jvm.Cond.instanceMethod ({ cls := "MaltDrums$Bed", name := "isHeap", desc := "()Z" } : Jvm.MethodName)) ∈ lw_all := lw_g (lw_at lw_m5 76 rfl) rfl
theorem q1101 : (Jvm.Cond.publicMethod ({ cls := "MaltDrums$Bed", name := "isHeap", desc := "()Z" } : Jvm.MethodName)) ∈ lw_tbl := lw_at lw_m5 77 rfl
theorem q1102 : (Jvm.Cond.code ({ cls := "MaltDrums$Bed", name := "isHeap", desc := "()Z" } : Jvm.MethodName) prog_2_method_4_code (1 : Nat) (Option.some Jvm.ClassFile.FieldType.boolean)) ∈ lw_all := lw_g (lw_at lw_m5 78 rfl) rfl
theorem q1105 : (Jvm.Cond.interfaceMethod "MaltDrums$Bed" "MaltDrums$Bed" "turn" "()I") ∈ lw_tbl := lw_at lw_m5 81 rfl
theorem q1106 : (Jvm.Cond.declares ({ cls := "MaltDrums$Bed", name := "turn", desc := "()I" } : Jvm.MethodName)) ∈ lw_tbl := lw_at lw_m5 82 rfl
theorem q1113 : (Jvm.Cond.instanceMethod ({ cls := "MaltDrums$Bed", name := "turn", desc := "()I" } : Jvm.MethodName)) ∈ lw_all := lw_g (lw_at lw_m5 89 rfl) rfl
theorem q1114 : (Jvm.Cond.publicMethod ({ cls := "MaltDrums$Bed", name := "turn", desc := "()I" } : Jvm.MethodName)) ∈ lw_tbl := lw_at lw_m5 90 rfl
theorem q1115 : (Jvm.Cond.code ({ cls := "MaltDrums$Bed", name := "turn", desc := "()I" } : Jvm.MethodName) prog_2_method_3_code (1 : Nat) (Option.some Jvm.ClassFile.FieldType.int)) ∈ lw_all := lw_g (lw_at lw_m5 91 rfl) rfl
/-! MaltDrums$Heap -/
set_option maxRecDepth 100000
def RX4 : String := "MaltDrums$Heap"
def TX4 : u_T := fun k => match k with
  | _ => ("MaltDrums$Heap", "air", "I", true)
def tyX4 : Nat → FieldType := fun k => match k with
  | _ => .int
abbrev wsX40 : List Cond := u_ws RX4 TX4 1
theorem nmX4 : ∀ a, a < 1 → ∀ b, b < 1 → a ≠ b → (TX4 a).2.1 ≠ (TX4 b).2.1 := by decide +kernel
theorem tyX4_ok : ∀ k, k < 1 → parseFieldDescriptor (TX4 k).2.2.1 = some (tyX4 k) := by decide +kernel
abbrev cX4_init : ByteArray := prog_5_method_1_code
def yX4_init : MethodName := ⟨RX4, "<init>", "(I)V"⟩
def dkwX4_init_0 : List UInt8 := [42, 183, 0, 1, 42, 27, 181, 0, 7, 177]
abbrev dktX4_init_0 : List UInt8 := dkwX4_init_0 ++ []
theorem dksX4_init_0 : cX4_init.data.toList.drop 0 = dktX4_init_0 := by decide +kernel
theorem dX4_init_0 : decode cX4_init 0 = .ok (.aload_n 0, 1) := dk_42 (dk_at dksX4_init_0 0 rfl rfl)
theorem dX4_init_1 : decode cX4_init 1 = .ok (.invokespecial 1, 3) := dk_183 0 1 (dk_at dksX4_init_0 1 rfl rfl)
theorem dX4_init_4 : decode cX4_init 4 = .ok (.aload_n 0, 1) := dk_42 (dk_at dksX4_init_0 4 rfl rfl)
theorem dX4_init_5 : decode cX4_init 5 = .ok (.iload_n 1, 1) := dk_27 (dk_at dksX4_init_0 5 rfl rfl)
theorem dX4_init_6 : decode cX4_init 6 = .ok (.putfield 7, 3) := dk_181 0 7 (dk_at dksX4_init_0 6 rfl rfl)
theorem dX4_init_9 : decode cX4_init 9 = .ok (.return_, 1) := dk_177 (dk_at dksX4_init_0 9 rfl rfl)
abbrev cX4_air : ByteArray := prog_5_method_5_code
def yX4_air : MethodName := ⟨RX4, "air", "()I"⟩
theorem dX4_air_0 : decode cX4_air 0 = .ok (.aload_n 0, 1) := by decide +kernel
theorem dX4_air_1 : decode cX4_air 1 = .ok (.getfield 7, 3) := by decide +kernel
theorem dX4_air_4 : decode cX4_air 4 = .ok (.ireturn, 1) := by decide +kernel
theorem q69 : (Jvm.Cond.initialized "MaltDrums$Heap") ∈ lw_all := lw_g (lw_at lw_m1 5 rfl) rfl
theorem q121 : (Jvm.Cond.instantiable "MaltDrums$Heap" (1 : Nat)) ∈ lw_all := lw_g (lw_at lw_m1 57 rfl) rfl
theorem q123 : (Jvm.Cond.instanceMethod ({ cls := "MaltDrums$Heap", name := "<init>", desc := "(I)V" } : Jvm.MethodName)) ∈ lw_all := lw_g (lw_at lw_m1 59 rfl) rfl
theorem q124 : (Jvm.Cond.code ({ cls := "MaltDrums$Heap", name := "<init>", desc := "(I)V" } : Jvm.MethodName) prog_5_method_1_code (2 : Nat) (Option.none : Option Jvm.ClassFile.FieldType)) ∈ lw_all := lw_g (lw_at lw_m1 60 rfl) rfl
theorem q125 : (Jvm.Cond.methodLink "MaltDrums$Heap" (1 : Nat) ({ cls := "java/lang/Record", name := "<init>", desc := "()V" } : Jvm.MethodName)) ∈ lw_all := lw_g (lw_at lw_m1 61 rfl) rfl
theorem q129 : (Jvm.Cond.fieldLink "MaltDrums$Heap" (7 : Nat) "MaltDrums$Heap" "air" "I") ∈ lw_all := lw_g (lw_at lw_m1 65 rfl) rfl
theorem q130 : (Jvm.Cond.laysFinal "MaltDrums$Heap" "MaltDrums$Heap" "air" "I") ∈ lw_all := lw_g (lw_at lw_m1 66 rfl) rfl
theorem q131 : (Jvm.Cond.soleField "MaltDrums$Heap" "air") ∈ lw_all := lw_g (lw_at lw_m1 67 rfl) rfl
theorem q132 : (Jvm.Cond.superclass "MaltDrums$Heap" "java/lang/Record") ∈ lw_all := lw_g (lw_at lw_m1 68 rfl) rfl
theorem q932 : (Jvm.Cond.selects "MaltDrums$Heap" ({ cls := "java/lang/Object", name := "getClass", desc := "()Ljava/lang/Class;" } : Jvm.MethodName) ({ cls := "java/lang/Object", name := "getClass", desc := "()Ljava/lang/Class;" } : Jvm.MethodName)) ∈ lw_all := lw_g (lw_at lw_m4 148 rfl) rfl
theorem q1071 : (Jvm.Cond.castable "MaltDrums$Heap" "MaltDrums$Bed") ∈ lw_tbl := lw_at lw_m5 47 rfl
theorem q1072 : (Jvm.Cond.selects "MaltDrums$Heap" ({ cls := "MaltDrums$Bed", name := "air", desc := "()I" } : Jvm.MethodName) ({ cls := "MaltDrums$Heap", name := "air", desc := "()I" } : Jvm.MethodName)) ∈ lw_all := lw_g (lw_at lw_m5 48 rfl) rfl
theorem q1073 : (Jvm.Cond.unhidden "MaltDrums$Heap" "air" "()I") ∈ lw_tbl := lw_at lw_m5 49 rfl
theorem q1074 : (Jvm.Cond.instanceMethod ({ cls := "MaltDrums$Heap", name := "air", desc := "()I" } : Jvm.MethodName)) ∈ lw_all := lw_g (lw_at lw_m5 50 rfl) rfl
theorem q1075 : (Jvm.Cond.publicMethod ({ cls := "MaltDrums$Heap", name := "air", desc := "()I" } : Jvm.MethodName)) ∈ lw_tbl := lw_at lw_m5 51 rfl
theorem q1076 : (Jvm.Cond.code ({ cls := "MaltDrums$Heap", name := "air", desc := "()I" } : Jvm.MethodName) prog_5_method_5_code (1 : Nat) (Option.some Jvm.ClassFile.FieldType.int)) ∈ lw_all := lw_g (lw_at lw_m5 52 rfl) rfl
theorem q1086 : (Jvm.Cond.unhidden "MaltDrums$Heap" "dew" "()I") ∈ lw_tbl := lw_at lw_m5 62 rfl
theorem q1099 : (Jvm.Cond.unhidden "MaltDrums$Heap" "isHeap" "()Z") ∈ lw_tbl := lw_at lw_m5 75 rfl
theorem q1112 : (Jvm.Cond.unhidden "MaltDrums$Heap" "turn" "()I") ∈ lw_tbl := lw_at lw_m5 88 rfl
theorem q2211 : (Jvm.Cond.castable "MaltDrums$Heap" "java/lang/Object") ∈ lw_tbl := lw_at lw_m9 227 rfl
theorem in_X4 : ∀ w ∈ wsX40, w ∈ lw_all := lw_in wsX40 [130] (by decide +kernel) (by decide +kernel)
/-! MaltDrums$Drum -/
set_option maxRecDepth 100000
def RX5 : String := "MaltDrums$Drum"
def TX5 : u_T := fun k => match k with
  | 0 => ("MaltDrums$Drum", "lot", "I", false)
  | 1 => ("MaltDrums$Drum", "air", "I", false)
  | 2 => ("MaltDrums$Drum", "dew", "I", false)
  | _ => ("MaltDrums$Drum", "turn", "I", false)
def tyX5 : Nat → FieldType := fun k => match k with
  | 0 => .int
  | 1 => .int
  | 2 => .int
  | _ => .int
abbrev wsX50 : List Cond := u_ws RX5 TX5 4
theorem nmX5 : ∀ a, a < 4 → ∀ b, b < 4 → a ≠ b → (TX5 a).2.1 ≠ (TX5 b).2.1 := by decide +kernel
theorem tyX5_ok : ∀ k, k < 4 → parseFieldDescriptor (TX5 k).2.2.1 = some (tyX5 k) := by decide +kernel
abbrev cX5_init : ByteArray := prog_3_method_1_code
def yX5_init : MethodName := ⟨RX5, "<init>", "()V"⟩
def dkwX5_init_0 : List UInt8 := [42, 183, 0, 3, 42, 2, 181, 0, 9, 177]
abbrev dktX5_init_0 : List UInt8 := dkwX5_init_0 ++ []
theorem dksX5_init_0 : cX5_init.data.toList.drop 0 = dktX5_init_0 := by decide +kernel
theorem dX5_init_0 : decode cX5_init 0 = .ok (.aload_n 0, 1) := dk_42 (dk_at dksX5_init_0 0 rfl rfl)
theorem dX5_init_1 : decode cX5_init 1 = .ok (.invokespecial 3, 3) := dk_183 0 3 (dk_at dksX5_init_0 1 rfl rfl)
theorem dX5_init_4 : decode cX5_init 4 = .ok (.aload_n 0, 1) := dk_42 (dk_at dksX5_init_0 4 rfl rfl)
theorem dX5_init_5 : decode cX5_init 5 = .ok (.iconst (-1), 1) := dk_2 (dk_at dksX5_init_0 5 rfl rfl)
theorem dX5_init_6 : decode cX5_init 6 = .ok (.putfield 9, 3) := dk_181 0 9 (dk_at dksX5_init_0 6 rfl rfl)
theorem dX5_init_9 : decode cX5_init 9 = .ok (.return_, 1) := dk_177 (dk_at dksX5_init_0 9 rfl rfl)
abbrev cX5_init_2 : ByteArray := prog_3_method_2_code
def yX5_init_2 : MethodName := ⟨RX5, "<init>", "(LMaltDrums$Drum;)V"⟩
def dkwX5_init_2_1 : List UInt8 := [181, 0, 15, 42, 43, 180, 0, 18, 181, 0, 18, 42, 43, 180, 0, 21, 181, 0, 21, 177]
abbrev dktX5_init_2_1 : List UInt8 := dkwX5_init_2_1 ++ []
def dkwX5_init_2_0 : List UInt8 := [42, 183, 0, 3, 42, 2, 181, 0, 9, 42, 43, 180, 0, 9, 181, 0, 9, 42, 43, 180, 0, 15]
abbrev dktX5_init_2_0 : List UInt8 := dkwX5_init_2_0 ++ dktX5_init_2_1
theorem dksX5_init_2_0 : cX5_init_2.data.toList.drop 0 = dktX5_init_2_0 := by decide +kernel
theorem dksX5_init_2_1 : cX5_init_2.data.toList.drop 22 = dktX5_init_2_1 := dk_seg dksX5_init_2_0 22 rfl rfl
theorem dX5_init_2_0 : decode cX5_init_2 0 = .ok (.aload_n 0, 1) := dk_42 (dk_at dksX5_init_2_0 0 rfl rfl)
theorem dX5_init_2_1 : decode cX5_init_2 1 = .ok (.invokespecial 3, 3) := dk_183 0 3 (dk_at dksX5_init_2_0 1 rfl rfl)
theorem dX5_init_2_4 : decode cX5_init_2 4 = .ok (.aload_n 0, 1) := dk_42 (dk_at dksX5_init_2_0 4 rfl rfl)
theorem dX5_init_2_5 : decode cX5_init_2 5 = .ok (.iconst (-1), 1) := dk_2 (dk_at dksX5_init_2_0 5 rfl rfl)
theorem dX5_init_2_6 : decode cX5_init_2 6 = .ok (.putfield 9, 3) := dk_181 0 9 (dk_at dksX5_init_2_0 6 rfl rfl)
theorem dX5_init_2_9 : decode cX5_init_2 9 = .ok (.aload_n 0, 1) := dk_42 (dk_at dksX5_init_2_0 9 rfl rfl)
theorem dX5_init_2_10 : decode cX5_init_2 10 = .ok (.aload_n 1, 1) := dk_43 (dk_at dksX5_init_2_0 10 rfl rfl)
theorem dX5_init_2_11 : decode cX5_init_2 11 = .ok (.getfield 9, 3) := dk_180 0 9 (dk_at dksX5_init_2_0 11 rfl rfl)
theorem dX5_init_2_14 : decode cX5_init_2 14 = .ok (.putfield 9, 3) := dk_181 0 9 (dk_at dksX5_init_2_0 14 rfl rfl)
theorem dX5_init_2_17 : decode cX5_init_2 17 = .ok (.aload_n 0, 1) := dk_42 (dk_at dksX5_init_2_0 17 rfl rfl)
theorem dX5_init_2_18 : decode cX5_init_2 18 = .ok (.aload_n 1, 1) := dk_43 (dk_at dksX5_init_2_0 18 rfl rfl)
theorem dX5_init_2_19 : decode cX5_init_2 19 = .ok (.getfield 15, 3) := dk_180 0 15 (dk_at dksX5_init_2_0 19 rfl rfl)
theorem dX5_init_2_22 : decode cX5_init_2 22 = .ok (.putfield 15, 3) := dk_181 0 15 (dk_at dksX5_init_2_1 0 rfl rfl)
theorem dX5_init_2_25 : decode cX5_init_2 25 = .ok (.aload_n 0, 1) := dk_42 (dk_at dksX5_init_2_1 3 rfl rfl)
theorem dX5_init_2_26 : decode cX5_init_2 26 = .ok (.aload_n 1, 1) := dk_43 (dk_at dksX5_init_2_1 4 rfl rfl)
theorem dX5_init_2_27 : decode cX5_init_2 27 = .ok (.getfield 18, 3) := dk_180 0 18 (dk_at dksX5_init_2_1 5 rfl rfl)
theorem dX5_init_2_30 : decode cX5_init_2 30 = .ok (.putfield 18, 3) := dk_181 0 18 (dk_at dksX5_init_2_1 8 rfl rfl)
theorem dX5_init_2_33 : decode cX5_init_2 33 = .ok (.aload_n 0, 1) := dk_42 (dk_at dksX5_init_2_1 11 rfl rfl)
theorem dX5_init_2_34 : decode cX5_init_2 34 = .ok (.aload_n 1, 1) := dk_43 (dk_at dksX5_init_2_1 12 rfl rfl)
theorem dX5_init_2_35 : decode cX5_init_2 35 = .ok (.getfield 21, 3) := dk_180 0 21 (dk_at dksX5_init_2_1 13 rfl rfl)
theorem dX5_init_2_38 : decode cX5_init_2 38 = .ok (.putfield 21, 3) := dk_181 0 21 (dk_at dksX5_init_2_1 16 rfl rfl)
theorem dX5_init_2_41 : decode cX5_init_2 41 = .ok (.return_, 1) := dk_177 (dk_at dksX5_init_2_1 19 rfl rfl)
abbrev cX5_air : ByteArray := prog_3_method_3_code
def yX5_air : MethodName := ⟨RX5, "air", "()I"⟩
theorem dX5_air_0 : decode cX5_air 0 = .ok (.aload_n 0, 1) := by decide +kernel
theorem dX5_air_1 : decode cX5_air 1 = .ok (.getfield 15, 3) := by decide +kernel
theorem dX5_air_4 : decode cX5_air 4 = .ok (.ireturn, 1) := by decide +kernel
abbrev cX5_dew : ByteArray := prog_3_method_4_code
def yX5_dew : MethodName := ⟨RX5, "dew", "()I"⟩
theorem dX5_dew_0 : decode cX5_dew 0 = .ok (.aload_n 0, 1) := by decide +kernel
theorem dX5_dew_1 : decode cX5_dew 1 = .ok (.getfield 18, 3) := by decide +kernel
theorem dX5_dew_4 : decode cX5_dew 4 = .ok (.ireturn, 1) := by decide +kernel
abbrev cX5_isHeap : ByteArray := prog_3_method_6_code
def yX5_isHeap : MethodName := ⟨RX5, "isHeap", "()Z"⟩
theorem dX5_isHeap_0 : decode cX5_isHeap 0 = .ok (.iconst 0, 1) := by decide +kernel
theorem dX5_isHeap_1 : decode cX5_isHeap 1 = .ok (.ireturn, 1) := by decide +kernel
abbrev cX5_turn : ByteArray := prog_3_method_5_code
def yX5_turn : MethodName := ⟨RX5, "turn", "()I"⟩
theorem dX5_turn_0 : decode cX5_turn 0 = .ok (.aload_n 0, 1) := by decide +kernel
theorem dX5_turn_1 : decode cX5_turn 1 = .ok (.getfield 21, 3) := by decide +kernel
theorem dX5_turn_4 : decode cX5_turn 4 = .ok (.ireturn, 1) := by decide +kernel
theorem q70 : (Jvm.Cond.initialized "MaltDrums$Drum") ∈ lw_all := lw_g (lw_at lw_m1 6 rfl) rfl
theorem q134 : (Jvm.Cond.instantiable "MaltDrums$Drum" (4 : Nat)) ∈ lw_all := lw_g (lw_at lw_m1 70 rfl) rfl
theorem q136 : (Jvm.Cond.instanceMethod ({ cls := "MaltDrums$Drum", name := "<init>", desc := "()V" } : Jvm.MethodName)) ∈ lw_all := lw_g (lw_at lw_m1 72 rfl) rfl
theorem q137 : (Jvm.Cond.code ({ cls := "MaltDrums$Drum", name := "<init>", desc := "()V" } : Jvm.MethodName) prog_3_method_1_code (1 : Nat) (Option.none : Option Jvm.ClassFile.FieldType)) ∈ lw_all := lw_g (lw_at lw_m1 73 rfl) rfl
theorem q138 : (Jvm.Cond.methodLink "MaltDrums$Drum" (3 : Nat) ({ cls := "java/lang/Object", name := "<init>", desc := "()V" } : Jvm.MethodName)) ∈ lw_all := lw_g (lw_at lw_m1 74 rfl) rfl
theorem q139 : (Jvm.Cond.fieldLink "MaltDrums$Drum" (9 : Nat) "MaltDrums$Drum" "lot" "I") ∈ lw_all := lw_g (lw_at lw_m1 75 rfl) rfl
theorem q142 : (Jvm.Cond.fieldLink "MaltDrums$Drum" (15 : Nat) "MaltDrums$Drum" "air" "I") ∈ lw_all := lw_g (lw_at lw_m1 78 rfl) rfl
theorem q144 : (Jvm.Cond.fieldLink "MaltDrums$Drum" (18 : Nat) "MaltDrums$Drum" "dew" "I") ∈ lw_all := lw_g (lw_at lw_m1 80 rfl) rfl
theorem q146 : (Jvm.Cond.fieldLink "MaltDrums$Drum" (21 : Nat) "MaltDrums$Drum" "turn" "I") ∈ lw_all := lw_g (lw_at lw_m1 82 rfl) rfl
theorem q148 : (Jvm.Cond.lays "MaltDrums$Drum" "MaltDrums$Drum" "lot" "I") ∈ lw_all := lw_g (lw_at lw_m1 84 rfl) rfl
theorem q149 : (Jvm.Cond.soleField "MaltDrums$Drum" "lot") ∈ lw_all := lw_g (lw_at lw_m1 85 rfl) rfl
theorem q150 : (Jvm.Cond.lays "MaltDrums$Drum" "MaltDrums$Drum" "air" "I") ∈ lw_all := lw_g (lw_at lw_m1 86 rfl) rfl
theorem q151 : (Jvm.Cond.soleField "MaltDrums$Drum" "air") ∈ lw_all := lw_g (lw_at lw_m1 87 rfl) rfl
theorem q152 : (Jvm.Cond.lays "MaltDrums$Drum" "MaltDrums$Drum" "dew" "I") ∈ lw_all := lw_g (lw_at lw_m1 88 rfl) rfl
theorem q153 : (Jvm.Cond.soleField "MaltDrums$Drum" "dew") ∈ lw_all := lw_g (lw_at lw_m1 89 rfl) rfl
theorem q154 : (Jvm.Cond.lays "MaltDrums$Drum" "MaltDrums$Drum" "turn" "I") ∈ lw_all := lw_g (lw_at lw_m1 90 rfl) rfl
theorem q155 : (Jvm.Cond.soleField "MaltDrums$Drum" "turn") ∈ lw_all := lw_g (lw_at lw_m1 91 rfl) rfl
theorem q156 : (Jvm.Cond.superclass "MaltDrums$Drum" "java/lang/Object") ∈ lw_all := lw_g (lw_at lw_m1 92 rfl) rfl
theorem q930 : (Jvm.Cond.selects "MaltDrums$Drum" ({ cls := "java/lang/Object", name := "getClass", desc := "()Ljava/lang/Class;" } : Jvm.MethodName) ({ cls := "java/lang/Object", name := "getClass", desc := "()Ljava/lang/Class;" } : Jvm.MethodName)) ∈ lw_all := lw_g (lw_at lw_m4 146 rfl) rfl
theorem q975 : (Jvm.Cond.instanceMethod ({ cls := "MaltDrums$Drum", name := "<init>", desc := "(LMaltDrums$Drum;)V" } : Jvm.MethodName)) ∈ lw_all := lw_g (lw_at lw_m4 191 rfl) rfl
theorem q976 : (Jvm.Cond.code ({ cls := "MaltDrums$Drum", name := "<init>", desc := "(LMaltDrums$Drum;)V" } : Jvm.MethodName) prog_3_method_2_code (2 : Nat) (Option.none : Option Jvm.ClassFile.FieldType)) ∈ lw_all := lw_g (lw_at lw_m4 192 rfl) rfl
theorem q1065 : (Jvm.Cond.castable "MaltDrums$Drum" "MaltDrums$Bed") ∈ lw_tbl := lw_at lw_m5 41 rfl
theorem q1066 : (Jvm.Cond.selects "MaltDrums$Drum" ({ cls := "MaltDrums$Bed", name := "air", desc := "()I" } : Jvm.MethodName) ({ cls := "MaltDrums$Drum", name := "air", desc := "()I" } : Jvm.MethodName)) ∈ lw_all := lw_g (lw_at lw_m5 42 rfl) rfl
theorem q1067 : (Jvm.Cond.unhidden "MaltDrums$Drum" "air" "()I") ∈ lw_tbl := lw_at lw_m5 43 rfl
theorem q1068 : (Jvm.Cond.instanceMethod ({ cls := "MaltDrums$Drum", name := "air", desc := "()I" } : Jvm.MethodName)) ∈ lw_all := lw_g (lw_at lw_m5 44 rfl) rfl
theorem q1069 : (Jvm.Cond.publicMethod ({ cls := "MaltDrums$Drum", name := "air", desc := "()I" } : Jvm.MethodName)) ∈ lw_tbl := lw_at lw_m5 45 rfl
theorem q1070 : (Jvm.Cond.code ({ cls := "MaltDrums$Drum", name := "air", desc := "()I" } : Jvm.MethodName) prog_3_method_3_code (1 : Nat) (Option.some Jvm.ClassFile.FieldType.int)) ∈ lw_all := lw_g (lw_at lw_m5 46 rfl) rfl
theorem q1081 : (Jvm.Cond.selects "MaltDrums$Drum" ({ cls := "MaltDrums$Bed", name := "dew", desc := "()I" } : Jvm.MethodName) ({ cls := "MaltDrums$Drum", name := "dew", desc := "()I" } : Jvm.MethodName)) ∈ lw_all := lw_g (lw_at lw_m5 57 rfl) rfl
theorem q1082 : (Jvm.Cond.unhidden "MaltDrums$Drum" "dew" "()I") ∈ lw_tbl := lw_at lw_m5 58 rfl
theorem q1083 : (Jvm.Cond.instanceMethod ({ cls := "MaltDrums$Drum", name := "dew", desc := "()I" } : Jvm.MethodName)) ∈ lw_all := lw_g (lw_at lw_m5 59 rfl) rfl
theorem q1084 : (Jvm.Cond.publicMethod ({ cls := "MaltDrums$Drum", name := "dew", desc := "()I" } : Jvm.MethodName)) ∈ lw_tbl := lw_at lw_m5 60 rfl
theorem q1085 : (Jvm.Cond.code ({ cls := "MaltDrums$Drum", name := "dew", desc := "()I" } : Jvm.MethodName) prog_3_method_4_code (1 : Nat) (Option.some Jvm.ClassFile.FieldType.int)) ∈ lw_all := lw_g (lw_at lw_m5 61 rfl) rfl
theorem q1094 : (Jvm.Cond.selects "MaltDrums$Drum" ({ cls := "MaltDrums$Bed", name := "isHeap", desc := "()Z" } : Jvm.MethodName) ({ cls := "MaltDrums$Drum", name := "isHeap", desc := "()Z" } : Jvm.MethodName)) ∈ lw_all := lw_g (lw_at lw_m5 70 rfl) rfl
theorem q1095 : (Jvm.Cond.unhidden "MaltDrums$Drum" "isHeap" "()Z") ∈ lw_tbl := lw_at lw_m5 71 rfl
theorem q1096 : (Jvm.Cond.instanceMethod ({ cls := "MaltDrums$Drum", name := "isHeap", desc := "()Z" } : Jvm.MethodName)) ∈ lw_all := lw_g (lw_at lw_m5 72 rfl) rfl
theorem q1097 : (Jvm.Cond.publicMethod ({ cls := "MaltDrums$Drum", name := "isHeap", desc := "()Z" } : Jvm.MethodName)) ∈ lw_tbl := lw_at lw_m5 73 rfl
theorem q1098 : (Jvm.Cond.code ({ cls := "MaltDrums$Drum", name := "isHeap", desc := "()Z" } : Jvm.MethodName) prog_3_method_6_code (1 : Nat) (Option.some Jvm.ClassFile.FieldType.boolean)) ∈ lw_all := lw_g (lw_at lw_m5 74 rfl) rfl
theorem q1107 : (Jvm.Cond.selects "MaltDrums$Drum" ({ cls := "MaltDrums$Bed", name := "turn", desc := "()I" } : Jvm.MethodName) ({ cls := "MaltDrums$Drum", name := "turn", desc := "()I" } : Jvm.MethodName)) ∈ lw_all := lw_g (lw_at lw_m5 83 rfl) rfl
theorem q1108 : (Jvm.Cond.unhidden "MaltDrums$Drum" "turn" "()I") ∈ lw_tbl := lw_at lw_m5 84 rfl
theorem q1109 : (Jvm.Cond.instanceMethod ({ cls := "MaltDrums$Drum", name := "turn", desc := "()I" } : Jvm.MethodName)) ∈ lw_all := lw_g (lw_at lw_m5 85 rfl) rfl
theorem q1110 : (Jvm.Cond.publicMethod ({ cls := "MaltDrums$Drum", name := "turn", desc := "()I" } : Jvm.MethodName)) ∈ lw_tbl := lw_at lw_m5 86 rfl
theorem q1111 : (Jvm.Cond.code ({ cls := "MaltDrums$Drum", name := "turn", desc := "()I" } : Jvm.MethodName) prog_3_method_5_code (1 : Nat) (Option.some Jvm.ClassFile.FieldType.int)) ∈ lw_all := lw_g (lw_at lw_m5 87 rfl) rfl
theorem q2208 : (Jvm.Cond.castable "MaltDrums$Drum" "java/lang/Object") ∈ lw_tbl := lw_at lw_m9 224 rfl
theorem in_X5 : ∀ w ∈ wsX50, w ∈ lw_all := lw_in wsX50 [148, 150, 152, 154] (by decide +kernel) (by decide +kernel)
/-! MaltDrums$Entry -/
set_option maxRecDepth 100000
def RX7 : String := "MaltDrums$Entry"
def TX7 : u_T := fun k => match k with
  | 0 => ("MaltDrums$Entry", "told", "I", true)
  | _ => ("MaltDrums$Entry", "older", "LMaltDrums$Entry;", true)
def tyX7 : Nat → FieldType := fun k => match k with
  | 0 => .int
  | _ => .object "MaltDrums$Entry"
abbrev wsX70 : List Cond := u_ws RX7 TX7 2
theorem nmX7 : ∀ a, a < 2 → ∀ b, b < 2 → a ≠ b → (TX7 a).2.1 ≠ (TX7 b).2.1 := by decide +kernel
theorem tyX7_ok : ∀ k, k < 2 → parseFieldDescriptor (TX7 k).2.2.1 = some (tyX7 k) := by decide +kernel
abbrev cX7_first : ByteArray := prog_4_method_4_code
def yX7_first : MethodName := ⟨RX7, "first", "(I)LMaltDrums$Entry;"⟩
def dkwX7_first_1 : List UInt8 := [42, 180, 0, 13, 27, 4, 100, 182, 0, 25, 183, 0, 28, 176]
abbrev dktX7_first_1 : List UInt8 := dkwX7_first_1 ++ []
def dkwX7_first_0 : List UInt8 := [187, 0, 8, 89, 42, 180, 0, 7, 27, 4, 159, 0, 10, 42, 180, 0, 13, 199, 0, 7, 1, 167, 0, 13]
abbrev dktX7_first_0 : List UInt8 := dkwX7_first_0 ++ dktX7_first_1
theorem dksX7_first_0 : cX7_first.data.toList.drop 0 = dktX7_first_0 := by decide +kernel
theorem dksX7_first_1 : cX7_first.data.toList.drop 24 = dktX7_first_1 := dk_seg dksX7_first_0 24 rfl rfl
theorem dX7_first_0 : decode cX7_first 0 = .ok (.new 8, 3) := dk_187 0 8 (dk_at dksX7_first_0 0 rfl rfl)
theorem dX7_first_3 : decode cX7_first 3 = .ok (.dup, 1) := dk_89 (dk_at dksX7_first_0 3 rfl rfl)
theorem dX7_first_4 : decode cX7_first 4 = .ok (.aload_n 0, 1) := dk_42 (dk_at dksX7_first_0 4 rfl rfl)
theorem dX7_first_5 : decode cX7_first 5 = .ok (.getfield 7, 3) := dk_180 0 7 (dk_at dksX7_first_0 5 rfl rfl)
theorem dX7_first_8 : decode cX7_first 8 = .ok (.iload_n 1, 1) := dk_27 (dk_at dksX7_first_0 8 rfl rfl)
theorem dX7_first_9 : decode cX7_first 9 = .ok (.iconst 1, 1) := dk_4 (dk_at dksX7_first_0 9 rfl rfl)
theorem dX7_first_10 : decode cX7_first 10 = .ok (.if_icmp .eq 10, 3) := dk_159 0 10 (dk_at dksX7_first_0 10 rfl rfl)
theorem dX7_first_13 : decode cX7_first 13 = .ok (.aload_n 0, 1) := dk_42 (dk_at dksX7_first_0 13 rfl rfl)
theorem dX7_first_14 : decode cX7_first 14 = .ok (.getfield 13, 3) := dk_180 0 13 (dk_at dksX7_first_0 14 rfl rfl)
theorem dX7_first_17 : decode cX7_first 17 = .ok (.ifnonnull 7, 3) := dk_199 0 7 (dk_at dksX7_first_0 17 rfl rfl)
theorem dX7_first_20 : decode cX7_first 20 = .ok (.aconst_null, 1) := dk_1 (dk_at dksX7_first_0 20 rfl rfl)
theorem dX7_first_21 : decode cX7_first 21 = .ok (.goto 13, 3) := dk_167 0 13 (dk_at dksX7_first_0 21 rfl rfl)
theorem dX7_first_24 : decode cX7_first 24 = .ok (.aload_n 0, 1) := dk_42 (dk_at dksX7_first_1 0 rfl rfl)
theorem dX7_first_25 : decode cX7_first 25 = .ok (.getfield 13, 3) := dk_180 0 13 (dk_at dksX7_first_1 1 rfl rfl)
theorem dX7_first_28 : decode cX7_first 28 = .ok (.iload_n 1, 1) := dk_27 (dk_at dksX7_first_1 4 rfl rfl)
theorem dX7_first_29 : decode cX7_first 29 = .ok (.iconst 1, 1) := dk_4 (dk_at dksX7_first_1 5 rfl rfl)
theorem dX7_first_30 : decode cX7_first 30 = .ok (.isub, 1) := dk_100 (dk_at dksX7_first_1 6 rfl rfl)
theorem dX7_first_31 : decode cX7_first 31 = .ok (.invokevirtual 25, 3) := dk_182 0 25 (dk_at dksX7_first_1 7 rfl rfl)
theorem dX7_first_34 : decode cX7_first 34 = .ok (.invokespecial 28, 3) := dk_183 0 28 (dk_at dksX7_first_1 10 rfl rfl)
theorem dX7_first_37 : decode cX7_first 37 = .ok (.areturn, 1) := dk_176 (dk_at dksX7_first_1 13 rfl rfl)
abbrev cX7_init : ByteArray := prog_4_method_1_code
def yX7_init : MethodName := ⟨RX7, "<init>", "(ILMaltDrums$Entry;)V"⟩
def dkwX7_init_0 : List UInt8 := [42, 183, 0, 1, 42, 27, 181, 0, 7, 42, 44, 181, 0, 13, 177]
abbrev dktX7_init_0 : List UInt8 := dkwX7_init_0 ++ []
theorem dksX7_init_0 : cX7_init.data.toList.drop 0 = dktX7_init_0 := by decide +kernel
theorem dX7_init_0 : decode cX7_init 0 = .ok (.aload_n 0, 1) := dk_42 (dk_at dksX7_init_0 0 rfl rfl)
theorem dX7_init_1 : decode cX7_init 1 = .ok (.invokespecial 1, 3) := dk_183 0 1 (dk_at dksX7_init_0 1 rfl rfl)
theorem dX7_init_4 : decode cX7_init 4 = .ok (.aload_n 0, 1) := dk_42 (dk_at dksX7_init_0 4 rfl rfl)
theorem dX7_init_5 : decode cX7_init 5 = .ok (.iload_n 1, 1) := dk_27 (dk_at dksX7_init_0 5 rfl rfl)
theorem dX7_init_6 : decode cX7_init 6 = .ok (.putfield 7, 3) := dk_181 0 7 (dk_at dksX7_init_0 6 rfl rfl)
theorem dX7_init_9 : decode cX7_init 9 = .ok (.aload_n 0, 1) := dk_42 (dk_at dksX7_init_0 9 rfl rfl)
theorem dX7_init_10 : decode cX7_init 10 = .ok (.aload_n 2, 1) := dk_44 (dk_at dksX7_init_0 10 rfl rfl)
theorem dX7_init_11 : decode cX7_init 11 = .ok (.putfield 13, 3) := dk_181 0 13 (dk_at dksX7_init_0 11 rfl rfl)
theorem dX7_init_14 : decode cX7_init 14 = .ok (.return_, 1) := dk_177 (dk_at dksX7_init_0 14 rfl rfl)
abbrev cX7_size : ByteArray := prog_4_method_2_code
def yX7_size : MethodName := ⟨RX7, "size", "()I"⟩
def dkwX7_size_0 : List UInt8 := [42, 180, 0, 13, 199, 0, 7, 4, 167, 0, 12, 4, 42, 180, 0, 13, 182, 0, 17, 96, 172]
abbrev dktX7_size_0 : List UInt8 := dkwX7_size_0 ++ []
theorem dksX7_size_0 : cX7_size.data.toList.drop 0 = dktX7_size_0 := by decide +kernel
theorem dX7_size_0 : decode cX7_size 0 = .ok (.aload_n 0, 1) := dk_42 (dk_at dksX7_size_0 0 rfl rfl)
theorem dX7_size_1 : decode cX7_size 1 = .ok (.getfield 13, 3) := dk_180 0 13 (dk_at dksX7_size_0 1 rfl rfl)
theorem dX7_size_4 : decode cX7_size 4 = .ok (.ifnonnull 7, 3) := dk_199 0 7 (dk_at dksX7_size_0 4 rfl rfl)
theorem dX7_size_7 : decode cX7_size 7 = .ok (.iconst 1, 1) := dk_4 (dk_at dksX7_size_0 7 rfl rfl)
theorem dX7_size_8 : decode cX7_size 8 = .ok (.goto 12, 3) := dk_167 0 12 (dk_at dksX7_size_0 8 rfl rfl)
theorem dX7_size_11 : decode cX7_size 11 = .ok (.iconst 1, 1) := dk_4 (dk_at dksX7_size_0 11 rfl rfl)
theorem dX7_size_12 : decode cX7_size 12 = .ok (.aload_n 0, 1) := dk_42 (dk_at dksX7_size_0 12 rfl rfl)
theorem dX7_size_13 : decode cX7_size 13 = .ok (.getfield 13, 3) := dk_180 0 13 (dk_at dksX7_size_0 13 rfl rfl)
theorem dX7_size_16 : decode cX7_size 16 = .ok (.invokevirtual 17, 3) := dk_182 0 17 (dk_at dksX7_size_0 16 rfl rfl)
theorem dX7_size_19 : decode cX7_size 19 = .ok (.iadd, 1) := dk_96 (dk_at dksX7_size_0 19 rfl rfl)
theorem dX7_size_20 : decode cX7_size 20 = .ok (.ireturn, 1) := dk_172 (dk_at dksX7_size_0 20 rfl rfl)
abbrev cX7_at : ByteArray := prog_4_method_3_code
def yX7_at : MethodName := ⟨RX7, "at", "(I)LMaltDrums$Entry;"⟩
def dkwX7_at_0 : List UInt8 := [27, 154, 0, 7, 42, 167, 0, 13, 42, 180, 0, 13, 27, 4, 100, 182, 0, 21, 176]
abbrev dktX7_at_0 : List UInt8 := dkwX7_at_0 ++ []
theorem dksX7_at_0 : cX7_at.data.toList.drop 0 = dktX7_at_0 := by decide +kernel
theorem dX7_at_0 : decode cX7_at 0 = .ok (.iload_n 1, 1) := dk_27 (dk_at dksX7_at_0 0 rfl rfl)
theorem dX7_at_1 : decode cX7_at 1 = .ok (.ifCond .ne 7, 3) := dk_154 0 7 (dk_at dksX7_at_0 1 rfl rfl)
theorem dX7_at_4 : decode cX7_at 4 = .ok (.aload_n 0, 1) := dk_42 (dk_at dksX7_at_0 4 rfl rfl)
theorem dX7_at_5 : decode cX7_at 5 = .ok (.goto 13, 3) := dk_167 0 13 (dk_at dksX7_at_0 5 rfl rfl)
theorem dX7_at_8 : decode cX7_at 8 = .ok (.aload_n 0, 1) := dk_42 (dk_at dksX7_at_0 8 rfl rfl)
theorem dX7_at_9 : decode cX7_at 9 = .ok (.getfield 13, 3) := dk_180 0 13 (dk_at dksX7_at_0 9 rfl rfl)
theorem dX7_at_12 : decode cX7_at 12 = .ok (.iload_n 1, 1) := dk_27 (dk_at dksX7_at_0 12 rfl rfl)
theorem dX7_at_13 : decode cX7_at 13 = .ok (.iconst 1, 1) := dk_4 (dk_at dksX7_at_0 13 rfl rfl)
theorem dX7_at_14 : decode cX7_at 14 = .ok (.isub, 1) := dk_100 (dk_at dksX7_at_0 14 rfl rfl)
theorem dX7_at_15 : decode cX7_at 15 = .ok (.invokevirtual 21, 3) := dk_182 0 21 (dk_at dksX7_at_0 15 rfl rfl)
theorem dX7_at_18 : decode cX7_at 18 = .ok (.areturn, 1) := dk_176 (dk_at dksX7_at_0 18 rfl rfl)
theorem q90 : (Jvm.Cond.initialized "MaltDrums$Entry") ∈ lw_all := lw_g (lw_at lw_m1 26 rfl) rfl
theorem q931 : (Jvm.Cond.selects "MaltDrums$Entry" ({ cls := "java/lang/Object", name := "getClass", desc := "()Ljava/lang/Class;" } : Jvm.MethodName) ({ cls := "java/lang/Object", name := "getClass", desc := "()Ljava/lang/Class;" } : Jvm.MethodName)) ∈ lw_all := lw_g (lw_at lw_m4 147 rfl) rfl
theorem q1129 : (Jvm.Cond.instantiable "MaltDrums$Entry" (2 : Nat)) ∈ lw_all := lw_g (lw_at lw_m5 105 rfl) rfl
theorem q1131 : (Jvm.Cond.instanceMethod ({ cls := "MaltDrums$Entry", name := "first", desc := "(I)LMaltDrums$Entry;" } : Jvm.MethodName)) ∈ lw_all := lw_g (lw_at lw_m5 107 rfl) rfl
theorem q1132 : (Jvm.Cond.selects "MaltDrums$Entry" ({ cls := "MaltDrums$Entry", name := "first", desc := "(I)LMaltDrums$Entry;" } : Jvm.MethodName) ({ cls := "MaltDrums$Entry", name := "first", desc := "(I)LMaltDrums$Entry;" } : Jvm.MethodName)) ∈ lw_all := lw_g (lw_at lw_m5 108 rfl) rfl
theorem q1133 : (Jvm.Cond.code ({ cls := "MaltDrums$Entry", name := "first", desc := "(I)LMaltDrums$Entry;" } : Jvm.MethodName) prog_4_method_4_code (2 : Nat) (Option.some (Jvm.ClassFile.FieldType.object "MaltDrums$Entry"))) ∈ lw_all := lw_g (lw_at lw_m5 109 rfl) rfl
theorem q1134 : (Jvm.Cond.classLink "MaltDrums$Entry" (8 : Nat) "MaltDrums$Entry") ∈ lw_all := lw_g (lw_at lw_m5 110 rfl) rfl
theorem q1135 : (Jvm.Cond.methodLink "MaltDrums$Entry" (25 : Nat) ({ cls := "MaltDrums$Entry", name := "first", desc := "(I)LMaltDrums$Entry;" } : Jvm.MethodName)) ∈ lw_all := lw_g (lw_at lw_m5 111 rfl) rfl
theorem q1136 : (Jvm.Cond.methodLink "MaltDrums$Entry" (28 : Nat) ({ cls := "MaltDrums$Entry", name := "<init>", desc := "(ILMaltDrums$Entry;)V" } : Jvm.MethodName)) ∈ lw_all := lw_g (lw_at lw_m5 112 rfl) rfl
theorem q1137 : (Jvm.Cond.instanceMethod ({ cls := "MaltDrums$Entry", name := "<init>", desc := "(ILMaltDrums$Entry;)V" } : Jvm.MethodName)) ∈ lw_all := lw_g (lw_at lw_m5 113 rfl) rfl
theorem q1138 : (Jvm.Cond.code ({ cls := "MaltDrums$Entry", name := "<init>", desc := "(ILMaltDrums$Entry;)V" } : Jvm.MethodName) prog_4_method_1_code (3 : Nat) (Option.none : Option Jvm.ClassFile.FieldType)) ∈ lw_all := lw_g (lw_at lw_m5 114 rfl) rfl
theorem q1139 : (Jvm.Cond.methodLink "MaltDrums$Entry" (1 : Nat) ({ cls := "java/lang/Object", name := "<init>", desc := "()V" } : Jvm.MethodName)) ∈ lw_all := lw_g (lw_at lw_m5 115 rfl) rfl
theorem q1140 : (Jvm.Cond.fieldLink "MaltDrums$Entry" (7 : Nat) "MaltDrums$Entry" "told" "I") ∈ lw_all := lw_g (lw_at lw_m5 116 rfl) rfl
theorem q1142 : (Jvm.Cond.fieldLink "MaltDrums$Entry" (13 : Nat) "MaltDrums$Entry" "older" "LMaltDrums$Entry;") ∈ lw_all := lw_g (lw_at lw_m5 118 rfl) rfl
theorem q1143 : (Jvm.Cond.laysFinal "MaltDrums$Entry" "MaltDrums$Entry" "told" "I") ∈ lw_all := lw_g (lw_at lw_m5 119 rfl) rfl
theorem q1144 : (Jvm.Cond.soleField "MaltDrums$Entry" "told") ∈ lw_all := lw_g (lw_at lw_m5 120 rfl) rfl
theorem q1145 : (Jvm.Cond.laysFinal "MaltDrums$Entry" "MaltDrums$Entry" "older" "LMaltDrums$Entry;") ∈ lw_all := lw_g (lw_at lw_m5 121 rfl) rfl
theorem q1146 : (Jvm.Cond.soleField "MaltDrums$Entry" "older") ∈ lw_all := lw_g (lw_at lw_m5 122 rfl) rfl
theorem q1147 : (Jvm.Cond.superclass "MaltDrums$Entry" "java/lang/Object") ∈ lw_all := lw_g (lw_at lw_m5 123 rfl) rfl
theorem q1166 : (Jvm.Cond.instanceMethod ({ cls := "MaltDrums$Entry", name := "size", desc := "()I" } : Jvm.MethodName)) ∈ lw_all := lw_g (lw_at lw_m5 142 rfl) rfl
theorem q1167 : (Jvm.Cond.selects "MaltDrums$Entry" ({ cls := "MaltDrums$Entry", name := "size", desc := "()I" } : Jvm.MethodName) ({ cls := "MaltDrums$Entry", name := "size", desc := "()I" } : Jvm.MethodName)) ∈ lw_all := lw_g (lw_at lw_m5 143 rfl) rfl
theorem q1168 : (Jvm.Cond.code ({ cls := "MaltDrums$Entry", name := "size", desc := "()I" } : Jvm.MethodName) prog_4_method_2_code (1 : Nat) (Option.some Jvm.ClassFile.FieldType.int)) ∈ lw_all := lw_g (lw_at lw_m5 144 rfl) rfl
theorem q1169 : (Jvm.Cond.methodLink "MaltDrums$Entry" (17 : Nat) ({ cls := "MaltDrums$Entry", name := "size", desc := "()I" } : Jvm.MethodName)) ∈ lw_all := lw_g (lw_at lw_m5 145 rfl) rfl
theorem q1748 : (Jvm.Cond.instanceMethod ({ cls := "MaltDrums$Entry", name := "at", desc := "(I)LMaltDrums$Entry;" } : Jvm.MethodName)) ∈ lw_all := lw_g (lw_at lw_m8 4 rfl) rfl
theorem q1749 : (Jvm.Cond.selects "MaltDrums$Entry" ({ cls := "MaltDrums$Entry", name := "at", desc := "(I)LMaltDrums$Entry;" } : Jvm.MethodName) ({ cls := "MaltDrums$Entry", name := "at", desc := "(I)LMaltDrums$Entry;" } : Jvm.MethodName)) ∈ lw_all := lw_g (lw_at lw_m8 5 rfl) rfl
theorem q1750 : (Jvm.Cond.code ({ cls := "MaltDrums$Entry", name := "at", desc := "(I)LMaltDrums$Entry;" } : Jvm.MethodName) prog_4_method_3_code (2 : Nat) (Option.some (Jvm.ClassFile.FieldType.object "MaltDrums$Entry"))) ∈ lw_all := lw_g (lw_at lw_m8 6 rfl) rfl
theorem q1751 : (Jvm.Cond.methodLink "MaltDrums$Entry" (21 : Nat) ({ cls := "MaltDrums$Entry", name := "at", desc := "(I)LMaltDrums$Entry;" } : Jvm.MethodName)) ∈ lw_all := lw_g (lw_at lw_m8 7 rfl) rfl
theorem q2219 : (Jvm.Cond.castable "MaltDrums$Entry" "java/lang/Object") ∈ lw_tbl := lw_at lw_m9 235 rfl
theorem in_X7 : ∀ w ∈ wsX70, w ∈ lw_all := lw_in wsX70 [1143, 1145] (by decide +kernel) (by decide +kernel)
/-! MaltDrums$Reader -/
set_option maxRecDepth 100000
def RX8 : String := "MaltDrums$Reader"
def TX8 : u_T := fun k => match k with
  | 0 => ("MaltDrums$Reader", "at", "I", false)
  | 1 => ("MaltDrums$Reader", "fault", "I", false)
  | _ => ("MaltDrums$Reader", "this$0", "LMaltDrums;", true)
def tyX8 : Nat → FieldType := fun k => match k with
  | 0 => .int
  | 1 => .int
  | _ => .object "MaltDrums"
abbrev wsX80 : List Cond := u_ws RX8 TX8 3
theorem nmX8 : ∀ a, a < 3 → ∀ b, b < 3 → a ≠ b → (TX8 a).2.1 ≠ (TX8 b).2.1 := by decide +kernel
theorem tyX8_ok : ∀ k, k < 3 → parseFieldDescriptor (TX8 k).2.2.1 = some (tyX8 k) := by decide +kernel
abbrev cX8_init : ByteArray := prog_9_method_1_code
def yX8_init : MethodName := ⟨RX8, "<init>", "(LMaltDrums;)V"⟩
def dkwX8_init_0 : List UInt8 := [42, 43, 181, 0, 3, 42, 183, 0, 9, 42, 2, 181, 0, 15, 177]
abbrev dktX8_init_0 : List UInt8 := dkwX8_init_0 ++ []
theorem dksX8_init_0 : cX8_init.data.toList.drop 0 = dktX8_init_0 := by decide +kernel
theorem dX8_init_0 : decode cX8_init 0 = .ok (.aload_n 0, 1) := dk_42 (dk_at dksX8_init_0 0 rfl rfl)
theorem dX8_init_1 : decode cX8_init 1 = .ok (.aload_n 1, 1) := dk_43 (dk_at dksX8_init_0 1 rfl rfl)
theorem dX8_init_2 : decode cX8_init 2 = .ok (.putfield 3, 3) := dk_181 0 3 (dk_at dksX8_init_0 2 rfl rfl)
theorem dX8_init_5 : decode cX8_init 5 = .ok (.aload_n 0, 1) := dk_42 (dk_at dksX8_init_0 5 rfl rfl)
theorem dX8_init_6 : decode cX8_init 6 = .ok (.invokespecial 9, 3) := dk_183 0 9 (dk_at dksX8_init_0 6 rfl rfl)
theorem dX8_init_9 : decode cX8_init 9 = .ok (.aload_n 0, 1) := dk_42 (dk_at dksX8_init_0 9 rfl rfl)
theorem dX8_init_10 : decode cX8_init 10 = .ok (.iconst (-1), 1) := dk_2 (dk_at dksX8_init_0 10 rfl rfl)
theorem dX8_init_11 : decode cX8_init 11 = .ok (.putfield 15, 3) := dk_181 0 15 (dk_at dksX8_init_0 11 rfl rfl)
theorem dX8_init_14 : decode cX8_init 14 = .ok (.return_, 1) := dk_177 (dk_at dksX8_init_0 14 rfl rfl)
abbrev cX8_orders : ByteArray := prog_9_method_8_code
def yX8_orders : MethodName := ⟨RX8, "orders", "()Ljava/util/List;"⟩
def dkwX8_orders_4 : List UInt8 := [180, 0, 19, 181, 0, 15, 45, 191, 43, 176]
abbrev dktX8_orders_4 : List UInt8 := dkwX8_orders_4 ++ []
def dkwX8_orders_3 : List UInt8 := [167, 0, 7, 42, 180, 0, 19, 181, 0, 15, 167, 0, 22, 78, 42, 28, 153, 0, 7, 2, 167, 0, 7, 42]
abbrev dktX8_orders_3 : List UInt8 := dkwX8_orders_3 ++ dktX8_orders_4
def dkwX8_orders_2 : List UInt8 := [87, 43, 42, 182, 0, 107, 185, 0, 111, 2, 0, 87, 167, 255, 219, 4, 61, 42, 28, 153, 0, 7, 2]
abbrev dktX8_orders_2 : List UInt8 := dkwX8_orders_2 ++ dktX8_orders_3
def dkwX8_orders_1 : List UInt8 := [180, 0, 19, 42, 180, 0, 3, 180, 0, 22, 182, 0, 26, 162, 0, 26, 42, 16, 44, 16, 44, 182, 0, 47]
abbrev dktX8_orders_1 : List UInt8 := dkwX8_orders_1 ++ dktX8_orders_2
def dkwX8_orders_0 : List UInt8 := [187, 0, 104, 89, 183, 0, 106, 76, 3, 61, 43, 42, 182, 0, 107, 185, 0, 111, 2, 0, 87, 42]
abbrev dktX8_orders_0 : List UInt8 := dkwX8_orders_0 ++ dktX8_orders_1
theorem dksX8_orders_0 : cX8_orders.data.toList.drop 0 = dktX8_orders_0 := by decide +kernel
theorem dksX8_orders_1 : cX8_orders.data.toList.drop 22 = dktX8_orders_1 := dk_seg dksX8_orders_0 22 rfl rfl
theorem dksX8_orders_2 : cX8_orders.data.toList.drop 46 = dktX8_orders_2 := dk_seg dksX8_orders_1 24 rfl rfl
theorem dksX8_orders_3 : cX8_orders.data.toList.drop 69 = dktX8_orders_3 := dk_seg dksX8_orders_2 23 rfl rfl
theorem dksX8_orders_4 : cX8_orders.data.toList.drop 93 = dktX8_orders_4 := dk_seg dksX8_orders_3 24 rfl rfl
theorem dX8_orders_0 : decode cX8_orders 0 = .ok (.new 104, 3) := dk_187 0 104 (dk_at dksX8_orders_0 0 rfl rfl)
theorem dX8_orders_3 : decode cX8_orders 3 = .ok (.dup, 1) := dk_89 (dk_at dksX8_orders_0 3 rfl rfl)
theorem dX8_orders_4 : decode cX8_orders 4 = .ok (.invokespecial 106, 3) := dk_183 0 106 (dk_at dksX8_orders_0 4 rfl rfl)
theorem dX8_orders_7 : decode cX8_orders 7 = .ok (.astore_n 1, 1) := dk_76 (dk_at dksX8_orders_0 7 rfl rfl)
theorem dX8_orders_8 : decode cX8_orders 8 = .ok (.iconst 0, 1) := dk_3 (dk_at dksX8_orders_0 8 rfl rfl)
theorem dX8_orders_9 : decode cX8_orders 9 = .ok (.istore_n 2, 1) := dk_61 (dk_at dksX8_orders_0 9 rfl rfl)
theorem dX8_orders_10 : decode cX8_orders 10 = .ok (.aload_n 1, 1) := dk_43 (dk_at dksX8_orders_0 10 rfl rfl)
theorem dX8_orders_11 : decode cX8_orders 11 = .ok (.aload_n 0, 1) := dk_42 (dk_at dksX8_orders_0 11 rfl rfl)
theorem dX8_orders_12 : decode cX8_orders 12 = .ok (.invokevirtual 107, 3) := dk_182 0 107 (dk_at dksX8_orders_0 12 rfl rfl)
theorem dX8_orders_15 : decode cX8_orders 15 = .ok (.invokeinterface 111 2, 5) := by decide +kernel
theorem dX8_orders_20 : decode cX8_orders 20 = .ok (.pop, 1) := dk_87 (dk_at dksX8_orders_0 20 rfl rfl)
theorem dX8_orders_21 : decode cX8_orders 21 = .ok (.aload_n 0, 1) := dk_42 (dk_at dksX8_orders_0 21 rfl rfl)
theorem dX8_orders_22 : decode cX8_orders 22 = .ok (.getfield 19, 3) := dk_180 0 19 (dk_at dksX8_orders_1 0 rfl rfl)
theorem dX8_orders_25 : decode cX8_orders 25 = .ok (.aload_n 0, 1) := dk_42 (dk_at dksX8_orders_1 3 rfl rfl)
theorem dX8_orders_26 : decode cX8_orders 26 = .ok (.getfield 3, 3) := dk_180 0 3 (dk_at dksX8_orders_1 4 rfl rfl)
theorem dX8_orders_29 : decode cX8_orders 29 = .ok (.getfield 22, 3) := dk_180 0 22 (dk_at dksX8_orders_1 7 rfl rfl)
theorem dX8_orders_32 : decode cX8_orders 32 = .ok (.invokevirtual 26, 3) := dk_182 0 26 (dk_at dksX8_orders_1 10 rfl rfl)
theorem dX8_orders_35 : decode cX8_orders 35 = .ok (.if_icmp .ge 26, 3) := dk_162 0 26 (dk_at dksX8_orders_1 13 rfl rfl)
theorem dX8_orders_38 : decode cX8_orders 38 = .ok (.aload_n 0, 1) := dk_42 (dk_at dksX8_orders_1 16 rfl rfl)
theorem dX8_orders_39 : decode cX8_orders 39 = .ok (.bipush 44, 2) := dk_16 44 (dk_at dksX8_orders_1 17 rfl rfl)
theorem dX8_orders_41 : decode cX8_orders 41 = .ok (.bipush 44, 2) := dk_16 44 (dk_at dksX8_orders_1 19 rfl rfl)
theorem dX8_orders_43 : decode cX8_orders 43 = .ok (.invokevirtual 47, 3) := dk_182 0 47 (dk_at dksX8_orders_1 21 rfl rfl)
theorem dX8_orders_46 : decode cX8_orders 46 = .ok (.pop, 1) := dk_87 (dk_at dksX8_orders_2 0 rfl rfl)
theorem dX8_orders_47 : decode cX8_orders 47 = .ok (.aload_n 1, 1) := dk_43 (dk_at dksX8_orders_2 1 rfl rfl)
theorem dX8_orders_48 : decode cX8_orders 48 = .ok (.aload_n 0, 1) := dk_42 (dk_at dksX8_orders_2 2 rfl rfl)
theorem dX8_orders_49 : decode cX8_orders 49 = .ok (.invokevirtual 107, 3) := dk_182 0 107 (dk_at dksX8_orders_2 3 rfl rfl)
theorem dX8_orders_52 : decode cX8_orders 52 = .ok (.invokeinterface 111 2, 5) := by decide +kernel
theorem dX8_orders_57 : decode cX8_orders 57 = .ok (.pop, 1) := dk_87 (dk_at dksX8_orders_2 11 rfl rfl)
theorem dX8_orders_58 : decode cX8_orders 58 = .ok (.goto (-37), 3) := dk_167 255 219 (dk_at dksX8_orders_2 12 rfl rfl)
theorem dX8_orders_61 : decode cX8_orders 61 = .ok (.iconst 1, 1) := dk_4 (dk_at dksX8_orders_2 15 rfl rfl)
theorem dX8_orders_62 : decode cX8_orders 62 = .ok (.istore_n 2, 1) := dk_61 (dk_at dksX8_orders_2 16 rfl rfl)
theorem dX8_orders_63 : decode cX8_orders 63 = .ok (.aload_n 0, 1) := dk_42 (dk_at dksX8_orders_2 17 rfl rfl)
theorem dX8_orders_64 : decode cX8_orders 64 = .ok (.iload_n 2, 1) := dk_28 (dk_at dksX8_orders_2 18 rfl rfl)
theorem dX8_orders_65 : decode cX8_orders 65 = .ok (.ifCond .eq 7, 3) := dk_153 0 7 (dk_at dksX8_orders_2 19 rfl rfl)
theorem dX8_orders_68 : decode cX8_orders 68 = .ok (.iconst (-1), 1) := dk_2 (dk_at dksX8_orders_2 22 rfl rfl)
theorem dX8_orders_69 : decode cX8_orders 69 = .ok (.goto 7, 3) := dk_167 0 7 (dk_at dksX8_orders_3 0 rfl rfl)
theorem dX8_orders_72 : decode cX8_orders 72 = .ok (.aload_n 0, 1) := dk_42 (dk_at dksX8_orders_3 3 rfl rfl)
theorem dX8_orders_73 : decode cX8_orders 73 = .ok (.getfield 19, 3) := dk_180 0 19 (dk_at dksX8_orders_3 4 rfl rfl)
theorem dX8_orders_76 : decode cX8_orders 76 = .ok (.putfield 15, 3) := dk_181 0 15 (dk_at dksX8_orders_3 7 rfl rfl)
theorem dX8_orders_79 : decode cX8_orders 79 = .ok (.goto 22, 3) := dk_167 0 22 (dk_at dksX8_orders_3 10 rfl rfl)
theorem dX8_orders_82 : decode cX8_orders 82 = .ok (.astore_n 3, 1) := dk_78 (dk_at dksX8_orders_3 13 rfl rfl)
theorem dX8_orders_83 : decode cX8_orders 83 = .ok (.aload_n 0, 1) := dk_42 (dk_at dksX8_orders_3 14 rfl rfl)
theorem dX8_orders_84 : decode cX8_orders 84 = .ok (.iload_n 2, 1) := dk_28 (dk_at dksX8_orders_3 15 rfl rfl)
theorem dX8_orders_85 : decode cX8_orders 85 = .ok (.ifCond .eq 7, 3) := dk_153 0 7 (dk_at dksX8_orders_3 16 rfl rfl)
theorem dX8_orders_88 : decode cX8_orders 88 = .ok (.iconst (-1), 1) := dk_2 (dk_at dksX8_orders_3 19 rfl rfl)
theorem dX8_orders_89 : decode cX8_orders 89 = .ok (.goto 7, 3) := dk_167 0 7 (dk_at dksX8_orders_3 20 rfl rfl)
theorem dX8_orders_92 : decode cX8_orders 92 = .ok (.aload_n 0, 1) := dk_42 (dk_at dksX8_orders_3 23 rfl rfl)
theorem dX8_orders_93 : decode cX8_orders 93 = .ok (.getfield 19, 3) := dk_180 0 19 (dk_at dksX8_orders_4 0 rfl rfl)
theorem dX8_orders_96 : decode cX8_orders 96 = .ok (.putfield 15, 3) := dk_181 0 15 (dk_at dksX8_orders_4 3 rfl rfl)
theorem dX8_orders_99 : decode cX8_orders 99 = .ok (.aload_n 3, 1) := dk_45 (dk_at dksX8_orders_4 6 rfl rfl)
theorem dX8_orders_100 : decode cX8_orders 100 = .ok (.athrow, 1) := dk_191 (dk_at dksX8_orders_4 7 rfl rfl)
theorem dX8_orders_101 : decode cX8_orders 101 = .ok (.aload_n 1, 1) := dk_43 (dk_at dksX8_orders_4 8 rfl rfl)
theorem dX8_orders_102 : decode cX8_orders 102 = .ok (.areturn, 1) := dk_176 (dk_at dksX8_orders_4 9 rfl rfl)
abbrev cX8_order : ByteArray := prog_9_method_7_code
def yX8_order : MethodName := ⟨RX8, "order", "()LMaltDrums$Order;"⟩
def dkwX8_order_17 : List UInt8 := [176, 42, 89, 180, 0, 19, 4, 100, 181, 0, 19, 187, 0, 44, 89, 183, 0, 46, 191]
abbrev dktX8_order_17 : List UInt8 := dkwX8_order_17 ++ []
def dkwX8_order_16 : List UInt8 := [182, 0, 100, 183, 0, 93, 176, 187, 0, 88, 89, 43, 42, 16, 49, 16, 48, 182, 0, 96, 3, 183, 0, 93]
abbrev dktX8_order_16 : List UInt8 := dkwX8_order_16 ++ dktX8_order_17
def dkwX8_order_15 : List UInt8 := [16, 48, 16, 51, 182, 0, 47, 16, 48, 100, 54, 5, 187, 0, 88, 89, 43, 21, 5, 42, 16, 61]
abbrev dktX8_order_15 : List UInt8 := dkwX8_order_15 ++ dktX8_order_16
def dkwX8_order_14 : List UInt8 := [21, 4, 42, 16, 62, 182, 0, 100, 183, 0, 93, 176, 187, 0, 88, 89, 43, 3, 3, 183, 0, 93, 176, 42]
abbrev dktX8_order_14 : List UInt8 := dkwX8_order_14 ++ dktX8_order_15
def dkwX8_order_13 : List UInt8 := [182, 0, 96, 3, 183, 0, 93, 176, 42, 16, 48, 16, 11, 182, 0, 96, 54, 4, 187, 0, 88, 89, 43]
abbrev dktX8_order_13 : List UInt8 := dkwX8_order_13 ++ dktX8_order_14
def dkwX8_order_12 : List UInt8 := [187, 0, 88, 89, 43, 42, 182, 0, 90, 3, 183, 0, 93, 176, 187, 0, 88, 89, 43, 42, 16, 48, 16, 11]
abbrev dktX8_order_12 : List UInt8 := dkwX8_order_12 ++ dktX8_order_13
def dkwX8_order_11 : List UInt8 := [170, 0, 0, 0, 0, 0, 177, 0, 0, 0, 0, 0, 0, 0, 10, 0, 0, 0, 59, 0, 0, 0, 73, 0, 0, 0, 73, 0, 0, 0, 73, 0, 0, 0, 73, 0, 0, 0, 91, 0, 0, 0, 118, 0, 0, 0, 129, 0, 0, 0, 129, 0, 0, 0, 129, 0, 0, 0, 159]
abbrev dktX8_order_11 : List UInt8 := dkwX8_order_11 ++ dktX8_order_12
def dkwX8_order_10 : List UInt8 := [167, 0, 15, 44, 18, 86, 182, 0, 64, 153, 0, 6, 16, 10, 62, 29]
abbrev dktX8_order_10 : List UInt8 := dkwX8_order_10 ++ dktX8_order_11
def dkwX8_order_9 : List UInt8 := [182, 0, 64, 153, 0, 36, 16, 8, 62, 167, 0, 30, 44, 18, 84, 182, 0, 64, 153, 0, 21, 16, 9, 62]
abbrev dktX8_order_9 : List UInt8 := dkwX8_order_9 ++ dktX8_order_10
def dkwX8_order_8 : List UInt8 := [62, 167, 0, 60, 44, 18, 80, 182, 0, 64, 153, 0, 51, 16, 7, 62, 167, 0, 45, 44, 18, 82]
abbrev dktX8_order_8 : List UInt8 := dkwX8_order_8 ++ dktX8_order_9
def dkwX8_order_7 : List UInt8 := [18, 76, 182, 0, 64, 153, 0, 80, 8, 62, 167, 0, 75, 44, 18, 78, 182, 0, 64, 153, 0, 66, 16, 6]
abbrev dktX8_order_7 : List UInt8 := dkwX8_order_7 ++ dktX8_order_8
def dkwX8_order_6 : List UInt8 := [153, 0, 108, 6, 62, 167, 0, 103, 44, 18, 74, 182, 0, 64, 153, 0, 94, 7, 62, 167, 0, 89, 44]
abbrev dktX8_order_6 : List UInt8 := dkwX8_order_6 ++ dktX8_order_7
def dkwX8_order_5 : List UInt8 := [62, 167, 0, 131, 44, 18, 70, 182, 0, 64, 153, 0, 122, 5, 62, 167, 0, 117, 44, 18, 72, 182, 0, 64]
abbrev dktX8_order_5 : List UInt8 := dkwX8_order_5 ++ dktX8_order_6
def dkwX8_order_4 : List UInt8 := [44, 18, 62, 182, 0, 64, 153, 0, 150, 3, 62, 167, 0, 145, 44, 18, 68, 182, 0, 64, 153, 0, 136, 4]
abbrev dktX8_order_4 : List UInt8 := dkwX8_order_4 ++ dktX8_order_5
def dkwX8_order_3 : List UInt8 := [171, 0, 0, 0, 0, 0, 255, 0, 0, 0, 11, 0, 0, 0, 43, 0, 0, 0, 99, 0, 0, 0, 97, 0, 0, 0, 198, 0, 0, 0, 100, 0, 0, 0, 169, 0, 0, 0, 104, 0, 0, 0, 127, 0, 0, 0, 107, 0, 0, 0, 141, 0, 0, 0, 108, 0, 0, 0, 183, 0, 0, 0, 110, 0, 0, 0, 243, 0, 0, 0, 112, 0, 0, 0, 155, 0, 0, 0, 115, 0, 0, 0, 113, 0, 0, 0, 116, 0, 0, 0, 228, 0, 0, 0, 119, 0, 0, 0, 213]
abbrev dktX8_order_3 : List UInt8 := dkwX8_order_3 ++ dktX8_order_4
def dkwX8_order_2 : List UInt8 := [4, 96, 181, 0, 19, 43, 77, 2, 62, 44, 182, 0, 57]
abbrev dktX8_order_2 : List UInt8 := dkwX8_order_2 ++ dktX8_order_3
def dkwX8_order_1 : List UInt8 := [42, 180, 0, 19, 42, 180, 0, 19, 4, 96, 182, 0, 51, 167, 0, 5, 18, 55, 76, 42, 89, 180, 0, 19]
abbrev dktX8_order_1 : List UInt8 := dkwX8_order_1 ++ dktX8_order_2
def dkwX8_order_0 : List UInt8 := [42, 180, 0, 19, 42, 180, 0, 3, 180, 0, 22, 182, 0, 26, 162, 0, 26, 42, 180, 0, 3, 180, 0, 22]
abbrev dktX8_order_0 : List UInt8 := dkwX8_order_0 ++ dktX8_order_1
theorem dksX8_order_0 : cX8_order.data.toList.drop 0 = dktX8_order_0 := by decide +kernel
theorem dksX8_order_1 : cX8_order.data.toList.drop 24 = dktX8_order_1 := dk_seg dksX8_order_0 24 rfl rfl
theorem dksX8_order_2 : cX8_order.data.toList.drop 48 = dktX8_order_2 := dk_seg dksX8_order_1 24 rfl rfl
theorem dksX8_order_3 : cX8_order.data.toList.drop 61 = dktX8_order_3 := dk_seg dksX8_order_2 13 rfl rfl
theorem dksX8_order_4 : cX8_order.data.toList.drop 160 = dktX8_order_4 := dk_seg dksX8_order_3 99 rfl rfl
theorem dksX8_order_5 : cX8_order.data.toList.drop 184 = dktX8_order_5 := dk_seg dksX8_order_4 24 rfl rfl
theorem dksX8_order_6 : cX8_order.data.toList.drop 208 = dktX8_order_6 := dk_seg dksX8_order_5 24 rfl rfl
theorem dksX8_order_7 : cX8_order.data.toList.drop 231 = dktX8_order_7 := dk_seg dksX8_order_6 23 rfl rfl
theorem dksX8_order_8 : cX8_order.data.toList.drop 255 = dktX8_order_8 := dk_seg dksX8_order_7 24 rfl rfl
theorem dksX8_order_9 : cX8_order.data.toList.drop 277 = dktX8_order_9 := dk_seg dksX8_order_8 22 rfl rfl
theorem dksX8_order_10 : cX8_order.data.toList.drop 301 = dktX8_order_10 := dk_seg dksX8_order_9 24 rfl rfl
theorem dksX8_order_11 : cX8_order.data.toList.drop 317 = dktX8_order_11 := dk_seg dksX8_order_10 16 rfl rfl
theorem dksX8_order_12 : cX8_order.data.toList.drop 376 = dktX8_order_12 := dk_seg dksX8_order_11 59 rfl rfl
theorem dksX8_order_13 : cX8_order.data.toList.drop 400 = dktX8_order_13 := dk_seg dksX8_order_12 24 rfl rfl
theorem dksX8_order_14 : cX8_order.data.toList.drop 423 = dktX8_order_14 := dk_seg dksX8_order_13 23 rfl rfl
theorem dksX8_order_15 : cX8_order.data.toList.drop 447 = dktX8_order_15 := dk_seg dksX8_order_14 24 rfl rfl
theorem dksX8_order_16 : cX8_order.data.toList.drop 469 = dktX8_order_16 := dk_seg dksX8_order_15 22 rfl rfl
theorem dksX8_order_17 : cX8_order.data.toList.drop 493 = dktX8_order_17 := dk_seg dksX8_order_16 24 rfl rfl
theorem dX8_order_0 : decode cX8_order 0 = .ok (.aload_n 0, 1) := dk_42 (dk_at dksX8_order_0 0 rfl rfl)
theorem dX8_order_1 : decode cX8_order 1 = .ok (.getfield 19, 3) := dk_180 0 19 (dk_at dksX8_order_0 1 rfl rfl)
theorem dX8_order_4 : decode cX8_order 4 = .ok (.aload_n 0, 1) := dk_42 (dk_at dksX8_order_0 4 rfl rfl)
theorem dX8_order_5 : decode cX8_order 5 = .ok (.getfield 3, 3) := dk_180 0 3 (dk_at dksX8_order_0 5 rfl rfl)
theorem dX8_order_8 : decode cX8_order 8 = .ok (.getfield 22, 3) := dk_180 0 22 (dk_at dksX8_order_0 8 rfl rfl)
theorem dX8_order_11 : decode cX8_order 11 = .ok (.invokevirtual 26, 3) := dk_182 0 26 (dk_at dksX8_order_0 11 rfl rfl)
theorem dX8_order_14 : decode cX8_order 14 = .ok (.if_icmp .ge 26, 3) := dk_162 0 26 (dk_at dksX8_order_0 14 rfl rfl)
theorem dX8_order_17 : decode cX8_order 17 = .ok (.aload_n 0, 1) := dk_42 (dk_at dksX8_order_0 17 rfl rfl)
theorem dX8_order_18 : decode cX8_order 18 = .ok (.getfield 3, 3) := dk_180 0 3 (dk_at dksX8_order_0 18 rfl rfl)
theorem dX8_order_21 : decode cX8_order 21 = .ok (.getfield 22, 3) := dk_180 0 22 (dk_at dksX8_order_0 21 rfl rfl)
theorem dX8_order_24 : decode cX8_order 24 = .ok (.aload_n 0, 1) := dk_42 (dk_at dksX8_order_1 0 rfl rfl)
theorem dX8_order_25 : decode cX8_order 25 = .ok (.getfield 19, 3) := dk_180 0 19 (dk_at dksX8_order_1 1 rfl rfl)
theorem dX8_order_28 : decode cX8_order 28 = .ok (.aload_n 0, 1) := dk_42 (dk_at dksX8_order_1 4 rfl rfl)
theorem dX8_order_29 : decode cX8_order 29 = .ok (.getfield 19, 3) := dk_180 0 19 (dk_at dksX8_order_1 5 rfl rfl)
theorem dX8_order_32 : decode cX8_order 32 = .ok (.iconst 1, 1) := dk_4 (dk_at dksX8_order_1 8 rfl rfl)
theorem dX8_order_33 : decode cX8_order 33 = .ok (.iadd, 1) := dk_96 (dk_at dksX8_order_1 9 rfl rfl)
theorem dX8_order_34 : decode cX8_order 34 = .ok (.invokevirtual 51, 3) := dk_182 0 51 (dk_at dksX8_order_1 10 rfl rfl)
theorem dX8_order_37 : decode cX8_order 37 = .ok (.goto 5, 3) := dk_167 0 5 (dk_at dksX8_order_1 13 rfl rfl)
theorem dX8_order_40 : decode cX8_order 40 = .ok (.ldc 55, 2) := dk_18 55 (dk_at dksX8_order_1 16 rfl rfl)
theorem dX8_order_42 : decode cX8_order 42 = .ok (.astore_n 1, 1) := dk_76 (dk_at dksX8_order_1 18 rfl rfl)
theorem dX8_order_43 : decode cX8_order 43 = .ok (.aload_n 0, 1) := dk_42 (dk_at dksX8_order_1 19 rfl rfl)
theorem dX8_order_44 : decode cX8_order 44 = .ok (.dup, 1) := dk_89 (dk_at dksX8_order_1 20 rfl rfl)
theorem dX8_order_45 : decode cX8_order 45 = .ok (.getfield 19, 3) := dk_180 0 19 (dk_at dksX8_order_1 21 rfl rfl)
theorem dX8_order_48 : decode cX8_order 48 = .ok (.iconst 1, 1) := dk_4 (dk_at dksX8_order_2 0 rfl rfl)
theorem dX8_order_49 : decode cX8_order 49 = .ok (.iadd, 1) := dk_96 (dk_at dksX8_order_2 1 rfl rfl)
theorem dX8_order_50 : decode cX8_order 50 = .ok (.putfield 19, 3) := dk_181 0 19 (dk_at dksX8_order_2 2 rfl rfl)
theorem dX8_order_53 : decode cX8_order 53 = .ok (.aload_n 1, 1) := dk_43 (dk_at dksX8_order_2 5 rfl rfl)
theorem dX8_order_54 : decode cX8_order 54 = .ok (.astore_n 2, 1) := dk_77 (dk_at dksX8_order_2 6 rfl rfl)
theorem dX8_order_55 : decode cX8_order 55 = .ok (.iconst (-1), 1) := dk_2 (dk_at dksX8_order_2 7 rfl rfl)
theorem dX8_order_56 : decode cX8_order 56 = .ok (.istore_n 3, 1) := dk_62 (dk_at dksX8_order_2 8 rfl rfl)
theorem dX8_order_57 : decode cX8_order 57 = .ok (.aload_n 2, 1) := dk_44 (dk_at dksX8_order_2 9 rfl rfl)
theorem dX8_order_58 : decode cX8_order 58 = .ok (.invokevirtual 57, 3) := dk_182 0 57 (dk_at dksX8_order_2 10 rfl rfl)
theorem dX8_order_61 : decode cX8_order 61 = .ok (.lookupswitch 255 #[(43, 99), (97, 198), (100, 169), (104, 127), (107, 141), (108, 183), (110, 243), (112, 155), (115, 113), (116, 228), (119, 213)], 99) := by decide +kernel
theorem dX8_order_160 : decode cX8_order 160 = .ok (.aload_n 2, 1) := dk_44 (dk_at dksX8_order_4 0 rfl rfl)
theorem dX8_order_161 : decode cX8_order 161 = .ok (.ldc 62, 2) := dk_18 62 (dk_at dksX8_order_4 1 rfl rfl)
theorem dX8_order_163 : decode cX8_order 163 = .ok (.invokevirtual 64, 3) := dk_182 0 64 (dk_at dksX8_order_4 3 rfl rfl)
theorem dX8_order_166 : decode cX8_order 166 = .ok (.ifCond .eq 150, 3) := dk_153 0 150 (dk_at dksX8_order_4 6 rfl rfl)
theorem dX8_order_169 : decode cX8_order 169 = .ok (.iconst 0, 1) := dk_3 (dk_at dksX8_order_4 9 rfl rfl)
theorem dX8_order_170 : decode cX8_order 170 = .ok (.istore_n 3, 1) := dk_62 (dk_at dksX8_order_4 10 rfl rfl)
theorem dX8_order_171 : decode cX8_order 171 = .ok (.goto 145, 3) := dk_167 0 145 (dk_at dksX8_order_4 11 rfl rfl)
theorem dX8_order_174 : decode cX8_order 174 = .ok (.aload_n 2, 1) := dk_44 (dk_at dksX8_order_4 14 rfl rfl)
theorem dX8_order_175 : decode cX8_order 175 = .ok (.ldc 68, 2) := dk_18 68 (dk_at dksX8_order_4 15 rfl rfl)
theorem dX8_order_177 : decode cX8_order 177 = .ok (.invokevirtual 64, 3) := dk_182 0 64 (dk_at dksX8_order_4 17 rfl rfl)
theorem dX8_order_180 : decode cX8_order 180 = .ok (.ifCond .eq 136, 3) := dk_153 0 136 (dk_at dksX8_order_4 20 rfl rfl)
theorem dX8_order_183 : decode cX8_order 183 = .ok (.iconst 1, 1) := dk_4 (dk_at dksX8_order_4 23 rfl rfl)
theorem dX8_order_184 : decode cX8_order 184 = .ok (.istore_n 3, 1) := dk_62 (dk_at dksX8_order_5 0 rfl rfl)
theorem dX8_order_185 : decode cX8_order 185 = .ok (.goto 131, 3) := dk_167 0 131 (dk_at dksX8_order_5 1 rfl rfl)
theorem dX8_order_188 : decode cX8_order 188 = .ok (.aload_n 2, 1) := dk_44 (dk_at dksX8_order_5 4 rfl rfl)
theorem dX8_order_189 : decode cX8_order 189 = .ok (.ldc 70, 2) := dk_18 70 (dk_at dksX8_order_5 5 rfl rfl)
theorem dX8_order_191 : decode cX8_order 191 = .ok (.invokevirtual 64, 3) := dk_182 0 64 (dk_at dksX8_order_5 7 rfl rfl)
theorem dX8_order_194 : decode cX8_order 194 = .ok (.ifCond .eq 122, 3) := dk_153 0 122 (dk_at dksX8_order_5 10 rfl rfl)
theorem dX8_order_197 : decode cX8_order 197 = .ok (.iconst 2, 1) := dk_5 (dk_at dksX8_order_5 13 rfl rfl)
theorem dX8_order_198 : decode cX8_order 198 = .ok (.istore_n 3, 1) := dk_62 (dk_at dksX8_order_5 14 rfl rfl)
theorem dX8_order_199 : decode cX8_order 199 = .ok (.goto 117, 3) := dk_167 0 117 (dk_at dksX8_order_5 15 rfl rfl)
theorem dX8_order_202 : decode cX8_order 202 = .ok (.aload_n 2, 1) := dk_44 (dk_at dksX8_order_5 18 rfl rfl)
theorem dX8_order_203 : decode cX8_order 203 = .ok (.ldc 72, 2) := dk_18 72 (dk_at dksX8_order_5 19 rfl rfl)
theorem dX8_order_205 : decode cX8_order 205 = .ok (.invokevirtual 64, 3) := dk_182 0 64 (dk_at dksX8_order_5 21 rfl rfl)
theorem dX8_order_208 : decode cX8_order 208 = .ok (.ifCond .eq 108, 3) := dk_153 0 108 (dk_at dksX8_order_6 0 rfl rfl)
theorem dX8_order_211 : decode cX8_order 211 = .ok (.iconst 3, 1) := dk_6 (dk_at dksX8_order_6 3 rfl rfl)
theorem dX8_order_212 : decode cX8_order 212 = .ok (.istore_n 3, 1) := dk_62 (dk_at dksX8_order_6 4 rfl rfl)
theorem dX8_order_213 : decode cX8_order 213 = .ok (.goto 103, 3) := dk_167 0 103 (dk_at dksX8_order_6 5 rfl rfl)
theorem dX8_order_216 : decode cX8_order 216 = .ok (.aload_n 2, 1) := dk_44 (dk_at dksX8_order_6 8 rfl rfl)
theorem dX8_order_217 : decode cX8_order 217 = .ok (.ldc 74, 2) := dk_18 74 (dk_at dksX8_order_6 9 rfl rfl)
theorem dX8_order_219 : decode cX8_order 219 = .ok (.invokevirtual 64, 3) := dk_182 0 64 (dk_at dksX8_order_6 11 rfl rfl)
theorem dX8_order_222 : decode cX8_order 222 = .ok (.ifCond .eq 94, 3) := dk_153 0 94 (dk_at dksX8_order_6 14 rfl rfl)
theorem dX8_order_225 : decode cX8_order 225 = .ok (.iconst 4, 1) := dk_7 (dk_at dksX8_order_6 17 rfl rfl)
theorem dX8_order_226 : decode cX8_order 226 = .ok (.istore_n 3, 1) := dk_62 (dk_at dksX8_order_6 18 rfl rfl)
theorem dX8_order_227 : decode cX8_order 227 = .ok (.goto 89, 3) := dk_167 0 89 (dk_at dksX8_order_6 19 rfl rfl)
theorem dX8_order_230 : decode cX8_order 230 = .ok (.aload_n 2, 1) := dk_44 (dk_at dksX8_order_6 22 rfl rfl)
theorem dX8_order_231 : decode cX8_order 231 = .ok (.ldc 76, 2) := dk_18 76 (dk_at dksX8_order_7 0 rfl rfl)
theorem dX8_order_233 : decode cX8_order 233 = .ok (.invokevirtual 64, 3) := dk_182 0 64 (dk_at dksX8_order_7 2 rfl rfl)
theorem dX8_order_236 : decode cX8_order 236 = .ok (.ifCond .eq 80, 3) := dk_153 0 80 (dk_at dksX8_order_7 5 rfl rfl)
theorem dX8_order_239 : decode cX8_order 239 = .ok (.iconst 5, 1) := dk_8 (dk_at dksX8_order_7 8 rfl rfl)
theorem dX8_order_240 : decode cX8_order 240 = .ok (.istore_n 3, 1) := dk_62 (dk_at dksX8_order_7 9 rfl rfl)
theorem dX8_order_241 : decode cX8_order 241 = .ok (.goto 75, 3) := dk_167 0 75 (dk_at dksX8_order_7 10 rfl rfl)
theorem dX8_order_244 : decode cX8_order 244 = .ok (.aload_n 2, 1) := dk_44 (dk_at dksX8_order_7 13 rfl rfl)
theorem dX8_order_245 : decode cX8_order 245 = .ok (.ldc 78, 2) := dk_18 78 (dk_at dksX8_order_7 14 rfl rfl)
theorem dX8_order_247 : decode cX8_order 247 = .ok (.invokevirtual 64, 3) := dk_182 0 64 (dk_at dksX8_order_7 16 rfl rfl)
theorem dX8_order_250 : decode cX8_order 250 = .ok (.ifCond .eq 66, 3) := dk_153 0 66 (dk_at dksX8_order_7 19 rfl rfl)
theorem dX8_order_253 : decode cX8_order 253 = .ok (.bipush 6, 2) := dk_16 6 (dk_at dksX8_order_7 22 rfl rfl)
theorem dX8_order_255 : decode cX8_order 255 = .ok (.istore_n 3, 1) := dk_62 (dk_at dksX8_order_8 0 rfl rfl)
theorem dX8_order_256 : decode cX8_order 256 = .ok (.goto 60, 3) := dk_167 0 60 (dk_at dksX8_order_8 1 rfl rfl)
theorem dX8_order_259 : decode cX8_order 259 = .ok (.aload_n 2, 1) := dk_44 (dk_at dksX8_order_8 4 rfl rfl)
theorem dX8_order_260 : decode cX8_order 260 = .ok (.ldc 80, 2) := dk_18 80 (dk_at dksX8_order_8 5 rfl rfl)
theorem dX8_order_262 : decode cX8_order 262 = .ok (.invokevirtual 64, 3) := dk_182 0 64 (dk_at dksX8_order_8 7 rfl rfl)
theorem dX8_order_265 : decode cX8_order 265 = .ok (.ifCond .eq 51, 3) := dk_153 0 51 (dk_at dksX8_order_8 10 rfl rfl)
theorem dX8_order_268 : decode cX8_order 268 = .ok (.bipush 7, 2) := dk_16 7 (dk_at dksX8_order_8 13 rfl rfl)
theorem dX8_order_270 : decode cX8_order 270 = .ok (.istore_n 3, 1) := dk_62 (dk_at dksX8_order_8 15 rfl rfl)
theorem dX8_order_271 : decode cX8_order 271 = .ok (.goto 45, 3) := dk_167 0 45 (dk_at dksX8_order_8 16 rfl rfl)
theorem dX8_order_274 : decode cX8_order 274 = .ok (.aload_n 2, 1) := dk_44 (dk_at dksX8_order_8 19 rfl rfl)
theorem dX8_order_275 : decode cX8_order 275 = .ok (.ldc 82, 2) := dk_18 82 (dk_at dksX8_order_8 20 rfl rfl)
theorem dX8_order_277 : decode cX8_order 277 = .ok (.invokevirtual 64, 3) := dk_182 0 64 (dk_at dksX8_order_9 0 rfl rfl)
theorem dX8_order_280 : decode cX8_order 280 = .ok (.ifCond .eq 36, 3) := dk_153 0 36 (dk_at dksX8_order_9 3 rfl rfl)
theorem dX8_order_283 : decode cX8_order 283 = .ok (.bipush 8, 2) := dk_16 8 (dk_at dksX8_order_9 6 rfl rfl)
theorem dX8_order_285 : decode cX8_order 285 = .ok (.istore_n 3, 1) := dk_62 (dk_at dksX8_order_9 8 rfl rfl)
theorem dX8_order_286 : decode cX8_order 286 = .ok (.goto 30, 3) := dk_167 0 30 (dk_at dksX8_order_9 9 rfl rfl)
theorem dX8_order_289 : decode cX8_order 289 = .ok (.aload_n 2, 1) := dk_44 (dk_at dksX8_order_9 12 rfl rfl)
theorem dX8_order_290 : decode cX8_order 290 = .ok (.ldc 84, 2) := dk_18 84 (dk_at dksX8_order_9 13 rfl rfl)
theorem dX8_order_292 : decode cX8_order 292 = .ok (.invokevirtual 64, 3) := dk_182 0 64 (dk_at dksX8_order_9 15 rfl rfl)
theorem dX8_order_295 : decode cX8_order 295 = .ok (.ifCond .eq 21, 3) := dk_153 0 21 (dk_at dksX8_order_9 18 rfl rfl)
theorem dX8_order_298 : decode cX8_order 298 = .ok (.bipush 9, 2) := dk_16 9 (dk_at dksX8_order_9 21 rfl rfl)
theorem dX8_order_300 : decode cX8_order 300 = .ok (.istore_n 3, 1) := dk_62 (dk_at dksX8_order_9 23 rfl rfl)
theorem dX8_order_301 : decode cX8_order 301 = .ok (.goto 15, 3) := dk_167 0 15 (dk_at dksX8_order_10 0 rfl rfl)
theorem dX8_order_304 : decode cX8_order 304 = .ok (.aload_n 2, 1) := dk_44 (dk_at dksX8_order_10 3 rfl rfl)
theorem dX8_order_305 : decode cX8_order 305 = .ok (.ldc 86, 2) := dk_18 86 (dk_at dksX8_order_10 4 rfl rfl)
theorem dX8_order_307 : decode cX8_order 307 = .ok (.invokevirtual 64, 3) := dk_182 0 64 (dk_at dksX8_order_10 6 rfl rfl)
theorem dX8_order_310 : decode cX8_order 310 = .ok (.ifCond .eq 6, 3) := dk_153 0 6 (dk_at dksX8_order_10 9 rfl rfl)
theorem dX8_order_313 : decode cX8_order 313 = .ok (.bipush 10, 2) := dk_16 10 (dk_at dksX8_order_10 12 rfl rfl)
theorem dX8_order_315 : decode cX8_order 315 = .ok (.istore_n 3, 1) := dk_62 (dk_at dksX8_order_10 14 rfl rfl)
theorem dX8_order_316 : decode cX8_order 316 = .ok (.iload_n 3, 1) := dk_29 (dk_at dksX8_order_10 15 rfl rfl)
theorem dX8_order_317 : decode cX8_order 317 = .ok (.tableswitch 177 0 10 #[59, 73, 73, 73, 73, 91, 118, 129, 129, 129, 159], 59) := by decide +kernel
theorem dX8_order_376 : decode cX8_order 376 = .ok (.new 88, 3) := dk_187 0 88 (dk_at dksX8_order_12 0 rfl rfl)
theorem dX8_order_379 : decode cX8_order 379 = .ok (.dup, 1) := dk_89 (dk_at dksX8_order_12 3 rfl rfl)
theorem dX8_order_380 : decode cX8_order 380 = .ok (.aload_n 1, 1) := dk_43 (dk_at dksX8_order_12 4 rfl rfl)
theorem dX8_order_381 : decode cX8_order 381 = .ok (.aload_n 0, 1) := dk_42 (dk_at dksX8_order_12 5 rfl rfl)
theorem dX8_order_382 : decode cX8_order 382 = .ok (.invokevirtual 90, 3) := dk_182 0 90 (dk_at dksX8_order_12 6 rfl rfl)
theorem dX8_order_385 : decode cX8_order 385 = .ok (.iconst 0, 1) := dk_3 (dk_at dksX8_order_12 9 rfl rfl)
theorem dX8_order_386 : decode cX8_order 386 = .ok (.invokespecial 93, 3) := dk_183 0 93 (dk_at dksX8_order_12 10 rfl rfl)
theorem dX8_order_389 : decode cX8_order 389 = .ok (.areturn, 1) := dk_176 (dk_at dksX8_order_12 13 rfl rfl)
theorem dX8_order_390 : decode cX8_order 390 = .ok (.new 88, 3) := dk_187 0 88 (dk_at dksX8_order_12 14 rfl rfl)
theorem dX8_order_393 : decode cX8_order 393 = .ok (.dup, 1) := dk_89 (dk_at dksX8_order_12 17 rfl rfl)
theorem dX8_order_394 : decode cX8_order 394 = .ok (.aload_n 1, 1) := dk_43 (dk_at dksX8_order_12 18 rfl rfl)
theorem dX8_order_395 : decode cX8_order 395 = .ok (.aload_n 0, 1) := dk_42 (dk_at dksX8_order_12 19 rfl rfl)
theorem dX8_order_396 : decode cX8_order 396 = .ok (.bipush 48, 2) := dk_16 48 (dk_at dksX8_order_12 20 rfl rfl)
theorem dX8_order_398 : decode cX8_order 398 = .ok (.bipush 11, 2) := dk_16 11 (dk_at dksX8_order_12 22 rfl rfl)
theorem dX8_order_400 : decode cX8_order 400 = .ok (.invokevirtual 96, 3) := dk_182 0 96 (dk_at dksX8_order_13 0 rfl rfl)
theorem dX8_order_403 : decode cX8_order 403 = .ok (.iconst 0, 1) := dk_3 (dk_at dksX8_order_13 3 rfl rfl)
theorem dX8_order_404 : decode cX8_order 404 = .ok (.invokespecial 93, 3) := dk_183 0 93 (dk_at dksX8_order_13 4 rfl rfl)
theorem dX8_order_407 : decode cX8_order 407 = .ok (.areturn, 1) := dk_176 (dk_at dksX8_order_13 7 rfl rfl)
theorem dX8_order_408 : decode cX8_order 408 = .ok (.aload_n 0, 1) := dk_42 (dk_at dksX8_order_13 8 rfl rfl)
theorem dX8_order_409 : decode cX8_order 409 = .ok (.bipush 48, 2) := dk_16 48 (dk_at dksX8_order_13 9 rfl rfl)
theorem dX8_order_411 : decode cX8_order 411 = .ok (.bipush 11, 2) := dk_16 11 (dk_at dksX8_order_13 11 rfl rfl)
theorem dX8_order_413 : decode cX8_order 413 = .ok (.invokevirtual 96, 3) := dk_182 0 96 (dk_at dksX8_order_13 13 rfl rfl)
theorem dX8_order_416 : decode cX8_order 416 = .ok (.istore 4, 2) := dk_54 4 (dk_at dksX8_order_13 16 rfl rfl)
theorem dX8_order_418 : decode cX8_order 418 = .ok (.new 88, 3) := dk_187 0 88 (dk_at dksX8_order_13 18 rfl rfl)
theorem dX8_order_421 : decode cX8_order 421 = .ok (.dup, 1) := dk_89 (dk_at dksX8_order_13 21 rfl rfl)
theorem dX8_order_422 : decode cX8_order 422 = .ok (.aload_n 1, 1) := dk_43 (dk_at dksX8_order_13 22 rfl rfl)
theorem dX8_order_423 : decode cX8_order 423 = .ok (.iload 4, 2) := dk_21 4 (dk_at dksX8_order_14 0 rfl rfl)
theorem dX8_order_425 : decode cX8_order 425 = .ok (.aload_n 0, 1) := dk_42 (dk_at dksX8_order_14 2 rfl rfl)
theorem dX8_order_426 : decode cX8_order 426 = .ok (.bipush 62, 2) := dk_16 62 (dk_at dksX8_order_14 3 rfl rfl)
theorem dX8_order_428 : decode cX8_order 428 = .ok (.invokevirtual 100, 3) := dk_182 0 100 (dk_at dksX8_order_14 5 rfl rfl)
theorem dX8_order_431 : decode cX8_order 431 = .ok (.invokespecial 93, 3) := dk_183 0 93 (dk_at dksX8_order_14 8 rfl rfl)
theorem dX8_order_434 : decode cX8_order 434 = .ok (.areturn, 1) := dk_176 (dk_at dksX8_order_14 11 rfl rfl)
theorem dX8_order_435 : decode cX8_order 435 = .ok (.new 88, 3) := dk_187 0 88 (dk_at dksX8_order_14 12 rfl rfl)
theorem dX8_order_438 : decode cX8_order 438 = .ok (.dup, 1) := dk_89 (dk_at dksX8_order_14 15 rfl rfl)
theorem dX8_order_439 : decode cX8_order 439 = .ok (.aload_n 1, 1) := dk_43 (dk_at dksX8_order_14 16 rfl rfl)
theorem dX8_order_440 : decode cX8_order 440 = .ok (.iconst 0, 1) := dk_3 (dk_at dksX8_order_14 17 rfl rfl)
theorem dX8_order_441 : decode cX8_order 441 = .ok (.iconst 0, 1) := dk_3 (dk_at dksX8_order_14 18 rfl rfl)
theorem dX8_order_442 : decode cX8_order 442 = .ok (.invokespecial 93, 3) := dk_183 0 93 (dk_at dksX8_order_14 19 rfl rfl)
theorem dX8_order_445 : decode cX8_order 445 = .ok (.areturn, 1) := dk_176 (dk_at dksX8_order_14 22 rfl rfl)
theorem dX8_order_446 : decode cX8_order 446 = .ok (.aload_n 0, 1) := dk_42 (dk_at dksX8_order_14 23 rfl rfl)
theorem dX8_order_447 : decode cX8_order 447 = .ok (.bipush 48, 2) := dk_16 48 (dk_at dksX8_order_15 0 rfl rfl)
theorem dX8_order_449 : decode cX8_order 449 = .ok (.bipush 51, 2) := dk_16 51 (dk_at dksX8_order_15 2 rfl rfl)
theorem dX8_order_451 : decode cX8_order 451 = .ok (.invokevirtual 47, 3) := dk_182 0 47 (dk_at dksX8_order_15 4 rfl rfl)
theorem dX8_order_454 : decode cX8_order 454 = .ok (.bipush 48, 2) := dk_16 48 (dk_at dksX8_order_15 7 rfl rfl)
theorem dX8_order_456 : decode cX8_order 456 = .ok (.isub, 1) := dk_100 (dk_at dksX8_order_15 9 rfl rfl)
theorem dX8_order_457 : decode cX8_order 457 = .ok (.istore 5, 2) := dk_54 5 (dk_at dksX8_order_15 10 rfl rfl)
theorem dX8_order_459 : decode cX8_order 459 = .ok (.new 88, 3) := dk_187 0 88 (dk_at dksX8_order_15 12 rfl rfl)
theorem dX8_order_462 : decode cX8_order 462 = .ok (.dup, 1) := dk_89 (dk_at dksX8_order_15 15 rfl rfl)
theorem dX8_order_463 : decode cX8_order 463 = .ok (.aload_n 1, 1) := dk_43 (dk_at dksX8_order_15 16 rfl rfl)
theorem dX8_order_464 : decode cX8_order 464 = .ok (.iload 5, 2) := dk_21 5 (dk_at dksX8_order_15 17 rfl rfl)
theorem dX8_order_466 : decode cX8_order 466 = .ok (.aload_n 0, 1) := dk_42 (dk_at dksX8_order_15 19 rfl rfl)
theorem dX8_order_467 : decode cX8_order 467 = .ok (.bipush 61, 2) := dk_16 61 (dk_at dksX8_order_15 20 rfl rfl)
theorem dX8_order_469 : decode cX8_order 469 = .ok (.invokevirtual 100, 3) := dk_182 0 100 (dk_at dksX8_order_16 0 rfl rfl)
theorem dX8_order_472 : decode cX8_order 472 = .ok (.invokespecial 93, 3) := dk_183 0 93 (dk_at dksX8_order_16 3 rfl rfl)
theorem dX8_order_475 : decode cX8_order 475 = .ok (.areturn, 1) := dk_176 (dk_at dksX8_order_16 6 rfl rfl)
theorem dX8_order_476 : decode cX8_order 476 = .ok (.new 88, 3) := dk_187 0 88 (dk_at dksX8_order_16 7 rfl rfl)
theorem dX8_order_479 : decode cX8_order 479 = .ok (.dup, 1) := dk_89 (dk_at dksX8_order_16 10 rfl rfl)
theorem dX8_order_480 : decode cX8_order 480 = .ok (.aload_n 1, 1) := dk_43 (dk_at dksX8_order_16 11 rfl rfl)
theorem dX8_order_481 : decode cX8_order 481 = .ok (.aload_n 0, 1) := dk_42 (dk_at dksX8_order_16 12 rfl rfl)
theorem dX8_order_482 : decode cX8_order 482 = .ok (.bipush 49, 2) := dk_16 49 (dk_at dksX8_order_16 13 rfl rfl)
theorem dX8_order_484 : decode cX8_order 484 = .ok (.bipush 48, 2) := dk_16 48 (dk_at dksX8_order_16 15 rfl rfl)
theorem dX8_order_486 : decode cX8_order 486 = .ok (.invokevirtual 96, 3) := dk_182 0 96 (dk_at dksX8_order_16 17 rfl rfl)
theorem dX8_order_489 : decode cX8_order 489 = .ok (.iconst 0, 1) := dk_3 (dk_at dksX8_order_16 20 rfl rfl)
theorem dX8_order_490 : decode cX8_order 490 = .ok (.invokespecial 93, 3) := dk_183 0 93 (dk_at dksX8_order_16 21 rfl rfl)
theorem dX8_order_493 : decode cX8_order 493 = .ok (.areturn, 1) := dk_176 (dk_at dksX8_order_17 0 rfl rfl)
theorem dX8_order_494 : decode cX8_order 494 = .ok (.aload_n 0, 1) := dk_42 (dk_at dksX8_order_17 1 rfl rfl)
theorem dX8_order_495 : decode cX8_order 495 = .ok (.dup, 1) := dk_89 (dk_at dksX8_order_17 2 rfl rfl)
theorem dX8_order_496 : decode cX8_order 496 = .ok (.getfield 19, 3) := dk_180 0 19 (dk_at dksX8_order_17 3 rfl rfl)
theorem dX8_order_499 : decode cX8_order 499 = .ok (.iconst 1, 1) := dk_4 (dk_at dksX8_order_17 6 rfl rfl)
theorem dX8_order_500 : decode cX8_order 500 = .ok (.isub, 1) := dk_100 (dk_at dksX8_order_17 7 rfl rfl)
theorem dX8_order_501 : decode cX8_order 501 = .ok (.putfield 19, 3) := dk_181 0 19 (dk_at dksX8_order_17 8 rfl rfl)
theorem dX8_order_504 : decode cX8_order 504 = .ok (.new 44, 3) := dk_187 0 44 (dk_at dksX8_order_17 11 rfl rfl)
theorem dX8_order_507 : decode cX8_order 507 = .ok (.dup, 1) := dk_89 (dk_at dksX8_order_17 14 rfl rfl)
theorem dX8_order_508 : decode cX8_order 508 = .ok (.invokespecial 46, 3) := dk_183 0 46 (dk_at dksX8_order_17 15 rfl rfl)
theorem dX8_order_511 : decode cX8_order 511 = .ok (.athrow, 1) := dk_191 (dk_at dksX8_order_17 18 rfl rfl)
abbrev cX8_kernels : ByteArray := prog_9_method_5_code
def yX8_kernels : MethodName := ⟨RX8, "kernels", "()I"⟩
def dkwX8_kernels_2 : List UInt8 := [16, 48, 28, 182, 0, 47, 96, 16, 48, 100, 172]
abbrev dktX8_kernels_2 : List UInt8 := dkwX8_kernels_2 ++ []
def dkwX8_kernels_1 : List UInt8 := [16, 57, 61, 42, 16, 48, 28, 182, 0, 47, 16, 48, 100, 62, 16, 100, 27, 104, 16, 10, 29, 104, 96, 42]
abbrev dktX8_kernels_1 : List UInt8 := dkwX8_kernels_1 ++ dktX8_kernels_2
def dkwX8_kernels_0 : List UInt8 := [42, 16, 49, 16, 57, 182, 0, 47, 16, 48, 100, 60, 27, 16, 9, 160, 0, 8, 16, 48, 167, 0, 5]
abbrev dktX8_kernels_0 : List UInt8 := dkwX8_kernels_0 ++ dktX8_kernels_1
theorem dksX8_kernels_0 : cX8_kernels.data.toList.drop 0 = dktX8_kernels_0 := by decide +kernel
theorem dksX8_kernels_1 : cX8_kernels.data.toList.drop 23 = dktX8_kernels_1 := dk_seg dksX8_kernels_0 23 rfl rfl
theorem dksX8_kernels_2 : cX8_kernels.data.toList.drop 47 = dktX8_kernels_2 := dk_seg dksX8_kernels_1 24 rfl rfl
theorem dX8_kernels_0 : decode cX8_kernels 0 = .ok (.aload_n 0, 1) := dk_42 (dk_at dksX8_kernels_0 0 rfl rfl)
theorem dX8_kernels_1 : decode cX8_kernels 1 = .ok (.bipush 49, 2) := dk_16 49 (dk_at dksX8_kernels_0 1 rfl rfl)
theorem dX8_kernels_3 : decode cX8_kernels 3 = .ok (.bipush 57, 2) := dk_16 57 (dk_at dksX8_kernels_0 3 rfl rfl)
theorem dX8_kernels_5 : decode cX8_kernels 5 = .ok (.invokevirtual 47, 3) := dk_182 0 47 (dk_at dksX8_kernels_0 5 rfl rfl)
theorem dX8_kernels_8 : decode cX8_kernels 8 = .ok (.bipush 48, 2) := dk_16 48 (dk_at dksX8_kernels_0 8 rfl rfl)
theorem dX8_kernels_10 : decode cX8_kernels 10 = .ok (.isub, 1) := dk_100 (dk_at dksX8_kernels_0 10 rfl rfl)
theorem dX8_kernels_11 : decode cX8_kernels 11 = .ok (.istore_n 1, 1) := dk_60 (dk_at dksX8_kernels_0 11 rfl rfl)
theorem dX8_kernels_12 : decode cX8_kernels 12 = .ok (.iload_n 1, 1) := dk_27 (dk_at dksX8_kernels_0 12 rfl rfl)
theorem dX8_kernels_13 : decode cX8_kernels 13 = .ok (.bipush 9, 2) := dk_16 9 (dk_at dksX8_kernels_0 13 rfl rfl)
theorem dX8_kernels_15 : decode cX8_kernels 15 = .ok (.if_icmp .ne 8, 3) := dk_160 0 8 (dk_at dksX8_kernels_0 15 rfl rfl)
theorem dX8_kernels_18 : decode cX8_kernels 18 = .ok (.bipush 48, 2) := dk_16 48 (dk_at dksX8_kernels_0 18 rfl rfl)
theorem dX8_kernels_20 : decode cX8_kernels 20 = .ok (.goto 5, 3) := dk_167 0 5 (dk_at dksX8_kernels_0 20 rfl rfl)
theorem dX8_kernels_23 : decode cX8_kernels 23 = .ok (.bipush 57, 2) := dk_16 57 (dk_at dksX8_kernels_1 0 rfl rfl)
theorem dX8_kernels_25 : decode cX8_kernels 25 = .ok (.istore_n 2, 1) := dk_61 (dk_at dksX8_kernels_1 2 rfl rfl)
theorem dX8_kernels_26 : decode cX8_kernels 26 = .ok (.aload_n 0, 1) := dk_42 (dk_at dksX8_kernels_1 3 rfl rfl)
theorem dX8_kernels_27 : decode cX8_kernels 27 = .ok (.bipush 48, 2) := dk_16 48 (dk_at dksX8_kernels_1 4 rfl rfl)
theorem dX8_kernels_29 : decode cX8_kernels 29 = .ok (.iload_n 2, 1) := dk_28 (dk_at dksX8_kernels_1 6 rfl rfl)
theorem dX8_kernels_30 : decode cX8_kernels 30 = .ok (.invokevirtual 47, 3) := dk_182 0 47 (dk_at dksX8_kernels_1 7 rfl rfl)
theorem dX8_kernels_33 : decode cX8_kernels 33 = .ok (.bipush 48, 2) := dk_16 48 (dk_at dksX8_kernels_1 10 rfl rfl)
theorem dX8_kernels_35 : decode cX8_kernels 35 = .ok (.isub, 1) := dk_100 (dk_at dksX8_kernels_1 12 rfl rfl)
theorem dX8_kernels_36 : decode cX8_kernels 36 = .ok (.istore_n 3, 1) := dk_62 (dk_at dksX8_kernels_1 13 rfl rfl)
theorem dX8_kernels_37 : decode cX8_kernels 37 = .ok (.bipush 100, 2) := dk_16 100 (dk_at dksX8_kernels_1 14 rfl rfl)
theorem dX8_kernels_39 : decode cX8_kernels 39 = .ok (.iload_n 1, 1) := dk_27 (dk_at dksX8_kernels_1 16 rfl rfl)
theorem dX8_kernels_40 : decode cX8_kernels 40 = .ok (.imul, 1) := dk_104 (dk_at dksX8_kernels_1 17 rfl rfl)
theorem dX8_kernels_41 : decode cX8_kernels 41 = .ok (.bipush 10, 2) := dk_16 10 (dk_at dksX8_kernels_1 18 rfl rfl)
theorem dX8_kernels_43 : decode cX8_kernels 43 = .ok (.iload_n 3, 1) := dk_29 (dk_at dksX8_kernels_1 20 rfl rfl)
theorem dX8_kernels_44 : decode cX8_kernels 44 = .ok (.imul, 1) := dk_104 (dk_at dksX8_kernels_1 21 rfl rfl)
theorem dX8_kernels_45 : decode cX8_kernels 45 = .ok (.iadd, 1) := dk_96 (dk_at dksX8_kernels_1 22 rfl rfl)
theorem dX8_kernels_46 : decode cX8_kernels 46 = .ok (.aload_n 0, 1) := dk_42 (dk_at dksX8_kernels_1 23 rfl rfl)
theorem dX8_kernels_47 : decode cX8_kernels 47 = .ok (.bipush 48, 2) := dk_16 48 (dk_at dksX8_kernels_2 0 rfl rfl)
theorem dX8_kernels_49 : decode cX8_kernels 49 = .ok (.iload_n 2, 1) := dk_28 (dk_at dksX8_kernels_2 2 rfl rfl)
theorem dX8_kernels_50 : decode cX8_kernels 50 = .ok (.invokevirtual 47, 3) := dk_182 0 47 (dk_at dksX8_kernels_2 3 rfl rfl)
theorem dX8_kernels_53 : decode cX8_kernels 53 = .ok (.iadd, 1) := dk_96 (dk_at dksX8_kernels_2 6 rfl rfl)
theorem dX8_kernels_54 : decode cX8_kernels 54 = .ok (.bipush 48, 2) := dk_16 48 (dk_at dksX8_kernels_2 7 rfl rfl)
theorem dX8_kernels_56 : decode cX8_kernels 56 = .ok (.isub, 1) := dk_100 (dk_at dksX8_kernels_2 9 rfl rfl)
theorem dX8_kernels_57 : decode cX8_kernels 57 = .ok (.ireturn, 1) := dk_172 (dk_at dksX8_kernels_2 10 rfl rfl)
abbrev cX8_sign : ByteArray := prog_9_method_3_code
def yX8_sign : MethodName := ⟨RX8, "sign", "(CC)C"⟩
def dkwX8_sign_1 : List UInt8 := [181, 0, 19, 42, 180, 0, 3, 180, 0, 22, 42, 180, 0, 19, 4, 100, 182, 0, 32, 172]
abbrev dktX8_sign_1 : List UInt8 := dkwX8_sign_1 ++ []
def dkwX8_sign_0 : List UInt8 := [42, 27, 28, 182, 0, 40, 154, 0, 11, 187, 0, 44, 89, 183, 0, 46, 191, 42, 89, 180, 0, 19, 4, 96]
abbrev dktX8_sign_0 : List UInt8 := dkwX8_sign_0 ++ dktX8_sign_1
theorem dksX8_sign_0 : cX8_sign.data.toList.drop 0 = dktX8_sign_0 := by decide +kernel
theorem dksX8_sign_1 : cX8_sign.data.toList.drop 24 = dktX8_sign_1 := dk_seg dksX8_sign_0 24 rfl rfl
theorem dX8_sign_0 : decode cX8_sign 0 = .ok (.aload_n 0, 1) := dk_42 (dk_at dksX8_sign_0 0 rfl rfl)
theorem dX8_sign_1 : decode cX8_sign 1 = .ok (.iload_n 1, 1) := dk_27 (dk_at dksX8_sign_0 1 rfl rfl)
theorem dX8_sign_2 : decode cX8_sign 2 = .ok (.iload_n 2, 1) := dk_28 (dk_at dksX8_sign_0 2 rfl rfl)
theorem dX8_sign_3 : decode cX8_sign 3 = .ok (.invokevirtual 40, 3) := dk_182 0 40 (dk_at dksX8_sign_0 3 rfl rfl)
theorem dX8_sign_6 : decode cX8_sign 6 = .ok (.ifCond .ne 11, 3) := dk_154 0 11 (dk_at dksX8_sign_0 6 rfl rfl)
theorem dX8_sign_9 : decode cX8_sign 9 = .ok (.new 44, 3) := dk_187 0 44 (dk_at dksX8_sign_0 9 rfl rfl)
theorem dX8_sign_12 : decode cX8_sign 12 = .ok (.dup, 1) := dk_89 (dk_at dksX8_sign_0 12 rfl rfl)
theorem dX8_sign_13 : decode cX8_sign 13 = .ok (.invokespecial 46, 3) := dk_183 0 46 (dk_at dksX8_sign_0 13 rfl rfl)
theorem dX8_sign_16 : decode cX8_sign 16 = .ok (.athrow, 1) := dk_191 (dk_at dksX8_sign_0 16 rfl rfl)
theorem dX8_sign_17 : decode cX8_sign 17 = .ok (.aload_n 0, 1) := dk_42 (dk_at dksX8_sign_0 17 rfl rfl)
theorem dX8_sign_18 : decode cX8_sign 18 = .ok (.dup, 1) := dk_89 (dk_at dksX8_sign_0 18 rfl rfl)
theorem dX8_sign_19 : decode cX8_sign 19 = .ok (.getfield 19, 3) := dk_180 0 19 (dk_at dksX8_sign_0 19 rfl rfl)
theorem dX8_sign_22 : decode cX8_sign 22 = .ok (.iconst 1, 1) := dk_4 (dk_at dksX8_sign_0 22 rfl rfl)
theorem dX8_sign_23 : decode cX8_sign 23 = .ok (.iadd, 1) := dk_96 (dk_at dksX8_sign_0 23 rfl rfl)
theorem dX8_sign_24 : decode cX8_sign 24 = .ok (.putfield 19, 3) := dk_181 0 19 (dk_at dksX8_sign_1 0 rfl rfl)
theorem dX8_sign_27 : decode cX8_sign 27 = .ok (.aload_n 0, 1) := dk_42 (dk_at dksX8_sign_1 3 rfl rfl)
theorem dX8_sign_28 : decode cX8_sign 28 = .ok (.getfield 3, 3) := dk_180 0 3 (dk_at dksX8_sign_1 4 rfl rfl)
theorem dX8_sign_31 : decode cX8_sign 31 = .ok (.getfield 22, 3) := dk_180 0 22 (dk_at dksX8_sign_1 7 rfl rfl)
theorem dX8_sign_34 : decode cX8_sign 34 = .ok (.aload_n 0, 1) := dk_42 (dk_at dksX8_sign_1 10 rfl rfl)
theorem dX8_sign_35 : decode cX8_sign 35 = .ok (.getfield 19, 3) := dk_180 0 19 (dk_at dksX8_sign_1 11 rfl rfl)
theorem dX8_sign_38 : decode cX8_sign 38 = .ok (.iconst 1, 1) := dk_4 (dk_at dksX8_sign_1 14 rfl rfl)
theorem dX8_sign_39 : decode cX8_sign 39 = .ok (.isub, 1) := dk_100 (dk_at dksX8_sign_1 15 rfl rfl)
theorem dX8_sign_40 : decode cX8_sign 40 = .ok (.invokevirtual 32, 3) := dk_182 0 32 (dk_at dksX8_sign_1 16 rfl rfl)
theorem dX8_sign_43 : decode cX8_sign 43 = .ok (.ireturn, 1) := dk_172 (dk_at dksX8_sign_1 19 rfl rfl)
abbrev cX8_isNext : ByteArray := prog_9_method_2_code
def yX8_isNext : MethodName := ⟨RX8, "isNext", "(CC)Z"⟩
def dkwX8_isNext_1 : List UInt8 := [42, 180, 0, 19, 182, 0, 32, 27, 28, 184, 0, 36, 153, 0, 7, 4, 167, 0, 4, 3, 172]
abbrev dktX8_isNext_1 : List UInt8 := dkwX8_isNext_1 ++ []
def dkwX8_isNext_0 : List UInt8 := [42, 180, 0, 19, 42, 180, 0, 3, 180, 0, 22, 182, 0, 26, 162, 0, 29, 42, 180, 0, 3, 180, 0, 22]
abbrev dktX8_isNext_0 : List UInt8 := dkwX8_isNext_0 ++ dktX8_isNext_1
theorem dksX8_isNext_0 : cX8_isNext.data.toList.drop 0 = dktX8_isNext_0 := by decide +kernel
theorem dksX8_isNext_1 : cX8_isNext.data.toList.drop 24 = dktX8_isNext_1 := dk_seg dksX8_isNext_0 24 rfl rfl
theorem dX8_isNext_0 : decode cX8_isNext 0 = .ok (.aload_n 0, 1) := dk_42 (dk_at dksX8_isNext_0 0 rfl rfl)
theorem dX8_isNext_1 : decode cX8_isNext 1 = .ok (.getfield 19, 3) := dk_180 0 19 (dk_at dksX8_isNext_0 1 rfl rfl)
theorem dX8_isNext_4 : decode cX8_isNext 4 = .ok (.aload_n 0, 1) := dk_42 (dk_at dksX8_isNext_0 4 rfl rfl)
theorem dX8_isNext_5 : decode cX8_isNext 5 = .ok (.getfield 3, 3) := dk_180 0 3 (dk_at dksX8_isNext_0 5 rfl rfl)
theorem dX8_isNext_8 : decode cX8_isNext 8 = .ok (.getfield 22, 3) := dk_180 0 22 (dk_at dksX8_isNext_0 8 rfl rfl)
theorem dX8_isNext_11 : decode cX8_isNext 11 = .ok (.invokevirtual 26, 3) := dk_182 0 26 (dk_at dksX8_isNext_0 11 rfl rfl)
theorem dX8_isNext_14 : decode cX8_isNext 14 = .ok (.if_icmp .ge 29, 3) := dk_162 0 29 (dk_at dksX8_isNext_0 14 rfl rfl)
theorem dX8_isNext_17 : decode cX8_isNext 17 = .ok (.aload_n 0, 1) := dk_42 (dk_at dksX8_isNext_0 17 rfl rfl)
theorem dX8_isNext_18 : decode cX8_isNext 18 = .ok (.getfield 3, 3) := dk_180 0 3 (dk_at dksX8_isNext_0 18 rfl rfl)
theorem dX8_isNext_21 : decode cX8_isNext 21 = .ok (.getfield 22, 3) := dk_180 0 22 (dk_at dksX8_isNext_0 21 rfl rfl)
theorem dX8_isNext_24 : decode cX8_isNext 24 = .ok (.aload_n 0, 1) := dk_42 (dk_at dksX8_isNext_1 0 rfl rfl)
theorem dX8_isNext_25 : decode cX8_isNext 25 = .ok (.getfield 19, 3) := dk_180 0 19 (dk_at dksX8_isNext_1 1 rfl rfl)
theorem dX8_isNext_28 : decode cX8_isNext 28 = .ok (.invokevirtual 32, 3) := dk_182 0 32 (dk_at dksX8_isNext_1 4 rfl rfl)
theorem dX8_isNext_31 : decode cX8_isNext 31 = .ok (.iload_n 1, 1) := dk_27 (dk_at dksX8_isNext_1 7 rfl rfl)
theorem dX8_isNext_32 : decode cX8_isNext 32 = .ok (.iload_n 2, 1) := dk_28 (dk_at dksX8_isNext_1 8 rfl rfl)
theorem dX8_isNext_33 : decode cX8_isNext 33 = .ok (.invokestatic 36, 3) := dk_184 0 36 (dk_at dksX8_isNext_1 9 rfl rfl)
theorem dX8_isNext_36 : decode cX8_isNext 36 = .ok (.ifCond .eq 7, 3) := dk_153 0 7 (dk_at dksX8_isNext_1 12 rfl rfl)
theorem dX8_isNext_39 : decode cX8_isNext 39 = .ok (.iconst 1, 1) := dk_4 (dk_at dksX8_isNext_1 15 rfl rfl)
theorem dX8_isNext_40 : decode cX8_isNext 40 = .ok (.goto 4, 3) := dk_167 0 4 (dk_at dksX8_isNext_1 16 rfl rfl)
theorem dX8_isNext_43 : decode cX8_isNext 43 = .ok (.iconst 0, 1) := dk_3 (dk_at dksX8_isNext_1 19 rfl rfl)
theorem dX8_isNext_44 : decode cX8_isNext 44 = .ok (.ireturn, 1) := dk_172 (dk_at dksX8_isNext_1 20 rfl rfl)
abbrev cX8_number : ByteArray := prog_9_method_4_code
def yX8_number : MethodName := ⟨RX8, "number", "(CI)I"⟩
def dkwX8_number_3 : List UInt8 := [167, 255, 198, 29, 172]
abbrev dktX8_number_3 : List UInt8 := dkwX8_number_3 ++ []
def dkwX8_number_2 : List UInt8 := [100, 28, 163, 0, 23, 16, 10, 29, 104, 42, 16, 48, 16, 57, 182, 0, 47, 96, 16, 48, 100, 62]
abbrev dktX8_number_2 : List UInt8 := dkwX8_number_2 ++ dktX8_number_3
def dkwX8_number_1 : List UInt8 := [153, 0, 49, 16, 10, 29, 104, 42, 180, 0, 3, 180, 0, 22, 42, 180, 0, 19, 182, 0, 32, 96, 16, 48]
abbrev dktX8_number_1 : List UInt8 := dkwX8_number_1 ++ dktX8_number_2
def dkwX8_number_0 : List UInt8 := [42, 27, 16, 57, 182, 0, 47, 16, 48, 100, 62, 29, 158, 0, 60, 42, 16, 48, 16, 57, 182, 0, 40]
abbrev dktX8_number_0 : List UInt8 := dkwX8_number_0 ++ dktX8_number_1
theorem dksX8_number_0 : cX8_number.data.toList.drop 0 = dktX8_number_0 := by decide +kernel
theorem dksX8_number_1 : cX8_number.data.toList.drop 23 = dktX8_number_1 := dk_seg dksX8_number_0 23 rfl rfl
theorem dksX8_number_2 : cX8_number.data.toList.drop 47 = dktX8_number_2 := dk_seg dksX8_number_1 24 rfl rfl
theorem dksX8_number_3 : cX8_number.data.toList.drop 69 = dktX8_number_3 := dk_seg dksX8_number_2 22 rfl rfl
theorem dX8_number_0 : decode cX8_number 0 = .ok (.aload_n 0, 1) := dk_42 (dk_at dksX8_number_0 0 rfl rfl)
theorem dX8_number_1 : decode cX8_number 1 = .ok (.iload_n 1, 1) := dk_27 (dk_at dksX8_number_0 1 rfl rfl)
theorem dX8_number_2 : decode cX8_number 2 = .ok (.bipush 57, 2) := dk_16 57 (dk_at dksX8_number_0 2 rfl rfl)
theorem dX8_number_4 : decode cX8_number 4 = .ok (.invokevirtual 47, 3) := dk_182 0 47 (dk_at dksX8_number_0 4 rfl rfl)
theorem dX8_number_7 : decode cX8_number 7 = .ok (.bipush 48, 2) := dk_16 48 (dk_at dksX8_number_0 7 rfl rfl)
theorem dX8_number_9 : decode cX8_number 9 = .ok (.isub, 1) := dk_100 (dk_at dksX8_number_0 9 rfl rfl)
theorem dX8_number_10 : decode cX8_number 10 = .ok (.istore_n 3, 1) := dk_62 (dk_at dksX8_number_0 10 rfl rfl)
theorem dX8_number_11 : decode cX8_number 11 = .ok (.iload_n 3, 1) := dk_29 (dk_at dksX8_number_0 11 rfl rfl)
theorem dX8_number_12 : decode cX8_number 12 = .ok (.ifCond .le 60, 3) := dk_158 0 60 (dk_at dksX8_number_0 12 rfl rfl)
theorem dX8_number_15 : decode cX8_number 15 = .ok (.aload_n 0, 1) := dk_42 (dk_at dksX8_number_0 15 rfl rfl)
theorem dX8_number_16 : decode cX8_number 16 = .ok (.bipush 48, 2) := dk_16 48 (dk_at dksX8_number_0 16 rfl rfl)
theorem dX8_number_18 : decode cX8_number 18 = .ok (.bipush 57, 2) := dk_16 57 (dk_at dksX8_number_0 18 rfl rfl)
theorem dX8_number_20 : decode cX8_number 20 = .ok (.invokevirtual 40, 3) := dk_182 0 40 (dk_at dksX8_number_0 20 rfl rfl)
theorem dX8_number_23 : decode cX8_number 23 = .ok (.ifCond .eq 49, 3) := dk_153 0 49 (dk_at dksX8_number_1 0 rfl rfl)
theorem dX8_number_26 : decode cX8_number 26 = .ok (.bipush 10, 2) := dk_16 10 (dk_at dksX8_number_1 3 rfl rfl)
theorem dX8_number_28 : decode cX8_number 28 = .ok (.iload_n 3, 1) := dk_29 (dk_at dksX8_number_1 5 rfl rfl)
theorem dX8_number_29 : decode cX8_number 29 = .ok (.imul, 1) := dk_104 (dk_at dksX8_number_1 6 rfl rfl)
theorem dX8_number_30 : decode cX8_number 30 = .ok (.aload_n 0, 1) := dk_42 (dk_at dksX8_number_1 7 rfl rfl)
theorem dX8_number_31 : decode cX8_number 31 = .ok (.getfield 3, 3) := dk_180 0 3 (dk_at dksX8_number_1 8 rfl rfl)
theorem dX8_number_34 : decode cX8_number 34 = .ok (.getfield 22, 3) := dk_180 0 22 (dk_at dksX8_number_1 11 rfl rfl)
theorem dX8_number_37 : decode cX8_number 37 = .ok (.aload_n 0, 1) := dk_42 (dk_at dksX8_number_1 14 rfl rfl)
theorem dX8_number_38 : decode cX8_number 38 = .ok (.getfield 19, 3) := dk_180 0 19 (dk_at dksX8_number_1 15 rfl rfl)
theorem dX8_number_41 : decode cX8_number 41 = .ok (.invokevirtual 32, 3) := dk_182 0 32 (dk_at dksX8_number_1 18 rfl rfl)
theorem dX8_number_44 : decode cX8_number 44 = .ok (.iadd, 1) := dk_96 (dk_at dksX8_number_1 21 rfl rfl)
theorem dX8_number_45 : decode cX8_number 45 = .ok (.bipush 48, 2) := dk_16 48 (dk_at dksX8_number_1 22 rfl rfl)
theorem dX8_number_47 : decode cX8_number 47 = .ok (.isub, 1) := dk_100 (dk_at dksX8_number_2 0 rfl rfl)
theorem dX8_number_48 : decode cX8_number 48 = .ok (.iload_n 2, 1) := dk_28 (dk_at dksX8_number_2 1 rfl rfl)
theorem dX8_number_49 : decode cX8_number 49 = .ok (.if_icmp .gt 23, 3) := dk_163 0 23 (dk_at dksX8_number_2 2 rfl rfl)
theorem dX8_number_52 : decode cX8_number 52 = .ok (.bipush 10, 2) := dk_16 10 (dk_at dksX8_number_2 5 rfl rfl)
theorem dX8_number_54 : decode cX8_number 54 = .ok (.iload_n 3, 1) := dk_29 (dk_at dksX8_number_2 7 rfl rfl)
theorem dX8_number_55 : decode cX8_number 55 = .ok (.imul, 1) := dk_104 (dk_at dksX8_number_2 8 rfl rfl)
theorem dX8_number_56 : decode cX8_number 56 = .ok (.aload_n 0, 1) := dk_42 (dk_at dksX8_number_2 9 rfl rfl)
theorem dX8_number_57 : decode cX8_number 57 = .ok (.bipush 48, 2) := dk_16 48 (dk_at dksX8_number_2 10 rfl rfl)
theorem dX8_number_59 : decode cX8_number 59 = .ok (.bipush 57, 2) := dk_16 57 (dk_at dksX8_number_2 12 rfl rfl)
theorem dX8_number_61 : decode cX8_number 61 = .ok (.invokevirtual 47, 3) := dk_182 0 47 (dk_at dksX8_number_2 14 rfl rfl)
theorem dX8_number_64 : decode cX8_number 64 = .ok (.iadd, 1) := dk_96 (dk_at dksX8_number_2 17 rfl rfl)
theorem dX8_number_65 : decode cX8_number 65 = .ok (.bipush 48, 2) := dk_16 48 (dk_at dksX8_number_2 18 rfl rfl)
theorem dX8_number_67 : decode cX8_number 67 = .ok (.isub, 1) := dk_100 (dk_at dksX8_number_2 20 rfl rfl)
theorem dX8_number_68 : decode cX8_number 68 = .ok (.istore_n 3, 1) := dk_62 (dk_at dksX8_number_2 21 rfl rfl)
theorem dX8_number_69 : decode cX8_number 69 = .ok (.goto (-58), 3) := dk_167 255 198 (dk_at dksX8_number_3 0 rfl rfl)
theorem dX8_number_72 : decode cX8_number 72 = .ok (.iload_n 3, 1) := dk_29 (dk_at dksX8_number_3 3 rfl rfl)
theorem dX8_number_73 : decode cX8_number 73 = .ok (.ireturn, 1) := dk_172 (dk_at dksX8_number_3 4 rfl rfl)
abbrev cX8_step : ByteArray := prog_9_method_6_code
def yX8_step : MethodName := ⟨RX8, "step", "(C)I"⟩
def dkwX8_step_0 : List UInt8 := [42, 27, 27, 182, 0, 47, 87, 42, 16, 48, 16, 51, 182, 0, 47, 16, 48, 100, 172]
abbrev dktX8_step_0 : List UInt8 := dkwX8_step_0 ++ []
theorem dksX8_step_0 : cX8_step.data.toList.drop 0 = dktX8_step_0 := by decide +kernel
theorem dX8_step_0 : decode cX8_step 0 = .ok (.aload_n 0, 1) := dk_42 (dk_at dksX8_step_0 0 rfl rfl)
theorem dX8_step_1 : decode cX8_step 1 = .ok (.iload_n 1, 1) := dk_27 (dk_at dksX8_step_0 1 rfl rfl)
theorem dX8_step_2 : decode cX8_step 2 = .ok (.iload_n 1, 1) := dk_27 (dk_at dksX8_step_0 2 rfl rfl)
theorem dX8_step_3 : decode cX8_step 3 = .ok (.invokevirtual 47, 3) := dk_182 0 47 (dk_at dksX8_step_0 3 rfl rfl)
theorem dX8_step_6 : decode cX8_step 6 = .ok (.pop, 1) := dk_87 (dk_at dksX8_step_0 6 rfl rfl)
theorem dX8_step_7 : decode cX8_step 7 = .ok (.aload_n 0, 1) := dk_42 (dk_at dksX8_step_0 7 rfl rfl)
theorem dX8_step_8 : decode cX8_step 8 = .ok (.bipush 48, 2) := dk_16 48 (dk_at dksX8_step_0 8 rfl rfl)
theorem dX8_step_10 : decode cX8_step 10 = .ok (.bipush 51, 2) := dk_16 51 (dk_at dksX8_step_0 10 rfl rfl)
theorem dX8_step_12 : decode cX8_step 12 = .ok (.invokevirtual 47, 3) := dk_182 0 47 (dk_at dksX8_step_0 12 rfl rfl)
theorem dX8_step_15 : decode cX8_step 15 = .ok (.bipush 48, 2) := dk_16 48 (dk_at dksX8_step_0 15 rfl rfl)
theorem dX8_step_17 : decode cX8_step 17 = .ok (.isub, 1) := dk_100 (dk_at dksX8_step_0 17 rfl rfl)
theorem dX8_step_18 : decode cX8_step 18 = .ok (.ireturn, 1) := dk_172 (dk_at dksX8_step_0 18 rfl rfl)
theorem q95 : (Jvm.Cond.initialized "MaltDrums$Reader") ∈ lw_all := lw_g (lw_at lw_m1 31 rfl) rfl
theorem q302 : (Jvm.Cond.fieldLinkNest "MaltDrums$Reader" (22 : Nat) "MaltDrums" "text" "Ljava/lang/StringBuilder;" "MaltDrums") ∈ lw_tbl := lw_at lw_m1 238 rfl
theorem q670 : (Jvm.Cond.instantiable "MaltDrums$Reader" (3 : Nat)) ∈ lw_all := lw_g (lw_at lw_m3 126 rfl) rfl
theorem q672 : (Jvm.Cond.instanceMethod ({ cls := "MaltDrums$Reader", name := "<init>", desc := "(LMaltDrums;)V" } : Jvm.MethodName)) ∈ lw_all := lw_g (lw_at lw_m3 128 rfl) rfl
theorem q673 : (Jvm.Cond.code ({ cls := "MaltDrums$Reader", name := "<init>", desc := "(LMaltDrums;)V" } : Jvm.MethodName) prog_9_method_1_code (2 : Nat) (Option.none : Option Jvm.ClassFile.FieldType)) ∈ lw_all := lw_g (lw_at lw_m3 129 rfl) rfl
theorem q674 : (Jvm.Cond.methodLink "MaltDrums$Reader" (9 : Nat) ({ cls := "java/lang/Object", name := "<init>", desc := "()V" } : Jvm.MethodName)) ∈ lw_all := lw_g (lw_at lw_m3 130 rfl) rfl
theorem q675 : (Jvm.Cond.fieldLink "MaltDrums$Reader" (19 : Nat) "MaltDrums$Reader" "at" "I") ∈ lw_all := lw_g (lw_at lw_m3 131 rfl) rfl
theorem q676 : (Jvm.Cond.fieldLink "MaltDrums$Reader" (15 : Nat) "MaltDrums$Reader" "fault" "I") ∈ lw_all := lw_g (lw_at lw_m3 132 rfl) rfl
theorem q678 : (Jvm.Cond.fieldLink "MaltDrums$Reader" (3 : Nat) "MaltDrums$Reader" "this$0" "LMaltDrums;") ∈ lw_all := lw_g (lw_at lw_m3 134 rfl) rfl
theorem q679 : (Jvm.Cond.lays "MaltDrums$Reader" "MaltDrums$Reader" "at" "I") ∈ lw_all := lw_g (lw_at lw_m3 135 rfl) rfl
theorem q680 : (Jvm.Cond.soleField "MaltDrums$Reader" "at") ∈ lw_all := lw_g (lw_at lw_m3 136 rfl) rfl
theorem q681 : (Jvm.Cond.lays "MaltDrums$Reader" "MaltDrums$Reader" "fault" "I") ∈ lw_all := lw_g (lw_at lw_m3 137 rfl) rfl
theorem q682 : (Jvm.Cond.soleField "MaltDrums$Reader" "fault") ∈ lw_all := lw_g (lw_at lw_m3 138 rfl) rfl
theorem q683 : (Jvm.Cond.laysFinal "MaltDrums$Reader" "MaltDrums$Reader" "this$0" "LMaltDrums;") ∈ lw_all := lw_g (lw_at lw_m3 139 rfl) rfl
theorem q684 : (Jvm.Cond.soleField "MaltDrums$Reader" "this$0") ∈ lw_all := lw_g (lw_at lw_m3 140 rfl) rfl
theorem q685 : (Jvm.Cond.superclass "MaltDrums$Reader" "java/lang/Object") ∈ lw_all := lw_g (lw_at lw_m3 141 rfl) rfl
theorem q687 : (Jvm.Cond.instanceMethod ({ cls := "MaltDrums$Reader", name := "orders", desc := "()Ljava/util/List;" } : Jvm.MethodName)) ∈ lw_all := lw_g (lw_at lw_m3 143 rfl) rfl
theorem q688 : (Jvm.Cond.selects "MaltDrums$Reader" ({ cls := "MaltDrums$Reader", name := "orders", desc := "()Ljava/util/List;" } : Jvm.MethodName) ({ cls := "MaltDrums$Reader", name := "orders", desc := "()Ljava/util/List;" } : Jvm.MethodName)) ∈ lw_all := lw_g (lw_at lw_m3 144 rfl) rfl
theorem q689 : (Jvm.Cond.codeWith ({ cls := "MaltDrums$Reader", name := "orders", desc := "()Ljava/util/List;" } : Jvm.MethodName) prog_9_method_8_code (4 : Nat) (Option.some (Jvm.ClassFile.FieldType.object "java/util/List")) [((10 : Nat), (63 : Nat), (82 : Nat), (0 : Nat))]) ∈ lw_all := lw_g (lw_at lw_m3 145 rfl) rfl
theorem q690 : (Jvm.Cond.classLink "MaltDrums$Reader" (104 : Nat) "java/util/ArrayList") ∈ lw_all := lw_g (lw_at lw_m3 146 rfl) rfl
theorem q692 : (Jvm.Cond.methodLink "MaltDrums$Reader" (106 : Nat) ({ cls := "java/util/ArrayList", name := "<init>", desc := "()V" } : Jvm.MethodName)) ∈ lw_all := lw_g (lw_at lw_m3 148 rfl) rfl
theorem q713 : (Jvm.Cond.methodLink "MaltDrums$Reader" (107 : Nat) ({ cls := "MaltDrums$Reader", name := "order", desc := "()LMaltDrums$Order;" } : Jvm.MethodName)) ∈ lw_all := lw_g (lw_at lw_m3 169 rfl) rfl
theorem q714 : (Jvm.Cond.privateMethod ({ cls := "MaltDrums$Reader", name := "order", desc := "()LMaltDrums$Order;" } : Jvm.MethodName)) ∈ lw_tbl := lw_at lw_m3 170 rfl
theorem q715 : (Jvm.Cond.instanceMethod ({ cls := "MaltDrums$Reader", name := "order", desc := "()LMaltDrums$Order;" } : Jvm.MethodName)) ∈ lw_all := lw_g (lw_at lw_m3 171 rfl) rfl
theorem q716 : (Jvm.Cond.code ({ cls := "MaltDrums$Reader", name := "order", desc := "()LMaltDrums$Order;" } : Jvm.MethodName) prog_9_method_7_code (6 : Nat) (Option.some (Jvm.ClassFile.FieldType.object "MaltDrums$Order"))) ∈ lw_all := lw_g (lw_at lw_m3 172 rfl) rfl
theorem q717 : (Jvm.Cond.methodLink "MaltDrums$Reader" (26 : Nat) ({ cls := "java/lang/StringBuilder", name := "length", desc := "()I" } : Jvm.MethodName)) ∈ lw_all := lw_g (lw_at lw_m3 173 rfl) rfl
theorem q718 : (Jvm.Cond.methodLink "MaltDrums$Reader" (51 : Nat) ({ cls := "java/lang/StringBuilder", name := "substring", desc := "(II)Ljava/lang/String;" } : Jvm.MethodName)) ∈ lw_all := lw_g (lw_at lw_m3 174 rfl) rfl
theorem q745 : (Jvm.Cond.stringRef "MaltDrums$Reader" (55 : Nat) "") ∈ lw_tbl := lw_at lw_m3 201 rfl
theorem q746 : (Jvm.Cond.methodLink "MaltDrums$Reader" (57 : Nat) ({ cls := "java/lang/String", name := "hashCode", desc := "()I" } : Jvm.MethodName)) ∈ lw_all := lw_g (lw_at lw_m3 202 rfl) rfl
theorem q807 : (Jvm.Cond.stringRef "MaltDrums$Reader" (62 : Nat) "+") ∈ lw_tbl := lw_at lw_m4 23 rfl
theorem q808 : (Jvm.Cond.methodLink "MaltDrums$Reader" (64 : Nat) ({ cls := "java/lang/String", name := "equals", desc := "(Ljava/lang/Object;)Z" } : Jvm.MethodName)) ∈ lw_all := lw_g (lw_at lw_m4 24 rfl) rfl
theorem q816 : (Jvm.Cond.stringRef "MaltDrums$Reader" (68 : Nat) "s") ∈ lw_tbl := lw_at lw_m4 32 rfl
theorem q817 : (Jvm.Cond.stringRef "MaltDrums$Reader" (70 : Nat) "h") ∈ lw_tbl := lw_at lw_m4 33 rfl
theorem q818 : (Jvm.Cond.stringRef "MaltDrums$Reader" (72 : Nat) "k") ∈ lw_tbl := lw_at lw_m4 34 rfl
theorem q819 : (Jvm.Cond.stringRef "MaltDrums$Reader" (74 : Nat) "p") ∈ lw_tbl := lw_at lw_m4 35 rfl
theorem q820 : (Jvm.Cond.stringRef "MaltDrums$Reader" (76 : Nat) "d") ∈ lw_tbl := lw_at lw_m4 36 rfl
theorem q821 : (Jvm.Cond.stringRef "MaltDrums$Reader" (78 : Nat) "l") ∈ lw_tbl := lw_at lw_m4 37 rfl
theorem q822 : (Jvm.Cond.stringRef "MaltDrums$Reader" (80 : Nat) "a") ∈ lw_tbl := lw_at lw_m4 38 rfl
theorem q823 : (Jvm.Cond.stringRef "MaltDrums$Reader" (82 : Nat) "w") ∈ lw_tbl := lw_at lw_m4 39 rfl
theorem q824 : (Jvm.Cond.stringRef "MaltDrums$Reader" (84 : Nat) "t") ∈ lw_tbl := lw_at lw_m4 40 rfl
theorem q825 : (Jvm.Cond.stringRef "MaltDrums$Reader" (86 : Nat) "n") ∈ lw_tbl := lw_at lw_m4 41 rfl
theorem q826 : (Jvm.Cond.classLink "MaltDrums$Reader" (88 : Nat) "MaltDrums$Order") ∈ lw_all := lw_g (lw_at lw_m4 42 rfl) rfl
theorem q828 : (Jvm.Cond.methodLink "MaltDrums$Reader" (90 : Nat) ({ cls := "MaltDrums$Reader", name := "kernels", desc := "()I" } : Jvm.MethodName)) ∈ lw_all := lw_g (lw_at lw_m4 44 rfl) rfl
theorem q829 : (Jvm.Cond.privateMethod ({ cls := "MaltDrums$Reader", name := "kernels", desc := "()I" } : Jvm.MethodName)) ∈ lw_tbl := lw_at lw_m4 45 rfl
theorem q830 : (Jvm.Cond.instanceMethod ({ cls := "MaltDrums$Reader", name := "kernels", desc := "()I" } : Jvm.MethodName)) ∈ lw_all := lw_g (lw_at lw_m4 46 rfl) rfl
theorem q831 : (Jvm.Cond.code ({ cls := "MaltDrums$Reader", name := "kernels", desc := "()I" } : Jvm.MethodName) prog_9_method_5_code (4 : Nat) (Option.some Jvm.ClassFile.FieldType.int)) ∈ lw_all := lw_g (lw_at lw_m4 47 rfl) rfl
theorem q832 : (Jvm.Cond.methodLink "MaltDrums$Reader" (47 : Nat) ({ cls := "MaltDrums$Reader", name := "sign", desc := "(CC)C" } : Jvm.MethodName)) ∈ lw_all := lw_g (lw_at lw_m4 48 rfl) rfl
theorem q833 : (Jvm.Cond.privateMethod ({ cls := "MaltDrums$Reader", name := "sign", desc := "(CC)C" } : Jvm.MethodName)) ∈ lw_tbl := lw_at lw_m4 49 rfl
theorem q834 : (Jvm.Cond.instanceMethod ({ cls := "MaltDrums$Reader", name := "sign", desc := "(CC)C" } : Jvm.MethodName)) ∈ lw_all := lw_g (lw_at lw_m4 50 rfl) rfl
theorem q835 : (Jvm.Cond.code ({ cls := "MaltDrums$Reader", name := "sign", desc := "(CC)C" } : Jvm.MethodName) prog_9_method_3_code (3 : Nat) (Option.some Jvm.ClassFile.FieldType.char)) ∈ lw_all := lw_g (lw_at lw_m4 51 rfl) rfl
theorem q836 : (Jvm.Cond.methodLink "MaltDrums$Reader" (40 : Nat) ({ cls := "MaltDrums$Reader", name := "isNext", desc := "(CC)Z" } : Jvm.MethodName)) ∈ lw_all := lw_g (lw_at lw_m4 52 rfl) rfl
theorem q837 : (Jvm.Cond.privateMethod ({ cls := "MaltDrums$Reader", name := "isNext", desc := "(CC)Z" } : Jvm.MethodName)) ∈ lw_tbl := lw_at lw_m4 53 rfl
theorem q838 : (Jvm.Cond.instanceMethod ({ cls := "MaltDrums$Reader", name := "isNext", desc := "(CC)Z" } : Jvm.MethodName)) ∈ lw_all := lw_g (lw_at lw_m4 54 rfl) rfl
theorem q839 : (Jvm.Cond.code ({ cls := "MaltDrums$Reader", name := "isNext", desc := "(CC)Z" } : Jvm.MethodName) prog_9_method_2_code (3 : Nat) (Option.some Jvm.ClassFile.FieldType.boolean)) ∈ lw_all := lw_g (lw_at lw_m4 55 rfl) rfl
theorem q840 : (Jvm.Cond.methodLink "MaltDrums$Reader" (32 : Nat) ({ cls := "java/lang/StringBuilder", name := "charAt", desc := "(I)C" } : Jvm.MethodName)) ∈ lw_all := lw_g (lw_at lw_m4 56 rfl) rfl
theorem q855 : (Jvm.Cond.methodLinkNest "MaltDrums$Reader" (36 : Nat) ({ cls := "MaltDrums", name := "isWithin", desc := "(III)Z" } : Jvm.MethodName) "MaltDrums") ∈ lw_tbl := lw_at lw_m4 71 rfl
theorem q858 : (Jvm.Cond.classLink "MaltDrums$Reader" (44 : Nat) "MaltDrums$Misspelled") ∈ lw_all := lw_g (lw_at lw_m4 74 rfl) rfl
theorem q867 : (Jvm.Cond.methodLink "MaltDrums$Reader" (46 : Nat) ({ cls := "MaltDrums$Misspelled", name := "<init>", desc := "()V" } : Jvm.MethodName)) ∈ lw_all := lw_g (lw_at lw_m4 83 rfl) rfl
theorem q878 : (Jvm.Cond.methodLinkNest "MaltDrums$Reader" (93 : Nat) ({ cls := "MaltDrums$Order", name := "<init>", desc := "(Ljava/lang/String;II)V" } : Jvm.MethodName) "MaltDrums") ∈ lw_tbl := lw_at lw_m4 94 rfl
theorem q892 : (Jvm.Cond.methodLink "MaltDrums$Reader" (96 : Nat) ({ cls := "MaltDrums$Reader", name := "number", desc := "(CI)I" } : Jvm.MethodName)) ∈ lw_all := lw_g (lw_at lw_m4 108 rfl) rfl
theorem q893 : (Jvm.Cond.privateMethod ({ cls := "MaltDrums$Reader", name := "number", desc := "(CI)I" } : Jvm.MethodName)) ∈ lw_tbl := lw_at lw_m4 109 rfl
theorem q894 : (Jvm.Cond.instanceMethod ({ cls := "MaltDrums$Reader", name := "number", desc := "(CI)I" } : Jvm.MethodName)) ∈ lw_all := lw_g (lw_at lw_m4 110 rfl) rfl
theorem q895 : (Jvm.Cond.code ({ cls := "MaltDrums$Reader", name := "number", desc := "(CI)I" } : Jvm.MethodName) prog_9_method_4_code (4 : Nat) (Option.some Jvm.ClassFile.FieldType.int)) ∈ lw_all := lw_g (lw_at lw_m4 111 rfl) rfl
theorem q896 : (Jvm.Cond.methodLink "MaltDrums$Reader" (100 : Nat) ({ cls := "MaltDrums$Reader", name := "step", desc := "(C)I" } : Jvm.MethodName)) ∈ lw_all := lw_g (lw_at lw_m4 112 rfl) rfl
theorem q897 : (Jvm.Cond.privateMethod ({ cls := "MaltDrums$Reader", name := "step", desc := "(C)I" } : Jvm.MethodName)) ∈ lw_tbl := lw_at lw_m4 113 rfl
theorem q898 : (Jvm.Cond.instanceMethod ({ cls := "MaltDrums$Reader", name := "step", desc := "(C)I" } : Jvm.MethodName)) ∈ lw_all := lw_g (lw_at lw_m4 114 rfl) rfl
theorem q899 : (Jvm.Cond.code ({ cls := "MaltDrums$Reader", name := "step", desc := "(C)I" } : Jvm.MethodName) prog_9_method_6_code (2 : Nat) (Option.some Jvm.ClassFile.FieldType.int)) ∈ lw_all := lw_g (lw_at lw_m4 115 rfl) rfl
theorem q900 : (Jvm.Cond.interfaceEntry "MaltDrums$Reader" (111 : Nat)) ∈ lw_tbl := lw_at lw_m4 116 rfl
theorem q901 : (Jvm.Cond.methodLink "MaltDrums$Reader" (111 : Nat) ({ cls := "java/util/List", name := "add", desc := "(Ljava/lang/Object;)Z" } : Jvm.MethodName)) ∈ lw_all := lw_g (lw_at lw_m4 117 rfl) rfl
theorem q936 : (Jvm.Cond.selects "MaltDrums$Reader" ({ cls := "java/lang/Object", name := "getClass", desc := "()Ljava/lang/Class;" } : Jvm.MethodName) ({ cls := "java/lang/Object", name := "getClass", desc := "()Ljava/lang/Class;" } : Jvm.MethodName)) ∈ lw_all := lw_g (lw_at lw_m4 152 rfl) rfl
theorem q2222 : (Jvm.Cond.castable "MaltDrums$Reader" "java/lang/Object") ∈ lw_tbl := lw_at lw_m9 238 rfl
theorem in_X8 : ∀ w ∈ wsX80, w ∈ lw_all := lw_in wsX80 [679, 681, 683] (by decide +kernel) (by decide +kernel)
/-! MaltDrums$Order -/
set_option maxRecDepth 100000
def RX9 : String := "MaltDrums$Order"
def TX9 : u_T := fun k => match k with
  | 0 => ("MaltDrums$Order", "sign", "Ljava/lang/String;", true)
  | 1 => ("MaltDrums$Order", "one", "I", true)
  | _ => ("MaltDrums$Order", "two", "I", true)
def tyX9 : Nat → FieldType := fun k => match k with
  | 0 => .object "java/lang/String"
  | 1 => .int
  | _ => .int
abbrev wsX90 : List Cond := u_ws RX9 TX9 3
theorem nmX9 : ∀ a, a < 3 → ∀ b, b < 3 → a ≠ b → (TX9 a).2.1 ≠ (TX9 b).2.1 := by decide +kernel
theorem tyX9_ok : ∀ k, k < 3 → parseFieldDescriptor (TX9 k).2.2.1 = some (tyX9 k) := by decide +kernel
abbrev cX9_init : ByteArray := prog_8_method_1_code
def yX9_init : MethodName := ⟨RX9, "<init>", "(Ljava/lang/String;II)V"⟩
def dkwX9_init_0 : List UInt8 := [42, 183, 0, 1, 42, 43, 181, 0, 7, 42, 28, 181, 0, 13, 42, 29, 181, 0, 17, 177]
abbrev dktX9_init_0 : List UInt8 := dkwX9_init_0 ++ []
theorem dksX9_init_0 : cX9_init.data.toList.drop 0 = dktX9_init_0 := by decide +kernel
theorem dX9_init_0 : decode cX9_init 0 = .ok (.aload_n 0, 1) := dk_42 (dk_at dksX9_init_0 0 rfl rfl)
theorem dX9_init_1 : decode cX9_init 1 = .ok (.invokespecial 1, 3) := dk_183 0 1 (dk_at dksX9_init_0 1 rfl rfl)
theorem dX9_init_4 : decode cX9_init 4 = .ok (.aload_n 0, 1) := dk_42 (dk_at dksX9_init_0 4 rfl rfl)
theorem dX9_init_5 : decode cX9_init 5 = .ok (.aload_n 1, 1) := dk_43 (dk_at dksX9_init_0 5 rfl rfl)
theorem dX9_init_6 : decode cX9_init 6 = .ok (.putfield 7, 3) := dk_181 0 7 (dk_at dksX9_init_0 6 rfl rfl)
theorem dX9_init_9 : decode cX9_init 9 = .ok (.aload_n 0, 1) := dk_42 (dk_at dksX9_init_0 9 rfl rfl)
theorem dX9_init_10 : decode cX9_init 10 = .ok (.iload_n 2, 1) := dk_28 (dk_at dksX9_init_0 10 rfl rfl)
theorem dX9_init_11 : decode cX9_init 11 = .ok (.putfield 13, 3) := dk_181 0 13 (dk_at dksX9_init_0 11 rfl rfl)
theorem dX9_init_14 : decode cX9_init 14 = .ok (.aload_n 0, 1) := dk_42 (dk_at dksX9_init_0 14 rfl rfl)
theorem dX9_init_15 : decode cX9_init 15 = .ok (.iload_n 3, 1) := dk_29 (dk_at dksX9_init_0 15 rfl rfl)
theorem dX9_init_16 : decode cX9_init 16 = .ok (.putfield 17, 3) := dk_181 0 17 (dk_at dksX9_init_0 16 rfl rfl)
theorem dX9_init_19 : decode cX9_init 19 = .ok (.return_, 1) := dk_177 (dk_at dksX9_init_0 19 rfl rfl)
abbrev cX9_one : ByteArray := prog_8_method_6_code
def yX9_one : MethodName := ⟨RX9, "one", "()I"⟩
theorem dX9_one_0 : decode cX9_one 0 = .ok (.aload_n 0, 1) := by decide +kernel
theorem dX9_one_1 : decode cX9_one 1 = .ok (.getfield 13, 3) := by decide +kernel
theorem dX9_one_4 : decode cX9_one 4 = .ok (.ireturn, 1) := by decide +kernel
abbrev cX9_sign : ByteArray := prog_8_method_5_code
def yX9_sign : MethodName := ⟨RX9, "sign", "()Ljava/lang/String;"⟩
theorem dX9_sign_0 : decode cX9_sign 0 = .ok (.aload_n 0, 1) := by decide +kernel
theorem dX9_sign_1 : decode cX9_sign 1 = .ok (.getfield 7, 3) := by decide +kernel
theorem dX9_sign_4 : decode cX9_sign 4 = .ok (.areturn, 1) := by decide +kernel
abbrev cX9_two : ByteArray := prog_8_method_7_code
def yX9_two : MethodName := ⟨RX9, "two", "()I"⟩
theorem dX9_two_0 : decode cX9_two 0 = .ok (.aload_n 0, 1) := by decide +kernel
theorem dX9_two_1 : decode cX9_two 1 = .ok (.getfield 17, 3) := by decide +kernel
theorem dX9_two_4 : decode cX9_two 4 = .ok (.ireturn, 1) := by decide +kernel
theorem q98 : (Jvm.Cond.initialized "MaltDrums$Order") ∈ lw_all := lw_g (lw_at lw_m1 34 rfl) rfl
theorem q827 : (Jvm.Cond.instantiable "MaltDrums$Order" (3 : Nat)) ∈ lw_all := lw_g (lw_at lw_m4 43 rfl) rfl
theorem q879 : (Jvm.Cond.instanceMethod ({ cls := "MaltDrums$Order", name := "<init>", desc := "(Ljava/lang/String;II)V" } : Jvm.MethodName)) ∈ lw_all := lw_g (lw_at lw_m4 95 rfl) rfl
theorem q880 : (Jvm.Cond.code ({ cls := "MaltDrums$Order", name := "<init>", desc := "(Ljava/lang/String;II)V" } : Jvm.MethodName) prog_8_method_1_code (4 : Nat) (Option.none : Option Jvm.ClassFile.FieldType)) ∈ lw_all := lw_g (lw_at lw_m4 96 rfl) rfl
theorem q881 : (Jvm.Cond.methodLink "MaltDrums$Order" (1 : Nat) ({ cls := "java/lang/Record", name := "<init>", desc := "()V" } : Jvm.MethodName)) ∈ lw_all := lw_g (lw_at lw_m4 97 rfl) rfl
theorem q882 : (Jvm.Cond.fieldLink "MaltDrums$Order" (7 : Nat) "MaltDrums$Order" "sign" "Ljava/lang/String;") ∈ lw_all := lw_g (lw_at lw_m4 98 rfl) rfl
theorem q883 : (Jvm.Cond.fieldLink "MaltDrums$Order" (13 : Nat) "MaltDrums$Order" "one" "I") ∈ lw_all := lw_g (lw_at lw_m4 99 rfl) rfl
theorem q884 : (Jvm.Cond.fieldLink "MaltDrums$Order" (17 : Nat) "MaltDrums$Order" "two" "I") ∈ lw_all := lw_g (lw_at lw_m4 100 rfl) rfl
theorem q885 : (Jvm.Cond.laysFinal "MaltDrums$Order" "MaltDrums$Order" "sign" "Ljava/lang/String;") ∈ lw_all := lw_g (lw_at lw_m4 101 rfl) rfl
theorem q886 : (Jvm.Cond.soleField "MaltDrums$Order" "sign") ∈ lw_all := lw_g (lw_at lw_m4 102 rfl) rfl
theorem q887 : (Jvm.Cond.laysFinal "MaltDrums$Order" "MaltDrums$Order" "one" "I") ∈ lw_all := lw_g (lw_at lw_m4 103 rfl) rfl
theorem q888 : (Jvm.Cond.soleField "MaltDrums$Order" "one") ∈ lw_all := lw_g (lw_at lw_m4 104 rfl) rfl
theorem q889 : (Jvm.Cond.laysFinal "MaltDrums$Order" "MaltDrums$Order" "two" "I") ∈ lw_all := lw_g (lw_at lw_m4 105 rfl) rfl
theorem q890 : (Jvm.Cond.soleField "MaltDrums$Order" "two") ∈ lw_all := lw_g (lw_at lw_m4 106 rfl) rfl
theorem q891 : (Jvm.Cond.superclass "MaltDrums$Order" "java/lang/Record") ∈ lw_all := lw_g (lw_at lw_m4 107 rfl) rfl
theorem q935 : (Jvm.Cond.selects "MaltDrums$Order" ({ cls := "java/lang/Object", name := "getClass", desc := "()Ljava/lang/Class;" } : Jvm.MethodName) ({ cls := "java/lang/Object", name := "getClass", desc := "()Ljava/lang/Class;" } : Jvm.MethodName)) ∈ lw_all := lw_g (lw_at lw_m4 151 rfl) rfl
theorem q1534 : (Jvm.Cond.instanceMethod ({ cls := "MaltDrums$Order", name := "one", desc := "()I" } : Jvm.MethodName)) ∈ lw_all := lw_g (lw_at lw_m7 30 rfl) rfl
theorem q1535 : (Jvm.Cond.selects "MaltDrums$Order" ({ cls := "MaltDrums$Order", name := "one", desc := "()I" } : Jvm.MethodName) ({ cls := "MaltDrums$Order", name := "one", desc := "()I" } : Jvm.MethodName)) ∈ lw_all := lw_g (lw_at lw_m7 31 rfl) rfl
theorem q1536 : (Jvm.Cond.code ({ cls := "MaltDrums$Order", name := "one", desc := "()I" } : Jvm.MethodName) prog_8_method_6_code (1 : Nat) (Option.some Jvm.ClassFile.FieldType.int)) ∈ lw_all := lw_g (lw_at lw_m7 32 rfl) rfl
theorem q1538 : (Jvm.Cond.instanceMethod ({ cls := "MaltDrums$Order", name := "sign", desc := "()Ljava/lang/String;" } : Jvm.MethodName)) ∈ lw_all := lw_g (lw_at lw_m7 34 rfl) rfl
theorem q1539 : (Jvm.Cond.selects "MaltDrums$Order" ({ cls := "MaltDrums$Order", name := "sign", desc := "()Ljava/lang/String;" } : Jvm.MethodName) ({ cls := "MaltDrums$Order", name := "sign", desc := "()Ljava/lang/String;" } : Jvm.MethodName)) ∈ lw_all := lw_g (lw_at lw_m7 35 rfl) rfl
theorem q1540 : (Jvm.Cond.code ({ cls := "MaltDrums$Order", name := "sign", desc := "()Ljava/lang/String;" } : Jvm.MethodName) prog_8_method_5_code (1 : Nat) (Option.some (Jvm.ClassFile.FieldType.object "java/lang/String"))) ∈ lw_all := lw_g (lw_at lw_m7 36 rfl) rfl
theorem q1551 : (Jvm.Cond.instanceMethod ({ cls := "MaltDrums$Order", name := "two", desc := "()I" } : Jvm.MethodName)) ∈ lw_all := lw_g (lw_at lw_m7 47 rfl) rfl
theorem q1552 : (Jvm.Cond.selects "MaltDrums$Order" ({ cls := "MaltDrums$Order", name := "two", desc := "()I" } : Jvm.MethodName) ({ cls := "MaltDrums$Order", name := "two", desc := "()I" } : Jvm.MethodName)) ∈ lw_all := lw_g (lw_at lw_m7 48 rfl) rfl
theorem q1553 : (Jvm.Cond.code ({ cls := "MaltDrums$Order", name := "two", desc := "()I" } : Jvm.MethodName) prog_8_method_7_code (1 : Nat) (Option.some Jvm.ClassFile.FieldType.int)) ∈ lw_all := lw_g (lw_at lw_m7 49 rfl) rfl
theorem q2225 : (Jvm.Cond.castable "MaltDrums$Order" "java/lang/Object") ∈ lw_tbl := lw_at lw_m10 1 rfl
theorem in_X9 : ∀ w ∈ wsX90, w ∈ lw_all := lw_in wsX90 [885, 887, 889] (by decide +kernel) (by decide +kernel)
/-! MaltDrums$Misspelled -/
set_option maxRecDepth 100000
def RX10 : String := "MaltDrums$Misspelled"
def TX10 : u_T := fun k => match k with
  | 0 => ("java/lang/Throwable", "cause", "Ljava/lang/Throwable;", false)
  | 1 => ("java/lang/Throwable", "stackTrace", "[Ljava/lang/StackTraceElement;", false)
  | 2 => ("java/lang/Throwable", "suppressedExceptions", "Ljava/util/List;", false)
  | 3 => ("java/lang/Throwable", "detailMessage", "Ljava/lang/String;", false)
  | 4 => ("java/lang/Throwable", "backtrace", "Ljava/lang/Object;", false)
  | _ => ("java/lang/Throwable", "depth", "I", false)
def tyX10 : Nat → FieldType := fun k => match k with
  | 0 => .object "java/lang/Throwable"
  | 1 => .array (.object "java/lang/StackTraceElement")
  | 2 => .object "java/util/List"
  | 3 => .object "java/lang/String"
  | 4 => .object "java/lang/Object"
  | _ => .int
abbrev wsX100 : List Cond := u_ws RX10 TX10 6
theorem nmX10 : ∀ a, a < 6 → ∀ b, b < 6 → a ≠ b → (TX10 a).2.1 ≠ (TX10 b).2.1 := by decide +kernel
theorem tyX10_ok : ∀ k, k < 6 → parseFieldDescriptor (TX10 k).2.2.1 = some (tyX10 k) := by decide +kernel
abbrev cX10_init : ByteArray := prog_7_method_1_code
def yX10_init : MethodName := ⟨RX10, "<init>", "()V"⟩
def dkwX10_init_0 : List UInt8 := [42, 1, 1, 3, 3, 183, 0, 1, 177]
abbrev dktX10_init_0 : List UInt8 := dkwX10_init_0 ++ []
theorem dksX10_init_0 : cX10_init.data.toList.drop 0 = dktX10_init_0 := by decide +kernel
theorem dX10_init_0 : decode cX10_init 0 = .ok (.aload_n 0, 1) := dk_42 (dk_at dksX10_init_0 0 rfl rfl)
theorem dX10_init_1 : decode cX10_init 1 = .ok (.aconst_null, 1) := dk_1 (dk_at dksX10_init_0 1 rfl rfl)
theorem dX10_init_2 : decode cX10_init 2 = .ok (.aconst_null, 1) := dk_1 (dk_at dksX10_init_0 2 rfl rfl)
theorem dX10_init_3 : decode cX10_init 3 = .ok (.iconst 0, 1) := dk_3 (dk_at dksX10_init_0 3 rfl rfl)
theorem dX10_init_4 : decode cX10_init 4 = .ok (.iconst 0, 1) := dk_3 (dk_at dksX10_init_0 4 rfl rfl)
theorem dX10_init_5 : decode cX10_init 5 = .ok (.invokespecial 1, 3) := dk_183 0 1 (dk_at dksX10_init_0 5 rfl rfl)
theorem dX10_init_8 : decode cX10_init 8 = .ok (.return_, 1) := dk_177 (dk_at dksX10_init_0 8 rfl rfl)
theorem q99 : (Jvm.Cond.initialized "MaltDrums$Misspelled") ∈ lw_all := lw_g (lw_at lw_m1 35 rfl) rfl
theorem q546 : (Jvm.Cond.selects "MaltDrums$Misspelled" ({ cls := "java/lang/Throwable", name := "fillInStackTrace", desc := "()Ljava/lang/Throwable;" } : Jvm.MethodName) ({ cls := "java/lang/Throwable", name := "fillInStackTrace", desc := "()Ljava/lang/Throwable;" } : Jvm.MethodName)) ∈ lw_all := lw_g (lw_at lw_m3 2 rfl) rfl
theorem q859 : (Jvm.Cond.instantiable "MaltDrums$Misspelled" (6 : Nat)) ∈ lw_all := lw_g (lw_at lw_m4 75 rfl) rfl
theorem q860 : (Jvm.Cond.castable "MaltDrums$Misspelled" "MaltDrums$Misspelled") ∈ lw_tbl := lw_at lw_m4 76 rfl
theorem q861 : (Jvm.Cond.selects "MaltDrums$Misspelled" ({ cls := "java/lang/Throwable", name := "fillInStackTrace", desc := "(I)Ljava/lang/Throwable;" } : Jvm.MethodName) ({ cls := "java/lang/Throwable", name := "fillInStackTrace", desc := "(I)Ljava/lang/Throwable;" } : Jvm.MethodName)) ∈ lw_all := lw_g (lw_at lw_m4 77 rfl) rfl
theorem q862 : (Jvm.Cond.lays "MaltDrums$Misspelled" "java/lang/Throwable" "cause" "Ljava/lang/Throwable;") ∈ lw_all := lw_g (lw_at lw_m4 78 rfl) rfl
theorem q863 : (Jvm.Cond.lays "MaltDrums$Misspelled" "java/lang/Throwable" "stackTrace" "[Ljava/lang/StackTraceElement;") ∈ lw_all := lw_g (lw_at lw_m4 79 rfl) rfl
theorem q864 : (Jvm.Cond.lays "MaltDrums$Misspelled" "java/lang/Throwable" "suppressedExceptions" "Ljava/util/List;") ∈ lw_all := lw_g (lw_at lw_m4 80 rfl) rfl
theorem q865 : (Jvm.Cond.lays "MaltDrums$Misspelled" "java/lang/Throwable" "detailMessage" "Ljava/lang/String;") ∈ lw_all := lw_g (lw_at lw_m4 81 rfl) rfl
theorem q866 : (Jvm.Cond.lays "MaltDrums$Misspelled" "java/lang/Throwable" "backtrace" "Ljava/lang/Object;") ∈ lw_all := lw_g (lw_at lw_m4 82 rfl) rfl
theorem q868 : (Jvm.Cond.instanceMethod ({ cls := "MaltDrums$Misspelled", name := "<init>", desc := "()V" } : Jvm.MethodName)) ∈ lw_all := lw_g (lw_at lw_m4 84 rfl) rfl
theorem q869 : (Jvm.Cond.code ({ cls := "MaltDrums$Misspelled", name := "<init>", desc := "()V" } : Jvm.MethodName) prog_7_method_1_code (1 : Nat) (Option.none : Option Jvm.ClassFile.FieldType)) ∈ lw_all := lw_g (lw_at lw_m4 85 rfl) rfl
theorem q870 : (Jvm.Cond.methodLink "MaltDrums$Misspelled" (1 : Nat) ({ cls := "java/lang/Exception", name := "<init>", desc := "(Ljava/lang/String;Ljava/lang/Throwable;ZZ)V" } : Jvm.MethodName)) ∈ lw_all := lw_g (lw_at lw_m4 86 rfl) rfl
theorem q876 : (Jvm.Cond.lays "MaltDrums$Misspelled" "java/lang/Throwable" "depth" "I") ∈ lw_all := lw_g (lw_at lw_m4 92 rfl) rfl
theorem q877 : (Jvm.Cond.superclass "MaltDrums$Misspelled" "java/lang/Exception") ∈ lw_all := lw_g (lw_at lw_m4 93 rfl) rfl
theorem q934 : (Jvm.Cond.selects "MaltDrums$Misspelled" ({ cls := "java/lang/Object", name := "getClass", desc := "()Ljava/lang/Class;" } : Jvm.MethodName) ({ cls := "java/lang/Object", name := "getClass", desc := "()Ljava/lang/Class;" } : Jvm.MethodName)) ∈ lw_all := lw_g (lw_at lw_m4 150 rfl) rfl
theorem q2226 : (Jvm.Cond.castable "MaltDrums$Misspelled" "java/lang/Object") ∈ lw_tbl := lw_at lw_m10 2 rfl
theorem in_X10 : ∀ w ∈ wsX100, w ∈ lw_all := lw_in wsX100 [862, 863, 864, 865, 866, 876] (by decide +kernel) (by decide +kernel)
/-! MaltDrums$House -/
set_option maxRecDepth 100000
def RX2 : String := "MaltDrums$House"
def TX2 : u_T := fun k => match k with
  | 0 => ("MaltDrums$House", "kernels", "[I", true)
  | 1 => ("MaltDrums$House", "rootlets", "[I", true)
  | 2 => ("MaltDrums$House", "wets", "[I", true)
  | 3 => ("MaltDrums$House", "growths", "[I", true)
  | 4 => ("MaltDrums$House", "heats", "[I", true)
  | 5 => ("MaltDrums$House", "felts", "[I", true)
  | 6 => ("MaltDrums$House", "places", "[I", true)
  | 7 => ("MaltDrums$House", "drums", "[LMaltDrums$Drum;", true)
  | 8 => ("MaltDrums$House", "heap", "LMaltDrums$Bed;", true)
  | 9 => ("MaltDrums$House", "book", "LMaltDrums$Entry;", false)
  | 10 => ("MaltDrums$House", "glassy", "I", false)
  | 11 => ("MaltDrums$House", "lots", "I", false)
  | 12 => ("MaltDrums$House", "time", "I", false)
  | 13 => ("MaltDrums$House", "isLit", "Z", false)
  | 14 => ("MaltDrums$House", "litFor", "I", false)
  | 15 => ("MaltDrums$House", "low", "I", false)
  | 16 => ("MaltDrums$House", "high", "I", false)
  | 17 => ("MaltDrums$House", "daily", "I", false)
  | 18 => ("MaltDrums$House", "left", "I", false)
  | 19 => ("MaltDrums$House", "steeped", "I", false)
  | 20 => ("MaltDrums$House", "breathed", "I", false)
  | _ => ("MaltDrums$House", "sprays", "I", false)
def tyX2 : Nat → FieldType := fun k => match k with
  | 0 => .array .int
  | 1 => .array .int
  | 2 => .array .int
  | 3 => .array .int
  | 4 => .array .int
  | 5 => .array .int
  | 6 => .array .int
  | 7 => .array (.object "MaltDrums$Drum")
  | 8 => .object "MaltDrums$Bed"
  | 9 => .object "MaltDrums$Entry"
  | 10 => .int
  | 11 => .int
  | 12 => .int
  | 13 => .boolean
  | 14 => .int
  | 15 => .int
  | 16 => .int
  | 17 => .int
  | 18 => .int
  | 19 => .int
  | 20 => .int
  | _ => .int
abbrev wsX20 : List Cond := u_ws RX2 TX2 22
set_option maxRecDepth 100000 in
theorem nmX2 : ∀ a, a < 22 → ∀ b, b < 22 → a ≠ b → (TX2 a).2.1 ≠ (TX2 b).2.1 := by decide +kernel
set_option maxRecDepth 100000 in
theorem tyX2_ok : ∀ k, k < 22 → parseFieldDescriptor (TX2 k).2.2.1 = some (tyX2 k) := by decide +kernel
abbrev cX2_init : ByteArray := prog_6_method_1_code
def yX2_init : MethodName := ⟨RX2, "<init>", "()V"⟩
def dkwX2_init_5 : List UInt8 := [132, 1, 1, 167, 255, 235, 177]
abbrev dktX2_init_5 : List UInt8 := dkwX2_init_5 ++ []
def dkwX2_init_4 : List UInt8 := [7, 181, 0, 58, 3, 60, 27, 7, 162, 0, 22, 42, 180, 0, 35, 27, 187, 0, 33, 89, 183, 0, 61, 83]
abbrev dktX2_init_4 : List UInt8 := dkwX2_init_4 ++ dktX2_init_5
def dkwX2_init_3 : List UInt8 := [184, 0, 39, 181, 0, 45, 42, 16, 50, 181, 0, 48, 42, 16, 80, 181, 0, 52, 42, 7, 181, 0, 55, 42]
abbrev dktX2_init_3 : List UInt8 := dkwX2_init_3 ++ dktX2_init_4
def dkwX2_init_2 : List UInt8 := [188, 10, 181, 0, 27, 42, 16, 12, 188, 10, 181, 0, 30, 42, 7, 189, 0, 33, 181, 0, 35, 42]
abbrev dktX2_init_2 : List UInt8 := dkwX2_init_2 ++ dktX2_init_3
def dkwX2_init_1 : List UInt8 := [188, 10, 181, 0, 18, 42, 16, 12, 188, 10, 181, 0, 21, 42, 16, 12, 188, 10, 181, 0, 24, 42, 16, 12]
abbrev dktX2_init_1 : List UInt8 := dkwX2_init_1 ++ dktX2_init_2
def dkwX2_init_0 : List UInt8 := [42, 183, 0, 3, 42, 16, 12, 188, 10, 181, 0, 9, 42, 16, 12, 188, 10, 181, 0, 15, 42, 16, 12]
abbrev dktX2_init_0 : List UInt8 := dkwX2_init_0 ++ dktX2_init_1
theorem dksX2_init_0 : cX2_init.data.toList.drop 0 = dktX2_init_0 := by decide +kernel
theorem dksX2_init_1 : cX2_init.data.toList.drop 23 = dktX2_init_1 := dk_seg dksX2_init_0 23 rfl rfl
theorem dksX2_init_2 : cX2_init.data.toList.drop 47 = dktX2_init_2 := dk_seg dksX2_init_1 24 rfl rfl
theorem dksX2_init_3 : cX2_init.data.toList.drop 69 = dktX2_init_3 := dk_seg dksX2_init_2 22 rfl rfl
theorem dksX2_init_4 : cX2_init.data.toList.drop 93 = dktX2_init_4 := dk_seg dksX2_init_3 24 rfl rfl
theorem dksX2_init_5 : cX2_init.data.toList.drop 117 = dktX2_init_5 := dk_seg dksX2_init_4 24 rfl rfl
theorem dX2_init_0 : decode cX2_init 0 = .ok (.aload_n 0, 1) := dk_42 (dk_at dksX2_init_0 0 rfl rfl)
theorem dX2_init_1 : decode cX2_init 1 = .ok (.invokespecial 3, 3) := dk_183 0 3 (dk_at dksX2_init_0 1 rfl rfl)
theorem dX2_init_4 : decode cX2_init 4 = .ok (.aload_n 0, 1) := dk_42 (dk_at dksX2_init_0 4 rfl rfl)
theorem dX2_init_5 : decode cX2_init 5 = .ok (.bipush 12, 2) := dk_16 12 (dk_at dksX2_init_0 5 rfl rfl)
theorem dX2_init_7 : decode cX2_init 7 = .ok (.newarray .int, 2) := dk_188_10 (dk_at dksX2_init_0 7 rfl rfl)
theorem dX2_init_9 : decode cX2_init 9 = .ok (.putfield 9, 3) := dk_181 0 9 (dk_at dksX2_init_0 9 rfl rfl)
theorem dX2_init_12 : decode cX2_init 12 = .ok (.aload_n 0, 1) := dk_42 (dk_at dksX2_init_0 12 rfl rfl)
theorem dX2_init_13 : decode cX2_init 13 = .ok (.bipush 12, 2) := dk_16 12 (dk_at dksX2_init_0 13 rfl rfl)
theorem dX2_init_15 : decode cX2_init 15 = .ok (.newarray .int, 2) := dk_188_10 (dk_at dksX2_init_0 15 rfl rfl)
theorem dX2_init_17 : decode cX2_init 17 = .ok (.putfield 15, 3) := dk_181 0 15 (dk_at dksX2_init_0 17 rfl rfl)
theorem dX2_init_20 : decode cX2_init 20 = .ok (.aload_n 0, 1) := dk_42 (dk_at dksX2_init_0 20 rfl rfl)
theorem dX2_init_21 : decode cX2_init 21 = .ok (.bipush 12, 2) := dk_16 12 (dk_at dksX2_init_0 21 rfl rfl)
theorem dX2_init_23 : decode cX2_init 23 = .ok (.newarray .int, 2) := dk_188_10 (dk_at dksX2_init_1 0 rfl rfl)
theorem dX2_init_25 : decode cX2_init 25 = .ok (.putfield 18, 3) := dk_181 0 18 (dk_at dksX2_init_1 2 rfl rfl)
theorem dX2_init_28 : decode cX2_init 28 = .ok (.aload_n 0, 1) := dk_42 (dk_at dksX2_init_1 5 rfl rfl)
theorem dX2_init_29 : decode cX2_init 29 = .ok (.bipush 12, 2) := dk_16 12 (dk_at dksX2_init_1 6 rfl rfl)
theorem dX2_init_31 : decode cX2_init 31 = .ok (.newarray .int, 2) := dk_188_10 (dk_at dksX2_init_1 8 rfl rfl)
theorem dX2_init_33 : decode cX2_init 33 = .ok (.putfield 21, 3) := dk_181 0 21 (dk_at dksX2_init_1 10 rfl rfl)
theorem dX2_init_36 : decode cX2_init 36 = .ok (.aload_n 0, 1) := dk_42 (dk_at dksX2_init_1 13 rfl rfl)
theorem dX2_init_37 : decode cX2_init 37 = .ok (.bipush 12, 2) := dk_16 12 (dk_at dksX2_init_1 14 rfl rfl)
theorem dX2_init_39 : decode cX2_init 39 = .ok (.newarray .int, 2) := dk_188_10 (dk_at dksX2_init_1 16 rfl rfl)
theorem dX2_init_41 : decode cX2_init 41 = .ok (.putfield 24, 3) := dk_181 0 24 (dk_at dksX2_init_1 18 rfl rfl)
theorem dX2_init_44 : decode cX2_init 44 = .ok (.aload_n 0, 1) := dk_42 (dk_at dksX2_init_1 21 rfl rfl)
theorem dX2_init_45 : decode cX2_init 45 = .ok (.bipush 12, 2) := dk_16 12 (dk_at dksX2_init_1 22 rfl rfl)
theorem dX2_init_47 : decode cX2_init 47 = .ok (.newarray .int, 2) := dk_188_10 (dk_at dksX2_init_2 0 rfl rfl)
theorem dX2_init_49 : decode cX2_init 49 = .ok (.putfield 27, 3) := dk_181 0 27 (dk_at dksX2_init_2 2 rfl rfl)
theorem dX2_init_52 : decode cX2_init 52 = .ok (.aload_n 0, 1) := dk_42 (dk_at dksX2_init_2 5 rfl rfl)
theorem dX2_init_53 : decode cX2_init 53 = .ok (.bipush 12, 2) := dk_16 12 (dk_at dksX2_init_2 6 rfl rfl)
theorem dX2_init_55 : decode cX2_init 55 = .ok (.newarray .int, 2) := dk_188_10 (dk_at dksX2_init_2 8 rfl rfl)
theorem dX2_init_57 : decode cX2_init 57 = .ok (.putfield 30, 3) := dk_181 0 30 (dk_at dksX2_init_2 10 rfl rfl)
theorem dX2_init_60 : decode cX2_init 60 = .ok (.aload_n 0, 1) := dk_42 (dk_at dksX2_init_2 13 rfl rfl)
theorem dX2_init_61 : decode cX2_init 61 = .ok (.iconst 4, 1) := dk_7 (dk_at dksX2_init_2 14 rfl rfl)
theorem dX2_init_62 : decode cX2_init 62 = .ok (.anewarray 33, 3) := dk_189 0 33 (dk_at dksX2_init_2 15 rfl rfl)
theorem dX2_init_65 : decode cX2_init 65 = .ok (.putfield 35, 3) := dk_181 0 35 (dk_at dksX2_init_2 18 rfl rfl)
theorem dX2_init_68 : decode cX2_init 68 = .ok (.aload_n 0, 1) := dk_42 (dk_at dksX2_init_2 21 rfl rfl)
theorem dX2_init_69 : decode cX2_init 69 = .ok (.invokestatic 39, 3) := dk_184 0 39 (dk_at dksX2_init_3 0 rfl rfl)
theorem dX2_init_72 : decode cX2_init 72 = .ok (.putfield 45, 3) := dk_181 0 45 (dk_at dksX2_init_3 3 rfl rfl)
theorem dX2_init_75 : decode cX2_init 75 = .ok (.aload_n 0, 1) := dk_42 (dk_at dksX2_init_3 6 rfl rfl)
theorem dX2_init_76 : decode cX2_init 76 = .ok (.bipush 50, 2) := dk_16 50 (dk_at dksX2_init_3 7 rfl rfl)
theorem dX2_init_78 : decode cX2_init 78 = .ok (.putfield 48, 3) := dk_181 0 48 (dk_at dksX2_init_3 9 rfl rfl)
theorem dX2_init_81 : decode cX2_init 81 = .ok (.aload_n 0, 1) := dk_42 (dk_at dksX2_init_3 12 rfl rfl)
theorem dX2_init_82 : decode cX2_init 82 = .ok (.bipush 80, 2) := dk_16 80 (dk_at dksX2_init_3 13 rfl rfl)
theorem dX2_init_84 : decode cX2_init 84 = .ok (.putfield 52, 3) := dk_181 0 52 (dk_at dksX2_init_3 15 rfl rfl)
theorem dX2_init_87 : decode cX2_init 87 = .ok (.aload_n 0, 1) := dk_42 (dk_at dksX2_init_3 18 rfl rfl)
theorem dX2_init_88 : decode cX2_init 88 = .ok (.iconst 4, 1) := dk_7 (dk_at dksX2_init_3 19 rfl rfl)
theorem dX2_init_89 : decode cX2_init 89 = .ok (.putfield 55, 3) := dk_181 0 55 (dk_at dksX2_init_3 20 rfl rfl)
theorem dX2_init_92 : decode cX2_init 92 = .ok (.aload_n 0, 1) := dk_42 (dk_at dksX2_init_3 23 rfl rfl)
theorem dX2_init_93 : decode cX2_init 93 = .ok (.iconst 4, 1) := dk_7 (dk_at dksX2_init_4 0 rfl rfl)
theorem dX2_init_94 : decode cX2_init 94 = .ok (.putfield 58, 3) := dk_181 0 58 (dk_at dksX2_init_4 1 rfl rfl)
theorem dX2_init_97 : decode cX2_init 97 = .ok (.iconst 0, 1) := dk_3 (dk_at dksX2_init_4 4 rfl rfl)
theorem dX2_init_98 : decode cX2_init 98 = .ok (.istore_n 1, 1) := dk_60 (dk_at dksX2_init_4 5 rfl rfl)
theorem dX2_init_99 : decode cX2_init 99 = .ok (.iload_n 1, 1) := dk_27 (dk_at dksX2_init_4 6 rfl rfl)
theorem dX2_init_100 : decode cX2_init 100 = .ok (.iconst 4, 1) := dk_7 (dk_at dksX2_init_4 7 rfl rfl)
theorem dX2_init_101 : decode cX2_init 101 = .ok (.if_icmp .ge 22, 3) := dk_162 0 22 (dk_at dksX2_init_4 8 rfl rfl)
theorem dX2_init_104 : decode cX2_init 104 = .ok (.aload_n 0, 1) := dk_42 (dk_at dksX2_init_4 11 rfl rfl)
theorem dX2_init_105 : decode cX2_init 105 = .ok (.getfield 35, 3) := dk_180 0 35 (dk_at dksX2_init_4 12 rfl rfl)
theorem dX2_init_108 : decode cX2_init 108 = .ok (.iload_n 1, 1) := dk_27 (dk_at dksX2_init_4 15 rfl rfl)
theorem dX2_init_109 : decode cX2_init 109 = .ok (.new 33, 3) := dk_187 0 33 (dk_at dksX2_init_4 16 rfl rfl)
theorem dX2_init_112 : decode cX2_init 112 = .ok (.dup, 1) := dk_89 (dk_at dksX2_init_4 19 rfl rfl)
theorem dX2_init_113 : decode cX2_init 113 = .ok (.invokespecial 61, 3) := dk_183 0 61 (dk_at dksX2_init_4 20 rfl rfl)
theorem dX2_init_116 : decode cX2_init 116 = .ok (.aastore, 1) := dk_83 (dk_at dksX2_init_4 23 rfl rfl)
theorem dX2_init_117 : decode cX2_init 117 = .ok (.iinc 1 1, 3) := dk_132 1 1 (dk_at dksX2_init_5 0 rfl rfl)
theorem dX2_init_120 : decode cX2_init 120 = .ok (.goto (-21), 3) := dk_167 255 235 (dk_at dksX2_init_5 3 rfl rfl)
theorem dX2_init_123 : decode cX2_init 123 = .ok (.return_, 1) := dk_177 (dk_at dksX2_init_5 6 rfl rfl)
abbrev cX2_init_2 : ByteArray := prog_6_method_2_code
def yX2_init_2 : MethodName := ⟨RX2, "<init>", "(LMaltDrums$House;)V"⟩
def dkwX2_init_2_14 : List UInt8 := [177]
abbrev dktX2_init_2_14 : List UInt8 := dkwX2_init_2_14 ++ []
def dkwX2_init_2_13 : List UInt8 := [42, 43, 180, 0, 85, 181, 0, 85, 42, 43, 180, 0, 88, 181, 0, 88, 42, 43, 180, 0, 91, 181, 0, 91]
abbrev dktX2_init_2_13 : List UInt8 := dkwX2_init_2_13 ++ dktX2_init_2_14
def dkwX2_init_2_12 : List UInt8 := [42, 43, 180, 0, 52, 181, 0, 52, 42, 43, 180, 0, 55, 181, 0, 55, 42, 43, 180, 0, 58, 181, 0, 58]
abbrev dktX2_init_2_12 : List UInt8 := dkwX2_init_2_12 ++ dktX2_init_2_13
def dkwX2_init_2_11 : List UInt8 := [42, 43, 180, 0, 78, 181, 0, 78, 42, 43, 180, 0, 82, 181, 0, 82, 42, 43, 180, 0, 48, 181, 0, 48]
abbrev dktX2_init_2_11 : List UInt8 := dkwX2_init_2_11 ++ dktX2_init_2_12
def dkwX2_init_2_10 : List UInt8 := [42, 43, 180, 0, 72, 181, 0, 72, 42, 43, 180, 0, 62, 181, 0, 62, 42, 43, 180, 0, 75, 181, 0, 75]
abbrev dktX2_init_2_10 : List UInt8 := dkwX2_init_2_10 ++ dktX2_init_2_11
def dkwX2_init_2_9 : List UInt8 := [43, 180, 0, 35, 28, 50, 183, 0, 65, 83, 132, 2, 1, 167, 255, 229, 42, 43, 180, 0, 68, 181, 0, 68]
abbrev dktX2_init_2_9 : List UInt8 := dkwX2_init_2_9 ++ dktX2_init_2_10
def dkwX2_init_2_8 : List UInt8 := [46, 79, 132, 2, 1, 167, 255, 161, 3, 61, 28, 7, 162, 0, 28, 42, 180, 0, 35, 28, 187, 0, 33, 89]
abbrev dktX2_init_2_8 : List UInt8 := dkwX2_init_2_8 ++ dktX2_init_2_9
def dkwX2_init_2_7 : List UInt8 := [46, 79, 42, 180, 0, 27, 28, 43, 180, 0, 27, 28, 46, 79, 42, 180, 0, 30, 28, 43, 180, 0, 30, 28]
abbrev dktX2_init_2_7 : List UInt8 := dkwX2_init_2_7 ++ dktX2_init_2_8
def dkwX2_init_2_6 : List UInt8 := [46, 79, 42, 180, 0, 21, 28, 43, 180, 0, 21, 28, 46, 79, 42, 180, 0, 24, 28, 43, 180, 0, 24, 28]
abbrev dktX2_init_2_6 : List UInt8 := dkwX2_init_2_6 ++ dktX2_init_2_7
def dkwX2_init_2_5 : List UInt8 := [46, 79, 42, 180, 0, 15, 28, 43, 180, 0, 15, 28, 46, 79, 42, 180, 0, 18, 28, 43, 180, 0, 18, 28]
abbrev dktX2_init_2_5 : List UInt8 := dkwX2_init_2_5 ++ dktX2_init_2_6
def dkwX2_init_2_4 : List UInt8 := [7, 181, 0, 58, 3, 61, 28, 43, 180, 0, 62, 162, 0, 93, 42, 180, 0, 9, 28, 43, 180, 0, 9, 28]
abbrev dktX2_init_2_4 : List UInt8 := dkwX2_init_2_4 ++ dktX2_init_2_5
def dkwX2_init_2_3 : List UInt8 := [184, 0, 39, 181, 0, 45, 42, 16, 50, 181, 0, 48, 42, 16, 80, 181, 0, 52, 42, 7, 181, 0, 55, 42]
abbrev dktX2_init_2_3 : List UInt8 := dkwX2_init_2_3 ++ dktX2_init_2_4
def dkwX2_init_2_2 : List UInt8 := [188, 10, 181, 0, 27, 42, 16, 12, 188, 10, 181, 0, 30, 42, 7, 189, 0, 33, 181, 0, 35, 42]
abbrev dktX2_init_2_2 : List UInt8 := dkwX2_init_2_2 ++ dktX2_init_2_3
def dkwX2_init_2_1 : List UInt8 := [188, 10, 181, 0, 18, 42, 16, 12, 188, 10, 181, 0, 21, 42, 16, 12, 188, 10, 181, 0, 24, 42, 16, 12]
abbrev dktX2_init_2_1 : List UInt8 := dkwX2_init_2_1 ++ dktX2_init_2_2
def dkwX2_init_2_0 : List UInt8 := [42, 183, 0, 3, 42, 16, 12, 188, 10, 181, 0, 9, 42, 16, 12, 188, 10, 181, 0, 15, 42, 16, 12]
abbrev dktX2_init_2_0 : List UInt8 := dkwX2_init_2_0 ++ dktX2_init_2_1
theorem dksX2_init_2_0 : cX2_init_2.data.toList.drop 0 = dktX2_init_2_0 := by decide +kernel
theorem dksX2_init_2_1 : cX2_init_2.data.toList.drop 23 = dktX2_init_2_1 := dk_seg dksX2_init_2_0 23 rfl rfl
theorem dksX2_init_2_2 : cX2_init_2.data.toList.drop 47 = dktX2_init_2_2 := dk_seg dksX2_init_2_1 24 rfl rfl
theorem dksX2_init_2_3 : cX2_init_2.data.toList.drop 69 = dktX2_init_2_3 := dk_seg dksX2_init_2_2 22 rfl rfl
theorem dksX2_init_2_4 : cX2_init_2.data.toList.drop 93 = dktX2_init_2_4 := dk_seg dksX2_init_2_3 24 rfl rfl
theorem dksX2_init_2_5 : cX2_init_2.data.toList.drop 117 = dktX2_init_2_5 := dk_seg dksX2_init_2_4 24 rfl rfl
theorem dksX2_init_2_6 : cX2_init_2.data.toList.drop 141 = dktX2_init_2_6 := dk_seg dksX2_init_2_5 24 rfl rfl
theorem dksX2_init_2_7 : cX2_init_2.data.toList.drop 165 = dktX2_init_2_7 := dk_seg dksX2_init_2_6 24 rfl rfl
theorem dksX2_init_2_8 : cX2_init_2.data.toList.drop 189 = dktX2_init_2_8 := dk_seg dksX2_init_2_7 24 rfl rfl
theorem dksX2_init_2_9 : cX2_init_2.data.toList.drop 213 = dktX2_init_2_9 := dk_seg dksX2_init_2_8 24 rfl rfl
theorem dksX2_init_2_10 : cX2_init_2.data.toList.drop 237 = dktX2_init_2_10 := dk_seg dksX2_init_2_9 24 rfl rfl
theorem dksX2_init_2_11 : cX2_init_2.data.toList.drop 261 = dktX2_init_2_11 := dk_seg dksX2_init_2_10 24 rfl rfl
theorem dksX2_init_2_12 : cX2_init_2.data.toList.drop 285 = dktX2_init_2_12 := dk_seg dksX2_init_2_11 24 rfl rfl
theorem dksX2_init_2_13 : cX2_init_2.data.toList.drop 309 = dktX2_init_2_13 := dk_seg dksX2_init_2_12 24 rfl rfl
theorem dksX2_init_2_14 : cX2_init_2.data.toList.drop 333 = dktX2_init_2_14 := dk_seg dksX2_init_2_13 24 rfl rfl
theorem dX2_init_2_0 : decode cX2_init_2 0 = .ok (.aload_n 0, 1) := dk_42 (dk_at dksX2_init_2_0 0 rfl rfl)
theorem dX2_init_2_1 : decode cX2_init_2 1 = .ok (.invokespecial 3, 3) := dk_183 0 3 (dk_at dksX2_init_2_0 1 rfl rfl)
theorem dX2_init_2_4 : decode cX2_init_2 4 = .ok (.aload_n 0, 1) := dk_42 (dk_at dksX2_init_2_0 4 rfl rfl)
theorem dX2_init_2_5 : decode cX2_init_2 5 = .ok (.bipush 12, 2) := dk_16 12 (dk_at dksX2_init_2_0 5 rfl rfl)
theorem dX2_init_2_7 : decode cX2_init_2 7 = .ok (.newarray .int, 2) := dk_188_10 (dk_at dksX2_init_2_0 7 rfl rfl)
theorem dX2_init_2_9 : decode cX2_init_2 9 = .ok (.putfield 9, 3) := dk_181 0 9 (dk_at dksX2_init_2_0 9 rfl rfl)
theorem dX2_init_2_12 : decode cX2_init_2 12 = .ok (.aload_n 0, 1) := dk_42 (dk_at dksX2_init_2_0 12 rfl rfl)
theorem dX2_init_2_13 : decode cX2_init_2 13 = .ok (.bipush 12, 2) := dk_16 12 (dk_at dksX2_init_2_0 13 rfl rfl)
theorem dX2_init_2_15 : decode cX2_init_2 15 = .ok (.newarray .int, 2) := dk_188_10 (dk_at dksX2_init_2_0 15 rfl rfl)
theorem dX2_init_2_17 : decode cX2_init_2 17 = .ok (.putfield 15, 3) := dk_181 0 15 (dk_at dksX2_init_2_0 17 rfl rfl)
theorem dX2_init_2_20 : decode cX2_init_2 20 = .ok (.aload_n 0, 1) := dk_42 (dk_at dksX2_init_2_0 20 rfl rfl)
theorem dX2_init_2_21 : decode cX2_init_2 21 = .ok (.bipush 12, 2) := dk_16 12 (dk_at dksX2_init_2_0 21 rfl rfl)
theorem dX2_init_2_23 : decode cX2_init_2 23 = .ok (.newarray .int, 2) := dk_188_10 (dk_at dksX2_init_2_1 0 rfl rfl)
theorem dX2_init_2_25 : decode cX2_init_2 25 = .ok (.putfield 18, 3) := dk_181 0 18 (dk_at dksX2_init_2_1 2 rfl rfl)
theorem dX2_init_2_28 : decode cX2_init_2 28 = .ok (.aload_n 0, 1) := dk_42 (dk_at dksX2_init_2_1 5 rfl rfl)
theorem dX2_init_2_29 : decode cX2_init_2 29 = .ok (.bipush 12, 2) := dk_16 12 (dk_at dksX2_init_2_1 6 rfl rfl)
theorem dX2_init_2_31 : decode cX2_init_2 31 = .ok (.newarray .int, 2) := dk_188_10 (dk_at dksX2_init_2_1 8 rfl rfl)
theorem dX2_init_2_33 : decode cX2_init_2 33 = .ok (.putfield 21, 3) := dk_181 0 21 (dk_at dksX2_init_2_1 10 rfl rfl)
theorem dX2_init_2_36 : decode cX2_init_2 36 = .ok (.aload_n 0, 1) := dk_42 (dk_at dksX2_init_2_1 13 rfl rfl)
theorem dX2_init_2_37 : decode cX2_init_2 37 = .ok (.bipush 12, 2) := dk_16 12 (dk_at dksX2_init_2_1 14 rfl rfl)
theorem dX2_init_2_39 : decode cX2_init_2 39 = .ok (.newarray .int, 2) := dk_188_10 (dk_at dksX2_init_2_1 16 rfl rfl)
theorem dX2_init_2_41 : decode cX2_init_2 41 = .ok (.putfield 24, 3) := dk_181 0 24 (dk_at dksX2_init_2_1 18 rfl rfl)
theorem dX2_init_2_44 : decode cX2_init_2 44 = .ok (.aload_n 0, 1) := dk_42 (dk_at dksX2_init_2_1 21 rfl rfl)
theorem dX2_init_2_45 : decode cX2_init_2 45 = .ok (.bipush 12, 2) := dk_16 12 (dk_at dksX2_init_2_1 22 rfl rfl)
theorem dX2_init_2_47 : decode cX2_init_2 47 = .ok (.newarray .int, 2) := dk_188_10 (dk_at dksX2_init_2_2 0 rfl rfl)
theorem dX2_init_2_49 : decode cX2_init_2 49 = .ok (.putfield 27, 3) := dk_181 0 27 (dk_at dksX2_init_2_2 2 rfl rfl)
theorem dX2_init_2_52 : decode cX2_init_2 52 = .ok (.aload_n 0, 1) := dk_42 (dk_at dksX2_init_2_2 5 rfl rfl)
theorem dX2_init_2_53 : decode cX2_init_2 53 = .ok (.bipush 12, 2) := dk_16 12 (dk_at dksX2_init_2_2 6 rfl rfl)
theorem dX2_init_2_55 : decode cX2_init_2 55 = .ok (.newarray .int, 2) := dk_188_10 (dk_at dksX2_init_2_2 8 rfl rfl)
theorem dX2_init_2_57 : decode cX2_init_2 57 = .ok (.putfield 30, 3) := dk_181 0 30 (dk_at dksX2_init_2_2 10 rfl rfl)
theorem dX2_init_2_60 : decode cX2_init_2 60 = .ok (.aload_n 0, 1) := dk_42 (dk_at dksX2_init_2_2 13 rfl rfl)
theorem dX2_init_2_61 : decode cX2_init_2 61 = .ok (.iconst 4, 1) := dk_7 (dk_at dksX2_init_2_2 14 rfl rfl)
theorem dX2_init_2_62 : decode cX2_init_2 62 = .ok (.anewarray 33, 3) := dk_189 0 33 (dk_at dksX2_init_2_2 15 rfl rfl)
theorem dX2_init_2_65 : decode cX2_init_2 65 = .ok (.putfield 35, 3) := dk_181 0 35 (dk_at dksX2_init_2_2 18 rfl rfl)
theorem dX2_init_2_68 : decode cX2_init_2 68 = .ok (.aload_n 0, 1) := dk_42 (dk_at dksX2_init_2_2 21 rfl rfl)
theorem dX2_init_2_69 : decode cX2_init_2 69 = .ok (.invokestatic 39, 3) := dk_184 0 39 (dk_at dksX2_init_2_3 0 rfl rfl)
theorem dX2_init_2_72 : decode cX2_init_2 72 = .ok (.putfield 45, 3) := dk_181 0 45 (dk_at dksX2_init_2_3 3 rfl rfl)
theorem dX2_init_2_75 : decode cX2_init_2 75 = .ok (.aload_n 0, 1) := dk_42 (dk_at dksX2_init_2_3 6 rfl rfl)
theorem dX2_init_2_76 : decode cX2_init_2 76 = .ok (.bipush 50, 2) := dk_16 50 (dk_at dksX2_init_2_3 7 rfl rfl)
theorem dX2_init_2_78 : decode cX2_init_2 78 = .ok (.putfield 48, 3) := dk_181 0 48 (dk_at dksX2_init_2_3 9 rfl rfl)
theorem dX2_init_2_81 : decode cX2_init_2 81 = .ok (.aload_n 0, 1) := dk_42 (dk_at dksX2_init_2_3 12 rfl rfl)
theorem dX2_init_2_82 : decode cX2_init_2 82 = .ok (.bipush 80, 2) := dk_16 80 (dk_at dksX2_init_2_3 13 rfl rfl)
theorem dX2_init_2_84 : decode cX2_init_2 84 = .ok (.putfield 52, 3) := dk_181 0 52 (dk_at dksX2_init_2_3 15 rfl rfl)
theorem dX2_init_2_87 : decode cX2_init_2 87 = .ok (.aload_n 0, 1) := dk_42 (dk_at dksX2_init_2_3 18 rfl rfl)
theorem dX2_init_2_88 : decode cX2_init_2 88 = .ok (.iconst 4, 1) := dk_7 (dk_at dksX2_init_2_3 19 rfl rfl)
theorem dX2_init_2_89 : decode cX2_init_2 89 = .ok (.putfield 55, 3) := dk_181 0 55 (dk_at dksX2_init_2_3 20 rfl rfl)
theorem dX2_init_2_92 : decode cX2_init_2 92 = .ok (.aload_n 0, 1) := dk_42 (dk_at dksX2_init_2_3 23 rfl rfl)
theorem dX2_init_2_93 : decode cX2_init_2 93 = .ok (.iconst 4, 1) := dk_7 (dk_at dksX2_init_2_4 0 rfl rfl)
theorem dX2_init_2_94 : decode cX2_init_2 94 = .ok (.putfield 58, 3) := dk_181 0 58 (dk_at dksX2_init_2_4 1 rfl rfl)
theorem dX2_init_2_97 : decode cX2_init_2 97 = .ok (.iconst 0, 1) := dk_3 (dk_at dksX2_init_2_4 4 rfl rfl)
theorem dX2_init_2_98 : decode cX2_init_2 98 = .ok (.istore_n 2, 1) := dk_61 (dk_at dksX2_init_2_4 5 rfl rfl)
theorem dX2_init_2_99 : decode cX2_init_2 99 = .ok (.iload_n 2, 1) := dk_28 (dk_at dksX2_init_2_4 6 rfl rfl)
theorem dX2_init_2_100 : decode cX2_init_2 100 = .ok (.aload_n 1, 1) := dk_43 (dk_at dksX2_init_2_4 7 rfl rfl)
theorem dX2_init_2_101 : decode cX2_init_2 101 = .ok (.getfield 62, 3) := dk_180 0 62 (dk_at dksX2_init_2_4 8 rfl rfl)
theorem dX2_init_2_104 : decode cX2_init_2 104 = .ok (.if_icmp .ge 93, 3) := dk_162 0 93 (dk_at dksX2_init_2_4 11 rfl rfl)
theorem dX2_init_2_107 : decode cX2_init_2 107 = .ok (.aload_n 0, 1) := dk_42 (dk_at dksX2_init_2_4 14 rfl rfl)
theorem dX2_init_2_108 : decode cX2_init_2 108 = .ok (.getfield 9, 3) := dk_180 0 9 (dk_at dksX2_init_2_4 15 rfl rfl)
theorem dX2_init_2_111 : decode cX2_init_2 111 = .ok (.iload_n 2, 1) := dk_28 (dk_at dksX2_init_2_4 18 rfl rfl)
theorem dX2_init_2_112 : decode cX2_init_2 112 = .ok (.aload_n 1, 1) := dk_43 (dk_at dksX2_init_2_4 19 rfl rfl)
theorem dX2_init_2_113 : decode cX2_init_2 113 = .ok (.getfield 9, 3) := dk_180 0 9 (dk_at dksX2_init_2_4 20 rfl rfl)
theorem dX2_init_2_116 : decode cX2_init_2 116 = .ok (.iload_n 2, 1) := dk_28 (dk_at dksX2_init_2_4 23 rfl rfl)
theorem dX2_init_2_117 : decode cX2_init_2 117 = .ok (.iaload, 1) := dk_46 (dk_at dksX2_init_2_5 0 rfl rfl)
theorem dX2_init_2_118 : decode cX2_init_2 118 = .ok (.iastore, 1) := dk_79 (dk_at dksX2_init_2_5 1 rfl rfl)
theorem dX2_init_2_119 : decode cX2_init_2 119 = .ok (.aload_n 0, 1) := dk_42 (dk_at dksX2_init_2_5 2 rfl rfl)
theorem dX2_init_2_120 : decode cX2_init_2 120 = .ok (.getfield 15, 3) := dk_180 0 15 (dk_at dksX2_init_2_5 3 rfl rfl)
theorem dX2_init_2_123 : decode cX2_init_2 123 = .ok (.iload_n 2, 1) := dk_28 (dk_at dksX2_init_2_5 6 rfl rfl)
theorem dX2_init_2_124 : decode cX2_init_2 124 = .ok (.aload_n 1, 1) := dk_43 (dk_at dksX2_init_2_5 7 rfl rfl)
theorem dX2_init_2_125 : decode cX2_init_2 125 = .ok (.getfield 15, 3) := dk_180 0 15 (dk_at dksX2_init_2_5 8 rfl rfl)
theorem dX2_init_2_128 : decode cX2_init_2 128 = .ok (.iload_n 2, 1) := dk_28 (dk_at dksX2_init_2_5 11 rfl rfl)
theorem dX2_init_2_129 : decode cX2_init_2 129 = .ok (.iaload, 1) := dk_46 (dk_at dksX2_init_2_5 12 rfl rfl)
theorem dX2_init_2_130 : decode cX2_init_2 130 = .ok (.iastore, 1) := dk_79 (dk_at dksX2_init_2_5 13 rfl rfl)
theorem dX2_init_2_131 : decode cX2_init_2 131 = .ok (.aload_n 0, 1) := dk_42 (dk_at dksX2_init_2_5 14 rfl rfl)
theorem dX2_init_2_132 : decode cX2_init_2 132 = .ok (.getfield 18, 3) := dk_180 0 18 (dk_at dksX2_init_2_5 15 rfl rfl)
theorem dX2_init_2_135 : decode cX2_init_2 135 = .ok (.iload_n 2, 1) := dk_28 (dk_at dksX2_init_2_5 18 rfl rfl)
theorem dX2_init_2_136 : decode cX2_init_2 136 = .ok (.aload_n 1, 1) := dk_43 (dk_at dksX2_init_2_5 19 rfl rfl)
theorem dX2_init_2_137 : decode cX2_init_2 137 = .ok (.getfield 18, 3) := dk_180 0 18 (dk_at dksX2_init_2_5 20 rfl rfl)
theorem dX2_init_2_140 : decode cX2_init_2 140 = .ok (.iload_n 2, 1) := dk_28 (dk_at dksX2_init_2_5 23 rfl rfl)
theorem dX2_init_2_141 : decode cX2_init_2 141 = .ok (.iaload, 1) := dk_46 (dk_at dksX2_init_2_6 0 rfl rfl)
theorem dX2_init_2_142 : decode cX2_init_2 142 = .ok (.iastore, 1) := dk_79 (dk_at dksX2_init_2_6 1 rfl rfl)
theorem dX2_init_2_143 : decode cX2_init_2 143 = .ok (.aload_n 0, 1) := dk_42 (dk_at dksX2_init_2_6 2 rfl rfl)
theorem dX2_init_2_144 : decode cX2_init_2 144 = .ok (.getfield 21, 3) := dk_180 0 21 (dk_at dksX2_init_2_6 3 rfl rfl)
theorem dX2_init_2_147 : decode cX2_init_2 147 = .ok (.iload_n 2, 1) := dk_28 (dk_at dksX2_init_2_6 6 rfl rfl)
theorem dX2_init_2_148 : decode cX2_init_2 148 = .ok (.aload_n 1, 1) := dk_43 (dk_at dksX2_init_2_6 7 rfl rfl)
theorem dX2_init_2_149 : decode cX2_init_2 149 = .ok (.getfield 21, 3) := dk_180 0 21 (dk_at dksX2_init_2_6 8 rfl rfl)
theorem dX2_init_2_152 : decode cX2_init_2 152 = .ok (.iload_n 2, 1) := dk_28 (dk_at dksX2_init_2_6 11 rfl rfl)
theorem dX2_init_2_153 : decode cX2_init_2 153 = .ok (.iaload, 1) := dk_46 (dk_at dksX2_init_2_6 12 rfl rfl)
theorem dX2_init_2_154 : decode cX2_init_2 154 = .ok (.iastore, 1) := dk_79 (dk_at dksX2_init_2_6 13 rfl rfl)
theorem dX2_init_2_155 : decode cX2_init_2 155 = .ok (.aload_n 0, 1) := dk_42 (dk_at dksX2_init_2_6 14 rfl rfl)
theorem dX2_init_2_156 : decode cX2_init_2 156 = .ok (.getfield 24, 3) := dk_180 0 24 (dk_at dksX2_init_2_6 15 rfl rfl)
theorem dX2_init_2_159 : decode cX2_init_2 159 = .ok (.iload_n 2, 1) := dk_28 (dk_at dksX2_init_2_6 18 rfl rfl)
theorem dX2_init_2_160 : decode cX2_init_2 160 = .ok (.aload_n 1, 1) := dk_43 (dk_at dksX2_init_2_6 19 rfl rfl)
theorem dX2_init_2_161 : decode cX2_init_2 161 = .ok (.getfield 24, 3) := dk_180 0 24 (dk_at dksX2_init_2_6 20 rfl rfl)
theorem dX2_init_2_164 : decode cX2_init_2 164 = .ok (.iload_n 2, 1) := dk_28 (dk_at dksX2_init_2_6 23 rfl rfl)
theorem dX2_init_2_165 : decode cX2_init_2 165 = .ok (.iaload, 1) := dk_46 (dk_at dksX2_init_2_7 0 rfl rfl)
theorem dX2_init_2_166 : decode cX2_init_2 166 = .ok (.iastore, 1) := dk_79 (dk_at dksX2_init_2_7 1 rfl rfl)
theorem dX2_init_2_167 : decode cX2_init_2 167 = .ok (.aload_n 0, 1) := dk_42 (dk_at dksX2_init_2_7 2 rfl rfl)
theorem dX2_init_2_168 : decode cX2_init_2 168 = .ok (.getfield 27, 3) := dk_180 0 27 (dk_at dksX2_init_2_7 3 rfl rfl)
theorem dX2_init_2_171 : decode cX2_init_2 171 = .ok (.iload_n 2, 1) := dk_28 (dk_at dksX2_init_2_7 6 rfl rfl)
theorem dX2_init_2_172 : decode cX2_init_2 172 = .ok (.aload_n 1, 1) := dk_43 (dk_at dksX2_init_2_7 7 rfl rfl)
theorem dX2_init_2_173 : decode cX2_init_2 173 = .ok (.getfield 27, 3) := dk_180 0 27 (dk_at dksX2_init_2_7 8 rfl rfl)
theorem dX2_init_2_176 : decode cX2_init_2 176 = .ok (.iload_n 2, 1) := dk_28 (dk_at dksX2_init_2_7 11 rfl rfl)
theorem dX2_init_2_177 : decode cX2_init_2 177 = .ok (.iaload, 1) := dk_46 (dk_at dksX2_init_2_7 12 rfl rfl)
theorem dX2_init_2_178 : decode cX2_init_2 178 = .ok (.iastore, 1) := dk_79 (dk_at dksX2_init_2_7 13 rfl rfl)
theorem dX2_init_2_179 : decode cX2_init_2 179 = .ok (.aload_n 0, 1) := dk_42 (dk_at dksX2_init_2_7 14 rfl rfl)
theorem dX2_init_2_180 : decode cX2_init_2 180 = .ok (.getfield 30, 3) := dk_180 0 30 (dk_at dksX2_init_2_7 15 rfl rfl)
theorem dX2_init_2_183 : decode cX2_init_2 183 = .ok (.iload_n 2, 1) := dk_28 (dk_at dksX2_init_2_7 18 rfl rfl)
theorem dX2_init_2_184 : decode cX2_init_2 184 = .ok (.aload_n 1, 1) := dk_43 (dk_at dksX2_init_2_7 19 rfl rfl)
theorem dX2_init_2_185 : decode cX2_init_2 185 = .ok (.getfield 30, 3) := dk_180 0 30 (dk_at dksX2_init_2_7 20 rfl rfl)
theorem dX2_init_2_188 : decode cX2_init_2 188 = .ok (.iload_n 2, 1) := dk_28 (dk_at dksX2_init_2_7 23 rfl rfl)
theorem dX2_init_2_189 : decode cX2_init_2 189 = .ok (.iaload, 1) := dk_46 (dk_at dksX2_init_2_8 0 rfl rfl)
theorem dX2_init_2_190 : decode cX2_init_2 190 = .ok (.iastore, 1) := dk_79 (dk_at dksX2_init_2_8 1 rfl rfl)
theorem dX2_init_2_191 : decode cX2_init_2 191 = .ok (.iinc 2 1, 3) := dk_132 2 1 (dk_at dksX2_init_2_8 2 rfl rfl)
theorem dX2_init_2_194 : decode cX2_init_2 194 = .ok (.goto (-95), 3) := dk_167 255 161 (dk_at dksX2_init_2_8 5 rfl rfl)
theorem dX2_init_2_197 : decode cX2_init_2 197 = .ok (.iconst 0, 1) := dk_3 (dk_at dksX2_init_2_8 8 rfl rfl)
theorem dX2_init_2_198 : decode cX2_init_2 198 = .ok (.istore_n 2, 1) := dk_61 (dk_at dksX2_init_2_8 9 rfl rfl)
theorem dX2_init_2_199 : decode cX2_init_2 199 = .ok (.iload_n 2, 1) := dk_28 (dk_at dksX2_init_2_8 10 rfl rfl)
theorem dX2_init_2_200 : decode cX2_init_2 200 = .ok (.iconst 4, 1) := dk_7 (dk_at dksX2_init_2_8 11 rfl rfl)
theorem dX2_init_2_201 : decode cX2_init_2 201 = .ok (.if_icmp .ge 28, 3) := dk_162 0 28 (dk_at dksX2_init_2_8 12 rfl rfl)
theorem dX2_init_2_204 : decode cX2_init_2 204 = .ok (.aload_n 0, 1) := dk_42 (dk_at dksX2_init_2_8 15 rfl rfl)
theorem dX2_init_2_205 : decode cX2_init_2 205 = .ok (.getfield 35, 3) := dk_180 0 35 (dk_at dksX2_init_2_8 16 rfl rfl)
theorem dX2_init_2_208 : decode cX2_init_2 208 = .ok (.iload_n 2, 1) := dk_28 (dk_at dksX2_init_2_8 19 rfl rfl)
theorem dX2_init_2_209 : decode cX2_init_2 209 = .ok (.new 33, 3) := dk_187 0 33 (dk_at dksX2_init_2_8 20 rfl rfl)
theorem dX2_init_2_212 : decode cX2_init_2 212 = .ok (.dup, 1) := dk_89 (dk_at dksX2_init_2_8 23 rfl rfl)
theorem dX2_init_2_213 : decode cX2_init_2 213 = .ok (.aload_n 1, 1) := dk_43 (dk_at dksX2_init_2_9 0 rfl rfl)
theorem dX2_init_2_214 : decode cX2_init_2 214 = .ok (.getfield 35, 3) := dk_180 0 35 (dk_at dksX2_init_2_9 1 rfl rfl)
theorem dX2_init_2_217 : decode cX2_init_2 217 = .ok (.iload_n 2, 1) := dk_28 (dk_at dksX2_init_2_9 4 rfl rfl)
theorem dX2_init_2_218 : decode cX2_init_2 218 = .ok (.aaload, 1) := dk_50 (dk_at dksX2_init_2_9 5 rfl rfl)
theorem dX2_init_2_219 : decode cX2_init_2 219 = .ok (.invokespecial 65, 3) := dk_183 0 65 (dk_at dksX2_init_2_9 6 rfl rfl)
theorem dX2_init_2_222 : decode cX2_init_2 222 = .ok (.aastore, 1) := dk_83 (dk_at dksX2_init_2_9 9 rfl rfl)
theorem dX2_init_2_223 : decode cX2_init_2 223 = .ok (.iinc 2 1, 3) := dk_132 2 1 (dk_at dksX2_init_2_9 10 rfl rfl)
theorem dX2_init_2_226 : decode cX2_init_2 226 = .ok (.goto (-27), 3) := dk_167 255 229 (dk_at dksX2_init_2_9 13 rfl rfl)
theorem dX2_init_2_229 : decode cX2_init_2 229 = .ok (.aload_n 0, 1) := dk_42 (dk_at dksX2_init_2_9 16 rfl rfl)
theorem dX2_init_2_230 : decode cX2_init_2 230 = .ok (.aload_n 1, 1) := dk_43 (dk_at dksX2_init_2_9 17 rfl rfl)
theorem dX2_init_2_231 : decode cX2_init_2 231 = .ok (.getfield 68, 3) := dk_180 0 68 (dk_at dksX2_init_2_9 18 rfl rfl)
theorem dX2_init_2_234 : decode cX2_init_2 234 = .ok (.putfield 68, 3) := dk_181 0 68 (dk_at dksX2_init_2_9 21 rfl rfl)
theorem dX2_init_2_237 : decode cX2_init_2 237 = .ok (.aload_n 0, 1) := dk_42 (dk_at dksX2_init_2_10 0 rfl rfl)
theorem dX2_init_2_238 : decode cX2_init_2 238 = .ok (.aload_n 1, 1) := dk_43 (dk_at dksX2_init_2_10 1 rfl rfl)
theorem dX2_init_2_239 : decode cX2_init_2 239 = .ok (.getfield 72, 3) := dk_180 0 72 (dk_at dksX2_init_2_10 2 rfl rfl)
theorem dX2_init_2_242 : decode cX2_init_2 242 = .ok (.putfield 72, 3) := dk_181 0 72 (dk_at dksX2_init_2_10 5 rfl rfl)
theorem dX2_init_2_245 : decode cX2_init_2 245 = .ok (.aload_n 0, 1) := dk_42 (dk_at dksX2_init_2_10 8 rfl rfl)
theorem dX2_init_2_246 : decode cX2_init_2 246 = .ok (.aload_n 1, 1) := dk_43 (dk_at dksX2_init_2_10 9 rfl rfl)
theorem dX2_init_2_247 : decode cX2_init_2 247 = .ok (.getfield 62, 3) := dk_180 0 62 (dk_at dksX2_init_2_10 10 rfl rfl)
theorem dX2_init_2_250 : decode cX2_init_2 250 = .ok (.putfield 62, 3) := dk_181 0 62 (dk_at dksX2_init_2_10 13 rfl rfl)
theorem dX2_init_2_253 : decode cX2_init_2 253 = .ok (.aload_n 0, 1) := dk_42 (dk_at dksX2_init_2_10 16 rfl rfl)
theorem dX2_init_2_254 : decode cX2_init_2 254 = .ok (.aload_n 1, 1) := dk_43 (dk_at dksX2_init_2_10 17 rfl rfl)
theorem dX2_init_2_255 : decode cX2_init_2 255 = .ok (.getfield 75, 3) := dk_180 0 75 (dk_at dksX2_init_2_10 18 rfl rfl)
theorem dX2_init_2_258 : decode cX2_init_2 258 = .ok (.putfield 75, 3) := dk_181 0 75 (dk_at dksX2_init_2_10 21 rfl rfl)
theorem dX2_init_2_261 : decode cX2_init_2 261 = .ok (.aload_n 0, 1) := dk_42 (dk_at dksX2_init_2_11 0 rfl rfl)
theorem dX2_init_2_262 : decode cX2_init_2 262 = .ok (.aload_n 1, 1) := dk_43 (dk_at dksX2_init_2_11 1 rfl rfl)
theorem dX2_init_2_263 : decode cX2_init_2 263 = .ok (.getfield 78, 3) := dk_180 0 78 (dk_at dksX2_init_2_11 2 rfl rfl)
theorem dX2_init_2_266 : decode cX2_init_2 266 = .ok (.putfield 78, 3) := dk_181 0 78 (dk_at dksX2_init_2_11 5 rfl rfl)
theorem dX2_init_2_269 : decode cX2_init_2 269 = .ok (.aload_n 0, 1) := dk_42 (dk_at dksX2_init_2_11 8 rfl rfl)
theorem dX2_init_2_270 : decode cX2_init_2 270 = .ok (.aload_n 1, 1) := dk_43 (dk_at dksX2_init_2_11 9 rfl rfl)
theorem dX2_init_2_271 : decode cX2_init_2 271 = .ok (.getfield 82, 3) := dk_180 0 82 (dk_at dksX2_init_2_11 10 rfl rfl)
theorem dX2_init_2_274 : decode cX2_init_2 274 = .ok (.putfield 82, 3) := dk_181 0 82 (dk_at dksX2_init_2_11 13 rfl rfl)
theorem dX2_init_2_277 : decode cX2_init_2 277 = .ok (.aload_n 0, 1) := dk_42 (dk_at dksX2_init_2_11 16 rfl rfl)
theorem dX2_init_2_278 : decode cX2_init_2 278 = .ok (.aload_n 1, 1) := dk_43 (dk_at dksX2_init_2_11 17 rfl rfl)
theorem dX2_init_2_279 : decode cX2_init_2 279 = .ok (.getfield 48, 3) := dk_180 0 48 (dk_at dksX2_init_2_11 18 rfl rfl)
theorem dX2_init_2_282 : decode cX2_init_2 282 = .ok (.putfield 48, 3) := dk_181 0 48 (dk_at dksX2_init_2_11 21 rfl rfl)
theorem dX2_init_2_285 : decode cX2_init_2 285 = .ok (.aload_n 0, 1) := dk_42 (dk_at dksX2_init_2_12 0 rfl rfl)
theorem dX2_init_2_286 : decode cX2_init_2 286 = .ok (.aload_n 1, 1) := dk_43 (dk_at dksX2_init_2_12 1 rfl rfl)
theorem dX2_init_2_287 : decode cX2_init_2 287 = .ok (.getfield 52, 3) := dk_180 0 52 (dk_at dksX2_init_2_12 2 rfl rfl)
theorem dX2_init_2_290 : decode cX2_init_2 290 = .ok (.putfield 52, 3) := dk_181 0 52 (dk_at dksX2_init_2_12 5 rfl rfl)
theorem dX2_init_2_293 : decode cX2_init_2 293 = .ok (.aload_n 0, 1) := dk_42 (dk_at dksX2_init_2_12 8 rfl rfl)
theorem dX2_init_2_294 : decode cX2_init_2 294 = .ok (.aload_n 1, 1) := dk_43 (dk_at dksX2_init_2_12 9 rfl rfl)
theorem dX2_init_2_295 : decode cX2_init_2 295 = .ok (.getfield 55, 3) := dk_180 0 55 (dk_at dksX2_init_2_12 10 rfl rfl)
theorem dX2_init_2_298 : decode cX2_init_2 298 = .ok (.putfield 55, 3) := dk_181 0 55 (dk_at dksX2_init_2_12 13 rfl rfl)
theorem dX2_init_2_301 : decode cX2_init_2 301 = .ok (.aload_n 0, 1) := dk_42 (dk_at dksX2_init_2_12 16 rfl rfl)
theorem dX2_init_2_302 : decode cX2_init_2 302 = .ok (.aload_n 1, 1) := dk_43 (dk_at dksX2_init_2_12 17 rfl rfl)
theorem dX2_init_2_303 : decode cX2_init_2 303 = .ok (.getfield 58, 3) := dk_180 0 58 (dk_at dksX2_init_2_12 18 rfl rfl)
theorem dX2_init_2_306 : decode cX2_init_2 306 = .ok (.putfield 58, 3) := dk_181 0 58 (dk_at dksX2_init_2_12 21 rfl rfl)
theorem dX2_init_2_309 : decode cX2_init_2 309 = .ok (.aload_n 0, 1) := dk_42 (dk_at dksX2_init_2_13 0 rfl rfl)
theorem dX2_init_2_310 : decode cX2_init_2 310 = .ok (.aload_n 1, 1) := dk_43 (dk_at dksX2_init_2_13 1 rfl rfl)
theorem dX2_init_2_311 : decode cX2_init_2 311 = .ok (.getfield 85, 3) := dk_180 0 85 (dk_at dksX2_init_2_13 2 rfl rfl)
theorem dX2_init_2_314 : decode cX2_init_2 314 = .ok (.putfield 85, 3) := dk_181 0 85 (dk_at dksX2_init_2_13 5 rfl rfl)
theorem dX2_init_2_317 : decode cX2_init_2 317 = .ok (.aload_n 0, 1) := dk_42 (dk_at dksX2_init_2_13 8 rfl rfl)
theorem dX2_init_2_318 : decode cX2_init_2 318 = .ok (.aload_n 1, 1) := dk_43 (dk_at dksX2_init_2_13 9 rfl rfl)
theorem dX2_init_2_319 : decode cX2_init_2 319 = .ok (.getfield 88, 3) := dk_180 0 88 (dk_at dksX2_init_2_13 10 rfl rfl)
theorem dX2_init_2_322 : decode cX2_init_2 322 = .ok (.putfield 88, 3) := dk_181 0 88 (dk_at dksX2_init_2_13 13 rfl rfl)
theorem dX2_init_2_325 : decode cX2_init_2 325 = .ok (.aload_n 0, 1) := dk_42 (dk_at dksX2_init_2_13 16 rfl rfl)
theorem dX2_init_2_326 : decode cX2_init_2 326 = .ok (.aload_n 1, 1) := dk_43 (dk_at dksX2_init_2_13 17 rfl rfl)
theorem dX2_init_2_327 : decode cX2_init_2 327 = .ok (.getfield 91, 3) := dk_180 0 91 (dk_at dksX2_init_2_13 18 rfl rfl)
theorem dX2_init_2_330 : decode cX2_init_2 330 = .ok (.putfield 91, 3) := dk_181 0 91 (dk_at dksX2_init_2_13 21 rfl rfl)
theorem dX2_init_2_333 : decode cX2_init_2 333 = .ok (.return_, 1) := dk_177 (dk_at dksX2_init_2_14 0 rfl rfl)
abbrev cX2_weightIn : ByteArray := prog_6_method_6_code
def yX2_weightIn : MethodName := ⟨RX2, "weightIn", "(I)I"⟩
def dkwX2_weightIn_1 : List UInt8 := [29, 182, 0, 98, 167, 0, 4, 3, 96, 61, 132, 3, 1, 167, 255, 223, 28, 172]
abbrev dktX2_weightIn_1 : List UInt8 := dkwX2_weightIn_1 ++ []
def dkwX2_weightIn_0 : List UInt8 := [3, 61, 3, 62, 29, 42, 180, 0, 62, 162, 0, 31, 28, 42, 180, 0, 30, 29, 46, 27, 160, 0, 11, 42]
abbrev dktX2_weightIn_0 : List UInt8 := dkwX2_weightIn_0 ++ dktX2_weightIn_1
theorem dksX2_weightIn_0 : cX2_weightIn.data.toList.drop 0 = dktX2_weightIn_0 := by decide +kernel
theorem dksX2_weightIn_1 : cX2_weightIn.data.toList.drop 24 = dktX2_weightIn_1 := dk_seg dksX2_weightIn_0 24 rfl rfl
theorem dX2_weightIn_0 : decode cX2_weightIn 0 = .ok (.iconst 0, 1) := dk_3 (dk_at dksX2_weightIn_0 0 rfl rfl)
theorem dX2_weightIn_1 : decode cX2_weightIn 1 = .ok (.istore_n 2, 1) := dk_61 (dk_at dksX2_weightIn_0 1 rfl rfl)
theorem dX2_weightIn_2 : decode cX2_weightIn 2 = .ok (.iconst 0, 1) := dk_3 (dk_at dksX2_weightIn_0 2 rfl rfl)
theorem dX2_weightIn_3 : decode cX2_weightIn 3 = .ok (.istore_n 3, 1) := dk_62 (dk_at dksX2_weightIn_0 3 rfl rfl)
theorem dX2_weightIn_4 : decode cX2_weightIn 4 = .ok (.iload_n 3, 1) := dk_29 (dk_at dksX2_weightIn_0 4 rfl rfl)
theorem dX2_weightIn_5 : decode cX2_weightIn 5 = .ok (.aload_n 0, 1) := dk_42 (dk_at dksX2_weightIn_0 5 rfl rfl)
theorem dX2_weightIn_6 : decode cX2_weightIn 6 = .ok (.getfield 62, 3) := dk_180 0 62 (dk_at dksX2_weightIn_0 6 rfl rfl)
theorem dX2_weightIn_9 : decode cX2_weightIn 9 = .ok (.if_icmp .ge 31, 3) := dk_162 0 31 (dk_at dksX2_weightIn_0 9 rfl rfl)
theorem dX2_weightIn_12 : decode cX2_weightIn 12 = .ok (.iload_n 2, 1) := dk_28 (dk_at dksX2_weightIn_0 12 rfl rfl)
theorem dX2_weightIn_13 : decode cX2_weightIn 13 = .ok (.aload_n 0, 1) := dk_42 (dk_at dksX2_weightIn_0 13 rfl rfl)
theorem dX2_weightIn_14 : decode cX2_weightIn 14 = .ok (.getfield 30, 3) := dk_180 0 30 (dk_at dksX2_weightIn_0 14 rfl rfl)
theorem dX2_weightIn_17 : decode cX2_weightIn 17 = .ok (.iload_n 3, 1) := dk_29 (dk_at dksX2_weightIn_0 17 rfl rfl)
theorem dX2_weightIn_18 : decode cX2_weightIn 18 = .ok (.iaload, 1) := dk_46 (dk_at dksX2_weightIn_0 18 rfl rfl)
theorem dX2_weightIn_19 : decode cX2_weightIn 19 = .ok (.iload_n 1, 1) := dk_27 (dk_at dksX2_weightIn_0 19 rfl rfl)
theorem dX2_weightIn_20 : decode cX2_weightIn 20 = .ok (.if_icmp .ne 11, 3) := dk_160 0 11 (dk_at dksX2_weightIn_0 20 rfl rfl)
theorem dX2_weightIn_23 : decode cX2_weightIn 23 = .ok (.aload_n 0, 1) := dk_42 (dk_at dksX2_weightIn_0 23 rfl rfl)
theorem dX2_weightIn_24 : decode cX2_weightIn 24 = .ok (.iload_n 3, 1) := dk_29 (dk_at dksX2_weightIn_1 0 rfl rfl)
theorem dX2_weightIn_25 : decode cX2_weightIn 25 = .ok (.invokevirtual 98, 3) := dk_182 0 98 (dk_at dksX2_weightIn_1 1 rfl rfl)
theorem dX2_weightIn_28 : decode cX2_weightIn 28 = .ok (.goto 4, 3) := dk_167 0 4 (dk_at dksX2_weightIn_1 4 rfl rfl)
theorem dX2_weightIn_31 : decode cX2_weightIn 31 = .ok (.iconst 0, 1) := dk_3 (dk_at dksX2_weightIn_1 7 rfl rfl)
theorem dX2_weightIn_32 : decode cX2_weightIn 32 = .ok (.iadd, 1) := dk_96 (dk_at dksX2_weightIn_1 8 rfl rfl)
theorem dX2_weightIn_33 : decode cX2_weightIn 33 = .ok (.istore_n 2, 1) := dk_61 (dk_at dksX2_weightIn_1 9 rfl rfl)
theorem dX2_weightIn_34 : decode cX2_weightIn 34 = .ok (.iinc 3 1, 3) := dk_132 3 1 (dk_at dksX2_weightIn_1 10 rfl rfl)
theorem dX2_weightIn_37 : decode cX2_weightIn 37 = .ok (.goto (-33), 3) := dk_167 255 223 (dk_at dksX2_weightIn_1 13 rfl rfl)
theorem dX2_weightIn_40 : decode cX2_weightIn 40 = .ok (.iload_n 2, 1) := dk_28 (dk_at dksX2_weightIn_1 16 rfl rfl)
theorem dX2_weightIn_41 : decode cX2_weightIn 41 = .ok (.ireturn, 1) := dk_172 (dk_at dksX2_weightIn_1 17 rfl rfl)
abbrev cX2_weight : ByteArray := prog_6_method_4_code
def yX2_weight : MethodName := ⟨RX2, "weight", "(I)I"⟩
def dkwX2_weight_0 : List UInt8 := [42, 180, 0, 9, 27, 46, 42, 180, 0, 15, 27, 46, 96, 172]
abbrev dktX2_weight_0 : List UInt8 := dkwX2_weight_0 ++ []
theorem dksX2_weight_0 : cX2_weight.data.toList.drop 0 = dktX2_weight_0 := by decide +kernel
theorem dX2_weight_0 : decode cX2_weight 0 = .ok (.aload_n 0, 1) := dk_42 (dk_at dksX2_weight_0 0 rfl rfl)
theorem dX2_weight_1 : decode cX2_weight 1 = .ok (.getfield 9, 3) := dk_180 0 9 (dk_at dksX2_weight_0 1 rfl rfl)
theorem dX2_weight_4 : decode cX2_weight 4 = .ok (.iload_n 1, 1) := dk_27 (dk_at dksX2_weight_0 4 rfl rfl)
theorem dX2_weight_5 : decode cX2_weight 5 = .ok (.iaload, 1) := dk_46 (dk_at dksX2_weight_0 5 rfl rfl)
theorem dX2_weight_6 : decode cX2_weight 6 = .ok (.aload_n 0, 1) := dk_42 (dk_at dksX2_weight_0 6 rfl rfl)
theorem dX2_weight_7 : decode cX2_weight 7 = .ok (.getfield 15, 3) := dk_180 0 15 (dk_at dksX2_weight_0 7 rfl rfl)
theorem dX2_weight_10 : decode cX2_weight 10 = .ok (.iload_n 1, 1) := dk_27 (dk_at dksX2_weight_0 10 rfl rfl)
theorem dX2_weight_11 : decode cX2_weight 11 = .ok (.iaload, 1) := dk_46 (dk_at dksX2_weight_0 11 rfl rfl)
theorem dX2_weight_12 : decode cX2_weight 12 = .ok (.iadd, 1) := dk_96 (dk_at dksX2_weight_0 12 rfl rfl)
theorem dX2_weight_13 : decode cX2_weight 13 = .ok (.ireturn, 1) := dk_172 (dk_at dksX2_weight_0 13 rfl rfl)
abbrev cX2_set : ByteArray := prog_6_method_5_code
def yX2_set : MethodName := ⟨RX2, "set", "(I)I"⟩
def dkwX2_set_1 : List UInt8 := [29, 120, 167, 0, 4, 3, 128, 61, 132, 3, 1, 167, 255, 225, 28, 172]
abbrev dktX2_set_1 : List UInt8 := dkwX2_set_1 ++ []
def dkwX2_set_0 : List UInt8 := [3, 61, 3, 62, 29, 42, 180, 0, 62, 162, 0, 29, 28, 42, 180, 0, 30, 29, 46, 27, 160, 0, 9, 4]
abbrev dktX2_set_0 : List UInt8 := dkwX2_set_0 ++ dktX2_set_1
theorem dksX2_set_0 : cX2_set.data.toList.drop 0 = dktX2_set_0 := by decide +kernel
theorem dksX2_set_1 : cX2_set.data.toList.drop 24 = dktX2_set_1 := dk_seg dksX2_set_0 24 rfl rfl
theorem dX2_set_0 : decode cX2_set 0 = .ok (.iconst 0, 1) := dk_3 (dk_at dksX2_set_0 0 rfl rfl)
theorem dX2_set_1 : decode cX2_set 1 = .ok (.istore_n 2, 1) := dk_61 (dk_at dksX2_set_0 1 rfl rfl)
theorem dX2_set_2 : decode cX2_set 2 = .ok (.iconst 0, 1) := dk_3 (dk_at dksX2_set_0 2 rfl rfl)
theorem dX2_set_3 : decode cX2_set 3 = .ok (.istore_n 3, 1) := dk_62 (dk_at dksX2_set_0 3 rfl rfl)
theorem dX2_set_4 : decode cX2_set 4 = .ok (.iload_n 3, 1) := dk_29 (dk_at dksX2_set_0 4 rfl rfl)
theorem dX2_set_5 : decode cX2_set 5 = .ok (.aload_n 0, 1) := dk_42 (dk_at dksX2_set_0 5 rfl rfl)
theorem dX2_set_6 : decode cX2_set 6 = .ok (.getfield 62, 3) := dk_180 0 62 (dk_at dksX2_set_0 6 rfl rfl)
theorem dX2_set_9 : decode cX2_set 9 = .ok (.if_icmp .ge 29, 3) := dk_162 0 29 (dk_at dksX2_set_0 9 rfl rfl)
theorem dX2_set_12 : decode cX2_set 12 = .ok (.iload_n 2, 1) := dk_28 (dk_at dksX2_set_0 12 rfl rfl)
theorem dX2_set_13 : decode cX2_set 13 = .ok (.aload_n 0, 1) := dk_42 (dk_at dksX2_set_0 13 rfl rfl)
theorem dX2_set_14 : decode cX2_set 14 = .ok (.getfield 30, 3) := dk_180 0 30 (dk_at dksX2_set_0 14 rfl rfl)
theorem dX2_set_17 : decode cX2_set 17 = .ok (.iload_n 3, 1) := dk_29 (dk_at dksX2_set_0 17 rfl rfl)
theorem dX2_set_18 : decode cX2_set 18 = .ok (.iaload, 1) := dk_46 (dk_at dksX2_set_0 18 rfl rfl)
theorem dX2_set_19 : decode cX2_set 19 = .ok (.iload_n 1, 1) := dk_27 (dk_at dksX2_set_0 19 rfl rfl)
theorem dX2_set_20 : decode cX2_set 20 = .ok (.if_icmp .ne 9, 3) := dk_160 0 9 (dk_at dksX2_set_0 20 rfl rfl)
theorem dX2_set_23 : decode cX2_set 23 = .ok (.iconst 1, 1) := dk_4 (dk_at dksX2_set_0 23 rfl rfl)
theorem dX2_set_24 : decode cX2_set 24 = .ok (.iload_n 3, 1) := dk_29 (dk_at dksX2_set_1 0 rfl rfl)
theorem dX2_set_25 : decode cX2_set 25 = .ok (.ishl, 1) := dk_120 (dk_at dksX2_set_1 1 rfl rfl)
theorem dX2_set_26 : decode cX2_set 26 = .ok (.goto 4, 3) := dk_167 0 4 (dk_at dksX2_set_1 2 rfl rfl)
theorem dX2_set_29 : decode cX2_set 29 = .ok (.iconst 0, 1) := dk_3 (dk_at dksX2_set_1 5 rfl rfl)
theorem dX2_set_30 : decode cX2_set 30 = .ok (.ior, 1) := dk_128 (dk_at dksX2_set_1 6 rfl rfl)
theorem dX2_set_31 : decode cX2_set 31 = .ok (.istore_n 2, 1) := dk_61 (dk_at dksX2_set_1 7 rfl rfl)
theorem dX2_set_32 : decode cX2_set 32 = .ok (.iinc 3 1, 3) := dk_132 3 1 (dk_at dksX2_set_1 8 rfl rfl)
theorem dX2_set_35 : decode cX2_set 35 = .ok (.goto (-31), 3) := dk_167 255 225 (dk_at dksX2_set_1 11 rfl rfl)
theorem dX2_set_38 : decode cX2_set 38 = .ok (.iload_n 2, 1) := dk_28 (dk_at dksX2_set_1 14 rfl rfl)
theorem dX2_set_39 : decode cX2_set 39 = .ok (.ireturn, 1) := dk_172 (dk_at dksX2_set_1 15 rfl rfl)
abbrev cX2_hour : ByteArray := prog_6_method_33_code
def yX2_hour : MethodName := ⟨RX2, "hour", "()I"⟩
def dkwX2_hour_6 : List UInt8 := [181, 0, 82, 27, 172]
abbrev dktX2_hour_6 : List UInt8 := dkwX2_hour_6 ++ []
def dkwX2_hour_5 : List UInt8 := [79, 42, 16, 7, 28, 182, 0, 144, 132, 1, 1, 132, 2, 1, 167, 255, 218, 42, 3, 181, 0, 78, 42, 3]
abbrev dktX2_hour_5 : List UInt8 := dkwX2_hour_5 ++ dktX2_hour_6
def dkwX2_hour_4 : List UInt8 := [28, 42, 180, 0, 62, 162, 0, 36, 42, 180, 0, 30, 28, 46, 7, 160, 0, 20, 42, 180, 0, 30, 28, 8]
abbrev dktX2_hour_4 : List UInt8 := dkwX2_hour_4 ++ dktX2_hour_5
def dkwX2_hour_3 : List UInt8 := [180, 0, 78, 153, 0, 7, 4, 167, 0, 4, 3, 96, 181, 0, 82, 42, 182, 0, 189, 153, 0, 56, 3, 61]
abbrev dktX2_hour_3 : List UInt8 := dkwX2_hour_3 ++ dktX2_hour_4
def dkwX2_hour_2 : List UInt8 := [162, 0, 17, 27, 42, 28, 182, 0, 186, 96, 60, 132, 2, 1, 167, 255, 237, 42, 89, 180, 0, 82, 42]
abbrev dktX2_hour_2 : List UInt8 := dkwX2_hour_2 ++ dktX2_hour_3
def dkwX2_hour_1 : List UInt8 := [180, 0, 55, 167, 0, 7, 42, 180, 0, 58, 181, 0, 58, 3, 60, 3, 61, 28, 42, 180, 0, 62]
abbrev dktX2_hour_1 : List UInt8 := dkwX2_hour_1 ++ dktX2_hour_2
def dkwX2_hour_0 : List UInt8 := [42, 89, 180, 0, 75, 4, 96, 181, 0, 75, 42, 42, 180, 0, 75, 16, 24, 112, 154, 0, 10, 42]
abbrev dktX2_hour_0 : List UInt8 := dkwX2_hour_0 ++ dktX2_hour_1
theorem dksX2_hour_0 : cX2_hour.data.toList.drop 0 = dktX2_hour_0 := by decide +kernel
theorem dksX2_hour_1 : cX2_hour.data.toList.drop 22 = dktX2_hour_1 := dk_seg dksX2_hour_0 22 rfl rfl
theorem dksX2_hour_2 : cX2_hour.data.toList.drop 44 = dktX2_hour_2 := dk_seg dksX2_hour_1 22 rfl rfl
theorem dksX2_hour_3 : cX2_hour.data.toList.drop 67 = dktX2_hour_3 := dk_seg dksX2_hour_2 23 rfl rfl
theorem dksX2_hour_4 : cX2_hour.data.toList.drop 91 = dktX2_hour_4 := dk_seg dksX2_hour_3 24 rfl rfl
theorem dksX2_hour_5 : cX2_hour.data.toList.drop 115 = dktX2_hour_5 := dk_seg dksX2_hour_4 24 rfl rfl
theorem dksX2_hour_6 : cX2_hour.data.toList.drop 139 = dktX2_hour_6 := dk_seg dksX2_hour_5 24 rfl rfl
theorem dX2_hour_0 : decode cX2_hour 0 = .ok (.aload_n 0, 1) := dk_42 (dk_at dksX2_hour_0 0 rfl rfl)
theorem dX2_hour_1 : decode cX2_hour 1 = .ok (.dup, 1) := dk_89 (dk_at dksX2_hour_0 1 rfl rfl)
theorem dX2_hour_2 : decode cX2_hour 2 = .ok (.getfield 75, 3) := dk_180 0 75 (dk_at dksX2_hour_0 2 rfl rfl)
theorem dX2_hour_5 : decode cX2_hour 5 = .ok (.iconst 1, 1) := dk_4 (dk_at dksX2_hour_0 5 rfl rfl)
theorem dX2_hour_6 : decode cX2_hour 6 = .ok (.iadd, 1) := dk_96 (dk_at dksX2_hour_0 6 rfl rfl)
theorem dX2_hour_7 : decode cX2_hour 7 = .ok (.putfield 75, 3) := dk_181 0 75 (dk_at dksX2_hour_0 7 rfl rfl)
theorem dX2_hour_10 : decode cX2_hour 10 = .ok (.aload_n 0, 1) := dk_42 (dk_at dksX2_hour_0 10 rfl rfl)
theorem dX2_hour_11 : decode cX2_hour 11 = .ok (.aload_n 0, 1) := dk_42 (dk_at dksX2_hour_0 11 rfl rfl)
theorem dX2_hour_12 : decode cX2_hour 12 = .ok (.getfield 75, 3) := dk_180 0 75 (dk_at dksX2_hour_0 12 rfl rfl)
theorem dX2_hour_15 : decode cX2_hour 15 = .ok (.bipush 24, 2) := dk_16 24 (dk_at dksX2_hour_0 15 rfl rfl)
theorem dX2_hour_17 : decode cX2_hour 17 = .ok (.irem, 1) := dk_112 (dk_at dksX2_hour_0 17 rfl rfl)
theorem dX2_hour_18 : decode cX2_hour 18 = .ok (.ifCond .ne 10, 3) := dk_154 0 10 (dk_at dksX2_hour_0 18 rfl rfl)
theorem dX2_hour_21 : decode cX2_hour 21 = .ok (.aload_n 0, 1) := dk_42 (dk_at dksX2_hour_0 21 rfl rfl)
theorem dX2_hour_22 : decode cX2_hour 22 = .ok (.getfield 55, 3) := dk_180 0 55 (dk_at dksX2_hour_1 0 rfl rfl)
theorem dX2_hour_25 : decode cX2_hour 25 = .ok (.goto 7, 3) := dk_167 0 7 (dk_at dksX2_hour_1 3 rfl rfl)
theorem dX2_hour_28 : decode cX2_hour 28 = .ok (.aload_n 0, 1) := dk_42 (dk_at dksX2_hour_1 6 rfl rfl)
theorem dX2_hour_29 : decode cX2_hour 29 = .ok (.getfield 58, 3) := dk_180 0 58 (dk_at dksX2_hour_1 7 rfl rfl)
theorem dX2_hour_32 : decode cX2_hour 32 = .ok (.putfield 58, 3) := dk_181 0 58 (dk_at dksX2_hour_1 10 rfl rfl)
theorem dX2_hour_35 : decode cX2_hour 35 = .ok (.iconst 0, 1) := dk_3 (dk_at dksX2_hour_1 13 rfl rfl)
theorem dX2_hour_36 : decode cX2_hour 36 = .ok (.istore_n 1, 1) := dk_60 (dk_at dksX2_hour_1 14 rfl rfl)
theorem dX2_hour_37 : decode cX2_hour 37 = .ok (.iconst 0, 1) := dk_3 (dk_at dksX2_hour_1 15 rfl rfl)
theorem dX2_hour_38 : decode cX2_hour 38 = .ok (.istore_n 2, 1) := dk_61 (dk_at dksX2_hour_1 16 rfl rfl)
theorem dX2_hour_39 : decode cX2_hour 39 = .ok (.iload_n 2, 1) := dk_28 (dk_at dksX2_hour_1 17 rfl rfl)
theorem dX2_hour_40 : decode cX2_hour 40 = .ok (.aload_n 0, 1) := dk_42 (dk_at dksX2_hour_1 18 rfl rfl)
theorem dX2_hour_41 : decode cX2_hour 41 = .ok (.getfield 62, 3) := dk_180 0 62 (dk_at dksX2_hour_1 19 rfl rfl)
theorem dX2_hour_44 : decode cX2_hour 44 = .ok (.if_icmp .ge 17, 3) := dk_162 0 17 (dk_at dksX2_hour_2 0 rfl rfl)
theorem dX2_hour_47 : decode cX2_hour 47 = .ok (.iload_n 1, 1) := dk_27 (dk_at dksX2_hour_2 3 rfl rfl)
theorem dX2_hour_48 : decode cX2_hour 48 = .ok (.aload_n 0, 1) := dk_42 (dk_at dksX2_hour_2 4 rfl rfl)
theorem dX2_hour_49 : decode cX2_hour 49 = .ok (.iload_n 2, 1) := dk_28 (dk_at dksX2_hour_2 5 rfl rfl)
theorem dX2_hour_50 : decode cX2_hour 50 = .ok (.invokevirtual 186, 3) := dk_182 0 186 (dk_at dksX2_hour_2 6 rfl rfl)
theorem dX2_hour_53 : decode cX2_hour 53 = .ok (.iadd, 1) := dk_96 (dk_at dksX2_hour_2 9 rfl rfl)
theorem dX2_hour_54 : decode cX2_hour 54 = .ok (.istore_n 1, 1) := dk_60 (dk_at dksX2_hour_2 10 rfl rfl)
theorem dX2_hour_55 : decode cX2_hour 55 = .ok (.iinc 2 1, 3) := dk_132 2 1 (dk_at dksX2_hour_2 11 rfl rfl)
theorem dX2_hour_58 : decode cX2_hour 58 = .ok (.goto (-19), 3) := dk_167 255 237 (dk_at dksX2_hour_2 14 rfl rfl)
theorem dX2_hour_61 : decode cX2_hour 61 = .ok (.aload_n 0, 1) := dk_42 (dk_at dksX2_hour_2 17 rfl rfl)
theorem dX2_hour_62 : decode cX2_hour 62 = .ok (.dup, 1) := dk_89 (dk_at dksX2_hour_2 18 rfl rfl)
theorem dX2_hour_63 : decode cX2_hour 63 = .ok (.getfield 82, 3) := dk_180 0 82 (dk_at dksX2_hour_2 19 rfl rfl)
theorem dX2_hour_66 : decode cX2_hour 66 = .ok (.aload_n 0, 1) := dk_42 (dk_at dksX2_hour_2 22 rfl rfl)
theorem dX2_hour_67 : decode cX2_hour 67 = .ok (.getfield 78, 3) := dk_180 0 78 (dk_at dksX2_hour_3 0 rfl rfl)
theorem dX2_hour_70 : decode cX2_hour 70 = .ok (.ifCond .eq 7, 3) := dk_153 0 7 (dk_at dksX2_hour_3 3 rfl rfl)
theorem dX2_hour_73 : decode cX2_hour 73 = .ok (.iconst 1, 1) := dk_4 (dk_at dksX2_hour_3 6 rfl rfl)
theorem dX2_hour_74 : decode cX2_hour 74 = .ok (.goto 4, 3) := dk_167 0 4 (dk_at dksX2_hour_3 7 rfl rfl)
theorem dX2_hour_77 : decode cX2_hour 77 = .ok (.iconst 0, 1) := dk_3 (dk_at dksX2_hour_3 10 rfl rfl)
theorem dX2_hour_78 : decode cX2_hour 78 = .ok (.iadd, 1) := dk_96 (dk_at dksX2_hour_3 11 rfl rfl)
theorem dX2_hour_79 : decode cX2_hour 79 = .ok (.putfield 82, 3) := dk_181 0 82 (dk_at dksX2_hour_3 12 rfl rfl)
theorem dX2_hour_82 : decode cX2_hour 82 = .ok (.aload_n 0, 1) := dk_42 (dk_at dksX2_hour_3 15 rfl rfl)
theorem dX2_hour_83 : decode cX2_hour 83 = .ok (.invokevirtual 189, 3) := dk_182 0 189 (dk_at dksX2_hour_3 16 rfl rfl)
theorem dX2_hour_86 : decode cX2_hour 86 = .ok (.ifCond .eq 56, 3) := dk_153 0 56 (dk_at dksX2_hour_3 19 rfl rfl)
theorem dX2_hour_89 : decode cX2_hour 89 = .ok (.iconst 0, 1) := dk_3 (dk_at dksX2_hour_3 22 rfl rfl)
theorem dX2_hour_90 : decode cX2_hour 90 = .ok (.istore_n 2, 1) := dk_61 (dk_at dksX2_hour_3 23 rfl rfl)
theorem dX2_hour_91 : decode cX2_hour 91 = .ok (.iload_n 2, 1) := dk_28 (dk_at dksX2_hour_4 0 rfl rfl)
theorem dX2_hour_92 : decode cX2_hour 92 = .ok (.aload_n 0, 1) := dk_42 (dk_at dksX2_hour_4 1 rfl rfl)
theorem dX2_hour_93 : decode cX2_hour 93 = .ok (.getfield 62, 3) := dk_180 0 62 (dk_at dksX2_hour_4 2 rfl rfl)
theorem dX2_hour_96 : decode cX2_hour 96 = .ok (.if_icmp .ge 36, 3) := dk_162 0 36 (dk_at dksX2_hour_4 5 rfl rfl)
theorem dX2_hour_99 : decode cX2_hour 99 = .ok (.aload_n 0, 1) := dk_42 (dk_at dksX2_hour_4 8 rfl rfl)
theorem dX2_hour_100 : decode cX2_hour 100 = .ok (.getfield 30, 3) := dk_180 0 30 (dk_at dksX2_hour_4 9 rfl rfl)
theorem dX2_hour_103 : decode cX2_hour 103 = .ok (.iload_n 2, 1) := dk_28 (dk_at dksX2_hour_4 12 rfl rfl)
theorem dX2_hour_104 : decode cX2_hour 104 = .ok (.iaload, 1) := dk_46 (dk_at dksX2_hour_4 13 rfl rfl)
theorem dX2_hour_105 : decode cX2_hour 105 = .ok (.iconst 4, 1) := dk_7 (dk_at dksX2_hour_4 14 rfl rfl)
theorem dX2_hour_106 : decode cX2_hour 106 = .ok (.if_icmp .ne 20, 3) := dk_160 0 20 (dk_at dksX2_hour_4 15 rfl rfl)
theorem dX2_hour_109 : decode cX2_hour 109 = .ok (.aload_n 0, 1) := dk_42 (dk_at dksX2_hour_4 18 rfl rfl)
theorem dX2_hour_110 : decode cX2_hour 110 = .ok (.getfield 30, 3) := dk_180 0 30 (dk_at dksX2_hour_4 19 rfl rfl)
theorem dX2_hour_113 : decode cX2_hour 113 = .ok (.iload_n 2, 1) := dk_28 (dk_at dksX2_hour_4 22 rfl rfl)
theorem dX2_hour_114 : decode cX2_hour 114 = .ok (.iconst 5, 1) := dk_8 (dk_at dksX2_hour_4 23 rfl rfl)
theorem dX2_hour_115 : decode cX2_hour 115 = .ok (.iastore, 1) := dk_79 (dk_at dksX2_hour_5 0 rfl rfl)
theorem dX2_hour_116 : decode cX2_hour 116 = .ok (.aload_n 0, 1) := dk_42 (dk_at dksX2_hour_5 1 rfl rfl)
theorem dX2_hour_117 : decode cX2_hour 117 = .ok (.bipush 7, 2) := dk_16 7 (dk_at dksX2_hour_5 2 rfl rfl)
theorem dX2_hour_119 : decode cX2_hour 119 = .ok (.iload_n 2, 1) := dk_28 (dk_at dksX2_hour_5 4 rfl rfl)
theorem dX2_hour_120 : decode cX2_hour 120 = .ok (.invokevirtual 144, 3) := dk_182 0 144 (dk_at dksX2_hour_5 5 rfl rfl)
theorem dX2_hour_123 : decode cX2_hour 123 = .ok (.iinc 1 1, 3) := dk_132 1 1 (dk_at dksX2_hour_5 8 rfl rfl)
theorem dX2_hour_126 : decode cX2_hour 126 = .ok (.iinc 2 1, 3) := dk_132 2 1 (dk_at dksX2_hour_5 11 rfl rfl)
theorem dX2_hour_129 : decode cX2_hour 129 = .ok (.goto (-38), 3) := dk_167 255 218 (dk_at dksX2_hour_5 14 rfl rfl)
theorem dX2_hour_132 : decode cX2_hour 132 = .ok (.aload_n 0, 1) := dk_42 (dk_at dksX2_hour_5 17 rfl rfl)
theorem dX2_hour_133 : decode cX2_hour 133 = .ok (.iconst 0, 1) := dk_3 (dk_at dksX2_hour_5 18 rfl rfl)
theorem dX2_hour_134 : decode cX2_hour 134 = .ok (.putfield 78, 3) := dk_181 0 78 (dk_at dksX2_hour_5 19 rfl rfl)
theorem dX2_hour_137 : decode cX2_hour 137 = .ok (.aload_n 0, 1) := dk_42 (dk_at dksX2_hour_5 22 rfl rfl)
theorem dX2_hour_138 : decode cX2_hour 138 = .ok (.iconst 0, 1) := dk_3 (dk_at dksX2_hour_5 23 rfl rfl)
theorem dX2_hour_139 : decode cX2_hour 139 = .ok (.putfield 82, 3) := dk_181 0 82 (dk_at dksX2_hour_6 0 rfl rfl)
theorem dX2_hour_142 : decode cX2_hour 142 = .ok (.iload_n 1, 1) := dk_27 (dk_at dksX2_hour_6 3 rfl rfl)
theorem dX2_hour_143 : decode cX2_hour 143 = .ok (.ireturn, 1) := dk_172 (dk_at dksX2_hour_6 4 rfl rfl)
abbrev cX2_lotHour : ByteArray := prog_6_method_32_code
def yX2_lotHour : MethodName := ⟨RX2, "lotHour", "(I)I"⟩
def dkwX2_lotHour_4 : List UInt8 := [182, 0, 183, 3, 172, 3, 172]
abbrev dktX2_lotHour_4 : List UInt8 := dkwX2_lotHour_4 ++ []
def dkwX2_lotHour_3 : List UInt8 := [16, 6, 182, 0, 148, 28, 153, 0, 7, 4, 167, 0, 4, 3, 172, 42, 180, 0, 78, 153, 0, 8, 42, 27]
abbrev dktX2_lotHour_3 : List UInt8 := dkwX2_lotHour_3 ++ dktX2_lotHour_4
def dkwX2_lotHour_2 : List UInt8 := [42, 27, 182, 0, 176, 3, 172, 42, 27, 42, 27, 182, 0, 123, 182, 0, 179, 61, 28, 153, 0, 10, 42, 27]
abbrev dktX2_lotHour_2 : List UInt8 := dkwX2_lotHour_2 ++ dktX2_lotHour_3
def dkwX2_lotHour_1 : List UInt8 := [170, 0, 0, 0, 0, 83, 0, 0, 0, 1, 0, 0, 0, 4, 0, 0, 0, 30, 0, 0, 0, 37, 0, 0, 0, 37, 0, 0, 0, 69]
abbrev dktX2_lotHour_1 : List UInt8 := dkwX2_lotHour_1 ++ dktX2_lotHour_2
def dkwX2_lotHour_0 : List UInt8 := [42, 180, 0, 30, 27, 46]
abbrev dktX2_lotHour_0 : List UInt8 := dkwX2_lotHour_0 ++ dktX2_lotHour_1
theorem dksX2_lotHour_0 : cX2_lotHour.data.toList.drop 0 = dktX2_lotHour_0 := by decide +kernel
theorem dksX2_lotHour_1 : cX2_lotHour.data.toList.drop 6 = dktX2_lotHour_1 := dk_seg dksX2_lotHour_0 6 rfl rfl
theorem dksX2_lotHour_2 : cX2_lotHour.data.toList.drop 36 = dktX2_lotHour_2 := dk_seg dksX2_lotHour_1 30 rfl rfl
theorem dksX2_lotHour_3 : cX2_lotHour.data.toList.drop 60 = dktX2_lotHour_3 := dk_seg dksX2_lotHour_2 24 rfl rfl
theorem dksX2_lotHour_4 : cX2_lotHour.data.toList.drop 84 = dktX2_lotHour_4 := dk_seg dksX2_lotHour_3 24 rfl rfl
theorem dX2_lotHour_0 : decode cX2_lotHour 0 = .ok (.aload_n 0, 1) := dk_42 (dk_at dksX2_lotHour_0 0 rfl rfl)
theorem dX2_lotHour_1 : decode cX2_lotHour 1 = .ok (.getfield 30, 3) := dk_180 0 30 (dk_at dksX2_lotHour_0 1 rfl rfl)
theorem dX2_lotHour_4 : decode cX2_lotHour 4 = .ok (.iload_n 1, 1) := dk_27 (dk_at dksX2_lotHour_0 4 rfl rfl)
theorem dX2_lotHour_5 : decode cX2_lotHour 5 = .ok (.iaload, 1) := dk_46 (dk_at dksX2_lotHour_0 5 rfl rfl)
theorem dX2_lotHour_6 : decode cX2_lotHour 6 = .ok (.tableswitch 83 1 4 #[30, 37, 37, 69], 30) := by decide +kernel
theorem dX2_lotHour_36 : decode cX2_lotHour 36 = .ok (.aload_n 0, 1) := dk_42 (dk_at dksX2_lotHour_2 0 rfl rfl)
theorem dX2_lotHour_37 : decode cX2_lotHour 37 = .ok (.iload_n 1, 1) := dk_27 (dk_at dksX2_lotHour_2 1 rfl rfl)
theorem dX2_lotHour_38 : decode cX2_lotHour 38 = .ok (.invokevirtual 176, 3) := dk_182 0 176 (dk_at dksX2_lotHour_2 2 rfl rfl)
theorem dX2_lotHour_41 : decode cX2_lotHour 41 = .ok (.iconst 0, 1) := dk_3 (dk_at dksX2_lotHour_2 5 rfl rfl)
theorem dX2_lotHour_42 : decode cX2_lotHour 42 = .ok (.ireturn, 1) := dk_172 (dk_at dksX2_lotHour_2 6 rfl rfl)
theorem dX2_lotHour_43 : decode cX2_lotHour 43 = .ok (.aload_n 0, 1) := dk_42 (dk_at dksX2_lotHour_2 7 rfl rfl)
theorem dX2_lotHour_44 : decode cX2_lotHour 44 = .ok (.iload_n 1, 1) := dk_27 (dk_at dksX2_lotHour_2 8 rfl rfl)
theorem dX2_lotHour_45 : decode cX2_lotHour 45 = .ok (.aload_n 0, 1) := dk_42 (dk_at dksX2_lotHour_2 9 rfl rfl)
theorem dX2_lotHour_46 : decode cX2_lotHour 46 = .ok (.iload_n 1, 1) := dk_27 (dk_at dksX2_lotHour_2 10 rfl rfl)
theorem dX2_lotHour_47 : decode cX2_lotHour 47 = .ok (.invokevirtual 123, 3) := dk_182 0 123 (dk_at dksX2_lotHour_2 11 rfl rfl)
theorem dX2_lotHour_50 : decode cX2_lotHour 50 = .ok (.invokevirtual 179, 3) := dk_182 0 179 (dk_at dksX2_lotHour_2 14 rfl rfl)
theorem dX2_lotHour_53 : decode cX2_lotHour 53 = .ok (.istore_n 2, 1) := dk_61 (dk_at dksX2_lotHour_2 17 rfl rfl)
theorem dX2_lotHour_54 : decode cX2_lotHour 54 = .ok (.iload_n 2, 1) := dk_28 (dk_at dksX2_lotHour_2 18 rfl rfl)
theorem dX2_lotHour_55 : decode cX2_lotHour 55 = .ok (.ifCond .eq 10, 3) := dk_153 0 10 (dk_at dksX2_lotHour_2 19 rfl rfl)
theorem dX2_lotHour_58 : decode cX2_lotHour 58 = .ok (.aload_n 0, 1) := dk_42 (dk_at dksX2_lotHour_2 22 rfl rfl)
theorem dX2_lotHour_59 : decode cX2_lotHour 59 = .ok (.iload_n 1, 1) := dk_27 (dk_at dksX2_lotHour_2 23 rfl rfl)
theorem dX2_lotHour_60 : decode cX2_lotHour 60 = .ok (.bipush 6, 2) := dk_16 6 (dk_at dksX2_lotHour_3 0 rfl rfl)
theorem dX2_lotHour_62 : decode cX2_lotHour 62 = .ok (.invokevirtual 148, 3) := dk_182 0 148 (dk_at dksX2_lotHour_3 2 rfl rfl)
theorem dX2_lotHour_65 : decode cX2_lotHour 65 = .ok (.iload_n 2, 1) := dk_28 (dk_at dksX2_lotHour_3 5 rfl rfl)
theorem dX2_lotHour_66 : decode cX2_lotHour 66 = .ok (.ifCond .eq 7, 3) := dk_153 0 7 (dk_at dksX2_lotHour_3 6 rfl rfl)
theorem dX2_lotHour_69 : decode cX2_lotHour 69 = .ok (.iconst 1, 1) := dk_4 (dk_at dksX2_lotHour_3 9 rfl rfl)
theorem dX2_lotHour_70 : decode cX2_lotHour 70 = .ok (.goto 4, 3) := dk_167 0 4 (dk_at dksX2_lotHour_3 10 rfl rfl)
theorem dX2_lotHour_73 : decode cX2_lotHour 73 = .ok (.iconst 0, 1) := dk_3 (dk_at dksX2_lotHour_3 13 rfl rfl)
theorem dX2_lotHour_74 : decode cX2_lotHour 74 = .ok (.ireturn, 1) := dk_172 (dk_at dksX2_lotHour_3 14 rfl rfl)
theorem dX2_lotHour_75 : decode cX2_lotHour 75 = .ok (.aload_n 0, 1) := dk_42 (dk_at dksX2_lotHour_3 15 rfl rfl)
theorem dX2_lotHour_76 : decode cX2_lotHour 76 = .ok (.getfield 78, 3) := dk_180 0 78 (dk_at dksX2_lotHour_3 16 rfl rfl)
theorem dX2_lotHour_79 : decode cX2_lotHour 79 = .ok (.ifCond .eq 8, 3) := dk_153 0 8 (dk_at dksX2_lotHour_3 19 rfl rfl)
theorem dX2_lotHour_82 : decode cX2_lotHour 82 = .ok (.aload_n 0, 1) := dk_42 (dk_at dksX2_lotHour_3 22 rfl rfl)
theorem dX2_lotHour_83 : decode cX2_lotHour 83 = .ok (.iload_n 1, 1) := dk_27 (dk_at dksX2_lotHour_3 23 rfl rfl)
theorem dX2_lotHour_84 : decode cX2_lotHour 84 = .ok (.invokevirtual 183, 3) := dk_182 0 183 (dk_at dksX2_lotHour_4 0 rfl rfl)
theorem dX2_lotHour_87 : decode cX2_lotHour 87 = .ok (.iconst 0, 1) := dk_3 (dk_at dksX2_lotHour_4 3 rfl rfl)
theorem dX2_lotHour_88 : decode cX2_lotHour 88 = .ok (.ireturn, 1) := dk_172 (dk_at dksX2_lotHour_4 4 rfl rfl)
theorem dX2_lotHour_89 : decode cX2_lotHour 89 = .ok (.iconst 0, 1) := dk_3 (dk_at dksX2_lotHour_4 5 rfl rfl)
theorem dX2_lotHour_90 : decode cX2_lotHour 90 = .ok (.ireturn, 1) := dk_172 (dk_at dksX2_lotHour_4 6 rfl rfl)
abbrev cX2_steepHour : ByteArray := prog_6_method_27_code
def yX2_steepHour : MethodName := ⟨RX2, "steepHour", "(I)V"⟩
def dkwX2_steepHour_2 : List UInt8 := [28, 184, 0, 151, 184, 0, 157, 96, 79, 177]
abbrev dktX2_steepHour_2 : List UInt8 := dkwX2_steepHour_2 ++ []
def dkwX2_steepHour_1 : List UInt8 := [184, 0, 157, 79, 16, 14, 42, 180, 0, 24, 27, 46, 100, 61, 42, 180, 0, 24, 27, 92, 46, 16, 254, 5]
abbrev dktX2_steepHour_1 : List UInt8 := dkwX2_steepHour_1 ++ dktX2_steepHour_2
def dkwX2_steepHour_0 : List UInt8 := [42, 180, 0, 18, 27, 42, 180, 0, 18, 27, 46, 16, 46, 42, 180, 0, 18, 27, 46, 7, 96, 184, 0, 151]
abbrev dktX2_steepHour_0 : List UInt8 := dkwX2_steepHour_0 ++ dktX2_steepHour_1
theorem dksX2_steepHour_0 : cX2_steepHour.data.toList.drop 0 = dktX2_steepHour_0 := by decide +kernel
theorem dksX2_steepHour_1 : cX2_steepHour.data.toList.drop 24 = dktX2_steepHour_1 := dk_seg dksX2_steepHour_0 24 rfl rfl
theorem dksX2_steepHour_2 : cX2_steepHour.data.toList.drop 48 = dktX2_steepHour_2 := dk_seg dksX2_steepHour_1 24 rfl rfl
theorem dX2_steepHour_0 : decode cX2_steepHour 0 = .ok (.aload_n 0, 1) := dk_42 (dk_at dksX2_steepHour_0 0 rfl rfl)
theorem dX2_steepHour_1 : decode cX2_steepHour 1 = .ok (.getfield 18, 3) := dk_180 0 18 (dk_at dksX2_steepHour_0 1 rfl rfl)
theorem dX2_steepHour_4 : decode cX2_steepHour 4 = .ok (.iload_n 1, 1) := dk_27 (dk_at dksX2_steepHour_0 4 rfl rfl)
theorem dX2_steepHour_5 : decode cX2_steepHour 5 = .ok (.aload_n 0, 1) := dk_42 (dk_at dksX2_steepHour_0 5 rfl rfl)
theorem dX2_steepHour_6 : decode cX2_steepHour 6 = .ok (.getfield 18, 3) := dk_180 0 18 (dk_at dksX2_steepHour_0 6 rfl rfl)
theorem dX2_steepHour_9 : decode cX2_steepHour 9 = .ok (.iload_n 1, 1) := dk_27 (dk_at dksX2_steepHour_0 9 rfl rfl)
theorem dX2_steepHour_10 : decode cX2_steepHour 10 = .ok (.iaload, 1) := dk_46 (dk_at dksX2_steepHour_0 10 rfl rfl)
theorem dX2_steepHour_11 : decode cX2_steepHour 11 = .ok (.bipush 46, 2) := dk_16 46 (dk_at dksX2_steepHour_0 11 rfl rfl)
theorem dX2_steepHour_13 : decode cX2_steepHour 13 = .ok (.aload_n 0, 1) := dk_42 (dk_at dksX2_steepHour_0 13 rfl rfl)
theorem dX2_steepHour_14 : decode cX2_steepHour 14 = .ok (.getfield 18, 3) := dk_180 0 18 (dk_at dksX2_steepHour_0 14 rfl rfl)
theorem dX2_steepHour_17 : decode cX2_steepHour 17 = .ok (.iload_n 1, 1) := dk_27 (dk_at dksX2_steepHour_0 17 rfl rfl)
theorem dX2_steepHour_18 : decode cX2_steepHour 18 = .ok (.iaload, 1) := dk_46 (dk_at dksX2_steepHour_0 18 rfl rfl)
theorem dX2_steepHour_19 : decode cX2_steepHour 19 = .ok (.iconst 4, 1) := dk_7 (dk_at dksX2_steepHour_0 19 rfl rfl)
theorem dX2_steepHour_20 : decode cX2_steepHour 20 = .ok (.iadd, 1) := dk_96 (dk_at dksX2_steepHour_0 20 rfl rfl)
theorem dX2_steepHour_21 : decode cX2_steepHour 21 = .ok (.invokestatic 151, 3) := dk_184 0 151 (dk_at dksX2_steepHour_0 21 rfl rfl)
theorem dX2_steepHour_24 : decode cX2_steepHour 24 = .ok (.invokestatic 157, 3) := dk_184 0 157 (dk_at dksX2_steepHour_1 0 rfl rfl)
theorem dX2_steepHour_27 : decode cX2_steepHour 27 = .ok (.iastore, 1) := dk_79 (dk_at dksX2_steepHour_1 3 rfl rfl)
theorem dX2_steepHour_28 : decode cX2_steepHour 28 = .ok (.bipush 14, 2) := dk_16 14 (dk_at dksX2_steepHour_1 4 rfl rfl)
theorem dX2_steepHour_30 : decode cX2_steepHour 30 = .ok (.aload_n 0, 1) := dk_42 (dk_at dksX2_steepHour_1 6 rfl rfl)
theorem dX2_steepHour_31 : decode cX2_steepHour 31 = .ok (.getfield 24, 3) := dk_180 0 24 (dk_at dksX2_steepHour_1 7 rfl rfl)
theorem dX2_steepHour_34 : decode cX2_steepHour 34 = .ok (.iload_n 1, 1) := dk_27 (dk_at dksX2_steepHour_1 10 rfl rfl)
theorem dX2_steepHour_35 : decode cX2_steepHour 35 = .ok (.iaload, 1) := dk_46 (dk_at dksX2_steepHour_1 11 rfl rfl)
theorem dX2_steepHour_36 : decode cX2_steepHour 36 = .ok (.isub, 1) := dk_100 (dk_at dksX2_steepHour_1 12 rfl rfl)
theorem dX2_steepHour_37 : decode cX2_steepHour 37 = .ok (.istore_n 2, 1) := dk_61 (dk_at dksX2_steepHour_1 13 rfl rfl)
theorem dX2_steepHour_38 : decode cX2_steepHour 38 = .ok (.aload_n 0, 1) := dk_42 (dk_at dksX2_steepHour_1 14 rfl rfl)
theorem dX2_steepHour_39 : decode cX2_steepHour 39 = .ok (.getfield 24, 3) := dk_180 0 24 (dk_at dksX2_steepHour_1 15 rfl rfl)
theorem dX2_steepHour_42 : decode cX2_steepHour 42 = .ok (.iload_n 1, 1) := dk_27 (dk_at dksX2_steepHour_1 18 rfl rfl)
theorem dX2_steepHour_43 : decode cX2_steepHour 43 = .ok (.dup2, 1) := dk_92 (dk_at dksX2_steepHour_1 19 rfl rfl)
theorem dX2_steepHour_44 : decode cX2_steepHour 44 = .ok (.iaload, 1) := dk_46 (dk_at dksX2_steepHour_1 20 rfl rfl)
theorem dX2_steepHour_45 : decode cX2_steepHour 45 = .ok (.bipush (-2), 2) := dk_16 254 (dk_at dksX2_steepHour_1 21 rfl rfl)
theorem dX2_steepHour_47 : decode cX2_steepHour 47 = .ok (.iconst 2, 1) := dk_5 (dk_at dksX2_steepHour_1 23 rfl rfl)
theorem dX2_steepHour_48 : decode cX2_steepHour 48 = .ok (.iload_n 2, 1) := dk_28 (dk_at dksX2_steepHour_2 0 rfl rfl)
theorem dX2_steepHour_49 : decode cX2_steepHour 49 = .ok (.invokestatic 151, 3) := dk_184 0 151 (dk_at dksX2_steepHour_2 1 rfl rfl)
theorem dX2_steepHour_52 : decode cX2_steepHour 52 = .ok (.invokestatic 157, 3) := dk_184 0 157 (dk_at dksX2_steepHour_2 4 rfl rfl)
theorem dX2_steepHour_55 : decode cX2_steepHour 55 = .ok (.iadd, 1) := dk_96 (dk_at dksX2_steepHour_2 7 rfl rfl)
theorem dX2_steepHour_56 : decode cX2_steepHour 56 = .ok (.iastore, 1) := dk_79 (dk_at dksX2_steepHour_2 8 rfl rfl)
theorem dX2_steepHour_57 : decode cX2_steepHour 57 = .ok (.return_, 1) := dk_177 (dk_at dksX2_steepHour_2 9 rfl rfl)
abbrev cX2_bed : ByteArray := prog_6_method_9_code
def yX2_bed : MethodName := ⟨RX2, "bed", "(I)LMaltDrums$Bed;"⟩
def dkwX2_bed_1 : List UInt8 := [180, 0, 45, 176]
abbrev dktX2_bed_1 : List UInt8 := dkwX2_bed_1 ++ []
def dkwX2_bed_0 : List UInt8 := [42, 180, 0, 30, 27, 46, 5, 160, 0, 16, 42, 180, 0, 35, 42, 27, 182, 0, 105, 50, 167, 0, 7, 42]
abbrev dktX2_bed_0 : List UInt8 := dkwX2_bed_0 ++ dktX2_bed_1
theorem dksX2_bed_0 : cX2_bed.data.toList.drop 0 = dktX2_bed_0 := by decide +kernel
theorem dksX2_bed_1 : cX2_bed.data.toList.drop 24 = dktX2_bed_1 := dk_seg dksX2_bed_0 24 rfl rfl
theorem dX2_bed_0 : decode cX2_bed 0 = .ok (.aload_n 0, 1) := dk_42 (dk_at dksX2_bed_0 0 rfl rfl)
theorem dX2_bed_1 : decode cX2_bed 1 = .ok (.getfield 30, 3) := dk_180 0 30 (dk_at dksX2_bed_0 1 rfl rfl)
theorem dX2_bed_4 : decode cX2_bed 4 = .ok (.iload_n 1, 1) := dk_27 (dk_at dksX2_bed_0 4 rfl rfl)
theorem dX2_bed_5 : decode cX2_bed 5 = .ok (.iaload, 1) := dk_46 (dk_at dksX2_bed_0 5 rfl rfl)
theorem dX2_bed_6 : decode cX2_bed 6 = .ok (.iconst 2, 1) := dk_5 (dk_at dksX2_bed_0 6 rfl rfl)
theorem dX2_bed_7 : decode cX2_bed 7 = .ok (.if_icmp .ne 16, 3) := dk_160 0 16 (dk_at dksX2_bed_0 7 rfl rfl)
theorem dX2_bed_10 : decode cX2_bed 10 = .ok (.aload_n 0, 1) := dk_42 (dk_at dksX2_bed_0 10 rfl rfl)
theorem dX2_bed_11 : decode cX2_bed 11 = .ok (.getfield 35, 3) := dk_180 0 35 (dk_at dksX2_bed_0 11 rfl rfl)
theorem dX2_bed_14 : decode cX2_bed 14 = .ok (.aload_n 0, 1) := dk_42 (dk_at dksX2_bed_0 14 rfl rfl)
theorem dX2_bed_15 : decode cX2_bed 15 = .ok (.iload_n 1, 1) := dk_27 (dk_at dksX2_bed_0 15 rfl rfl)
theorem dX2_bed_16 : decode cX2_bed 16 = .ok (.invokevirtual 105, 3) := dk_182 0 105 (dk_at dksX2_bed_0 16 rfl rfl)
theorem dX2_bed_19 : decode cX2_bed 19 = .ok (.aaload, 1) := dk_50 (dk_at dksX2_bed_0 19 rfl rfl)
theorem dX2_bed_20 : decode cX2_bed 20 = .ok (.goto 7, 3) := dk_167 0 7 (dk_at dksX2_bed_0 20 rfl rfl)
theorem dX2_bed_23 : decode cX2_bed 23 = .ok (.aload_n 0, 1) := dk_42 (dk_at dksX2_bed_0 23 rfl rfl)
theorem dX2_bed_24 : decode cX2_bed 24 = .ok (.getfield 45, 3) := dk_180 0 45 (dk_at dksX2_bed_1 0 rfl rfl)
theorem dX2_bed_27 : decode cX2_bed 27 = .ok (.areturn, 1) := dk_176 (dk_at dksX2_bed_1 3 rfl rfl)
abbrev cX2_drumOf : ByteArray := prog_6_method_8_code
def yX2_drumOf : MethodName := ⟨RX2, "drumOf", "(I)I"⟩
def dkwX2_drumOf_1 : List UInt8 := [167, 0, 4, 28, 61, 132, 3, 1, 167, 255, 229, 28, 172]
abbrev dktX2_drumOf_1 : List UInt8 := dkwX2_drumOf_1 ++ []
def dkwX2_drumOf_0 : List UInt8 := [2, 61, 3, 62, 29, 7, 162, 0, 28, 42, 180, 0, 35, 29, 50, 180, 0, 102, 27, 160, 0, 7, 29]
abbrev dktX2_drumOf_0 : List UInt8 := dkwX2_drumOf_0 ++ dktX2_drumOf_1
theorem dksX2_drumOf_0 : cX2_drumOf.data.toList.drop 0 = dktX2_drumOf_0 := by decide +kernel
theorem dksX2_drumOf_1 : cX2_drumOf.data.toList.drop 23 = dktX2_drumOf_1 := dk_seg dksX2_drumOf_0 23 rfl rfl
theorem dX2_drumOf_0 : decode cX2_drumOf 0 = .ok (.iconst (-1), 1) := dk_2 (dk_at dksX2_drumOf_0 0 rfl rfl)
theorem dX2_drumOf_1 : decode cX2_drumOf 1 = .ok (.istore_n 2, 1) := dk_61 (dk_at dksX2_drumOf_0 1 rfl rfl)
theorem dX2_drumOf_2 : decode cX2_drumOf 2 = .ok (.iconst 0, 1) := dk_3 (dk_at dksX2_drumOf_0 2 rfl rfl)
theorem dX2_drumOf_3 : decode cX2_drumOf 3 = .ok (.istore_n 3, 1) := dk_62 (dk_at dksX2_drumOf_0 3 rfl rfl)
theorem dX2_drumOf_4 : decode cX2_drumOf 4 = .ok (.iload_n 3, 1) := dk_29 (dk_at dksX2_drumOf_0 4 rfl rfl)
theorem dX2_drumOf_5 : decode cX2_drumOf 5 = .ok (.iconst 4, 1) := dk_7 (dk_at dksX2_drumOf_0 5 rfl rfl)
theorem dX2_drumOf_6 : decode cX2_drumOf 6 = .ok (.if_icmp .ge 28, 3) := dk_162 0 28 (dk_at dksX2_drumOf_0 6 rfl rfl)
theorem dX2_drumOf_9 : decode cX2_drumOf 9 = .ok (.aload_n 0, 1) := dk_42 (dk_at dksX2_drumOf_0 9 rfl rfl)
theorem dX2_drumOf_10 : decode cX2_drumOf 10 = .ok (.getfield 35, 3) := dk_180 0 35 (dk_at dksX2_drumOf_0 10 rfl rfl)
theorem dX2_drumOf_13 : decode cX2_drumOf 13 = .ok (.iload_n 3, 1) := dk_29 (dk_at dksX2_drumOf_0 13 rfl rfl)
theorem dX2_drumOf_14 : decode cX2_drumOf 14 = .ok (.aaload, 1) := dk_50 (dk_at dksX2_drumOf_0 14 rfl rfl)
theorem dX2_drumOf_15 : decode cX2_drumOf 15 = .ok (.getfield 102, 3) := dk_180 0 102 (dk_at dksX2_drumOf_0 15 rfl rfl)
theorem dX2_drumOf_18 : decode cX2_drumOf 18 = .ok (.iload_n 1, 1) := dk_27 (dk_at dksX2_drumOf_0 18 rfl rfl)
theorem dX2_drumOf_19 : decode cX2_drumOf 19 = .ok (.if_icmp .ne 7, 3) := dk_160 0 7 (dk_at dksX2_drumOf_0 19 rfl rfl)
theorem dX2_drumOf_22 : decode cX2_drumOf 22 = .ok (.iload_n 3, 1) := dk_29 (dk_at dksX2_drumOf_0 22 rfl rfl)
theorem dX2_drumOf_23 : decode cX2_drumOf 23 = .ok (.goto 4, 3) := dk_167 0 4 (dk_at dksX2_drumOf_1 0 rfl rfl)
theorem dX2_drumOf_26 : decode cX2_drumOf 26 = .ok (.iload_n 2, 1) := dk_28 (dk_at dksX2_drumOf_1 3 rfl rfl)
theorem dX2_drumOf_27 : decode cX2_drumOf 27 = .ok (.istore_n 2, 1) := dk_61 (dk_at dksX2_drumOf_1 4 rfl rfl)
theorem dX2_drumOf_28 : decode cX2_drumOf 28 = .ok (.iinc 3 1, 3) := dk_132 3 1 (dk_at dksX2_drumOf_1 5 rfl rfl)
theorem dX2_drumOf_31 : decode cX2_drumOf 31 = .ok (.goto (-27), 3) := dk_167 255 229 (dk_at dksX2_drumOf_1 8 rfl rfl)
theorem dX2_drumOf_34 : decode cX2_drumOf 34 = .ok (.iload_n 2, 1) := dk_28 (dk_at dksX2_drumOf_1 11 rfl rfl)
theorem dX2_drumOf_35 : decode cX2_drumOf 35 = .ok (.ireturn, 1) := dk_172 (dk_at dksX2_drumOf_1 12 rfl rfl)
abbrev cX2_growHour : ByteArray := prog_6_method_28_code
def yX2_growHour : MethodName := ⟨RX2, "growHour", "(ILMaltDrums$Bed;)Z"⟩
def dkwX2_growHour_12 : List UInt8 := [16, 42, 164, 0, 7, 4, 167, 0, 4, 3, 172]
abbrev dktX2_growHour_12 : List UInt8 := dkwX2_growHour_12 ++ []
def dkwX2_growHour_11 : List UInt8 := [167, 0, 16, 16, 20, 42, 180, 0, 27, 27, 46, 4, 96, 184, 0, 151, 79, 42, 180, 0, 24, 27, 46]
abbrev dktX2_growHour_11 : List UInt8 := dkwX2_growHour_11 ++ dktX2_growHour_12
def dkwX2_growHour_10 : List UInt8 := [158, 0, 25, 3, 42, 180, 0, 27, 27, 46, 6, 44, 185, 0, 127, 1, 0, 104, 100, 184, 0, 157]
abbrev dktX2_growHour_10 : List UInt8 := dkwX2_growHour_10 ++ dktX2_growHour_11
def dkwX2_growHour_9 : List UInt8 := [44, 185, 0, 127, 1, 0, 100, 184, 0, 157, 79, 42, 180, 0, 27, 27, 44, 185, 0, 127, 1, 0]
abbrev dktX2_growHour_9 : List UInt8 := dkwX2_growHour_9 ++ dktX2_growHour_10
def dkwX2_growHour_8 : List UInt8 := [180, 0, 24, 27, 16, 10, 42, 180, 0, 24, 27, 46, 21, 8, 96, 5, 44, 185, 0, 163, 1, 0, 104, 100]
abbrev dktX2_growHour_8 : List UInt8 := dkwX2_growHour_8 ++ dktX2_growHour_9
def dkwX2_growHour_7 : List UInt8 := [4, 167, 0, 4, 3, 96, 44, 185, 0, 169, 1, 0, 153, 0, 7, 4, 167, 0, 4, 3, 96, 54, 8, 42]
abbrev dktX2_growHour_7 : List UInt8 := dkwX2_growHour_7 ++ dktX2_growHour_8
def dkwX2_growHour_6 : List UInt8 := [167, 0, 17, 16, 12, 42, 180, 0, 18, 27, 46, 21, 7, 100, 184, 0, 157, 79, 29, 21, 4, 153, 0, 7]
abbrev dktX2_growHour_6 : List UInt8 := dkwX2_growHour_6 ++ dktX2_growHour_7
def dkwX2_growHour_5 : List UInt8 := [100, 184, 0, 157, 54, 7, 42, 180, 0, 18, 27, 21, 7, 154, 0, 12, 42, 180, 0, 18, 27, 46]
abbrev dktX2_growHour_5 : List UInt8 := dkwX2_growHour_5 ++ dktX2_growHour_6
def dkwX2_growHour_4 : List UInt8 := [42, 89, 180, 0, 88, 21, 5, 96, 181, 0, 88, 3, 44, 185, 0, 163, 1, 0, 44, 185, 0, 166, 1, 0]
abbrev dktX2_growHour_4 : List UInt8 := dkwX2_growHour_4 ++ dktX2_growHour_5
def dkwX2_growHour_3 : List UInt8 := [180, 0, 9, 27, 92, 46, 21, 5, 21, 6, 96, 100, 79, 42, 180, 0, 15, 27, 92, 46, 21, 6, 96, 79]
abbrev dktX2_growHour_3 : List UInt8 := dkwX2_growHour_3 ++ dktX2_growHour_4
def dkwX2_growHour_2 : List UInt8 := [46, 29, 104, 17, 3, 32, 108, 54, 5, 42, 180, 0, 9, 27, 46, 29, 104, 17, 1, 44, 108, 54, 6, 42]
abbrev dktX2_growHour_2 : List UInt8 := dkwX2_growHour_2 ++ dktX2_growHour_3
def dkwX2_growHour_1 : List UInt8 := [42, 180, 0, 21, 27, 16, 100, 42, 180, 0, 21, 27, 46, 29, 96, 184, 0, 151, 79, 42, 180, 0, 9, 27]
abbrev dktX2_growHour_1 : List UInt8 := dkwX2_growHour_1 ++ dktX2_growHour_2
def dkwX2_growHour_0 : List UInt8 := [42, 27, 182, 0, 160, 62, 42, 180, 0, 27, 27, 46, 16, 8, 161, 0, 7, 4, 167, 0, 4, 3, 54, 4]
abbrev dktX2_growHour_0 : List UInt8 := dkwX2_growHour_0 ++ dktX2_growHour_1
theorem dksX2_growHour_0 : cX2_growHour.data.toList.drop 0 = dktX2_growHour_0 := by decide +kernel
theorem dksX2_growHour_1 : cX2_growHour.data.toList.drop 24 = dktX2_growHour_1 := dk_seg dksX2_growHour_0 24 rfl rfl
theorem dksX2_growHour_2 : cX2_growHour.data.toList.drop 48 = dktX2_growHour_2 := dk_seg dksX2_growHour_1 24 rfl rfl
theorem dksX2_growHour_3 : cX2_growHour.data.toList.drop 72 = dktX2_growHour_3 := dk_seg dksX2_growHour_2 24 rfl rfl
theorem dksX2_growHour_4 : cX2_growHour.data.toList.drop 96 = dktX2_growHour_4 := dk_seg dksX2_growHour_3 24 rfl rfl
theorem dksX2_growHour_5 : cX2_growHour.data.toList.drop 120 = dktX2_growHour_5 := dk_seg dksX2_growHour_4 24 rfl rfl
theorem dksX2_growHour_6 : cX2_growHour.data.toList.drop 142 = dktX2_growHour_6 := dk_seg dksX2_growHour_5 22 rfl rfl
theorem dksX2_growHour_7 : cX2_growHour.data.toList.drop 166 = dktX2_growHour_7 := dk_seg dksX2_growHour_6 24 rfl rfl
theorem dksX2_growHour_8 : cX2_growHour.data.toList.drop 190 = dktX2_growHour_8 := dk_seg dksX2_growHour_7 24 rfl rfl
theorem dksX2_growHour_9 : cX2_growHour.data.toList.drop 214 = dktX2_growHour_9 := dk_seg dksX2_growHour_8 24 rfl rfl
theorem dksX2_growHour_10 : cX2_growHour.data.toList.drop 236 = dktX2_growHour_10 := dk_seg dksX2_growHour_9 22 rfl rfl
theorem dksX2_growHour_11 : cX2_growHour.data.toList.drop 258 = dktX2_growHour_11 := dk_seg dksX2_growHour_10 22 rfl rfl
theorem dksX2_growHour_12 : cX2_growHour.data.toList.drop 281 = dktX2_growHour_12 := dk_seg dksX2_growHour_11 23 rfl rfl
theorem dX2_growHour_0 : decode cX2_growHour 0 = .ok (.aload_n 0, 1) := dk_42 (dk_at dksX2_growHour_0 0 rfl rfl)
theorem dX2_growHour_1 : decode cX2_growHour 1 = .ok (.iload_n 1, 1) := dk_27 (dk_at dksX2_growHour_0 1 rfl rfl)
theorem dX2_growHour_2 : decode cX2_growHour 2 = .ok (.invokevirtual 160, 3) := dk_182 0 160 (dk_at dksX2_growHour_0 2 rfl rfl)
theorem dX2_growHour_5 : decode cX2_growHour 5 = .ok (.istore_n 3, 1) := dk_62 (dk_at dksX2_growHour_0 5 rfl rfl)
theorem dX2_growHour_6 : decode cX2_growHour 6 = .ok (.aload_n 0, 1) := dk_42 (dk_at dksX2_growHour_0 6 rfl rfl)
theorem dX2_growHour_7 : decode cX2_growHour 7 = .ok (.getfield 27, 3) := dk_180 0 27 (dk_at dksX2_growHour_0 7 rfl rfl)
theorem dX2_growHour_10 : decode cX2_growHour 10 = .ok (.iload_n 1, 1) := dk_27 (dk_at dksX2_growHour_0 10 rfl rfl)
theorem dX2_growHour_11 : decode cX2_growHour 11 = .ok (.iaload, 1) := dk_46 (dk_at dksX2_growHour_0 11 rfl rfl)
theorem dX2_growHour_12 : decode cX2_growHour 12 = .ok (.bipush 8, 2) := dk_16 8 (dk_at dksX2_growHour_0 12 rfl rfl)
theorem dX2_growHour_14 : decode cX2_growHour 14 = .ok (.if_icmp .lt 7, 3) := dk_161 0 7 (dk_at dksX2_growHour_0 14 rfl rfl)
theorem dX2_growHour_17 : decode cX2_growHour 17 = .ok (.iconst 1, 1) := dk_4 (dk_at dksX2_growHour_0 17 rfl rfl)
theorem dX2_growHour_18 : decode cX2_growHour 18 = .ok (.goto 4, 3) := dk_167 0 4 (dk_at dksX2_growHour_0 18 rfl rfl)
theorem dX2_growHour_21 : decode cX2_growHour 21 = .ok (.iconst 0, 1) := dk_3 (dk_at dksX2_growHour_0 21 rfl rfl)
theorem dX2_growHour_22 : decode cX2_growHour 22 = .ok (.istore 4, 2) := dk_54 4 (dk_at dksX2_growHour_0 22 rfl rfl)
theorem dX2_growHour_24 : decode cX2_growHour 24 = .ok (.aload_n 0, 1) := dk_42 (dk_at dksX2_growHour_1 0 rfl rfl)
theorem dX2_growHour_25 : decode cX2_growHour 25 = .ok (.getfield 21, 3) := dk_180 0 21 (dk_at dksX2_growHour_1 1 rfl rfl)
theorem dX2_growHour_28 : decode cX2_growHour 28 = .ok (.iload_n 1, 1) := dk_27 (dk_at dksX2_growHour_1 4 rfl rfl)
theorem dX2_growHour_29 : decode cX2_growHour 29 = .ok (.bipush 100, 2) := dk_16 100 (dk_at dksX2_growHour_1 5 rfl rfl)
theorem dX2_growHour_31 : decode cX2_growHour 31 = .ok (.aload_n 0, 1) := dk_42 (dk_at dksX2_growHour_1 7 rfl rfl)
theorem dX2_growHour_32 : decode cX2_growHour 32 = .ok (.getfield 21, 3) := dk_180 0 21 (dk_at dksX2_growHour_1 8 rfl rfl)
theorem dX2_growHour_35 : decode cX2_growHour 35 = .ok (.iload_n 1, 1) := dk_27 (dk_at dksX2_growHour_1 11 rfl rfl)
theorem dX2_growHour_36 : decode cX2_growHour 36 = .ok (.iaload, 1) := dk_46 (dk_at dksX2_growHour_1 12 rfl rfl)
theorem dX2_growHour_37 : decode cX2_growHour 37 = .ok (.iload_n 3, 1) := dk_29 (dk_at dksX2_growHour_1 13 rfl rfl)
theorem dX2_growHour_38 : decode cX2_growHour 38 = .ok (.iadd, 1) := dk_96 (dk_at dksX2_growHour_1 14 rfl rfl)
theorem dX2_growHour_39 : decode cX2_growHour 39 = .ok (.invokestatic 151, 3) := dk_184 0 151 (dk_at dksX2_growHour_1 15 rfl rfl)
theorem dX2_growHour_42 : decode cX2_growHour 42 = .ok (.iastore, 1) := dk_79 (dk_at dksX2_growHour_1 18 rfl rfl)
theorem dX2_growHour_43 : decode cX2_growHour 43 = .ok (.aload_n 0, 1) := dk_42 (dk_at dksX2_growHour_1 19 rfl rfl)
theorem dX2_growHour_44 : decode cX2_growHour 44 = .ok (.getfield 9, 3) := dk_180 0 9 (dk_at dksX2_growHour_1 20 rfl rfl)
theorem dX2_growHour_47 : decode cX2_growHour 47 = .ok (.iload_n 1, 1) := dk_27 (dk_at dksX2_growHour_1 23 rfl rfl)
theorem dX2_growHour_48 : decode cX2_growHour 48 = .ok (.iaload, 1) := dk_46 (dk_at dksX2_growHour_2 0 rfl rfl)
theorem dX2_growHour_49 : decode cX2_growHour 49 = .ok (.iload_n 3, 1) := dk_29 (dk_at dksX2_growHour_2 1 rfl rfl)
theorem dX2_growHour_50 : decode cX2_growHour 50 = .ok (.imul, 1) := dk_104 (dk_at dksX2_growHour_2 2 rfl rfl)
theorem dX2_growHour_51 : decode cX2_growHour 51 = .ok (.sipush 800, 3) := dk_17 3 32 (dk_at dksX2_growHour_2 3 rfl rfl)
theorem dX2_growHour_54 : decode cX2_growHour 54 = .ok (.idiv, 1) := dk_108 (dk_at dksX2_growHour_2 6 rfl rfl)
theorem dX2_growHour_55 : decode cX2_growHour 55 = .ok (.istore 5, 2) := dk_54 5 (dk_at dksX2_growHour_2 7 rfl rfl)
theorem dX2_growHour_57 : decode cX2_growHour 57 = .ok (.aload_n 0, 1) := dk_42 (dk_at dksX2_growHour_2 9 rfl rfl)
theorem dX2_growHour_58 : decode cX2_growHour 58 = .ok (.getfield 9, 3) := dk_180 0 9 (dk_at dksX2_growHour_2 10 rfl rfl)
theorem dX2_growHour_61 : decode cX2_growHour 61 = .ok (.iload_n 1, 1) := dk_27 (dk_at dksX2_growHour_2 13 rfl rfl)
theorem dX2_growHour_62 : decode cX2_growHour 62 = .ok (.iaload, 1) := dk_46 (dk_at dksX2_growHour_2 14 rfl rfl)
theorem dX2_growHour_63 : decode cX2_growHour 63 = .ok (.iload_n 3, 1) := dk_29 (dk_at dksX2_growHour_2 15 rfl rfl)
theorem dX2_growHour_64 : decode cX2_growHour 64 = .ok (.imul, 1) := dk_104 (dk_at dksX2_growHour_2 16 rfl rfl)
theorem dX2_growHour_65 : decode cX2_growHour 65 = .ok (.sipush 300, 3) := dk_17 1 44 (dk_at dksX2_growHour_2 17 rfl rfl)
theorem dX2_growHour_68 : decode cX2_growHour 68 = .ok (.idiv, 1) := dk_108 (dk_at dksX2_growHour_2 20 rfl rfl)
theorem dX2_growHour_69 : decode cX2_growHour 69 = .ok (.istore 6, 2) := dk_54 6 (dk_at dksX2_growHour_2 21 rfl rfl)
theorem dX2_growHour_71 : decode cX2_growHour 71 = .ok (.aload_n 0, 1) := dk_42 (dk_at dksX2_growHour_2 23 rfl rfl)
theorem dX2_growHour_72 : decode cX2_growHour 72 = .ok (.getfield 9, 3) := dk_180 0 9 (dk_at dksX2_growHour_3 0 rfl rfl)
theorem dX2_growHour_75 : decode cX2_growHour 75 = .ok (.iload_n 1, 1) := dk_27 (dk_at dksX2_growHour_3 3 rfl rfl)
theorem dX2_growHour_76 : decode cX2_growHour 76 = .ok (.dup2, 1) := dk_92 (dk_at dksX2_growHour_3 4 rfl rfl)
theorem dX2_growHour_77 : decode cX2_growHour 77 = .ok (.iaload, 1) := dk_46 (dk_at dksX2_growHour_3 5 rfl rfl)
theorem dX2_growHour_78 : decode cX2_growHour 78 = .ok (.iload 5, 2) := dk_21 5 (dk_at dksX2_growHour_3 6 rfl rfl)
theorem dX2_growHour_80 : decode cX2_growHour 80 = .ok (.iload 6, 2) := dk_21 6 (dk_at dksX2_growHour_3 8 rfl rfl)
theorem dX2_growHour_82 : decode cX2_growHour 82 = .ok (.iadd, 1) := dk_96 (dk_at dksX2_growHour_3 10 rfl rfl)
theorem dX2_growHour_83 : decode cX2_growHour 83 = .ok (.isub, 1) := dk_100 (dk_at dksX2_growHour_3 11 rfl rfl)
theorem dX2_growHour_84 : decode cX2_growHour 84 = .ok (.iastore, 1) := dk_79 (dk_at dksX2_growHour_3 12 rfl rfl)
theorem dX2_growHour_85 : decode cX2_growHour 85 = .ok (.aload_n 0, 1) := dk_42 (dk_at dksX2_growHour_3 13 rfl rfl)
theorem dX2_growHour_86 : decode cX2_growHour 86 = .ok (.getfield 15, 3) := dk_180 0 15 (dk_at dksX2_growHour_3 14 rfl rfl)
theorem dX2_growHour_89 : decode cX2_growHour 89 = .ok (.iload_n 1, 1) := dk_27 (dk_at dksX2_growHour_3 17 rfl rfl)
theorem dX2_growHour_90 : decode cX2_growHour 90 = .ok (.dup2, 1) := dk_92 (dk_at dksX2_growHour_3 18 rfl rfl)
theorem dX2_growHour_91 : decode cX2_growHour 91 = .ok (.iaload, 1) := dk_46 (dk_at dksX2_growHour_3 19 rfl rfl)
theorem dX2_growHour_92 : decode cX2_growHour 92 = .ok (.iload 6, 2) := dk_21 6 (dk_at dksX2_growHour_3 20 rfl rfl)
theorem dX2_growHour_94 : decode cX2_growHour 94 = .ok (.iadd, 1) := dk_96 (dk_at dksX2_growHour_3 22 rfl rfl)
theorem dX2_growHour_95 : decode cX2_growHour 95 = .ok (.iastore, 1) := dk_79 (dk_at dksX2_growHour_3 23 rfl rfl)
theorem dX2_growHour_96 : decode cX2_growHour 96 = .ok (.aload_n 0, 1) := dk_42 (dk_at dksX2_growHour_4 0 rfl rfl)
theorem dX2_growHour_97 : decode cX2_growHour 97 = .ok (.dup, 1) := dk_89 (dk_at dksX2_growHour_4 1 rfl rfl)
theorem dX2_growHour_98 : decode cX2_growHour 98 = .ok (.getfield 88, 3) := dk_180 0 88 (dk_at dksX2_growHour_4 2 rfl rfl)
theorem dX2_growHour_101 : decode cX2_growHour 101 = .ok (.iload 5, 2) := dk_21 5 (dk_at dksX2_growHour_4 5 rfl rfl)
theorem dX2_growHour_103 : decode cX2_growHour 103 = .ok (.iadd, 1) := dk_96 (dk_at dksX2_growHour_4 7 rfl rfl)
theorem dX2_growHour_104 : decode cX2_growHour 104 = .ok (.putfield 88, 3) := dk_181 0 88 (dk_at dksX2_growHour_4 8 rfl rfl)
theorem dX2_growHour_107 : decode cX2_growHour 107 = .ok (.iconst 0, 1) := dk_3 (dk_at dksX2_growHour_4 11 rfl rfl)
theorem dX2_growHour_108 : decode cX2_growHour 108 = .ok (.aload_n 2, 1) := dk_44 (dk_at dksX2_growHour_4 12 rfl rfl)
theorem dX2_growHour_109 : decode cX2_growHour 109 = .ok (.invokeinterface 163 1, 5) := by decide +kernel
theorem dX2_growHour_114 : decode cX2_growHour 114 = .ok (.aload_n 2, 1) := dk_44 (dk_at dksX2_growHour_4 18 rfl rfl)
theorem dX2_growHour_115 : decode cX2_growHour 115 = .ok (.invokeinterface 166 1, 5) := by decide +kernel
theorem dX2_growHour_120 : decode cX2_growHour 120 = .ok (.isub, 1) := dk_100 (dk_at dksX2_growHour_5 0 rfl rfl)
theorem dX2_growHour_121 : decode cX2_growHour 121 = .ok (.invokestatic 157, 3) := dk_184 0 157 (dk_at dksX2_growHour_5 1 rfl rfl)
theorem dX2_growHour_124 : decode cX2_growHour 124 = .ok (.istore 7, 2) := dk_54 7 (dk_at dksX2_growHour_5 4 rfl rfl)
theorem dX2_growHour_126 : decode cX2_growHour 126 = .ok (.aload_n 0, 1) := dk_42 (dk_at dksX2_growHour_5 6 rfl rfl)
theorem dX2_growHour_127 : decode cX2_growHour 127 = .ok (.getfield 18, 3) := dk_180 0 18 (dk_at dksX2_growHour_5 7 rfl rfl)
theorem dX2_growHour_130 : decode cX2_growHour 130 = .ok (.iload_n 1, 1) := dk_27 (dk_at dksX2_growHour_5 10 rfl rfl)
theorem dX2_growHour_131 : decode cX2_growHour 131 = .ok (.iload 7, 2) := dk_21 7 (dk_at dksX2_growHour_5 11 rfl rfl)
theorem dX2_growHour_133 : decode cX2_growHour 133 = .ok (.ifCond .ne 12, 3) := dk_154 0 12 (dk_at dksX2_growHour_5 13 rfl rfl)
theorem dX2_growHour_136 : decode cX2_growHour 136 = .ok (.aload_n 0, 1) := dk_42 (dk_at dksX2_growHour_5 16 rfl rfl)
theorem dX2_growHour_137 : decode cX2_growHour 137 = .ok (.getfield 18, 3) := dk_180 0 18 (dk_at dksX2_growHour_5 17 rfl rfl)
theorem dX2_growHour_140 : decode cX2_growHour 140 = .ok (.iload_n 1, 1) := dk_27 (dk_at dksX2_growHour_5 20 rfl rfl)
theorem dX2_growHour_141 : decode cX2_growHour 141 = .ok (.iaload, 1) := dk_46 (dk_at dksX2_growHour_5 21 rfl rfl)
theorem dX2_growHour_142 : decode cX2_growHour 142 = .ok (.goto 17, 3) := dk_167 0 17 (dk_at dksX2_growHour_6 0 rfl rfl)
theorem dX2_growHour_145 : decode cX2_growHour 145 = .ok (.bipush 12, 2) := dk_16 12 (dk_at dksX2_growHour_6 3 rfl rfl)
theorem dX2_growHour_147 : decode cX2_growHour 147 = .ok (.aload_n 0, 1) := dk_42 (dk_at dksX2_growHour_6 5 rfl rfl)
theorem dX2_growHour_148 : decode cX2_growHour 148 = .ok (.getfield 18, 3) := dk_180 0 18 (dk_at dksX2_growHour_6 6 rfl rfl)
theorem dX2_growHour_151 : decode cX2_growHour 151 = .ok (.iload_n 1, 1) := dk_27 (dk_at dksX2_growHour_6 9 rfl rfl)
theorem dX2_growHour_152 : decode cX2_growHour 152 = .ok (.iaload, 1) := dk_46 (dk_at dksX2_growHour_6 10 rfl rfl)
theorem dX2_growHour_153 : decode cX2_growHour 153 = .ok (.iload 7, 2) := dk_21 7 (dk_at dksX2_growHour_6 11 rfl rfl)
theorem dX2_growHour_155 : decode cX2_growHour 155 = .ok (.isub, 1) := dk_100 (dk_at dksX2_growHour_6 13 rfl rfl)
theorem dX2_growHour_156 : decode cX2_growHour 156 = .ok (.invokestatic 157, 3) := dk_184 0 157 (dk_at dksX2_growHour_6 14 rfl rfl)
theorem dX2_growHour_159 : decode cX2_growHour 159 = .ok (.iastore, 1) := dk_79 (dk_at dksX2_growHour_6 17 rfl rfl)
theorem dX2_growHour_160 : decode cX2_growHour 160 = .ok (.iload_n 3, 1) := dk_29 (dk_at dksX2_growHour_6 18 rfl rfl)
theorem dX2_growHour_161 : decode cX2_growHour 161 = .ok (.iload 4, 2) := dk_21 4 (dk_at dksX2_growHour_6 19 rfl rfl)
theorem dX2_growHour_163 : decode cX2_growHour 163 = .ok (.ifCond .eq 7, 3) := dk_153 0 7 (dk_at dksX2_growHour_6 21 rfl rfl)
theorem dX2_growHour_166 : decode cX2_growHour 166 = .ok (.iconst 1, 1) := dk_4 (dk_at dksX2_growHour_7 0 rfl rfl)
theorem dX2_growHour_167 : decode cX2_growHour 167 = .ok (.goto 4, 3) := dk_167 0 4 (dk_at dksX2_growHour_7 1 rfl rfl)
theorem dX2_growHour_170 : decode cX2_growHour 170 = .ok (.iconst 0, 1) := dk_3 (dk_at dksX2_growHour_7 4 rfl rfl)
theorem dX2_growHour_171 : decode cX2_growHour 171 = .ok (.iadd, 1) := dk_96 (dk_at dksX2_growHour_7 5 rfl rfl)
theorem dX2_growHour_172 : decode cX2_growHour 172 = .ok (.aload_n 2, 1) := dk_44 (dk_at dksX2_growHour_7 6 rfl rfl)
theorem dX2_growHour_173 : decode cX2_growHour 173 = .ok (.invokeinterface 169 1, 5) := by decide +kernel
theorem dX2_growHour_178 : decode cX2_growHour 178 = .ok (.ifCond .eq 7, 3) := dk_153 0 7 (dk_at dksX2_growHour_7 12 rfl rfl)
theorem dX2_growHour_181 : decode cX2_growHour 181 = .ok (.iconst 1, 1) := dk_4 (dk_at dksX2_growHour_7 15 rfl rfl)
theorem dX2_growHour_182 : decode cX2_growHour 182 = .ok (.goto 4, 3) := dk_167 0 4 (dk_at dksX2_growHour_7 16 rfl rfl)
theorem dX2_growHour_185 : decode cX2_growHour 185 = .ok (.iconst 0, 1) := dk_3 (dk_at dksX2_growHour_7 19 rfl rfl)
theorem dX2_growHour_186 : decode cX2_growHour 186 = .ok (.iadd, 1) := dk_96 (dk_at dksX2_growHour_7 20 rfl rfl)
theorem dX2_growHour_187 : decode cX2_growHour 187 = .ok (.istore 8, 2) := dk_54 8 (dk_at dksX2_growHour_7 21 rfl rfl)
theorem dX2_growHour_189 : decode cX2_growHour 189 = .ok (.aload_n 0, 1) := dk_42 (dk_at dksX2_growHour_7 23 rfl rfl)
theorem dX2_growHour_190 : decode cX2_growHour 190 = .ok (.getfield 24, 3) := dk_180 0 24 (dk_at dksX2_growHour_8 0 rfl rfl)
theorem dX2_growHour_193 : decode cX2_growHour 193 = .ok (.iload_n 1, 1) := dk_27 (dk_at dksX2_growHour_8 3 rfl rfl)
theorem dX2_growHour_194 : decode cX2_growHour 194 = .ok (.bipush 10, 2) := dk_16 10 (dk_at dksX2_growHour_8 4 rfl rfl)
theorem dX2_growHour_196 : decode cX2_growHour 196 = .ok (.aload_n 0, 1) := dk_42 (dk_at dksX2_growHour_8 6 rfl rfl)
theorem dX2_growHour_197 : decode cX2_growHour 197 = .ok (.getfield 24, 3) := dk_180 0 24 (dk_at dksX2_growHour_8 7 rfl rfl)
theorem dX2_growHour_200 : decode cX2_growHour 200 = .ok (.iload_n 1, 1) := dk_27 (dk_at dksX2_growHour_8 10 rfl rfl)
theorem dX2_growHour_201 : decode cX2_growHour 201 = .ok (.iaload, 1) := dk_46 (dk_at dksX2_growHour_8 11 rfl rfl)
theorem dX2_growHour_202 : decode cX2_growHour 202 = .ok (.iload 8, 2) := dk_21 8 (dk_at dksX2_growHour_8 12 rfl rfl)
theorem dX2_growHour_204 : decode cX2_growHour 204 = .ok (.iadd, 1) := dk_96 (dk_at dksX2_growHour_8 14 rfl rfl)
theorem dX2_growHour_205 : decode cX2_growHour 205 = .ok (.iconst 2, 1) := dk_5 (dk_at dksX2_growHour_8 15 rfl rfl)
theorem dX2_growHour_206 : decode cX2_growHour 206 = .ok (.aload_n 2, 1) := dk_44 (dk_at dksX2_growHour_8 16 rfl rfl)
theorem dX2_growHour_207 : decode cX2_growHour 207 = .ok (.invokeinterface 163 1, 5) := by decide +kernel
theorem dX2_growHour_212 : decode cX2_growHour 212 = .ok (.imul, 1) := dk_104 (dk_at dksX2_growHour_8 22 rfl rfl)
theorem dX2_growHour_213 : decode cX2_growHour 213 = .ok (.isub, 1) := dk_100 (dk_at dksX2_growHour_8 23 rfl rfl)
theorem dX2_growHour_214 : decode cX2_growHour 214 = .ok (.aload_n 2, 1) := dk_44 (dk_at dksX2_growHour_9 0 rfl rfl)
theorem dX2_growHour_215 : decode cX2_growHour 215 = .ok (.invokeinterface 127 1, 5) := by decide +kernel
theorem dX2_growHour_220 : decode cX2_growHour 220 = .ok (.isub, 1) := dk_100 (dk_at dksX2_growHour_9 6 rfl rfl)
theorem dX2_growHour_221 : decode cX2_growHour 221 = .ok (.invokestatic 157, 3) := dk_184 0 157 (dk_at dksX2_growHour_9 7 rfl rfl)
theorem dX2_growHour_224 : decode cX2_growHour 224 = .ok (.iastore, 1) := dk_79 (dk_at dksX2_growHour_9 10 rfl rfl)
theorem dX2_growHour_225 : decode cX2_growHour 225 = .ok (.aload_n 0, 1) := dk_42 (dk_at dksX2_growHour_9 11 rfl rfl)
theorem dX2_growHour_226 : decode cX2_growHour 226 = .ok (.getfield 27, 3) := dk_180 0 27 (dk_at dksX2_growHour_9 12 rfl rfl)
theorem dX2_growHour_229 : decode cX2_growHour 229 = .ok (.iload_n 1, 1) := dk_27 (dk_at dksX2_growHour_9 15 rfl rfl)
theorem dX2_growHour_230 : decode cX2_growHour 230 = .ok (.aload_n 2, 1) := dk_44 (dk_at dksX2_growHour_9 16 rfl rfl)
theorem dX2_growHour_231 : decode cX2_growHour 231 = .ok (.invokeinterface 127 1, 5) := by decide +kernel
theorem dX2_growHour_236 : decode cX2_growHour 236 = .ok (.ifCond .le 25, 3) := dk_158 0 25 (dk_at dksX2_growHour_10 0 rfl rfl)
theorem dX2_growHour_239 : decode cX2_growHour 239 = .ok (.iconst 0, 1) := dk_3 (dk_at dksX2_growHour_10 3 rfl rfl)
theorem dX2_growHour_240 : decode cX2_growHour 240 = .ok (.aload_n 0, 1) := dk_42 (dk_at dksX2_growHour_10 4 rfl rfl)
theorem dX2_growHour_241 : decode cX2_growHour 241 = .ok (.getfield 27, 3) := dk_180 0 27 (dk_at dksX2_growHour_10 5 rfl rfl)
theorem dX2_growHour_244 : decode cX2_growHour 244 = .ok (.iload_n 1, 1) := dk_27 (dk_at dksX2_growHour_10 8 rfl rfl)
theorem dX2_growHour_245 : decode cX2_growHour 245 = .ok (.iaload, 1) := dk_46 (dk_at dksX2_growHour_10 9 rfl rfl)
theorem dX2_growHour_246 : decode cX2_growHour 246 = .ok (.iconst 3, 1) := dk_6 (dk_at dksX2_growHour_10 10 rfl rfl)
theorem dX2_growHour_247 : decode cX2_growHour 247 = .ok (.aload_n 2, 1) := dk_44 (dk_at dksX2_growHour_10 11 rfl rfl)
theorem dX2_growHour_248 : decode cX2_growHour 248 = .ok (.invokeinterface 127 1, 5) := by decide +kernel
theorem dX2_growHour_253 : decode cX2_growHour 253 = .ok (.imul, 1) := dk_104 (dk_at dksX2_growHour_10 17 rfl rfl)
theorem dX2_growHour_254 : decode cX2_growHour 254 = .ok (.isub, 1) := dk_100 (dk_at dksX2_growHour_10 18 rfl rfl)
theorem dX2_growHour_255 : decode cX2_growHour 255 = .ok (.invokestatic 157, 3) := dk_184 0 157 (dk_at dksX2_growHour_10 19 rfl rfl)
theorem dX2_growHour_258 : decode cX2_growHour 258 = .ok (.goto 16, 3) := dk_167 0 16 (dk_at dksX2_growHour_11 0 rfl rfl)
theorem dX2_growHour_261 : decode cX2_growHour 261 = .ok (.bipush 20, 2) := dk_16 20 (dk_at dksX2_growHour_11 3 rfl rfl)
theorem dX2_growHour_263 : decode cX2_growHour 263 = .ok (.aload_n 0, 1) := dk_42 (dk_at dksX2_growHour_11 5 rfl rfl)
theorem dX2_growHour_264 : decode cX2_growHour 264 = .ok (.getfield 27, 3) := dk_180 0 27 (dk_at dksX2_growHour_11 6 rfl rfl)
theorem dX2_growHour_267 : decode cX2_growHour 267 = .ok (.iload_n 1, 1) := dk_27 (dk_at dksX2_growHour_11 9 rfl rfl)
theorem dX2_growHour_268 : decode cX2_growHour 268 = .ok (.iaload, 1) := dk_46 (dk_at dksX2_growHour_11 10 rfl rfl)
theorem dX2_growHour_269 : decode cX2_growHour 269 = .ok (.iconst 1, 1) := dk_4 (dk_at dksX2_growHour_11 11 rfl rfl)
theorem dX2_growHour_270 : decode cX2_growHour 270 = .ok (.iadd, 1) := dk_96 (dk_at dksX2_growHour_11 12 rfl rfl)
theorem dX2_growHour_271 : decode cX2_growHour 271 = .ok (.invokestatic 151, 3) := dk_184 0 151 (dk_at dksX2_growHour_11 13 rfl rfl)
theorem dX2_growHour_274 : decode cX2_growHour 274 = .ok (.iastore, 1) := dk_79 (dk_at dksX2_growHour_11 16 rfl rfl)
theorem dX2_growHour_275 : decode cX2_growHour 275 = .ok (.aload_n 0, 1) := dk_42 (dk_at dksX2_growHour_11 17 rfl rfl)
theorem dX2_growHour_276 : decode cX2_growHour 276 = .ok (.getfield 24, 3) := dk_180 0 24 (dk_at dksX2_growHour_11 18 rfl rfl)
theorem dX2_growHour_279 : decode cX2_growHour 279 = .ok (.iload_n 1, 1) := dk_27 (dk_at dksX2_growHour_11 21 rfl rfl)
theorem dX2_growHour_280 : decode cX2_growHour 280 = .ok (.iaload, 1) := dk_46 (dk_at dksX2_growHour_11 22 rfl rfl)
theorem dX2_growHour_281 : decode cX2_growHour 281 = .ok (.bipush 42, 2) := dk_16 42 (dk_at dksX2_growHour_12 0 rfl rfl)
theorem dX2_growHour_283 : decode cX2_growHour 283 = .ok (.if_icmp .le 7, 3) := dk_164 0 7 (dk_at dksX2_growHour_12 2 rfl rfl)
theorem dX2_growHour_286 : decode cX2_growHour 286 = .ok (.iconst 1, 1) := dk_4 (dk_at dksX2_growHour_12 5 rfl rfl)
theorem dX2_growHour_287 : decode cX2_growHour 287 = .ok (.goto 4, 3) := dk_167 0 4 (dk_at dksX2_growHour_12 6 rfl rfl)
theorem dX2_growHour_290 : decode cX2_growHour 290 = .ok (.iconst 0, 1) := dk_3 (dk_at dksX2_growHour_12 9 rfl rfl)
theorem dX2_growHour_291 : decode cX2_growHour 291 = .ok (.ireturn, 1) := dk_172 (dk_at dksX2_growHour_12 10 rfl rfl)
abbrev cX2_pace : ByteArray := prog_6_method_10_code
def yX2_pace : MethodName := ⟨RX2, "pace", "(I)I"⟩
def dkwX2_pace_3 : List UInt8 := [62, 42, 180, 0, 27, 27, 46, 16, 8, 161, 0, 11, 29, 4, 96, 5, 108, 167, 0, 4, 29, 172]
abbrev dktX2_pace_3 : List UInt8 := dkwX2_pace_3 ++ []
def dkwX2_pace_2 : List UInt8 := [167, 0, 4, 3, 61, 28, 153, 0, 17, 42, 180, 0, 18, 27, 46, 16, 25, 100, 8, 108, 167, 0, 4, 3]
abbrev dktX2_pace_2 : List UInt8 := dkwX2_pace_2 ++ dktX2_pace_3
def dkwX2_pace_1 : List UInt8 := [46, 16, 8, 16, 34, 184, 0, 94, 153, 0, 18, 42, 180, 0, 21, 27, 46, 16, 100, 162, 0, 7, 4]
abbrev dktX2_pace_1 : List UInt8 := dkwX2_pace_1 ++ dktX2_pace_2
def dkwX2_pace_0 : List UInt8 := [42, 27, 182, 0, 108, 153, 0, 45, 42, 180, 0, 18, 27, 46, 16, 30, 161, 0, 34, 42, 180, 0, 24, 27]
abbrev dktX2_pace_0 : List UInt8 := dkwX2_pace_0 ++ dktX2_pace_1
theorem dksX2_pace_0 : cX2_pace.data.toList.drop 0 = dktX2_pace_0 := by decide +kernel
theorem dksX2_pace_1 : cX2_pace.data.toList.drop 24 = dktX2_pace_1 := dk_seg dksX2_pace_0 24 rfl rfl
theorem dksX2_pace_2 : cX2_pace.data.toList.drop 47 = dktX2_pace_2 := dk_seg dksX2_pace_1 23 rfl rfl
theorem dksX2_pace_3 : cX2_pace.data.toList.drop 71 = dktX2_pace_3 := dk_seg dksX2_pace_2 24 rfl rfl
theorem dX2_pace_0 : decode cX2_pace 0 = .ok (.aload_n 0, 1) := dk_42 (dk_at dksX2_pace_0 0 rfl rfl)
theorem dX2_pace_1 : decode cX2_pace 1 = .ok (.iload_n 1, 1) := dk_27 (dk_at dksX2_pace_0 1 rfl rfl)
theorem dX2_pace_2 : decode cX2_pace 2 = .ok (.invokevirtual 108, 3) := dk_182 0 108 (dk_at dksX2_pace_0 2 rfl rfl)
theorem dX2_pace_5 : decode cX2_pace 5 = .ok (.ifCond .eq 45, 3) := dk_153 0 45 (dk_at dksX2_pace_0 5 rfl rfl)
theorem dX2_pace_8 : decode cX2_pace 8 = .ok (.aload_n 0, 1) := dk_42 (dk_at dksX2_pace_0 8 rfl rfl)
theorem dX2_pace_9 : decode cX2_pace 9 = .ok (.getfield 18, 3) := dk_180 0 18 (dk_at dksX2_pace_0 9 rfl rfl)
theorem dX2_pace_12 : decode cX2_pace 12 = .ok (.iload_n 1, 1) := dk_27 (dk_at dksX2_pace_0 12 rfl rfl)
theorem dX2_pace_13 : decode cX2_pace 13 = .ok (.iaload, 1) := dk_46 (dk_at dksX2_pace_0 13 rfl rfl)
theorem dX2_pace_14 : decode cX2_pace 14 = .ok (.bipush 30, 2) := dk_16 30 (dk_at dksX2_pace_0 14 rfl rfl)
theorem dX2_pace_16 : decode cX2_pace 16 = .ok (.if_icmp .lt 34, 3) := dk_161 0 34 (dk_at dksX2_pace_0 16 rfl rfl)
theorem dX2_pace_19 : decode cX2_pace 19 = .ok (.aload_n 0, 1) := dk_42 (dk_at dksX2_pace_0 19 rfl rfl)
theorem dX2_pace_20 : decode cX2_pace 20 = .ok (.getfield 24, 3) := dk_180 0 24 (dk_at dksX2_pace_0 20 rfl rfl)
theorem dX2_pace_23 : decode cX2_pace 23 = .ok (.iload_n 1, 1) := dk_27 (dk_at dksX2_pace_0 23 rfl rfl)
theorem dX2_pace_24 : decode cX2_pace 24 = .ok (.iaload, 1) := dk_46 (dk_at dksX2_pace_1 0 rfl rfl)
theorem dX2_pace_25 : decode cX2_pace 25 = .ok (.bipush 8, 2) := dk_16 8 (dk_at dksX2_pace_1 1 rfl rfl)
theorem dX2_pace_27 : decode cX2_pace 27 = .ok (.bipush 34, 2) := dk_16 34 (dk_at dksX2_pace_1 3 rfl rfl)
theorem dX2_pace_29 : decode cX2_pace 29 = .ok (.invokestatic 94, 3) := dk_184 0 94 (dk_at dksX2_pace_1 5 rfl rfl)
theorem dX2_pace_32 : decode cX2_pace 32 = .ok (.ifCond .eq 18, 3) := dk_153 0 18 (dk_at dksX2_pace_1 8 rfl rfl)
theorem dX2_pace_35 : decode cX2_pace 35 = .ok (.aload_n 0, 1) := dk_42 (dk_at dksX2_pace_1 11 rfl rfl)
theorem dX2_pace_36 : decode cX2_pace 36 = .ok (.getfield 21, 3) := dk_180 0 21 (dk_at dksX2_pace_1 12 rfl rfl)
theorem dX2_pace_39 : decode cX2_pace 39 = .ok (.iload_n 1, 1) := dk_27 (dk_at dksX2_pace_1 15 rfl rfl)
theorem dX2_pace_40 : decode cX2_pace 40 = .ok (.iaload, 1) := dk_46 (dk_at dksX2_pace_1 16 rfl rfl)
theorem dX2_pace_41 : decode cX2_pace 41 = .ok (.bipush 100, 2) := dk_16 100 (dk_at dksX2_pace_1 17 rfl rfl)
theorem dX2_pace_43 : decode cX2_pace 43 = .ok (.if_icmp .ge 7, 3) := dk_162 0 7 (dk_at dksX2_pace_1 19 rfl rfl)
theorem dX2_pace_46 : decode cX2_pace 46 = .ok (.iconst 1, 1) := dk_4 (dk_at dksX2_pace_1 22 rfl rfl)
theorem dX2_pace_47 : decode cX2_pace 47 = .ok (.goto 4, 3) := dk_167 0 4 (dk_at dksX2_pace_2 0 rfl rfl)
theorem dX2_pace_50 : decode cX2_pace 50 = .ok (.iconst 0, 1) := dk_3 (dk_at dksX2_pace_2 3 rfl rfl)
theorem dX2_pace_51 : decode cX2_pace 51 = .ok (.istore_n 2, 1) := dk_61 (dk_at dksX2_pace_2 4 rfl rfl)
theorem dX2_pace_52 : decode cX2_pace 52 = .ok (.iload_n 2, 1) := dk_28 (dk_at dksX2_pace_2 5 rfl rfl)
theorem dX2_pace_53 : decode cX2_pace 53 = .ok (.ifCond .eq 17, 3) := dk_153 0 17 (dk_at dksX2_pace_2 6 rfl rfl)
theorem dX2_pace_56 : decode cX2_pace 56 = .ok (.aload_n 0, 1) := dk_42 (dk_at dksX2_pace_2 9 rfl rfl)
theorem dX2_pace_57 : decode cX2_pace 57 = .ok (.getfield 18, 3) := dk_180 0 18 (dk_at dksX2_pace_2 10 rfl rfl)
theorem dX2_pace_60 : decode cX2_pace 60 = .ok (.iload_n 1, 1) := dk_27 (dk_at dksX2_pace_2 13 rfl rfl)
theorem dX2_pace_61 : decode cX2_pace 61 = .ok (.iaload, 1) := dk_46 (dk_at dksX2_pace_2 14 rfl rfl)
theorem dX2_pace_62 : decode cX2_pace 62 = .ok (.bipush 25, 2) := dk_16 25 (dk_at dksX2_pace_2 15 rfl rfl)
theorem dX2_pace_64 : decode cX2_pace 64 = .ok (.isub, 1) := dk_100 (dk_at dksX2_pace_2 17 rfl rfl)
theorem dX2_pace_65 : decode cX2_pace 65 = .ok (.iconst 5, 1) := dk_8 (dk_at dksX2_pace_2 18 rfl rfl)
theorem dX2_pace_66 : decode cX2_pace 66 = .ok (.idiv, 1) := dk_108 (dk_at dksX2_pace_2 19 rfl rfl)
theorem dX2_pace_67 : decode cX2_pace 67 = .ok (.goto 4, 3) := dk_167 0 4 (dk_at dksX2_pace_2 20 rfl rfl)
theorem dX2_pace_70 : decode cX2_pace 70 = .ok (.iconst 0, 1) := dk_3 (dk_at dksX2_pace_2 23 rfl rfl)
theorem dX2_pace_71 : decode cX2_pace 71 = .ok (.istore_n 3, 1) := dk_62 (dk_at dksX2_pace_3 0 rfl rfl)
theorem dX2_pace_72 : decode cX2_pace 72 = .ok (.aload_n 0, 1) := dk_42 (dk_at dksX2_pace_3 1 rfl rfl)
theorem dX2_pace_73 : decode cX2_pace 73 = .ok (.getfield 27, 3) := dk_180 0 27 (dk_at dksX2_pace_3 2 rfl rfl)
theorem dX2_pace_76 : decode cX2_pace 76 = .ok (.iload_n 1, 1) := dk_27 (dk_at dksX2_pace_3 5 rfl rfl)
theorem dX2_pace_77 : decode cX2_pace 77 = .ok (.iaload, 1) := dk_46 (dk_at dksX2_pace_3 6 rfl rfl)
theorem dX2_pace_78 : decode cX2_pace 78 = .ok (.bipush 8, 2) := dk_16 8 (dk_at dksX2_pace_3 7 rfl rfl)
theorem dX2_pace_80 : decode cX2_pace 80 = .ok (.if_icmp .lt 11, 3) := dk_161 0 11 (dk_at dksX2_pace_3 9 rfl rfl)
theorem dX2_pace_83 : decode cX2_pace 83 = .ok (.iload_n 3, 1) := dk_29 (dk_at dksX2_pace_3 12 rfl rfl)
theorem dX2_pace_84 : decode cX2_pace 84 = .ok (.iconst 1, 1) := dk_4 (dk_at dksX2_pace_3 13 rfl rfl)
theorem dX2_pace_85 : decode cX2_pace 85 = .ok (.iadd, 1) := dk_96 (dk_at dksX2_pace_3 14 rfl rfl)
theorem dX2_pace_86 : decode cX2_pace 86 = .ok (.iconst 2, 1) := dk_5 (dk_at dksX2_pace_3 15 rfl rfl)
theorem dX2_pace_87 : decode cX2_pace 87 = .ok (.idiv, 1) := dk_108 (dk_at dksX2_pace_3 16 rfl rfl)
theorem dX2_pace_88 : decode cX2_pace 88 = .ok (.goto 4, 3) := dk_167 0 4 (dk_at dksX2_pace_3 17 rfl rfl)
theorem dX2_pace_91 : decode cX2_pace 91 = .ok (.iload_n 3, 1) := dk_29 (dk_at dksX2_pace_3 20 rfl rfl)
theorem dX2_pace_92 : decode cX2_pace 92 = .ok (.ireturn, 1) := dk_172 (dk_at dksX2_pace_3 21 rfl rfl)
abbrev cX2_isGrowing : ByteArray := prog_6_method_7_code
def yX2_isGrowing : MethodName := ⟨RX2, "isGrowing", "(I)Z"⟩
def dkwX2_isGrowing_1 : List UInt8 := [3, 172]
abbrev dktX2_isGrowing_1 : List UInt8 := dkwX2_isGrowing_1 ++ []
def dkwX2_isGrowing_0 : List UInt8 := [42, 180, 0, 30, 27, 46, 5, 159, 0, 13, 42, 180, 0, 30, 27, 46, 6, 160, 0, 7, 4, 167, 0, 4]
abbrev dktX2_isGrowing_0 : List UInt8 := dkwX2_isGrowing_0 ++ dktX2_isGrowing_1
theorem dksX2_isGrowing_0 : cX2_isGrowing.data.toList.drop 0 = dktX2_isGrowing_0 := by decide +kernel
theorem dksX2_isGrowing_1 : cX2_isGrowing.data.toList.drop 24 = dktX2_isGrowing_1 := dk_seg dksX2_isGrowing_0 24 rfl rfl
theorem dX2_isGrowing_0 : decode cX2_isGrowing 0 = .ok (.aload_n 0, 1) := dk_42 (dk_at dksX2_isGrowing_0 0 rfl rfl)
theorem dX2_isGrowing_1 : decode cX2_isGrowing 1 = .ok (.getfield 30, 3) := dk_180 0 30 (dk_at dksX2_isGrowing_0 1 rfl rfl)
theorem dX2_isGrowing_4 : decode cX2_isGrowing 4 = .ok (.iload_n 1, 1) := dk_27 (dk_at dksX2_isGrowing_0 4 rfl rfl)
theorem dX2_isGrowing_5 : decode cX2_isGrowing 5 = .ok (.iaload, 1) := dk_46 (dk_at dksX2_isGrowing_0 5 rfl rfl)
theorem dX2_isGrowing_6 : decode cX2_isGrowing 6 = .ok (.iconst 2, 1) := dk_5 (dk_at dksX2_isGrowing_0 6 rfl rfl)
theorem dX2_isGrowing_7 : decode cX2_isGrowing 7 = .ok (.if_icmp .eq 13, 3) := dk_159 0 13 (dk_at dksX2_isGrowing_0 7 rfl rfl)
theorem dX2_isGrowing_10 : decode cX2_isGrowing 10 = .ok (.aload_n 0, 1) := dk_42 (dk_at dksX2_isGrowing_0 10 rfl rfl)
theorem dX2_isGrowing_11 : decode cX2_isGrowing 11 = .ok (.getfield 30, 3) := dk_180 0 30 (dk_at dksX2_isGrowing_0 11 rfl rfl)
theorem dX2_isGrowing_14 : decode cX2_isGrowing 14 = .ok (.iload_n 1, 1) := dk_27 (dk_at dksX2_isGrowing_0 14 rfl rfl)
theorem dX2_isGrowing_15 : decode cX2_isGrowing 15 = .ok (.iaload, 1) := dk_46 (dk_at dksX2_isGrowing_0 15 rfl rfl)
theorem dX2_isGrowing_16 : decode cX2_isGrowing 16 = .ok (.iconst 3, 1) := dk_6 (dk_at dksX2_isGrowing_0 16 rfl rfl)
theorem dX2_isGrowing_17 : decode cX2_isGrowing 17 = .ok (.if_icmp .ne 7, 3) := dk_160 0 7 (dk_at dksX2_isGrowing_0 17 rfl rfl)
theorem dX2_isGrowing_20 : decode cX2_isGrowing 20 = .ok (.iconst 1, 1) := dk_4 (dk_at dksX2_isGrowing_0 20 rfl rfl)
theorem dX2_isGrowing_21 : decode cX2_isGrowing 21 = .ok (.goto 4, 3) := dk_167 0 4 (dk_at dksX2_isGrowing_0 21 rfl rfl)
theorem dX2_isGrowing_24 : decode cX2_isGrowing 24 = .ok (.iconst 0, 1) := dk_3 (dk_at dksX2_isGrowing_1 0 rfl rfl)
theorem dX2_isGrowing_25 : decode cX2_isGrowing 25 = .ok (.ireturn, 1) := dk_172 (dk_at dksX2_isGrowing_1 1 rfl rfl)
abbrev cX2_bring : ByteArray := prog_6_method_19_code
def yX2_bring : MethodName := ⟨RX2, "bring", "(II)V"⟩
def dkwX2_bring_0 : List UInt8 := [42, 27, 182, 0, 140, 42, 180, 0, 30, 27, 28, 79, 42, 28, 27, 182, 0, 144, 177]
abbrev dktX2_bring_0 : List UInt8 := dkwX2_bring_0 ++ []
theorem dksX2_bring_0 : cX2_bring.data.toList.drop 0 = dktX2_bring_0 := by decide +kernel
theorem dX2_bring_0 : decode cX2_bring 0 = .ok (.aload_n 0, 1) := dk_42 (dk_at dksX2_bring_0 0 rfl rfl)
theorem dX2_bring_1 : decode cX2_bring 1 = .ok (.iload_n 1, 1) := dk_27 (dk_at dksX2_bring_0 1 rfl rfl)
theorem dX2_bring_2 : decode cX2_bring 2 = .ok (.invokevirtual 140, 3) := dk_182 0 140 (dk_at dksX2_bring_0 2 rfl rfl)
theorem dX2_bring_5 : decode cX2_bring 5 = .ok (.aload_n 0, 1) := dk_42 (dk_at dksX2_bring_0 5 rfl rfl)
theorem dX2_bring_6 : decode cX2_bring 6 = .ok (.getfield 30, 3) := dk_180 0 30 (dk_at dksX2_bring_0 6 rfl rfl)
theorem dX2_bring_9 : decode cX2_bring 9 = .ok (.iload_n 1, 1) := dk_27 (dk_at dksX2_bring_0 9 rfl rfl)
theorem dX2_bring_10 : decode cX2_bring 10 = .ok (.iload_n 2, 1) := dk_28 (dk_at dksX2_bring_0 10 rfl rfl)
theorem dX2_bring_11 : decode cX2_bring 11 = .ok (.iastore, 1) := dk_79 (dk_at dksX2_bring_0 11 rfl rfl)
theorem dX2_bring_12 : decode cX2_bring 12 = .ok (.aload_n 0, 1) := dk_42 (dk_at dksX2_bring_0 12 rfl rfl)
theorem dX2_bring_13 : decode cX2_bring 13 = .ok (.iload_n 2, 1) := dk_28 (dk_at dksX2_bring_0 13 rfl rfl)
theorem dX2_bring_14 : decode cX2_bring 14 = .ok (.iload_n 1, 1) := dk_27 (dk_at dksX2_bring_0 14 rfl rfl)
theorem dX2_bring_15 : decode cX2_bring 15 = .ok (.invokevirtual 144, 3) := dk_182 0 144 (dk_at dksX2_bring_0 15 rfl rfl)
theorem dX2_bring_18 : decode cX2_bring 18 = .ok (.return_, 1) := dk_177 (dk_at dksX2_bring_0 18 rfl rfl)
abbrev cX2_leaveDrum : ByteArray := prog_6_method_18_code
def yX2_leaveDrum : MethodName := ⟨RX2, "leaveDrum", "(I)V"⟩
def dkwX2_leaveDrum_0 : List UInt8 := [42, 27, 182, 0, 105, 61, 28, 2, 159, 0, 13, 42, 180, 0, 35, 28, 50, 2, 181, 0, 102, 177]
abbrev dktX2_leaveDrum_0 : List UInt8 := dkwX2_leaveDrum_0 ++ []
theorem dksX2_leaveDrum_0 : cX2_leaveDrum.data.toList.drop 0 = dktX2_leaveDrum_0 := by decide +kernel
theorem dX2_leaveDrum_0 : decode cX2_leaveDrum 0 = .ok (.aload_n 0, 1) := dk_42 (dk_at dksX2_leaveDrum_0 0 rfl rfl)
theorem dX2_leaveDrum_1 : decode cX2_leaveDrum 1 = .ok (.iload_n 1, 1) := dk_27 (dk_at dksX2_leaveDrum_0 1 rfl rfl)
theorem dX2_leaveDrum_2 : decode cX2_leaveDrum 2 = .ok (.invokevirtual 105, 3) := dk_182 0 105 (dk_at dksX2_leaveDrum_0 2 rfl rfl)
theorem dX2_leaveDrum_5 : decode cX2_leaveDrum 5 = .ok (.istore_n 2, 1) := dk_61 (dk_at dksX2_leaveDrum_0 5 rfl rfl)
theorem dX2_leaveDrum_6 : decode cX2_leaveDrum 6 = .ok (.iload_n 2, 1) := dk_28 (dk_at dksX2_leaveDrum_0 6 rfl rfl)
theorem dX2_leaveDrum_7 : decode cX2_leaveDrum 7 = .ok (.iconst (-1), 1) := dk_2 (dk_at dksX2_leaveDrum_0 7 rfl rfl)
theorem dX2_leaveDrum_8 : decode cX2_leaveDrum 8 = .ok (.if_icmp .eq 13, 3) := dk_159 0 13 (dk_at dksX2_leaveDrum_0 8 rfl rfl)
theorem dX2_leaveDrum_11 : decode cX2_leaveDrum 11 = .ok (.aload_n 0, 1) := dk_42 (dk_at dksX2_leaveDrum_0 11 rfl rfl)
theorem dX2_leaveDrum_12 : decode cX2_leaveDrum 12 = .ok (.getfield 35, 3) := dk_180 0 35 (dk_at dksX2_leaveDrum_0 12 rfl rfl)
theorem dX2_leaveDrum_15 : decode cX2_leaveDrum 15 = .ok (.iload_n 2, 1) := dk_28 (dk_at dksX2_leaveDrum_0 15 rfl rfl)
theorem dX2_leaveDrum_16 : decode cX2_leaveDrum 16 = .ok (.aaload, 1) := dk_50 (dk_at dksX2_leaveDrum_0 16 rfl rfl)
theorem dX2_leaveDrum_17 : decode cX2_leaveDrum 17 = .ok (.iconst (-1), 1) := dk_2 (dk_at dksX2_leaveDrum_0 17 rfl rfl)
theorem dX2_leaveDrum_18 : decode cX2_leaveDrum 18 = .ok (.putfield 102, 3) := dk_181 0 102 (dk_at dksX2_leaveDrum_0 18 rfl rfl)
theorem dX2_leaveDrum_21 : decode cX2_leaveDrum 21 = .ok (.return_, 1) := dk_177 (dk_at dksX2_leaveDrum_0 21 rfl rfl)
abbrev cX2_note : ByteArray := prog_6_method_17_code
def yX2_note : MethodName := ⟨RX2, "note", "(II)V"⟩
def dkwX2_note_1 : List UInt8 := [199, 0, 7, 1, 167, 0, 12, 42, 180, 0, 68, 16, 11, 182, 0, 133, 183, 0, 137, 181, 0, 68, 177]
abbrev dktX2_note_1 : List UInt8 := dkwX2_note_1 ++ []
def dkwX2_note_0 : List UInt8 := [42, 187, 0, 131, 89, 16, 100, 42, 180, 0, 75, 104, 16, 12, 27, 104, 96, 28, 96, 42, 180, 0, 68]
abbrev dktX2_note_0 : List UInt8 := dkwX2_note_0 ++ dktX2_note_1
theorem dksX2_note_0 : cX2_note.data.toList.drop 0 = dktX2_note_0 := by decide +kernel
theorem dksX2_note_1 : cX2_note.data.toList.drop 23 = dktX2_note_1 := dk_seg dksX2_note_0 23 rfl rfl
theorem dX2_note_0 : decode cX2_note 0 = .ok (.aload_n 0, 1) := dk_42 (dk_at dksX2_note_0 0 rfl rfl)
theorem dX2_note_1 : decode cX2_note 1 = .ok (.new 131, 3) := dk_187 0 131 (dk_at dksX2_note_0 1 rfl rfl)
theorem dX2_note_4 : decode cX2_note 4 = .ok (.dup, 1) := dk_89 (dk_at dksX2_note_0 4 rfl rfl)
theorem dX2_note_5 : decode cX2_note 5 = .ok (.bipush 100, 2) := dk_16 100 (dk_at dksX2_note_0 5 rfl rfl)
theorem dX2_note_7 : decode cX2_note 7 = .ok (.aload_n 0, 1) := dk_42 (dk_at dksX2_note_0 7 rfl rfl)
theorem dX2_note_8 : decode cX2_note 8 = .ok (.getfield 75, 3) := dk_180 0 75 (dk_at dksX2_note_0 8 rfl rfl)
theorem dX2_note_11 : decode cX2_note 11 = .ok (.imul, 1) := dk_104 (dk_at dksX2_note_0 11 rfl rfl)
theorem dX2_note_12 : decode cX2_note 12 = .ok (.bipush 12, 2) := dk_16 12 (dk_at dksX2_note_0 12 rfl rfl)
theorem dX2_note_14 : decode cX2_note 14 = .ok (.iload_n 1, 1) := dk_27 (dk_at dksX2_note_0 14 rfl rfl)
theorem dX2_note_15 : decode cX2_note 15 = .ok (.imul, 1) := dk_104 (dk_at dksX2_note_0 15 rfl rfl)
theorem dX2_note_16 : decode cX2_note 16 = .ok (.iadd, 1) := dk_96 (dk_at dksX2_note_0 16 rfl rfl)
theorem dX2_note_17 : decode cX2_note 17 = .ok (.iload_n 2, 1) := dk_28 (dk_at dksX2_note_0 17 rfl rfl)
theorem dX2_note_18 : decode cX2_note 18 = .ok (.iadd, 1) := dk_96 (dk_at dksX2_note_0 18 rfl rfl)
theorem dX2_note_19 : decode cX2_note 19 = .ok (.aload_n 0, 1) := dk_42 (dk_at dksX2_note_0 19 rfl rfl)
theorem dX2_note_20 : decode cX2_note 20 = .ok (.getfield 68, 3) := dk_180 0 68 (dk_at dksX2_note_0 20 rfl rfl)
theorem dX2_note_23 : decode cX2_note 23 = .ok (.ifnonnull 7, 3) := dk_199 0 7 (dk_at dksX2_note_1 0 rfl rfl)
theorem dX2_note_26 : decode cX2_note 26 = .ok (.aconst_null, 1) := dk_1 (dk_at dksX2_note_1 3 rfl rfl)
theorem dX2_note_27 : decode cX2_note 27 = .ok (.goto 12, 3) := dk_167 0 12 (dk_at dksX2_note_1 4 rfl rfl)
theorem dX2_note_30 : decode cX2_note 30 = .ok (.aload_n 0, 1) := dk_42 (dk_at dksX2_note_1 7 rfl rfl)
theorem dX2_note_31 : decode cX2_note 31 = .ok (.getfield 68, 3) := dk_180 0 68 (dk_at dksX2_note_1 8 rfl rfl)
theorem dX2_note_34 : decode cX2_note 34 = .ok (.bipush 11, 2) := dk_16 11 (dk_at dksX2_note_1 11 rfl rfl)
theorem dX2_note_36 : decode cX2_note 36 = .ok (.invokevirtual 133, 3) := dk_182 0 133 (dk_at dksX2_note_1 13 rfl rfl)
theorem dX2_note_39 : decode cX2_note 39 = .ok (.invokespecial 137, 3) := dk_183 0 137 (dk_at dksX2_note_1 16 rfl rfl)
theorem dX2_note_42 : decode cX2_note 42 = .ok (.putfield 68, 3) := dk_181 0 68 (dk_at dksX2_note_1 19 rfl rfl)
theorem dX2_note_45 : decode cX2_note 45 = .ok (.return_, 1) := dk_177 (dk_at dksX2_note_1 22 rfl rfl)
abbrev cX2_kilnHour : ByteArray := prog_6_method_30_code
def yX2_kilnHour : MethodName := ⟨RX2, "kilnHour", "(I)V"⟩
def dkwX2_kilnHour_2 : List UInt8 := [180, 0, 18, 27, 6, 42, 180, 0, 18, 27, 46, 28, 16, 20, 108, 100, 184, 0, 157, 79, 177]
abbrev dktX2_kilnHour_2 : List UInt8 := dkwX2_kilnHour_2 ++ []
def dkwX2_kilnHour_1 : List UInt8 := [164, 0, 9, 4, 27, 120, 167, 0, 4, 3, 128, 181, 0, 72, 42, 180, 0, 24, 27, 28, 79, 42]
abbrev dktX2_kilnHour_1 : List UInt8 := dkwX2_kilnHour_1 ++ dktX2_kilnHour_2
def dkwX2_kilnHour_0 : List UInt8 := [42, 182, 0, 173, 61, 42, 89, 180, 0, 72, 28, 16, 80, 164, 0, 20, 42, 180, 0, 18, 27, 46, 16, 20]
abbrev dktX2_kilnHour_0 : List UInt8 := dkwX2_kilnHour_0 ++ dktX2_kilnHour_1
theorem dksX2_kilnHour_0 : cX2_kilnHour.data.toList.drop 0 = dktX2_kilnHour_0 := by decide +kernel
theorem dksX2_kilnHour_1 : cX2_kilnHour.data.toList.drop 24 = dktX2_kilnHour_1 := dk_seg dksX2_kilnHour_0 24 rfl rfl
theorem dksX2_kilnHour_2 : cX2_kilnHour.data.toList.drop 46 = dktX2_kilnHour_2 := dk_seg dksX2_kilnHour_1 22 rfl rfl
theorem dX2_kilnHour_0 : decode cX2_kilnHour 0 = .ok (.aload_n 0, 1) := dk_42 (dk_at dksX2_kilnHour_0 0 rfl rfl)
theorem dX2_kilnHour_1 : decode cX2_kilnHour 1 = .ok (.invokevirtual 173, 3) := dk_182 0 173 (dk_at dksX2_kilnHour_0 1 rfl rfl)
theorem dX2_kilnHour_4 : decode cX2_kilnHour 4 = .ok (.istore_n 2, 1) := dk_61 (dk_at dksX2_kilnHour_0 4 rfl rfl)
theorem dX2_kilnHour_5 : decode cX2_kilnHour 5 = .ok (.aload_n 0, 1) := dk_42 (dk_at dksX2_kilnHour_0 5 rfl rfl)
theorem dX2_kilnHour_6 : decode cX2_kilnHour 6 = .ok (.dup, 1) := dk_89 (dk_at dksX2_kilnHour_0 6 rfl rfl)
theorem dX2_kilnHour_7 : decode cX2_kilnHour 7 = .ok (.getfield 72, 3) := dk_180 0 72 (dk_at dksX2_kilnHour_0 7 rfl rfl)
theorem dX2_kilnHour_10 : decode cX2_kilnHour 10 = .ok (.iload_n 2, 1) := dk_28 (dk_at dksX2_kilnHour_0 10 rfl rfl)
theorem dX2_kilnHour_11 : decode cX2_kilnHour 11 = .ok (.bipush 80, 2) := dk_16 80 (dk_at dksX2_kilnHour_0 11 rfl rfl)
theorem dX2_kilnHour_13 : decode cX2_kilnHour 13 = .ok (.if_icmp .le 20, 3) := dk_164 0 20 (dk_at dksX2_kilnHour_0 13 rfl rfl)
theorem dX2_kilnHour_16 : decode cX2_kilnHour 16 = .ok (.aload_n 0, 1) := dk_42 (dk_at dksX2_kilnHour_0 16 rfl rfl)
theorem dX2_kilnHour_17 : decode cX2_kilnHour 17 = .ok (.getfield 18, 3) := dk_180 0 18 (dk_at dksX2_kilnHour_0 17 rfl rfl)
theorem dX2_kilnHour_20 : decode cX2_kilnHour 20 = .ok (.iload_n 1, 1) := dk_27 (dk_at dksX2_kilnHour_0 20 rfl rfl)
theorem dX2_kilnHour_21 : decode cX2_kilnHour 21 = .ok (.iaload, 1) := dk_46 (dk_at dksX2_kilnHour_0 21 rfl rfl)
theorem dX2_kilnHour_22 : decode cX2_kilnHour 22 = .ok (.bipush 20, 2) := dk_16 20 (dk_at dksX2_kilnHour_0 22 rfl rfl)
theorem dX2_kilnHour_24 : decode cX2_kilnHour 24 = .ok (.if_icmp .le 9, 3) := dk_164 0 9 (dk_at dksX2_kilnHour_1 0 rfl rfl)
theorem dX2_kilnHour_27 : decode cX2_kilnHour 27 = .ok (.iconst 1, 1) := dk_4 (dk_at dksX2_kilnHour_1 3 rfl rfl)
theorem dX2_kilnHour_28 : decode cX2_kilnHour 28 = .ok (.iload_n 1, 1) := dk_27 (dk_at dksX2_kilnHour_1 4 rfl rfl)
theorem dX2_kilnHour_29 : decode cX2_kilnHour 29 = .ok (.ishl, 1) := dk_120 (dk_at dksX2_kilnHour_1 5 rfl rfl)
theorem dX2_kilnHour_30 : decode cX2_kilnHour 30 = .ok (.goto 4, 3) := dk_167 0 4 (dk_at dksX2_kilnHour_1 6 rfl rfl)
theorem dX2_kilnHour_33 : decode cX2_kilnHour 33 = .ok (.iconst 0, 1) := dk_3 (dk_at dksX2_kilnHour_1 9 rfl rfl)
theorem dX2_kilnHour_34 : decode cX2_kilnHour 34 = .ok (.ior, 1) := dk_128 (dk_at dksX2_kilnHour_1 10 rfl rfl)
theorem dX2_kilnHour_35 : decode cX2_kilnHour 35 = .ok (.putfield 72, 3) := dk_181 0 72 (dk_at dksX2_kilnHour_1 11 rfl rfl)
theorem dX2_kilnHour_38 : decode cX2_kilnHour 38 = .ok (.aload_n 0, 1) := dk_42 (dk_at dksX2_kilnHour_1 14 rfl rfl)
theorem dX2_kilnHour_39 : decode cX2_kilnHour 39 = .ok (.getfield 24, 3) := dk_180 0 24 (dk_at dksX2_kilnHour_1 15 rfl rfl)
theorem dX2_kilnHour_42 : decode cX2_kilnHour 42 = .ok (.iload_n 1, 1) := dk_27 (dk_at dksX2_kilnHour_1 18 rfl rfl)
theorem dX2_kilnHour_43 : decode cX2_kilnHour 43 = .ok (.iload_n 2, 1) := dk_28 (dk_at dksX2_kilnHour_1 19 rfl rfl)
theorem dX2_kilnHour_44 : decode cX2_kilnHour 44 = .ok (.iastore, 1) := dk_79 (dk_at dksX2_kilnHour_1 20 rfl rfl)
theorem dX2_kilnHour_45 : decode cX2_kilnHour 45 = .ok (.aload_n 0, 1) := dk_42 (dk_at dksX2_kilnHour_1 21 rfl rfl)
theorem dX2_kilnHour_46 : decode cX2_kilnHour 46 = .ok (.getfield 18, 3) := dk_180 0 18 (dk_at dksX2_kilnHour_2 0 rfl rfl)
theorem dX2_kilnHour_49 : decode cX2_kilnHour 49 = .ok (.iload_n 1, 1) := dk_27 (dk_at dksX2_kilnHour_2 3 rfl rfl)
theorem dX2_kilnHour_50 : decode cX2_kilnHour 50 = .ok (.iconst 3, 1) := dk_6 (dk_at dksX2_kilnHour_2 4 rfl rfl)
theorem dX2_kilnHour_51 : decode cX2_kilnHour 51 = .ok (.aload_n 0, 1) := dk_42 (dk_at dksX2_kilnHour_2 5 rfl rfl)
theorem dX2_kilnHour_52 : decode cX2_kilnHour 52 = .ok (.getfield 18, 3) := dk_180 0 18 (dk_at dksX2_kilnHour_2 6 rfl rfl)
theorem dX2_kilnHour_55 : decode cX2_kilnHour 55 = .ok (.iload_n 1, 1) := dk_27 (dk_at dksX2_kilnHour_2 9 rfl rfl)
theorem dX2_kilnHour_56 : decode cX2_kilnHour 56 = .ok (.iaload, 1) := dk_46 (dk_at dksX2_kilnHour_2 10 rfl rfl)
theorem dX2_kilnHour_57 : decode cX2_kilnHour 57 = .ok (.iload_n 2, 1) := dk_28 (dk_at dksX2_kilnHour_2 11 rfl rfl)
theorem dX2_kilnHour_58 : decode cX2_kilnHour 58 = .ok (.bipush 20, 2) := dk_16 20 (dk_at dksX2_kilnHour_2 12 rfl rfl)
theorem dX2_kilnHour_60 : decode cX2_kilnHour 60 = .ok (.idiv, 1) := dk_108 (dk_at dksX2_kilnHour_2 14 rfl rfl)
theorem dX2_kilnHour_61 : decode cX2_kilnHour 61 = .ok (.isub, 1) := dk_100 (dk_at dksX2_kilnHour_2 15 rfl rfl)
theorem dX2_kilnHour_62 : decode cX2_kilnHour 62 = .ok (.invokestatic 157, 3) := dk_184 0 157 (dk_at dksX2_kilnHour_2 16 rfl rfl)
theorem dX2_kilnHour_65 : decode cX2_kilnHour 65 = .ok (.iastore, 1) := dk_79 (dk_at dksX2_kilnHour_2 19 rfl rfl)
theorem dX2_kilnHour_66 : decode cX2_kilnHour 66 = .ok (.return_, 1) := dk_177 (dk_at dksX2_kilnHour_2 20 rfl rfl)
abbrev cX2_kilnHeat : ByteArray := prog_6_method_29_code
def yX2_kilnHeat : MethodName := ⟨RX2, "kilnHeat", "()I"⟩
def dkwX2_kilnHeat_0 : List UInt8 := [42, 180, 0, 82, 16, 10, 162, 0, 10, 42, 180, 0, 48, 167, 0, 7, 42, 180, 0, 52, 172]
abbrev dktX2_kilnHeat_0 : List UInt8 := dkwX2_kilnHeat_0 ++ []
theorem dksX2_kilnHeat_0 : cX2_kilnHeat.data.toList.drop 0 = dktX2_kilnHeat_0 := by decide +kernel
theorem dX2_kilnHeat_0 : decode cX2_kilnHeat 0 = .ok (.aload_n 0, 1) := dk_42 (dk_at dksX2_kilnHeat_0 0 rfl rfl)
theorem dX2_kilnHeat_1 : decode cX2_kilnHeat 1 = .ok (.getfield 82, 3) := dk_180 0 82 (dk_at dksX2_kilnHeat_0 1 rfl rfl)
theorem dX2_kilnHeat_4 : decode cX2_kilnHeat 4 = .ok (.bipush 10, 2) := dk_16 10 (dk_at dksX2_kilnHeat_0 4 rfl rfl)
theorem dX2_kilnHeat_6 : decode cX2_kilnHeat 6 = .ok (.if_icmp .ge 10, 3) := dk_162 0 10 (dk_at dksX2_kilnHeat_0 6 rfl rfl)
theorem dX2_kilnHeat_9 : decode cX2_kilnHeat 9 = .ok (.aload_n 0, 1) := dk_42 (dk_at dksX2_kilnHeat_0 9 rfl rfl)
theorem dX2_kilnHeat_10 : decode cX2_kilnHeat 10 = .ok (.getfield 48, 3) := dk_180 0 48 (dk_at dksX2_kilnHeat_0 10 rfl rfl)
theorem dX2_kilnHeat_13 : decode cX2_kilnHeat 13 = .ok (.goto 7, 3) := dk_167 0 7 (dk_at dksX2_kilnHeat_0 13 rfl rfl)
theorem dX2_kilnHeat_16 : decode cX2_kilnHeat 16 = .ok (.aload_n 0, 1) := dk_42 (dk_at dksX2_kilnHeat_0 16 rfl rfl)
theorem dX2_kilnHeat_17 : decode cX2_kilnHeat 17 = .ok (.getfield 52, 3) := dk_180 0 52 (dk_at dksX2_kilnHeat_0 17 rfl rfl)
theorem dX2_kilnHeat_20 : decode cX2_kilnHeat 20 = .ok (.ireturn, 1) := dk_172 (dk_at dksX2_kilnHeat_0 20 rfl rfl)
abbrev cX2_isDry : ByteArray := prog_6_method_31_code
def yX2_isDry : MethodName := ⟨RX2, "isDry", "()Z"⟩
def dkwX2_isDry_2 : List UInt8 := [167, 255, 215, 27, 172]
abbrev dktX2_isDry_2 : List UInt8 := dkwX2_isDry_2 ++ []
def dkwX2_isDry_1 : List UInt8 := [46, 7, 160, 0, 13, 42, 180, 0, 18, 28, 46, 7, 163, 0, 7, 4, 167, 0, 4, 3, 60, 132, 2, 1]
abbrev dktX2_isDry_1 : List UInt8 := dkwX2_isDry_1 ++ dktX2_isDry_2
def dkwX2_isDry_0 : List UInt8 := [42, 180, 0, 78, 60, 3, 61, 28, 42, 180, 0, 62, 162, 0, 39, 27, 153, 0, 27, 42, 180, 0, 30, 28]
abbrev dktX2_isDry_0 : List UInt8 := dkwX2_isDry_0 ++ dktX2_isDry_1
theorem dksX2_isDry_0 : cX2_isDry.data.toList.drop 0 = dktX2_isDry_0 := by decide +kernel
theorem dksX2_isDry_1 : cX2_isDry.data.toList.drop 24 = dktX2_isDry_1 := dk_seg dksX2_isDry_0 24 rfl rfl
theorem dksX2_isDry_2 : cX2_isDry.data.toList.drop 48 = dktX2_isDry_2 := dk_seg dksX2_isDry_1 24 rfl rfl
theorem dX2_isDry_0 : decode cX2_isDry 0 = .ok (.aload_n 0, 1) := dk_42 (dk_at dksX2_isDry_0 0 rfl rfl)
theorem dX2_isDry_1 : decode cX2_isDry 1 = .ok (.getfield 78, 3) := dk_180 0 78 (dk_at dksX2_isDry_0 1 rfl rfl)
theorem dX2_isDry_4 : decode cX2_isDry 4 = .ok (.istore_n 1, 1) := dk_60 (dk_at dksX2_isDry_0 4 rfl rfl)
theorem dX2_isDry_5 : decode cX2_isDry 5 = .ok (.iconst 0, 1) := dk_3 (dk_at dksX2_isDry_0 5 rfl rfl)
theorem dX2_isDry_6 : decode cX2_isDry 6 = .ok (.istore_n 2, 1) := dk_61 (dk_at dksX2_isDry_0 6 rfl rfl)
theorem dX2_isDry_7 : decode cX2_isDry 7 = .ok (.iload_n 2, 1) := dk_28 (dk_at dksX2_isDry_0 7 rfl rfl)
theorem dX2_isDry_8 : decode cX2_isDry 8 = .ok (.aload_n 0, 1) := dk_42 (dk_at dksX2_isDry_0 8 rfl rfl)
theorem dX2_isDry_9 : decode cX2_isDry 9 = .ok (.getfield 62, 3) := dk_180 0 62 (dk_at dksX2_isDry_0 9 rfl rfl)
theorem dX2_isDry_12 : decode cX2_isDry 12 = .ok (.if_icmp .ge 39, 3) := dk_162 0 39 (dk_at dksX2_isDry_0 12 rfl rfl)
theorem dX2_isDry_15 : decode cX2_isDry 15 = .ok (.iload_n 1, 1) := dk_27 (dk_at dksX2_isDry_0 15 rfl rfl)
theorem dX2_isDry_16 : decode cX2_isDry 16 = .ok (.ifCond .eq 27, 3) := dk_153 0 27 (dk_at dksX2_isDry_0 16 rfl rfl)
theorem dX2_isDry_19 : decode cX2_isDry 19 = .ok (.aload_n 0, 1) := dk_42 (dk_at dksX2_isDry_0 19 rfl rfl)
theorem dX2_isDry_20 : decode cX2_isDry 20 = .ok (.getfield 30, 3) := dk_180 0 30 (dk_at dksX2_isDry_0 20 rfl rfl)
theorem dX2_isDry_23 : decode cX2_isDry 23 = .ok (.iload_n 2, 1) := dk_28 (dk_at dksX2_isDry_0 23 rfl rfl)
theorem dX2_isDry_24 : decode cX2_isDry 24 = .ok (.iaload, 1) := dk_46 (dk_at dksX2_isDry_1 0 rfl rfl)
theorem dX2_isDry_25 : decode cX2_isDry 25 = .ok (.iconst 4, 1) := dk_7 (dk_at dksX2_isDry_1 1 rfl rfl)
theorem dX2_isDry_26 : decode cX2_isDry 26 = .ok (.if_icmp .ne 13, 3) := dk_160 0 13 (dk_at dksX2_isDry_1 2 rfl rfl)
theorem dX2_isDry_29 : decode cX2_isDry 29 = .ok (.aload_n 0, 1) := dk_42 (dk_at dksX2_isDry_1 5 rfl rfl)
theorem dX2_isDry_30 : decode cX2_isDry 30 = .ok (.getfield 18, 3) := dk_180 0 18 (dk_at dksX2_isDry_1 6 rfl rfl)
theorem dX2_isDry_33 : decode cX2_isDry 33 = .ok (.iload_n 2, 1) := dk_28 (dk_at dksX2_isDry_1 9 rfl rfl)
theorem dX2_isDry_34 : decode cX2_isDry 34 = .ok (.iaload, 1) := dk_46 (dk_at dksX2_isDry_1 10 rfl rfl)
theorem dX2_isDry_35 : decode cX2_isDry 35 = .ok (.iconst 4, 1) := dk_7 (dk_at dksX2_isDry_1 11 rfl rfl)
theorem dX2_isDry_36 : decode cX2_isDry 36 = .ok (.if_icmp .gt 7, 3) := dk_163 0 7 (dk_at dksX2_isDry_1 12 rfl rfl)
theorem dX2_isDry_39 : decode cX2_isDry 39 = .ok (.iconst 1, 1) := dk_4 (dk_at dksX2_isDry_1 15 rfl rfl)
theorem dX2_isDry_40 : decode cX2_isDry 40 = .ok (.goto 4, 3) := dk_167 0 4 (dk_at dksX2_isDry_1 16 rfl rfl)
theorem dX2_isDry_43 : decode cX2_isDry 43 = .ok (.iconst 0, 1) := dk_3 (dk_at dksX2_isDry_1 19 rfl rfl)
theorem dX2_isDry_44 : decode cX2_isDry 44 = .ok (.istore_n 1, 1) := dk_60 (dk_at dksX2_isDry_1 20 rfl rfl)
theorem dX2_isDry_45 : decode cX2_isDry 45 = .ok (.iinc 2 1, 3) := dk_132 2 1 (dk_at dksX2_isDry_1 21 rfl rfl)
theorem dX2_isDry_48 : decode cX2_isDry 48 = .ok (.goto (-41), 3) := dk_167 255 215 (dk_at dksX2_isDry_2 0 rfl rfl)
theorem dX2_isDry_51 : decode cX2_isDry 51 = .ok (.iload_n 1, 1) := dk_27 (dk_at dksX2_isDry_2 3 rfl rfl)
theorem dX2_isDry_52 : decode cX2_isDry 52 = .ok (.ireturn, 1) := dk_172 (dk_at dksX2_isDry_2 4 rfl rfl)
abbrev cX2_add : ByteArray := prog_6_method_20_code
def yX2_add : MethodName := ⟨RX2, "add", "(I)I"⟩
def dkwX2_add_2 : List UInt8 := [180, 0, 24, 28, 16, 15, 79, 42, 180, 0, 27, 28, 3, 79, 42, 180, 0, 30, 28, 3, 79, 28, 172]
abbrev dktX2_add_2 : List UInt8 := dkwX2_add_2 ++ []
def dkwX2_add_1 : List UInt8 := [180, 0, 15, 28, 3, 79, 42, 180, 0, 18, 28, 16, 12, 79, 42, 180, 0, 21, 28, 3, 79, 42]
abbrev dktX2_add_1 : List UInt8 := dkwX2_add_1 ++ dktX2_add_2
def dkwX2_add_0 : List UInt8 := [42, 180, 0, 62, 61, 42, 89, 180, 0, 62, 4, 96, 181, 0, 62, 42, 180, 0, 9, 28, 27, 79, 42]
abbrev dktX2_add_0 : List UInt8 := dkwX2_add_0 ++ dktX2_add_1
theorem dksX2_add_0 : cX2_add.data.toList.drop 0 = dktX2_add_0 := by decide +kernel
theorem dksX2_add_1 : cX2_add.data.toList.drop 23 = dktX2_add_1 := dk_seg dksX2_add_0 23 rfl rfl
theorem dksX2_add_2 : cX2_add.data.toList.drop 45 = dktX2_add_2 := dk_seg dksX2_add_1 22 rfl rfl
theorem dX2_add_0 : decode cX2_add 0 = .ok (.aload_n 0, 1) := dk_42 (dk_at dksX2_add_0 0 rfl rfl)
theorem dX2_add_1 : decode cX2_add 1 = .ok (.getfield 62, 3) := dk_180 0 62 (dk_at dksX2_add_0 1 rfl rfl)
theorem dX2_add_4 : decode cX2_add 4 = .ok (.istore_n 2, 1) := dk_61 (dk_at dksX2_add_0 4 rfl rfl)
theorem dX2_add_5 : decode cX2_add 5 = .ok (.aload_n 0, 1) := dk_42 (dk_at dksX2_add_0 5 rfl rfl)
theorem dX2_add_6 : decode cX2_add 6 = .ok (.dup, 1) := dk_89 (dk_at dksX2_add_0 6 rfl rfl)
theorem dX2_add_7 : decode cX2_add 7 = .ok (.getfield 62, 3) := dk_180 0 62 (dk_at dksX2_add_0 7 rfl rfl)
theorem dX2_add_10 : decode cX2_add 10 = .ok (.iconst 1, 1) := dk_4 (dk_at dksX2_add_0 10 rfl rfl)
theorem dX2_add_11 : decode cX2_add 11 = .ok (.iadd, 1) := dk_96 (dk_at dksX2_add_0 11 rfl rfl)
theorem dX2_add_12 : decode cX2_add 12 = .ok (.putfield 62, 3) := dk_181 0 62 (dk_at dksX2_add_0 12 rfl rfl)
theorem dX2_add_15 : decode cX2_add 15 = .ok (.aload_n 0, 1) := dk_42 (dk_at dksX2_add_0 15 rfl rfl)
theorem dX2_add_16 : decode cX2_add 16 = .ok (.getfield 9, 3) := dk_180 0 9 (dk_at dksX2_add_0 16 rfl rfl)
theorem dX2_add_19 : decode cX2_add 19 = .ok (.iload_n 2, 1) := dk_28 (dk_at dksX2_add_0 19 rfl rfl)
theorem dX2_add_20 : decode cX2_add 20 = .ok (.iload_n 1, 1) := dk_27 (dk_at dksX2_add_0 20 rfl rfl)
theorem dX2_add_21 : decode cX2_add 21 = .ok (.iastore, 1) := dk_79 (dk_at dksX2_add_0 21 rfl rfl)
theorem dX2_add_22 : decode cX2_add 22 = .ok (.aload_n 0, 1) := dk_42 (dk_at dksX2_add_0 22 rfl rfl)
theorem dX2_add_23 : decode cX2_add 23 = .ok (.getfield 15, 3) := dk_180 0 15 (dk_at dksX2_add_1 0 rfl rfl)
theorem dX2_add_26 : decode cX2_add 26 = .ok (.iload_n 2, 1) := dk_28 (dk_at dksX2_add_1 3 rfl rfl)
theorem dX2_add_27 : decode cX2_add 27 = .ok (.iconst 0, 1) := dk_3 (dk_at dksX2_add_1 4 rfl rfl)
theorem dX2_add_28 : decode cX2_add 28 = .ok (.iastore, 1) := dk_79 (dk_at dksX2_add_1 5 rfl rfl)
theorem dX2_add_29 : decode cX2_add 29 = .ok (.aload_n 0, 1) := dk_42 (dk_at dksX2_add_1 6 rfl rfl)
theorem dX2_add_30 : decode cX2_add 30 = .ok (.getfield 18, 3) := dk_180 0 18 (dk_at dksX2_add_1 7 rfl rfl)
theorem dX2_add_33 : decode cX2_add 33 = .ok (.iload_n 2, 1) := dk_28 (dk_at dksX2_add_1 10 rfl rfl)
theorem dX2_add_34 : decode cX2_add 34 = .ok (.bipush 12, 2) := dk_16 12 (dk_at dksX2_add_1 11 rfl rfl)
theorem dX2_add_36 : decode cX2_add 36 = .ok (.iastore, 1) := dk_79 (dk_at dksX2_add_1 13 rfl rfl)
theorem dX2_add_37 : decode cX2_add 37 = .ok (.aload_n 0, 1) := dk_42 (dk_at dksX2_add_1 14 rfl rfl)
theorem dX2_add_38 : decode cX2_add 38 = .ok (.getfield 21, 3) := dk_180 0 21 (dk_at dksX2_add_1 15 rfl rfl)
theorem dX2_add_41 : decode cX2_add 41 = .ok (.iload_n 2, 1) := dk_28 (dk_at dksX2_add_1 18 rfl rfl)
theorem dX2_add_42 : decode cX2_add 42 = .ok (.iconst 0, 1) := dk_3 (dk_at dksX2_add_1 19 rfl rfl)
theorem dX2_add_43 : decode cX2_add 43 = .ok (.iastore, 1) := dk_79 (dk_at dksX2_add_1 20 rfl rfl)
theorem dX2_add_44 : decode cX2_add 44 = .ok (.aload_n 0, 1) := dk_42 (dk_at dksX2_add_1 21 rfl rfl)
theorem dX2_add_45 : decode cX2_add 45 = .ok (.getfield 24, 3) := dk_180 0 24 (dk_at dksX2_add_2 0 rfl rfl)
theorem dX2_add_48 : decode cX2_add 48 = .ok (.iload_n 2, 1) := dk_28 (dk_at dksX2_add_2 3 rfl rfl)
theorem dX2_add_49 : decode cX2_add 49 = .ok (.bipush 15, 2) := dk_16 15 (dk_at dksX2_add_2 4 rfl rfl)
theorem dX2_add_51 : decode cX2_add 51 = .ok (.iastore, 1) := dk_79 (dk_at dksX2_add_2 6 rfl rfl)
theorem dX2_add_52 : decode cX2_add 52 = .ok (.aload_n 0, 1) := dk_42 (dk_at dksX2_add_2 7 rfl rfl)
theorem dX2_add_53 : decode cX2_add 53 = .ok (.getfield 27, 3) := dk_180 0 27 (dk_at dksX2_add_2 8 rfl rfl)
theorem dX2_add_56 : decode cX2_add 56 = .ok (.iload_n 2, 1) := dk_28 (dk_at dksX2_add_2 11 rfl rfl)
theorem dX2_add_57 : decode cX2_add 57 = .ok (.iconst 0, 1) := dk_3 (dk_at dksX2_add_2 12 rfl rfl)
theorem dX2_add_58 : decode cX2_add 58 = .ok (.iastore, 1) := dk_79 (dk_at dksX2_add_2 13 rfl rfl)
theorem dX2_add_59 : decode cX2_add 59 = .ok (.aload_n 0, 1) := dk_42 (dk_at dksX2_add_2 14 rfl rfl)
theorem dX2_add_60 : decode cX2_add 60 = .ok (.getfield 30, 3) := dk_180 0 30 (dk_at dksX2_add_2 15 rfl rfl)
theorem dX2_add_63 : decode cX2_add 63 = .ok (.iload_n 2, 1) := dk_28 (dk_at dksX2_add_2 18 rfl rfl)
theorem dX2_add_64 : decode cX2_add 64 = .ok (.iconst 0, 1) := dk_3 (dk_at dksX2_add_2 19 rfl rfl)
theorem dX2_add_65 : decode cX2_add 65 = .ok (.iastore, 1) := dk_79 (dk_at dksX2_add_2 20 rfl rfl)
theorem dX2_add_66 : decode cX2_add 66 = .ok (.iload_n 2, 1) := dk_28 (dk_at dksX2_add_2 21 rfl rfl)
theorem dX2_add_67 : decode cX2_add 67 = .ok (.ireturn, 1) := dk_172 (dk_at dksX2_add_2 22 rfl rfl)
abbrev cX2_isLot : ByteArray := prog_6_method_3_code
def yX2_isLot : MethodName := ⟨RX2, "isLot", "(I)Z"⟩
def dkwX2_isLot_0 : List UInt8 := [27, 3, 42, 180, 0, 62, 4, 100, 184, 0, 94, 172]
abbrev dktX2_isLot_0 : List UInt8 := dkwX2_isLot_0 ++ []
theorem dksX2_isLot_0 : cX2_isLot.data.toList.drop 0 = dktX2_isLot_0 := by decide +kernel
theorem dX2_isLot_0 : decode cX2_isLot 0 = .ok (.iload_n 1, 1) := dk_27 (dk_at dksX2_isLot_0 0 rfl rfl)
theorem dX2_isLot_1 : decode cX2_isLot 1 = .ok (.iconst 0, 1) := dk_3 (dk_at dksX2_isLot_0 1 rfl rfl)
theorem dX2_isLot_2 : decode cX2_isLot 2 = .ok (.aload_n 0, 1) := dk_42 (dk_at dksX2_isLot_0 2 rfl rfl)
theorem dX2_isLot_3 : decode cX2_isLot 3 = .ok (.getfield 62, 3) := dk_180 0 62 (dk_at dksX2_isLot_0 3 rfl rfl)
theorem dX2_isLot_6 : decode cX2_isLot 6 = .ok (.iconst 1, 1) := dk_4 (dk_at dksX2_isLot_0 6 rfl rfl)
theorem dX2_isLot_7 : decode cX2_isLot 7 = .ok (.isub, 1) := dk_100 (dk_at dksX2_isLot_0 7 rfl rfl)
theorem dX2_isLot_8 : decode cX2_isLot 8 = .ok (.invokestatic 94, 3) := dk_184 0 94 (dk_at dksX2_isLot_0 8 rfl rfl)
theorem dX2_isLot_11 : decode cX2_isLot 11 = .ok (.ireturn, 1) := dk_172 (dk_at dksX2_isLot_0 11 rfl rfl)
abbrev cX2_whyNotSteep : ByteArray := prog_6_method_11_code
def yX2_whyNotSteep : MethodName := ⟨RX2, "whyNotSteep", "(I)I"⟩
def dkwX2_whyNotSteep_1 : List UInt8 := [160, 0, 7, 5, 167, 0, 4, 3, 172]
abbrev dktX2_whyNotSteep_1 : List UInt8 := dkwX2_whyNotSteep_1 ++ []
def dkwX2_whyNotSteep_0 : List UInt8 := [42, 180, 0, 30, 27, 46, 153, 0, 7, 4, 167, 0, 20, 42, 4, 182, 0, 112, 184, 0, 115, 5]
abbrev dktX2_whyNotSteep_0 : List UInt8 := dkwX2_whyNotSteep_0 ++ dktX2_whyNotSteep_1
theorem dksX2_whyNotSteep_0 : cX2_whyNotSteep.data.toList.drop 0 = dktX2_whyNotSteep_0 := by decide +kernel
theorem dksX2_whyNotSteep_1 : cX2_whyNotSteep.data.toList.drop 22 = dktX2_whyNotSteep_1 := dk_seg dksX2_whyNotSteep_0 22 rfl rfl
theorem dX2_whyNotSteep_0 : decode cX2_whyNotSteep 0 = .ok (.aload_n 0, 1) := dk_42 (dk_at dksX2_whyNotSteep_0 0 rfl rfl)
theorem dX2_whyNotSteep_1 : decode cX2_whyNotSteep 1 = .ok (.getfield 30, 3) := dk_180 0 30 (dk_at dksX2_whyNotSteep_0 1 rfl rfl)
theorem dX2_whyNotSteep_4 : decode cX2_whyNotSteep 4 = .ok (.iload_n 1, 1) := dk_27 (dk_at dksX2_whyNotSteep_0 4 rfl rfl)
theorem dX2_whyNotSteep_5 : decode cX2_whyNotSteep 5 = .ok (.iaload, 1) := dk_46 (dk_at dksX2_whyNotSteep_0 5 rfl rfl)
theorem dX2_whyNotSteep_6 : decode cX2_whyNotSteep 6 = .ok (.ifCond .eq 7, 3) := dk_153 0 7 (dk_at dksX2_whyNotSteep_0 6 rfl rfl)
theorem dX2_whyNotSteep_9 : decode cX2_whyNotSteep 9 = .ok (.iconst 1, 1) := dk_4 (dk_at dksX2_whyNotSteep_0 9 rfl rfl)
theorem dX2_whyNotSteep_10 : decode cX2_whyNotSteep 10 = .ok (.goto 20, 3) := dk_167 0 20 (dk_at dksX2_whyNotSteep_0 10 rfl rfl)
theorem dX2_whyNotSteep_13 : decode cX2_whyNotSteep 13 = .ok (.aload_n 0, 1) := dk_42 (dk_at dksX2_whyNotSteep_0 13 rfl rfl)
theorem dX2_whyNotSteep_14 : decode cX2_whyNotSteep 14 = .ok (.iconst 1, 1) := dk_4 (dk_at dksX2_whyNotSteep_0 14 rfl rfl)
theorem dX2_whyNotSteep_15 : decode cX2_whyNotSteep 15 = .ok (.invokevirtual 112, 3) := dk_182 0 112 (dk_at dksX2_whyNotSteep_0 15 rfl rfl)
theorem dX2_whyNotSteep_18 : decode cX2_whyNotSteep 18 = .ok (.invokestatic 115, 3) := dk_184 0 115 (dk_at dksX2_whyNotSteep_0 18 rfl rfl)
theorem dX2_whyNotSteep_21 : decode cX2_whyNotSteep 21 = .ok (.iconst 2, 1) := dk_5 (dk_at dksX2_whyNotSteep_0 21 rfl rfl)
theorem dX2_whyNotSteep_22 : decode cX2_whyNotSteep 22 = .ok (.if_icmp .ne 7, 3) := dk_160 0 7 (dk_at dksX2_whyNotSteep_1 0 rfl rfl)
theorem dX2_whyNotSteep_25 : decode cX2_whyNotSteep 25 = .ok (.iconst 2, 1) := dk_5 (dk_at dksX2_whyNotSteep_1 3 rfl rfl)
theorem dX2_whyNotSteep_26 : decode cX2_whyNotSteep 26 = .ok (.goto 4, 3) := dk_167 0 4 (dk_at dksX2_whyNotSteep_1 4 rfl rfl)
theorem dX2_whyNotSteep_29 : decode cX2_whyNotSteep 29 = .ok (.iconst 0, 1) := dk_3 (dk_at dksX2_whyNotSteep_1 7 rfl rfl)
theorem dX2_whyNotSteep_30 : decode cX2_whyNotSteep 30 = .ok (.ireturn, 1) := dk_172 (dk_at dksX2_whyNotSteep_1 8 rfl rfl)
abbrev cX2_steep : ByteArray := prog_6_method_21_code
def yX2_steep : MethodName := ⟨RX2, "steep", "(I)I"⟩
def dkwX2_steep_1 : List UInt8 := [180, 0, 85, 172]
abbrev dktX2_steep_1 : List UInt8 := dkwX2_steep_1 ++ []
def dkwX2_steep_0 : List UInt8 := [42, 27, 4, 182, 0, 148, 42, 89, 180, 0, 85, 42, 180, 0, 9, 27, 46, 96, 181, 0, 85, 42]
abbrev dktX2_steep_0 : List UInt8 := dkwX2_steep_0 ++ dktX2_steep_1
theorem dksX2_steep_0 : cX2_steep.data.toList.drop 0 = dktX2_steep_0 := by decide +kernel
theorem dksX2_steep_1 : cX2_steep.data.toList.drop 22 = dktX2_steep_1 := dk_seg dksX2_steep_0 22 rfl rfl
theorem dX2_steep_0 : decode cX2_steep 0 = .ok (.aload_n 0, 1) := dk_42 (dk_at dksX2_steep_0 0 rfl rfl)
theorem dX2_steep_1 : decode cX2_steep 1 = .ok (.iload_n 1, 1) := dk_27 (dk_at dksX2_steep_0 1 rfl rfl)
theorem dX2_steep_2 : decode cX2_steep 2 = .ok (.iconst 1, 1) := dk_4 (dk_at dksX2_steep_0 2 rfl rfl)
theorem dX2_steep_3 : decode cX2_steep 3 = .ok (.invokevirtual 148, 3) := dk_182 0 148 (dk_at dksX2_steep_0 3 rfl rfl)
theorem dX2_steep_6 : decode cX2_steep 6 = .ok (.aload_n 0, 1) := dk_42 (dk_at dksX2_steep_0 6 rfl rfl)
theorem dX2_steep_7 : decode cX2_steep 7 = .ok (.dup, 1) := dk_89 (dk_at dksX2_steep_0 7 rfl rfl)
theorem dX2_steep_8 : decode cX2_steep 8 = .ok (.getfield 85, 3) := dk_180 0 85 (dk_at dksX2_steep_0 8 rfl rfl)
theorem dX2_steep_11 : decode cX2_steep 11 = .ok (.aload_n 0, 1) := dk_42 (dk_at dksX2_steep_0 11 rfl rfl)
theorem dX2_steep_12 : decode cX2_steep 12 = .ok (.getfield 9, 3) := dk_180 0 9 (dk_at dksX2_steep_0 12 rfl rfl)
theorem dX2_steep_15 : decode cX2_steep 15 = .ok (.iload_n 1, 1) := dk_27 (dk_at dksX2_steep_0 15 rfl rfl)
theorem dX2_steep_16 : decode cX2_steep 16 = .ok (.iaload, 1) := dk_46 (dk_at dksX2_steep_0 16 rfl rfl)
theorem dX2_steep_17 : decode cX2_steep 17 = .ok (.iadd, 1) := dk_96 (dk_at dksX2_steep_0 17 rfl rfl)
theorem dX2_steep_18 : decode cX2_steep 18 = .ok (.putfield 85, 3) := dk_181 0 85 (dk_at dksX2_steep_0 18 rfl rfl)
theorem dX2_steep_21 : decode cX2_steep 21 = .ok (.aload_n 0, 1) := dk_42 (dk_at dksX2_steep_0 21 rfl rfl)
theorem dX2_steep_22 : decode cX2_steep 22 = .ok (.getfield 85, 3) := dk_180 0 85 (dk_at dksX2_steep_1 0 rfl rfl)
theorem dX2_steep_25 : decode cX2_steep 25 = .ok (.ireturn, 1) := dk_172 (dk_at dksX2_steep_1 3 rfl rfl)
abbrev cX2_whyNotDrum : ByteArray := prog_6_method_12_code
def yX2_whyNotDrum : MethodName := ⟨RX2, "whyNotDrum", "(II)I"⟩
def dkwX2_whyNotDrum_2 : List UInt8 := [6, 167, 0, 4, 3, 172]
abbrev dktX2_whyNotDrum_2 : List UInt8 := dkwX2_whyNotDrum_2 ++ []
def dkwX2_whyNotDrum_1 : List UInt8 := [28, 50, 180, 0, 102, 2, 159, 0, 7, 5, 167, 0, 19, 42, 180, 0, 18, 27, 46, 16, 30, 162, 0, 7]
abbrev dktX2_whyNotDrum_1 : List UInt8 := dkwX2_whyNotDrum_1 ++ dktX2_whyNotDrum_2
def dkwX2_whyNotDrum_0 : List UInt8 := [42, 180, 0, 30, 27, 46, 4, 159, 0, 13, 42, 27, 182, 0, 108, 154, 0, 5, 4, 172, 42, 180, 0, 35]
abbrev dktX2_whyNotDrum_0 : List UInt8 := dkwX2_whyNotDrum_0 ++ dktX2_whyNotDrum_1
theorem dksX2_whyNotDrum_0 : cX2_whyNotDrum.data.toList.drop 0 = dktX2_whyNotDrum_0 := by decide +kernel
theorem dksX2_whyNotDrum_1 : cX2_whyNotDrum.data.toList.drop 24 = dktX2_whyNotDrum_1 := dk_seg dksX2_whyNotDrum_0 24 rfl rfl
theorem dksX2_whyNotDrum_2 : cX2_whyNotDrum.data.toList.drop 48 = dktX2_whyNotDrum_2 := dk_seg dksX2_whyNotDrum_1 24 rfl rfl
theorem dX2_whyNotDrum_0 : decode cX2_whyNotDrum 0 = .ok (.aload_n 0, 1) := dk_42 (dk_at dksX2_whyNotDrum_0 0 rfl rfl)
theorem dX2_whyNotDrum_1 : decode cX2_whyNotDrum 1 = .ok (.getfield 30, 3) := dk_180 0 30 (dk_at dksX2_whyNotDrum_0 1 rfl rfl)
theorem dX2_whyNotDrum_4 : decode cX2_whyNotDrum 4 = .ok (.iload_n 1, 1) := dk_27 (dk_at dksX2_whyNotDrum_0 4 rfl rfl)
theorem dX2_whyNotDrum_5 : decode cX2_whyNotDrum 5 = .ok (.iaload, 1) := dk_46 (dk_at dksX2_whyNotDrum_0 5 rfl rfl)
theorem dX2_whyNotDrum_6 : decode cX2_whyNotDrum 6 = .ok (.iconst 1, 1) := dk_4 (dk_at dksX2_whyNotDrum_0 6 rfl rfl)
theorem dX2_whyNotDrum_7 : decode cX2_whyNotDrum 7 = .ok (.if_icmp .eq 13, 3) := dk_159 0 13 (dk_at dksX2_whyNotDrum_0 7 rfl rfl)
theorem dX2_whyNotDrum_10 : decode cX2_whyNotDrum 10 = .ok (.aload_n 0, 1) := dk_42 (dk_at dksX2_whyNotDrum_0 10 rfl rfl)
theorem dX2_whyNotDrum_11 : decode cX2_whyNotDrum 11 = .ok (.iload_n 1, 1) := dk_27 (dk_at dksX2_whyNotDrum_0 11 rfl rfl)
theorem dX2_whyNotDrum_12 : decode cX2_whyNotDrum 12 = .ok (.invokevirtual 108, 3) := dk_182 0 108 (dk_at dksX2_whyNotDrum_0 12 rfl rfl)
theorem dX2_whyNotDrum_15 : decode cX2_whyNotDrum 15 = .ok (.ifCond .ne 5, 3) := dk_154 0 5 (dk_at dksX2_whyNotDrum_0 15 rfl rfl)
theorem dX2_whyNotDrum_18 : decode cX2_whyNotDrum 18 = .ok (.iconst 1, 1) := dk_4 (dk_at dksX2_whyNotDrum_0 18 rfl rfl)
theorem dX2_whyNotDrum_19 : decode cX2_whyNotDrum 19 = .ok (.ireturn, 1) := dk_172 (dk_at dksX2_whyNotDrum_0 19 rfl rfl)
theorem dX2_whyNotDrum_20 : decode cX2_whyNotDrum 20 = .ok (.aload_n 0, 1) := dk_42 (dk_at dksX2_whyNotDrum_0 20 rfl rfl)
theorem dX2_whyNotDrum_21 : decode cX2_whyNotDrum 21 = .ok (.getfield 35, 3) := dk_180 0 35 (dk_at dksX2_whyNotDrum_0 21 rfl rfl)
theorem dX2_whyNotDrum_24 : decode cX2_whyNotDrum 24 = .ok (.iload_n 2, 1) := dk_28 (dk_at dksX2_whyNotDrum_1 0 rfl rfl)
theorem dX2_whyNotDrum_25 : decode cX2_whyNotDrum 25 = .ok (.aaload, 1) := dk_50 (dk_at dksX2_whyNotDrum_1 1 rfl rfl)
theorem dX2_whyNotDrum_26 : decode cX2_whyNotDrum 26 = .ok (.getfield 102, 3) := dk_180 0 102 (dk_at dksX2_whyNotDrum_1 2 rfl rfl)
theorem dX2_whyNotDrum_29 : decode cX2_whyNotDrum 29 = .ok (.iconst (-1), 1) := dk_2 (dk_at dksX2_whyNotDrum_1 5 rfl rfl)
theorem dX2_whyNotDrum_30 : decode cX2_whyNotDrum 30 = .ok (.if_icmp .eq 7, 3) := dk_159 0 7 (dk_at dksX2_whyNotDrum_1 6 rfl rfl)
theorem dX2_whyNotDrum_33 : decode cX2_whyNotDrum 33 = .ok (.iconst 2, 1) := dk_5 (dk_at dksX2_whyNotDrum_1 9 rfl rfl)
theorem dX2_whyNotDrum_34 : decode cX2_whyNotDrum 34 = .ok (.goto 19, 3) := dk_167 0 19 (dk_at dksX2_whyNotDrum_1 10 rfl rfl)
theorem dX2_whyNotDrum_37 : decode cX2_whyNotDrum 37 = .ok (.aload_n 0, 1) := dk_42 (dk_at dksX2_whyNotDrum_1 13 rfl rfl)
theorem dX2_whyNotDrum_38 : decode cX2_whyNotDrum 38 = .ok (.getfield 18, 3) := dk_180 0 18 (dk_at dksX2_whyNotDrum_1 14 rfl rfl)
theorem dX2_whyNotDrum_41 : decode cX2_whyNotDrum 41 = .ok (.iload_n 1, 1) := dk_27 (dk_at dksX2_whyNotDrum_1 17 rfl rfl)
theorem dX2_whyNotDrum_42 : decode cX2_whyNotDrum 42 = .ok (.iaload, 1) := dk_46 (dk_at dksX2_whyNotDrum_1 18 rfl rfl)
theorem dX2_whyNotDrum_43 : decode cX2_whyNotDrum 43 = .ok (.bipush 30, 2) := dk_16 30 (dk_at dksX2_whyNotDrum_1 19 rfl rfl)
theorem dX2_whyNotDrum_45 : decode cX2_whyNotDrum 45 = .ok (.if_icmp .ge 7, 3) := dk_162 0 7 (dk_at dksX2_whyNotDrum_1 21 rfl rfl)
theorem dX2_whyNotDrum_48 : decode cX2_whyNotDrum 48 = .ok (.iconst 3, 1) := dk_6 (dk_at dksX2_whyNotDrum_2 0 rfl rfl)
theorem dX2_whyNotDrum_49 : decode cX2_whyNotDrum 49 = .ok (.goto 4, 3) := dk_167 0 4 (dk_at dksX2_whyNotDrum_2 1 rfl rfl)
theorem dX2_whyNotDrum_52 : decode cX2_whyNotDrum 52 = .ok (.iconst 0, 1) := dk_3 (dk_at dksX2_whyNotDrum_2 4 rfl rfl)
theorem dX2_whyNotDrum_53 : decode cX2_whyNotDrum 53 = .ok (.ireturn, 1) := dk_172 (dk_at dksX2_whyNotDrum_2 5 rfl rfl)
abbrev cX2_toDrum : ByteArray := prog_6_method_22_code
def yX2_toDrum : MethodName := ⟨RX2, "toDrum", "(II)I"⟩
def dkwX2_toDrum_0 : List UInt8 := [42, 27, 5, 182, 0, 148, 42, 180, 0, 35, 28, 50, 27, 181, 0, 102, 42, 180, 0, 18, 27, 46, 172]
abbrev dktX2_toDrum_0 : List UInt8 := dkwX2_toDrum_0 ++ []
theorem dksX2_toDrum_0 : cX2_toDrum.data.toList.drop 0 = dktX2_toDrum_0 := by decide +kernel
theorem dX2_toDrum_0 : decode cX2_toDrum 0 = .ok (.aload_n 0, 1) := dk_42 (dk_at dksX2_toDrum_0 0 rfl rfl)
theorem dX2_toDrum_1 : decode cX2_toDrum 1 = .ok (.iload_n 1, 1) := dk_27 (dk_at dksX2_toDrum_0 1 rfl rfl)
theorem dX2_toDrum_2 : decode cX2_toDrum 2 = .ok (.iconst 2, 1) := dk_5 (dk_at dksX2_toDrum_0 2 rfl rfl)
theorem dX2_toDrum_3 : decode cX2_toDrum 3 = .ok (.invokevirtual 148, 3) := dk_182 0 148 (dk_at dksX2_toDrum_0 3 rfl rfl)
theorem dX2_toDrum_6 : decode cX2_toDrum 6 = .ok (.aload_n 0, 1) := dk_42 (dk_at dksX2_toDrum_0 6 rfl rfl)
theorem dX2_toDrum_7 : decode cX2_toDrum 7 = .ok (.getfield 35, 3) := dk_180 0 35 (dk_at dksX2_toDrum_0 7 rfl rfl)
theorem dX2_toDrum_10 : decode cX2_toDrum 10 = .ok (.iload_n 2, 1) := dk_28 (dk_at dksX2_toDrum_0 10 rfl rfl)
theorem dX2_toDrum_11 : decode cX2_toDrum 11 = .ok (.aaload, 1) := dk_50 (dk_at dksX2_toDrum_0 11 rfl rfl)
theorem dX2_toDrum_12 : decode cX2_toDrum 12 = .ok (.iload_n 1, 1) := dk_27 (dk_at dksX2_toDrum_0 12 rfl rfl)
theorem dX2_toDrum_13 : decode cX2_toDrum 13 = .ok (.putfield 102, 3) := dk_181 0 102 (dk_at dksX2_toDrum_0 13 rfl rfl)
theorem dX2_toDrum_16 : decode cX2_toDrum 16 = .ok (.aload_n 0, 1) := dk_42 (dk_at dksX2_toDrum_0 16 rfl rfl)
theorem dX2_toDrum_17 : decode cX2_toDrum 17 = .ok (.getfield 18, 3) := dk_180 0 18 (dk_at dksX2_toDrum_0 17 rfl rfl)
theorem dX2_toDrum_20 : decode cX2_toDrum 20 = .ok (.iload_n 1, 1) := dk_27 (dk_at dksX2_toDrum_0 20 rfl rfl)
theorem dX2_toDrum_21 : decode cX2_toDrum 21 = .ok (.iaload, 1) := dk_46 (dk_at dksX2_toDrum_0 21 rfl rfl)
theorem dX2_toDrum_22 : decode cX2_toDrum 22 = .ok (.ireturn, 1) := dk_172 (dk_at dksX2_toDrum_0 22 rfl rfl)
abbrev cX2_canHeap : ByteArray := prog_6_method_13_code
def yX2_canHeap : MethodName := ⟨RX2, "canHeap", "(I)Z"⟩
def dkwX2_canHeap_1 : List UInt8 := [3, 172]
abbrev dktX2_canHeap_1 : List UInt8 := dkwX2_canHeap_1 ++ []
def dkwX2_canHeap_0 : List UInt8 := [42, 180, 0, 30, 27, 46, 4, 159, 0, 13, 42, 180, 0, 30, 27, 46, 5, 160, 0, 7, 4, 167, 0, 4]
abbrev dktX2_canHeap_0 : List UInt8 := dkwX2_canHeap_0 ++ dktX2_canHeap_1
theorem dksX2_canHeap_0 : cX2_canHeap.data.toList.drop 0 = dktX2_canHeap_0 := by decide +kernel
theorem dksX2_canHeap_1 : cX2_canHeap.data.toList.drop 24 = dktX2_canHeap_1 := dk_seg dksX2_canHeap_0 24 rfl rfl
theorem dX2_canHeap_0 : decode cX2_canHeap 0 = .ok (.aload_n 0, 1) := dk_42 (dk_at dksX2_canHeap_0 0 rfl rfl)
theorem dX2_canHeap_1 : decode cX2_canHeap 1 = .ok (.getfield 30, 3) := dk_180 0 30 (dk_at dksX2_canHeap_0 1 rfl rfl)
theorem dX2_canHeap_4 : decode cX2_canHeap 4 = .ok (.iload_n 1, 1) := dk_27 (dk_at dksX2_canHeap_0 4 rfl rfl)
theorem dX2_canHeap_5 : decode cX2_canHeap 5 = .ok (.iaload, 1) := dk_46 (dk_at dksX2_canHeap_0 5 rfl rfl)
theorem dX2_canHeap_6 : decode cX2_canHeap 6 = .ok (.iconst 1, 1) := dk_4 (dk_at dksX2_canHeap_0 6 rfl rfl)
theorem dX2_canHeap_7 : decode cX2_canHeap 7 = .ok (.if_icmp .eq 13, 3) := dk_159 0 13 (dk_at dksX2_canHeap_0 7 rfl rfl)
theorem dX2_canHeap_10 : decode cX2_canHeap 10 = .ok (.aload_n 0, 1) := dk_42 (dk_at dksX2_canHeap_0 10 rfl rfl)
theorem dX2_canHeap_11 : decode cX2_canHeap 11 = .ok (.getfield 30, 3) := dk_180 0 30 (dk_at dksX2_canHeap_0 11 rfl rfl)
theorem dX2_canHeap_14 : decode cX2_canHeap 14 = .ok (.iload_n 1, 1) := dk_27 (dk_at dksX2_canHeap_0 14 rfl rfl)
theorem dX2_canHeap_15 : decode cX2_canHeap 15 = .ok (.iaload, 1) := dk_46 (dk_at dksX2_canHeap_0 15 rfl rfl)
theorem dX2_canHeap_16 : decode cX2_canHeap 16 = .ok (.iconst 2, 1) := dk_5 (dk_at dksX2_canHeap_0 16 rfl rfl)
theorem dX2_canHeap_17 : decode cX2_canHeap 17 = .ok (.if_icmp .ne 7, 3) := dk_160 0 7 (dk_at dksX2_canHeap_0 17 rfl rfl)
theorem dX2_canHeap_20 : decode cX2_canHeap 20 = .ok (.iconst 1, 1) := dk_4 (dk_at dksX2_canHeap_0 20 rfl rfl)
theorem dX2_canHeap_21 : decode cX2_canHeap 21 = .ok (.goto 4, 3) := dk_167 0 4 (dk_at dksX2_canHeap_0 21 rfl rfl)
theorem dX2_canHeap_24 : decode cX2_canHeap 24 = .ok (.iconst 0, 1) := dk_3 (dk_at dksX2_canHeap_1 0 rfl rfl)
theorem dX2_canHeap_25 : decode cX2_canHeap 25 = .ok (.ireturn, 1) := dk_172 (dk_at dksX2_canHeap_1 1 rfl rfl)
abbrev cX2_toHeap : ByteArray := prog_6_method_23_code
def yX2_toHeap : MethodName := ⟨RX2, "toHeap", "(I)I"⟩
def dkwX2_toHeap_0 : List UInt8 := [42, 27, 6, 182, 0, 148, 42, 6, 182, 0, 112, 184, 0, 115, 172]
abbrev dktX2_toHeap_0 : List UInt8 := dkwX2_toHeap_0 ++ []
theorem dksX2_toHeap_0 : cX2_toHeap.data.toList.drop 0 = dktX2_toHeap_0 := by decide +kernel
theorem dX2_toHeap_0 : decode cX2_toHeap 0 = .ok (.aload_n 0, 1) := dk_42 (dk_at dksX2_toHeap_0 0 rfl rfl)
theorem dX2_toHeap_1 : decode cX2_toHeap 1 = .ok (.iload_n 1, 1) := dk_27 (dk_at dksX2_toHeap_0 1 rfl rfl)
theorem dX2_toHeap_2 : decode cX2_toHeap 2 = .ok (.iconst 3, 1) := dk_6 (dk_at dksX2_toHeap_0 2 rfl rfl)
theorem dX2_toHeap_3 : decode cX2_toHeap 3 = .ok (.invokevirtual 148, 3) := dk_182 0 148 (dk_at dksX2_toHeap_0 3 rfl rfl)
theorem dX2_toHeap_6 : decode cX2_toHeap 6 = .ok (.aload_n 0, 1) := dk_42 (dk_at dksX2_toHeap_0 6 rfl rfl)
theorem dX2_toHeap_7 : decode cX2_toHeap 7 = .ok (.iconst 3, 1) := dk_6 (dk_at dksX2_toHeap_0 7 rfl rfl)
theorem dX2_toHeap_8 : decode cX2_toHeap 8 = .ok (.invokevirtual 112, 3) := dk_182 0 112 (dk_at dksX2_toHeap_0 8 rfl rfl)
theorem dX2_toHeap_11 : decode cX2_toHeap 11 = .ok (.invokestatic 115, 3) := dk_184 0 115 (dk_at dksX2_toHeap_0 11 rfl rfl)
theorem dX2_toHeap_14 : decode cX2_toHeap 14 = .ok (.ireturn, 1) := dk_172 (dk_at dksX2_toHeap_0 14 rfl rfl)
abbrev cX2_whyNotLoad : ByteArray := prog_6_method_14_code
def yX2_whyNotLoad : MethodName := ⟨RX2, "whyNotLoad", "(I)I"⟩
def dkwX2_whyNotLoad_2 : List UInt8 := [46, 16, 40, 162, 0, 7, 7, 167, 0, 4, 3, 172]
abbrev dktX2_whyNotLoad_2 : List UInt8 := dkwX2_whyNotLoad_2 ++ []
def dkwX2_whyNotLoad_1 : List UInt8 := [182, 0, 120, 42, 27, 182, 0, 98, 96, 17, 7, 208, 164, 0, 7, 6, 167, 0, 19, 42, 180, 0, 21, 27]
abbrev dktX2_whyNotLoad_1 : List UInt8 := dkwX2_whyNotLoad_1 ++ dktX2_whyNotLoad_2
def dkwX2_whyNotLoad_0 : List UInt8 := [42, 27, 182, 0, 108, 154, 0, 5, 4, 172, 42, 180, 0, 78, 153, 0, 7, 5, 167, 0, 40, 42, 7]
abbrev dktX2_whyNotLoad_0 : List UInt8 := dkwX2_whyNotLoad_0 ++ dktX2_whyNotLoad_1
theorem dksX2_whyNotLoad_0 : cX2_whyNotLoad.data.toList.drop 0 = dktX2_whyNotLoad_0 := by decide +kernel
theorem dksX2_whyNotLoad_1 : cX2_whyNotLoad.data.toList.drop 23 = dktX2_whyNotLoad_1 := dk_seg dksX2_whyNotLoad_0 23 rfl rfl
theorem dksX2_whyNotLoad_2 : cX2_whyNotLoad.data.toList.drop 47 = dktX2_whyNotLoad_2 := dk_seg dksX2_whyNotLoad_1 24 rfl rfl
theorem dX2_whyNotLoad_0 : decode cX2_whyNotLoad 0 = .ok (.aload_n 0, 1) := dk_42 (dk_at dksX2_whyNotLoad_0 0 rfl rfl)
theorem dX2_whyNotLoad_1 : decode cX2_whyNotLoad 1 = .ok (.iload_n 1, 1) := dk_27 (dk_at dksX2_whyNotLoad_0 1 rfl rfl)
theorem dX2_whyNotLoad_2 : decode cX2_whyNotLoad 2 = .ok (.invokevirtual 108, 3) := dk_182 0 108 (dk_at dksX2_whyNotLoad_0 2 rfl rfl)
theorem dX2_whyNotLoad_5 : decode cX2_whyNotLoad 5 = .ok (.ifCond .ne 5, 3) := dk_154 0 5 (dk_at dksX2_whyNotLoad_0 5 rfl rfl)
theorem dX2_whyNotLoad_8 : decode cX2_whyNotLoad 8 = .ok (.iconst 1, 1) := dk_4 (dk_at dksX2_whyNotLoad_0 8 rfl rfl)
theorem dX2_whyNotLoad_9 : decode cX2_whyNotLoad 9 = .ok (.ireturn, 1) := dk_172 (dk_at dksX2_whyNotLoad_0 9 rfl rfl)
theorem dX2_whyNotLoad_10 : decode cX2_whyNotLoad 10 = .ok (.aload_n 0, 1) := dk_42 (dk_at dksX2_whyNotLoad_0 10 rfl rfl)
theorem dX2_whyNotLoad_11 : decode cX2_whyNotLoad 11 = .ok (.getfield 78, 3) := dk_180 0 78 (dk_at dksX2_whyNotLoad_0 11 rfl rfl)
theorem dX2_whyNotLoad_14 : decode cX2_whyNotLoad 14 = .ok (.ifCond .eq 7, 3) := dk_153 0 7 (dk_at dksX2_whyNotLoad_0 14 rfl rfl)
theorem dX2_whyNotLoad_17 : decode cX2_whyNotLoad 17 = .ok (.iconst 2, 1) := dk_5 (dk_at dksX2_whyNotLoad_0 17 rfl rfl)
theorem dX2_whyNotLoad_18 : decode cX2_whyNotLoad 18 = .ok (.goto 40, 3) := dk_167 0 40 (dk_at dksX2_whyNotLoad_0 18 rfl rfl)
theorem dX2_whyNotLoad_21 : decode cX2_whyNotLoad 21 = .ok (.aload_n 0, 1) := dk_42 (dk_at dksX2_whyNotLoad_0 21 rfl rfl)
theorem dX2_whyNotLoad_22 : decode cX2_whyNotLoad 22 = .ok (.iconst 4, 1) := dk_7 (dk_at dksX2_whyNotLoad_0 22 rfl rfl)
theorem dX2_whyNotLoad_23 : decode cX2_whyNotLoad 23 = .ok (.invokevirtual 120, 3) := dk_182 0 120 (dk_at dksX2_whyNotLoad_1 0 rfl rfl)
theorem dX2_whyNotLoad_26 : decode cX2_whyNotLoad 26 = .ok (.aload_n 0, 1) := dk_42 (dk_at dksX2_whyNotLoad_1 3 rfl rfl)
theorem dX2_whyNotLoad_27 : decode cX2_whyNotLoad 27 = .ok (.iload_n 1, 1) := dk_27 (dk_at dksX2_whyNotLoad_1 4 rfl rfl)
theorem dX2_whyNotLoad_28 : decode cX2_whyNotLoad 28 = .ok (.invokevirtual 98, 3) := dk_182 0 98 (dk_at dksX2_whyNotLoad_1 5 rfl rfl)
theorem dX2_whyNotLoad_31 : decode cX2_whyNotLoad 31 = .ok (.iadd, 1) := dk_96 (dk_at dksX2_whyNotLoad_1 8 rfl rfl)
theorem dX2_whyNotLoad_32 : decode cX2_whyNotLoad 32 = .ok (.sipush 2000, 3) := dk_17 7 208 (dk_at dksX2_whyNotLoad_1 9 rfl rfl)
theorem dX2_whyNotLoad_35 : decode cX2_whyNotLoad 35 = .ok (.if_icmp .le 7, 3) := dk_164 0 7 (dk_at dksX2_whyNotLoad_1 12 rfl rfl)
theorem dX2_whyNotLoad_38 : decode cX2_whyNotLoad 38 = .ok (.iconst 3, 1) := dk_6 (dk_at dksX2_whyNotLoad_1 15 rfl rfl)
theorem dX2_whyNotLoad_39 : decode cX2_whyNotLoad 39 = .ok (.goto 19, 3) := dk_167 0 19 (dk_at dksX2_whyNotLoad_1 16 rfl rfl)
theorem dX2_whyNotLoad_42 : decode cX2_whyNotLoad 42 = .ok (.aload_n 0, 1) := dk_42 (dk_at dksX2_whyNotLoad_1 19 rfl rfl)
theorem dX2_whyNotLoad_43 : decode cX2_whyNotLoad 43 = .ok (.getfield 21, 3) := dk_180 0 21 (dk_at dksX2_whyNotLoad_1 20 rfl rfl)
theorem dX2_whyNotLoad_46 : decode cX2_whyNotLoad 46 = .ok (.iload_n 1, 1) := dk_27 (dk_at dksX2_whyNotLoad_1 23 rfl rfl)
theorem dX2_whyNotLoad_47 : decode cX2_whyNotLoad 47 = .ok (.iaload, 1) := dk_46 (dk_at dksX2_whyNotLoad_2 0 rfl rfl)
theorem dX2_whyNotLoad_48 : decode cX2_whyNotLoad 48 = .ok (.bipush 40, 2) := dk_16 40 (dk_at dksX2_whyNotLoad_2 1 rfl rfl)
theorem dX2_whyNotLoad_50 : decode cX2_whyNotLoad 50 = .ok (.if_icmp .ge 7, 3) := dk_162 0 7 (dk_at dksX2_whyNotLoad_2 3 rfl rfl)
theorem dX2_whyNotLoad_53 : decode cX2_whyNotLoad 53 = .ok (.iconst 4, 1) := dk_7 (dk_at dksX2_whyNotLoad_2 6 rfl rfl)
theorem dX2_whyNotLoad_54 : decode cX2_whyNotLoad 54 = .ok (.goto 4, 3) := dk_167 0 4 (dk_at dksX2_whyNotLoad_2 7 rfl rfl)
theorem dX2_whyNotLoad_57 : decode cX2_whyNotLoad 57 = .ok (.iconst 0, 1) := dk_3 (dk_at dksX2_whyNotLoad_2 10 rfl rfl)
theorem dX2_whyNotLoad_58 : decode cX2_whyNotLoad 58 = .ok (.ireturn, 1) := dk_172 (dk_at dksX2_whyNotLoad_2 11 rfl rfl)
abbrev cX2_load : ByteArray := prog_6_method_24_code
def yX2_load : MethodName := ⟨RX2, "load", "(I)I"⟩
def dkwX2_load_0 : List UInt8 := [42, 27, 7, 182, 0, 148, 42, 7, 182, 0, 120, 172]
abbrev dktX2_load_0 : List UInt8 := dkwX2_load_0 ++ []
theorem dksX2_load_0 : cX2_load.data.toList.drop 0 = dktX2_load_0 := by decide +kernel
theorem dX2_load_0 : decode cX2_load 0 = .ok (.aload_n 0, 1) := dk_42 (dk_at dksX2_load_0 0 rfl rfl)
theorem dX2_load_1 : decode cX2_load 1 = .ok (.iload_n 1, 1) := dk_27 (dk_at dksX2_load_0 1 rfl rfl)
theorem dX2_load_2 : decode cX2_load 2 = .ok (.iconst 4, 1) := dk_7 (dk_at dksX2_load_0 2 rfl rfl)
theorem dX2_load_3 : decode cX2_load 3 = .ok (.invokevirtual 148, 3) := dk_182 0 148 (dk_at dksX2_load_0 3 rfl rfl)
theorem dX2_load_6 : decode cX2_load 6 = .ok (.aload_n 0, 1) := dk_42 (dk_at dksX2_load_0 6 rfl rfl)
theorem dX2_load_7 : decode cX2_load 7 = .ok (.iconst 4, 1) := dk_7 (dk_at dksX2_load_0 7 rfl rfl)
theorem dX2_load_8 : decode cX2_load 8 = .ok (.invokevirtual 120, 3) := dk_182 0 120 (dk_at dksX2_load_0 8 rfl rfl)
theorem dX2_load_11 : decode cX2_load 11 = .ok (.ireturn, 1) := dk_172 (dk_at dksX2_load_0 11 rfl rfl)
abbrev cX2_canLight : ByteArray := prog_6_method_16_code
def yX2_canLight : MethodName := ⟨RX2, "canLight", "()Z"⟩
def dkwX2_canLight_0 : List UInt8 := [42, 180, 0, 78, 154, 0, 15, 42, 7, 182, 0, 112, 153, 0, 7, 4, 167, 0, 4, 3, 172]
abbrev dktX2_canLight_0 : List UInt8 := dkwX2_canLight_0 ++ []
theorem dksX2_canLight_0 : cX2_canLight.data.toList.drop 0 = dktX2_canLight_0 := by decide +kernel
theorem dX2_canLight_0 : decode cX2_canLight 0 = .ok (.aload_n 0, 1) := dk_42 (dk_at dksX2_canLight_0 0 rfl rfl)
theorem dX2_canLight_1 : decode cX2_canLight 1 = .ok (.getfield 78, 3) := dk_180 0 78 (dk_at dksX2_canLight_0 1 rfl rfl)
theorem dX2_canLight_4 : decode cX2_canLight 4 = .ok (.ifCond .ne 15, 3) := dk_154 0 15 (dk_at dksX2_canLight_0 4 rfl rfl)
theorem dX2_canLight_7 : decode cX2_canLight 7 = .ok (.aload_n 0, 1) := dk_42 (dk_at dksX2_canLight_0 7 rfl rfl)
theorem dX2_canLight_8 : decode cX2_canLight 8 = .ok (.iconst 4, 1) := dk_7 (dk_at dksX2_canLight_0 8 rfl rfl)
theorem dX2_canLight_9 : decode cX2_canLight 9 = .ok (.invokevirtual 112, 3) := dk_182 0 112 (dk_at dksX2_canLight_0 9 rfl rfl)
theorem dX2_canLight_12 : decode cX2_canLight 12 = .ok (.ifCond .eq 7, 3) := dk_153 0 7 (dk_at dksX2_canLight_0 12 rfl rfl)
theorem dX2_canLight_15 : decode cX2_canLight 15 = .ok (.iconst 1, 1) := dk_4 (dk_at dksX2_canLight_0 15 rfl rfl)
theorem dX2_canLight_16 : decode cX2_canLight 16 = .ok (.goto 4, 3) := dk_167 0 4 (dk_at dksX2_canLight_0 16 rfl rfl)
theorem dX2_canLight_19 : decode cX2_canLight 19 = .ok (.iconst 0, 1) := dk_3 (dk_at dksX2_canLight_0 19 rfl rfl)
theorem dX2_canLight_20 : decode cX2_canLight 20 = .ok (.ireturn, 1) := dk_172 (dk_at dksX2_canLight_0 20 rfl rfl)
abbrev cX2_light : ByteArray := prog_6_method_25_code
def yX2_light : MethodName := ⟨RX2, "light", "()I"⟩
def dkwX2_light_0 : List UInt8 := [42, 4, 181, 0, 78, 42, 3, 181, 0, 82, 42, 7, 182, 0, 112, 184, 0, 115, 172]
abbrev dktX2_light_0 : List UInt8 := dkwX2_light_0 ++ []
theorem dksX2_light_0 : cX2_light.data.toList.drop 0 = dktX2_light_0 := by decide +kernel
theorem dX2_light_0 : decode cX2_light 0 = .ok (.aload_n 0, 1) := dk_42 (dk_at dksX2_light_0 0 rfl rfl)
theorem dX2_light_1 : decode cX2_light 1 = .ok (.iconst 1, 1) := dk_4 (dk_at dksX2_light_0 1 rfl rfl)
theorem dX2_light_2 : decode cX2_light 2 = .ok (.putfield 78, 3) := dk_181 0 78 (dk_at dksX2_light_0 2 rfl rfl)
theorem dX2_light_5 : decode cX2_light 5 = .ok (.aload_n 0, 1) := dk_42 (dk_at dksX2_light_0 5 rfl rfl)
theorem dX2_light_6 : decode cX2_light 6 = .ok (.iconst 0, 1) := dk_3 (dk_at dksX2_light_0 6 rfl rfl)
theorem dX2_light_7 : decode cX2_light 7 = .ok (.putfield 82, 3) := dk_181 0 82 (dk_at dksX2_light_0 7 rfl rfl)
theorem dX2_light_10 : decode cX2_light 10 = .ok (.aload_n 0, 1) := dk_42 (dk_at dksX2_light_0 10 rfl rfl)
theorem dX2_light_11 : decode cX2_light 11 = .ok (.iconst 4, 1) := dk_7 (dk_at dksX2_light_0 11 rfl rfl)
theorem dX2_light_12 : decode cX2_light 12 = .ok (.invokevirtual 112, 3) := dk_182 0 112 (dk_at dksX2_light_0 12 rfl rfl)
theorem dX2_light_15 : decode cX2_light 15 = .ok (.invokestatic 115, 3) := dk_184 0 115 (dk_at dksX2_light_0 15 rfl rfl)
theorem dX2_light_18 : decode cX2_light 18 = .ok (.ireturn, 1) := dk_172 (dk_at dksX2_light_0 18 rfl rfl)
abbrev cX2_whyNotSpray : ByteArray := prog_6_method_15_code
def yX2_whyNotSpray : MethodName := ⟨RX2, "whyNotSpray", "(I)I"⟩
def dkwX2_whyNotSpray_2 : List UInt8 := [167, 0, 4, 3, 172]
abbrev dktX2_whyNotSpray_2 : List UInt8 := dkwX2_whyNotSpray_2 ++ []
def dkwX2_whyNotSpray_1 : List UInt8 := [180, 0, 30, 27, 46, 5, 160, 0, 20, 42, 27, 182, 0, 123, 185, 0, 127, 1, 0, 154, 0, 7, 6]
abbrev dktX2_whyNotSpray_1 : List UInt8 := dkwX2_whyNotSpray_1 ++ dktX2_whyNotSpray_2
def dkwX2_whyNotSpray_0 : List UInt8 := [42, 27, 182, 0, 108, 154, 0, 5, 4, 172, 42, 180, 0, 58, 154, 0, 7, 5, 167, 0, 31, 42]
abbrev dktX2_whyNotSpray_0 : List UInt8 := dkwX2_whyNotSpray_0 ++ dktX2_whyNotSpray_1
theorem dksX2_whyNotSpray_0 : cX2_whyNotSpray.data.toList.drop 0 = dktX2_whyNotSpray_0 := by decide +kernel
theorem dksX2_whyNotSpray_1 : cX2_whyNotSpray.data.toList.drop 22 = dktX2_whyNotSpray_1 := dk_seg dksX2_whyNotSpray_0 22 rfl rfl
theorem dksX2_whyNotSpray_2 : cX2_whyNotSpray.data.toList.drop 45 = dktX2_whyNotSpray_2 := dk_seg dksX2_whyNotSpray_1 23 rfl rfl
theorem dX2_whyNotSpray_0 : decode cX2_whyNotSpray 0 = .ok (.aload_n 0, 1) := dk_42 (dk_at dksX2_whyNotSpray_0 0 rfl rfl)
theorem dX2_whyNotSpray_1 : decode cX2_whyNotSpray 1 = .ok (.iload_n 1, 1) := dk_27 (dk_at dksX2_whyNotSpray_0 1 rfl rfl)
theorem dX2_whyNotSpray_2 : decode cX2_whyNotSpray 2 = .ok (.invokevirtual 108, 3) := dk_182 0 108 (dk_at dksX2_whyNotSpray_0 2 rfl rfl)
theorem dX2_whyNotSpray_5 : decode cX2_whyNotSpray 5 = .ok (.ifCond .ne 5, 3) := dk_154 0 5 (dk_at dksX2_whyNotSpray_0 5 rfl rfl)
theorem dX2_whyNotSpray_8 : decode cX2_whyNotSpray 8 = .ok (.iconst 1, 1) := dk_4 (dk_at dksX2_whyNotSpray_0 8 rfl rfl)
theorem dX2_whyNotSpray_9 : decode cX2_whyNotSpray 9 = .ok (.ireturn, 1) := dk_172 (dk_at dksX2_whyNotSpray_0 9 rfl rfl)
theorem dX2_whyNotSpray_10 : decode cX2_whyNotSpray 10 = .ok (.aload_n 0, 1) := dk_42 (dk_at dksX2_whyNotSpray_0 10 rfl rfl)
theorem dX2_whyNotSpray_11 : decode cX2_whyNotSpray 11 = .ok (.getfield 58, 3) := dk_180 0 58 (dk_at dksX2_whyNotSpray_0 11 rfl rfl)
theorem dX2_whyNotSpray_14 : decode cX2_whyNotSpray 14 = .ok (.ifCond .ne 7, 3) := dk_154 0 7 (dk_at dksX2_whyNotSpray_0 14 rfl rfl)
theorem dX2_whyNotSpray_17 : decode cX2_whyNotSpray 17 = .ok (.iconst 2, 1) := dk_5 (dk_at dksX2_whyNotSpray_0 17 rfl rfl)
theorem dX2_whyNotSpray_18 : decode cX2_whyNotSpray 18 = .ok (.goto 31, 3) := dk_167 0 31 (dk_at dksX2_whyNotSpray_0 18 rfl rfl)
theorem dX2_whyNotSpray_21 : decode cX2_whyNotSpray 21 = .ok (.aload_n 0, 1) := dk_42 (dk_at dksX2_whyNotSpray_0 21 rfl rfl)
theorem dX2_whyNotSpray_22 : decode cX2_whyNotSpray 22 = .ok (.getfield 30, 3) := dk_180 0 30 (dk_at dksX2_whyNotSpray_1 0 rfl rfl)
theorem dX2_whyNotSpray_25 : decode cX2_whyNotSpray 25 = .ok (.iload_n 1, 1) := dk_27 (dk_at dksX2_whyNotSpray_1 3 rfl rfl)
theorem dX2_whyNotSpray_26 : decode cX2_whyNotSpray 26 = .ok (.iaload, 1) := dk_46 (dk_at dksX2_whyNotSpray_1 4 rfl rfl)
theorem dX2_whyNotSpray_27 : decode cX2_whyNotSpray 27 = .ok (.iconst 2, 1) := dk_5 (dk_at dksX2_whyNotSpray_1 5 rfl rfl)
theorem dX2_whyNotSpray_28 : decode cX2_whyNotSpray 28 = .ok (.if_icmp .ne 20, 3) := dk_160 0 20 (dk_at dksX2_whyNotSpray_1 6 rfl rfl)
theorem dX2_whyNotSpray_31 : decode cX2_whyNotSpray 31 = .ok (.aload_n 0, 1) := dk_42 (dk_at dksX2_whyNotSpray_1 9 rfl rfl)
theorem dX2_whyNotSpray_32 : decode cX2_whyNotSpray 32 = .ok (.iload_n 1, 1) := dk_27 (dk_at dksX2_whyNotSpray_1 10 rfl rfl)
theorem dX2_whyNotSpray_33 : decode cX2_whyNotSpray 33 = .ok (.invokevirtual 123, 3) := dk_182 0 123 (dk_at dksX2_whyNotSpray_1 11 rfl rfl)
theorem dX2_whyNotSpray_36 : decode cX2_whyNotSpray 36 = .ok (.invokeinterface 127 1, 5) := by decide +kernel
theorem dX2_whyNotSpray_41 : decode cX2_whyNotSpray 41 = .ok (.ifCond .ne 7, 3) := dk_154 0 7 (dk_at dksX2_whyNotSpray_1 19 rfl rfl)
theorem dX2_whyNotSpray_44 : decode cX2_whyNotSpray 44 = .ok (.iconst 3, 1) := dk_6 (dk_at dksX2_whyNotSpray_1 22 rfl rfl)
theorem dX2_whyNotSpray_45 : decode cX2_whyNotSpray 45 = .ok (.goto 4, 3) := dk_167 0 4 (dk_at dksX2_whyNotSpray_2 0 rfl rfl)
theorem dX2_whyNotSpray_48 : decode cX2_whyNotSpray 48 = .ok (.iconst 0, 1) := dk_3 (dk_at dksX2_whyNotSpray_2 3 rfl rfl)
theorem dX2_whyNotSpray_49 : decode cX2_whyNotSpray 49 = .ok (.ireturn, 1) := dk_172 (dk_at dksX2_whyNotSpray_2 4 rfl rfl)
abbrev cX2_spray : ByteArray := prog_6_method_26_code
def yX2_spray : MethodName := ⟨RX2, "spray", "(I)I"⟩
def dkwX2_spray_3 : List UInt8 := [96, 181, 0, 91, 42, 8, 27, 182, 0, 144, 42, 180, 0, 58, 172]
abbrev dktX2_spray_3 : List UInt8 := dkwX2_spray_3 ++ []
def dkwX2_spray_2 : List UInt8 := [100, 184, 0, 157, 184, 0, 151, 79, 42, 89, 180, 0, 58, 4, 100, 181, 0, 58, 42, 89, 180, 0, 91, 4]
abbrev dktX2_spray_2 : List UInt8 := dkwX2_spray_2 ++ dktX2_spray_3
def dkwX2_spray_1 : List UInt8 := [184, 0, 157, 79, 42, 180, 0, 24, 27, 42, 180, 0, 24, 27, 46, 16, 10, 42, 180, 0, 24, 27, 46, 5]
abbrev dktX2_spray_1 : List UInt8 := dkwX2_spray_1 ++ dktX2_spray_2
def dkwX2_spray_0 : List UInt8 := [42, 180, 0, 18, 27, 42, 180, 0, 18, 27, 46, 16, 48, 42, 180, 0, 18, 27, 46, 6, 96, 184, 0, 151]
abbrev dktX2_spray_0 : List UInt8 := dkwX2_spray_0 ++ dktX2_spray_1
theorem dksX2_spray_0 : cX2_spray.data.toList.drop 0 = dktX2_spray_0 := by decide +kernel
theorem dksX2_spray_1 : cX2_spray.data.toList.drop 24 = dktX2_spray_1 := dk_seg dksX2_spray_0 24 rfl rfl
theorem dksX2_spray_2 : cX2_spray.data.toList.drop 48 = dktX2_spray_2 := dk_seg dksX2_spray_1 24 rfl rfl
theorem dksX2_spray_3 : cX2_spray.data.toList.drop 72 = dktX2_spray_3 := dk_seg dksX2_spray_2 24 rfl rfl
theorem dX2_spray_0 : decode cX2_spray 0 = .ok (.aload_n 0, 1) := dk_42 (dk_at dksX2_spray_0 0 rfl rfl)
theorem dX2_spray_1 : decode cX2_spray 1 = .ok (.getfield 18, 3) := dk_180 0 18 (dk_at dksX2_spray_0 1 rfl rfl)
theorem dX2_spray_4 : decode cX2_spray 4 = .ok (.iload_n 1, 1) := dk_27 (dk_at dksX2_spray_0 4 rfl rfl)
theorem dX2_spray_5 : decode cX2_spray 5 = .ok (.aload_n 0, 1) := dk_42 (dk_at dksX2_spray_0 5 rfl rfl)
theorem dX2_spray_6 : decode cX2_spray 6 = .ok (.getfield 18, 3) := dk_180 0 18 (dk_at dksX2_spray_0 6 rfl rfl)
theorem dX2_spray_9 : decode cX2_spray 9 = .ok (.iload_n 1, 1) := dk_27 (dk_at dksX2_spray_0 9 rfl rfl)
theorem dX2_spray_10 : decode cX2_spray 10 = .ok (.iaload, 1) := dk_46 (dk_at dksX2_spray_0 10 rfl rfl)
theorem dX2_spray_11 : decode cX2_spray 11 = .ok (.bipush 48, 2) := dk_16 48 (dk_at dksX2_spray_0 11 rfl rfl)
theorem dX2_spray_13 : decode cX2_spray 13 = .ok (.aload_n 0, 1) := dk_42 (dk_at dksX2_spray_0 13 rfl rfl)
theorem dX2_spray_14 : decode cX2_spray 14 = .ok (.getfield 18, 3) := dk_180 0 18 (dk_at dksX2_spray_0 14 rfl rfl)
theorem dX2_spray_17 : decode cX2_spray 17 = .ok (.iload_n 1, 1) := dk_27 (dk_at dksX2_spray_0 17 rfl rfl)
theorem dX2_spray_18 : decode cX2_spray 18 = .ok (.iaload, 1) := dk_46 (dk_at dksX2_spray_0 18 rfl rfl)
theorem dX2_spray_19 : decode cX2_spray 19 = .ok (.iconst 3, 1) := dk_6 (dk_at dksX2_spray_0 19 rfl rfl)
theorem dX2_spray_20 : decode cX2_spray 20 = .ok (.iadd, 1) := dk_96 (dk_at dksX2_spray_0 20 rfl rfl)
theorem dX2_spray_21 : decode cX2_spray 21 = .ok (.invokestatic 151, 3) := dk_184 0 151 (dk_at dksX2_spray_0 21 rfl rfl)
theorem dX2_spray_24 : decode cX2_spray 24 = .ok (.invokestatic 157, 3) := dk_184 0 157 (dk_at dksX2_spray_1 0 rfl rfl)
theorem dX2_spray_27 : decode cX2_spray 27 = .ok (.iastore, 1) := dk_79 (dk_at dksX2_spray_1 3 rfl rfl)
theorem dX2_spray_28 : decode cX2_spray 28 = .ok (.aload_n 0, 1) := dk_42 (dk_at dksX2_spray_1 4 rfl rfl)
theorem dX2_spray_29 : decode cX2_spray 29 = .ok (.getfield 24, 3) := dk_180 0 24 (dk_at dksX2_spray_1 5 rfl rfl)
theorem dX2_spray_32 : decode cX2_spray 32 = .ok (.iload_n 1, 1) := dk_27 (dk_at dksX2_spray_1 8 rfl rfl)
theorem dX2_spray_33 : decode cX2_spray 33 = .ok (.aload_n 0, 1) := dk_42 (dk_at dksX2_spray_1 9 rfl rfl)
theorem dX2_spray_34 : decode cX2_spray 34 = .ok (.getfield 24, 3) := dk_180 0 24 (dk_at dksX2_spray_1 10 rfl rfl)
theorem dX2_spray_37 : decode cX2_spray 37 = .ok (.iload_n 1, 1) := dk_27 (dk_at dksX2_spray_1 13 rfl rfl)
theorem dX2_spray_38 : decode cX2_spray 38 = .ok (.iaload, 1) := dk_46 (dk_at dksX2_spray_1 14 rfl rfl)
theorem dX2_spray_39 : decode cX2_spray 39 = .ok (.bipush 10, 2) := dk_16 10 (dk_at dksX2_spray_1 15 rfl rfl)
theorem dX2_spray_41 : decode cX2_spray 41 = .ok (.aload_n 0, 1) := dk_42 (dk_at dksX2_spray_1 17 rfl rfl)
theorem dX2_spray_42 : decode cX2_spray 42 = .ok (.getfield 24, 3) := dk_180 0 24 (dk_at dksX2_spray_1 18 rfl rfl)
theorem dX2_spray_45 : decode cX2_spray 45 = .ok (.iload_n 1, 1) := dk_27 (dk_at dksX2_spray_1 21 rfl rfl)
theorem dX2_spray_46 : decode cX2_spray 46 = .ok (.iaload, 1) := dk_46 (dk_at dksX2_spray_1 22 rfl rfl)
theorem dX2_spray_47 : decode cX2_spray 47 = .ok (.iconst 2, 1) := dk_5 (dk_at dksX2_spray_1 23 rfl rfl)
theorem dX2_spray_48 : decode cX2_spray 48 = .ok (.isub, 1) := dk_100 (dk_at dksX2_spray_2 0 rfl rfl)
theorem dX2_spray_49 : decode cX2_spray 49 = .ok (.invokestatic 157, 3) := dk_184 0 157 (dk_at dksX2_spray_2 1 rfl rfl)
theorem dX2_spray_52 : decode cX2_spray 52 = .ok (.invokestatic 151, 3) := dk_184 0 151 (dk_at dksX2_spray_2 4 rfl rfl)
theorem dX2_spray_55 : decode cX2_spray 55 = .ok (.iastore, 1) := dk_79 (dk_at dksX2_spray_2 7 rfl rfl)
theorem dX2_spray_56 : decode cX2_spray 56 = .ok (.aload_n 0, 1) := dk_42 (dk_at dksX2_spray_2 8 rfl rfl)
theorem dX2_spray_57 : decode cX2_spray 57 = .ok (.dup, 1) := dk_89 (dk_at dksX2_spray_2 9 rfl rfl)
theorem dX2_spray_58 : decode cX2_spray 58 = .ok (.getfield 58, 3) := dk_180 0 58 (dk_at dksX2_spray_2 10 rfl rfl)
theorem dX2_spray_61 : decode cX2_spray 61 = .ok (.iconst 1, 1) := dk_4 (dk_at dksX2_spray_2 13 rfl rfl)
theorem dX2_spray_62 : decode cX2_spray 62 = .ok (.isub, 1) := dk_100 (dk_at dksX2_spray_2 14 rfl rfl)
theorem dX2_spray_63 : decode cX2_spray 63 = .ok (.putfield 58, 3) := dk_181 0 58 (dk_at dksX2_spray_2 15 rfl rfl)
theorem dX2_spray_66 : decode cX2_spray 66 = .ok (.aload_n 0, 1) := dk_42 (dk_at dksX2_spray_2 18 rfl rfl)
theorem dX2_spray_67 : decode cX2_spray 67 = .ok (.dup, 1) := dk_89 (dk_at dksX2_spray_2 19 rfl rfl)
theorem dX2_spray_68 : decode cX2_spray 68 = .ok (.getfield 91, 3) := dk_180 0 91 (dk_at dksX2_spray_2 20 rfl rfl)
theorem dX2_spray_71 : decode cX2_spray 71 = .ok (.iconst 1, 1) := dk_4 (dk_at dksX2_spray_2 23 rfl rfl)
theorem dX2_spray_72 : decode cX2_spray 72 = .ok (.iadd, 1) := dk_96 (dk_at dksX2_spray_3 0 rfl rfl)
theorem dX2_spray_73 : decode cX2_spray 73 = .ok (.putfield 91, 3) := dk_181 0 91 (dk_at dksX2_spray_3 1 rfl rfl)
theorem dX2_spray_76 : decode cX2_spray 76 = .ok (.aload_n 0, 1) := dk_42 (dk_at dksX2_spray_3 4 rfl rfl)
theorem dX2_spray_77 : decode cX2_spray 77 = .ok (.iconst 5, 1) := dk_8 (dk_at dksX2_spray_3 5 rfl rfl)
theorem dX2_spray_78 : decode cX2_spray 78 = .ok (.iload_n 1, 1) := dk_27 (dk_at dksX2_spray_3 6 rfl rfl)
theorem dX2_spray_79 : decode cX2_spray 79 = .ok (.invokevirtual 144, 3) := dk_182 0 144 (dk_at dksX2_spray_3 7 rfl rfl)
theorem dX2_spray_82 : decode cX2_spray 82 = .ok (.aload_n 0, 1) := dk_42 (dk_at dksX2_spray_3 10 rfl rfl)
theorem dX2_spray_83 : decode cX2_spray 83 = .ok (.getfield 58, 3) := dk_180 0 58 (dk_at dksX2_spray_3 11 rfl rfl)
theorem dX2_spray_86 : decode cX2_spray 86 = .ok (.ireturn, 1) := dk_172 (dk_at dksX2_spray_3 14 rfl rfl)
abbrev cX2_pass : ByteArray := prog_6_method_34_code
def yX2_pass : MethodName := ⟨RX2, "pass", "(I)I"⟩
def dkwX2_pass_0 : List UInt8 := [3, 61, 3, 62, 29, 27, 162, 0, 16, 28, 42, 182, 0, 192, 96, 61, 132, 3, 1, 167, 255, 241, 28, 172]
abbrev dktX2_pass_0 : List UInt8 := dkwX2_pass_0 ++ []
theorem dksX2_pass_0 : cX2_pass.data.toList.drop 0 = dktX2_pass_0 := by decide +kernel
theorem dX2_pass_0 : decode cX2_pass 0 = .ok (.iconst 0, 1) := dk_3 (dk_at dksX2_pass_0 0 rfl rfl)
theorem dX2_pass_1 : decode cX2_pass 1 = .ok (.istore_n 2, 1) := dk_61 (dk_at dksX2_pass_0 1 rfl rfl)
theorem dX2_pass_2 : decode cX2_pass 2 = .ok (.iconst 0, 1) := dk_3 (dk_at dksX2_pass_0 2 rfl rfl)
theorem dX2_pass_3 : decode cX2_pass 3 = .ok (.istore_n 3, 1) := dk_62 (dk_at dksX2_pass_0 3 rfl rfl)
theorem dX2_pass_4 : decode cX2_pass 4 = .ok (.iload_n 3, 1) := dk_29 (dk_at dksX2_pass_0 4 rfl rfl)
theorem dX2_pass_5 : decode cX2_pass 5 = .ok (.iload_n 1, 1) := dk_27 (dk_at dksX2_pass_0 5 rfl rfl)
theorem dX2_pass_6 : decode cX2_pass 6 = .ok (.if_icmp .ge 16, 3) := dk_162 0 16 (dk_at dksX2_pass_0 6 rfl rfl)
theorem dX2_pass_9 : decode cX2_pass 9 = .ok (.iload_n 2, 1) := dk_28 (dk_at dksX2_pass_0 9 rfl rfl)
theorem dX2_pass_10 : decode cX2_pass 10 = .ok (.aload_n 0, 1) := dk_42 (dk_at dksX2_pass_0 10 rfl rfl)
theorem dX2_pass_11 : decode cX2_pass 11 = .ok (.invokevirtual 192, 3) := dk_182 0 192 (dk_at dksX2_pass_0 11 rfl rfl)
theorem dX2_pass_14 : decode cX2_pass 14 = .ok (.iadd, 1) := dk_96 (dk_at dksX2_pass_0 14 rfl rfl)
theorem dX2_pass_15 : decode cX2_pass 15 = .ok (.istore_n 2, 1) := dk_61 (dk_at dksX2_pass_0 15 rfl rfl)
theorem dX2_pass_16 : decode cX2_pass 16 = .ok (.iinc 3 1, 3) := dk_132 3 1 (dk_at dksX2_pass_0 16 rfl rfl)
theorem dX2_pass_19 : decode cX2_pass 19 = .ok (.goto (-15), 3) := dk_167 255 241 (dk_at dksX2_pass_0 19 rfl rfl)
theorem dX2_pass_22 : decode cX2_pass 22 = .ok (.iload_n 2, 1) := dk_28 (dk_at dksX2_pass_0 22 rfl rfl)
theorem dX2_pass_23 : decode cX2_pass 23 = .ok (.ireturn, 1) := dk_172 (dk_at dksX2_pass_0 23 rfl rfl)
theorem q66 : (Jvm.Cond.initialized "MaltDrums$House") ∈ lw_all := lw_g (lw_at lw_m1 2 rfl) rfl
theorem q110 : (Jvm.Cond.instantiable "MaltDrums$House" (22 : Nat)) ∈ lw_all := lw_g (lw_at lw_m1 46 rfl) rfl
theorem q112 : (Jvm.Cond.instanceMethod ({ cls := "MaltDrums$House", name := "<init>", desc := "()V" } : Jvm.MethodName)) ∈ lw_all := lw_g (lw_at lw_m1 48 rfl) rfl
theorem q113 : (Jvm.Cond.code ({ cls := "MaltDrums$House", name := "<init>", desc := "()V" } : Jvm.MethodName) prog_6_method_1_code (2 : Nat) (Option.none : Option Jvm.ClassFile.FieldType)) ∈ lw_all := lw_g (lw_at lw_m1 49 rfl) rfl
theorem q114 : (Jvm.Cond.methodLink "MaltDrums$House" (3 : Nat) ({ cls := "java/lang/Object", name := "<init>", desc := "()V" } : Jvm.MethodName)) ∈ lw_all := lw_g (lw_at lw_m1 50 rfl) rfl
theorem q115 : (Jvm.Cond.classLink "MaltDrums$House" (33 : Nat) "MaltDrums$Drum") ∈ lw_all := lw_g (lw_at lw_m1 51 rfl) rfl
theorem q117 : (Jvm.Cond.methodLink "MaltDrums$House" (39 : Nat) ({ cls := "MaltDrums$Bed", name := "heap", desc := "()LMaltDrums$Bed;" } : Jvm.MethodName)) ∈ lw_all := lw_g (lw_at lw_m1 53 rfl) rfl
theorem q135 : (Jvm.Cond.methodLink "MaltDrums$House" (61 : Nat) ({ cls := "MaltDrums$Drum", name := "<init>", desc := "()V" } : Jvm.MethodName)) ∈ lw_all := lw_g (lw_at lw_m1 71 rfl) rfl
theorem q140 : (Jvm.Cond.fieldLinkNest "MaltDrums$House" (102 : Nat) "MaltDrums$Drum" "lot" "I" "MaltDrums") ∈ lw_tbl := lw_at lw_m1 76 rfl
theorem q157 : (Jvm.Cond.fieldLink "MaltDrums$House" (9 : Nat) "MaltDrums$House" "kernels" "[I") ∈ lw_all := lw_g (lw_at lw_m1 93 rfl) rfl
theorem q159 : (Jvm.Cond.fieldLink "MaltDrums$House" (15 : Nat) "MaltDrums$House" "rootlets" "[I") ∈ lw_all := lw_g (lw_at lw_m1 95 rfl) rfl
theorem q161 : (Jvm.Cond.fieldLink "MaltDrums$House" (18 : Nat) "MaltDrums$House" "wets" "[I") ∈ lw_all := lw_g (lw_at lw_m1 97 rfl) rfl
theorem q163 : (Jvm.Cond.fieldLink "MaltDrums$House" (21 : Nat) "MaltDrums$House" "growths" "[I") ∈ lw_all := lw_g (lw_at lw_m1 99 rfl) rfl
theorem q165 : (Jvm.Cond.fieldLink "MaltDrums$House" (24 : Nat) "MaltDrums$House" "heats" "[I") ∈ lw_all := lw_g (lw_at lw_m1 101 rfl) rfl
theorem q167 : (Jvm.Cond.fieldLink "MaltDrums$House" (27 : Nat) "MaltDrums$House" "felts" "[I") ∈ lw_all := lw_g (lw_at lw_m1 103 rfl) rfl
theorem q169 : (Jvm.Cond.fieldLink "MaltDrums$House" (30 : Nat) "MaltDrums$House" "places" "[I") ∈ lw_all := lw_g (lw_at lw_m1 105 rfl) rfl
theorem q171 : (Jvm.Cond.fieldLink "MaltDrums$House" (35 : Nat) "MaltDrums$House" "drums" "[LMaltDrums$Drum;") ∈ lw_all := lw_g (lw_at lw_m1 107 rfl) rfl
theorem q173 : (Jvm.Cond.fieldLink "MaltDrums$House" (45 : Nat) "MaltDrums$House" "heap" "LMaltDrums$Bed;") ∈ lw_all := lw_g (lw_at lw_m1 109 rfl) rfl
theorem q174 : (Jvm.Cond.fieldLink "MaltDrums$House" (68 : Nat) "MaltDrums$House" "book" "LMaltDrums$Entry;") ∈ lw_all := lw_g (lw_at lw_m1 110 rfl) rfl
theorem q176 : (Jvm.Cond.fieldLink "MaltDrums$House" (72 : Nat) "MaltDrums$House" "glassy" "I") ∈ lw_all := lw_g (lw_at lw_m1 112 rfl) rfl
theorem q178 : (Jvm.Cond.fieldLink "MaltDrums$House" (62 : Nat) "MaltDrums$House" "lots" "I") ∈ lw_all := lw_g (lw_at lw_m1 114 rfl) rfl
theorem q180 : (Jvm.Cond.fieldLink "MaltDrums$House" (75 : Nat) "MaltDrums$House" "time" "I") ∈ lw_all := lw_g (lw_at lw_m1 116 rfl) rfl
theorem q182 : (Jvm.Cond.fieldLink "MaltDrums$House" (78 : Nat) "MaltDrums$House" "isLit" "Z") ∈ lw_all := lw_g (lw_at lw_m1 118 rfl) rfl
theorem q184 : (Jvm.Cond.fieldLink "MaltDrums$House" (82 : Nat) "MaltDrums$House" "litFor" "I") ∈ lw_all := lw_g (lw_at lw_m1 120 rfl) rfl
theorem q186 : (Jvm.Cond.fieldLink "MaltDrums$House" (48 : Nat) "MaltDrums$House" "low" "I") ∈ lw_all := lw_g (lw_at lw_m1 122 rfl) rfl
theorem q188 : (Jvm.Cond.fieldLink "MaltDrums$House" (52 : Nat) "MaltDrums$House" "high" "I") ∈ lw_all := lw_g (lw_at lw_m1 124 rfl) rfl
theorem q190 : (Jvm.Cond.fieldLink "MaltDrums$House" (55 : Nat) "MaltDrums$House" "daily" "I") ∈ lw_all := lw_g (lw_at lw_m1 126 rfl) rfl
theorem q192 : (Jvm.Cond.fieldLink "MaltDrums$House" (58 : Nat) "MaltDrums$House" "left" "I") ∈ lw_all := lw_g (lw_at lw_m1 128 rfl) rfl
theorem q194 : (Jvm.Cond.fieldLink "MaltDrums$House" (85 : Nat) "MaltDrums$House" "steeped" "I") ∈ lw_all := lw_g (lw_at lw_m1 130 rfl) rfl
theorem q196 : (Jvm.Cond.fieldLink "MaltDrums$House" (88 : Nat) "MaltDrums$House" "breathed" "I") ∈ lw_all := lw_g (lw_at lw_m1 132 rfl) rfl
theorem q198 : (Jvm.Cond.fieldLink "MaltDrums$House" (91 : Nat) "MaltDrums$House" "sprays" "I") ∈ lw_all := lw_g (lw_at lw_m1 134 rfl) rfl
theorem q200 : (Jvm.Cond.laysFinal "MaltDrums$House" "MaltDrums$House" "kernels" "[I") ∈ lw_all := lw_g (lw_at lw_m1 136 rfl) rfl
theorem q201 : (Jvm.Cond.soleField "MaltDrums$House" "kernels") ∈ lw_all := lw_g (lw_at lw_m1 137 rfl) rfl
theorem q202 : (Jvm.Cond.laysFinal "MaltDrums$House" "MaltDrums$House" "rootlets" "[I") ∈ lw_all := lw_g (lw_at lw_m1 138 rfl) rfl
theorem q203 : (Jvm.Cond.soleField "MaltDrums$House" "rootlets") ∈ lw_all := lw_g (lw_at lw_m1 139 rfl) rfl
theorem q204 : (Jvm.Cond.laysFinal "MaltDrums$House" "MaltDrums$House" "wets" "[I") ∈ lw_all := lw_g (lw_at lw_m1 140 rfl) rfl
theorem q205 : (Jvm.Cond.soleField "MaltDrums$House" "wets") ∈ lw_all := lw_g (lw_at lw_m1 141 rfl) rfl
theorem q206 : (Jvm.Cond.laysFinal "MaltDrums$House" "MaltDrums$House" "growths" "[I") ∈ lw_all := lw_g (lw_at lw_m1 142 rfl) rfl
theorem q207 : (Jvm.Cond.soleField "MaltDrums$House" "growths") ∈ lw_all := lw_g (lw_at lw_m1 143 rfl) rfl
theorem q208 : (Jvm.Cond.laysFinal "MaltDrums$House" "MaltDrums$House" "heats" "[I") ∈ lw_all := lw_g (lw_at lw_m1 144 rfl) rfl
theorem q209 : (Jvm.Cond.soleField "MaltDrums$House" "heats") ∈ lw_all := lw_g (lw_at lw_m1 145 rfl) rfl
theorem q210 : (Jvm.Cond.laysFinal "MaltDrums$House" "MaltDrums$House" "felts" "[I") ∈ lw_all := lw_g (lw_at lw_m1 146 rfl) rfl
theorem q211 : (Jvm.Cond.soleField "MaltDrums$House" "felts") ∈ lw_all := lw_g (lw_at lw_m1 147 rfl) rfl
theorem q212 : (Jvm.Cond.laysFinal "MaltDrums$House" "MaltDrums$House" "places" "[I") ∈ lw_all := lw_g (lw_at lw_m1 148 rfl) rfl
theorem q213 : (Jvm.Cond.soleField "MaltDrums$House" "places") ∈ lw_all := lw_g (lw_at lw_m1 149 rfl) rfl
theorem q214 : (Jvm.Cond.laysFinal "MaltDrums$House" "MaltDrums$House" "drums" "[LMaltDrums$Drum;") ∈ lw_all := lw_g (lw_at lw_m1 150 rfl) rfl
theorem q215 : (Jvm.Cond.soleField "MaltDrums$House" "drums") ∈ lw_all := lw_g (lw_at lw_m1 151 rfl) rfl
theorem q216 : (Jvm.Cond.laysFinal "MaltDrums$House" "MaltDrums$House" "heap" "LMaltDrums$Bed;") ∈ lw_all := lw_g (lw_at lw_m1 152 rfl) rfl
theorem q217 : (Jvm.Cond.soleField "MaltDrums$House" "heap") ∈ lw_all := lw_g (lw_at lw_m1 153 rfl) rfl
theorem q218 : (Jvm.Cond.lays "MaltDrums$House" "MaltDrums$House" "book" "LMaltDrums$Entry;") ∈ lw_all := lw_g (lw_at lw_m1 154 rfl) rfl
theorem q219 : (Jvm.Cond.soleField "MaltDrums$House" "book") ∈ lw_all := lw_g (lw_at lw_m1 155 rfl) rfl
theorem q220 : (Jvm.Cond.lays "MaltDrums$House" "MaltDrums$House" "glassy" "I") ∈ lw_all := lw_g (lw_at lw_m1 156 rfl) rfl
theorem q221 : (Jvm.Cond.soleField "MaltDrums$House" "glassy") ∈ lw_all := lw_g (lw_at lw_m1 157 rfl) rfl
theorem q222 : (Jvm.Cond.lays "MaltDrums$House" "MaltDrums$House" "lots" "I") ∈ lw_all := lw_g (lw_at lw_m1 158 rfl) rfl
theorem q223 : (Jvm.Cond.soleField "MaltDrums$House" "lots") ∈ lw_all := lw_g (lw_at lw_m1 159 rfl) rfl
theorem q224 : (Jvm.Cond.lays "MaltDrums$House" "MaltDrums$House" "time" "I") ∈ lw_all := lw_g (lw_at lw_m1 160 rfl) rfl
theorem q225 : (Jvm.Cond.soleField "MaltDrums$House" "time") ∈ lw_all := lw_g (lw_at lw_m1 161 rfl) rfl
theorem q226 : (Jvm.Cond.lays "MaltDrums$House" "MaltDrums$House" "isLit" "Z") ∈ lw_all := lw_g (lw_at lw_m1 162 rfl) rfl
theorem q227 : (Jvm.Cond.soleField "MaltDrums$House" "isLit") ∈ lw_all := lw_g (lw_at lw_m1 163 rfl) rfl
theorem q228 : (Jvm.Cond.lays "MaltDrums$House" "MaltDrums$House" "litFor" "I") ∈ lw_all := lw_g (lw_at lw_m1 164 rfl) rfl
theorem q229 : (Jvm.Cond.soleField "MaltDrums$House" "litFor") ∈ lw_all := lw_g (lw_at lw_m1 165 rfl) rfl
theorem q230 : (Jvm.Cond.lays "MaltDrums$House" "MaltDrums$House" "low" "I") ∈ lw_all := lw_g (lw_at lw_m1 166 rfl) rfl
theorem q231 : (Jvm.Cond.soleField "MaltDrums$House" "low") ∈ lw_all := lw_g (lw_at lw_m1 167 rfl) rfl
theorem q232 : (Jvm.Cond.lays "MaltDrums$House" "MaltDrums$House" "high" "I") ∈ lw_all := lw_g (lw_at lw_m1 168 rfl) rfl
theorem q233 : (Jvm.Cond.soleField "MaltDrums$House" "high") ∈ lw_all := lw_g (lw_at lw_m1 169 rfl) rfl
theorem q234 : (Jvm.Cond.lays "MaltDrums$House" "MaltDrums$House" "daily" "I") ∈ lw_all := lw_g (lw_at lw_m1 170 rfl) rfl
theorem q235 : (Jvm.Cond.soleField "MaltDrums$House" "daily") ∈ lw_all := lw_g (lw_at lw_m1 171 rfl) rfl
theorem q236 : (Jvm.Cond.lays "MaltDrums$House" "MaltDrums$House" "left" "I") ∈ lw_all := lw_g (lw_at lw_m1 172 rfl) rfl
theorem q237 : (Jvm.Cond.soleField "MaltDrums$House" "left") ∈ lw_all := lw_g (lw_at lw_m1 173 rfl) rfl
theorem q238 : (Jvm.Cond.lays "MaltDrums$House" "MaltDrums$House" "steeped" "I") ∈ lw_all := lw_g (lw_at lw_m1 174 rfl) rfl
theorem q239 : (Jvm.Cond.soleField "MaltDrums$House" "steeped") ∈ lw_all := lw_g (lw_at lw_m1 175 rfl) rfl
theorem q240 : (Jvm.Cond.lays "MaltDrums$House" "MaltDrums$House" "breathed" "I") ∈ lw_all := lw_g (lw_at lw_m1 176 rfl) rfl
theorem q241 : (Jvm.Cond.soleField "MaltDrums$House" "breathed") ∈ lw_all := lw_g (lw_at lw_m1 177 rfl) rfl
theorem q242 : (Jvm.Cond.lays "MaltDrums$House" "MaltDrums$House" "sprays" "I") ∈ lw_all := lw_g (lw_at lw_m1 178 rfl) rfl
theorem q243 : (Jvm.Cond.soleField "MaltDrums$House" "sprays") ∈ lw_all := lw_g (lw_at lw_m1 179 rfl) rfl
theorem q244 : (Jvm.Cond.superclass "MaltDrums$House" "java/lang/Object") ∈ lw_all := lw_g (lw_at lw_m1 180 rfl) rfl
theorem q933 : (Jvm.Cond.selects "MaltDrums$House" ({ cls := "java/lang/Object", name := "getClass", desc := "()Ljava/lang/Class;" } : Jvm.MethodName) ({ cls := "java/lang/Object", name := "getClass", desc := "()Ljava/lang/Class;" } : Jvm.MethodName)) ∈ lw_all := lw_g (lw_at lw_m4 149 rfl) rfl
theorem q972 : (Jvm.Cond.instanceMethod ({ cls := "MaltDrums$House", name := "<init>", desc := "(LMaltDrums$House;)V" } : Jvm.MethodName)) ∈ lw_all := lw_g (lw_at lw_m4 188 rfl) rfl
theorem q973 : (Jvm.Cond.code ({ cls := "MaltDrums$House", name := "<init>", desc := "(LMaltDrums$House;)V" } : Jvm.MethodName) prog_6_method_2_code (3 : Nat) (Option.none : Option Jvm.ClassFile.FieldType)) ∈ lw_all := lw_g (lw_at lw_m4 189 rfl) rfl
theorem q974 : (Jvm.Cond.methodLink "MaltDrums$House" (65 : Nat) ({ cls := "MaltDrums$Drum", name := "<init>", desc := "(LMaltDrums$Drum;)V" } : Jvm.MethodName)) ∈ lw_all := lw_g (lw_at lw_m4 190 rfl) rfl
theorem q994 : (Jvm.Cond.instanceMethod ({ cls := "MaltDrums$House", name := "weightIn", desc := "(I)I" } : Jvm.MethodName)) ∈ lw_all := lw_g (lw_at lw_m4 210 rfl) rfl
theorem q995 : (Jvm.Cond.selects "MaltDrums$House" ({ cls := "MaltDrums$House", name := "weightIn", desc := "(I)I" } : Jvm.MethodName) ({ cls := "MaltDrums$House", name := "weightIn", desc := "(I)I" } : Jvm.MethodName)) ∈ lw_all := lw_g (lw_at lw_m4 211 rfl) rfl
theorem q996 : (Jvm.Cond.code ({ cls := "MaltDrums$House", name := "weightIn", desc := "(I)I" } : Jvm.MethodName) prog_6_method_6_code (4 : Nat) (Option.some Jvm.ClassFile.FieldType.int)) ∈ lw_all := lw_g (lw_at lw_m4 212 rfl) rfl
theorem q997 : (Jvm.Cond.methodLink "MaltDrums$House" (98 : Nat) ({ cls := "MaltDrums$House", name := "weight", desc := "(I)I" } : Jvm.MethodName)) ∈ lw_all := lw_g (lw_at lw_m4 213 rfl) rfl
theorem q998 : (Jvm.Cond.instanceMethod ({ cls := "MaltDrums$House", name := "weight", desc := "(I)I" } : Jvm.MethodName)) ∈ lw_all := lw_g (lw_at lw_m4 214 rfl) rfl
theorem q999 : (Jvm.Cond.selects "MaltDrums$House" ({ cls := "MaltDrums$House", name := "weight", desc := "(I)I" } : Jvm.MethodName) ({ cls := "MaltDrums$House", name := "weight", desc := "(I)I" } : Jvm.MethodName)) ∈ lw_all := lw_g (lw_at lw_m4 215 rfl) rfl
theorem q1000 : (Jvm.Cond.code ({ cls := "MaltDrums$House", name := "weight", desc := "(I)I" } : Jvm.MethodName) prog_6_method_4_code (2 : Nat) (Option.some Jvm.ClassFile.FieldType.int)) ∈ lw_all := lw_g (lw_at lw_m4 216 rfl) rfl
theorem q1010 : (Jvm.Cond.instanceMethod ({ cls := "MaltDrums$House", name := "set", desc := "(I)I" } : Jvm.MethodName)) ∈ lw_all := lw_g (lw_at lw_m4 226 rfl) rfl
theorem q1011 : (Jvm.Cond.selects "MaltDrums$House" ({ cls := "MaltDrums$House", name := "set", desc := "(I)I" } : Jvm.MethodName) ({ cls := "MaltDrums$House", name := "set", desc := "(I)I" } : Jvm.MethodName)) ∈ lw_all := lw_g (lw_at lw_m4 227 rfl) rfl
theorem q1012 : (Jvm.Cond.code ({ cls := "MaltDrums$House", name := "set", desc := "(I)I" } : Jvm.MethodName) prog_6_method_5_code (4 : Nat) (Option.some Jvm.ClassFile.FieldType.int)) ∈ lw_all := lw_g (lw_at lw_m4 228 rfl) rfl
theorem q1027 : (Jvm.Cond.instanceMethod ({ cls := "MaltDrums$House", name := "hour", desc := "()I" } : Jvm.MethodName)) ∈ lw_all := lw_g (lw_at lw_m5 3 rfl) rfl
theorem q1028 : (Jvm.Cond.selects "MaltDrums$House" ({ cls := "MaltDrums$House", name := "hour", desc := "()I" } : Jvm.MethodName) ({ cls := "MaltDrums$House", name := "hour", desc := "()I" } : Jvm.MethodName)) ∈ lw_all := lw_g (lw_at lw_m5 4 rfl) rfl
theorem q1029 : (Jvm.Cond.code ({ cls := "MaltDrums$House", name := "hour", desc := "()I" } : Jvm.MethodName) prog_6_method_33_code (3 : Nat) (Option.some Jvm.ClassFile.FieldType.int)) ∈ lw_all := lw_g (lw_at lw_m5 5 rfl) rfl
theorem q1030 : (Jvm.Cond.methodLink "MaltDrums$House" (186 : Nat) ({ cls := "MaltDrums$House", name := "lotHour", desc := "(I)I" } : Jvm.MethodName)) ∈ lw_all := lw_g (lw_at lw_m5 6 rfl) rfl
theorem q1031 : (Jvm.Cond.privateMethod ({ cls := "MaltDrums$House", name := "lotHour", desc := "(I)I" } : Jvm.MethodName)) ∈ lw_tbl := lw_at lw_m5 7 rfl
theorem q1032 : (Jvm.Cond.instanceMethod ({ cls := "MaltDrums$House", name := "lotHour", desc := "(I)I" } : Jvm.MethodName)) ∈ lw_all := lw_g (lw_at lw_m5 8 rfl) rfl
theorem q1033 : (Jvm.Cond.code ({ cls := "MaltDrums$House", name := "lotHour", desc := "(I)I" } : Jvm.MethodName) prog_6_method_32_code (3 : Nat) (Option.some Jvm.ClassFile.FieldType.int)) ∈ lw_all := lw_g (lw_at lw_m5 9 rfl) rfl
theorem q1034 : (Jvm.Cond.methodLink "MaltDrums$House" (176 : Nat) ({ cls := "MaltDrums$House", name := "steepHour", desc := "(I)V" } : Jvm.MethodName)) ∈ lw_all := lw_g (lw_at lw_m5 10 rfl) rfl
theorem q1035 : (Jvm.Cond.privateMethod ({ cls := "MaltDrums$House", name := "steepHour", desc := "(I)V" } : Jvm.MethodName)) ∈ lw_tbl := lw_at lw_m5 11 rfl
theorem q1036 : (Jvm.Cond.instanceMethod ({ cls := "MaltDrums$House", name := "steepHour", desc := "(I)V" } : Jvm.MethodName)) ∈ lw_all := lw_g (lw_at lw_m5 12 rfl) rfl
theorem q1037 : (Jvm.Cond.code ({ cls := "MaltDrums$House", name := "steepHour", desc := "(I)V" } : Jvm.MethodName) prog_6_method_27_code (3 : Nat) (Option.none : Option Jvm.ClassFile.FieldType)) ∈ lw_all := lw_g (lw_at lw_m5 13 rfl) rfl
theorem q1038 : (Jvm.Cond.methodLink "MaltDrums$House" (151 : Nat) ({ cls := "java/lang/Math", name := "min", desc := "(II)I" } : Jvm.MethodName)) ∈ lw_all := lw_g (lw_at lw_m5 14 rfl) rfl
theorem q1039 : (Jvm.Cond.methodLink "MaltDrums$House" (157 : Nat) ({ cls := "java/lang/Math", name := "max", desc := "(II)I" } : Jvm.MethodName)) ∈ lw_all := lw_g (lw_at lw_m5 15 rfl) rfl
theorem q1040 : (Jvm.Cond.methodLink "MaltDrums$House" (123 : Nat) ({ cls := "MaltDrums$House", name := "bed", desc := "(I)LMaltDrums$Bed;" } : Jvm.MethodName)) ∈ lw_all := lw_g (lw_at lw_m5 16 rfl) rfl
theorem q1041 : (Jvm.Cond.privateMethod ({ cls := "MaltDrums$House", name := "bed", desc := "(I)LMaltDrums$Bed;" } : Jvm.MethodName)) ∈ lw_tbl := lw_at lw_m5 17 rfl
theorem q1042 : (Jvm.Cond.instanceMethod ({ cls := "MaltDrums$House", name := "bed", desc := "(I)LMaltDrums$Bed;" } : Jvm.MethodName)) ∈ lw_all := lw_g (lw_at lw_m5 18 rfl) rfl
theorem q1043 : (Jvm.Cond.code ({ cls := "MaltDrums$House", name := "bed", desc := "(I)LMaltDrums$Bed;" } : Jvm.MethodName) prog_6_method_9_code (2 : Nat) (Option.some (Jvm.ClassFile.FieldType.object "MaltDrums$Bed"))) ∈ lw_all := lw_g (lw_at lw_m5 19 rfl) rfl
theorem q1044 : (Jvm.Cond.methodLink "MaltDrums$House" (105 : Nat) ({ cls := "MaltDrums$House", name := "drumOf", desc := "(I)I" } : Jvm.MethodName)) ∈ lw_all := lw_g (lw_at lw_m5 20 rfl) rfl
theorem q1045 : (Jvm.Cond.instanceMethod ({ cls := "MaltDrums$House", name := "drumOf", desc := "(I)I" } : Jvm.MethodName)) ∈ lw_all := lw_g (lw_at lw_m5 21 rfl) rfl
theorem q1046 : (Jvm.Cond.selects "MaltDrums$House" ({ cls := "MaltDrums$House", name := "drumOf", desc := "(I)I" } : Jvm.MethodName) ({ cls := "MaltDrums$House", name := "drumOf", desc := "(I)I" } : Jvm.MethodName)) ∈ lw_all := lw_g (lw_at lw_m5 22 rfl) rfl
theorem q1047 : (Jvm.Cond.code ({ cls := "MaltDrums$House", name := "drumOf", desc := "(I)I" } : Jvm.MethodName) prog_6_method_8_code (4 : Nat) (Option.some Jvm.ClassFile.FieldType.int)) ∈ lw_all := lw_g (lw_at lw_m5 23 rfl) rfl
theorem q1048 : (Jvm.Cond.methodLink "MaltDrums$House" (179 : Nat) ({ cls := "MaltDrums$House", name := "growHour", desc := "(ILMaltDrums$Bed;)Z" } : Jvm.MethodName)) ∈ lw_all := lw_g (lw_at lw_m5 24 rfl) rfl
theorem q1049 : (Jvm.Cond.privateMethod ({ cls := "MaltDrums$House", name := "growHour", desc := "(ILMaltDrums$Bed;)Z" } : Jvm.MethodName)) ∈ lw_tbl := lw_at lw_m5 25 rfl
theorem q1050 : (Jvm.Cond.instanceMethod ({ cls := "MaltDrums$House", name := "growHour", desc := "(ILMaltDrums$Bed;)Z" } : Jvm.MethodName)) ∈ lw_all := lw_g (lw_at lw_m5 26 rfl) rfl
theorem q1051 : (Jvm.Cond.code ({ cls := "MaltDrums$House", name := "growHour", desc := "(ILMaltDrums$Bed;)Z" } : Jvm.MethodName) prog_6_method_28_code (9 : Nat) (Option.some Jvm.ClassFile.FieldType.boolean)) ∈ lw_all := lw_g (lw_at lw_m5 27 rfl) rfl
theorem q1052 : (Jvm.Cond.methodLink "MaltDrums$House" (160 : Nat) ({ cls := "MaltDrums$House", name := "pace", desc := "(I)I" } : Jvm.MethodName)) ∈ lw_all := lw_g (lw_at lw_m5 28 rfl) rfl
theorem q1053 : (Jvm.Cond.instanceMethod ({ cls := "MaltDrums$House", name := "pace", desc := "(I)I" } : Jvm.MethodName)) ∈ lw_all := lw_g (lw_at lw_m5 29 rfl) rfl
theorem q1054 : (Jvm.Cond.selects "MaltDrums$House" ({ cls := "MaltDrums$House", name := "pace", desc := "(I)I" } : Jvm.MethodName) ({ cls := "MaltDrums$House", name := "pace", desc := "(I)I" } : Jvm.MethodName)) ∈ lw_all := lw_g (lw_at lw_m5 30 rfl) rfl
theorem q1055 : (Jvm.Cond.code ({ cls := "MaltDrums$House", name := "pace", desc := "(I)I" } : Jvm.MethodName) prog_6_method_10_code (4 : Nat) (Option.some Jvm.ClassFile.FieldType.int)) ∈ lw_all := lw_g (lw_at lw_m5 31 rfl) rfl
theorem q1056 : (Jvm.Cond.methodLink "MaltDrums$House" (108 : Nat) ({ cls := "MaltDrums$House", name := "isGrowing", desc := "(I)Z" } : Jvm.MethodName)) ∈ lw_all := lw_g (lw_at lw_m5 32 rfl) rfl
theorem q1057 : (Jvm.Cond.instanceMethod ({ cls := "MaltDrums$House", name := "isGrowing", desc := "(I)Z" } : Jvm.MethodName)) ∈ lw_all := lw_g (lw_at lw_m5 33 rfl) rfl
theorem q1058 : (Jvm.Cond.selects "MaltDrums$House" ({ cls := "MaltDrums$House", name := "isGrowing", desc := "(I)Z" } : Jvm.MethodName) ({ cls := "MaltDrums$House", name := "isGrowing", desc := "(I)Z" } : Jvm.MethodName)) ∈ lw_all := lw_g (lw_at lw_m5 34 rfl) rfl
theorem q1059 : (Jvm.Cond.code ({ cls := "MaltDrums$House", name := "isGrowing", desc := "(I)Z" } : Jvm.MethodName) prog_6_method_7_code (2 : Nat) (Option.some Jvm.ClassFile.FieldType.boolean)) ∈ lw_all := lw_g (lw_at lw_m5 35 rfl) rfl
theorem q1060 : (Jvm.Cond.methodLinkNest "MaltDrums$House" (94 : Nat) ({ cls := "MaltDrums", name := "isWithin", desc := "(III)Z" } : Jvm.MethodName) "MaltDrums") ∈ lw_tbl := lw_at lw_m5 36 rfl
theorem q1061 : (Jvm.Cond.interfaceEntry "MaltDrums$House" (163 : Nat)) ∈ lw_tbl := lw_at lw_m5 37 rfl
theorem q1062 : (Jvm.Cond.methodLink "MaltDrums$House" (163 : Nat) ({ cls := "MaltDrums$Bed", name := "air", desc := "()I" } : Jvm.MethodName)) ∈ lw_all := lw_g (lw_at lw_m5 38 rfl) rfl
theorem q1077 : (Jvm.Cond.interfaceEntry "MaltDrums$House" (166 : Nat)) ∈ lw_tbl := lw_at lw_m5 53 rfl
theorem q1078 : (Jvm.Cond.methodLink "MaltDrums$House" (166 : Nat) ({ cls := "MaltDrums$Bed", name := "dew", desc := "()I" } : Jvm.MethodName)) ∈ lw_all := lw_g (lw_at lw_m5 54 rfl) rfl
theorem q1090 : (Jvm.Cond.interfaceEntry "MaltDrums$House" (169 : Nat)) ∈ lw_tbl := lw_at lw_m5 66 rfl
theorem q1091 : (Jvm.Cond.methodLink "MaltDrums$House" (169 : Nat) ({ cls := "MaltDrums$Bed", name := "isHeap", desc := "()Z" } : Jvm.MethodName)) ∈ lw_all := lw_g (lw_at lw_m5 67 rfl) rfl
theorem q1103 : (Jvm.Cond.interfaceEntry "MaltDrums$House" (127 : Nat)) ∈ lw_tbl := lw_at lw_m5 79 rfl
theorem q1104 : (Jvm.Cond.methodLink "MaltDrums$House" (127 : Nat) ({ cls := "MaltDrums$Bed", name := "turn", desc := "()I" } : Jvm.MethodName)) ∈ lw_all := lw_g (lw_at lw_m5 80 rfl) rfl
theorem q1116 : (Jvm.Cond.methodLink "MaltDrums$House" (148 : Nat) ({ cls := "MaltDrums$House", name := "bring", desc := "(II)V" } : Jvm.MethodName)) ∈ lw_all := lw_g (lw_at lw_m5 92 rfl) rfl
theorem q1117 : (Jvm.Cond.privateMethod ({ cls := "MaltDrums$House", name := "bring", desc := "(II)V" } : Jvm.MethodName)) ∈ lw_tbl := lw_at lw_m5 93 rfl
theorem q1118 : (Jvm.Cond.instanceMethod ({ cls := "MaltDrums$House", name := "bring", desc := "(II)V" } : Jvm.MethodName)) ∈ lw_all := lw_g (lw_at lw_m5 94 rfl) rfl
theorem q1119 : (Jvm.Cond.code ({ cls := "MaltDrums$House", name := "bring", desc := "(II)V" } : Jvm.MethodName) prog_6_method_19_code (3 : Nat) (Option.none : Option Jvm.ClassFile.FieldType)) ∈ lw_all := lw_g (lw_at lw_m5 95 rfl) rfl
theorem q1120 : (Jvm.Cond.methodLink "MaltDrums$House" (140 : Nat) ({ cls := "MaltDrums$House", name := "leaveDrum", desc := "(I)V" } : Jvm.MethodName)) ∈ lw_all := lw_g (lw_at lw_m5 96 rfl) rfl
theorem q1121 : (Jvm.Cond.privateMethod ({ cls := "MaltDrums$House", name := "leaveDrum", desc := "(I)V" } : Jvm.MethodName)) ∈ lw_tbl := lw_at lw_m5 97 rfl
theorem q1122 : (Jvm.Cond.instanceMethod ({ cls := "MaltDrums$House", name := "leaveDrum", desc := "(I)V" } : Jvm.MethodName)) ∈ lw_all := lw_g (lw_at lw_m5 98 rfl) rfl
theorem q1123 : (Jvm.Cond.code ({ cls := "MaltDrums$House", name := "leaveDrum", desc := "(I)V" } : Jvm.MethodName) prog_6_method_18_code (3 : Nat) (Option.none : Option Jvm.ClassFile.FieldType)) ∈ lw_all := lw_g (lw_at lw_m5 99 rfl) rfl
theorem q1124 : (Jvm.Cond.methodLink "MaltDrums$House" (144 : Nat) ({ cls := "MaltDrums$House", name := "note", desc := "(II)V" } : Jvm.MethodName)) ∈ lw_all := lw_g (lw_at lw_m5 100 rfl) rfl
theorem q1125 : (Jvm.Cond.privateMethod ({ cls := "MaltDrums$House", name := "note", desc := "(II)V" } : Jvm.MethodName)) ∈ lw_tbl := lw_at lw_m5 101 rfl
theorem q1126 : (Jvm.Cond.instanceMethod ({ cls := "MaltDrums$House", name := "note", desc := "(II)V" } : Jvm.MethodName)) ∈ lw_all := lw_g (lw_at lw_m5 102 rfl) rfl
theorem q1127 : (Jvm.Cond.code ({ cls := "MaltDrums$House", name := "note", desc := "(II)V" } : Jvm.MethodName) prog_6_method_17_code (3 : Nat) (Option.none : Option Jvm.ClassFile.FieldType)) ∈ lw_all := lw_g (lw_at lw_m5 103 rfl) rfl
theorem q1128 : (Jvm.Cond.classLink "MaltDrums$House" (131 : Nat) "MaltDrums$Entry") ∈ lw_all := lw_g (lw_at lw_m5 104 rfl) rfl
theorem q1130 : (Jvm.Cond.methodLink "MaltDrums$House" (133 : Nat) ({ cls := "MaltDrums$Entry", name := "first", desc := "(I)LMaltDrums$Entry;" } : Jvm.MethodName)) ∈ lw_all := lw_g (lw_at lw_m5 106 rfl) rfl
theorem q1148 : (Jvm.Cond.methodLink "MaltDrums$House" (137 : Nat) ({ cls := "MaltDrums$Entry", name := "<init>", desc := "(ILMaltDrums$Entry;)V" } : Jvm.MethodName)) ∈ lw_all := lw_g (lw_at lw_m5 124 rfl) rfl
theorem q1149 : (Jvm.Cond.methodLink "MaltDrums$House" (183 : Nat) ({ cls := "MaltDrums$House", name := "kilnHour", desc := "(I)V" } : Jvm.MethodName)) ∈ lw_all := lw_g (lw_at lw_m5 125 rfl) rfl
theorem q1150 : (Jvm.Cond.privateMethod ({ cls := "MaltDrums$House", name := "kilnHour", desc := "(I)V" } : Jvm.MethodName)) ∈ lw_tbl := lw_at lw_m5 126 rfl
theorem q1151 : (Jvm.Cond.instanceMethod ({ cls := "MaltDrums$House", name := "kilnHour", desc := "(I)V" } : Jvm.MethodName)) ∈ lw_all := lw_g (lw_at lw_m5 127 rfl) rfl
theorem q1152 : (Jvm.Cond.code ({ cls := "MaltDrums$House", name := "kilnHour", desc := "(I)V" } : Jvm.MethodName) prog_6_method_30_code (3 : Nat) (Option.none : Option Jvm.ClassFile.FieldType)) ∈ lw_all := lw_g (lw_at lw_m5 128 rfl) rfl
theorem q1153 : (Jvm.Cond.methodLink "MaltDrums$House" (173 : Nat) ({ cls := "MaltDrums$House", name := "kilnHeat", desc := "()I" } : Jvm.MethodName)) ∈ lw_all := lw_g (lw_at lw_m5 129 rfl) rfl
theorem q1154 : (Jvm.Cond.instanceMethod ({ cls := "MaltDrums$House", name := "kilnHeat", desc := "()I" } : Jvm.MethodName)) ∈ lw_all := lw_g (lw_at lw_m5 130 rfl) rfl
theorem q1155 : (Jvm.Cond.selects "MaltDrums$House" ({ cls := "MaltDrums$House", name := "kilnHeat", desc := "()I" } : Jvm.MethodName) ({ cls := "MaltDrums$House", name := "kilnHeat", desc := "()I" } : Jvm.MethodName)) ∈ lw_all := lw_g (lw_at lw_m5 131 rfl) rfl
theorem q1156 : (Jvm.Cond.code ({ cls := "MaltDrums$House", name := "kilnHeat", desc := "()I" } : Jvm.MethodName) prog_6_method_29_code (1 : Nat) (Option.some Jvm.ClassFile.FieldType.int)) ∈ lw_all := lw_g (lw_at lw_m5 132 rfl) rfl
theorem q1157 : (Jvm.Cond.methodLink "MaltDrums$House" (189 : Nat) ({ cls := "MaltDrums$House", name := "isDry", desc := "()Z" } : Jvm.MethodName)) ∈ lw_all := lw_g (lw_at lw_m5 133 rfl) rfl
theorem q1158 : (Jvm.Cond.privateMethod ({ cls := "MaltDrums$House", name := "isDry", desc := "()Z" } : Jvm.MethodName)) ∈ lw_tbl := lw_at lw_m5 134 rfl
theorem q1159 : (Jvm.Cond.instanceMethod ({ cls := "MaltDrums$House", name := "isDry", desc := "()Z" } : Jvm.MethodName)) ∈ lw_all := lw_g (lw_at lw_m5 135 rfl) rfl
theorem q1160 : (Jvm.Cond.code ({ cls := "MaltDrums$House", name := "isDry", desc := "()Z" } : Jvm.MethodName) prog_6_method_31_code (3 : Nat) (Option.some Jvm.ClassFile.FieldType.boolean)) ∈ lw_all := lw_g (lw_at lw_m5 136 rfl) rfl
theorem q1294 : (Jvm.Cond.instanceMethod ({ cls := "MaltDrums$House", name := "add", desc := "(I)I" } : Jvm.MethodName)) ∈ lw_all := lw_g (lw_at lw_m6 30 rfl) rfl
theorem q1295 : (Jvm.Cond.selects "MaltDrums$House" ({ cls := "MaltDrums$House", name := "add", desc := "(I)I" } : Jvm.MethodName) ({ cls := "MaltDrums$House", name := "add", desc := "(I)I" } : Jvm.MethodName)) ∈ lw_all := lw_g (lw_at lw_m6 31 rfl) rfl
theorem q1296 : (Jvm.Cond.code ({ cls := "MaltDrums$House", name := "add", desc := "(I)I" } : Jvm.MethodName) prog_6_method_20_code (3 : Nat) (Option.some Jvm.ClassFile.FieldType.int)) ∈ lw_all := lw_g (lw_at lw_m6 32 rfl) rfl
theorem q1312 : (Jvm.Cond.instanceMethod ({ cls := "MaltDrums$House", name := "isLot", desc := "(I)Z" } : Jvm.MethodName)) ∈ lw_all := lw_g (lw_at lw_m6 48 rfl) rfl
theorem q1313 : (Jvm.Cond.selects "MaltDrums$House" ({ cls := "MaltDrums$House", name := "isLot", desc := "(I)Z" } : Jvm.MethodName) ({ cls := "MaltDrums$House", name := "isLot", desc := "(I)Z" } : Jvm.MethodName)) ∈ lw_all := lw_g (lw_at lw_m6 49 rfl) rfl
theorem q1314 : (Jvm.Cond.code ({ cls := "MaltDrums$House", name := "isLot", desc := "(I)Z" } : Jvm.MethodName) prog_6_method_3_code (2 : Nat) (Option.some Jvm.ClassFile.FieldType.boolean)) ∈ lw_all := lw_g (lw_at lw_m6 50 rfl) rfl
theorem q1332 : (Jvm.Cond.instanceMethod ({ cls := "MaltDrums$House", name := "whyNotSteep", desc := "(I)I" } : Jvm.MethodName)) ∈ lw_all := lw_g (lw_at lw_m6 68 rfl) rfl
theorem q1333 : (Jvm.Cond.selects "MaltDrums$House" ({ cls := "MaltDrums$House", name := "whyNotSteep", desc := "(I)I" } : Jvm.MethodName) ({ cls := "MaltDrums$House", name := "whyNotSteep", desc := "(I)I" } : Jvm.MethodName)) ∈ lw_all := lw_g (lw_at lw_m6 69 rfl) rfl
theorem q1334 : (Jvm.Cond.code ({ cls := "MaltDrums$House", name := "whyNotSteep", desc := "(I)I" } : Jvm.MethodName) prog_6_method_11_code (2 : Nat) (Option.some Jvm.ClassFile.FieldType.int)) ∈ lw_all := lw_g (lw_at lw_m6 70 rfl) rfl
theorem q1335 : (Jvm.Cond.methodLink "MaltDrums$House" (112 : Nat) ({ cls := "MaltDrums$House", name := "set", desc := "(I)I" } : Jvm.MethodName)) ∈ lw_all := lw_g (lw_at lw_m6 71 rfl) rfl
theorem q1336 : (Jvm.Cond.methodLink "MaltDrums$House" (115 : Nat) ({ cls := "java/lang/Integer", name := "bitCount", desc := "(I)I" } : Jvm.MethodName)) ∈ lw_all := lw_g (lw_at lw_m6 72 rfl) rfl
theorem q1338 : (Jvm.Cond.instanceMethod ({ cls := "MaltDrums$House", name := "steep", desc := "(I)I" } : Jvm.MethodName)) ∈ lw_all := lw_g (lw_at lw_m6 74 rfl) rfl
theorem q1339 : (Jvm.Cond.selects "MaltDrums$House" ({ cls := "MaltDrums$House", name := "steep", desc := "(I)I" } : Jvm.MethodName) ({ cls := "MaltDrums$House", name := "steep", desc := "(I)I" } : Jvm.MethodName)) ∈ lw_all := lw_g (lw_at lw_m6 75 rfl) rfl
theorem q1340 : (Jvm.Cond.code ({ cls := "MaltDrums$House", name := "steep", desc := "(I)I" } : Jvm.MethodName) prog_6_method_21_code (2 : Nat) (Option.some Jvm.ClassFile.FieldType.int)) ∈ lw_all := lw_g (lw_at lw_m6 76 rfl) rfl
theorem q1352 : (Jvm.Cond.instanceMethod ({ cls := "MaltDrums$House", name := "whyNotDrum", desc := "(II)I" } : Jvm.MethodName)) ∈ lw_all := lw_g (lw_at lw_m6 88 rfl) rfl
theorem q1353 : (Jvm.Cond.selects "MaltDrums$House" ({ cls := "MaltDrums$House", name := "whyNotDrum", desc := "(II)I" } : Jvm.MethodName) ({ cls := "MaltDrums$House", name := "whyNotDrum", desc := "(II)I" } : Jvm.MethodName)) ∈ lw_all := lw_g (lw_at lw_m6 89 rfl) rfl
theorem q1354 : (Jvm.Cond.code ({ cls := "MaltDrums$House", name := "whyNotDrum", desc := "(II)I" } : Jvm.MethodName) prog_6_method_12_code (3 : Nat) (Option.some Jvm.ClassFile.FieldType.int)) ∈ lw_all := lw_g (lw_at lw_m6 90 rfl) rfl
theorem q1356 : (Jvm.Cond.instanceMethod ({ cls := "MaltDrums$House", name := "toDrum", desc := "(II)I" } : Jvm.MethodName)) ∈ lw_all := lw_g (lw_at lw_m6 92 rfl) rfl
theorem q1357 : (Jvm.Cond.selects "MaltDrums$House" ({ cls := "MaltDrums$House", name := "toDrum", desc := "(II)I" } : Jvm.MethodName) ({ cls := "MaltDrums$House", name := "toDrum", desc := "(II)I" } : Jvm.MethodName)) ∈ lw_all := lw_g (lw_at lw_m6 93 rfl) rfl
theorem q1358 : (Jvm.Cond.code ({ cls := "MaltDrums$House", name := "toDrum", desc := "(II)I" } : Jvm.MethodName) prog_6_method_22_code (3 : Nat) (Option.some Jvm.ClassFile.FieldType.int)) ∈ lw_all := lw_g (lw_at lw_m6 94 rfl) rfl
theorem q1367 : (Jvm.Cond.instanceMethod ({ cls := "MaltDrums$House", name := "canHeap", desc := "(I)Z" } : Jvm.MethodName)) ∈ lw_all := lw_g (lw_at lw_m6 103 rfl) rfl
theorem q1368 : (Jvm.Cond.selects "MaltDrums$House" ({ cls := "MaltDrums$House", name := "canHeap", desc := "(I)Z" } : Jvm.MethodName) ({ cls := "MaltDrums$House", name := "canHeap", desc := "(I)Z" } : Jvm.MethodName)) ∈ lw_all := lw_g (lw_at lw_m6 104 rfl) rfl
theorem q1369 : (Jvm.Cond.code ({ cls := "MaltDrums$House", name := "canHeap", desc := "(I)Z" } : Jvm.MethodName) prog_6_method_13_code (2 : Nat) (Option.some Jvm.ClassFile.FieldType.boolean)) ∈ lw_all := lw_g (lw_at lw_m6 105 rfl) rfl
theorem q1371 : (Jvm.Cond.instanceMethod ({ cls := "MaltDrums$House", name := "toHeap", desc := "(I)I" } : Jvm.MethodName)) ∈ lw_all := lw_g (lw_at lw_m6 107 rfl) rfl
theorem q1372 : (Jvm.Cond.selects "MaltDrums$House" ({ cls := "MaltDrums$House", name := "toHeap", desc := "(I)I" } : Jvm.MethodName) ({ cls := "MaltDrums$House", name := "toHeap", desc := "(I)I" } : Jvm.MethodName)) ∈ lw_all := lw_g (lw_at lw_m6 108 rfl) rfl
theorem q1373 : (Jvm.Cond.code ({ cls := "MaltDrums$House", name := "toHeap", desc := "(I)I" } : Jvm.MethodName) prog_6_method_23_code (2 : Nat) (Option.some Jvm.ClassFile.FieldType.int)) ∈ lw_all := lw_g (lw_at lw_m6 109 rfl) rfl
theorem q1382 : (Jvm.Cond.instanceMethod ({ cls := "MaltDrums$House", name := "whyNotLoad", desc := "(I)I" } : Jvm.MethodName)) ∈ lw_all := lw_g (lw_at lw_m6 118 rfl) rfl
theorem q1383 : (Jvm.Cond.selects "MaltDrums$House" ({ cls := "MaltDrums$House", name := "whyNotLoad", desc := "(I)I" } : Jvm.MethodName) ({ cls := "MaltDrums$House", name := "whyNotLoad", desc := "(I)I" } : Jvm.MethodName)) ∈ lw_all := lw_g (lw_at lw_m6 119 rfl) rfl
theorem q1384 : (Jvm.Cond.code ({ cls := "MaltDrums$House", name := "whyNotLoad", desc := "(I)I" } : Jvm.MethodName) prog_6_method_14_code (2 : Nat) (Option.some Jvm.ClassFile.FieldType.int)) ∈ lw_all := lw_g (lw_at lw_m6 120 rfl) rfl
theorem q1385 : (Jvm.Cond.methodLink "MaltDrums$House" (120 : Nat) ({ cls := "MaltDrums$House", name := "weightIn", desc := "(I)I" } : Jvm.MethodName)) ∈ lw_all := lw_g (lw_at lw_m6 121 rfl) rfl
theorem q1387 : (Jvm.Cond.instanceMethod ({ cls := "MaltDrums$House", name := "load", desc := "(I)I" } : Jvm.MethodName)) ∈ lw_all := lw_g (lw_at lw_m6 123 rfl) rfl
theorem q1388 : (Jvm.Cond.selects "MaltDrums$House" ({ cls := "MaltDrums$House", name := "load", desc := "(I)I" } : Jvm.MethodName) ({ cls := "MaltDrums$House", name := "load", desc := "(I)I" } : Jvm.MethodName)) ∈ lw_all := lw_g (lw_at lw_m6 124 rfl) rfl
theorem q1389 : (Jvm.Cond.code ({ cls := "MaltDrums$House", name := "load", desc := "(I)I" } : Jvm.MethodName) prog_6_method_24_code (2 : Nat) (Option.some Jvm.ClassFile.FieldType.int)) ∈ lw_all := lw_g (lw_at lw_m6 125 rfl) rfl
theorem q1398 : (Jvm.Cond.instanceMethod ({ cls := "MaltDrums$House", name := "canLight", desc := "()Z" } : Jvm.MethodName)) ∈ lw_all := lw_g (lw_at lw_m6 134 rfl) rfl
theorem q1399 : (Jvm.Cond.selects "MaltDrums$House" ({ cls := "MaltDrums$House", name := "canLight", desc := "()Z" } : Jvm.MethodName) ({ cls := "MaltDrums$House", name := "canLight", desc := "()Z" } : Jvm.MethodName)) ∈ lw_all := lw_g (lw_at lw_m6 135 rfl) rfl
theorem q1400 : (Jvm.Cond.code ({ cls := "MaltDrums$House", name := "canLight", desc := "()Z" } : Jvm.MethodName) prog_6_method_16_code (1 : Nat) (Option.some Jvm.ClassFile.FieldType.boolean)) ∈ lw_all := lw_g (lw_at lw_m6 136 rfl) rfl
theorem q1402 : (Jvm.Cond.instanceMethod ({ cls := "MaltDrums$House", name := "light", desc := "()I" } : Jvm.MethodName)) ∈ lw_all := lw_g (lw_at lw_m6 138 rfl) rfl
theorem q1403 : (Jvm.Cond.selects "MaltDrums$House" ({ cls := "MaltDrums$House", name := "light", desc := "()I" } : Jvm.MethodName) ({ cls := "MaltDrums$House", name := "light", desc := "()I" } : Jvm.MethodName)) ∈ lw_all := lw_g (lw_at lw_m6 139 rfl) rfl
theorem q1404 : (Jvm.Cond.code ({ cls := "MaltDrums$House", name := "light", desc := "()I" } : Jvm.MethodName) prog_6_method_25_code (1 : Nat) (Option.some Jvm.ClassFile.FieldType.int)) ∈ lw_all := lw_g (lw_at lw_m6 140 rfl) rfl
theorem q1413 : (Jvm.Cond.instanceMethod ({ cls := "MaltDrums$House", name := "whyNotSpray", desc := "(I)I" } : Jvm.MethodName)) ∈ lw_all := lw_g (lw_at lw_m6 149 rfl) rfl
theorem q1414 : (Jvm.Cond.selects "MaltDrums$House" ({ cls := "MaltDrums$House", name := "whyNotSpray", desc := "(I)I" } : Jvm.MethodName) ({ cls := "MaltDrums$House", name := "whyNotSpray", desc := "(I)I" } : Jvm.MethodName)) ∈ lw_all := lw_g (lw_at lw_m6 150 rfl) rfl
theorem q1415 : (Jvm.Cond.code ({ cls := "MaltDrums$House", name := "whyNotSpray", desc := "(I)I" } : Jvm.MethodName) prog_6_method_15_code (2 : Nat) (Option.some Jvm.ClassFile.FieldType.int)) ∈ lw_all := lw_g (lw_at lw_m6 151 rfl) rfl
theorem q1417 : (Jvm.Cond.instanceMethod ({ cls := "MaltDrums$House", name := "spray", desc := "(I)I" } : Jvm.MethodName)) ∈ lw_all := lw_g (lw_at lw_m6 153 rfl) rfl
theorem q1418 : (Jvm.Cond.selects "MaltDrums$House" ({ cls := "MaltDrums$House", name := "spray", desc := "(I)I" } : Jvm.MethodName) ({ cls := "MaltDrums$House", name := "spray", desc := "(I)I" } : Jvm.MethodName)) ∈ lw_all := lw_g (lw_at lw_m6 154 rfl) rfl
theorem q1419 : (Jvm.Cond.code ({ cls := "MaltDrums$House", name := "spray", desc := "(I)I" } : Jvm.MethodName) prog_6_method_26_code (2 : Nat) (Option.some Jvm.ClassFile.FieldType.int)) ∈ lw_all := lw_g (lw_at lw_m6 155 rfl) rfl
theorem q1466 : (Jvm.Cond.instanceMethod ({ cls := "MaltDrums$House", name := "pass", desc := "(I)I" } : Jvm.MethodName)) ∈ lw_all := lw_g (lw_at lw_m6 202 rfl) rfl
theorem q1467 : (Jvm.Cond.selects "MaltDrums$House" ({ cls := "MaltDrums$House", name := "pass", desc := "(I)I" } : Jvm.MethodName) ({ cls := "MaltDrums$House", name := "pass", desc := "(I)I" } : Jvm.MethodName)) ∈ lw_all := lw_g (lw_at lw_m6 203 rfl) rfl
theorem q1468 : (Jvm.Cond.code ({ cls := "MaltDrums$House", name := "pass", desc := "(I)I" } : Jvm.MethodName) prog_6_method_34_code (4 : Nat) (Option.some Jvm.ClassFile.FieldType.int)) ∈ lw_all := lw_g (lw_at lw_m6 204 rfl) rfl
theorem q1469 : (Jvm.Cond.methodLink "MaltDrums$House" (192 : Nat) ({ cls := "MaltDrums$House", name := "hour", desc := "()I" } : Jvm.MethodName)) ∈ lw_all := lw_g (lw_at lw_m6 205 rfl) rfl
theorem q2210 : (Jvm.Cond.castable "MaltDrums$House" "java/lang/Object") ∈ lw_tbl := lw_at lw_m9 226 rfl
theorem in_X2 : ∀ w ∈ wsX20, w ∈ lw_all := lw_in wsX20 [200, 202, 204, 206, 208, 210, 212, 214, 216, 218, 220, 222, 224, 226, 228, 230, 232, 234, 236, 238, 240, 242] (by decide +kernel) (by decide +kernel)
