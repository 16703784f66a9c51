set_option maxRecDepth 100000
/-! THE START: what the words of the tables give -/
section St
variable {args : Array Value} {s : State}
theorem st_nw (hts : ∀ w ∈ lw_tbl, w.before args s = true) : nwOK s := by
  intro w hw hk
  have h := hts w hw
  cases w <;> first
    | exact va_Nw.of rfl h
    | (rename_i ty; cases ty <;> first | exact va_Nw.of rfl h | exact va_AO.of h | cases hk)
    | cases hk
theorem st_fw (hts : ∀ w ∈ lw_tbl, w.before args s = true) : fwOK s := by
  intro q hq
  simp only [fwL, List.mem_cons, List.not_mem_nil, or_false] at hq
  rcases hq with rfl | rfl | rfl | rfl | rfl | rfl | rfl | rfl
  · exact va_Fw.of (hts _ q1064) (hts _ q1063) (hts _ q1069) (hts _ q1067) (hts _ q1065)
  · exact va_Fw.of (hts _ q1064) (hts _ q1063) (hts _ q1075) (hts _ q1073) (hts _ q1071)
  · exact va_Fw.of (hts _ q1080) (hts _ q1079) (hts _ q1084) (hts _ q1082) (hts _ q1065)
  · exact va_Fw.of (hts _ q1106) (hts _ q1105) (hts _ q1110) (hts _ q1108) (hts _ q1065)
  · exact va_Fw.of (hts _ q1093) (hts _ q1092) (hts _ q1097) (hts _ q1095) (hts _ q1065)
  · exact va_Fw.of (hts _ q903) (hts _ q902) (hts _ q908) (hts _ q906) (hts _ q904)
  · exact va_Fw.of (hts _ q1514) (hts _ q1513) (hts _ q1518) (hts _ q1516) (hts _ q904)
  · exact va_Fw.of (hts _ q1505) (hts _ q1504) (hts _ q1509) (hts _ q1507) (hts _ q904)
theorem st_fd (hts : ∀ w ∈ lw_tbl, w.before args s = true) (hn : ∀ w ∈ flatC (Jvm.Cond.and given_1 narrow_1), w.before args s = true) : fdOK s := by
  intro q hq
  simp only [fdL, List.mem_cons, List.not_mem_nil, or_false] at hq
  rcases hq with rfl | rfl | rfl
  · exact ⟨va_any rfl (hts _ q1080), va_any rfl (hts _ q1079), va_any rfl (hts _ q1088), hn (.landsInDefault "MaltDrums$Heap" ⟨"MaltDrums$Bed", "dew", "()I"⟩ ⟨"MaltDrums$Bed", "dew", "()I"⟩) (by decide +kernel), va_any rfl (hts _ q1071)⟩
  · exact ⟨va_any rfl (hts _ q1106), va_any rfl (hts _ q1105), va_any rfl (hts _ q1114), hn (.landsInDefault "MaltDrums$Heap" ⟨"MaltDrums$Bed", "turn", "()I"⟩ ⟨"MaltDrums$Bed", "turn", "()I"⟩) (by decide +kernel), va_any rfl (hts _ q1071)⟩
  · exact ⟨va_any rfl (hts _ q1093), va_any rfl (hts _ q1092), va_any rfl (hts _ q1101), hn (.landsInDefault "MaltDrums$Heap" ⟨"MaltDrums$Bed", "isHeap", "()Z"⟩ ⟨"MaltDrums$Bed", "isHeap", "()Z"⟩) (by decide +kernel), va_any rfl (hts _ q1071)⟩
theorem st_pv (hts : ∀ w ∈ lw_tbl, w.before args s = true) : pvOK s := by
  intro y hy
  simp only [pvL, List.mem_cons, List.not_mem_nil, or_false] at hy
  rcases hy with rfl | rfl
  · exact va_any rfl (hts _ q351)
  · exact va_any rfl (hts _ q355)
theorem st_nc (hn : ∀ w ∈ flatC (Jvm.Cond.and given_1 narrow_1), w.before args s = true) : ncOK s := by
  intro q hq
  simp only [ncL, List.mem_cons, List.not_mem_nil, or_false] at hq
  rcases hq with rfl | rfl | rfl | rfl | rfl | rfl
  · exact va_Nc.of (hn (.not (.castable "java/lang/IllegalArgumentException" "java/lang/IllegalStateException")) (by decide +kernel))
  · exact va_Nc.of (hn (.not (.castable "java/lang/IllegalArgumentException" "java/lang/IndexOutOfBoundsException")) (by decide +kernel))
  · exact va_Nc.of (hn (.not (.castable "java/lang/IllegalStateException" "java/lang/IllegalArgumentException")) (by decide +kernel))
  · exact va_Nc.of (hn (.not (.castable "java/lang/IllegalStateException" "java/lang/IndexOutOfBoundsException")) (by decide +kernel))
  · exact va_Nc.of (hn (.not (.castable "java/lang/IndexOutOfBoundsException" "java/lang/IllegalArgumentException")) (by decide +kernel))
  · exact va_Nc.of (hn (.not (.castable "java/lang/IndexOutOfBoundsException" "java/lang/IllegalStateException")) (by decide +kernel))
end St
