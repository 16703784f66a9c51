set_option maxRecDepth 100000
/-! THE START: statics -/
section St3
variable {args : Array Value} {s : State} {A : Nat → Prop}
theorem st_compact (hts : ∀ w ∈ lw_tbl, w.before args s = true) (hn : ∀ w ∈ flatC (Jvm.Cond.and given_1 narrow_1), w.before args s = true) (hA : ∀ a : Nat, a < s.heap.size → ¬ A a) : va_Z "java/lang/String" "COMPACT_STRINGS" "Z" (.int 1) A s s.heap :=
  va_Zof (hts _ q276) (hts _ (lw_all_tbl q75)) (va_eqi (hn (.eq (.static "java/lang/String" "COMPACT_STRINGS" "Z") (.int 1)) (by decide +kernel))) hA
theorem st_stack (hts : ∀ w ∈ lw_tbl, w.before args s = true) (hn : ∀ w ∈ flatC (Jvm.Cond.and given_1 narrow_1), w.before args s = true) (hA : ∀ a : Nat, a < s.heap.size → ¬ A a) : vx_Zq Bundle.tN "UNASSIGNED_STACK" Bundle.steD A s s.heap :=
  vx_Zqof (hts _ q540) (hts _ (lw_all_tbl q78)) (hn (.isRef (.static "java/lang/Throwable" "UNASSIGNED_STACK" "[Ljava/lang/StackTraceElement;")) (by decide +kernel)) hA
theorem st_supp (hts : ∀ w ∈ lw_tbl, w.before args s = true) (hn : ∀ w ∈ flatC (Jvm.Cond.and given_1 narrow_1), w.before args s = true) (hA : ∀ a : Nat, a < s.heap.size → ¬ A a) : vx_Zq Bundle.tN "SUPPRESSED_SENTINEL" Bundle.listD A s s.heap :=
  vx_Zqof (hts _ q542) (hts _ (lw_all_tbl q78)) (hn (.isRef (.static "java/lang/Throwable" "SUPPRESSED_SENTINEL" "Ljava/util/List;")) (by decide +kernel)) hA
theorem st_sioobe (hts : ∀ w ∈ lw_tbl, w.before args s = true) (hn : ∀ w ∈ flatC (Jvm.Cond.and given_1 narrow_1), w.before args s = true) (hA : ∀ a : Nat, a < s.heap.size → ¬ A a) : va_Zq "jdk/internal/util/Preconditions" "SIOOBE_FORMATTER" "Ljava/util/function/BiFunction;" A s s.heap :=
  va_Zqof (hts _ q403) (hts _ (lw_all_tbl q93)) (hn (.isRef (.static "jdk/internal/util/Preconditions" "SIOOBE_FORMATTER" "Ljava/util/function/BiFunction;")) (by decide +kernel)) hA
theorem st_dea (hts : ∀ w ∈ lw_tbl, w.before args s = true) (hn : ∀ w ∈ flatC (Jvm.Cond.and given_1 narrow_1), w.before args s = true) (hA : ∀ a : Nat, a < s.heap.size → ¬ A a) : ∃ t : Nat, va_Z "java/util/ArrayList" "DEFAULTCAPACITY_EMPTY_ELEMENTDATA" "[Ljava/lang/Object;" (.ref t) A s s.heap ∧ va_T (.object "java/lang/Object") t 0 (fun _ => .null) A s s.heap := by
  obtain ⟨t, h1, h2⟩ := va_Tof (tm := .static "java/util/ArrayList" "DEFAULTCAPACITY_EMPTY_ELEMENTDATA" "[Ljava/lang/Object;") (N := 0) (f := fun _ => .null) (by decide) (hn (.arrayOf (.static "java/util/ArrayList" "DEFAULTCAPACITY_EMPTY_ELEMENTDATA" "[Ljava/lang/Object;") (.object "java/lang/Object")) (by decide +kernel)) (va_eqt (hn (.eq (.length (.static "java/util/ArrayList" "DEFAULTCAPACITY_EMPTY_ELEMENTDATA" "[Ljava/lang/Object;")) (.int 0)) (by decide +kernel))) (fun j h => absurd h (by omega)) hA
  exact ⟨t, va_Zof (hts _ q700) (hts _ (lw_all_tbl q97)) h1 hA, h2⟩
theorem st_mirror (hn : ∀ w ∈ flatC (Jvm.Cond.and given_1 narrow_1), w.before args s = true) : ∃ mi : Nat, va_Mi "[Ljava/lang/Object;" mi s := va_Mi.of (hn (.isRef (.mirror "[Ljava/lang/Object;")) (by decide +kernel))
end St3
