set_option maxRecDepth 100000
/-! THE START: the String constants -/
theorem st_refS {args : Array Value} {s : State} {tm : Term} (h : (Cond.exactly tm "java/lang/String").before args s = true) : ∃ a : Nat, tm.eval args s none [] s = some (.ref a) := by
  obtain ⟨a2, c, cA, kA, q1, -⟩ := Cond.exactly_spec (args := args) (first := s) (o := none) (s := s) (idx := []) (t := tm) (cls := "java/lang/String") h
  exact ⟨a2, q1⟩
theorem st_s0 {args : Array Value} {s : State} {A : Nat → Prop} (hts : ∀ w ∈ lw_tbl, w.before args s = true) (hn : ∀ w ∈ flatC (Jvm.Cond.and given_1 narrow_1), w.before args s = true) (hA : ∀ a : Nat, a < s.heap.size → ¬ A a) : ∃ q v : Nat, (Term.string "MaltDrums$Reader" 55).eval args s none [] s = some (.ref q) ∧ va_O "java/lang/String" q A s s.heap ∧ va_OF "java/lang/String" "coder" "B" (.int 0) q A s s.heap ∧ va_OF "java/lang/String" "value" "[B" (.ref v) q A s s.heap ∧ va_T .byte v 0 (fun j => .int (([] : List Int32).getD j 0)) A s s.heap := by
  have hex := hn (.exactly (.string "MaltDrums$Reader" 55) "java/lang/String") (by decide +kernel)
  obtain ⟨q, hq⟩ := st_refS hex
  have hel : ∀ j : Nat, j < 0 → (Term.elem (.field (.string "MaltDrums$Reader" 55) "java/lang/String" "value" "[B") (.int (Int32.ofNat j))).eval args s none [] s = some (.int (([] : List Int32).getD j 0)) := fun j h => absurd h (by omega)
  obtain ⟨v, hv, hT⟩ := va_Tof (tm := (.field (.string "MaltDrums$Reader" 55) "java/lang/String" "value" "[B")) (N := 0) (f := fun j => .int (([] : List Int32).getD j 0)) (by decide) (hn (.arrayOf (.field (.string "MaltDrums$Reader" 55) "java/lang/String" "value" "[B") .byte) (by decide +kernel)) (va_eqt (hn (.eq (.length (.field (.string "MaltDrums$Reader" 55) "java/lang/String" "value" "[B")) (.int 0)) (by decide +kernel))) hel hA
  exact ⟨q, v, hq, va_Oof hex hq hA, vk_OFof hq (va_eqt (hn (.eq (.field (.string "MaltDrums$Reader" 55) "java/lang/String" "coder" "B") (.int 0)) (by decide +kernel))) hA, vk_OFof hq hv hA, hT⟩
theorem st_s1 {args : Array Value} {s : State} {A : Nat → Prop} (hts : ∀ w ∈ lw_tbl, w.before args s = true) (hn : ∀ w ∈ flatC (Jvm.Cond.and given_1 narrow_1), w.before args s = true) (hA : ∀ a : Nat, a < s.heap.size → ¬ A a) : ∃ q v : Nat, (Term.string "MaltDrums$Reader" 62).eval args s none [] s = some (.ref q) ∧ va_O "java/lang/String" q A s s.heap ∧ va_OF "java/lang/String" "coder" "B" (.int 0) q A s s.heap ∧ va_OF "java/lang/String" "value" "[B" (.ref v) q A s s.heap ∧ va_T .byte v 1 (fun j => .int (([43] : List Int32).getD j 0)) A s s.heap := by
  have hex := hn (.exactly (.string "MaltDrums$Reader" 62) "java/lang/String") (by decide +kernel)
  obtain ⟨q, hq⟩ := st_refS hex
  have hel : ∀ j : Nat, j < 1 → (Term.elem (.field (.string "MaltDrums$Reader" 62) "java/lang/String" "value" "[B") (.int (Int32.ofNat j))).eval args s none [] s = some (.int (([43] : List Int32).getD j 0)) := fun j h => by
    match j, h with
    | 0, _ => exact va_eqt (hn (.eq (.elem (.field (.string "MaltDrums$Reader" 62) "java/lang/String" "value" "[B") (.int 0)) (.int 43)) (by decide +kernel))
    | n + 1, h => omega
  obtain ⟨v, hv, hT⟩ := va_Tof (tm := (.field (.string "MaltDrums$Reader" 62) "java/lang/String" "value" "[B")) (N := 1) (f := fun j => .int (([43] : List Int32).getD j 0)) (by decide) (hn (.arrayOf (.field (.string "MaltDrums$Reader" 62) "java/lang/String" "value" "[B") .byte) (by decide +kernel)) (va_eqt (hn (.eq (.length (.field (.string "MaltDrums$Reader" 62) "java/lang/String" "value" "[B")) (.int 1)) (by decide +kernel))) hel hA
  exact ⟨q, v, hq, va_Oof hex hq hA, vk_OFof hq (va_eqt (hn (.eq (.field (.string "MaltDrums$Reader" 62) "java/lang/String" "coder" "B") (.int 0)) (by decide +kernel))) hA, vk_OFof hq hv hA, hT⟩
theorem st_s2 {args : Array Value} {s : State} {A : Nat → Prop} (hts : ∀ w ∈ lw_tbl, w.before args s = true) (hn : ∀ w ∈ flatC (Jvm.Cond.and given_1 narrow_1), w.before args s = true) (hA : ∀ a : Nat, a < s.heap.size → ¬ A a) : ∃ q v : Nat, (Term.string "MaltDrums$Reader" 68).eval args s none [] s = some (.ref q) ∧ va_O "java/lang/String" q A s s.heap ∧ va_OF "java/lang/String" "coder" "B" (.int 0) q A s s.heap ∧ va_OF "java/lang/String" "value" "[B" (.ref v) q A s s.heap ∧ va_T .byte v 1 (fun j => .int (([115] : List Int32).getD j 0)) A s s.heap := by
  have hex := hn (.exactly (.string "MaltDrums$Reader" 68) "java/lang/String") (by decide +kernel)
  obtain ⟨q, hq⟩ := st_refS hex
  have hel : ∀ j : Nat, j < 1 → (Term.elem (.field (.string "MaltDrums$Reader" 68) "java/lang/String" "value" "[B") (.int (Int32.ofNat j))).eval args s none [] s = some (.int (([115] : List Int32).getD j 0)) := fun j h => by
    match j, h with
    | 0, _ => exact va_eqt (hn (.eq (.elem (.field (.string "MaltDrums$Reader" 68) "java/lang/String" "value" "[B") (.int 0)) (.int 115)) (by decide +kernel))
    | n + 1, h => omega
  obtain ⟨v, hv, hT⟩ := va_Tof (tm := (.field (.string "MaltDrums$Reader" 68) "java/lang/String" "value" "[B")) (N := 1) (f := fun j => .int (([115] : List Int32).getD j 0)) (by decide) (hn (.arrayOf (.field (.string "MaltDrums$Reader" 68) "java/lang/String" "value" "[B") .byte) (by decide +kernel)) (va_eqt (hn (.eq (.length (.field (.string "MaltDrums$Reader" 68) "java/lang/String" "value" "[B")) (.int 1)) (by decide +kernel))) hel hA
  exact ⟨q, v, hq, va_Oof hex hq hA, vk_OFof hq (va_eqt (hn (.eq (.field (.string "MaltDrums$Reader" 68) "java/lang/String" "coder" "B") (.int 0)) (by decide +kernel))) hA, vk_OFof hq hv hA, hT⟩
theorem st_s3 {args : Array Value} {s : State} {A : Nat → Prop} (hts : ∀ w ∈ lw_tbl, w.before args s = true) (hn : ∀ w ∈ flatC (Jvm.Cond.and given_1 narrow_1), w.before args s = true) (hA : ∀ a : Nat, a < s.heap.size → ¬ A a) : ∃ q v : Nat, (Term.string "MaltDrums$Reader" 70).eval args s none [] s = some (.ref q) ∧ va_O "java/lang/String" q A s s.heap ∧ va_OF "java/lang/String" "coder" "B" (.int 0) q A s s.heap ∧ va_OF "java/lang/String" "value" "[B" (.ref v) q A s s.heap ∧ va_T .byte v 1 (fun j => .int (([104] : List Int32).getD j 0)) A s s.heap := by
  have hex := hn (.exactly (.string "MaltDrums$Reader" 70) "java/lang/String") (by decide +kernel)
  obtain ⟨q, hq⟩ := st_refS hex
  have hel : ∀ j : Nat, j < 1 → (Term.elem (.field (.string "MaltDrums$Reader" 70) "java/lang/String" "value" "[B") (.int (Int32.ofNat j))).eval args s none [] s = some (.int (([104] : List Int32).getD j 0)) := fun j h => by
    match j, h with
    | 0, _ => exact va_eqt (hn (.eq (.elem (.field (.string "MaltDrums$Reader" 70) "java/lang/String" "value" "[B") (.int 0)) (.int 104)) (by decide +kernel))
    | n + 1, h => omega
  obtain ⟨v, hv, hT⟩ := va_Tof (tm := (.field (.string "MaltDrums$Reader" 70) "java/lang/String" "value" "[B")) (N := 1) (f := fun j => .int (([104] : List Int32).getD j 0)) (by decide) (hn (.arrayOf (.field (.string "MaltDrums$Reader" 70) "java/lang/String" "value" "[B") .byte) (by decide +kernel)) (va_eqt (hn (.eq (.length (.field (.string "MaltDrums$Reader" 70) "java/lang/String" "value" "[B")) (.int 1)) (by decide +kernel))) hel hA
  exact ⟨q, v, hq, va_Oof hex hq hA, vk_OFof hq (va_eqt (hn (.eq (.field (.string "MaltDrums$Reader" 70) "java/lang/String" "coder" "B") (.int 0)) (by decide +kernel))) hA, vk_OFof hq hv hA, hT⟩
theorem st_s4 {args : Array Value} {s : State} {A : Nat → Prop} (hts : ∀ w ∈ lw_tbl, w.before args s = true) (hn : ∀ w ∈ flatC (Jvm.Cond.and given_1 narrow_1), w.before args s = true) (hA : ∀ a : Nat, a < s.heap.size → ¬ A a) : ∃ q v : Nat, (Term.string "MaltDrums$Reader" 72).eval args s none [] s = some (.ref q) ∧ va_O "java/lang/String" q A s s.heap ∧ va_OF "java/lang/String" "coder" "B" (.int 0) q A s s.heap ∧ va_OF "java/lang/String" "value" "[B" (.ref v) q A s s.heap ∧ va_T .byte v 1 (fun j => .int (([107] : List Int32).getD j 0)) A s s.heap := by
  have hex := hn (.exactly (.string "MaltDrums$Reader" 72) "java/lang/String") (by decide +kernel)
  obtain ⟨q, hq⟩ := st_refS hex
  have hel : ∀ j : Nat, j < 1 → (Term.elem (.field (.string "MaltDrums$Reader" 72) "java/lang/String" "value" "[B") (.int (Int32.ofNat j))).eval args s none [] s = some (.int (([107] : List Int32).getD j 0)) := fun j h => by
    match j, h with
    | 0, _ => exact va_eqt (hn (.eq (.elem (.field (.string "MaltDrums$Reader" 72) "java/lang/String" "value" "[B") (.int 0)) (.int 107)) (by decide +kernel))
    | n + 1, h => omega
  obtain ⟨v, hv, hT⟩ := va_Tof (tm := (.field (.string "MaltDrums$Reader" 72) "java/lang/String" "value" "[B")) (N := 1) (f := fun j => .int (([107] : List Int32).getD j 0)) (by decide) (hn (.arrayOf (.field (.string "MaltDrums$Reader" 72) "java/lang/String" "value" "[B") .byte) (by decide +kernel)) (va_eqt (hn (.eq (.length (.field (.string "MaltDrums$Reader" 72) "java/lang/String" "value" "[B")) (.int 1)) (by decide +kernel))) hel hA
  exact ⟨q, v, hq, va_Oof hex hq hA, vk_OFof hq (va_eqt (hn (.eq (.field (.string "MaltDrums$Reader" 72) "java/lang/String" "coder" "B") (.int 0)) (by decide +kernel))) hA, vk_OFof hq hv hA, hT⟩
theorem st_s5 {args : Array Value} {s : State} {A : Nat → Prop} (hts : ∀ w ∈ lw_tbl, w.before args s = true) (hn : ∀ w ∈ flatC (Jvm.Cond.and given_1 narrow_1), w.before args s = true) (hA : ∀ a : Nat, a < s.heap.size → ¬ A a) : ∃ q v : Nat, (Term.string "MaltDrums$Reader" 74).eval args s none [] s = some (.ref q) ∧ va_O "java/lang/String" q A s s.heap ∧ va_OF "java/lang/String" "coder" "B" (.int 0) q A s s.heap ∧ va_OF "java/lang/String" "value" "[B" (.ref v) q A s s.heap ∧ va_T .byte v 1 (fun j => .int (([112] : List Int32).getD j 0)) A s s.heap := by
  have hex := hn (.exactly (.string "MaltDrums$Reader" 74) "java/lang/String") (by decide +kernel)
  obtain ⟨q, hq⟩ := st_refS hex
  have hel : ∀ j : Nat, j < 1 → (Term.elem (.field (.string "MaltDrums$Reader" 74) "java/lang/String" "value" "[B") (.int (Int32.ofNat j))).eval args s none [] s = some (.int (([112] : List Int32).getD j 0)) := fun j h => by
    match j, h with
    | 0, _ => exact va_eqt (hn (.eq (.elem (.field (.string "MaltDrums$Reader" 74) "java/lang/String" "value" "[B") (.int 0)) (.int 112)) (by decide +kernel))
    | n + 1, h => omega
  obtain ⟨v, hv, hT⟩ := va_Tof (tm := (.field (.string "MaltDrums$Reader" 74) "java/lang/String" "value" "[B")) (N := 1) (f := fun j => .int (([112] : List Int32).getD j 0)) (by decide) (hn (.arrayOf (.field (.string "MaltDrums$Reader" 74) "java/lang/String" "value" "[B") .byte) (by decide +kernel)) (va_eqt (hn (.eq (.length (.field (.string "MaltDrums$Reader" 74) "java/lang/String" "value" "[B")) (.int 1)) (by decide +kernel))) hel hA
  exact ⟨q, v, hq, va_Oof hex hq hA, vk_OFof hq (va_eqt (hn (.eq (.field (.string "MaltDrums$Reader" 74) "java/lang/String" "coder" "B") (.int 0)) (by decide +kernel))) hA, vk_OFof hq hv hA, hT⟩
theorem st_s6 {args : Array Value} {s : State} {A : Nat → Prop} (hts : ∀ w ∈ lw_tbl, w.before args s = true) (hn : ∀ w ∈ flatC (Jvm.Cond.and given_1 narrow_1), w.before args s = true) (hA : ∀ a : Nat, a < s.heap.size → ¬ A a) : ∃ q v : Nat, (Term.string "MaltDrums$Reader" 76).eval args s none [] s = some (.ref q) ∧ va_O "java/lang/String" q A s s.heap ∧ va_OF "java/lang/String" "coder" "B" (.int 0) q A s s.heap ∧ va_OF "java/lang/String" "value" "[B" (.ref v) q A s s.heap ∧ va_T .byte v 1 (fun j => .int (([100] : List Int32).getD j 0)) A s s.heap := by
  have hex := hn (.exactly (.string "MaltDrums$Reader" 76) "java/lang/String") (by decide +kernel)
  obtain ⟨q, hq⟩ := st_refS hex
  have hel : ∀ j : Nat, j < 1 → (Term.elem (.field (.string "MaltDrums$Reader" 76) "java/lang/String" "value" "[B") (.int (Int32.ofNat j))).eval args s none [] s = some (.int (([100] : List Int32).getD j 0)) := fun j h => by
    match j, h with
    | 0, _ => exact va_eqt (hn (.eq (.elem (.field (.string "MaltDrums$Reader" 76) "java/lang/String" "value" "[B") (.int 0)) (.int 100)) (by decide +kernel))
    | n + 1, h => omega
  obtain ⟨v, hv, hT⟩ := va_Tof (tm := (.field (.string "MaltDrums$Reader" 76) "java/lang/String" "value" "[B")) (N := 1) (f := fun j => .int (([100] : List Int32).getD j 0)) (by decide) (hn (.arrayOf (.field (.string "MaltDrums$Reader" 76) "java/lang/String" "value" "[B") .byte) (by decide +kernel)) (va_eqt (hn (.eq (.length (.field (.string "MaltDrums$Reader" 76) "java/lang/String" "value" "[B")) (.int 1)) (by decide +kernel))) hel hA
  exact ⟨q, v, hq, va_Oof hex hq hA, vk_OFof hq (va_eqt (hn (.eq (.field (.string "MaltDrums$Reader" 76) "java/lang/String" "coder" "B") (.int 0)) (by decide +kernel))) hA, vk_OFof hq hv hA, hT⟩
theorem st_s7 {args : Array Value} {s : State} {A : Nat → Prop} (hts : ∀ w ∈ lw_tbl, w.before args s = true) (hn : ∀ w ∈ flatC (Jvm.Cond.and given_1 narrow_1), w.before args s = true) (hA : ∀ a : Nat, a < s.heap.size → ¬ A a) : ∃ q v : Nat, (Term.string "MaltDrums$Reader" 78).eval args s none [] s = some (.ref q) ∧ va_O "java/lang/String" q A s s.heap ∧ va_OF "java/lang/String" "coder" "B" (.int 0) q A s s.heap ∧ va_OF "java/lang/String" "value" "[B" (.ref v) q A s s.heap ∧ va_T .byte v 1 (fun j => .int (([108] : List Int32).getD j 0)) A s s.heap := by
  have hex := hn (.exactly (.string "MaltDrums$Reader" 78) "java/lang/String") (by decide +kernel)
  obtain ⟨q, hq⟩ := st_refS hex
  have hel : ∀ j : Nat, j < 1 → (Term.elem (.field (.string "MaltDrums$Reader" 78) "java/lang/String" "value" "[B") (.int (Int32.ofNat j))).eval args s none [] s = some (.int (([108] : List Int32).getD j 0)) := fun j h => by
    match j, h with
    | 0, _ => exact va_eqt (hn (.eq (.elem (.field (.string "MaltDrums$Reader" 78) "java/lang/String" "value" "[B") (.int 0)) (.int 108)) (by decide +kernel))
    | n + 1, h => omega
  obtain ⟨v, hv, hT⟩ := va_Tof (tm := (.field (.string "MaltDrums$Reader" 78) "java/lang/String" "value" "[B")) (N := 1) (f := fun j => .int (([108] : List Int32).getD j 0)) (by decide) (hn (.arrayOf (.field (.string "MaltDrums$Reader" 78) "java/lang/String" "value" "[B") .byte) (by decide +kernel)) (va_eqt (hn (.eq (.length (.field (.string "MaltDrums$Reader" 78) "java/lang/String" "value" "[B")) (.int 1)) (by decide +kernel))) hel hA
  exact ⟨q, v, hq, va_Oof hex hq hA, vk_OFof hq (va_eqt (hn (.eq (.field (.string "MaltDrums$Reader" 78) "java/lang/String" "coder" "B") (.int 0)) (by decide +kernel))) hA, vk_OFof hq hv hA, hT⟩
theorem st_s8 {args : Array Value} {s : State} {A : Nat → Prop} (hts : ∀ w ∈ lw_tbl, w.before args s = true) (hn : ∀ w ∈ flatC (Jvm.Cond.and given_1 narrow_1), w.before args s = true) (hA : ∀ a : Nat, a < s.heap.size → ¬ A a) : ∃ q v : Nat, (Term.string "MaltDrums$Reader" 80).eval args s none [] s = some (.ref q) ∧ va_O "java/lang/String" q A s s.heap ∧ va_OF "java/lang/String" "coder" "B" (.int 0) q A s s.heap ∧ va_OF "java/lang/String" "value" "[B" (.ref v) q A s s.heap ∧ va_T .byte v 1 (fun j => .int (([97] : List Int32).getD j 0)) A s s.heap := by
  have hex := hn (.exactly (.string "MaltDrums$Reader" 80) "java/lang/String") (by decide +kernel)
  obtain ⟨q, hq⟩ := st_refS hex
  have hel : ∀ j : Nat, j < 1 → (Term.elem (.field (.string "MaltDrums$Reader" 80) "java/lang/String" "value" "[B") (.int (Int32.ofNat j))).eval args s none [] s = some (.int (([97] : List Int32).getD j 0)) := fun j h => by
    match j, h with
    | 0, _ => exact va_eqt (hn (.eq (.elem (.field (.string "MaltDrums$Reader" 80) "java/lang/String" "value" "[B") (.int 0)) (.int 97)) (by decide +kernel))
    | n + 1, h => omega
  obtain ⟨v, hv, hT⟩ := va_Tof (tm := (.field (.string "MaltDrums$Reader" 80) "java/lang/String" "value" "[B")) (N := 1) (f := fun j => .int (([97] : List Int32).getD j 0)) (by decide) (hn (.arrayOf (.field (.string "MaltDrums$Reader" 80) "java/lang/String" "value" "[B") .byte) (by decide +kernel)) (va_eqt (hn (.eq (.length (.field (.string "MaltDrums$Reader" 80) "java/lang/String" "value" "[B")) (.int 1)) (by decide +kernel))) hel hA
  exact ⟨q, v, hq, va_Oof hex hq hA, vk_OFof hq (va_eqt (hn (.eq (.field (.string "MaltDrums$Reader" 80) "java/lang/String" "coder" "B") (.int 0)) (by decide +kernel))) hA, vk_OFof hq hv hA, hT⟩
theorem st_s9 {args : Array Value} {s : State} {A : Nat → Prop} (hts : ∀ w ∈ lw_tbl, w.before args s = true) (hn : ∀ w ∈ flatC (Jvm.Cond.and given_1 narrow_1), w.before args s = true) (hA : ∀ a : Nat, a < s.heap.size → ¬ A a) : ∃ q v : Nat, (Term.string "MaltDrums$Reader" 82).eval args s none [] s = some (.ref q) ∧ va_O "java/lang/String" q A s s.heap ∧ va_OF "java/lang/String" "coder" "B" (.int 0) q A s s.heap ∧ va_OF "java/lang/String" "value" "[B" (.ref v) q A s s.heap ∧ va_T .byte v 1 (fun j => .int (([119] : List Int32).getD j 0)) A s s.heap := by
  have hex := hn (.exactly (.string "MaltDrums$Reader" 82) "java/lang/String") (by decide +kernel)
  obtain ⟨q, hq⟩ := st_refS hex
  have hel : ∀ j : Nat, j < 1 → (Term.elem (.field (.string "MaltDrums$Reader" 82) "java/lang/String" "value" "[B") (.int (Int32.ofNat j))).eval args s none [] s = some (.int (([119] : List Int32).getD j 0)) := fun j h => by
    match j, h with
    | 0, _ => exact va_eqt (hn (.eq (.elem (.field (.string "MaltDrums$Reader" 82) "java/lang/String" "value" "[B") (.int 0)) (.int 119)) (by decide +kernel))
    | n + 1, h => omega
  obtain ⟨v, hv, hT⟩ := va_Tof (tm := (.field (.string "MaltDrums$Reader" 82) "java/lang/String" "value" "[B")) (N := 1) (f := fun j => .int (([119] : List Int32).getD j 0)) (by decide) (hn (.arrayOf (.field (.string "MaltDrums$Reader" 82) "java/lang/String" "value" "[B") .byte) (by decide +kernel)) (va_eqt (hn (.eq (.length (.field (.string "MaltDrums$Reader" 82) "java/lang/String" "value" "[B")) (.int 1)) (by decide +kernel))) hel hA
  exact ⟨q, v, hq, va_Oof hex hq hA, vk_OFof hq (va_eqt (hn (.eq (.field (.string "MaltDrums$Reader" 82) "java/lang/String" "coder" "B") (.int 0)) (by decide +kernel))) hA, vk_OFof hq hv hA, hT⟩
theorem st_s10 {args : Array Value} {s : State} {A : Nat → Prop} (hts : ∀ w ∈ lw_tbl, w.before args s = true) (hn : ∀ w ∈ flatC (Jvm.Cond.and given_1 narrow_1), w.before args s = true) (hA : ∀ a : Nat, a < s.heap.size → ¬ A a) : ∃ q v : Nat, (Term.string "MaltDrums$Reader" 84).eval args s none [] s = some (.ref q) ∧ va_O "java/lang/String" q A s s.heap ∧ va_OF "java/lang/String" "coder" "B" (.int 0) q A s s.heap ∧ va_OF "java/lang/String" "value" "[B" (.ref v) q A s s.heap ∧ va_T .byte v 1 (fun j => .int (([116] : List Int32).getD j 0)) A s s.heap := by
  have hex := hn (.exactly (.string "MaltDrums$Reader" 84) "java/lang/String") (by decide +kernel)
  obtain ⟨q, hq⟩ := st_refS hex
  have hel : ∀ j : Nat, j < 1 → (Term.elem (.field (.string "MaltDrums$Reader" 84) "java/lang/String" "value" "[B") (.int (Int32.ofNat j))).eval args s none [] s = some (.int (([116] : List Int32).getD j 0)) := fun j h => by
    match j, h with
    | 0, _ => exact va_eqt (hn (.eq (.elem (.field (.string "MaltDrums$Reader" 84) "java/lang/String" "value" "[B") (.int 0)) (.int 116)) (by decide +kernel))
    | n + 1, h => omega
  obtain ⟨v, hv, hT⟩ := va_Tof (tm := (.field (.string "MaltDrums$Reader" 84) "java/lang/String" "value" "[B")) (N := 1) (f := fun j => .int (([116] : List Int32).getD j 0)) (by decide) (hn (.arrayOf (.field (.string "MaltDrums$Reader" 84) "java/lang/String" "value" "[B") .byte) (by decide +kernel)) (va_eqt (hn (.eq (.length (.field (.string "MaltDrums$Reader" 84) "java/lang/String" "value" "[B")) (.int 1)) (by decide +kernel))) hel hA
  exact ⟨q, v, hq, va_Oof hex hq hA, vk_OFof hq (va_eqt (hn (.eq (.field (.string "MaltDrums$Reader" 84) "java/lang/String" "coder" "B") (.int 0)) (by decide +kernel))) hA, vk_OFof hq hv hA, hT⟩
theorem st_s11 {args : Array Value} {s : State} {A : Nat → Prop} (hts : ∀ w ∈ lw_tbl, w.before args s = true) (hn : ∀ w ∈ flatC (Jvm.Cond.and given_1 narrow_1), w.before args s = true) (hA : ∀ a : Nat, a < s.heap.size → ¬ A a) : ∃ q v : Nat, (Term.string "MaltDrums$Reader" 86).eval args s none [] s = some (.ref q) ∧ va_O "java/lang/String" q A s s.heap ∧ va_OF "java/lang/String" "coder" "B" (.int 0) q A s s.heap ∧ va_OF "java/lang/String" "value" "[B" (.ref v) q A s s.heap ∧ va_T .byte v 1 (fun j => .int (([110] : List Int32).getD j 0)) A s s.heap := by
  have hex := hn (.exactly (.string "MaltDrums$Reader" 86) "java/lang/String") (by decide +kernel)
  obtain ⟨q, hq⟩ := st_refS hex
  have hel : ∀ j : Nat, j < 1 → (Term.elem (.field (.string "MaltDrums$Reader" 86) "java/lang/String" "value" "[B") (.int (Int32.ofNat j))).eval args s none [] s = some (.int (([110] : List Int32).getD j 0)) := fun j h => by
    match j, h with
    | 0, _ => exact va_eqt (hn (.eq (.elem (.field (.string "MaltDrums$Reader" 86) "java/lang/String" "value" "[B") (.int 0)) (.int 110)) (by decide +kernel))
    | n + 1, h => omega
  obtain ⟨v, hv, hT⟩ := va_Tof (tm := (.field (.string "MaltDrums$Reader" 86) "java/lang/String" "value" "[B")) (N := 1) (f := fun j => .int (([110] : List Int32).getD j 0)) (by decide) (hn (.arrayOf (.field (.string "MaltDrums$Reader" 86) "java/lang/String" "value" "[B") .byte) (by decide +kernel)) (va_eqt (hn (.eq (.length (.field (.string "MaltDrums$Reader" 86) "java/lang/String" "value" "[B")) (.int 1)) (by decide +kernel))) hel hA
  exact ⟨q, v, hq, va_Oof hex hq hA, vk_OFof hq (va_eqt (hn (.eq (.field (.string "MaltDrums$Reader" 86) "java/lang/String" "coder" "B") (.int 0)) (by decide +kernel))) hA, vk_OFof hq hv hA, hT⟩
theorem st_s12 {args : Array Value} {s : State} {A : Nat → Prop} (hts : ∀ w ∈ lw_tbl, w.before args s = true) (hn : ∀ w ∈ flatC (Jvm.Cond.and given_1 narrow_1), w.before args s = true) (hA : ∀ a : Nat, a < s.heap.size → ¬ A a) : ∃ q v : Nat, (Term.string "MaltDrums" 208).eval args s none [] s = some (.ref q) ∧ va_O "java/lang/String" q A s s.heap ∧ va_OF "java/lang/String" "coder" "B" (.int 0) q A s s.heap ∧ va_OF "java/lang/String" "value" "[B" (.ref v) q A s s.heap ∧ va_T .byte v 1 (fun j => .int (([43] : List Int32).getD j 0)) A s s.heap := by
  have hex := hn (.exactly (.string "MaltDrums" 208) "java/lang/String") (by decide +kernel)
  obtain ⟨q, hq⟩ := st_refS hex
  have hel : ∀ j : Nat, j < 1 → (Term.elem (.field (.string "MaltDrums" 208) "java/lang/String" "value" "[B") (.int (Int32.ofNat j))).eval args s none [] s = some (.int (([43] : List Int32).getD j 0)) := fun j h => by
    match j, h with
    | 0, _ => exact va_eqt (hn (.eq (.elem (.field (.string "MaltDrums" 208) "java/lang/String" "value" "[B") (.int 0)) (.int 43)) (by decide +kernel))
    | n + 1, h => omega
  obtain ⟨v, hv, hT⟩ := va_Tof (tm := (.field (.string "MaltDrums" 208) "java/lang/String" "value" "[B")) (N := 1) (f := fun j => .int (([43] : List Int32).getD j 0)) (by decide) (hn (.arrayOf (.field (.string "MaltDrums" 208) "java/lang/String" "value" "[B") .byte) (by decide +kernel)) (va_eqt (hn (.eq (.length (.field (.string "MaltDrums" 208) "java/lang/String" "value" "[B")) (.int 1)) (by decide +kernel))) hel hA
  exact ⟨q, v, hq, va_Oof hex hq hA, vk_OFof hq (va_eqt (hn (.eq (.field (.string "MaltDrums" 208) "java/lang/String" "coder" "B") (.int 0)) (by decide +kernel))) hA, vk_OFof hq hv hA, hT⟩
theorem st_s13 {args : Array Value} {s : State} {A : Nat → Prop} (hts : ∀ w ∈ lw_tbl, w.before args s = true) (hn : ∀ w ∈ flatC (Jvm.Cond.and given_1 narrow_1), w.before args s = true) (hA : ∀ a : Nat, a < s.heap.size → ¬ A a) : ∃ q v : Nat, (Term.string "MaltDrums" 214).eval args s none [] s = some (.ref q) ∧ va_O "java/lang/String" q A s s.heap ∧ va_OF "java/lang/String" "coder" "B" (.int 0) q A s s.heap ∧ va_OF "java/lang/String" "value" "[B" (.ref v) q A s s.heap ∧ va_T .byte v 1 (fun j => .int (([115] : List Int32).getD j 0)) A s s.heap := by
  have hex := hn (.exactly (.string "MaltDrums" 214) "java/lang/String") (by decide +kernel)
  obtain ⟨q, hq⟩ := st_refS hex
  have hel : ∀ j : Nat, j < 1 → (Term.elem (.field (.string "MaltDrums" 214) "java/lang/String" "value" "[B") (.int (Int32.ofNat j))).eval args s none [] s = some (.int (([115] : List Int32).getD j 0)) := fun j h => by
    match j, h with
    | 0, _ => exact va_eqt (hn (.eq (.elem (.field (.string "MaltDrums" 214) "java/lang/String" "value" "[B") (.int 0)) (.int 115)) (by decide +kernel))
    | n + 1, h => omega
  obtain ⟨v, hv, hT⟩ := va_Tof (tm := (.field (.string "MaltDrums" 214) "java/lang/String" "value" "[B")) (N := 1) (f := fun j => .int (([115] : List Int32).getD j 0)) (by decide) (hn (.arrayOf (.field (.string "MaltDrums" 214) "java/lang/String" "value" "[B") .byte) (by decide +kernel)) (va_eqt (hn (.eq (.length (.field (.string "MaltDrums" 214) "java/lang/String" "value" "[B")) (.int 1)) (by decide +kernel))) hel hA
  exact ⟨q, v, hq, va_Oof hex hq hA, vk_OFof hq (va_eqt (hn (.eq (.field (.string "MaltDrums" 214) "java/lang/String" "coder" "B") (.int 0)) (by decide +kernel))) hA, vk_OFof hq hv hA, hT⟩
theorem st_s14 {args : Array Value} {s : State} {A : Nat → Prop} (hts : ∀ w ∈ lw_tbl, w.before args s = true) (hn : ∀ w ∈ flatC (Jvm.Cond.and given_1 narrow_1), w.before args s = true) (hA : ∀ a : Nat, a < s.heap.size → ¬ A a) : ∃ q v : Nat, (Term.string "MaltDrums" 216).eval args s none [] s = some (.ref q) ∧ va_O "java/lang/String" q A s s.heap ∧ va_OF "java/lang/String" "coder" "B" (.int 0) q A s s.heap ∧ va_OF "java/lang/String" "value" "[B" (.ref v) q A s s.heap ∧ va_T .byte v 1 (fun j => .int (([100] : List Int32).getD j 0)) A s s.heap := by
  have hex := hn (.exactly (.string "MaltDrums" 216) "java/lang/String") (by decide +kernel)
  obtain ⟨q, hq⟩ := st_refS hex
  have hel : ∀ j : Nat, j < 1 → (Term.elem (.field (.string "MaltDrums" 216) "java/lang/String" "value" "[B") (.int (Int32.ofNat j))).eval args s none [] s = some (.int (([100] : List Int32).getD j 0)) := fun j h => by
    match j, h with
    | 0, _ => exact va_eqt (hn (.eq (.elem (.field (.string "MaltDrums" 216) "java/lang/String" "value" "[B") (.int 0)) (.int 100)) (by decide +kernel))
    | n + 1, h => omega
  obtain ⟨v, hv, hT⟩ := va_Tof (tm := (.field (.string "MaltDrums" 216) "java/lang/String" "value" "[B")) (N := 1) (f := fun j => .int (([100] : List Int32).getD j 0)) (by decide) (hn (.arrayOf (.field (.string "MaltDrums" 216) "java/lang/String" "value" "[B") .byte) (by decide +kernel)) (va_eqt (hn (.eq (.length (.field (.string "MaltDrums" 216) "java/lang/String" "value" "[B")) (.int 1)) (by decide +kernel))) hel hA
  exact ⟨q, v, hq, va_Oof hex hq hA, vk_OFof hq (va_eqt (hn (.eq (.field (.string "MaltDrums" 216) "java/lang/String" "coder" "B") (.int 0)) (by decide +kernel))) hA, vk_OFof hq hv hA, hT⟩
theorem st_s15 {args : Array Value} {s : State} {A : Nat → Prop} (hts : ∀ w ∈ lw_tbl, w.before args s = true) (hn : ∀ w ∈ flatC (Jvm.Cond.and given_1 narrow_1), w.before args s = true) (hA : ∀ a : Nat, a < s.heap.size → ¬ A a) : ∃ q v : Nat, (Term.string "MaltDrums" 218).eval args s none [] s = some (.ref q) ∧ va_O "java/lang/String" q A s s.heap ∧ va_OF "java/lang/String" "coder" "B" (.int 0) q A s s.heap ∧ va_OF "java/lang/String" "value" "[B" (.ref v) q A s s.heap ∧ va_T .byte v 1 (fun j => .int (([104] : List Int32).getD j 0)) A s s.heap := by
  have hex := hn (.exactly (.string "MaltDrums" 218) "java/lang/String") (by decide +kernel)
  obtain ⟨q, hq⟩ := st_refS hex
  have hel : ∀ j : Nat, j < 1 → (Term.elem (.field (.string "MaltDrums" 218) "java/lang/String" "value" "[B") (.int (Int32.ofNat j))).eval args s none [] s = some (.int (([104] : List Int32).getD j 0)) := fun j h => by
    match j, h with
    | 0, _ => exact va_eqt (hn (.eq (.elem (.field (.string "MaltDrums" 218) "java/lang/String" "value" "[B") (.int 0)) (.int 104)) (by decide +kernel))
    | n + 1, h => omega
  obtain ⟨v, hv, hT⟩ := va_Tof (tm := (.field (.string "MaltDrums" 218) "java/lang/String" "value" "[B")) (N := 1) (f := fun j => .int (([104] : List Int32).getD j 0)) (by decide) (hn (.arrayOf (.field (.string "MaltDrums" 218) "java/lang/String" "value" "[B") .byte) (by decide +kernel)) (va_eqt (hn (.eq (.length (.field (.string "MaltDrums" 218) "java/lang/String" "value" "[B")) (.int 1)) (by decide +kernel))) hel hA
  exact ⟨q, v, hq, va_Oof hex hq hA, vk_OFof hq (va_eqt (hn (.eq (.field (.string "MaltDrums" 218) "java/lang/String" "coder" "B") (.int 0)) (by decide +kernel))) hA, vk_OFof hq hv hA, hT⟩
theorem st_s16 {args : Array Value} {s : State} {A : Nat → Prop} (hts : ∀ w ∈ lw_tbl, w.before args s = true) (hn : ∀ w ∈ flatC (Jvm.Cond.and given_1 narrow_1), w.before args s = true) (hA : ∀ a : Nat, a < s.heap.size → ¬ A a) : ∃ q v : Nat, (Term.string "MaltDrums" 220).eval args s none [] s = some (.ref q) ∧ va_O "java/lang/String" q A s s.heap ∧ va_OF "java/lang/String" "coder" "B" (.int 0) q A s s.heap ∧ va_OF "java/lang/String" "value" "[B" (.ref v) q A s s.heap ∧ va_T .byte v 1 (fun j => .int (([107] : List Int32).getD j 0)) A s s.heap := by
  have hex := hn (.exactly (.string "MaltDrums" 220) "java/lang/String") (by decide +kernel)
  obtain ⟨q, hq⟩ := st_refS hex
  have hel : ∀ j : Nat, j < 1 → (Term.elem (.field (.string "MaltDrums" 220) "java/lang/String" "value" "[B") (.int (Int32.ofNat j))).eval args s none [] s = some (.int (([107] : List Int32).getD j 0)) := fun j h => by
    match j, h with
    | 0, _ => exact va_eqt (hn (.eq (.elem (.field (.string "MaltDrums" 220) "java/lang/String" "value" "[B") (.int 0)) (.int 107)) (by decide +kernel))
    | n + 1, h => omega
  obtain ⟨v, hv, hT⟩ := va_Tof (tm := (.field (.string "MaltDrums" 220) "java/lang/String" "value" "[B")) (N := 1) (f := fun j => .int (([107] : List Int32).getD j 0)) (by decide) (hn (.arrayOf (.field (.string "MaltDrums" 220) "java/lang/String" "value" "[B") .byte) (by decide +kernel)) (va_eqt (hn (.eq (.length (.field (.string "MaltDrums" 220) "java/lang/String" "value" "[B")) (.int 1)) (by decide +kernel))) hel hA
  exact ⟨q, v, hq, va_Oof hex hq hA, vk_OFof hq (va_eqt (hn (.eq (.field (.string "MaltDrums" 220) "java/lang/String" "coder" "B") (.int 0)) (by decide +kernel))) hA, vk_OFof hq hv hA, hT⟩
theorem st_s17 {args : Array Value} {s : State} {A : Nat → Prop} (hts : ∀ w ∈ lw_tbl, w.before args s = true) (hn : ∀ w ∈ flatC (Jvm.Cond.and given_1 narrow_1), w.before args s = true) (hA : ∀ a : Nat, a < s.heap.size → ¬ A a) : ∃ q v : Nat, (Term.string "MaltDrums" 222).eval args s none [] s = some (.ref q) ∧ va_O "java/lang/String" q A s s.heap ∧ va_OF "java/lang/String" "coder" "B" (.int 0) q A s s.heap ∧ va_OF "java/lang/String" "value" "[B" (.ref v) q A s s.heap ∧ va_T .byte v 1 (fun j => .int (([112] : List Int32).getD j 0)) A s s.heap := by
  have hex := hn (.exactly (.string "MaltDrums" 222) "java/lang/String") (by decide +kernel)
  obtain ⟨q, hq⟩ := st_refS hex
  have hel : ∀ j : Nat, j < 1 → (Term.elem (.field (.string "MaltDrums" 222) "java/lang/String" "value" "[B") (.int (Int32.ofNat j))).eval args s none [] s = some (.int (([112] : List Int32).getD j 0)) := fun j h => by
    match j, h with
    | 0, _ => exact va_eqt (hn (.eq (.elem (.field (.string "MaltDrums" 222) "java/lang/String" "value" "[B") (.int 0)) (.int 112)) (by decide +kernel))
    | n + 1, h => omega
  obtain ⟨v, hv, hT⟩ := va_Tof (tm := (.field (.string "MaltDrums" 222) "java/lang/String" "value" "[B")) (N := 1) (f := fun j => .int (([112] : List Int32).getD j 0)) (by decide) (hn (.arrayOf (.field (.string "MaltDrums" 222) "java/lang/String" "value" "[B") .byte) (by decide +kernel)) (va_eqt (hn (.eq (.length (.field (.string "MaltDrums" 222) "java/lang/String" "value" "[B")) (.int 1)) (by decide +kernel))) hel hA
  exact ⟨q, v, hq, va_Oof hex hq hA, vk_OFof hq (va_eqt (hn (.eq (.field (.string "MaltDrums" 222) "java/lang/String" "coder" "B") (.int 0)) (by decide +kernel))) hA, vk_OFof hq hv hA, hT⟩
theorem st_s18 {args : Array Value} {s : State} {A : Nat → Prop} (hts : ∀ w ∈ lw_tbl, w.before args s = true) (hn : ∀ w ∈ flatC (Jvm.Cond.and given_1 narrow_1), w.before args s = true) (hA : ∀ a : Nat, a < s.heap.size → ¬ A a) : ∃ q v : Nat, (Term.string "MaltDrums" 224).eval args s none [] s = some (.ref q) ∧ va_O "java/lang/String" q A s s.heap ∧ va_OF "java/lang/String" "coder" "B" (.int 0) q A s s.heap ∧ va_OF "java/lang/String" "value" "[B" (.ref v) q A s s.heap ∧ va_T .byte v 1 (fun j => .int (([108] : List Int32).getD j 0)) A s s.heap := by
  have hex := hn (.exactly (.string "MaltDrums" 224) "java/lang/String") (by decide +kernel)
  obtain ⟨q, hq⟩ := st_refS hex
  have hel : ∀ j : Nat, j < 1 → (Term.elem (.field (.string "MaltDrums" 224) "java/lang/String" "value" "[B") (.int (Int32.ofNat j))).eval args s none [] s = some (.int (([108] : List Int32).getD j 0)) := fun j h => by
    match j, h with
    | 0, _ => exact va_eqt (hn (.eq (.elem (.field (.string "MaltDrums" 224) "java/lang/String" "value" "[B") (.int 0)) (.int 108)) (by decide +kernel))
    | n + 1, h => omega
  obtain ⟨v, hv, hT⟩ := va_Tof (tm := (.field (.string "MaltDrums" 224) "java/lang/String" "value" "[B")) (N := 1) (f := fun j => .int (([108] : List Int32).getD j 0)) (by decide) (hn (.arrayOf (.field (.string "MaltDrums" 224) "java/lang/String" "value" "[B") .byte) (by decide +kernel)) (va_eqt (hn (.eq (.length (.field (.string "MaltDrums" 224) "java/lang/String" "value" "[B")) (.int 1)) (by decide +kernel))) hel hA
  exact ⟨q, v, hq, va_Oof hex hq hA, vk_OFof hq (va_eqt (hn (.eq (.field (.string "MaltDrums" 224) "java/lang/String" "coder" "B") (.int 0)) (by decide +kernel))) hA, vk_OFof hq hv hA, hT⟩
theorem st_s19 {args : Array Value} {s : State} {A : Nat → Prop} (hts : ∀ w ∈ lw_tbl, w.before args s = true) (hn : ∀ w ∈ flatC (Jvm.Cond.and given_1 narrow_1), w.before args s = true) (hA : ∀ a : Nat, a < s.heap.size → ¬ A a) : ∃ q v : Nat, (Term.string "MaltDrums" 229).eval args s none [] s = some (.ref q) ∧ va_O "java/lang/String" q A s s.heap ∧ va_OF "java/lang/String" "coder" "B" (.int 0) q A s s.heap ∧ va_OF "java/lang/String" "value" "[B" (.ref v) q A s s.heap ∧ va_T .byte v 1 (fun j => .int (([97] : List Int32).getD j 0)) A s s.heap := by
  have hex := hn (.exactly (.string "MaltDrums" 229) "java/lang/String") (by decide +kernel)
  obtain ⟨q, hq⟩ := st_refS hex
  have hel : ∀ j : Nat, j < 1 → (Term.elem (.field (.string "MaltDrums" 229) "java/lang/String" "value" "[B") (.int (Int32.ofNat j))).eval args s none [] s = some (.int (([97] : List Int32).getD j 0)) := fun j h => by
    match j, h with
    | 0, _ => exact va_eqt (hn (.eq (.elem (.field (.string "MaltDrums" 229) "java/lang/String" "value" "[B") (.int 0)) (.int 97)) (by decide +kernel))
    | n + 1, h => omega
  obtain ⟨v, hv, hT⟩ := va_Tof (tm := (.field (.string "MaltDrums" 229) "java/lang/String" "value" "[B")) (N := 1) (f := fun j => .int (([97] : List Int32).getD j 0)) (by decide) (hn (.arrayOf (.field (.string "MaltDrums" 229) "java/lang/String" "value" "[B") .byte) (by decide +kernel)) (va_eqt (hn (.eq (.length (.field (.string "MaltDrums" 229) "java/lang/String" "value" "[B")) (.int 1)) (by decide +kernel))) hel hA
  exact ⟨q, v, hq, va_Oof hex hq hA, vk_OFof hq (va_eqt (hn (.eq (.field (.string "MaltDrums" 229) "java/lang/String" "coder" "B") (.int 0)) (by decide +kernel))) hA, vk_OFof hq hv hA, hT⟩
theorem st_s20 {args : Array Value} {s : State} {A : Nat → Prop} (hts : ∀ w ∈ lw_tbl, w.before args s = true) (hn : ∀ w ∈ flatC (Jvm.Cond.and given_1 narrow_1), w.before args s = true) (hA : ∀ a : Nat, a < s.heap.size → ¬ A a) : ∃ q v : Nat, (Term.string "MaltDrums" 231).eval args s none [] s = some (.ref q) ∧ va_O "java/lang/String" q A s s.heap ∧ va_OF "java/lang/String" "coder" "B" (.int 0) q A s s.heap ∧ va_OF "java/lang/String" "value" "[B" (.ref v) q A s s.heap ∧ va_T .byte v 1 (fun j => .int (([119] : List Int32).getD j 0)) A s s.heap := by
  have hex := hn (.exactly (.string "MaltDrums" 231) "java/lang/String") (by decide +kernel)
  obtain ⟨q, hq⟩ := st_refS hex
  have hel : ∀ j : Nat, j < 1 → (Term.elem (.field (.string "MaltDrums" 231) "java/lang/String" "value" "[B") (.int (Int32.ofNat j))).eval args s none [] s = some (.int (([119] : List Int32).getD j 0)) := fun j h => by
    match j, h with
    | 0, _ => exact va_eqt (hn (.eq (.elem (.field (.string "MaltDrums" 231) "java/lang/String" "value" "[B") (.int 0)) (.int 119)) (by decide +kernel))
    | n + 1, h => omega
  obtain ⟨v, hv, hT⟩ := va_Tof (tm := (.field (.string "MaltDrums" 231) "java/lang/String" "value" "[B")) (N := 1) (f := fun j => .int (([119] : List Int32).getD j 0)) (by decide) (hn (.arrayOf (.field (.string "MaltDrums" 231) "java/lang/String" "value" "[B") .byte) (by decide +kernel)) (va_eqt (hn (.eq (.length (.field (.string "MaltDrums" 231) "java/lang/String" "value" "[B")) (.int 1)) (by decide +kernel))) hel hA
  exact ⟨q, v, hq, va_Oof hex hq hA, vk_OFof hq (va_eqt (hn (.eq (.field (.string "MaltDrums" 231) "java/lang/String" "coder" "B") (.int 0)) (by decide +kernel))) hA, vk_OFof hq hv hA, hT⟩
theorem st_s21 {args : Array Value} {s : State} {A : Nat → Prop} (hts : ∀ w ∈ lw_tbl, w.before args s = true) (hn : ∀ w ∈ flatC (Jvm.Cond.and given_1 narrow_1), w.before args s = true) (hA : ∀ a : Nat, a < s.heap.size → ¬ A a) : ∃ q v : Nat, (Term.string "MaltDrums" 233).eval args s none [] s = some (.ref q) ∧ va_O "java/lang/String" q A s s.heap ∧ va_OF "java/lang/String" "coder" "B" (.int 0) q A s s.heap ∧ va_OF "java/lang/String" "value" "[B" (.ref v) q A s s.heap ∧ va_T .byte v 1 (fun j => .int (([116] : List Int32).getD j 0)) A s s.heap := by
  have hex := hn (.exactly (.string "MaltDrums" 233) "java/lang/String") (by decide +kernel)
  obtain ⟨q, hq⟩ := st_refS hex
  have hel : ∀ j : Nat, j < 1 → (Term.elem (.field (.string "MaltDrums" 233) "java/lang/String" "value" "[B") (.int (Int32.ofNat j))).eval args s none [] s = some (.int (([116] : List Int32).getD j 0)) := fun j h => by
    match j, h with
    | 0, _ => exact va_eqt (hn (.eq (.elem (.field (.string "MaltDrums" 233) "java/lang/String" "value" "[B") (.int 0)) (.int 116)) (by decide +kernel))
    | n + 1, h => omega
  obtain ⟨v, hv, hT⟩ := va_Tof (tm := (.field (.string "MaltDrums" 233) "java/lang/String" "value" "[B")) (N := 1) (f := fun j => .int (([116] : List Int32).getD j 0)) (by decide) (hn (.arrayOf (.field (.string "MaltDrums" 233) "java/lang/String" "value" "[B") .byte) (by decide +kernel)) (va_eqt (hn (.eq (.length (.field (.string "MaltDrums" 233) "java/lang/String" "value" "[B")) (.int 1)) (by decide +kernel))) hel hA
  exact ⟨q, v, hq, va_Oof hex hq hA, vk_OFof hq (va_eqt (hn (.eq (.field (.string "MaltDrums" 233) "java/lang/String" "coder" "B") (.int 0)) (by decide +kernel))) hA, vk_OFof hq hv hA, hT⟩
theorem st_s22 {args : Array Value} {s : State} {A : Nat → Prop} (hts : ∀ w ∈ lw_tbl, w.before args s = true) (hn : ∀ w ∈ flatC (Jvm.Cond.and given_1 narrow_1), w.before args s = true) (hA : ∀ a : Nat, a < s.heap.size → ¬ A a) : ∃ q v : Nat, (Term.string "MaltDrums" 3).eval args s none [] s = some (.ref q) ∧ va_O "java/lang/String" q A s s.heap ∧ va_OF "java/lang/String" "coder" "B" (.int 0) q A s s.heap ∧ va_OF "java/lang/String" "value" "[B" (.ref v) q A s s.heap ∧ va_T .byte v 13 (fun j => .int (([116, 104, 101, 114, 101, 32, 105, 115, 32, 110, 111, 110, 101] : List Int32).getD j 0)) A s s.heap := by
  have hex := hn (.exactly (.string "MaltDrums" 3) "java/lang/String") (by decide +kernel)
  obtain ⟨q, hq⟩ := st_refS hex
  have hel : ∀ j : Nat, j < 13 → (Term.elem (.field (.string "MaltDrums" 3) "java/lang/String" "value" "[B") (.int (Int32.ofNat j))).eval args s none [] s = some (.int (([116, 104, 101, 114, 101, 32, 105, 115, 32, 110, 111, 110, 101] : List Int32).getD j 0)) := fun j h => by
    match j, h with
    | 0, _ => exact va_eqt (hn (.eq (.elem (.field (.string "MaltDrums" 3) "java/lang/String" "value" "[B") (.int 0)) (.int 116)) (by decide +kernel))
    | 1, _ => exact va_eqt (hn (.eq (.elem (.field (.string "MaltDrums" 3) "java/lang/String" "value" "[B") (.int 1)) (.int 104)) (by decide +kernel))
    | 2, _ => exact va_eqt (hn (.eq (.elem (.field (.string "MaltDrums" 3) "java/lang/String" "value" "[B") (.int 2)) (.int 101)) (by decide +kernel))
    | 3, _ => exact va_eqt (hn (.eq (.elem (.field (.string "MaltDrums" 3) "java/lang/String" "value" "[B") (.int 3)) (.int 114)) (by decide +kernel))
    | 4, _ => exact va_eqt (hn (.eq (.elem (.field (.string "MaltDrums" 3) "java/lang/String" "value" "[B") (.int 4)) (.int 101)) (by decide +kernel))
    | 5, _ => exact va_eqt (hn (.eq (.elem (.field (.string "MaltDrums" 3) "java/lang/String" "value" "[B") (.int 5)) (.int 32)) (by decide +kernel))
    | 6, _ => exact va_eqt (hn (.eq (.elem (.field (.string "MaltDrums" 3) "java/lang/String" "value" "[B") (.int 6)) (.int 105)) (by decide +kernel))
    | 7, _ => exact va_eqt (hn (.eq (.elem (.field (.string "MaltDrums" 3) "java/lang/String" "value" "[B") (.int 7)) (.int 115)) (by decide +kernel))
    | 8, _ => exact va_eqt (hn (.eq (.elem (.field (.string "MaltDrums" 3) "java/lang/String" "value" "[B") (.int 8)) (.int 32)) (by decide +kernel))
    | 9, _ => exact va_eqt (hn (.eq (.elem (.field (.string "MaltDrums" 3) "java/lang/String" "value" "[B") (.int 9)) (.int 110)) (by decide +kernel))
    | 10, _ => exact va_eqt (hn (.eq (.elem (.field (.string "MaltDrums" 3) "java/lang/String" "value" "[B") (.int 10)) (.int 111)) (by decide +kernel))
    | 11, _ => exact va_eqt (hn (.eq (.elem (.field (.string "MaltDrums" 3) "java/lang/String" "value" "[B") (.int 11)) (.int 110)) (by decide +kernel))
    | 12, _ => exact va_eqt (hn (.eq (.elem (.field (.string "MaltDrums" 3) "java/lang/String" "value" "[B") (.int 12)) (.int 101)) (by decide +kernel))
    | n + 13, h => omega
  obtain ⟨v, hv, hT⟩ := va_Tof (tm := (.field (.string "MaltDrums" 3) "java/lang/String" "value" "[B")) (N := 13) (f := fun j => .int (([116, 104, 101, 114, 101, 32, 105, 115, 32, 110, 111, 110, 101] : List Int32).getD j 0)) (by decide) (hn (.arrayOf (.field (.string "MaltDrums" 3) "java/lang/String" "value" "[B") .byte) (by decide +kernel)) (va_eqt (hn (.eq (.length (.field (.string "MaltDrums" 3) "java/lang/String" "value" "[B")) (.int 13)) (by decide +kernel))) hel hA
  exact ⟨q, v, hq, va_Oof hex hq hA, vk_OFof hq (va_eqt (hn (.eq (.field (.string "MaltDrums" 3) "java/lang/String" "coder" "B") (.int 0)) (by decide +kernel))) hA, vk_OFof hq hv hA, hT⟩
theorem st_s23 {args : Array Value} {s : State} {A : Nat → Prop} (hts : ∀ w ∈ lw_tbl, w.before args s = true) (hn : ∀ w ∈ flatC (Jvm.Cond.and given_1 narrow_1), w.before args s = true) (hA : ∀ a : Nat, a < s.heap.size → ¬ A a) : ∃ q v : Nat, (Term.string "MaltDrums" 11).eval args s none [] s = some (.ref q) ∧ va_O "java/lang/String" q A s s.heap ∧ va_OF "java/lang/String" "coder" "B" (.int 0) q A s s.heap ∧ va_OF "java/lang/String" "value" "[B" (.ref v) q A s s.heap ∧ va_T .byte v 12 (fun j => .int (([111, 117, 116, 32, 111, 102, 32, 114, 97, 110, 103, 101] : List Int32).getD j 0)) A s s.heap := by
  have hex := hn (.exactly (.string "MaltDrums" 11) "java/lang/String") (by decide +kernel)
  obtain ⟨q, hq⟩ := st_refS hex
  have hel : ∀ j : Nat, j < 12 → (Term.elem (.field (.string "MaltDrums" 11) "java/lang/String" "value" "[B") (.int (Int32.ofNat j))).eval args s none [] s = some (.int (([111, 117, 116, 32, 111, 102, 32, 114, 97, 110, 103, 101] : List Int32).getD j 0)) := fun j h => by
    match j, h with
    | 0, _ => exact va_eqt (hn (.eq (.elem (.field (.string "MaltDrums" 11) "java/lang/String" "value" "[B") (.int 0)) (.int 111)) (by decide +kernel))
    | 1, _ => exact va_eqt (hn (.eq (.elem (.field (.string "MaltDrums" 11) "java/lang/String" "value" "[B") (.int 1)) (.int 117)) (by decide +kernel))
    | 2, _ => exact va_eqt (hn (.eq (.elem (.field (.string "MaltDrums" 11) "java/lang/String" "value" "[B") (.int 2)) (.int 116)) (by decide +kernel))
    | 3, _ => exact va_eqt (hn (.eq (.elem (.field (.string "MaltDrums" 11) "java/lang/String" "value" "[B") (.int 3)) (.int 32)) (by decide +kernel))
    | 4, _ => exact va_eqt (hn (.eq (.elem (.field (.string "MaltDrums" 11) "java/lang/String" "value" "[B") (.int 4)) (.int 111)) (by decide +kernel))
    | 5, _ => exact va_eqt (hn (.eq (.elem (.field (.string "MaltDrums" 11) "java/lang/String" "value" "[B") (.int 5)) (.int 102)) (by decide +kernel))
    | 6, _ => exact va_eqt (hn (.eq (.elem (.field (.string "MaltDrums" 11) "java/lang/String" "value" "[B") (.int 6)) (.int 32)) (by decide +kernel))
    | 7, _ => exact va_eqt (hn (.eq (.elem (.field (.string "MaltDrums" 11) "java/lang/String" "value" "[B") (.int 7)) (.int 114)) (by decide +kernel))
    | 8, _ => exact va_eqt (hn (.eq (.elem (.field (.string "MaltDrums" 11) "java/lang/String" "value" "[B") (.int 8)) (.int 97)) (by decide +kernel))
    | 9, _ => exact va_eqt (hn (.eq (.elem (.field (.string "MaltDrums" 11) "java/lang/String" "value" "[B") (.int 9)) (.int 110)) (by decide +kernel))
    | 10, _ => exact va_eqt (hn (.eq (.elem (.field (.string "MaltDrums" 11) "java/lang/String" "value" "[B") (.int 10)) (.int 103)) (by decide +kernel))
    | 11, _ => exact va_eqt (hn (.eq (.elem (.field (.string "MaltDrums" 11) "java/lang/String" "value" "[B") (.int 11)) (.int 101)) (by decide +kernel))
    | n + 12, h => omega
  obtain ⟨v, hv, hT⟩ := va_Tof (tm := (.field (.string "MaltDrums" 11) "java/lang/String" "value" "[B")) (N := 12) (f := fun j => .int (([111, 117, 116, 32, 111, 102, 32, 114, 97, 110, 103, 101] : List Int32).getD j 0)) (by decide) (hn (.arrayOf (.field (.string "MaltDrums" 11) "java/lang/String" "value" "[B") .byte) (by decide +kernel)) (va_eqt (hn (.eq (.length (.field (.string "MaltDrums" 11) "java/lang/String" "value" "[B")) (.int 12)) (by decide +kernel))) hel hA
  exact ⟨q, v, hq, va_Oof hex hq hA, vk_OFof hq (va_eqt (hn (.eq (.field (.string "MaltDrums" 11) "java/lang/String" "coder" "B") (.int 0)) (by decide +kernel))) hA, vk_OFof hq hv hA, hT⟩
theorem st_s24 {args : Array Value} {s : State} {A : Nat → Prop} (hts : ∀ w ∈ lw_tbl, w.before args s = true) (hn : ∀ w ∈ flatC (Jvm.Cond.and given_1 narrow_1), w.before args s = true) (hA : ∀ a : Nat, a < s.heap.size → ¬ A a) : ∃ q v : Nat, (Term.string "MaltDrums" 16).eval args s none [] s = some (.ref q) ∧ va_O "java/lang/String" q A s s.heap ∧ va_OF "java/lang/String" "coder" "B" (.int 0) q A s s.heap ∧ va_OF "java/lang/String" "value" "[B" (.ref v) q A s s.heap ∧ va_T .byte v 12 (fun j => .int (([110, 111, 116, 32, 112, 111, 115, 115, 105, 98, 108, 101] : List Int32).getD j 0)) A s s.heap := by
  have hex := hn (.exactly (.string "MaltDrums" 16) "java/lang/String") (by decide +kernel)
  obtain ⟨q, hq⟩ := st_refS hex
  have hel : ∀ j : Nat, j < 12 → (Term.elem (.field (.string "MaltDrums" 16) "java/lang/String" "value" "[B") (.int (Int32.ofNat j))).eval args s none [] s = some (.int (([110, 111, 116, 32, 112, 111, 115, 115, 105, 98, 108, 101] : List Int32).getD j 0)) := fun j h => by
    match j, h with
    | 0, _ => exact va_eqt (hn (.eq (.elem (.field (.string "MaltDrums" 16) "java/lang/String" "value" "[B") (.int 0)) (.int 110)) (by decide +kernel))
    | 1, _ => exact va_eqt (hn (.eq (.elem (.field (.string "MaltDrums" 16) "java/lang/String" "value" "[B") (.int 1)) (.int 111)) (by decide +kernel))
    | 2, _ => exact va_eqt (hn (.eq (.elem (.field (.string "MaltDrums" 16) "java/lang/String" "value" "[B") (.int 2)) (.int 116)) (by decide +kernel))
    | 3, _ => exact va_eqt (hn (.eq (.elem (.field (.string "MaltDrums" 16) "java/lang/String" "value" "[B") (.int 3)) (.int 32)) (by decide +kernel))
    | 4, _ => exact va_eqt (hn (.eq (.elem (.field (.string "MaltDrums" 16) "java/lang/String" "value" "[B") (.int 4)) (.int 112)) (by decide +kernel))
    | 5, _ => exact va_eqt (hn (.eq (.elem (.field (.string "MaltDrums" 16) "java/lang/String" "value" "[B") (.int 5)) (.int 111)) (by decide +kernel))
    | 6, _ => exact va_eqt (hn (.eq (.elem (.field (.string "MaltDrums" 16) "java/lang/String" "value" "[B") (.int 6)) (.int 115)) (by decide +kernel))
    | 7, _ => exact va_eqt (hn (.eq (.elem (.field (.string "MaltDrums" 16) "java/lang/String" "value" "[B") (.int 7)) (.int 115)) (by decide +kernel))
    | 8, _ => exact va_eqt (hn (.eq (.elem (.field (.string "MaltDrums" 16) "java/lang/String" "value" "[B") (.int 8)) (.int 105)) (by decide +kernel))
    | 9, _ => exact va_eqt (hn (.eq (.elem (.field (.string "MaltDrums" 16) "java/lang/String" "value" "[B") (.int 9)) (.int 98)) (by decide +kernel))
    | 10, _ => exact va_eqt (hn (.eq (.elem (.field (.string "MaltDrums" 16) "java/lang/String" "value" "[B") (.int 10)) (.int 108)) (by decide +kernel))
    | 11, _ => exact va_eqt (hn (.eq (.elem (.field (.string "MaltDrums" 16) "java/lang/String" "value" "[B") (.int 11)) (.int 101)) (by decide +kernel))
    | n + 12, h => omega
  obtain ⟨v, hv, hT⟩ := va_Tof (tm := (.field (.string "MaltDrums" 16) "java/lang/String" "value" "[B")) (N := 12) (f := fun j => .int (([110, 111, 116, 32, 112, 111, 115, 115, 105, 98, 108, 101] : List Int32).getD j 0)) (by decide) (hn (.arrayOf (.field (.string "MaltDrums" 16) "java/lang/String" "value" "[B") .byte) (by decide +kernel)) (va_eqt (hn (.eq (.length (.field (.string "MaltDrums" 16) "java/lang/String" "value" "[B")) (.int 12)) (by decide +kernel))) hel hA
  exact ⟨q, v, hq, va_Oof hex hq hA, vk_OFof hq (va_eqt (hn (.eq (.field (.string "MaltDrums" 16) "java/lang/String" "coder" "B") (.int 0)) (by decide +kernel))) hA, vk_OFof hq hv hA, hT⟩
theorem st_s25 {args : Array Value} {s : State} {A : Nat → Prop} (hts : ∀ w ∈ lw_tbl, w.before args s = true) (hn : ∀ w ∈ flatC (Jvm.Cond.and given_1 narrow_1), w.before args s = true) (hA : ∀ a : Nat, a < s.heap.size → ¬ A a) : ∃ q v : Nat, (Term.string "MaltDrums" 235).eval args s none [] s = some (.ref q) ∧ va_O "java/lang/String" q A s s.heap ∧ va_OF "java/lang/String" "coder" "B" (.int 0) q A s s.heap ∧ va_OF "java/lang/String" "value" "[B" (.ref v) q A s s.heap ∧ va_T .byte v 6 (fun j => .int (([111, 114, 100, 101, 114, 115] : List Int32).getD j 0)) A s s.heap := by
  have hex := hn (.exactly (.string "MaltDrums" 235) "java/lang/String") (by decide +kernel)
  obtain ⟨q, hq⟩ := st_refS hex
  have hel : ∀ j : Nat, j < 6 → (Term.elem (.field (.string "MaltDrums" 235) "java/lang/String" "value" "[B") (.int (Int32.ofNat j))).eval args s none [] s = some (.int (([111, 114, 100, 101, 114, 115] : List Int32).getD j 0)) := fun j h => by
    match j, h with
    | 0, _ => exact va_eqt (hn (.eq (.elem (.field (.string "MaltDrums" 235) "java/lang/String" "value" "[B") (.int 0)) (.int 111)) (by decide +kernel))
    | 1, _ => exact va_eqt (hn (.eq (.elem (.field (.string "MaltDrums" 235) "java/lang/String" "value" "[B") (.int 1)) (.int 114)) (by decide +kernel))
    | 2, _ => exact va_eqt (hn (.eq (.elem (.field (.string "MaltDrums" 235) "java/lang/String" "value" "[B") (.int 2)) (.int 100)) (by decide +kernel))
    | 3, _ => exact va_eqt (hn (.eq (.elem (.field (.string "MaltDrums" 235) "java/lang/String" "value" "[B") (.int 3)) (.int 101)) (by decide +kernel))
    | 4, _ => exact va_eqt (hn (.eq (.elem (.field (.string "MaltDrums" 235) "java/lang/String" "value" "[B") (.int 4)) (.int 114)) (by decide +kernel))
    | 5, _ => exact va_eqt (hn (.eq (.elem (.field (.string "MaltDrums" 235) "java/lang/String" "value" "[B") (.int 5)) (.int 115)) (by decide +kernel))
    | n + 6, h => omega
  obtain ⟨v, hv, hT⟩ := va_Tof (tm := (.field (.string "MaltDrums" 235) "java/lang/String" "value" "[B")) (N := 6) (f := fun j => .int (([111, 114, 100, 101, 114, 115] : List Int32).getD j 0)) (by decide) (hn (.arrayOf (.field (.string "MaltDrums" 235) "java/lang/String" "value" "[B") .byte) (by decide +kernel)) (va_eqt (hn (.eq (.length (.field (.string "MaltDrums" 235) "java/lang/String" "value" "[B")) (.int 6)) (by decide +kernel))) hel hA
  exact ⟨q, v, hq, va_Oof hex hq hA, vk_OFof hq (va_eqt (hn (.eq (.field (.string "MaltDrums" 235) "java/lang/String" "coder" "B") (.int 0)) (by decide +kernel))) hA, vk_OFof hq hv hA, hT⟩
theorem st_k0 {args : Array Value} {s : State} {A : Nat → Prop} (hts : ∀ w ∈ lw_tbl, w.before args s = true) (hn : ∀ w ∈ flatC (Jvm.Cond.and given_1 narrow_1), w.before args s = true) (hA : ∀ a : Nat, a < s.heap.size → ¬ A a) : ∃ q v : Nat, aStr q v ("MaltDrums$Reader", 55, "", []) A s s.heap := by
  obtain ⟨q, v, hq, h1, h2, h3, h4⟩ := st_s0 hts hn hA
  exact ⟨q, v, vk_R.of (hts _ q745) hq, h1, h2, h3, h4⟩
theorem st_k1 {args : Array Value} {s : State} {A : Nat → Prop} (hts : ∀ w ∈ lw_tbl, w.before args s = true) (hn : ∀ w ∈ flatC (Jvm.Cond.and given_1 narrow_1), w.before args s = true) (hA : ∀ a : Nat, a < s.heap.size → ¬ A a) : ∃ q v : Nat, aStr q v ("MaltDrums$Reader", 62, "+", [43]) A s s.heap := by
  obtain ⟨q, v, hq, h1, h2, h3, h4⟩ := st_s1 hts hn hA
  exact ⟨q, v, vk_R.of (hts _ q807) hq, h1, h2, h3, h4⟩
theorem st_k2 {args : Array Value} {s : State} {A : Nat → Prop} (hts : ∀ w ∈ lw_tbl, w.before args s = true) (hn : ∀ w ∈ flatC (Jvm.Cond.and given_1 narrow_1), w.before args s = true) (hA : ∀ a : Nat, a < s.heap.size → ¬ A a) : ∃ q v : Nat, aStr q v ("MaltDrums$Reader", 68, "s", [115]) A s s.heap := by
  obtain ⟨q, v, hq, h1, h2, h3, h4⟩ := st_s2 hts hn hA
  exact ⟨q, v, vk_R.of (hts _ q816) hq, h1, h2, h3, h4⟩
theorem st_k3 {args : Array Value} {s : State} {A : Nat → Prop} (hts : ∀ w ∈ lw_tbl, w.before args s = true) (hn : ∀ w ∈ flatC (Jvm.Cond.and given_1 narrow_1), w.before args s = true) (hA : ∀ a : Nat, a < s.heap.size → ¬ A a) : ∃ q v : Nat, aStr q v ("MaltDrums$Reader", 70, "h", [104]) A s s.heap := by
  obtain ⟨q, v, hq, h1, h2, h3, h4⟩ := st_s3 hts hn hA
  exact ⟨q, v, vk_R.of (hts _ q817) hq, h1, h2, h3, h4⟩
theorem st_k4 {args : Array Value} {s : State} {A : Nat → Prop} (hts : ∀ w ∈ lw_tbl, w.before args s = true) (hn : ∀ w ∈ flatC (Jvm.Cond.and given_1 narrow_1), w.before args s = true) (hA : ∀ a : Nat, a < s.heap.size → ¬ A a) : ∃ q v : Nat, aStr q v ("MaltDrums$Reader", 72, "k", [107]) A s s.heap := by
  obtain ⟨q, v, hq, h1, h2, h3, h4⟩ := st_s4 hts hn hA
  exact ⟨q, v, vk_R.of (hts _ q818) hq, h1, h2, h3, h4⟩
theorem st_k5 {args : Array Value} {s : State} {A : Nat → Prop} (hts : ∀ w ∈ lw_tbl, w.before args s = true) (hn : ∀ w ∈ flatC (Jvm.Cond.and given_1 narrow_1), w.before args s = true) (hA : ∀ a : Nat, a < s.heap.size → ¬ A a) : ∃ q v : Nat, aStr q v ("MaltDrums$Reader", 74, "p", [112]) A s s.heap := by
  obtain ⟨q, v, hq, h1, h2, h3, h4⟩ := st_s5 hts hn hA
  exact ⟨q, v, vk_R.of (hts _ q819) hq, h1, h2, h3, h4⟩
theorem st_k6 {args : Array Value} {s : State} {A : Nat → Prop} (hts : ∀ w ∈ lw_tbl, w.before args s = true) (hn : ∀ w ∈ flatC (Jvm.Cond.and given_1 narrow_1), w.before args s = true) (hA : ∀ a : Nat, a < s.heap.size → ¬ A a) : ∃ q v : Nat, aStr q v ("MaltDrums$Reader", 76, "d", [100]) A s s.heap := by
  obtain ⟨q, v, hq, h1, h2, h3, h4⟩ := st_s6 hts hn hA
  exact ⟨q, v, vk_R.of (hts _ q820) hq, h1, h2, h3, h4⟩
theorem st_k7 {args : Array Value} {s : State} {A : Nat → Prop} (hts : ∀ w ∈ lw_tbl, w.before args s = true) (hn : ∀ w ∈ flatC (Jvm.Cond.and given_1 narrow_1), w.before args s = true) (hA : ∀ a : Nat, a < s.heap.size → ¬ A a) : ∃ q v : Nat, aStr q v ("MaltDrums$Reader", 78, "l", [108]) A s s.heap := by
  obtain ⟨q, v, hq, h1, h2, h3, h4⟩ := st_s7 hts hn hA
  exact ⟨q, v, vk_R.of (hts _ q821) hq, h1, h2, h3, h4⟩
theorem st_k8 {args : Array Value} {s : State} {A : Nat → Prop} (hts : ∀ w ∈ lw_tbl, w.before args s = true) (hn : ∀ w ∈ flatC (Jvm.Cond.and given_1 narrow_1), w.before args s = true) (hA : ∀ a : Nat, a < s.heap.size → ¬ A a) : ∃ q v : Nat, aStr q v ("MaltDrums$Reader", 80, "a", [97]) A s s.heap := by
  obtain ⟨q, v, hq, h1, h2, h3, h4⟩ := st_s8 hts hn hA
  exact ⟨q, v, vk_R.of (hts _ q822) hq, h1, h2, h3, h4⟩
theorem st_k9 {args : Array Value} {s : State} {A : Nat → Prop} (hts : ∀ w ∈ lw_tbl, w.before args s = true) (hn : ∀ w ∈ flatC (Jvm.Cond.and given_1 narrow_1), w.before args s = true) (hA : ∀ a : Nat, a < s.heap.size → ¬ A a) : ∃ q v : Nat, aStr q v ("MaltDrums$Reader", 82, "w", [119]) A s s.heap := by
  obtain ⟨q, v, hq, h1, h2, h3, h4⟩ := st_s9 hts hn hA
  exact ⟨q, v, vk_R.of (hts _ q823) hq, h1, h2, h3, h4⟩
theorem st_k10 {args : Array Value} {s : State} {A : Nat → Prop} (hts : ∀ w ∈ lw_tbl, w.before args s = true) (hn : ∀ w ∈ flatC (Jvm.Cond.and given_1 narrow_1), w.before args s = true) (hA : ∀ a : Nat, a < s.heap.size → ¬ A a) : ∃ q v : Nat, aStr q v ("MaltDrums$Reader", 84, "t", [116]) A s s.heap := by
  obtain ⟨q, v, hq, h1, h2, h3, h4⟩ := st_s10 hts hn hA
  exact ⟨q, v, vk_R.of (hts _ q824) hq, h1, h2, h3, h4⟩
theorem st_k11 {args : Array Value} {s : State} {A : Nat → Prop} (hts : ∀ w ∈ lw_tbl, w.before args s = true) (hn : ∀ w ∈ flatC (Jvm.Cond.and given_1 narrow_1), w.before args s = true) (hA : ∀ a : Nat, a < s.heap.size → ¬ A a) : ∃ q v : Nat, aStr q v ("MaltDrums$Reader", 86, "n", [110]) A s s.heap := by
  obtain ⟨q, v, hq, h1, h2, h3, h4⟩ := st_s11 hts hn hA
  exact ⟨q, v, vk_R.of (hts _ q825) hq, h1, h2, h3, h4⟩
theorem st_k12 {args : Array Value} {s : State} {A : Nat → Prop} (hts : ∀ w ∈ lw_tbl, w.before args s = true) (hn : ∀ w ∈ flatC (Jvm.Cond.and given_1 narrow_1), w.before args s = true) (hA : ∀ a : Nat, a < s.heap.size → ¬ A a) : ∃ q v : Nat, aStr q v ("MaltDrums", 208, "+", [43]) A s s.heap := by
  obtain ⟨q, v, hq, h1, h2, h3, h4⟩ := st_s12 hts hn hA
  exact ⟨q, v, vk_R.of (hts _ q1542) hq, h1, h2, h3, h4⟩
theorem st_k13 {args : Array Value} {s : State} {A : Nat → Prop} (hts : ∀ w ∈ lw_tbl, w.before args s = true) (hn : ∀ w ∈ flatC (Jvm.Cond.and given_1 narrow_1), w.before args s = true) (hA : ∀ a : Nat, a < s.heap.size → ¬ A a) : ∃ q v : Nat, aStr q v ("MaltDrums", 214, "s", [115]) A s s.heap := by
  obtain ⟨q, v, hq, h1, h2, h3, h4⟩ := st_s13 hts hn hA
  exact ⟨q, v, vk_R.of (hts _ q1544) hq, h1, h2, h3, h4⟩
theorem st_k14 {args : Array Value} {s : State} {A : Nat → Prop} (hts : ∀ w ∈ lw_tbl, w.before args s = true) (hn : ∀ w ∈ flatC (Jvm.Cond.and given_1 narrow_1), w.before args s = true) (hA : ∀ a : Nat, a < s.heap.size → ¬ A a) : ∃ q v : Nat, aStr q v ("MaltDrums", 216, "d", [100]) A s s.heap := by
  obtain ⟨q, v, hq, h1, h2, h3, h4⟩ := st_s14 hts hn hA
  exact ⟨q, v, vk_R.of (hts _ q1545) hq, h1, h2, h3, h4⟩
theorem st_k15 {args : Array Value} {s : State} {A : Nat → Prop} (hts : ∀ w ∈ lw_tbl, w.before args s = true) (hn : ∀ w ∈ flatC (Jvm.Cond.and given_1 narrow_1), w.before args s = true) (hA : ∀ a : Nat, a < s.heap.size → ¬ A a) : ∃ q v : Nat, aStr q v ("MaltDrums", 218, "h", [104]) A s s.heap := by
  obtain ⟨q, v, hq, h1, h2, h3, h4⟩ := st_s15 hts hn hA
  exact ⟨q, v, vk_R.of (hts _ q1546) hq, h1, h2, h3, h4⟩
theorem st_k16 {args : Array Value} {s : State} {A : Nat → Prop} (hts : ∀ w ∈ lw_tbl, w.before args s = true) (hn : ∀ w ∈ flatC (Jvm.Cond.and given_1 narrow_1), w.before args s = true) (hA : ∀ a : Nat, a < s.heap.size → ¬ A a) : ∃ q v : Nat, aStr q v ("MaltDrums", 220, "k", [107]) A s s.heap := by
  obtain ⟨q, v, hq, h1, h2, h3, h4⟩ := st_s16 hts hn hA
  exact ⟨q, v, vk_R.of (hts _ q1547) hq, h1, h2, h3, h4⟩
theorem st_k17 {args : Array Value} {s : State} {A : Nat → Prop} (hts : ∀ w ∈ lw_tbl, w.before args s = true) (hn : ∀ w ∈ flatC (Jvm.Cond.and given_1 narrow_1), w.before args s = true) (hA : ∀ a : Nat, a < s.heap.size → ¬ A a) : ∃ q v : Nat, aStr q v ("MaltDrums", 222, "p", [112]) A s s.heap := by
  obtain ⟨q, v, hq, h1, h2, h3, h4⟩ := st_s17 hts hn hA
  exact ⟨q, v, vk_R.of (hts _ q1548) hq, h1, h2, h3, h4⟩
theorem st_k18 {args : Array Value} {s : State} {A : Nat → Prop} (hts : ∀ w ∈ lw_tbl, w.before args s = true) (hn : ∀ w ∈ flatC (Jvm.Cond.and given_1 narrow_1), w.before args s = true) (hA : ∀ a : Nat, a < s.heap.size → ¬ A a) : ∃ q v : Nat, aStr q v ("MaltDrums", 224, "l", [108]) A s s.heap := by
  obtain ⟨q, v, hq, h1, h2, h3, h4⟩ := st_s18 hts hn hA
  exact ⟨q, v, vk_R.of (hts _ q1549) hq, h1, h2, h3, h4⟩
theorem st_k19 {args : Array Value} {s : State} {A : Nat → Prop} (hts : ∀ w ∈ lw_tbl, w.before args s = true) (hn : ∀ w ∈ flatC (Jvm.Cond.and given_1 narrow_1), w.before args s = true) (hA : ∀ a : Nat, a < s.heap.size → ¬ A a) : ∃ q v : Nat, aStr q v ("MaltDrums", 229, "a", [97]) A s s.heap := by
  obtain ⟨q, v, hq, h1, h2, h3, h4⟩ := st_s19 hts hn hA
  exact ⟨q, v, vk_R.of (hts _ q1558) hq, h1, h2, h3, h4⟩
theorem st_k20 {args : Array Value} {s : State} {A : Nat → Prop} (hts : ∀ w ∈ lw_tbl, w.before args s = true) (hn : ∀ w ∈ flatC (Jvm.Cond.and given_1 narrow_1), w.before args s = true) (hA : ∀ a : Nat, a < s.heap.size → ¬ A a) : ∃ q v : Nat, aStr q v ("MaltDrums", 231, "w", [119]) A s s.heap := by
  obtain ⟨q, v, hq, h1, h2, h3, h4⟩ := st_s20 hts hn hA
  exact ⟨q, v, vk_R.of (hts _ q1559) hq, h1, h2, h3, h4⟩
theorem st_k21 {args : Array Value} {s : State} {A : Nat → Prop} (hts : ∀ w ∈ lw_tbl, w.before args s = true) (hn : ∀ w ∈ flatC (Jvm.Cond.and given_1 narrow_1), w.before args s = true) (hA : ∀ a : Nat, a < s.heap.size → ¬ A a) : ∃ q v : Nat, aStr q v ("MaltDrums", 233, "t", [116]) A s s.heap := by
  obtain ⟨q, v, hq, h1, h2, h3, h4⟩ := st_s21 hts hn hA
  exact ⟨q, v, vk_R.of (hts _ q1560) hq, h1, h2, h3, h4⟩
theorem st_k22 {args : Array Value} {s : State} {A : Nat → Prop} (hts : ∀ w ∈ lw_tbl, w.before args s = true) (hn : ∀ w ∈ flatC (Jvm.Cond.and given_1 narrow_1), w.before args s = true) (hA : ∀ a : Nat, a < s.heap.size → ¬ A a) : ∃ q v : Nat, aStr q v ("MaltDrums", 3, "there is none", [116, 104, 101, 114, 101, 32, 105, 115, 32, 110, 111, 110, 101]) A s s.heap := by
  obtain ⟨q, v, hq, h1, h2, h3, h4⟩ := st_s22 hts hn hA
  exact ⟨q, v, vk_R.of (hts _ q1327) hq, h1, h2, h3, h4⟩
theorem st_k23 {args : Array Value} {s : State} {A : Nat → Prop} (hts : ∀ w ∈ lw_tbl, w.before args s = true) (hn : ∀ w ∈ flatC (Jvm.Cond.and given_1 narrow_1), w.before args s = true) (hA : ∀ a : Nat, a < s.heap.size → ¬ A a) : ∃ q v : Nat, aStr q v ("MaltDrums", 11, "out of range", [111, 117, 116, 32, 111, 102, 32, 114, 97, 110, 103, 101]) A s s.heap := by
  obtain ⟨q, v, hq, h1, h2, h3, h4⟩ := st_s23 hts hn hA
  exact ⟨q, v, vk_R.of (hts _ q1235) hq, h1, h2, h3, h4⟩
theorem st_k24 {args : Array Value} {s : State} {A : Nat → Prop} (hts : ∀ w ∈ lw_tbl, w.before args s = true) (hn : ∀ w ∈ flatC (Jvm.Cond.and given_1 narrow_1), w.before args s = true) (hA : ∀ a : Nat, a < s.heap.size → ¬ A a) : ∃ q v : Nat, aStr q v ("MaltDrums", 16, "not possible", [110, 111, 116, 32, 112, 111, 115, 115, 105, 98, 108, 101]) A s s.heap := by
  obtain ⟨q, v, hq, h1, h2, h3, h4⟩ := st_s24 hts hn hA
  exact ⟨q, v, vk_R.of (hts _ q1249) hq, h1, h2, h3, h4⟩
theorem st_k25 {args : Array Value} {s : State} {A : Nat → Prop} (hts : ∀ w ∈ lw_tbl, w.before args s = true) (hn : ∀ w ∈ flatC (Jvm.Cond.and given_1 narrow_1), w.before args s = true) (hA : ∀ a : Nat, a < s.heap.size → ¬ A a) : ∃ q v : Nat, aStr q v ("MaltDrums", 235, "orders", [111, 114, 100, 101, 114, 115]) A s s.heap := by
  obtain ⟨q, v, hq, h1, h2, h3, h4⟩ := st_s25 hts hn hA
  exact ⟨q, v, vk_R.of (hts _ q1501) hq, h1, h2, h3, h4⟩
