set_option maxRecDepth 100000
/-! THE START: classes and arrays -/
theorem st_cls {args : Array Value} {s : State} (hts : ∀ w ∈ lw_all, w.before args s = true) : ∃ D : va_G, ∀ (c : Nat) (q : vw_C), aCl[c]? = some q → u_Kn s q.1 q.2.1 q.2.2 (D.1 c) (D.2 c) := by
  have key : ∀ (c : Nat) (q : vw_C), aCl[c]? = some q → ∃ (cC : ClassId) (iS : Nat → Nat), u_Kn s q.1 q.2.1 q.2.2 cC iS := by
    intro c q h
    match c, h with
    | 0, h => cases h; exact u_known (n := 4) hts in_X1 (hts _ q102)
    | 1, h => cases h; exact u_known (n := 22) hts in_X2 (hts _ q110)
    | 2, h => cases h; exact u_known (n := 1) hts in_X4 (hts _ q121)
    | 3, h => cases h; exact u_known (n := 4) hts in_X5 (hts _ q134)
    | 4, h => cases h; exact u_known (n := 9) hts in_X6 (hts _ q1753)
    | 5, h => cases h; exact u_known (n := 2) hts in_X7 (hts _ q1129)
    | 6, h => cases h; exact u_known (n := 3) hts in_X8 (hts _ q670)
    | 7, h => cases h; exact u_known (n := 3) hts in_X9 (hts _ q827)
    | 8, h => cases h; exact u_known (n := 6) hts in_X10 (hts _ q859)
    | 9, h => cases h; exact u_known (n := 3) hts in_J2 (hts _ q246)
    | 10, h => cases h; exact u_known (n := 4) hts in_J4 (hts _ q267)
    | 11, h => cases h; exact u_known (n := 4) hts in_J5 (hts _ q489)
    | 12, h => cases h; exact u_known (n := 3) hts in_J22 (hts _ q691)
    | n + 13, h => simp at h
  have all : ∀ c : Nat, ∃ (cC : ClassId) (iS : Nat → Nat), ∀ q, aCl[c]? = some q → u_Kn s q.1 q.2.1 q.2.2 cC iS := by
    intro c
    cases hq : aCl[c]? with
    | none => exact ⟨default, fun _ => 0, fun q h => by cases h⟩
    | some q =>
      obtain ⟨cC, iS, h⟩ := key c q hq
      exact ⟨cC, iS, fun q' h' => by cases h'; exact h⟩
  exact ⟨(fun c => (all c).choose, fun c => (all c).choose_spec.choose), fun c q h => (all c).choose_spec.choose_spec q h⟩
theorem st_arr {args : Array Value} {s : State} (hts : ∀ w ∈ lw_tbl, w.before args s = true) : ∃ arr : Nat → ClassId, ∀ (k : Nat) (q : ClassId × FieldType), ([(arr 0, .int), (arr 1, .long), (arr 2, .byte), (arr 3, .object "java/lang/Object"), (arr 4, .object "MaltDrums$Drum")] : List (ClassId × FieldType))[k]? = some q → ArrOfT s q.1 q.2 ∧ va_RA s q.1 q.2 := by
  obtain ⟨c0, k0, m0, a0, b0, d0⟩ := Cond.arrayClass_spec (hts _ (lw_all_tbl q133))
  obtain ⟨c1, k1, m1, a1, b1, d1⟩ := Cond.arrayClass_spec (hts _ (lw_all_tbl q2189))
  obtain ⟨c2, k2, m2, a2, b2, d2⟩ := Cond.arrayClass_spec (hts _ (lw_all_tbl q298))
  obtain ⟨m3, c3, k3, a3, -, b3, d3, e3⟩ := Cond.arrayOver_spec (hts _ q255)
  obtain ⟨m4, c4, k4, a4, -, b4, d4, e4⟩ := Cond.arrayOver_spec (hts _ q116)
  refine ⟨fun k => match k with | 0 => c0 | 1 => c1 | 2 => c2 | 3 => c3 | _ => c4, fun k q hq => ?_⟩
  match k, hq with
  | 0, hq => cases hq; exact ⟨fun n z => ⟨fun k h => (by cases h), k0, b0, m0, d0⟩, a0⟩
  | 1, hq => cases hq; exact ⟨fun n z => ⟨fun k h => (by cases h), k1, b1, m1, d1⟩, a1⟩
  | 2, hq => cases hq; exact ⟨fun n z => ⟨fun k h => (by cases h), k2, b2, m2, d2⟩, a2⟩
  | 3, hq => cases hq; exact ⟨fun n z => ⟨fun k h => (by cases h), k3, b3, m3, d3⟩, ⟨k3, m3, b3, d3, a3, e3⟩⟩
  | 4, hq => cases hq; exact ⟨fun n z => ⟨fun k h => (by cases h), k4, b4, m4, d4⟩, ⟨k4, m4, b4, d4, a4, e4⟩⟩
  | n + 5, hq => simp at hq
