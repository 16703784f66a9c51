set_option maxRecDepth 100000
/-! STATIC METHODS WITHOUT A HEAP: by program -/
theorem pn_RJ16 : plainName RJ16 = true := by decide
theorem pn_RX1 : plainName RX1 = true := by decide
def iMax (x z : Int32) : Int32 := if x < z then z else x
def iMin (x z : Int32) : Int32 := if z < x then z else x
def iAbs (x : Int32) : Int32 := if 0 ≤ x then x else 0 - x
section AMath
variable {G : aG} {p : Program} {l : Launch} {e : Env} {s : State} {m : MethodId} {args : Array Value} {below : List Frame} {meth : Method} {c : Code} {A : Nat → Prop} {y : MethodName} {cc : ByteArray} {nL : Nat} {rt : Option FieldType} {Q : State → Prop} {V : aWd} {pc : Nat} {L : List (Option Value)} {st : List Value}
theorem a_mmax (C : Cx G p l s m args meth c A y cc nL rt) {k MC MS index : Nat} {x z : Int32} (hk : 1 ≤ k) (hroom : ∀ h n u, V h n u → n ≤ s.heap.size + MC ∧ u ≤ slT s.heap + MS) (hlink : Cond.methodLink y.cls index ⟨"java/lang/Math", "max", "(II)I"⟩ ∈ lw_all) (hst : (st.map fun v => v.category).sum ≤ 8) (d : decode cc pc = .ok (.invokestatic index, 3)) (kk : AW G p l e (aRm k MC MS) s m args below meth c A nL Q V (pc + 3) L (.int (iMax x z) :: st)) : AW G p l e (aRm k MC MS) s m args below meth c A nL Q V pc L (.int z :: .int x :: st) := by
  intro h n u hV H locs ls hz hu hR hA hS hl
  obtain ⟨r1, r2⟩ := hroom h n u hV
  exact va_mmax C.exec C.2.1 (C.maxL.trans hl.1.symm) C.own (C.ts _ hlink) (C.ts _ q362) (C.ts _ q84) (C.ts _ q363) hk (by show (st.map fun v => v.category).sum + 13 ≤ 48 * k; omega) (by show n - s.heap.size ≤ MC; omega) (by show u - slT s.heap ≤ MS; omega) d (kk h n u hV H locs ls hz hu hR hA hS hl)
theorem a_mmin (C : Cx G p l s m args meth c A y cc nL rt) {k MC MS index : Nat} {x z : Int32} (hk : 1 ≤ k) (hroom : ∀ h n u, V h n u → n ≤ s.heap.size + MC ∧ u ≤ slT s.heap + MS) (hlink : Cond.methodLink y.cls index ⟨"java/lang/Math", "min", "(II)I"⟩ ∈ lw_all) (hst : (st.map fun v => v.category).sum ≤ 8) (d : decode cc pc = .ok (.invokestatic index, 3)) (kk : AW G p l e (aRm k MC MS) s m args below meth c A nL Q V (pc + 3) L (.int (iMin x z) :: st)) : AW G p l e (aRm k MC MS) s m args below meth c A nL Q V pc L (.int z :: .int x :: st) := by
  intro h n u hV H locs ls hz hu hR hA hS hl
  obtain ⟨r1, r2⟩ := hroom h n u hV
  exact va_mmin C.exec C.2.1 (C.maxL.trans hl.1.symm) C.own (C.ts _ hlink) (C.ts _ q380) (C.ts _ q84) (C.ts _ q381) hk (by show (st.map fun v => v.category).sum + 13 ≤ 48 * k; omega) (by show n - s.heap.size ≤ MC; omega) (by show u - slT s.heap ≤ MS; omega) d (kk h n u hV H locs ls hz hu hR hA hS hl)
theorem a_mabs (C : Cx G p l s m args meth c A y cc nL rt) {k MC MS index : Nat} {x : Int32} (hk : 1 ≤ k) (hroom : ∀ h n u, V h n u → n ≤ s.heap.size + MC ∧ u ≤ slT s.heap + MS) (hlink : Cond.methodLink y.cls index ⟨"java/lang/Math", "abs", "(I)I"⟩ ∈ lw_all) (hst : (st.map fun v => v.category).sum ≤ 8) (d : decode cc pc = .ok (.invokestatic index, 3)) (kk : AW G p l e (aRm k MC MS) s m args below meth c A nL Q V (pc + 3) L (.int (iAbs x) :: st)) : AW G p l e (aRm k MC MS) s m args below meth c A nL Q V pc L (.int x :: st) := by
  intro h n u hV H locs ls hz hu hR hA hS hl
  obtain ⟨r1, r2⟩ := hroom h n u hV
  exact va_mabs C.exec C.2.1 (C.maxL.trans hl.1.symm) C.own (C.ts _ hlink) (C.ts _ q1737) (C.ts _ q84) (C.ts _ q1738) hk (by show (st.map fun v => v.category).sum + 13 ≤ 48 * k; omega) (by show n - s.heap.size ≤ MC; omega) (by show u - slT s.heap ≤ MS; omega) d (kk h n u hV H locs ls hz hu hR hA hS hl)
end AMath
def wp_J16_bitCount (p1 : Int32) (Q : Int32 → Prop) : Prop := (∀ x1 : Int32, x1 = p1 - (((p1.toUInt32 >>> ((1 : Int32).toUInt32 &&& Int32.toUInt32 31)).toInt32) &&& 1431655765) → (∀ x2 : Int32, x2 = (x1 &&& 858993459) + (((x1.toUInt32 >>> ((2 : Int32).toUInt32 &&& Int32.toUInt32 31)).toInt32) &&& 858993459) → (∀ x3 : Int32, x3 = (x2 + ((x2.toUInt32 >>> ((4 : Int32).toUInt32 &&& Int32.toUInt32 31)).toInt32)) &&& 252645135 → (∀ x4 : Int32, x4 = x3 + ((x3.toUInt32 >>> ((8 : Int32).toUInt32 &&& Int32.toUInt32 31)).toInt32) → (∀ x5 : Int32, x5 = x4 + ((x4.toUInt32 >>> ((16 : Int32).toUInt32 &&& Int32.toUInt32 31)).toInt32) → (Q (x5 &&& 63)))))))
theorem sg_J16_bitCount : aSig yJ16_bitCount 1 := by decide +kernel
set_option maxHeartbeats 4000000 in
theorem ct_J16_bitCount (l : Launch) (G : aG) (p1 : Int32)  (Q : Int32 → Prop) (hw : wp_J16_bitCount p1 Q) (h0 : AH) (n0 u0 : Nat) : CT l yJ16_bitCount (ws_ yJ16_bitCount cJ16_bitCount 1 (some .int)) 1 G [.int p1] h0 n0 u0 0 0 (s_pi Q h0 n0 u0) := by
  refine CT.intro [some (.int p1)] pn_RJ16 rfl (Nat.le_of_ble_eq_true rfl) ?_
  intro p e s m args below meth c C hz hu
  have hs : s.heap.size = n0 ∧ slT s.heap = u0 := ⟨hz, hu⟩
  unfold wp_J16_bitCount at hw
  refine a_iload_0 (pc := 0) C dJ16_bitCount_0 ?_
  refine a_iload_0 (pc := 1) C dJ16_bitCount_1 ?_
  refine a_iconst (pc := 2) C dJ16_bitCount_2 ic_1 ?_
  refine a_iushr (pc := 3) C dJ16_bitCount_3 ?_
  refine a_ldcw (pc := 4) C q1213 dJ16_bitCount_4 ?_
  refine a_iand (pc := 7) C dJ16_bitCount_7 ?_
  refine a_isub (pc := 8) C dJ16_bitCount_8 ?_
  refine a_topi (fun x1 ex1 => ?_)
  have hw := hw x1 ex1
  refine a_istore_0 (pc := 9) C dJ16_bitCount_9 (by decide) ?_
  refine a_iload_0 (pc := 10) C dJ16_bitCount_10 ?_
  refine a_ldcw (pc := 11) C q1214 dJ16_bitCount_11 ?_
  refine a_iand (pc := 14) C dJ16_bitCount_14 ?_
  refine a_iload_0 (pc := 15) C dJ16_bitCount_15 ?_
  refine a_iconst (pc := 16) C dJ16_bitCount_16 ic_2 ?_
  refine a_iushr (pc := 17) C dJ16_bitCount_17 ?_
  refine a_ldcw (pc := 18) C q1214 dJ16_bitCount_18 ?_
  refine a_iand (pc := 21) C dJ16_bitCount_21 ?_
  refine a_iadd (pc := 22) C dJ16_bitCount_22 ?_
  refine a_topi (fun x2 ex2 => ?_)
  have hw := hw x2 ex2
  refine a_istore_0 (pc := 23) C dJ16_bitCount_23 (by decide) ?_
  refine a_iload_0 (pc := 24) C dJ16_bitCount_24 ?_
  refine a_iload_0 (pc := 25) C dJ16_bitCount_25 ?_
  refine a_iconst (pc := 26) C dJ16_bitCount_26 ic_4 ?_
  refine a_iushr (pc := 27) C dJ16_bitCount_27 ?_
  refine a_iadd (pc := 28) C dJ16_bitCount_28 ?_
  refine a_ldcw (pc := 29) C q1215 dJ16_bitCount_29 ?_
  refine a_iand (pc := 32) C dJ16_bitCount_32 ?_
  refine a_topi (fun x3 ex3 => ?_)
  have hw := hw x3 ex3
  refine a_istore_0 (pc := 33) C dJ16_bitCount_33 (by decide) ?_
  refine a_iload_0 (pc := 34) C dJ16_bitCount_34 ?_
  refine a_iload_0 (pc := 35) C dJ16_bitCount_35 ?_
  refine a_bipush (pc := 36) C dJ16_bitCount_36 bc_8 ?_
  refine a_iushr (pc := 38) C dJ16_bitCount_38 ?_
  refine a_iadd (pc := 39) C dJ16_bitCount_39 ?_
  refine a_topi (fun x4 ex4 => ?_)
  have hw := hw x4 ex4
  refine a_istore_0 (pc := 40) C dJ16_bitCount_40 (by decide) ?_
  refine a_iload_0 (pc := 41) C dJ16_bitCount_41 ?_
  refine a_iload_0 (pc := 42) C dJ16_bitCount_42 ?_
  refine a_bipush (pc := 43) C dJ16_bitCount_43 bc_16 ?_
  refine a_iushr (pc := 45) C dJ16_bitCount_45 ?_
  refine a_iadd (pc := 46) C dJ16_bitCount_46 ?_
  refine a_topi (fun x5 ex5 => ?_)
  have hw := hw x5 ex5
  refine a_istore_0 (pc := 47) C dJ16_bitCount_47 (by decide) ?_
  refine a_iload_0 (pc := 48) C dJ16_bitCount_48 ?_
  refine a_bipush (pc := 49) C dJ16_bitCount_49 bc_63 ?_
  refine a_iand (pc := 51) C dJ16_bitCount_51 ?_
  exact a_iret C dJ16_bitCount_52 (fun h n u hV => ⟨⟨_, rfl, hw, hV⟩, s_end hs hV⟩)
def wp_X1_isWithin (p1 : Int32) (p2 : Int32) (p3 : Int32) (Q : Int32 → Prop) : Prop := (((p1 < p2) → (Q 0)) ∧ ((¬ p1 < p2) → (((p3 < p1) → (Q 0)) ∧ ((¬ p3 < p1) → (Q 1)))))
theorem sg_X1_isWithin : aSig yX1_isWithin 3 := by decide +kernel
set_option maxHeartbeats 4000000 in
theorem ct_X1_isWithin (l : Launch) (G : aG) (p1 : Int32) (p2 : Int32) (p3 : Int32)  (Q : Int32 → Prop) (hw : wp_X1_isWithin p1 p2 p3 Q) (h0 : AH) (n0 u0 : Nat) : CT l yX1_isWithin (ws_ yX1_isWithin cX1_isWithin 3 (some .boolean)) 1 G [.int p1, .int p2, .int p3] h0 n0 u0 0 0 (s_pi Q h0 n0 u0) := by
  refine CT.intro [some (.int p1), some (.int p2), some (.int p3)] pn_RX1 rfl (Nat.le_of_ble_eq_true rfl) ?_
  intro p e s m args below meth c C hz hu
  have hs : s.heap.size = n0 ∧ slT s.heap = u0 := ⟨hz, hu⟩
  unfold wp_X1_isWithin at hw
  refine a_iload_0 (pc := 0) C dX1_isWithin_0 ?_
  refine a_iload_1 (pc := 1) C dX1_isWithin_1 ?_
  refine a_icmp_lt (pc := 2) C 14 dX1_isWithin_2 (by decide) (fun c1 => ?_) (fun c1 => ?_)
  · have hw := hw.1 c1
    refine a_iconst (pc := 14) C dX1_isWithin_14 ic_0 ?_
    exact a_zret rfl C dX1_isWithin_15 (fun h n u hV => ⟨⟨_, rfl, hw, hV⟩, s_end hs hV⟩)
  · have hw := hw.2 c1
    refine a_iload_0 (pc := 5) C dX1_isWithin_5 ?_
    refine a_iload_2 (pc := 6) C dX1_isWithin_6 ?_
    refine a_icmp_gt (pc := 7) C 14 dX1_isWithin_7 (by decide) (fun c2 => ?_) (fun c2 => ?_)
    · have hw := hw.1 c2
      refine a_iconst (pc := 14) C dX1_isWithin_14 ic_0 ?_
      exact a_zret rfl C dX1_isWithin_15 (fun h n u hV => ⟨⟨_, rfl, hw, hV⟩, s_end hs hV⟩)
    · have hw := hw.2 c2
      refine a_iconst (pc := 10) C dX1_isWithin_10 ic_1 ?_
      refine a_goto (pc := 11) C 15 dX1_isWithin_11 (by decide) ?_
      exact a_zret rfl C dX1_isWithin_15 (fun h n u hV => ⟨⟨_, rfl, hw, hV⟩, s_end hs hV⟩)
def wp_X1_isDrum (p1 : Int32) (Q : Int32 → Prop) : Prop := (wp_X1_isWithin p1 0 3 (fun v1 => ((v1 = 0 ∨ v1 = 1) ∧ (Q v1))))
theorem sg_X1_isDrum : aSig yX1_isDrum 1 := by decide +kernel
set_option maxHeartbeats 4000000 in
theorem ct_X1_isDrum (l : Launch) (G : aG) (p1 : Int32)  (Q : Int32 → Prop) (hw : wp_X1_isDrum p1 Q) (h0 : AH) (n0 u0 : Nat) : CT l yX1_isDrum (ws_ yX1_isDrum cX1_isDrum 1 (some .boolean)) 2 G [.int p1] h0 n0 u0 0 0 (s_pi Q h0 n0 u0) := by
  refine CT.intro [some (.int p1)] pn_RX1 rfl (Nat.le_of_ble_eq_true rfl) ?_
  intro p e s m args below meth c C hz hu
  have hs : s.heap.size = n0 ∧ slT s.heap = u0 := ⟨hz, hu⟩
  unfold wp_X1_isDrum at hw
  refine a_iload_0 (pc := 0) C dX1_isDrum_0 ?_
  refine a_iconst (pc := 1) C dX1_isDrum_1 ic_0 ?_
  refine a_iconst (pc := 2) C dX1_isDrum_2 ic_3 ?_
  refine s_callS3p (pc := 3) C hs (fun h n u => ct_X1_isWithin l G _ _ _ _ hw h n u) (by decide) (by decide) (lw_S q1230 q856 q65 q857) sg_X1_isWithin (Nat.le_of_ble_eq_true rfl) dX1_isDrum_3 (fun v1 hw => ?_)
  have hz := hw.1
  have hw := hw.2
  exact a_zret (narrow_bool hz) C dX1_isDrum_6 (fun h n u hV => ⟨⟨_, rfl, hw, hV⟩, s_end hs hV⟩)
def wp_X1_hoursFor (p1 : Int32) (p2 : Int32) (Q : Int32 → Prop) : Prop := (((0 < p1) → ((¬ p2 = 0) ∧ (Q (((p1 + p2) - 1) / p2)))) ∧ ((¬ 0 < p1) → (Q 0)))
theorem sg_X1_hoursFor : aSig yX1_hoursFor 2 := by decide +kernel
set_option maxHeartbeats 4000000 in
theorem ct_X1_hoursFor (l : Launch) (G : aG) (p1 : Int32) (p2 : Int32)  (Q : Int32 → Prop) (hw : wp_X1_hoursFor p1 p2 Q) (h0 : AH) (n0 u0 : Nat) : CT l yX1_hoursFor (ws_ yX1_hoursFor cX1_hoursFor 2 (some .int)) 1 G [.int p1, .int p2] h0 n0 u0 0 0 (s_pi Q h0 n0 u0) := by
  refine CT.intro [some (.int p1), some (.int p2)] pn_RX1 rfl (Nat.le_of_ble_eq_true rfl) ?_
  intro p e s m args below meth c C hz hu
  have hs : s.heap.size = n0 ∧ slT s.heap = u0 := ⟨hz, hu⟩
  unfold wp_X1_hoursFor at hw
  refine a_iload_0 (pc := 0) C dX1_hoursFor_0 ?_
  refine a_if_gt (pc := 1) C 8 dX1_hoursFor_1 (by decide) (fun c1 => ?_) (fun c1 => ?_)
  · have hw := hw.1 c1
    refine a_iload_0 (pc := 8) C dX1_hoursFor_8 ?_
    refine a_iload_1 (pc := 9) C dX1_hoursFor_9 ?_
    refine a_iadd (pc := 10) C dX1_hoursFor_10 ?_
    refine a_iconst (pc := 11) C dX1_hoursFor_11 ic_1 ?_
    refine a_isub (pc := 12) C dX1_hoursFor_12 ?_
    refine a_iload_1 (pc := 13) C dX1_hoursFor_13 ?_
    refine a_idiv (pc := 14) C dX1_hoursFor_14 hw.1 ?_
    have hw := hw.2
    exact a_iret C dX1_hoursFor_15 (fun h n u hV => ⟨⟨_, rfl, hw, hV⟩, s_end hs hV⟩)
  · have hw := hw.2 c1
    refine a_iconst (pc := 4) C dX1_hoursFor_4 ic_0 ?_
    refine a_goto (pc := 5) C 15 dX1_hoursFor_5 (by decide) ?_
    exact a_iret C dX1_hoursFor_15 (fun h n u hV => ⟨⟨_, rfl, hw, hV⟩, s_end hs hV⟩)
