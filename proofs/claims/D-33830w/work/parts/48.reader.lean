set_option maxRecDepth 100000
/-! WALKS IN THE WIDE WORLD: by program -/
theorem pn_RJ7 : plainName RJ7 = true := by decide
theorem pn_RJ8 : plainName RJ8 = true := by decide
theorem pn_RX10 : plainName RX10 = true := by decide
def wp_J7_init_3 (a : Nat) (p1 : Option Nat) (p2 : Option Nat) (p3 : Int32) (p4 : Int32) (σ : OS) (Q : OS → Prop) : Prop := (∃ fs2 : List Value, σ.1 a = some (.inr (8, fs2)) ∧ 0 < fs2.length ∧ ∀ σ1 : OS, σ1 = (oPut σ a (.inr (8, fs2.set 0 (.ref a)))) → (∀ b3 : Option Nat, (∃ fs5 : List Value, σ1.1 a = some (.inr (8, fs5)) ∧ 1 < fs5.length ∧ ∀ σ4 : OS, σ4 = (oPut σ1 a (.inr (8, fs5.set 1 (va_rf b3)))) → (∀ b6 : Option Nat, (∃ fs8 : List Value, σ4.1 a = some (.inr (8, fs8)) ∧ 2 < fs8.length ∧ ∀ σ7 : OS, σ7 = (oPut σ4 a (.inr (8, fs8.set 2 (va_rf b6)))) → (((p4 = 0) → (∃ fs11 : List Value, σ7.1 a = some (.inr (8, fs11)) ∧ 1 < fs11.length ∧ ∀ σ10 : OS, σ10 = (oPut σ7 a (.inr (8, fs11.set 1 (.null)))) → (∃ fs13 : List Value, σ10.1 a = some (.inr (8, fs13)) ∧ 3 < fs13.length ∧ ∀ σ12 : OS, σ12 = (oPut σ10 a (.inr (8, fs13.set 3 (va_rf p1)))) → (∃ fs15 : List Value, σ12.1 a = some (.inr (8, fs15)) ∧ 0 < fs15.length ∧ ∀ σ14 : OS, σ14 = (oPut σ12 a (.inr (8, fs15.set 0 (va_rf p2)))) → (((¬ p3 = 0) → (Q σ14)) ∧ ((p3 = 0) → (∃ fs18 : List Value, σ14.1 a = some (.inr (8, fs18)) ∧ 2 < fs18.length ∧ ∀ σ17 : OS, σ17 = (oPut σ14 a (.inr (8, fs18.set 2 (.null)))) → (Q σ17)))))))) ∧ ((¬ p4 = 0) → False)))))))
theorem sg_J7_init_3 : aSig yJ7_init_3 4 := by decide +kernel
set_option maxHeartbeats 4000000 in
theorem ct_J7_init_3 (l : Launch) (G : aG) (a : Nat) (p1 : Option Nat) (p2 : Option Nat) (p3 : Int32) (p4 : Int32) (E : Nat → Prop) (σ : OS) (Q : OS → Prop) (hw : wp_J7_init_3 a p1 p2 p3 p4 σ Q) (h0 : AH) (n0 u0 : Nat) (hB : OB h0 n0 E σ) : CT l yJ7_init_3 (ws_ yJ7_init_3 cJ7_init_3 5 none) 2 G [.ref a, va_rf p1, va_rf p2, .int p3, .int p4] h0 n0 u0 σ.2.2.1 (10 * σ.2.2.1) (o_pv Q h0 n0 u0 E σ.2.2.1) := by
  refine CT.intro [some (.ref a), some (va_rf p1), some (va_rf p2), some (.int p3), some (.int p4)] pn_RJ7 (by cases p1 <;> cases p2 <;> rfl) (by cases p1 <;> cases p2 <;> exact Nat.le_of_ble_eq_true rfl) ?_
  intro p e s m args below meth c C hz hu
  have hs : s.heap.size = n0 ∧ slT s.heap = u0 := ⟨hz, hu⟩
  refine a_world (V1 := OW h0 n0 u0 E σ.2.2.1 σ) (OW.start hB) ?_
  unfold wp_J7_init_3 at hw
  refine a_aload_0 (pc := 0) C dJ7_init_3_0 ?_
  refine a_objInit (pc := 1) C q538 q107 q108 (by decide) (Nat.le_of_ble_eq_true rfl) dJ7_init_3_1 ?_
  refine a_aload_0 (pc := 4) C dJ7_init_3_4 ?_
  refine a_aload_0 (pc := 5) C dJ7_init_3_5 ?_
  obtain ⟨fs2, ffs2, kfs2, hw⟩ := hw
  refine a_putf (pc := 6) C (ref := "java/lang/Throwable") (V1 := OW h0 n0 u0 E σ.2.2.1 (oPut σ a (.inr (8, fs2.set 0 (.ref a))))) in_X10 tyX10 tyX10_ok nmX10 (ci := 8) rfl 0 (by decide) q577 rfl rfl rfl rfl (fun h n u hV => o_put (by decide) ffs2 kfs2 hV) dJ7_init_3_6 (o_top (fun σ1 eσ1 => ?_))
  have hw := hw σ1 eσ1
  refine a_aload_0 (pc := 9) C dJ7_init_3_9 ?_
  refine a_getsQ (pc := 10) C C.SC.2.1.1 q539 rfl dJ7_init_3_10 (fun b3 => ?_)
  have hw := hw b3
  obtain ⟨fs5, ffs5, kfs5, hw⟩ := hw
  refine a_putf (pc := 13) C (ref := "java/lang/Throwable") (V1 := OW h0 n0 u0 E σ.2.2.1 (oPut σ1 a (.inr (8, fs5.set 1 (va_rf b3))))) in_X10 tyX10 tyX10_ok nmX10 (ci := 8) rfl 1 (by decide) q578 rfl rfl (by cases b3 <;> rfl) (by cases b3 <;> rfl) (fun h n u hV => o_put (by decide) ffs5 kfs5 hV) dJ7_init_3_13 (o_top (fun σ4 eσ4 => ?_))
  have hw := hw σ4 eσ4
  refine a_aload_0 (pc := 16) C dJ7_init_3_16 ?_
  refine a_getsQ (pc := 17) C C.SC.2.2.1.1 q541 rfl dJ7_init_3_17 (fun b6 => ?_)
  have hw := hw b6
  obtain ⟨fs8, ffs8, kfs8, hw⟩ := hw
  refine a_putf (pc := 20) C (ref := "java/lang/Throwable") (V1 := OW h0 n0 u0 E σ.2.2.1 (oPut σ4 a (.inr (8, fs8.set 2 (va_rf b6))))) in_X10 tyX10 tyX10_ok nmX10 (ci := 8) rfl 2 (by decide) q579 rfl rfl (by cases b6 <;> rfl) (by cases b6 <;> rfl) (fun h n u hV => o_put (by decide) ffs8 kfs8 hV) dJ7_init_3_20 (o_top (fun σ7 eσ7 => ?_))
  have hw := hw σ7 eσ7
  refine a_iload_4 (pc := 23) C dJ7_init_3_23 ?_
  refine a_if_eq (pc := 25) C 36 dJ7_init_3_25 (by decide) (fun c9 => ?_) (fun c9 => ?_)
  · have hw := hw.1 c9
    refine a_aload_0 (pc := 36) C dJ7_init_3_36 ?_
    refine a_null (pc := 37) C dJ7_init_3_37 ?_
    obtain ⟨fs11, ffs11, kfs11, hw⟩ := hw
    refine a_putf (pc := 38) C (ref := "java/lang/Throwable") (V1 := OW h0 n0 u0 E σ.2.2.1 (oPut σ7 a (.inr (8, fs11.set 1 (.null))))) in_X10 tyX10 tyX10_ok nmX10 (ci := 8) rfl 1 (by decide) q578 rfl rfl rfl rfl (fun h n u hV => o_put (by decide) ffs11 kfs11 hV) dJ7_init_3_38 (o_top (fun σ10 eσ10 => ?_))
    have hw := hw σ10 eσ10
    refine a_aload_0 (pc := 41) C dJ7_init_3_41 ?_
    refine a_aloadq_1 (pc := 42) C dJ7_init_3_42 ?_
    obtain ⟨fs13, ffs13, kfs13, hw⟩ := hw
    refine a_putf (pc := 43) C (ref := "java/lang/Throwable") (V1 := OW h0 n0 u0 E σ.2.2.1 (oPut σ10 a (.inr (8, fs13.set 3 (va_rf p1))))) in_X10 tyX10 tyX10_ok nmX10 (ci := 8) rfl 3 (by decide) q576 rfl rfl (by cases p1 <;> rfl) (by cases p1 <;> rfl) (fun h n u hV => o_put (by decide) ffs13 kfs13 hV) dJ7_init_3_43 (o_top (fun σ12 eσ12 => ?_))
    have hw := hw σ12 eσ12
    refine a_aload_0 (pc := 46) C dJ7_init_3_46 ?_
    refine a_aloadq_2 (pc := 47) C dJ7_init_3_47 ?_
    obtain ⟨fs15, ffs15, kfs15, hw⟩ := hw
    refine a_putf (pc := 48) C (ref := "java/lang/Throwable") (V1 := OW h0 n0 u0 E σ.2.2.1 (oPut σ12 a (.inr (8, fs15.set 0 (va_rf p2))))) in_X10 tyX10 tyX10_ok nmX10 (ci := 8) rfl 0 (by decide) q577 rfl rfl (by cases p2 <;> rfl) (by cases p2 <;> rfl) (fun h n u hV => o_put (by decide) ffs15 kfs15 hV) dJ7_init_3_48 (o_top (fun σ14 eσ14 => ?_))
    have hw := hw σ14 eσ14
    refine a_iload_3 (pc := 51) C dJ7_init_3_51 ?_
    refine a_if_ne (pc := 52) C 60 dJ7_init_3_52 (by decide) (fun c16 => ?_) (fun c16 => ?_)
    · have hw := hw.1 c16
      exact a_vret C dJ7_init_3_60 (fun h n u hV => ⟨⟨_, rfl, hw, hV⟩, o_end hs hV⟩)
    · have hw := hw.2 c16
      refine a_aload_0 (pc := 55) C dJ7_init_3_55 ?_
      refine a_null (pc := 56) C dJ7_init_3_56 ?_
      obtain ⟨fs18, ffs18, kfs18, hw⟩ := hw
      refine a_putf (pc := 57) C (ref := "java/lang/Throwable") (V1 := OW h0 n0 u0 E σ.2.2.1 (oPut σ14 a (.inr (8, fs18.set 2 (.null))))) in_X10 tyX10 tyX10_ok nmX10 (ci := 8) rfl 2 (by decide) q579 rfl rfl rfl rfl (fun h n u hV => o_put (by decide) ffs18 kfs18 hV) dJ7_init_3_57 (o_top (fun σ17 eσ17 => ?_))
      have hw := hw σ17 eσ17
      exact a_vret C dJ7_init_3_60 (fun h n u hV => ⟨⟨_, rfl, hw, hV⟩, o_end hs hV⟩)
  · have hw := hw.2 c9
    exact False.elim hw
def wp_J8_init_2 (a : Nat) (p1 : Option Nat) (p2 : Option Nat) (p3 : Int32) (p4 : Int32) (σ : OS) (Q : OS → Prop) : Prop := wp_J7_init_3 a p1 p2 p3 p4 σ (fun σ1 => (Q σ1))
theorem sg_J8_init_2 : aSig yJ8_init_2 4 := by decide +kernel
set_option maxHeartbeats 4000000 in
theorem ct_J8_init_2 (l : Launch) (G : aG) (a : Nat) (p1 : Option Nat) (p2 : Option Nat) (p3 : Int32) (p4 : Int32) (E : Nat → Prop) (σ : OS) (Q : OS → Prop) (hw : wp_J8_init_2 a p1 p2 p3 p4 σ Q) (h0 : AH) (n0 u0 : Nat) (hB : OB h0 n0 E σ) : CT l yJ8_init_2 (ws_ yJ8_init_2 cJ8_init_2 5 none) 3 G [.ref a, va_rf p1, va_rf p2, .int p3, .int p4] h0 n0 u0 σ.2.2.1 (10 * σ.2.2.1) (o_pv Q h0 n0 u0 E σ.2.2.1) := by
  refine CT.intro [some (.ref a), some (va_rf p1), some (va_rf p2), some (.int p3), some (.int p4)] pn_RJ8 (by cases p1 <;> cases p2 <;> rfl) (by cases p1 <;> cases p2 <;> exact Nat.le_of_ble_eq_true rfl) ?_
  intro p e s m args below meth c C hz hu
  have hs : s.heap.size = n0 ∧ slT s.heap = u0 := ⟨hz, hu⟩
  refine a_world (V1 := OW h0 n0 u0 E σ.2.2.1 σ) (OW.start hB) ?_
  unfold wp_J8_init_2 at hw
  refine a_aload_0 (pc := 0) C dJ8_init_2_0 ?_
  refine a_aloadq_1 (pc := 1) C dJ8_init_2_1 ?_
  refine a_aloadq_2 (pc := 2) C dJ8_init_2_2 ?_
  refine a_iload_3 (pc := 3) C dJ8_init_2_3 ?_
  refine a_iload_4 (pc := 4) C dJ8_init_2_4 ?_
  refine o_callIv (pc := 6) C hs [va_rf p1, va_rf p2, .int p3, .int p4] (b := a) (st := []) (fun h n u hB => ct_J7_init_3 l G a _ _ _ _ E _ _ hw h n u hB) (by decide) (by decide) q78 q873 q874 rfl (lw_meth q875) sg_J7_init_3 (Nat.le_of_ble_eq_true rfl) dJ8_init_2_6 (fun σ1 hw => ?_)
  exact a_vret C dJ8_init_2_9 (fun h n u hV => ⟨⟨_, rfl, hw, hV⟩, o_end hs hV⟩)
def wp_X10_init (a : Nat) (σ : OS) (Q : OS → Prop) : Prop := wp_J8_init_2 a none none 0 0 σ (fun σ1 => (Q σ1))
theorem sg_X10_init : aSig yX10_init 0 := by decide +kernel
set_option maxHeartbeats 4000000 in
theorem ct_X10_init (l : Launch) (G : aG) (a : Nat) (E : Nat → Prop) (σ : OS) (Q : OS → Prop) (hw : wp_X10_init a σ Q) (h0 : AH) (n0 u0 : Nat) (hB : OB h0 n0 E σ) : CT l yX10_init (ws_ yX10_init cX10_init 1 none) 4 G [.ref a] h0 n0 u0 σ.2.2.1 (10 * σ.2.2.1) (o_pv Q h0 n0 u0 E σ.2.2.1) := by
  refine CT.intro [some (.ref a)] pn_RX10 rfl (Nat.le_of_ble_eq_true rfl) ?_
  intro p e s m args below meth c C hz hu
  have hs : s.heap.size = n0 ∧ slT s.heap = u0 := ⟨hz, hu⟩
  refine a_world (V1 := OW h0 n0 u0 E σ.2.2.1 σ) (OW.start hB) ?_
  unfold wp_X10_init at hw
  refine a_aload_0 (pc := 0) C dX10_init_0 ?_
  refine a_null (pc := 1) C dX10_init_1 ?_
  refine a_null (pc := 2) C dX10_init_2 ?_
  refine a_iconst (pc := 3) C dX10_init_3 ic_0 ?_
  refine a_iconst (pc := 4) C dX10_init_4 ic_0 ?_
  refine o_callIv (pc := 5) C hs [.null, .null, .int 0, .int 0] (b := a) (st := []) (fun h n u hB => ct_J8_init_2 l G a _ _ _ _ E _ _ hw h n u hB) (by decide) (by decide) q79 q870 q871 rfl (lw_meth q872) sg_J8_init_2 (Nat.le_of_ble_eq_true rfl) dX10_init_5 (fun σ1 hw => ?_)
  exact a_vret C dX10_init_8 (fun h n u hV => ⟨⟨_, rfl, hw, hV⟩, o_end hs hV⟩)
def wp_X8_isNext (a : Nat) (p1 : Int32) (p2 : Int32) (σ : OS) (Q : Int32 → OS → Prop) : Prop := (∃ x1 : Int32, oF σ a 6 0 (.int x1) ∧ (∃ r2 : Nat, oF σ a 6 2 (.ref r2) ∧ (∃ r3 : Nat, oF σ r2 0 3 (.ref r3) ∧ (oC σ r3 10 ∧ wp_J4_length r3 σ (fun v5 σ4 => (((v5 ≤ x1) → (Q 0 σ4)) ∧ ((¬ v5 ≤ x1) → (∃ r7 : Nat, oF σ4 a 6 2 (.ref r7) ∧ (∃ r8 : Nat, oF σ4 r7 0 3 (.ref r8) ∧ (∃ x9 : Int32, oF σ4 a 6 0 (.int x9) ∧ (oC σ4 r8 10 ∧ wp_J4_charAt r8 x9 σ4 (fun v11 σ10 => (wp_X1_isWithin v11 p1 p2 (fun v12 => (((v12 = 0) → (Q 0 σ10)) ∧ ((¬ v12 = 0) → (Q 1 σ10)))))))))))))))))
theorem sg_X8_isNext : aSig yX8_isNext 2 := by decide +kernel
set_option maxHeartbeats 4000000 in
theorem ct_X8_isNext (l : Launch) (G : aG) (a : Nat) (p1 : Int32) (p2 : Int32) (E : Nat → Prop) (σ : OS) (Q : Int32 → OS → Prop) (hw : wp_X8_isNext a p1 p2 σ Q) (h0 : AH) (n0 u0 : Nat) (hB : OB h0 n0 E σ) : CT l yX8_isNext (ws_ yX8_isNext cX8_isNext 3 (some .boolean)) 5 G [.ref a, .int p1, .int p2] h0 n0 u0 σ.2.2.1 (10 * σ.2.2.1) (o_pi Q h0 n0 u0 E σ.2.2.1) := by
  refine CT.intro [some (.ref a), some (.int p1), some (.int p2)] pn_RX8 rfl (Nat.le_of_ble_eq_true rfl) ?_
  intro p e s m args below meth c C hz hu
  have hs : s.heap.size = n0 ∧ slT s.heap = u0 := ⟨hz, hu⟩
  refine a_world (V1 := OW h0 n0 u0 E σ.2.2.1 σ) (OW.start hB) ?_
  unfold wp_X8_isNext at hw
  refine a_aload_0 (pc := 0) C dX8_isNext_0 ?_
  obtain ⟨x1, fx1, hw⟩ := hw
  refine a_getf (pc := 1) C (ref := "MaltDrums$Reader") in_X8 (ci := 6) rfl 0 (by decide) q675 rfl (fun h n u hV => o_fld fx1 hV) dX8_isNext_1 ?_
  refine a_aload_0 (pc := 4) C dX8_isNext_4 ?_
  obtain ⟨r2, fr2, hw⟩ := hw
  refine a_getf (pc := 5) C (ref := "MaltDrums$Reader") in_X8 (ci := 6) rfl 2 (by decide) q678 rfl (fun h n u hV => o_fld fr2 hV) dX8_isNext_5 ?_
  obtain ⟨r3, fr3, hw⟩ := hw
  refine a_getfN (pc := 8) C (ref := "MaltDrums") in_X1 (ci := 0) rfl 3 (by decide) q302 rfl (fun h n u hV => o_fld fr3 hV) dX8_isNext_8 ?_
  refine o_callVi (pc := 11) C hs [] (b := r3) (ci := 10) (st := [.int x1]) (fun h n u hB => ct_J4_length l G r3 E _ _ hw.2 h n u hB) (by decide) (by decide) rfl hw.1 q74 q717 q318 q319 (lw_meth q320) sg_J4_length (Nat.le_of_ble_eq_true rfl) dX8_isNext_11 (fun v5 σ4 hw => ?_)
  refine a_icmp_ge (pc := 14) C 43 dX8_isNext_14 (by decide) (fun c6 => ?_) (fun c6 => ?_)
  · have hw := hw.1 c6
    refine a_iconst (pc := 43) C dX8_isNext_43 ic_0 ?_
    exact a_zret rfl C dX8_isNext_44 (fun h n u hV => ⟨⟨(_, _), rfl, hw, hV⟩, o_end hs hV⟩)
  · have hw := hw.2 c6
    refine a_aload_0 (pc := 17) C dX8_isNext_17 ?_
    obtain ⟨r7, fr7, hw⟩ := hw
    refine a_getf (pc := 18) C (ref := "MaltDrums$Reader") in_X8 (ci := 6) rfl 2 (by decide) q678 rfl (fun h n u hV => o_fld fr7 hV) dX8_isNext_18 ?_
    obtain ⟨r8, fr8, hw⟩ := hw
    refine a_getfN (pc := 21) C (ref := "MaltDrums") in_X1 (ci := 0) rfl 3 (by decide) q302 rfl (fun h n u hV => o_fld fr8 hV) dX8_isNext_21 ?_
    refine a_aload_0 (pc := 24) C dX8_isNext_24 ?_
    obtain ⟨x9, fx9, hw⟩ := hw
    refine a_getf (pc := 25) C (ref := "MaltDrums$Reader") in_X8 (ci := 6) rfl 0 (by decide) q675 rfl (fun h n u hV => o_fld fx9 hV) dX8_isNext_25 ?_
    refine o_callVi (pc := 28) C hs [.int x9] (b := r8) (ci := 10) (st := []) (fun h n u hB => ct_J4_charAt l G r8 _ E _ _ hw.2 h n u hB) (by decide) (by decide) rfl hw.1 q74 q840 q841 q842 (lw_meth q843) sg_J4_charAt (Nat.le_of_ble_eq_true rfl) dX8_isNext_28 (fun v11 σ10 hw => ?_)
    refine a_iload_1 (pc := 31) C dX8_isNext_31 ?_
    refine a_iload_2 (pc := 32) C dX8_isNext_32 ?_
    refine o_callSNp (pc := 33) C hs [.int v11, .int p1, .int p2] (st := []) (fun h n u => ct_X1_isWithin l G _ _ _ _ hw h n u) (by decide) (by decide) q855 q856 q65 (lw_meth q857) sg_X1_isWithin (Nat.le_of_ble_eq_true rfl) dX8_isNext_33 (fun v12 hw => ?_)
    refine a_if_eq (pc := 36) C 43 dX8_isNext_36 (by decide) (fun c13 => ?_) (fun c13 => ?_)
    · have hw := hw.1 c13
      refine a_iconst (pc := 43) C dX8_isNext_43 ic_0 ?_
      exact a_zret rfl C dX8_isNext_44 (fun h n u hV => ⟨⟨(_, _), rfl, hw, hV⟩, o_end hs hV⟩)
    · have hw := hw.2 c13
      refine a_iconst (pc := 39) C dX8_isNext_39 ic_1 ?_
      refine a_goto (pc := 40) C 44 dX8_isNext_40 (by decide) ?_
      exact a_zret rfl C dX8_isNext_44 (fun h n u hV => ⟨⟨(_, _), rfl, hw, hV⟩, o_end hs hV⟩)
def wp_X8_sign (a : Nat) (p1 : Int32) (p2 : Int32) (σ : OS) (Q : Int32 → OS → Prop) (X : Nat → OS → Prop) : Prop := (oC σ a 6 ∧ wp_X8_isNext a p1 p2 σ (fun v2 σ1 => (((¬ v2 = 0) → (∃ x4 : Int32, oF σ1 a 6 0 (.int x4) ∧ (∃ fs6 : List Value, σ1.1 a = some (.inr (6, fs6)) ∧ 0 < fs6.length ∧ ∀ σ5 : OS, σ5 = (oPut σ1 a (.inr (6, fs6.set 0 (.int (x4 + 1))))) → (∃ r7 : Nat, oF σ5 a 6 2 (.ref r7) ∧ (∃ r8 : Nat, oF σ5 r7 0 3 (.ref r8) ∧ (∃ x9 : Int32, oF σ5 a 6 0 (.int x9) ∧ (oC σ5 r8 10 ∧ wp_J4_charAt r8 (x9 - 1) σ5 (fun v11 σ10 => (narrow .char (.int v11) = .int v11 ∧ (Q v11 σ10)))))))))) ∧ ((v2 = 0) → (1 ≤ σ1.2.2.1 ∧ ∀ q12 : Nat, oFr σ1 q12 → (σ1.2.2.2.1 ≠ 0 → q12 = σ1.2.2.2.1) → ∀ σ13 : OS, σ13 = oNew σ1 q12 1 (.inr (8, [.null, .null, .null, .null, .null, .int 0])) → wp_X10_init q12 σ13 (fun σ14 => (oC σ14 q12 8 ∧ X 3 (oXs σ14 0))))))))
theorem sg_X8_sign : aSig yX8_sign 2 := by decide +kernel
set_option maxHeartbeats 4000000 in
theorem ct_X8_sign (l : Launch) (G : aG) (a : Nat) (p1 : Int32) (p2 : Int32) (E : Nat → Prop) (σ : OS) (Q : Int32 → OS → Prop) (X : Nat → OS → Prop) (hw : wp_X8_sign a p1 p2 σ Q X) (h0 : AH) (n0 u0 : Nat) (hB : OB h0 n0 E σ) : CTX l yX8_sign (ws_ yX8_sign cX8_sign 3 (some .char)) 6 G [.ref a, .int p1, .int p2] h0 n0 u0 σ.2.2.1 (10 * σ.2.2.1) (o_pi Q h0 n0 u0 E σ.2.2.1) (o_px X h0 E) := by
  refine CTX.intro [some (.ref a), some (.int p1), some (.int p2)] pn_RX8 rfl (Nat.le_of_ble_eq_true rfl) ?_
  intro p e s m args below meth c C hz hu ht
  have hs : s.heap.size = n0 ∧ slT s.heap = u0 := ⟨hz, hu⟩
  refine a_world (V1 := OW h0 n0 u0 E σ.2.2.1 σ) (OW.start hB) ?_
  unfold wp_X8_sign at hw
  refine a_aload_0 (pc := 0) C dX8_sign_0 ?_
  refine a_iload_1 (pc := 1) C dX8_sign_1 ?_
  refine a_iload_2 (pc := 2) C dX8_sign_2 ?_
  refine o_callVi (pc := 3) C hs [.int p1, .int p2] (b := a) (ci := 6) (st := []) (fun h n u hB => ct_X8_isNext l G a _ _ E _ _ hw.2 h n u hB) (by decide) (by decide) rfl hw.1 q95 q836 q838 qs4 (lw_meth q839) sg_X8_isNext (Nat.le_of_ble_eq_true rfl) dX8_sign_3 (fun v2 σ1 hw => ?_)
  refine a_if_ne (pc := 6) C 17 dX8_sign_6 (by decide) (fun c3 => ?_) (fun c3 => ?_)
  · have hw := hw.1 c3
    refine a_aload_0 (pc := 17) C dX8_sign_17 ?_
    refine a_dup (pc := 18) C dX8_sign_18 rfl ?_
    obtain ⟨x4, fx4, hw⟩ := hw
    refine a_getf (pc := 19) C (ref := "MaltDrums$Reader") in_X8 (ci := 6) rfl 0 (by decide) q675 rfl (fun h n u hV => o_fld fx4 hV) dX8_sign_19 ?_
    refine a_iconst (pc := 22) C dX8_sign_22 ic_1 ?_
    refine a_iadd (pc := 23) C dX8_sign_23 ?_
    obtain ⟨fs6, ffs6, kfs6, hw⟩ := hw
    refine a_putf (pc := 24) C (ref := "MaltDrums$Reader") (V1 := OW h0 n0 u0 E σ.2.2.1 (oPut σ1 a (.inr (6, fs6.set 0 (.int (x4 + 1)))))) in_X8 tyX8 tyX8_ok nmX8 (ci := 6) rfl 0 (by decide) q675 rfl rfl rfl rfl (fun h n u hV => o_put (by decide) ffs6 kfs6 hV) dX8_sign_24 (o_top (fun σ5 eσ5 => ?_))
    have hw := hw σ5 eσ5
    refine a_aload_0 (pc := 27) C dX8_sign_27 ?_
    obtain ⟨r7, fr7, hw⟩ := hw
    refine a_getf (pc := 28) C (ref := "MaltDrums$Reader") in_X8 (ci := 6) rfl 2 (by decide) q678 rfl (fun h n u hV => o_fld fr7 hV) dX8_sign_28 ?_
    obtain ⟨r8, fr8, hw⟩ := hw
    refine a_getfN (pc := 31) C (ref := "MaltDrums") in_X1 (ci := 0) rfl 3 (by decide) q302 rfl (fun h n u hV => o_fld fr8 hV) dX8_sign_31 ?_
    refine a_aload_0 (pc := 34) C dX8_sign_34 ?_
    obtain ⟨x9, fx9, hw⟩ := hw
    refine a_getf (pc := 35) C (ref := "MaltDrums$Reader") in_X8 (ci := 6) rfl 0 (by decide) q675 rfl (fun h n u hV => o_fld fx9 hV) dX8_sign_35 ?_
    refine a_iconst (pc := 38) C dX8_sign_38 ic_1 ?_
    refine a_isub (pc := 39) C dX8_sign_39 ?_
    refine o_callVi (pc := 40) C hs [.int (x9 - 1)] (b := r8) (ci := 10) (st := []) (fun h n u hB => ct_J4_charAt l G r8 _ E _ _ hw.2 h n u hB) (by decide) (by decide) rfl hw.1 q74 q840 q841 q842 (lw_meth q843) sg_J4_charAt (Nat.le_of_ble_eq_true rfl) dX8_sign_40 (fun v11 σ10 hw => ?_)
    have hz := hw.1
    have hw := hw.2
    exact a_xret (a_zret hz C dX8_sign_43 (fun h n u hV => ⟨⟨(_, _), rfl, hw, hV⟩, o_end hs hV⟩))
  · have hw := hw.2 c3
    refine o_newC (pc := 9) C hs 1 in_X10 tyX10 tyX10_ok q858 q859 q99 (ci := 8) (fs := [.null, .null, .null, .null, .null, .int 0]) rfl (by decide) (fun f z => by cases z) (by decide) (by decide) hw.1 dX8_sign_9 (fun q12 frq12 nxq12 σ13 eσ13 => ?_)
    have hw := hw.2 q12 frq12 nxq12 σ13 eσ13
    refine a_dup (pc := 12) C dX8_sign_12 rfl ?_
    refine o_callIv (pc := 13) C hs [] (b := q12) (st := [.ref q12]) (fun h n u hB => ct_X10_init l G q12 E _ _ hw h n u hB) (by decide) (by decide) q99 q867 q868 rfl (lw_meth q869) sg_X10_init (Nat.le_of_ble_eq_true rfl) dX8_sign_13 (fun σ14 hw => ?_)
    exact a_athrow (pc := 16) C (fun h n u hV => o_cls hw.1 hV) dX8_sign_16 (ax_out C (fun x hx => (ht x hx).elim) (fun h n u hV => ⟨⟨3, _, rfl, hw.2, hV.1.same rfl rfl rfl, hV.2.2.2.2.2.1⟩, o_end hs hV⟩))
def wp_X8_number_L11 (kx5 : Int32 → OS → Prop) (a : Nat) (p2 : Int32) (X : Nat → OS → Prop) : Nat → Int32 → OS → Prop
  | 0, _, _ => False
  | F + 1, x3, σ4 => (((x3 ≤ 0) → (kx5 x3 σ4)) ∧ ((¬ x3 ≤ 0) → (oC σ4 a 6 ∧ wp_X8_isNext a 48 57 σ4 (fun v10 σ9 => (((v10 = 0) → (kx5 x3 σ9)) ∧ ((¬ v10 = 0) → (∃ r12 : Nat, oF σ9 a 6 2 (.ref r12) ∧ (∃ r13 : Nat, oF σ9 r12 0 3 (.ref r13) ∧ (∃ x14 : Int32, oF σ9 a 6 0 (.int x14) ∧ (oC σ9 r13 10 ∧ wp_J4_charAt r13 x14 σ9 (fun v16 σ15 => (((p2 < (((10 * x3) + v16) - 48)) → (kx5 x3 σ15)) ∧ ((¬ p2 < (((10 * x3) + v16) - 48)) → (oC σ15 a 6 ∧ wp_X8_sign a 48 57 σ15 (fun v19 σ18 => (∀ x20 : Int32, x20 = ((10 * x3) + v19) - 48 → (wp_X8_number_L11 kx5 a p2 X F x20 σ18))) X))))))))))))))
def wp_X8_number (a : Nat) (p1 : Int32) (p2 : Int32) (σ : OS) (Q : Int32 → OS → Prop) (X : Nat → OS → Prop) : Prop := (oC σ a 6 ∧ wp_X8_sign a p1 57 σ (fun v2 σ1 => (jn (fun (x6 : Int32) (σ7 : OS) => (Q x6 σ7)) (fun kx5 => wp_X8_number_L11 kx5 a p2 X mF (v2 - 48) σ1))) X)
theorem sg_X8_number : aSig yX8_number 2 := by decide +kernel
set_option maxHeartbeats 4000000 in
theorem ct_X8_number (l : Launch) (G : aG) (a : Nat) (p1 : Int32) (p2 : Int32) (E : Nat → Prop) (σ : OS) (Q : Int32 → OS → Prop) (X : Nat → OS → Prop) (hw : wp_X8_number a p1 p2 σ Q X) (h0 : AH) (n0 u0 : Nat) (hB : OB h0 n0 E σ) : CTX l yX8_number (ws_ yX8_number cX8_number 4 (some .int)) 7 G [.ref a, .int p1, .int p2] h0 n0 u0 σ.2.2.1 (10 * σ.2.2.1) (o_pi Q h0 n0 u0 E σ.2.2.1) (o_px X h0 E) := by
  refine CTX.intro [some (.ref a), some (.int p1), some (.int p2), none] pn_RX8 rfl (Nat.le_of_ble_eq_true rfl) ?_
  intro p e s m args below meth c C hz hu ht
  have hs : s.heap.size = n0 ∧ slT s.heap = u0 := ⟨hz, hu⟩
  refine a_world (V1 := OW h0 n0 u0 E σ.2.2.1 σ) (OW.start hB) ?_
  unfold wp_X8_number at hw
  refine a_aload_0 (pc := 0) C dX8_number_0 ?_
  refine a_iload_1 (pc := 1) C dX8_number_1 ?_
  refine a_bipush (pc := 2) C dX8_number_2 bc_57 ?_
  refine o_callXVi (pc := 4) C hs [.int p1, .int 57] (b := a) (ci := 6) (st := []) (fun h n u hB => ct_X8_sign l G a _ _ E _ _ _ hw.2 h n u hB) (by decide) (by decide) rfl hw.1 q95 q832 q834 qs3 (lw_meth q835) sg_X8_sign (Nat.le_of_ble_eq_true rfl) dX8_number_4 (fun v2 σ1 hw => ?_) (fun k9 σx hx => ?_)
  · refine a_bipush (pc := 7) C dX8_number_7 bc_48 ?_
    refine a_isub (pc := 9) C dX8_number_9 ?_
    refine a_istore_3 (pc := 10) C dX8_number_10 (by decide) rfl ?_
    refine jn_use hw (fun kx5 ekx5 hw => ?_)
    have hkx5 : ∀ (x6 : Int32) (σ7 : OS), kx5 x6 σ7 → AW G p l e (aRm 7 σ.2.2.1 (10 * σ.2.2.1)) s m args below meth c (a_A h0 n0) 4 (vx_MQ below (a_Qc G (o_pi Q h0 n0 u0 E σ.2.2.1) (a_A h0 n0)) (a_XC G (o_px X h0 E) (a_A h0 n0)) args s σ.2.2.1 (10 * σ.2.2.1) (a_A h0 n0)) (OW h0 n0 u0 E σ.2.2.1 σ7) 72 [some (.ref a), some (.int p1), some (.int p2), some (.int x6)] [] := by
      intro x6 σ7 hw
      rw [ekx5] at hw
      refine a_iload_3 (pc := 72) C dX8_number_72 ?_
      exact a_xret (a_iret C dX8_number_73 (fun h n u hV => ⟨⟨(_, _), rfl, hw, hV⟩, o_end hs hV⟩))
    have lp11 : ∀ (F : Nat) (x3 : Int32) (σ4 : OS), wp_X8_number_L11 kx5 a p2 X F x3 σ4 → AW G p l e (aRm 7 σ.2.2.1 (10 * σ.2.2.1)) s m args below meth c (a_A h0 n0) 4 (vx_MQ below (a_Qc G (o_pi Q h0 n0 u0 E σ.2.2.1) (a_A h0 n0)) (a_XC G (o_px X h0 E) (a_A h0 n0)) args s σ.2.2.1 (10 * σ.2.2.1) (a_A h0 n0)) (OW h0 n0 u0 E σ.2.2.1 σ4) 11 [some (.ref a), some (.int p1), some (.int p2), some (.int x3)] [] := by
      intro F
      induction F with
      | zero => intro x3 σ4 hw; exact False.elim hw
      | succ F ih =>
        intro x3 σ4 hw
        rw [wp_X8_number_L11] at hw
        refine a_iload_3 (pc := 11) C dX8_number_11 ?_
        refine a_if_le (pc := 12) C 72 dX8_number_12 (by decide) (fun c8 => ?_) (fun c8 => ?_)
        · have hw := hw.1 c8
          exact hkx5 _ _ hw
        · have hw := hw.2 c8
          refine a_aload_0 (pc := 15) C dX8_number_15 ?_
          refine a_bipush (pc := 16) C dX8_number_16 bc_48 ?_
          refine a_bipush (pc := 18) C dX8_number_18 bc_57 ?_
          refine o_callVi (pc := 20) C hs [.int 48, .int 57] (b := a) (ci := 6) (st := []) (fun h n u hB => ct_X8_isNext l G a _ _ E _ _ hw.2 h n u hB) (by decide) (by decide) rfl hw.1 q95 q836 q838 qs4 (lw_meth q839) sg_X8_isNext (Nat.le_of_ble_eq_true rfl) dX8_number_20 (fun v10 σ9 hw => ?_)
          refine a_if_eq (pc := 23) C 72 dX8_number_23 (by decide) (fun c11 => ?_) (fun c11 => ?_)
          · have hw := hw.1 c11
            exact hkx5 _ _ hw
          · have hw := hw.2 c11
            refine a_bipush (pc := 26) C dX8_number_26 bc_10 ?_
            refine a_iload_3 (pc := 28) C dX8_number_28 ?_
            refine a_imul (pc := 29) C dX8_number_29 ?_
            refine a_aload_0 (pc := 30) C dX8_number_30 ?_
            obtain ⟨r12, fr12, hw⟩ := hw
            refine a_getf (pc := 31) C (ref := "MaltDrums$Reader") in_X8 (ci := 6) rfl 2 (by decide) q678 rfl (fun h n u hV => o_fld fr12 hV) dX8_number_31 ?_
            obtain ⟨r13, fr13, hw⟩ := hw
            refine a_getfN (pc := 34) C (ref := "MaltDrums") in_X1 (ci := 0) rfl 3 (by decide) q302 rfl (fun h n u hV => o_fld fr13 hV) dX8_number_34 ?_
            refine a_aload_0 (pc := 37) C dX8_number_37 ?_
            obtain ⟨x14, fx14, hw⟩ := hw
            refine a_getf (pc := 38) C (ref := "MaltDrums$Reader") in_X8 (ci := 6) rfl 0 (by decide) q675 rfl (fun h n u hV => o_fld fx14 hV) dX8_number_38 ?_
            refine o_callVi (pc := 41) C hs [.int x14] (b := r13) (ci := 10) (st := [.int (10 * x3)]) (fun h n u hB => ct_J4_charAt l G r13 _ E _ _ hw.2 h n u hB) (by decide) (by decide) rfl hw.1 q74 q840 q841 q842 (lw_meth q843) sg_J4_charAt (Nat.le_of_ble_eq_true rfl) dX8_number_41 (fun v16 σ15 hw => ?_)
            refine a_iadd (pc := 44) C dX8_number_44 ?_
            refine a_bipush (pc := 45) C dX8_number_45 bc_48 ?_
            refine a_isub (pc := 47) C dX8_number_47 ?_
            refine a_iload_2 (pc := 48) C dX8_number_48 ?_
            refine a_icmp_gt (pc := 49) C 72 dX8_number_49 (by decide) (fun c17 => ?_) (fun c17 => ?_)
            · have hw := hw.1 c17
              exact hkx5 _ _ hw
            · have hw := hw.2 c17
              refine a_bipush (pc := 52) C dX8_number_52 bc_10 ?_
              refine a_iload_3 (pc := 54) C dX8_number_54 ?_
              refine a_imul (pc := 55) C dX8_number_55 ?_
              refine a_aload_0 (pc := 56) C dX8_number_56 ?_
              refine a_bipush (pc := 57) C dX8_number_57 bc_48 ?_
              refine a_bipush (pc := 59) C dX8_number_59 bc_57 ?_
              refine o_callXVi (pc := 61) C hs [.int 48, .int 57] (b := a) (ci := 6) (st := [.int (10 * x3)]) (fun h n u hB => ct_X8_sign l G a _ _ E _ _ _ hw.2 h n u hB) (by decide) (by decide) rfl hw.1 q95 q832 q834 qs3 (lw_meth q835) sg_X8_sign (Nat.le_of_ble_eq_true rfl) dX8_number_61 (fun v19 σ18 hw => ?_) (fun k9 σx hx => ?_)
              · refine a_iadd (pc := 64) C dX8_number_64 ?_
                refine a_bipush (pc := 65) C dX8_number_65 bc_48 ?_
                refine a_isub (pc := 67) C dX8_number_67 ?_
                refine a_topi (fun x20 ex20 => ?_)
                have hw := hw x20 ex20
                refine a_istore_3 (pc := 68) C dX8_number_68 (by decide) rfl ?_
                refine a_goto (pc := 69) C 11 dX8_number_69 (by decide) ?_
                exact ih _ _ hw
              · exact ax_out C (fun x hx => (ht x hx).elim) (fun h n u hV => ⟨⟨k9, σx, rfl, hx, hV.1.same rfl rfl rfl, hV.2.2.2.2.2.1⟩, o_end hs hV⟩)
    exact lp11 mF _ _ hw
  · exact ax_out C (fun x hx => (ht x hx).elim) (fun h n u hV => ⟨⟨k9, σx, rfl, hx, hV.1.same rfl rfl rfl, hV.2.2.2.2.2.1⟩, o_end hs hV⟩)
def wp_X8_kernels (a : Nat) (σ : OS) (Q : Int32 → OS → Prop) (X : Nat → OS → Prop) : Prop := (oC σ a 6 ∧ wp_X8_sign a 49 57 σ (fun v2 σ1 => (jn (fun (x5 : Int32) => (oC σ1 a 6 ∧ wp_X8_sign a 48 x5 σ1 (fun v7 σ6 => (oC σ6 a 6 ∧ wp_X8_sign a 48 x5 σ6 (fun v9 σ8 => (Q ((((100 * (v2 - 48)) + (10 * (v7 - 48))) + v9) - 48) σ8)) X)) X)) (fun kj4 => (((¬ (v2 - 48) = 9) → (kj4 57)) ∧ (((v2 - 48) = 9) → (kj4 48)))))) X)
theorem sg_X8_kernels : aSig yX8_kernels 0 := by decide +kernel
set_option maxHeartbeats 4000000 in
theorem ct_X8_kernels (l : Launch) (G : aG) (a : Nat) (E : Nat → Prop) (σ : OS) (Q : Int32 → OS → Prop) (X : Nat → OS → Prop) (hw : wp_X8_kernels a σ Q X) (h0 : AH) (n0 u0 : Nat) (hB : OB h0 n0 E σ) : CTX l yX8_kernels (ws_ yX8_kernels cX8_kernels 4 (some .int)) 7 G [.ref a] h0 n0 u0 σ.2.2.1 (10 * σ.2.2.1) (o_pi Q h0 n0 u0 E σ.2.2.1) (o_px X h0 E) := by
  refine CTX.intro [some (.ref a), none, none, none] pn_RX8 rfl (Nat.le_of_ble_eq_true rfl) ?_
  intro p e s m args below meth c C hz hu ht
  have hs : s.heap.size = n0 ∧ slT s.heap = u0 := ⟨hz, hu⟩
  refine a_world (V1 := OW h0 n0 u0 E σ.2.2.1 σ) (OW.start hB) ?_
  unfold wp_X8_kernels at hw
  refine a_aload_0 (pc := 0) C dX8_kernels_0 ?_
  refine a_bipush (pc := 1) C dX8_kernels_1 bc_49 ?_
  refine a_bipush (pc := 3) C dX8_kernels_3 bc_57 ?_
  refine o_callXVi (pc := 5) C hs [.int 49, .int 57] (b := a) (ci := 6) (st := []) (fun h n u hB => ct_X8_sign l G a _ _ E _ _ _ hw.2 h n u hB) (by decide) (by decide) rfl hw.1 q95 q832 q834 qs3 (lw_meth q835) sg_X8_sign (Nat.le_of_ble_eq_true rfl) dX8_kernels_5 (fun v2 σ1 hw => ?_) (fun k9 σx hx => ?_)
  · refine a_bipush (pc := 8) C dX8_kernels_8 bc_48 ?_
    refine a_isub (pc := 10) C dX8_kernels_10 ?_
    refine a_istore_1 (pc := 11) C dX8_kernels_11 (by decide) rfl ?_
    refine a_iload_1 (pc := 12) C dX8_kernels_12 ?_
    refine a_bipush (pc := 13) C dX8_kernels_13 bc_9 ?_
    refine jn_use hw (fun kj4 ekj4 hw => ?_)
    have hkj4 : ∀ (x5 : Int32), kj4 x5 → AW G p l e (aRm 7 σ.2.2.1 (10 * σ.2.2.1)) s m args below meth c (a_A h0 n0) 4 (vx_MQ below (a_Qc G (o_pi Q h0 n0 u0 E σ.2.2.1) (a_A h0 n0)) (a_XC G (o_px X h0 E) (a_A h0 n0)) args s σ.2.2.1 (10 * σ.2.2.1) (a_A h0 n0)) (OW h0 n0 u0 E σ.2.2.1 σ1) 25 [some (.ref a), some (.int (v2 - 48)), none, none] [.int x5] := by
      intro x5 hw
      rw [ekj4] at hw
      refine a_istore_2 (pc := 25) C dX8_kernels_25 (by decide) rfl ?_
      refine a_aload_0 (pc := 26) C dX8_kernels_26 ?_
      refine a_bipush (pc := 27) C dX8_kernels_27 bc_48 ?_
      refine a_iload_2 (pc := 29) C dX8_kernels_29 ?_
      refine o_callXVi (pc := 30) C hs [.int 48, .int x5] (b := a) (ci := 6) (st := []) (fun h n u hB => ct_X8_sign l G a _ _ E _ _ _ hw.2 h n u hB) (by decide) (by decide) rfl hw.1 q95 q832 q834 qs3 (lw_meth q835) sg_X8_sign (Nat.le_of_ble_eq_true rfl) dX8_kernels_30 (fun v7 σ6 hw => ?_) (fun k9 σx hx => ?_)
      · refine a_bipush (pc := 33) C dX8_kernels_33 bc_48 ?_
        refine a_isub (pc := 35) C dX8_kernels_35 ?_
        refine a_istore_3 (pc := 36) C dX8_kernels_36 (by decide) rfl ?_
        refine a_bipush (pc := 37) C dX8_kernels_37 bc_100 ?_
        refine a_iload_1 (pc := 39) C dX8_kernels_39 ?_
        refine a_imul (pc := 40) C dX8_kernels_40 ?_
        refine a_bipush (pc := 41) C dX8_kernels_41 bc_10 ?_
        refine a_iload_3 (pc := 43) C dX8_kernels_43 ?_
        refine a_imul (pc := 44) C dX8_kernels_44 ?_
        refine a_iadd (pc := 45) C dX8_kernels_45 ?_
        refine a_aload_0 (pc := 46) C dX8_kernels_46 ?_
        refine a_bipush (pc := 47) C dX8_kernels_47 bc_48 ?_
        refine a_iload_2 (pc := 49) C dX8_kernels_49 ?_
        refine o_callXVi (pc := 50) C hs [.int 48, .int x5] (b := a) (ci := 6) (st := [.int ((100 * (v2 - 48)) + (10 * (v7 - 48)))]) (fun h n u hB => ct_X8_sign l G a _ _ E _ _ _ hw.2 h n u hB) (by decide) (by decide) rfl hw.1 q95 q832 q834 qs3 (lw_meth q835) sg_X8_sign (Nat.le_of_ble_eq_true rfl) dX8_kernels_50 (fun v9 σ8 hw => ?_) (fun k9 σx hx => ?_)
        · refine a_iadd (pc := 53) C dX8_kernels_53 ?_
          refine a_bipush (pc := 54) C dX8_kernels_54 bc_48 ?_
          refine a_isub (pc := 56) C dX8_kernels_56 ?_
          exact a_xret (a_iret C dX8_kernels_57 (fun h n u hV => ⟨⟨(_, _), rfl, hw, hV⟩, o_end hs hV⟩))
        · exact ax_out C (fun x hx => (ht x hx).elim) (fun h n u hV => ⟨⟨k9, σx, rfl, hx, hV.1.same rfl rfl rfl, hV.2.2.2.2.2.1⟩, o_end hs hV⟩)
      · exact ax_out C (fun x hx => (ht x hx).elim) (fun h n u hV => ⟨⟨k9, σx, rfl, hx, hV.1.same rfl rfl rfl, hV.2.2.2.2.2.1⟩, o_end hs hV⟩)
    refine a_icmp_ne (pc := 15) C 23 dX8_kernels_15 (by decide) (fun c3 => ?_) (fun c3 => ?_)
    · have hw := hw.1 c3
      refine a_bipush (pc := 23) C dX8_kernels_23 bc_57 ?_
      exact hkj4 _ hw
    · have hw := hw.2 c3
      refine a_bipush (pc := 18) C dX8_kernels_18 bc_48 ?_
      refine a_goto (pc := 20) C 25 dX8_kernels_20 (by decide) ?_
      exact hkj4 _ hw
  · exact ax_out C (fun x hx => (ht x hx).elim) (fun h n u hV => ⟨⟨k9, σx, rfl, hx, hV.1.same rfl rfl rfl, hV.2.2.2.2.2.1⟩, o_end hs hV⟩)
def wp_X8_step (a : Nat) (p1 : Int32) (σ : OS) (Q : Int32 → OS → Prop) (X : Nat → OS → Prop) : Prop := (oC σ a 6 ∧ wp_X8_sign a p1 p1 σ (fun v2 σ1 => (oC σ1 a 6 ∧ wp_X8_sign a 48 51 σ1 (fun v4 σ3 => (Q (v4 - 48) σ3)) X)) X)
theorem sg_X8_step : aSig yX8_step 1 := by decide +kernel
set_option maxHeartbeats 4000000 in
theorem ct_X8_step (l : Launch) (G : aG) (a : Nat) (p1 : Int32) (E : Nat → Prop) (σ : OS) (Q : Int32 → OS → Prop) (X : Nat → OS → Prop) (hw : wp_X8_step a p1 σ Q X) (h0 : AH) (n0 u0 : Nat) (hB : OB h0 n0 E σ) : CTX l yX8_step (ws_ yX8_step cX8_step 2 (some .int)) 7 G [.ref a, .int p1] h0 n0 u0 σ.2.2.1 (10 * σ.2.2.1) (o_pi Q h0 n0 u0 E σ.2.2.1) (o_px X h0 E) := by
  refine CTX.intro [some (.ref a), some (.int p1)] pn_RX8 rfl (Nat.le_of_ble_eq_true rfl) ?_
  intro p e s m args below meth c C hz hu ht
  have hs : s.heap.size = n0 ∧ slT s.heap = u0 := ⟨hz, hu⟩
  refine a_world (V1 := OW h0 n0 u0 E σ.2.2.1 σ) (OW.start hB) ?_
  unfold wp_X8_step at hw
  refine a_aload_0 (pc := 0) C dX8_step_0 ?_
  refine a_iload_1 (pc := 1) C dX8_step_1 ?_
  refine a_iload_1 (pc := 2) C dX8_step_2 ?_
  refine o_callXVi (pc := 3) C hs [.int p1, .int p1] (b := a) (ci := 6) (st := []) (fun h n u hB => ct_X8_sign l G a _ _ E _ _ _ hw.2 h n u hB) (by decide) (by decide) rfl hw.1 q95 q832 q834 qs3 (lw_meth q835) sg_X8_sign (Nat.le_of_ble_eq_true rfl) dX8_step_3 (fun v2 σ1 hw => ?_) (fun k9 σx hx => ?_)
  · refine a_pop (pc := 6) C dX8_step_6 rfl ?_
    refine a_aload_0 (pc := 7) C dX8_step_7 ?_
    refine a_bipush (pc := 8) C dX8_step_8 bc_48 ?_
    refine a_bipush (pc := 10) C dX8_step_10 bc_51 ?_
    refine o_callXVi (pc := 12) C hs [.int 48, .int 51] (b := a) (ci := 6) (st := []) (fun h n u hB => ct_X8_sign l G a _ _ E _ _ _ hw.2 h n u hB) (by decide) (by decide) rfl hw.1 q95 q832 q834 qs3 (lw_meth q835) sg_X8_sign (Nat.le_of_ble_eq_true rfl) dX8_step_12 (fun v4 σ3 hw => ?_) (fun k9 σx hx => ?_)
    · refine a_bipush (pc := 15) C dX8_step_15 bc_48 ?_
      refine a_isub (pc := 17) C dX8_step_17 ?_
      exact a_xret (a_iret C dX8_step_18 (fun h n u hV => ⟨⟨(_, _), rfl, hw, hV⟩, o_end hs hV⟩))
    · exact ax_out C (fun x hx => (ht x hx).elim) (fun h n u hV => ⟨⟨k9, σx, rfl, hx, hV.1.same rfl rfl rfl, hV.2.2.2.2.2.1⟩, o_end hs hV⟩)
  · exact ax_out C (fun x hx => (ht x hx).elim) (fun h n u hV => ⟨⟨k9, σx, rfl, hx, hV.1.same rfl rfl rfl, hV.2.2.2.2.2.1⟩, o_end hs hV⟩)
def wp_J18_hashCode (p1 : Nat) (σ : OS) (Q : Int32 → OS → Prop) : Prop := (∃ (n1 : Nat) (f3 : Nat → Int32), σ.1 p1 = some (.inl (2, n1, .inl f3)) ∧ (∀ x4 : Int32, x4 = Int32.ofNat n1 → ((x4 = 0 → (Q 0 σ)) ∧ (¬ x4 = 0 → ((x4 = 1 → (∃ (n6 : Nat) (f7 : Nat → Int32), σ.1 p1 = some (.inl (2, n6, .inl f7)) ∧ vp_in 0 n6 ∧ (Q ((f7 (0 : Int32).toNatClampNeg) &&& 255) σ))) ∧ (¬ x4 = 1 → False))))))
theorem sg_J18_hashCode : aSig yJ18_hashCode 1 := by decide +kernel
set_option maxHeartbeats 4000000 in
theorem ct_J18_hashCode (l : Launch) (G : aG) (p1 : Nat) (E : Nat → Prop) (σ : OS) (Q : Int32 → OS → Prop) (hw : wp_J18_hashCode p1 σ Q) (h0 : AH) (n0 u0 : Nat) (hB : OB h0 n0 E σ) : CT l yJ18_hashCode (ws_ yJ18_hashCode cJ18_hashCode 1 (some .int)) 1 G [.ref p1] h0 n0 u0 σ.2.2.1 (10 * σ.2.2.1) (o_pi Q h0 n0 u0 E σ.2.2.1) := by
  refine CT.intro [some (.ref p1)] pn_RJ18 rfl (Nat.le_of_ble_eq_true rfl) ?_
  intro p e s m args below meth c C hz hu
  have hs : s.heap.size = n0 ∧ slT s.heap = u0 := ⟨hz, hu⟩
  refine a_world (V1 := OW h0 n0 u0 E σ.2.2.1 σ) (OW.start hB) ?_
  unfold wp_J18_hashCode at hw
  refine a_aload_0 (pc := 0) C dJ18_hashCode_0 ?_
  obtain ⟨n1, f3, af3, hw⟩ := hw
  refine a_alen (pc := 1) C (kd := 2) (fun h n u hV => o_arr af3 hV) (fun _ => rfl) rfl dJ18_hashCode_1 ?_
  refine a_topi (fun x4 ex4 => ?_)
  have hw := hw x4 ex4
  by_cases c5_0 : x4 = 0
  · have hw := hw.1 c5_0
    refine a_lookup (pc := 2) C 28 dJ18_hashCode_2 (by decide) (by rw [c5_0]; try decide) (by decide) ?_
    refine a_iconst (pc := 28) C dJ18_hashCode_28 ic_0 ?_
    refine a_goto (pc := 29) C 51 dJ18_hashCode_29 (by decide) ?_
    exact a_iret C dJ18_hashCode_51 (fun h n u hV => ⟨⟨(_, _), rfl, hw, hV⟩, o_end hs hV⟩)
  · have hw := hw.2 c5_0
    by_cases c5_1 : x4 = 1
    · have hw := hw.1 c5_1
      refine a_lookup (pc := 2) C 32 dJ18_hashCode_2 (by decide) (by rw [c5_1]; try decide) (by decide) ?_
      refine a_aload_0 (pc := 32) C dJ18_hashCode_32 ?_
      refine a_iconst (pc := 33) C dJ18_hashCode_33 ic_0 ?_
      obtain ⟨n6, f7, af7, if7, hw⟩ := hw
      refine a_bald (pc := 34) C (fun h n u hV => o_arr af7 hV) if7 dJ18_hashCode_34 ?_
      refine a_sipush (pc := 35) C dJ18_hashCode_35 sc_255 ?_
      refine a_iand (pc := 38) C dJ18_hashCode_38 ?_
      refine a_goto (pc := 39) C 51 dJ18_hashCode_39 (by decide) ?_
      exact a_iret C dJ18_hashCode_51 (fun h n u hV => ⟨⟨(_, _), rfl, hw, hV⟩, o_end hs hV⟩)
    · have hw := hw.2 c5_1
      refine a_lookup (pc := 2) (off := 40) C 42 dJ18_hashCode_2 (by decide) (by have y0 := lv_neT c5_0 (a := 0) (by decide); have y1 := lv_neT c5_1 (a := 1) (by decide); simp only [Op.lookupswitch.offset_cons, Op.lookupswitch.offset_nil]; repeat rw [if_neg (by omega)]) (by decide) ?_
      exact False.elim hw
def wp_J5_hashCode (a : Nat) (σ : OS) (Q : Int32 → OS → Prop) : Prop := (∃ x1 : Int32, oF σ a 11 2 (.int x1) ∧ (((¬ x1 = 0) → (Q x1 σ)) ∧ ((x1 = 0) → (∃ x3 : Int32, oF σ a 11 3 (.int x3) ∧ (((¬ x3 = 0) → (Q x1 σ)) ∧ ((x3 = 0) → (oC σ a 11 ∧ wp_J5_isLatin1 a σ (fun v6 σ5 => (((v6 = 0) → False) ∧ ((¬ v6 = 0) → (∃ r8 : Nat, oF σ5 a 11 0 (.ref r8) ∧ wp_J18_hashCode r8 σ5 (fun v10 σ9 => (((¬ v10 = 0) → (∃ fs13 : List Value, σ9.1 a = some (.inr (11, fs13)) ∧ 2 < fs13.length ∧ ∀ σ12 : OS, σ12 = (oPut σ9 a (.inr (11, fs13.set 2 (.int v10)))) → (Q v10 σ12))) ∧ ((v10 = 0) → (∃ fs15 : List Value, σ9.1 a = some (.inr (11, fs15)) ∧ 3 < fs15.length ∧ ∀ σ14 : OS, σ14 = (oPut σ9 a (.inr (11, fs15.set 3 (.int 1)))) → (Q v10 σ14))))))))))))))))
theorem sg_J5_hashCode : aSig yJ5_hashCode 0 := by decide +kernel
set_option maxHeartbeats 4000000 in
theorem ct_J5_hashCode (l : Launch) (G : aG) (a : Nat) (E : Nat → Prop) (σ : OS) (Q : Int32 → OS → Prop) (hw : wp_J5_hashCode a σ Q) (h0 : AH) (n0 u0 : Nat) (hB : OB h0 n0 E σ) : CT l yJ5_hashCode (ws_ yJ5_hashCode cJ5_hashCode 2 (some .int)) 2 G [.ref a] h0 n0 u0 σ.2.2.1 (10 * σ.2.2.1) (o_pi Q h0 n0 u0 E σ.2.2.1) := by
  refine CT.intro [some (.ref a), none] pn_RJ5 rfl (Nat.le_of_ble_eq_true rfl) ?_
  intro p e s m args below meth c C hz hu
  have hs : s.heap.size = n0 ∧ slT s.heap = u0 := ⟨hz, hu⟩
  refine a_world (V1 := OW h0 n0 u0 E σ.2.2.1 σ) (OW.start hB) ?_
  unfold wp_J5_hashCode at hw
  refine a_aload_0 (pc := 0) C dJ5_hashCode_0 ?_
  obtain ⟨x1, fx1, hw⟩ := hw
  refine a_getf (pc := 1) C (ref := "java/lang/String") in_J5 (ci := 11) rfl 2 (by decide) q603 rfl (fun h n u hV => o_fld fx1 hV) dJ5_hashCode_1 ?_
  refine a_istore_1 (pc := 4) C dJ5_hashCode_4 (by decide) rfl ?_
  refine a_iload_1 (pc := 5) C dJ5_hashCode_5 ?_
  refine a_if_ne (pc := 6) C 58 dJ5_hashCode_6 (by decide) (fun c2 => ?_) (fun c2 => ?_)
  · have hw := hw.1 c2
    refine a_iload_1 (pc := 58) C dJ5_hashCode_58 ?_
    exact a_iret C dJ5_hashCode_59 (fun h n u hV => ⟨⟨(_, _), rfl, hw, hV⟩, o_end hs hV⟩)
  · have hw := hw.2 c2
    refine a_aload_0 (pc := 9) C dJ5_hashCode_9 ?_
    obtain ⟨x3, fx3, hw⟩ := hw
    refine a_getf (pc := 10) C (ref := "java/lang/String") in_J5 (ci := 11) rfl 3 (by decide) q604 rfl (fun h n u hV => o_fld fx3 hV) dJ5_hashCode_10 ?_
    refine a_if_ne (pc := 13) C 58 dJ5_hashCode_13 (by decide) (fun c4 => ?_) (fun c4 => ?_)
    · have hw := hw.1 c4
      refine a_iload_1 (pc := 58) C dJ5_hashCode_58 ?_
      exact a_iret C dJ5_hashCode_59 (fun h n u hV => ⟨⟨(_, _), rfl, hw, hV⟩, o_end hs hV⟩)
    · have hw := hw.2 c4
      refine a_aload_0 (pc := 16) C dJ5_hashCode_16 ?_
      refine o_callVi (pc := 17) C hs [] (b := a) (ci := 11) (st := []) (fun h n u hB => ct_J5_isLatin1 l G a E _ _ hw.2 h n u hB) (by decide) (by decide) rfl hw.1 q75 q750 q751 q752 (lw_meth q753) sg_J5_isLatin1 (Nat.le_of_ble_eq_true rfl) dJ5_hashCode_17 (fun v6 σ5 hw => ?_)
      refine a_if_eq (pc := 20) C 33 dJ5_hashCode_20 (by decide) (fun c7 => ?_) (fun c7 => ?_)
      · have hw := hw.1 c7
        exact False.elim hw
      · have hw := hw.2 c7
        refine a_aload_0 (pc := 23) C dJ5_hashCode_23 ?_
        obtain ⟨r8, fr8, hw⟩ := hw
        refine a_getf (pc := 24) C (ref := "java/lang/String") in_J5 (ci := 11) rfl 0 (by decide) q601 rfl (fun h n u hV => o_fld fr8 hV) dJ5_hashCode_24 ?_
        refine o_callSi (pc := 27) C hs [.ref r8] (st := []) (fun h n u hB => ct_J18_hashCode l G _ E _ _ hw h n u hB) (by decide) (by decide) (lw_S q754 q755 q92 q756) sg_J18_hashCode (Nat.le_of_ble_eq_true rfl) dJ5_hashCode_27 (fun v10 σ9 hw => ?_)
        refine a_goto (pc := 30) C 40 dJ5_hashCode_30 (by decide) ?_
        refine a_istore_1 (pc := 40) C dJ5_hashCode_40 (by decide) rfl ?_
        refine a_iload_1 (pc := 41) C dJ5_hashCode_41 ?_
        refine a_if_ne (pc := 42) C 53 dJ5_hashCode_42 (by decide) (fun c11 => ?_) (fun c11 => ?_)
        · have hw := hw.1 c11
          refine a_aload_0 (pc := 53) C dJ5_hashCode_53 ?_
          refine a_iload_1 (pc := 54) C dJ5_hashCode_54 ?_
          obtain ⟨fs13, ffs13, kfs13, hw⟩ := hw
          refine a_putf (pc := 55) C (ref := "java/lang/String") (V1 := OW h0 n0 u0 E σ.2.2.1 (oPut σ9 a (.inr (11, fs13.set 2 (.int v10))))) in_J5 tyJ5 tyJ5_ok nmJ5 (ci := 11) rfl 2 (by decide) q603 rfl rfl rfl rfl (fun h n u hV => o_put (by decide) ffs13 kfs13 hV) dJ5_hashCode_55 (o_top (fun σ12 eσ12 => ?_))
          have hw := hw σ12 eσ12
          refine a_iload_1 (pc := 58) C dJ5_hashCode_58 ?_
          exact a_iret C dJ5_hashCode_59 (fun h n u hV => ⟨⟨(_, _), rfl, hw, hV⟩, o_end hs hV⟩)
        · have hw := hw.2 c11
          refine a_aload_0 (pc := 45) C dJ5_hashCode_45 ?_
          refine a_iconst (pc := 46) C dJ5_hashCode_46 ic_1 ?_
          obtain ⟨fs15, ffs15, kfs15, hw⟩ := hw
          refine a_putf (pc := 47) C (ref := "java/lang/String") (V1 := OW h0 n0 u0 E σ.2.2.1 (oPut σ9 a (.inr (11, fs15.set 3 (.int 1))))) in_J5 tyJ5 tyJ5_ok nmJ5 (ci := 11) rfl 3 (by decide) q604 rfl rfl rfl rfl (fun h n u hV => o_put (by decide) ffs15 kfs15 hV) dJ5_hashCode_47 (o_top (fun σ14 eσ14 => ?_))
          have hw := hw σ14 eσ14
          refine a_goto (pc := 50) C 58 dJ5_hashCode_50 (by decide) ?_
          refine a_iload_1 (pc := 58) C dJ5_hashCode_58 ?_
          exact a_iret C dJ5_hashCode_59 (fun h n u hV => ⟨⟨(_, _), rfl, hw, hV⟩, o_end hs hV⟩)
