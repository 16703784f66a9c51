set_option maxRecDepth 100000
/-! WALKS IN THE WIDE WORLD: by program -/
theorem pn_RJ12 : plainName RJ12 = true := by decide
theorem pn_RJ17 : plainName RJ17 = true := by decide
theorem pn_RJ18 : plainName RJ18 = true := by decide
theorem pn_RJ19 : plainName RJ19 = true := by decide
theorem pn_RJ21 : plainName RJ21 = true := by decide
theorem pn_RJ22 : plainName RJ22 = true := by decide
theorem pn_RJ23 : plainName RJ23 = true := by decide
theorem pn_RJ3 : plainName RJ3 = true := by decide
theorem pn_RJ4 : plainName RJ4 = true := by decide
theorem pn_RJ5 : plainName RJ5 = true := by decide
def wp_J3_init (a : Nat) (p1 : Int32) (σ : OS) (Q : OS → Prop) : Prop := (((((1 : Int32)) = 0) → False) ∧ ((¬ ((1 : Int32)) = 0) → (¬ p1 < 0 ∧ (p1).toNatClampNeg < 65536 ∧ ((p1).toNatClampNeg / 10 + 1) ≤ σ.2.2.1 ∧ ∀ q2 : Nat, oFr σ q2 → (σ.2.2.2.1 ≠ 0 → q2 = σ.2.2.2.1) → ∀ σ3 : OS, σ3 = oNew σ q2 ((p1).toNatClampNeg / 10 + 1) (.inl (2, (p1).toNatClampNeg, .inl (fun _ => 0))) → (∃ fs5 : List Value, σ3.1 a = some (.inr (10, fs5)) ∧ 0 < fs5.length ∧ ∀ σ4 : OS, σ4 = (oPut σ3 a (.inr (10, fs5.set 0 (.ref q2)))) → (∃ fs7 : List Value, σ4.1 a = some (.inr (10, fs7)) ∧ 1 < fs7.length ∧ ∀ σ6 : OS, σ6 = (oPut σ4 a (.inr (10, fs7.set 1 (.int 0)))) → (Q σ6))))))
theorem sg_J3_init : aSig yJ3_init 1 := by decide +kernel
set_option maxHeartbeats 4000000 in
theorem ct_J3_init (l : Launch) (G : aG) (a : Nat) (p1 : Int32) (E : Nat → Prop) (σ : OS) (Q : OS → Prop) (hw : wp_J3_init a p1 σ Q) (h0 : AH) (n0 u0 : Nat) (hB : OB h0 n0 E σ) : CT l yJ3_init (ws_ yJ3_init cJ3_init 2 none) 2 G [.ref a, .int p1] h0 n0 u0 σ.2.2.1 (10 * σ.2.2.1) (o_pv Q h0 n0 u0 E σ.2.2.1) := by
  refine CT.intro [some (.ref a), some (.int p1)] pn_RJ3 rfl (Nat.le_of_ble_eq_true rfl) ?_
  intro p e s m args below meth c C hz hu
  have hs : s.heap.size = n0 ∧ slT s.heap = u0 := ⟨hz, hu⟩
  refine a_world (V1 := OW h0 n0 u0 E σ.2.2.1 σ) (OW.start hB) ?_
  unfold wp_J3_init at hw
  refine a_aload_0 (pc := 0) C dJ3_init_0 ?_
  refine a_objInit (pc := 1) C q274 q107 q108 (by decide) (Nat.le_of_ble_eq_true rfl) dJ3_init_1 ?_
  refine a_gets (pc := 4) C C.SC.1 q275 rfl dJ3_init_4 ?_
  refine a_if_eq (pc := 7) C 25 dJ3_init_7 (by decide) (fun c1 => ?_) (fun c1 => ?_)
  · have hw := hw.1 c1
    exact False.elim hw
  · have hw := hw.2 c1
    refine a_aload_0 (pc := 10) C dJ3_init_10 ?_
    refine a_iload_1 (pc := 11) C dJ3_init_11 ?_
    refine o_newA (pc := 12) C hs ((p1).toNatClampNeg / 10 + 1) (ty := .byte) (kd := 2) (a0 := ((p1).toNatClampNeg, .inl (fun _ => 0))) rfl rfl q298 (fun _ => rfl) (fun cA => rfl) hw.1 rfl (by have := hw.2.1; simp only [componentBytes]; omega) (by omega) (by omega) hw.2.2.1 dJ3_init_12 (fun q2 frq2 nxq2 σ3 eσ3 => ?_)
    have hw := hw.2.2.2 q2 frq2 nxq2 σ3 eσ3
    obtain ⟨fs5, ffs5, kfs5, hw⟩ := hw
    refine a_putf (pc := 14) C (ref := "java/lang/AbstractStringBuilder") (V1 := OW h0 n0 u0 E σ.2.2.1 (oPut σ3 a (.inr (10, fs5.set 0 (.ref q2))))) in_J4 tyJ4 tyJ4_ok nmJ4 (ci := 10) rfl 0 (by decide) q284 rfl rfl rfl rfl (fun h n u hV => o_put (by decide) ffs5 kfs5 hV) dJ3_init_14 (o_top (fun σ4 eσ4 => ?_))
    have hw := hw σ4 eσ4
    refine a_aload_0 (pc := 17) C dJ3_init_17 ?_
    refine a_iconst (pc := 18) C dJ3_init_18 ic_0 ?_
    obtain ⟨fs7, ffs7, kfs7, hw⟩ := hw
    refine a_putf (pc := 19) C (ref := "java/lang/AbstractStringBuilder") (V1 := OW h0 n0 u0 E σ.2.2.1 (oPut σ4 a (.inr (10, fs7.set 1 (.int 0))))) in_J4 tyJ4 tyJ4_ok nmJ4 (ci := 10) rfl 1 (by decide) q285 rfl rfl rfl rfl (fun h n u hV => o_put (by decide) ffs7 kfs7 hV) dJ3_init_19 (o_top (fun σ6 eσ6 => ?_))
    have hw := hw σ6 eσ6
    refine a_goto (pc := 22) C 38 dJ3_init_22 (by decide) ?_
    exact a_vret C dJ3_init_38 (fun h n u hV => ⟨⟨_, rfl, hw, hV⟩, o_end hs hV⟩)
def wp_J4_init (a : Nat) (σ : OS) (Q : OS → Prop) : Prop := wp_J3_init a 16 σ (fun σ1 => (Q σ1))
theorem sg_J4_init : aSig yJ4_init 0 := by decide +kernel
set_option maxHeartbeats 4000000 in
theorem ct_J4_init (l : Launch) (G : aG) (a : Nat) (E : Nat → Prop) (σ : OS) (Q : OS → Prop) (hw : wp_J4_init a σ Q) (h0 : AH) (n0 u0 : Nat) (hB : OB h0 n0 E σ) : CT l yJ4_init (ws_ yJ4_init cJ4_init 1 none) 3 G [.ref a] h0 n0 u0 σ.2.2.1 (10 * σ.2.2.1) (o_pv Q h0 n0 u0 E σ.2.2.1) := by
  refine CT.intro [some (.ref a)] pn_RJ4 rfl (Nat.le_of_ble_eq_true rfl) ?_
  intro p e s m args below meth c C hz hu
  have hs : s.heap.size = n0 ∧ slT s.heap = u0 := ⟨hz, hu⟩
  refine a_world (V1 := OW h0 n0 u0 E σ.2.2.1 σ) (OW.start hB) ?_
  unfold wp_J4_init at hw
  refine a_aload_0 (pc := 0) C dJ4_init_0 ?_
  refine a_bipush (pc := 1) C dJ4_init_1 bc_16 ?_
  refine o_callIv (pc := 3) C hs [.int 16] (b := a) (st := []) (fun h n u hB => ct_J3_init l G a _ E _ _ hw h n u hB) (by decide) (by decide) q73 q271 q272 rfl (lw_meth q273) sg_J3_init (Nat.le_of_ble_eq_true rfl) dJ4_init_3 (fun σ1 hw => ?_)
  exact a_vret C dJ4_init_6 (fun h n u hV => ⟨⟨_, rfl, hw, hV⟩, o_end hs hV⟩)
def wp_J3_length (a : Nat) (σ : OS) (Q : Int32 → OS → Prop) : Prop := (∃ x1 : Int32, oF σ a 10 3 (.int x1) ∧ (Q x1 σ))
theorem sg_J3_length : aSig yJ3_length 0 := by decide +kernel
set_option maxHeartbeats 4000000 in
theorem ct_J3_length (l : Launch) (G : aG) (a : Nat) (E : Nat → Prop) (σ : OS) (Q : Int32 → OS → Prop) (hw : wp_J3_length a σ Q) (h0 : AH) (n0 u0 : Nat) (hB : OB h0 n0 E σ) : CT l yJ3_length (ws_ yJ3_length cJ3_length 1 (some .int)) 1 G [.ref a] h0 n0 u0 σ.2.2.1 (10 * σ.2.2.1) (o_pi Q h0 n0 u0 E σ.2.2.1) := by
  refine CT.intro [some (.ref a)] pn_RJ3 rfl (Nat.le_of_ble_eq_true rfl) ?_
  intro p e s m args below meth c C hz hu
  have hs : s.heap.size = n0 ∧ slT s.heap = u0 := ⟨hz, hu⟩
  refine a_world (V1 := OW h0 n0 u0 E σ.2.2.1 σ) (OW.start hB) ?_
  unfold wp_J3_length at hw
  refine a_aload_0 (pc := 0) C dJ3_length_0 ?_
  obtain ⟨x1, fx1, hw⟩ := hw
  refine a_getf (pc := 1) C (ref := "java/lang/AbstractStringBuilder") in_J4 (ci := 10) rfl 3 (by decide) q288 rfl (fun h n u hV => o_fld fx1 hV) dJ3_length_1 ?_
  exact a_iret C dJ3_length_4 (fun h n u hV => ⟨⟨(_, _), rfl, hw, hV⟩, o_end hs hV⟩)
def wp_J4_length (a : Nat) (σ : OS) (Q : Int32 → OS → Prop) : Prop := (oC σ a 10 ∧ wp_J3_length a σ (fun v2 σ1 => (Q v2 σ1)))
theorem sg_J4_length : aSig yJ4_length 0 := by decide +kernel
set_option maxHeartbeats 4000000 in
theorem ct_J4_length (l : Launch) (G : aG) (a : Nat) (E : Nat → Prop) (σ : OS) (Q : Int32 → OS → Prop) (hw : wp_J4_length a σ Q) (h0 : AH) (n0 u0 : Nat) (hB : OB h0 n0 E σ) : CT l yJ4_length (ws_ yJ4_length cJ4_length 1 (some .int)) 2 G [.ref a] h0 n0 u0 σ.2.2.1 (10 * σ.2.2.1) (o_pi Q h0 n0 u0 E σ.2.2.1) := by
  refine CT.intro [some (.ref a)] pn_RJ4 rfl (Nat.le_of_ble_eq_true rfl) ?_
  intro p e s m args below meth c C hz hu
  have hs : s.heap.size = n0 ∧ slT s.heap = u0 := ⟨hz, hu⟩
  refine a_world (V1 := OW h0 n0 u0 E σ.2.2.1 σ) (OW.start hB) ?_
  unfold wp_J4_length at hw
  refine a_aload_0 (pc := 0) C dJ4_length_0 ?_
  refine o_callUi (pc := 1) C hs [] (b := a) (ci := 10) (st := []) (fun h n u hB => ct_J3_length l G a E _ _ hw.2 h n u hB) (by decide) (by decide) rfl hw.1 (lw_SU q321 q2190 q297 q322 q73 q323) sg_J3_length (by decide) (Nat.le_of_ble_eq_true rfl) dJ4_length_1 (fun v2 σ1 hw => ?_)
  exact a_iret C dJ4_length_4 (fun h n u hV => ⟨⟨(_, _), rfl, hw, hV⟩, o_end hs hV⟩)
def wp_J3_isLatin1 (a : Nat) (σ : OS) (Q : Int32 → OS → Prop) : Prop := (((((1 : Int32)) = 0) → (Q 0 σ)) ∧ ((¬ ((1 : Int32)) = 0) → (∃ x2 : Int32, oF σ a 10 1 (.int x2) ∧ (((¬ x2 = 0) → (Q 0 σ)) ∧ ((x2 = 0) → (Q 1 σ))))))
theorem sg_J3_isLatin1 : aSig yJ3_isLatin1 0 := by decide +kernel
set_option maxHeartbeats 4000000 in
theorem ct_J3_isLatin1 (l : Launch) (G : aG) (a : Nat) (E : Nat → Prop) (σ : OS) (Q : Int32 → OS → Prop) (hw : wp_J3_isLatin1 a σ Q) (h0 : AH) (n0 u0 : Nat) (hB : OB h0 n0 E σ) : CT l yJ3_isLatin1 (ws_ yJ3_isLatin1 cJ3_isLatin1 1 (some .boolean)) 1 G [.ref a] h0 n0 u0 σ.2.2.1 (10 * σ.2.2.1) (o_pi Q h0 n0 u0 E σ.2.2.1) := by
  refine CT.intro [some (.ref a)] pn_RJ3 rfl (Nat.le_of_ble_eq_true rfl) ?_
  intro p e s m args below meth c C hz hu
  have hs : s.heap.size = n0 ∧ slT s.heap = u0 := ⟨hz, hu⟩
  refine a_world (V1 := OW h0 n0 u0 E σ.2.2.1 σ) (OW.start hB) ?_
  unfold wp_J3_isLatin1 at hw
  refine a_gets (pc := 0) C C.SC.1 q275 rfl dJ3_isLatin1_0 ?_
  refine a_if_eq (pc := 3) C 17 dJ3_isLatin1_3 (by decide) (fun c1 => ?_) (fun c1 => ?_)
  · have hw := hw.1 c1
    refine a_iconst (pc := 17) C dJ3_isLatin1_17 ic_0 ?_
    exact a_zret rfl C dJ3_isLatin1_18 (fun h n u hV => ⟨⟨(_, _), rfl, hw, hV⟩, o_end hs hV⟩)
  · have hw := hw.2 c1
    refine a_aload_0 (pc := 6) C dJ3_isLatin1_6 ?_
    obtain ⟨x2, fx2, hw⟩ := hw
    refine a_getf (pc := 7) C (ref := "java/lang/AbstractStringBuilder") in_J4 (ci := 10) rfl 1 (by decide) q285 rfl (fun h n u hV => o_fld fx2 hV) dJ3_isLatin1_7 ?_
    refine a_if_ne (pc := 10) C 17 dJ3_isLatin1_10 (by decide) (fun c3 => ?_) (fun c3 => ?_)
    · have hw := hw.1 c3
      refine a_iconst (pc := 17) C dJ3_isLatin1_17 ic_0 ?_
      exact a_zret rfl C dJ3_isLatin1_18 (fun h n u hV => ⟨⟨(_, _), rfl, hw, hV⟩, o_end hs hV⟩)
    · have hw := hw.2 c3
      refine a_iconst (pc := 13) C dJ3_isLatin1_13 ic_1 ?_
      refine a_goto (pc := 14) C 18 dJ3_isLatin1_14 (by decide) ?_
      exact a_zret rfl C dJ3_isLatin1_18 (fun h n u hV => ⟨⟨(_, _), rfl, hw, hV⟩, o_end hs hV⟩)
def wp_J17_newLength (p1 : Int32) (p2 : Int32) (p3 : Int32) (σ : OS) (Q : Int32 → OS → Prop) : Prop := (∀ v1 : Int32, v1 = iMax p2 p3 → ((((p1 + v1) ≤ 0) → False) ∧ ((¬ (p1 + v1) ≤ 0) → (((2147483639 < (p1 + v1)) → False) ∧ ((¬ 2147483639 < (p1 + v1)) → (Q (p1 + v1) σ))))))
theorem sg_J17_newLength : aSig yJ17_newLength 3 := by decide +kernel
set_option maxHeartbeats 4000000 in
theorem ct_J17_newLength (l : Launch) (G : aG) (p1 : Int32) (p2 : Int32) (p3 : Int32) (E : Nat → Prop) (σ : OS) (Q : Int32 → OS → Prop) (hw : wp_J17_newLength p1 p2 p3 σ Q) (h0 : AH) (n0 u0 : Nat) (hB : OB h0 n0 E σ) : CT l yJ17_newLength (ws_ yJ17_newLength cJ17_newLength 4 (some .int)) 2 G [.int p1, .int p2, .int p3] h0 n0 u0 σ.2.2.1 (10 * σ.2.2.1) (o_pi Q h0 n0 u0 E σ.2.2.1) := by
  refine CT.intro [some (.int p1), some (.int p2), some (.int p3), none] pn_RJ17 rfl (Nat.le_of_ble_eq_true rfl) ?_
  intro p e s m args below meth c C hz hu
  have hs : s.heap.size = n0 ∧ slT s.heap = u0 := ⟨hz, hu⟩
  refine a_world (V1 := OW h0 n0 u0 E σ.2.2.1 σ) (OW.start hB) ?_
  unfold wp_J17_newLength at hw
  refine a_iload_0 (pc := 0) C dJ17_newLength_0 ?_
  refine a_iload_1 (pc := 1) C dJ17_newLength_1 ?_
  refine a_iload_2 (pc := 2) C dJ17_newLength_2 ?_
  refine a_mmax (pc := 3) C (MC := σ.2.2.1) (MS := 10 * σ.2.2.1) (by decide) (fun h n u hV => o_end hs hV) q361 (Nat.le_of_ble_eq_true rfl) dJ17_newLength_3 (a_topi (fun v1 ev1 => ?_))
  have hw := hw v1 ev1
  refine a_iadd (pc := 6) C dJ17_newLength_6 ?_
  refine a_istore_3 (pc := 7) C dJ17_newLength_7 (by decide) rfl ?_
  refine a_iconst (pc := 8) C dJ17_newLength_8 ic_0 ?_
  refine a_iload_3 (pc := 9) C dJ17_newLength_9 ?_
  refine a_icmp_ge (pc := 10) C 21 dJ17_newLength_10 (by decide) (fun c2 => ?_) (fun c2 => ?_)
  · have hw := hw.1 c2
    exact False.elim hw
  · have hw := hw.2 c2
    refine a_iload_3 (pc := 13) C dJ17_newLength_13 ?_
    refine a_ldc (pc := 14) C q364 dJ17_newLength_14 ?_
    refine a_icmp_gt (pc := 16) C 21 dJ17_newLength_16 (by decide) (fun c3 => ?_) (fun c3 => ?_)
    · have hw := hw.1 c3
      exact False.elim hw
    · have hw := hw.2 c3
      refine a_iload_3 (pc := 19) C dJ17_newLength_19 ?_
      exact a_iret C dJ17_newLength_20 (fun h n u hV => ⟨⟨(_, _), rfl, hw, hV⟩, o_end hs hV⟩)
def wp_J3_newCapacity (a : Nat) (p1 : Int32) (σ : OS) (Q : Int32 → OS → Prop) : Prop := (∃ r1 : Nat, oF σ a 10 0 (.ref r1) ∧ (∃ (n2 : Nat) (f4 : Nat → Int32), σ.1 r1 = some (.inl (2, n2, .inl f4)) ∧ (∃ x5 : Int32, oF σ a 10 1 (.int x5) ∧ (∀ x6 : Int32, x6 = p1 <<< (x5 &&& 31) → (∀ x7 : Int32, x7 = x6 - (Int32.ofNat n2) → (∃ x8 : Int32, oF σ a 10 1 (.int x8) ∧ wp_J17_newLength (Int32.ofNat n2) x7 ((Int32.ofNat n2) + (2 <<< (x8 &&& 31))) σ (fun v10 σ9 => (((¬ v10 = 2147483647) → (∃ x12 : Int32, oF σ9 a 10 1 (.int x12) ∧ (Q (v10 >>> (x12 &&& 31)) σ9))) ∧ ((v10 = 2147483647) → False)))))))))
theorem sg_J3_newCapacity : aSig yJ3_newCapacity 1 := by decide +kernel
set_option maxHeartbeats 4000000 in
theorem ct_J3_newCapacity (l : Launch) (G : aG) (a : Nat) (p1 : Int32) (E : Nat → Prop) (σ : OS) (Q : Int32 → OS → Prop) (hw : wp_J3_newCapacity a p1 σ Q) (h0 : AH) (n0 u0 : Nat) (hB : OB h0 n0 E σ) : CT l yJ3_newCapacity (ws_ yJ3_newCapacity cJ3_newCapacity 6 (some .int)) 3 G [.ref a, .int p1] h0 n0 u0 σ.2.2.1 (10 * σ.2.2.1) (o_pi Q h0 n0 u0 E σ.2.2.1) := by
  refine CT.intro [some (.ref a), some (.int p1), none, none, none, none] pn_RJ3 rfl (Nat.le_of_ble_eq_true rfl) ?_
  intro p e s m args below meth c C hz hu
  have hs : s.heap.size = n0 ∧ slT s.heap = u0 := ⟨hz, hu⟩
  refine a_world (V1 := OW h0 n0 u0 E σ.2.2.1 σ) (OW.start hB) ?_
  unfold wp_J3_newCapacity at hw
  refine a_aload_0 (pc := 0) C dJ3_newCapacity_0 ?_
  obtain ⟨r1, fr1, hw⟩ := hw
  refine a_getf (pc := 1) C (ref := "java/lang/AbstractStringBuilder") in_J4 (ci := 10) rfl 0 (by decide) q284 rfl (fun h n u hV => o_fld fr1 hV) dJ3_newCapacity_1 ?_
  obtain ⟨n2, f4, af4, hw⟩ := hw
  refine a_alen (pc := 4) C (kd := 2) (fun h n u hV => o_arr af4 hV) (fun _ => rfl) rfl dJ3_newCapacity_4 ?_
  refine a_istore_2 (pc := 5) C dJ3_newCapacity_5 (by decide) rfl ?_
  refine a_iload_1 (pc := 6) C dJ3_newCapacity_6 ?_
  refine a_aload_0 (pc := 7) C dJ3_newCapacity_7 ?_
  obtain ⟨x5, fx5, hw⟩ := hw
  refine a_getf (pc := 8) C (ref := "java/lang/AbstractStringBuilder") in_J4 (ci := 10) rfl 1 (by decide) q285 rfl (fun h n u hV => o_fld fx5 hV) dJ3_newCapacity_8 ?_
  refine a_ishl (pc := 11) C dJ3_newCapacity_11 ?_
  refine a_topi (fun x6 ex6 => ?_)
  have hw := hw x6 ex6
  refine a_istore_3 (pc := 12) C dJ3_newCapacity_12 (by decide) rfl ?_
  refine a_iload_3 (pc := 13) C dJ3_newCapacity_13 ?_
  refine a_iload_2 (pc := 14) C dJ3_newCapacity_14 ?_
  refine a_isub (pc := 15) C dJ3_newCapacity_15 ?_
  refine a_topi (fun x7 ex7 => ?_)
  have hw := hw x7 ex7
  refine a_istore_4 (pc := 16) C dJ3_newCapacity_16 (by decide) rfl ?_
  refine a_iload_2 (pc := 18) C dJ3_newCapacity_18 ?_
  refine a_iload_4 (pc := 19) C dJ3_newCapacity_19 ?_
  refine a_iload_2 (pc := 21) C dJ3_newCapacity_21 ?_
  refine a_iconst (pc := 22) C dJ3_newCapacity_22 ic_2 ?_
  refine a_aload_0 (pc := 23) C dJ3_newCapacity_23 ?_
  obtain ⟨x8, fx8, hw⟩ := hw
  refine a_getf (pc := 24) C (ref := "java/lang/AbstractStringBuilder") in_J4 (ci := 10) rfl 1 (by decide) q285 rfl (fun h n u hV => o_fld fx8 hV) dJ3_newCapacity_24 ?_
  refine a_ishl (pc := 27) C dJ3_newCapacity_27 ?_
  refine a_iadd (pc := 28) C dJ3_newCapacity_28 ?_
  refine o_callSi (pc := 29) C hs [.int (Int32.ofNat n2), .int x7, .int ((Int32.ofNat n2) + (2 <<< (x8 &&& 31)))] (st := []) (fun h n u hB => ct_J17_newLength l G _ _ _ E _ _ hw h n u hB) (by decide) (by decide) (lw_S q358 q359 q91 q360) sg_J17_newLength (Nat.le_of_ble_eq_true rfl) dJ3_newCapacity_29 (fun v10 σ9 hw => ?_)
  refine a_istore_5 (pc := 32) C dJ3_newCapacity_32 (by decide) rfl ?_
  refine a_iload_5 (pc := 34) C dJ3_newCapacity_34 ?_
  refine a_ldc (pc := 36) C q368 dJ3_newCapacity_36 ?_
  refine a_icmp_ne (pc := 38) C 51 dJ3_newCapacity_38 (by decide) (fun c11 => ?_) (fun c11 => ?_)
  · have hw := hw.1 c11
    refine a_iload_5 (pc := 51) C dJ3_newCapacity_51 ?_
    refine a_aload_0 (pc := 53) C dJ3_newCapacity_53 ?_
    obtain ⟨x12, fx12, hw⟩ := hw
    refine a_getf (pc := 54) C (ref := "java/lang/AbstractStringBuilder") in_J4 (ci := 10) rfl 1 (by decide) q285 rfl (fun h n u hV => o_fld fx12 hV) dJ3_newCapacity_54 ?_
    refine a_ishr (pc := 57) C dJ3_newCapacity_57 ?_
    exact a_iret C dJ3_newCapacity_58 (fun h n u hV => ⟨⟨(_, _), rfl, hw, hV⟩, o_end hs hV⟩)
  · have hw := hw.2 c11
    exact False.elim hw
def wp_J12_copyOf (p1 : Nat) (p2 : Int32) (σ : OS) (Q : Nat → OS → Prop) : Prop := (∃ (n1 : Nat) (f3 : Nat → Int32), σ.1 p1 = some (.inl (2, n1, .inl f3)) ∧ (((¬ p2 = (Int32.ofNat n1)) → (¬ p2 < 0 ∧ (p2).toNatClampNeg < 65536 ∧ ((p2).toNatClampNeg / 10 + 1) ≤ σ.2.2.1 ∧ ∀ q5 : Nat, oFr σ q5 → (σ.2.2.2.1 ≠ 0 → q5 = σ.2.2.2.1) → ∀ σ6 : OS, σ6 = oNew σ q5 ((p2).toNatClampNeg / 10 + 1) (.inl (2, (p2).toNatClampNeg, .inl (fun _ => 0))) → (∃ (n7 : Nat) (f9 : Nat → Int32), σ6.1 p1 = some (.inl (2, n7, .inl f9)) ∧ (∀ v10 : Int32, v10 = iMin (Int32.ofNat n7) p2 → (∃ (n12 : Nat) (f13 : Nat → Int32) (n14 : Nat) (f15 : Nat → Int32), σ6.1 p1 = some (.inl (2, n12, .inl f13)) ∧ σ6.1 q5 = some (.inl (2, n14, .inl f15)) ∧ (¬ (0 : Int32) < 0) ∧ (¬ (0 : Int32) < 0) ∧ (¬ v10 < 0) ∧ (0 : Int32).toNatClampNeg + v10.toNatClampNeg ≤ n12 ∧ (0 : Int32).toNatClampNeg + v10.toNatClampNeg ≤ n14 ∧ (∀ i, i < v10.toNatClampNeg → fits .byte (.int (f13 ((0 : Int32).toNatClampNeg + i))) = true) ∧ ∀ σ11 : OS, σ11 = oPut σ6 q5 (.inl (2, n14, .inl (va_cpy f13 f15 (0 : Int32).toNatClampNeg (0 : Int32).toNatClampNeg v10.toNatClampNeg))) → (Q q5 σ11)))))) ∧ ((p2 = (Int32.ofNat n1)) → False)))
theorem sg_J12_copyOf : aSig yJ12_copyOf 2 := by decide +kernel
set_option maxHeartbeats 4000000 in
theorem ct_J12_copyOf (l : Launch) (G : aG) (p1 : Nat) (p2 : Int32) (E : Nat → Prop) (σ : OS) (Q : Nat → OS → Prop) (hw : wp_J12_copyOf p1 p2 σ Q) (h0 : AH) (n0 u0 : Nat) (hB : OB h0 n0 E σ) : CT l yJ12_copyOf (ws_ yJ12_copyOf cJ12_copyOf 3 (some (.array .byte))) 2 G [.ref p1, .int p2] h0 n0 u0 σ.2.2.1 (10 * σ.2.2.1) (o_pr Q h0 n0 u0 E σ.2.2.1) := by
  refine CT.intro [some (.ref p1), some (.int p2), none] pn_RJ12 rfl (Nat.le_of_ble_eq_true rfl) ?_
  intro p e s m args below meth c C hz hu
  have hs : s.heap.size = n0 ∧ slT s.heap = u0 := ⟨hz, hu⟩
  refine a_world (V1 := OW h0 n0 u0 E σ.2.2.1 σ) (OW.start hB) ?_
  unfold wp_J12_copyOf at hw
  refine a_iload_1 (pc := 0) C dJ12_copyOf_0 ?_
  refine a_aload_0 (pc := 1) C dJ12_copyOf_1 ?_
  obtain ⟨n1, f3, af3, hw⟩ := hw
  refine a_alen (pc := 2) C (kd := 2) (fun h n u hV => o_arr af3 hV) (fun _ => rfl) rfl dJ12_copyOf_2 ?_
  refine a_icmp_ne (pc := 3) C 14 dJ12_copyOf_3 (by decide) (fun c4 => ?_) (fun c4 => ?_)
  · have hw := hw.1 c4
    refine a_iload_1 (pc := 14) C dJ12_copyOf_14 ?_
    refine o_newA (pc := 15) C hs ((p2).toNatClampNeg / 10 + 1) (ty := .byte) (kd := 2) (a0 := ((p2).toNatClampNeg, .inl (fun _ => 0))) rfl rfl q298 (fun _ => rfl) (fun cA => rfl) hw.1 rfl (by have := hw.2.1; simp only [componentBytes]; omega) (by omega) (by omega) hw.2.2.1 dJ12_copyOf_15 (fun q5 frq5 nxq5 σ6 eσ6 => ?_)
    have hw := hw.2.2.2 q5 frq5 nxq5 σ6 eσ6
    refine a_astore_2 (pc := 17) C dJ12_copyOf_17 (by decide) rfl ?_
    refine a_aload_0 (pc := 18) C dJ12_copyOf_18 ?_
    refine a_iconst (pc := 19) C dJ12_copyOf_19 ic_0 ?_
    refine a_aload_2 (pc := 20) C dJ12_copyOf_20 ?_
    refine a_iconst (pc := 21) C dJ12_copyOf_21 ic_0 ?_
    refine a_aload_0 (pc := 22) C dJ12_copyOf_22 ?_
    obtain ⟨n7, f9, af9, hw⟩ := hw
    refine a_alen (pc := 23) C (kd := 2) (fun h n u hV => o_arr af9 hV) (fun _ => rfl) rfl dJ12_copyOf_23 ?_
    refine a_iload_1 (pc := 24) C dJ12_copyOf_24 ?_
    refine a_mmin (pc := 25) C (MC := σ.2.2.1) (MS := 10 * σ.2.2.1) (by decide) (fun h n u hV => o_end hs hV) q379 (Nat.le_of_ble_eq_true rfl) dJ12_copyOf_25 (a_topi (fun v10 ev10 => ?_))
    have hw := hw v10 ev10
    obtain ⟨n12, f13, n14, f15, ya, yb, y1, y2, y3, y4, y5, y6, hw⟩ := hw
    refine a_copyB (pc := 28) C (V1 := OW h0 n0 u0 E σ.2.2.1 (oPut σ6 q5 (.inl (2, n14, .inl (va_cpy f13 f15 (0 : Int32).toNatClampNeg (0 : Int32).toNatClampNeg v10.toNatClampNeg))))) (fun h n u hV => ⟨o_arr ya hV, o_arr yb hV, hV.putA yb⟩) y1 y2 y3 y4 y5 y6 (by decide) q382 (Nat.le_of_ble_eq_true rfl) dJ12_copyOf_28 (o_top (fun σ11 eσ11 => ?_))
    have hw := hw σ11 eσ11
    refine a_aload_2 (pc := 31) C dJ12_copyOf_31 ?_
    exact a_aret (Or.inr ⟨_, rfl⟩) (Or.inr ⟨_, rfl⟩) C dJ12_copyOf_32 (fun h n u hV => ⟨⟨(_, _), rfl, hw, hV⟩, o_end hs hV⟩)
  · have hw := hw.2 c4
    exact False.elim hw
def wp_J3_ensureCapacityInternal (a : Nat) (p1 : Int32) (σ : OS) (Q : OS → Prop) : Prop := (∃ r1 : Nat, oF σ a 10 0 (.ref r1) ∧ (∃ (n2 : Nat) (f4 : Nat → Int32), σ.1 r1 = some (.inl (2, n2, .inl f4)) ∧ (∃ x5 : Int32, oF σ a 10 1 (.int x5) ∧ (∀ x6 : Int32, x6 = (Int32.ofNat n2) >>> (x5 &&& 31) → ((((p1 - x6) ≤ 0) → (Q σ)) ∧ ((¬ (p1 - x6) ≤ 0) → (∃ r8 : Nat, oF σ a 10 0 (.ref r8) ∧ (oC σ a 10 ∧ wp_J3_newCapacity a p1 σ (fun v10 σ9 => (∃ x11 : Int32, oF σ9 a 10 1 (.int x11) ∧ wp_J12_copyOf r8 (v10 <<< (x11 &&& 31)) σ9 (fun r13 σ12 => (∃ fs15 : List Value, σ12.1 a = some (.inr (10, fs15)) ∧ 0 < fs15.length ∧ ∀ σ14 : OS, σ14 = (oPut σ12 a (.inr (10, fs15.set 0 (.ref r13)))) → (Q σ14)))))))))))))
theorem sg_J3_ensureCapacityInternal : aSig yJ3_ensureCapacityInternal 1 := by decide +kernel
set_option maxHeartbeats 4000000 in
theorem ct_J3_ensureCapacityInternal (l : Launch) (G : aG) (a : Nat) (p1 : Int32) (E : Nat → Prop) (σ : OS) (Q : OS → Prop) (hw : wp_J3_ensureCapacityInternal a p1 σ Q) (h0 : AH) (n0 u0 : Nat) (hB : OB h0 n0 E σ) : CT l yJ3_ensureCapacityInternal (ws_ yJ3_ensureCapacityInternal cJ3_ensureCapacityInternal 3 none) 4 G [.ref a, .int p1] h0 n0 u0 σ.2.2.1 (10 * σ.2.2.1) (o_pv Q h0 n0 u0 E σ.2.2.1) := by
  refine CT.intro [some (.ref a), some (.int p1), none] pn_RJ3 rfl (Nat.le_of_ble_eq_true rfl) ?_
  intro p e s m args below meth c C hz hu
  have hs : s.heap.size = n0 ∧ slT s.heap = u0 := ⟨hz, hu⟩
  refine a_world (V1 := OW h0 n0 u0 E σ.2.2.1 σ) (OW.start hB) ?_
  unfold wp_J3_ensureCapacityInternal at hw
  refine a_aload_0 (pc := 0) C dJ3_ensureCapacityInternal_0 ?_
  obtain ⟨r1, fr1, hw⟩ := hw
  refine a_getf (pc := 1) C (ref := "java/lang/AbstractStringBuilder") in_J4 (ci := 10) rfl 0 (by decide) q284 rfl (fun h n u hV => o_fld fr1 hV) dJ3_ensureCapacityInternal_1 ?_
  obtain ⟨n2, f4, af4, hw⟩ := hw
  refine a_alen (pc := 4) C (kd := 2) (fun h n u hV => o_arr af4 hV) (fun _ => rfl) rfl dJ3_ensureCapacityInternal_4 ?_
  refine a_aload_0 (pc := 5) C dJ3_ensureCapacityInternal_5 ?_
  obtain ⟨x5, fx5, hw⟩ := hw
  refine a_getf (pc := 6) C (ref := "java/lang/AbstractStringBuilder") in_J4 (ci := 10) rfl 1 (by decide) q285 rfl (fun h n u hV => o_fld fx5 hV) dJ3_ensureCapacityInternal_6 ?_
  refine a_ishr (pc := 9) C dJ3_ensureCapacityInternal_9 ?_
  refine a_topi (fun x6 ex6 => ?_)
  have hw := hw x6 ex6
  refine a_istore_2 (pc := 10) C dJ3_ensureCapacityInternal_10 (by decide) rfl ?_
  refine a_iload_1 (pc := 11) C dJ3_ensureCapacityInternal_11 ?_
  refine a_iload_2 (pc := 12) C dJ3_ensureCapacityInternal_12 ?_
  refine a_isub (pc := 13) C dJ3_ensureCapacityInternal_13 ?_
  refine a_if_le (pc := 14) C 38 dJ3_ensureCapacityInternal_14 (by decide) (fun c7 => ?_) (fun c7 => ?_)
  · have hw := hw.1 c7
    exact a_vret C dJ3_ensureCapacityInternal_38 (fun h n u hV => ⟨⟨_, rfl, hw, hV⟩, o_end hs hV⟩)
  · have hw := hw.2 c7
    refine a_aload_0 (pc := 17) C dJ3_ensureCapacityInternal_17 ?_
    refine a_aload_0 (pc := 18) C dJ3_ensureCapacityInternal_18 ?_
    obtain ⟨r8, fr8, hw⟩ := hw
    refine a_getf (pc := 19) C (ref := "java/lang/AbstractStringBuilder") in_J4 (ci := 10) rfl 0 (by decide) q284 rfl (fun h n u hV => o_fld fr8 hV) dJ3_ensureCapacityInternal_19 ?_
    refine a_aload_0 (pc := 22) C dJ3_ensureCapacityInternal_22 ?_
    refine a_iload_1 (pc := 23) C dJ3_ensureCapacityInternal_23 ?_
    refine o_callPi (pc := 24) C hs [.int p1] (b := a) (ci := 10) (st := [.ref r8, .ref a]) (fun h n u hB => ct_J3_newCapacity l G a _ E _ _ hw.2 h n u hB) (by decide) (by decide) rfl hw.1 q73 q354 q356 (by decide) q388 rfl (lw_meth q357) sg_J3_newCapacity (Nat.le_of_ble_eq_true rfl) dJ3_ensureCapacityInternal_24 (fun v10 σ9 hw => ?_)
    refine a_aload_0 (pc := 27) C dJ3_ensureCapacityInternal_27 ?_
    obtain ⟨x11, fx11, hw⟩ := hw
    refine a_getf (pc := 28) C (ref := "java/lang/AbstractStringBuilder") in_J4 (ci := 10) rfl 1 (by decide) q285 rfl (fun h n u hV => o_fld fx11 hV) dJ3_ensureCapacityInternal_28 ?_
    refine a_ishl (pc := 31) C dJ3_ensureCapacityInternal_31 ?_
    refine o_callSr (pc := 32) C hs [.ref r8, .int (v10 <<< (x11 &&& 31))] (st := [.ref a]) (fun h n u hB => ct_J12_copyOf l G _ _ E _ _ hw h n u hB) (by decide) (by decide) (lw_S q369 q370 q83 q371) sg_J12_copyOf (Nat.le_of_ble_eq_true rfl) dJ3_ensureCapacityInternal_32 (fun r13 σ12 hw => ?_)
    obtain ⟨fs15, ffs15, kfs15, hw⟩ := hw
    refine a_putf (pc := 35) C (ref := "java/lang/AbstractStringBuilder") (V1 := OW h0 n0 u0 E σ.2.2.1 (oPut σ12 a (.inr (10, fs15.set 0 (.ref r13))))) in_J4 tyJ4 tyJ4_ok nmJ4 (ci := 10) rfl 0 (by decide) q284 rfl rfl rfl rfl (fun h n u hV => o_put (by decide) ffs15 kfs15 hV) dJ3_ensureCapacityInternal_35 (o_top (fun σ14 eσ14 => ?_))
    have hw := hw σ14 eσ14
    exact a_vret C dJ3_ensureCapacityInternal_38 (fun h n u hV => ⟨⟨_, rfl, hw, hV⟩, o_end hs hV⟩)
def wp_J18_canEncode (p1 : Int32) (σ : OS) (Q : Int32 → OS → Prop) : Prop := (((255 < p1) → (Q 0 σ)) ∧ ((¬ 255 < p1) → (Q 1 σ)))
theorem sg_J18_canEncode : aSig yJ18_canEncode 1 := by decide +kernel
set_option maxHeartbeats 4000000 in
theorem ct_J18_canEncode (l : Launch) (G : aG) (p1 : Int32) (E : Nat → Prop) (σ : OS) (Q : Int32 → OS → Prop) (hw : wp_J18_canEncode p1 σ Q) (h0 : AH) (n0 u0 : Nat) (hB : OB h0 n0 E σ) : CT l yJ18_canEncode (ws_ yJ18_canEncode cJ18_canEncode 1 (some .boolean)) 1 G [.int p1] h0 n0 u0 σ.2.2.1 (10 * σ.2.2.1) (o_pi Q h0 n0 u0 E σ.2.2.1) := by
  refine CT.intro [some (.int p1)] pn_RJ18 rfl (Nat.le_of_ble_eq_true rfl) ?_
  intro p e s m args below meth c C hz hu
  have hs : s.heap.size = n0 ∧ slT s.heap = u0 := ⟨hz, hu⟩
  refine a_world (V1 := OW h0 n0 u0 E σ.2.2.1 σ) (OW.start hB) ?_
  unfold wp_J18_canEncode at hw
  refine a_iload_0 (pc := 0) C dJ18_canEncode_0 ?_
  refine a_sipush (pc := 1) C dJ18_canEncode_1 sc_255 ?_
  refine a_icmp_gt (pc := 4) C 11 dJ18_canEncode_4 (by decide) (fun c1 => ?_) (fun c1 => ?_)
  · have hw := hw.1 c1
    refine a_iconst (pc := 11) C dJ18_canEncode_11 ic_0 ?_
    exact a_zret rfl C dJ18_canEncode_12 (fun h n u hV => ⟨⟨(_, _), rfl, hw, hV⟩, o_end hs hV⟩)
  · have hw := hw.2 c1
    refine a_iconst (pc := 7) C dJ18_canEncode_7 ic_1 ?_
    refine a_goto (pc := 8) C 12 dJ18_canEncode_8 (by decide) ?_
    exact a_zret rfl C dJ18_canEncode_12 (fun h n u hV => ⟨⟨(_, _), rfl, hw, hV⟩, o_end hs hV⟩)
def wp_J3_append_3 (a : Nat) (p1 : Int32) (σ : OS) (Q : Nat → OS → Prop) : Prop := (∃ x1 : Int32, oF σ a 10 3 (.int x1) ∧ (oC σ a 10 ∧ wp_J3_ensureCapacityInternal a (x1 + 1) σ (fun σ2 => (oC σ2 a 10 ∧ wp_J3_isLatin1 a σ2 (fun v4 σ3 => (((v4 = 0) → False) ∧ ((¬ v4 = 0) → wp_J18_canEncode p1 σ3 (fun v7 σ6 => (((v7 = 0) → False) ∧ ((¬ v7 = 0) → (∃ r9 : Nat, oF σ6 a 10 0 (.ref r9) ∧ (∃ x10 : Int32, oF σ6 a 10 3 (.int x10) ∧ (∃ fs12 : List Value, σ6.1 a = some (.inr (10, fs12)) ∧ 3 < fs12.length ∧ ∀ σ11 : OS, σ11 = (oPut σ6 a (.inr (10, fs12.set 3 (.int (x10 + 1))))) → (∃ (n14 : Nat) (f15 : Nat → Int32), σ11.1 r9 = some (.inl (2, n14, .inl f15)) ∧ vp_in x10 n14 ∧ ∀ σ13 : OS, σ13 = oPut σ11 r9 (.inl (2, n14, .inl (upd f15 x10.toNatClampNeg (p1.toInt8.toInt32).toInt8.toInt32))) → (Q a σ13)))))))))))))))
theorem sg_J3_append_3 : aSig yJ3_append_3 1 := by decide +kernel
set_option maxHeartbeats 4000000 in
theorem ct_J3_append_3 (l : Launch) (G : aG) (a : Nat) (p1 : Int32) (E : Nat → Prop) (σ : OS) (Q : Nat → OS → Prop) (hw : wp_J3_append_3 a p1 σ Q) (h0 : AH) (n0 u0 : Nat) (hB : OB h0 n0 E σ) : CT l yJ3_append_3 (ws_ yJ3_append_3 cJ3_append_3 2 (some (.object "java/lang/AbstractStringBuilder"))) 5 G [.ref a, .int p1] h0 n0 u0 σ.2.2.1 (10 * σ.2.2.1) (o_pr Q h0 n0 u0 E σ.2.2.1) := by
  refine CT.intro [some (.ref a), some (.int p1)] pn_RJ3 rfl (Nat.le_of_ble_eq_true rfl) ?_
  intro p e s m args below meth c C hz hu
  have hs : s.heap.size = n0 ∧ slT s.heap = u0 := ⟨hz, hu⟩
  refine a_world (V1 := OW h0 n0 u0 E σ.2.2.1 σ) (OW.start hB) ?_
  unfold wp_J3_append_3 at hw
  refine a_aload_0 (pc := 0) C dJ3_append_3_0 ?_
  refine a_aload_0 (pc := 1) C dJ3_append_3_1 ?_
  obtain ⟨x1, fx1, hw⟩ := hw
  refine a_getf (pc := 2) C (ref := "java/lang/AbstractStringBuilder") in_J4 (ci := 10) rfl 3 (by decide) q288 rfl (fun h n u hV => o_fld fx1 hV) dJ3_append_3_2 ?_
  refine a_iconst (pc := 5) C dJ3_append_3_5 ic_1 ?_
  refine a_iadd (pc := 6) C dJ3_append_3_6 ?_
  refine o_callPv (pc := 7) C hs [.int (x1 + 1)] (b := a) (ci := 10) (st := []) (fun h n u hB => ct_J3_ensureCapacityInternal l G a _ E _ _ hw.2 h n u hB) (by decide) (by decide) rfl hw.1 q73 q350 q352 (by decide) q388 rfl (lw_meth q353) sg_J3_ensureCapacityInternal (Nat.le_of_ble_eq_true rfl) dJ3_append_3_7 (fun σ2 hw => ?_)
  refine a_aload_0 (pc := 10) C dJ3_append_3_10 ?_
  refine o_callVi (pc := 11) C hs [] (b := a) (ci := 10) (st := []) (fun h n u hB => ct_J3_isLatin1 l G a E _ _ hw.2 h n u hB) (by decide) (by decide) rfl hw.1 q73 q385 q386 q388 (lw_meth q389) sg_J3_isLatin1 (Nat.le_of_ble_eq_true rfl) dJ3_append_3_11 (fun v4 σ3 hw => ?_)
  refine a_if_eq (pc := 14) C 45 dJ3_append_3_14 (by decide) (fun c5 => ?_) (fun c5 => ?_)
  · have hw := hw.1 c5
    exact False.elim hw
  · have hw := hw.2 c5
    refine a_iload_1 (pc := 17) C dJ3_append_3_17 ?_
    refine o_callSi (pc := 18) C hs [.int p1] (st := []) (fun h n u hB => ct_J18_canEncode l G _ E _ _ hw h n u hB) (by decide) (by decide) (lw_S q1484 q1485 q92 q1486) sg_J18_canEncode (Nat.le_of_ble_eq_true rfl) dJ3_append_3_18 (fun v7 σ6 hw => ?_)
    refine a_if_eq (pc := 21) C 45 dJ3_append_3_21 (by decide) (fun c8 => ?_) (fun c8 => ?_)
    · have hw := hw.1 c8
      exact False.elim hw
    · have hw := hw.2 c8
      refine a_aload_0 (pc := 24) C dJ3_append_3_24 ?_
      obtain ⟨r9, fr9, hw⟩ := hw
      refine a_getf (pc := 25) C (ref := "java/lang/AbstractStringBuilder") in_J4 (ci := 10) rfl 0 (by decide) q284 rfl (fun h n u hV => o_fld fr9 hV) dJ3_append_3_25 ?_
      refine a_aload_0 (pc := 28) C dJ3_append_3_28 ?_
      refine a_dup (pc := 29) C dJ3_append_3_29 rfl ?_
      obtain ⟨x10, fx10, hw⟩ := hw
      refine a_getf (pc := 30) C (ref := "java/lang/AbstractStringBuilder") in_J4 (ci := 10) rfl 3 (by decide) q288 rfl (fun h n u hV => o_fld fx10 hV) dJ3_append_3_30 ?_
      refine a_dup_x1 (pc := 33) C dJ3_append_3_33 rfl rfl ?_
      refine a_iconst (pc := 34) C dJ3_append_3_34 ic_1 ?_
      refine a_iadd (pc := 35) C dJ3_append_3_35 ?_
      obtain ⟨fs12, ffs12, kfs12, hw⟩ := hw
      refine a_putf (pc := 36) C (ref := "java/lang/AbstractStringBuilder") (V1 := OW h0 n0 u0 E σ.2.2.1 (oPut σ6 a (.inr (10, fs12.set 3 (.int (x10 + 1)))))) in_J4 tyJ4 tyJ4_ok nmJ4 (ci := 10) rfl 3 (by decide) q288 rfl rfl rfl rfl (fun h n u hV => o_put (by decide) ffs12 kfs12 hV) dJ3_append_3_36 (o_top (fun σ11 eσ11 => ?_))
      have hw := hw σ11 eσ11
      refine a_iload_1 (pc := 39) C dJ3_append_3_39 ?_
      refine a_i2b (pc := 40) C dJ3_append_3_40 ?_
      obtain ⟨n14, f15, af15, if15, hw⟩ := hw
      refine a_bast (pc := 41) C (V1 := OW h0 n0 u0 E σ.2.2.1 (oPut σ11 r9 (.inl (2, n14, .inl (upd f15 x10.toNatClampNeg (p1.toInt8.toInt32).toInt8.toInt32))))) (fun h n u hV => ⟨o_arr af15 hV, hV.putA af15⟩) if15 dJ3_append_3_41 (o_top (fun σ13 eσ13 => ?_))
      have hw := hw σ13 eσ13
      refine a_goto (pc := 42) C 75 dJ3_append_3_42 (by decide) ?_
      refine a_aload_0 (pc := 75) C dJ3_append_3_75 ?_
      exact a_aret (Or.inl ⟨_, rfl⟩) (Or.inr ⟨_, rfl⟩) C dJ3_append_3_76 (fun h n u hV => ⟨⟨(_, _), rfl, hw, hV⟩, o_end hs hV⟩)
def wp_J4_append_3 (a : Nat) (p1 : Int32) (σ : OS) (Q : Nat → OS → Prop) : Prop := (oC σ a 10 ∧ wp_J3_append_3 a p1 σ (fun r2 σ1 => (Q a σ1)))
theorem sg_J4_append_3 : aSig yJ4_append_3 1 := by decide +kernel
set_option maxHeartbeats 4000000 in
theorem ct_J4_append_3 (l : Launch) (G : aG) (a : Nat) (p1 : Int32) (E : Nat → Prop) (σ : OS) (Q : Nat → OS → Prop) (hw : wp_J4_append_3 a p1 σ Q) (h0 : AH) (n0 u0 : Nat) (hB : OB h0 n0 E σ) : CT l yJ4_append_3 (ws_ yJ4_append_3 cJ4_append_3 2 (some (.object "java/lang/StringBuilder"))) 6 G [.ref a, .int p1] h0 n0 u0 σ.2.2.1 (10 * σ.2.2.1) (o_pr Q h0 n0 u0 E σ.2.2.1) := by
  refine CT.intro [some (.ref a), some (.int p1)] pn_RJ4 rfl (Nat.le_of_ble_eq_true rfl) ?_
  intro p e s m args below meth c C hz hu
  have hs : s.heap.size = n0 ∧ slT s.heap = u0 := ⟨hz, hu⟩
  refine a_world (V1 := OW h0 n0 u0 E σ.2.2.1 σ) (OW.start hB) ?_
  unfold wp_J4_append_3 at hw
  refine a_aload_0 (pc := 0) C dJ4_append_3_0 ?_
  refine a_iload_1 (pc := 1) C dJ4_append_3_1 ?_
  refine o_callUr (pc := 2) C hs [.int p1] (b := a) (ci := 10) (st := []) (fun h n u hB => ct_J3_append_3 l G a _ E _ _ hw.2 h n u hB) (by decide) (by decide) rfl hw.1 (lw_SU q1481 q2204 q297 q1482 q73 q1483) sg_J3_append_3 (by decide) (Nat.le_of_ble_eq_true rfl) dJ4_append_3_2 (fun r2 σ1 hw => ?_)
  refine a_pop (pc := 5) C dJ4_append_3_5 rfl ?_
  refine a_aload_0 (pc := 6) C dJ4_append_3_6 ?_
  exact a_aret (Or.inl ⟨_, rfl⟩) (Or.inr ⟨_, rfl⟩) C dJ4_append_3_7 (fun h n u hV => ⟨⟨(_, _), rfl, hw, hV⟩, o_end hs hV⟩)
def wp_J3_setLength (a : Nat) (p1 : Int32) (σ : OS) (Q : OS → Prop) : Prop := (((0 ≤ p1) → (oC σ a 10 ∧ wp_J3_ensureCapacityInternal a p1 σ (fun σ2 => (∃ x3 : Int32, oF σ2 a 10 3 (.int x3) ∧ (((p1 ≤ x3) → (∃ x5 : Int32, oF σ2 a 10 3 (.int x5) ∧ (((x5 ≤ p1) → (∃ fs8 : List Value, σ2.1 a = some (.inr (10, fs8)) ∧ 3 < fs8.length ∧ ∀ σ7 : OS, σ7 = (oPut σ2 a (.inr (10, fs8.set 3 (.int p1)))) → (Q σ7))) ∧ ((¬ x5 ≤ p1) → (∃ fs10 : List Value, σ2.1 a = some (.inr (10, fs10)) ∧ 2 < fs10.length ∧ ∀ σ9 : OS, σ9 = (oPut σ2 a (.inr (10, fs10.set 2 (.int 1)))) → (∃ fs12 : List Value, σ9.1 a = some (.inr (10, fs12)) ∧ 3 < fs12.length ∧ ∀ σ11 : OS, σ11 = (oPut σ9 a (.inr (10, fs12.set 3 (.int p1)))) → (Q σ11))))))) ∧ ((¬ p1 ≤ x3) → False)))))) ∧ ((¬ 0 ≤ p1) → False))
theorem sg_J3_setLength : aSig yJ3_setLength 1 := by decide +kernel
set_option maxHeartbeats 4000000 in
theorem ct_J3_setLength (l : Launch) (G : aG) (a : Nat) (p1 : Int32) (E : Nat → Prop) (σ : OS) (Q : OS → Prop) (hw : wp_J3_setLength a p1 σ Q) (h0 : AH) (n0 u0 : Nat) (hB : OB h0 n0 E σ) : CT l yJ3_setLength (ws_ yJ3_setLength cJ3_setLength 2 none) 5 G [.ref a, .int p1] h0 n0 u0 σ.2.2.1 (10 * σ.2.2.1) (o_pv Q h0 n0 u0 E σ.2.2.1) := by
  refine CT.intro [some (.ref a), some (.int p1)] pn_RJ3 rfl (Nat.le_of_ble_eq_true rfl) ?_
  intro p e s m args below meth c C hz hu
  have hs : s.heap.size = n0 ∧ slT s.heap = u0 := ⟨hz, hu⟩
  refine a_world (V1 := OW h0 n0 u0 E σ.2.2.1 σ) (OW.start hB) ?_
  unfold wp_J3_setLength at hw
  refine a_iload_1 (pc := 0) C dJ3_setLength_0 ?_
  refine a_if_ge (pc := 1) C 13 dJ3_setLength_1 (by decide) (fun c1 => ?_) (fun c1 => ?_)
  · have hw := hw.1 c1
    refine a_aload_0 (pc := 13) C dJ3_setLength_13 ?_
    refine a_iload_1 (pc := 14) C dJ3_setLength_14 ?_
    refine o_callPv (pc := 15) C hs [.int p1] (b := a) (ci := 10) (st := []) (fun h n u hB => ct_J3_ensureCapacityInternal l G a _ E _ _ hw.2 h n u hB) (by decide) (by decide) rfl hw.1 q73 q350 q352 (by decide) q388 rfl (lw_meth q353) sg_J3_ensureCapacityInternal (Nat.le_of_ble_eq_true rfl) dJ3_setLength_15 (fun σ2 hw => ?_)
    refine a_aload_0 (pc := 18) C dJ3_setLength_18 ?_
    obtain ⟨x3, fx3, hw⟩ := hw
    refine a_getf (pc := 19) C (ref := "java/lang/AbstractStringBuilder") in_J4 (ci := 10) rfl 3 (by decide) q288 rfl (fun h n u hV => o_fld fx3 hV) dJ3_setLength_19 ?_
    refine a_iload_1 (pc := 22) C dJ3_setLength_22 ?_
    refine a_icmp_ge (pc := 23) C 63 dJ3_setLength_23 (by decide) (fun c4 => ?_) (fun c4 => ?_)
    · have hw := hw.1 c4
      refine a_aload_0 (pc := 63) C dJ3_setLength_63 ?_
      obtain ⟨x5, fx5, hw⟩ := hw
      refine a_getf (pc := 64) C (ref := "java/lang/AbstractStringBuilder") in_J4 (ci := 10) rfl 3 (by decide) q288 rfl (fun h n u hV => o_fld fx5 hV) dJ3_setLength_64 ?_
      refine a_iload_1 (pc := 67) C dJ3_setLength_67 ?_
      refine a_icmp_le (pc := 68) C 76 dJ3_setLength_68 (by decide) (fun c6 => ?_) (fun c6 => ?_)
      · have hw := hw.1 c6
        refine a_aload_0 (pc := 76) C dJ3_setLength_76 ?_
        refine a_iload_1 (pc := 77) C dJ3_setLength_77 ?_
        obtain ⟨fs8, ffs8, kfs8, hw⟩ := hw
        refine a_putf (pc := 78) C (ref := "java/lang/AbstractStringBuilder") (V1 := OW h0 n0 u0 E σ.2.2.1 (oPut σ2 a (.inr (10, fs8.set 3 (.int p1))))) in_J4 tyJ4 tyJ4_ok nmJ4 (ci := 10) rfl 3 (by decide) q288 rfl rfl rfl rfl (fun h n u hV => o_put (by decide) ffs8 kfs8 hV) dJ3_setLength_78 (o_top (fun σ7 eσ7 => ?_))
        have hw := hw σ7 eσ7
        exact a_vret C dJ3_setLength_81 (fun h n u hV => ⟨⟨_, rfl, hw, hV⟩, o_end hs hV⟩)
      · have hw := hw.2 c6
        refine a_aload_0 (pc := 71) C dJ3_setLength_71 ?_
        refine a_iconst (pc := 72) C dJ3_setLength_72 ic_1 ?_
        obtain ⟨fs10, ffs10, kfs10, hw⟩ := hw
        refine a_putf (pc := 73) C (ref := "java/lang/AbstractStringBuilder") (V1 := OW h0 n0 u0 E σ.2.2.1 (oPut σ2 a (.inr (10, fs10.set 2 (.int 1))))) in_J4 tyJ4 tyJ4_ok nmJ4 (ci := 10) rfl 2 (by decide) q286 rfl rfl rfl rfl (fun h n u hV => o_put (by decide) ffs10 kfs10 hV) dJ3_setLength_73 (o_top (fun σ9 eσ9 => ?_))
        have hw := hw σ9 eσ9
        refine a_aload_0 (pc := 76) C dJ3_setLength_76 ?_
        refine a_iload_1 (pc := 77) C dJ3_setLength_77 ?_
        obtain ⟨fs12, ffs12, kfs12, hw⟩ := hw
        refine a_putf (pc := 78) C (ref := "java/lang/AbstractStringBuilder") (V1 := OW h0 n0 u0 E σ.2.2.1 (oPut σ9 a (.inr (10, fs12.set 3 (.int p1))))) in_J4 tyJ4 tyJ4_ok nmJ4 (ci := 10) rfl 3 (by decide) q288 rfl rfl rfl rfl (fun h n u hV => o_put (by decide) ffs12 kfs12 hV) dJ3_setLength_78 (o_top (fun σ11 eσ11 => ?_))
        have hw := hw σ11 eσ11
        exact a_vret C dJ3_setLength_81 (fun h n u hV => ⟨⟨_, rfl, hw, hV⟩, o_end hs hV⟩)
    · have hw := hw.2 c4
      exact False.elim hw
  · have hw := hw.2 c1
    exact False.elim hw
def wp_J4_setLength (a : Nat) (p1 : Int32) (σ : OS) (Q : OS → Prop) : Prop := (oC σ a 10 ∧ wp_J3_setLength a p1 σ (fun σ1 => (Q σ1)))
theorem sg_J4_setLength : aSig yJ4_setLength 1 := by decide +kernel
set_option maxHeartbeats 4000000 in
theorem ct_J4_setLength (l : Launch) (G : aG) (a : Nat) (p1 : Int32) (E : Nat → Prop) (σ : OS) (Q : OS → Prop) (hw : wp_J4_setLength a p1 σ Q) (h0 : AH) (n0 u0 : Nat) (hB : OB h0 n0 E σ) : CT l yJ4_setLength (ws_ yJ4_setLength cJ4_setLength 2 none) 6 G [.ref a, .int p1] h0 n0 u0 σ.2.2.1 (10 * σ.2.2.1) (o_pv Q h0 n0 u0 E σ.2.2.1) := by
  refine CT.intro [some (.ref a), some (.int p1)] pn_RJ4 rfl (Nat.le_of_ble_eq_true rfl) ?_
  intro p e s m args below meth c C hz hu
  have hs : s.heap.size = n0 ∧ slT s.heap = u0 := ⟨hz, hu⟩
  refine a_world (V1 := OW h0 n0 u0 E σ.2.2.1 σ) (OW.start hB) ?_
  unfold wp_J4_setLength at hw
  refine a_aload_0 (pc := 0) C dJ4_setLength_0 ?_
  refine a_iload_1 (pc := 1) C dJ4_setLength_1 ?_
  refine o_callUv (pc := 2) C hs [.int p1] (b := a) (ci := 10) (st := []) (fun h n u hB => ct_J3_setLength l G a _ E _ _ hw.2 h n u hB) (by decide) (by decide) rfl hw.1 (lw_SU q328 q2191 q297 q329 q73 q330) sg_J3_setLength (by decide) (Nat.le_of_ble_eq_true rfl) dJ4_setLength_2 (fun σ1 hw => ?_)
  exact a_vret C dJ4_setLength_5 (fun h n u hV => ⟨⟨_, rfl, hw, hV⟩, o_end hs hV⟩)
def wp_J19_checkIndex (p1 : Int32) (p2 : Int32) (p3 : Option Nat) (σ : OS) (Q : Int32 → OS → Prop) : Prop := (((p1 < 0) → False) ∧ ((¬ p1 < 0) → (((p1 < p2) → (Q p1 σ)) ∧ ((¬ p1 < p2) → False))))
theorem sg_J19_checkIndex : aSig yJ19_checkIndex 3 := by decide +kernel
set_option maxHeartbeats 4000000 in
theorem ct_J19_checkIndex (l : Launch) (G : aG) (p1 : Int32) (p2 : Int32) (p3 : Option Nat) (E : Nat → Prop) (σ : OS) (Q : Int32 → OS → Prop) (hw : wp_J19_checkIndex p1 p2 p3 σ Q) (h0 : AH) (n0 u0 : Nat) (hB : OB h0 n0 E σ) : CT l yJ19_checkIndex (ws_ yJ19_checkIndex cJ19_checkIndex 3 (some .int)) 1 G [.int p1, .int p2, va_rf p3] h0 n0 u0 σ.2.2.1 (10 * σ.2.2.1) (o_pi Q h0 n0 u0 E σ.2.2.1) := by
  refine CT.intro [some (.int p1), some (.int p2), some (va_rf p3)] pn_RJ19 (by cases p3 <;> rfl) (by cases p3 <;> exact Nat.le_of_ble_eq_true rfl) ?_
  intro p e s m args below meth c C hz hu
  have hs : s.heap.size = n0 ∧ slT s.heap = u0 := ⟨hz, hu⟩
  refine a_world (V1 := OW h0 n0 u0 E σ.2.2.1 σ) (OW.start hB) ?_
  unfold wp_J19_checkIndex at hw
  refine a_iload_0 (pc := 0) C dJ19_checkIndex_0 ?_
  refine a_if_lt (pc := 1) C 9 dJ19_checkIndex_1 (by decide) (fun c1 => ?_) (fun c1 => ?_)
  · have hw := hw.1 c1
    exact False.elim hw
  · have hw := hw.2 c1
    refine a_iload_0 (pc := 4) C dJ19_checkIndex_4 ?_
    refine a_iload_1 (pc := 5) C dJ19_checkIndex_5 ?_
    refine a_icmp_lt (pc := 6) C 16 dJ19_checkIndex_6 (by decide) (fun c2 => ?_) (fun c2 => ?_)
    · have hw := hw.1 c2
      refine a_iload_0 (pc := 16) C dJ19_checkIndex_16 ?_
      exact a_iret C dJ19_checkIndex_17 (fun h n u hV => ⟨⟨(_, _), rfl, hw, hV⟩, o_end hs hV⟩)
    · have hw := hw.2 c2
      exact False.elim hw
def wp_J5_checkIndex (p1 : Int32) (p2 : Int32) (σ : OS) (Q : OS → Prop) : Prop := (∀ b1 : Option Nat, wp_J19_checkIndex p1 p2 b1 σ (fun v3 σ2 => (Q σ2)))
theorem sg_J5_checkIndex : aSig yJ5_checkIndex 2 := by decide +kernel
set_option maxHeartbeats 4000000 in
theorem ct_J5_checkIndex (l : Launch) (G : aG) (p1 : Int32) (p2 : Int32) (E : Nat → Prop) (σ : OS) (Q : OS → Prop) (hw : wp_J5_checkIndex p1 p2 σ Q) (h0 : AH) (n0 u0 : Nat) (hB : OB h0 n0 E σ) : CT l yJ5_checkIndex (ws_ yJ5_checkIndex cJ5_checkIndex 2 none) 2 G [.int p1, .int p2] h0 n0 u0 σ.2.2.1 (10 * σ.2.2.1) (o_pv Q h0 n0 u0 E σ.2.2.1) := by
  refine CT.intro [some (.int p1), some (.int p2)] pn_RJ5 rfl (Nat.le_of_ble_eq_true rfl) ?_
  intro p e s m args below meth c C hz hu
  have hs : s.heap.size = n0 ∧ slT s.heap = u0 := ⟨hz, hu⟩
  refine a_world (V1 := OW h0 n0 u0 E σ.2.2.1 σ) (OW.start hB) ?_
  unfold wp_J5_checkIndex at hw
  refine a_iload_0 (pc := 0) C dJ5_checkIndex_0 ?_
  refine a_iload_1 (pc := 1) C dJ5_checkIndex_1 ?_
  refine a_getsQ (pc := 2) C C.SC.2.2.2.1 q402 rfl dJ5_checkIndex_2 (fun b1 => ?_)
  have hw := hw b1
  refine o_callSi (pc := 5) C hs [.int p1, .int p2, va_rf b1] (st := []) (fun h n u hB => ct_J19_checkIndex l G _ _ _ E _ _ hw h n u hB) (by decide) (by decide) (lw_S q851 q852 q93 q853) sg_J19_checkIndex (Nat.le_of_ble_eq_true rfl) dJ5_checkIndex_5 (fun v3 σ2 hw => ?_)
  refine a_pop (pc := 8) C dJ5_checkIndex_8 rfl ?_
  exact a_vret C dJ5_checkIndex_9 (fun h n u hV => ⟨⟨_, rfl, hw, hV⟩, o_end hs hV⟩)
def wp_J3_charAt (a : Nat) (p1 : Int32) (σ : OS) (Q : Int32 → OS → Prop) : Prop := (∃ x1 : Int32, oF σ a 10 1 (.int x1) ∧ (∃ r2 : Nat, oF σ a 10 0 (.ref r2) ∧ (∃ x3 : Int32, oF σ a 10 3 (.int x3) ∧ (∃ (n4 : Nat) (f6 : Nat → Int32), σ.1 r2 = some (.inl (2, n4, .inl f6)) ∧ (∀ v7 : Int32, v7 = iMin x3 ((Int32.ofNat n4) >>> (x1 &&& 31)) → wp_J5_checkIndex p1 v7 σ (fun σ8 => (((¬ x1 = 0) → False) ∧ ((x1 = 0) → (∃ (n10 : Nat) (f11 : Nat → Int32), σ8.1 r2 = some (.inl (2, n10, .inl f11)) ∧ vp_in p1 n10 ∧ (narrow .char (.int ((((f11 p1.toNatClampNeg) &&& 255).toUInt32 % 65536).toInt32)) = .int ((((f11 p1.toNatClampNeg) &&& 255).toUInt32 % 65536).toInt32) ∧ (Q ((((f11 p1.toNatClampNeg) &&& 255).toUInt32 % 65536).toInt32) σ8)))))))))))
theorem sg_J3_charAt : aSig yJ3_charAt 1 := by decide +kernel
set_option maxHeartbeats 4000000 in
theorem ct_J3_charAt (l : Launch) (G : aG) (a : Nat) (p1 : Int32) (E : Nat → Prop) (σ : OS) (Q : Int32 → OS → Prop) (hw : wp_J3_charAt a p1 σ Q) (h0 : AH) (n0 u0 : Nat) (hB : OB h0 n0 E σ) : CT l yJ3_charAt (ws_ yJ3_charAt cJ3_charAt 5 (some .char)) 3 G [.ref a, .int p1] h0 n0 u0 σ.2.2.1 (10 * σ.2.2.1) (o_pi Q h0 n0 u0 E σ.2.2.1) := by
  refine CT.intro [some (.ref a), some (.int p1), none, none, none] pn_RJ3 rfl (Nat.le_of_ble_eq_true rfl) ?_
  intro p e s m args below meth c C hz hu
  have hs : s.heap.size = n0 ∧ slT s.heap = u0 := ⟨hz, hu⟩
  refine a_world (V1 := OW h0 n0 u0 E σ.2.2.1 σ) (OW.start hB) ?_
  unfold wp_J3_charAt at hw
  refine a_aload_0 (pc := 0) C dJ3_charAt_0 ?_
  obtain ⟨x1, fx1, hw⟩ := hw
  refine a_getf (pc := 1) C (ref := "java/lang/AbstractStringBuilder") in_J4 (ci := 10) rfl 1 (by decide) q285 rfl (fun h n u hV => o_fld fx1 hV) dJ3_charAt_1 ?_
  refine a_istore_2 (pc := 4) C dJ3_charAt_4 (by decide) rfl ?_
  refine a_aload_0 (pc := 5) C dJ3_charAt_5 ?_
  obtain ⟨r2, fr2, hw⟩ := hw
  refine a_getf (pc := 6) C (ref := "java/lang/AbstractStringBuilder") in_J4 (ci := 10) rfl 0 (by decide) q284 rfl (fun h n u hV => o_fld fr2 hV) dJ3_charAt_6 ?_
  refine a_astore_3 (pc := 9) C dJ3_charAt_9 (by decide) rfl ?_
  refine a_aload_0 (pc := 10) C dJ3_charAt_10 ?_
  obtain ⟨x3, fx3, hw⟩ := hw
  refine a_getf (pc := 11) C (ref := "java/lang/AbstractStringBuilder") in_J4 (ci := 10) rfl 3 (by decide) q288 rfl (fun h n u hV => o_fld fx3 hV) dJ3_charAt_11 ?_
  refine a_aload_3 (pc := 14) C dJ3_charAt_14 ?_
  obtain ⟨n4, f6, af6, hw⟩ := hw
  refine a_alen (pc := 15) C (kd := 2) (fun h n u hV => o_arr af6 hV) (fun _ => rfl) rfl dJ3_charAt_15 ?_
  refine a_iload_2 (pc := 16) C dJ3_charAt_16 ?_
  refine a_ishr (pc := 17) C dJ3_charAt_17 ?_
  refine a_mmin (pc := 18) C (MC := σ.2.2.1) (MS := 10 * σ.2.2.1) (by decide) (fun h n u hV => o_end hs hV) q847 (Nat.le_of_ble_eq_true rfl) dJ3_charAt_18 (a_topi (fun v7 ev7 => ?_))
  have hw := hw v7 ev7
  refine a_istore_4 (pc := 21) C dJ3_charAt_21 (by decide) rfl ?_
  refine a_iload_1 (pc := 23) C dJ3_charAt_23 ?_
  refine a_iload_4 (pc := 24) C dJ3_charAt_24 ?_
  refine o_callSv (pc := 26) C hs [.int p1, .int v7] (st := []) (fun h n u hB => ct_J5_checkIndex l G _ _ E _ _ hw h n u hB) (by decide) (by decide) (lw_S q848 q849 q75 q850) sg_J5_checkIndex (Nat.le_of_ble_eq_true rfl) dJ3_charAt_26 (fun σ8 hw => ?_)
  refine a_iload_2 (pc := 29) C dJ3_charAt_29 ?_
  refine a_if_ne (pc := 30) C 42 dJ3_charAt_30 (by decide) (fun c9 => ?_) (fun c9 => ?_)
  · have hw := hw.1 c9
    exact False.elim hw
  · have hw := hw.2 c9
    refine a_aload_3 (pc := 33) C dJ3_charAt_33 ?_
    refine a_iload_1 (pc := 34) C dJ3_charAt_34 ?_
    obtain ⟨n10, f11, af11, if11, hw⟩ := hw
    refine a_bald (pc := 35) C (fun h n u hV => o_arr af11 hV) if11 dJ3_charAt_35 ?_
    refine a_sipush (pc := 36) C dJ3_charAt_36 sc_255 ?_
    refine a_iand (pc := 39) C dJ3_charAt_39 ?_
    refine a_i2c (pc := 40) C dJ3_charAt_40 ?_
    have hz := hw.1
    have hw := hw.2
    exact a_zret hz C dJ3_charAt_41 (fun h n u hV => ⟨⟨(_, _), rfl, hw, hV⟩, o_end hs hV⟩)
def wp_J4_charAt (a : Nat) (p1 : Int32) (σ : OS) (Q : Int32 → OS → Prop) : Prop := (oC σ a 10 ∧ wp_J3_charAt a p1 σ (fun v2 σ1 => (narrow .char (.int v2) = .int v2 ∧ (Q v2 σ1))))
theorem sg_J4_charAt : aSig yJ4_charAt 1 := by decide +kernel
set_option maxHeartbeats 4000000 in
theorem ct_J4_charAt (l : Launch) (G : aG) (a : Nat) (p1 : Int32) (E : Nat → Prop) (σ : OS) (Q : Int32 → OS → Prop) (hw : wp_J4_charAt a p1 σ Q) (h0 : AH) (n0 u0 : Nat) (hB : OB h0 n0 E σ) : CT l yJ4_charAt (ws_ yJ4_charAt cJ4_charAt 2 (some .char)) 4 G [.ref a, .int p1] h0 n0 u0 σ.2.2.1 (10 * σ.2.2.1) (o_pi Q h0 n0 u0 E σ.2.2.1) := by
  refine CT.intro [some (.ref a), some (.int p1)] pn_RJ4 rfl (Nat.le_of_ble_eq_true rfl) ?_
  intro p e s m args below meth c C hz hu
  have hs : s.heap.size = n0 ∧ slT s.heap = u0 := ⟨hz, hu⟩
  refine a_world (V1 := OW h0 n0 u0 E σ.2.2.1 σ) (OW.start hB) ?_
  unfold wp_J4_charAt at hw
  refine a_aload_0 (pc := 0) C dJ4_charAt_0 ?_
  refine a_iload_1 (pc := 1) C dJ4_charAt_1 ?_
  refine o_callUi (pc := 2) C hs [.int p1] (b := a) (ci := 10) (st := []) (fun h n u hB => ct_J3_charAt l G a _ E _ _ hw.2 h n u hB) (by decide) (by decide) rfl hw.1 (lw_SU q844 q2203 q297 q845 q73 q846) sg_J3_charAt (by decide) (Nat.le_of_ble_eq_true rfl) dJ4_charAt_2 (fun v2 σ1 hw => ?_)
  have hz := hw.1
  have hw := hw.2
  exact a_zret hz C dJ4_charAt_5 (fun h n u hV => ⟨⟨(_, _), rfl, hw, hV⟩, o_end hs hV⟩)
def wp_J19_checkFromToIndex (p1 : Int32) (p2 : Int32) (p3 : Int32) (p4 : Option Nat) (σ : OS) (Q : Int32 → OS → Prop) : Prop := (((p1 < 0) → False) ∧ ((¬ p1 < 0) → (((p2 < p1) → False) ∧ ((¬ p2 < p1) → (((p2 ≤ p3) → (Q p1 σ)) ∧ ((¬ p2 ≤ p3) → False))))))
theorem sg_J19_checkFromToIndex : aSig yJ19_checkFromToIndex 4 := by decide +kernel
set_option maxHeartbeats 4000000 in
theorem ct_J19_checkFromToIndex (l : Launch) (G : aG) (p1 : Int32) (p2 : Int32) (p3 : Int32) (p4 : Option Nat) (E : Nat → Prop) (σ : OS) (Q : Int32 → OS → Prop) (hw : wp_J19_checkFromToIndex p1 p2 p3 p4 σ Q) (h0 : AH) (n0 u0 : Nat) (hB : OB h0 n0 E σ) : CT l yJ19_checkFromToIndex (ws_ yJ19_checkFromToIndex cJ19_checkFromToIndex 4 (some .int)) 1 G [.int p1, .int p2, .int p3, va_rf p4] h0 n0 u0 σ.2.2.1 (10 * σ.2.2.1) (o_pi Q h0 n0 u0 E σ.2.2.1) := by
  refine CT.intro [some (.int p1), some (.int p2), some (.int p3), some (va_rf p4)] pn_RJ19 (by cases p4 <;> rfl) (by cases p4 <;> exact Nat.le_of_ble_eq_true rfl) ?_
  intro p e s m args below meth c C hz hu
  have hs : s.heap.size = n0 ∧ slT s.heap = u0 := ⟨hz, hu⟩
  refine a_world (V1 := OW h0 n0 u0 E σ.2.2.1 σ) (OW.start hB) ?_
  unfold wp_J19_checkFromToIndex at hw
  refine a_iload_0 (pc := 0) C dJ19_checkFromToIndex_0 ?_
  refine a_if_lt (pc := 1) C 14 dJ19_checkFromToIndex_1 (by decide) (fun c1 => ?_) (fun c1 => ?_)
  · have hw := hw.1 c1
    exact False.elim hw
  · have hw := hw.2 c1
    refine a_iload_0 (pc := 4) C dJ19_checkFromToIndex_4 ?_
    refine a_iload_1 (pc := 5) C dJ19_checkFromToIndex_5 ?_
    refine a_icmp_gt (pc := 6) C 14 dJ19_checkFromToIndex_6 (by decide) (fun c2 => ?_) (fun c2 => ?_)
    · have hw := hw.1 c2
      exact False.elim hw
    · have hw := hw.2 c2
      refine a_iload_1 (pc := 9) C dJ19_checkFromToIndex_9 ?_
      refine a_iload_2 (pc := 10) C dJ19_checkFromToIndex_10 ?_
      refine a_icmp_le (pc := 11) C 22 dJ19_checkFromToIndex_11 (by decide) (fun c3 => ?_) (fun c3 => ?_)
      · have hw := hw.1 c3
        refine a_iload_0 (pc := 22) C dJ19_checkFromToIndex_22 ?_
        exact a_iret C dJ19_checkFromToIndex_23 (fun h n u hV => ⟨⟨(_, _), rfl, hw, hV⟩, o_end hs hV⟩)
      · have hw := hw.2 c3
        exact False.elim hw
def wp_J5_init_3 (a : Nat) (p1 : Nat) (p2 : Int32) (σ : OS) (Q : OS → Prop) : Prop := (∃ fs2 : List Value, σ.1 a = some (.inr (11, fs2)) ∧ 0 < fs2.length ∧ ∀ σ1 : OS, σ1 = (oPut σ a (.inr (11, fs2.set 0 (.ref p1)))) → (∃ fs4 : List Value, σ1.1 a = some (.inr (11, fs4)) ∧ 1 < fs4.length ∧ narrow .byte (.int p2) = .int p2 ∧ fits .byte (.int p2) = true ∧ ∀ σ3 : OS, σ3 = (oPut σ1 a (.inr (11, fs4.set 1 (.int p2)))) → (Q σ3)))
theorem sg_J5_init_3 : aSig yJ5_init_3 2 := by decide +kernel
set_option maxHeartbeats 4000000 in
theorem ct_J5_init_3 (l : Launch) (G : aG) (a : Nat) (p1 : Nat) (p2 : Int32) (E : Nat → Prop) (σ : OS) (Q : OS → Prop) (hw : wp_J5_init_3 a p1 p2 σ Q) (h0 : AH) (n0 u0 : Nat) (hB : OB h0 n0 E σ) : CT l yJ5_init_3 (ws_ yJ5_init_3 cJ5_init_3 3 none) 2 G [.ref a, .ref p1, .int p2] h0 n0 u0 σ.2.2.1 (10 * σ.2.2.1) (o_pv Q h0 n0 u0 E σ.2.2.1) := by
  refine CT.intro [some (.ref a), some (.ref p1), some (.int p2)] pn_RJ5 rfl (Nat.le_of_ble_eq_true rfl) ?_
  intro p e s m args below meth c C hz hu
  have hs : s.heap.size = n0 ∧ slT s.heap = u0 := ⟨hz, hu⟩
  refine a_world (V1 := OW h0 n0 u0 E σ.2.2.1 σ) (OW.start hB) ?_
  unfold wp_J5_init_3 at hw
  refine a_aload_0 (pc := 0) C dJ5_init_3_0 ?_
  refine a_objInit (pc := 1) C q496 q107 q108 (by decide) (Nat.le_of_ble_eq_true rfl) dJ5_init_3_1 ?_
  refine a_aload_0 (pc := 4) C dJ5_init_3_4 ?_
  refine a_aload_1 (pc := 5) C dJ5_init_3_5 ?_
  obtain ⟨fs2, ffs2, kfs2, hw⟩ := hw
  refine a_putfF (pc := 6) C (ref := "java/lang/String") (V1 := OW h0 n0 u0 E σ.2.2.1 (oPut σ a (.inr (11, fs2.set 0 (.ref p1))))) in_J5 tyJ5 tyJ5_ok nmJ5 (ci := 11) rfl 0 (by decide) q601 rfl rfl rfl rfl rfl rfl (fun h n u hV => o_put (by decide) ffs2 kfs2 hV) dJ5_init_3_6 (o_top (fun σ1 eσ1 => ?_))
  have hw := hw σ1 eσ1
  refine a_aload_0 (pc := 9) C dJ5_init_3_9 ?_
  refine a_iload_2 (pc := 10) C dJ5_init_3_10 ?_
  obtain ⟨fs4, ffs4, kfs4, hn1, hn2, hw⟩ := hw
  refine a_putfF (pc := 11) C (ref := "java/lang/String") (V1 := OW h0 n0 u0 E σ.2.2.1 (oPut σ1 a (.inr (11, fs4.set 1 (.int p2))))) in_J5 tyJ5 tyJ5_ok nmJ5 (ci := 11) rfl 1 (by decide) q602 rfl rfl rfl rfl hn1 hn2 (fun h n u hV => o_put (by decide) ffs4 kfs4 hV) dJ5_init_3_11 (o_top (fun σ3 eσ3 => ?_))
  have hw := hw σ3 eσ3
  exact a_vret C dJ5_init_3_14 (fun h n u hV => ⟨⟨_, rfl, hw, hV⟩, o_end hs hV⟩)
def wp_J12_checkLength (p1 : Int32) (p2 : Int32) (σ : OS) (Q : OS → Prop) : Prop := (((p1 ≤ p2) → (Q σ)) ∧ ((¬ p1 ≤ p2) → False))
theorem sg_J12_checkLength : aSig yJ12_checkLength 2 := by decide +kernel
set_option maxHeartbeats 4000000 in
theorem ct_J12_checkLength (l : Launch) (G : aG) (p1 : Int32) (p2 : Int32) (E : Nat → Prop) (σ : OS) (Q : OS → Prop) (hw : wp_J12_checkLength p1 p2 σ Q) (h0 : AH) (n0 u0 : Nat) (hB : OB h0 n0 E σ) : CT l yJ12_checkLength (ws_ yJ12_checkLength cJ12_checkLength 2 none) 1 G [.int p1, .int p2] h0 n0 u0 σ.2.2.1 (10 * σ.2.2.1) (o_pv Q h0 n0 u0 E σ.2.2.1) := by
  refine CT.intro [some (.int p1), some (.int p2)] pn_RJ12 rfl (Nat.le_of_ble_eq_true rfl) ?_
  intro p e s m args below meth c C hz hu
  have hs : s.heap.size = n0 ∧ slT s.heap = u0 := ⟨hz, hu⟩
  refine a_world (V1 := OW h0 n0 u0 E σ.2.2.1 σ) (OW.start hB) ?_
  unfold wp_J12_checkLength at hw
  refine a_iload_1 (pc := 0) C dJ12_checkLength_0 ?_
  refine a_iload_0 (pc := 1) C dJ12_checkLength_1 ?_
  refine a_icmp_ge (pc := 2) C 37 dJ12_checkLength_2 (by decide) (fun c1 => ?_) (fun c1 => ?_)
  · have hw := hw.1 c1
    exact a_vret C dJ12_checkLength_37 (fun h n u hV => ⟨⟨_, rfl, hw, hV⟩, o_end hs hV⟩)
  · have hw := hw.2 c1
    exact False.elim hw
def wp_J12_copyOfRangeByte (p1 : Nat) (p2 : Int32) (p3 : Int32) (σ : OS) (Q : Nat → OS → Prop) : Prop := wp_J12_checkLength p2 p3 σ (fun σ1 => (¬ (p3 - p2) < 0 ∧ ((p3 - p2)).toNatClampNeg < 65536 ∧ (((p3 - p2)).toNatClampNeg / 10 + 1) ≤ σ1.2.2.1 ∧ ∀ q2 : Nat, oFr σ1 q2 → (σ1.2.2.2.1 ≠ 0 → q2 = σ1.2.2.2.1) → ∀ σ3 : OS, σ3 = oNew σ1 q2 (((p3 - p2)).toNatClampNeg / 10 + 1) (.inl (2, ((p3 - p2)).toNatClampNeg, .inl (fun _ => 0))) → (∃ (n4 : Nat) (f6 : Nat → Int32), σ3.1 p1 = some (.inl (2, n4, .inl f6)) ∧ (∀ v7 : Int32, v7 = iMin ((Int32.ofNat n4) - p2) (p3 - p2) → (∃ (n9 : Nat) (f10 : Nat → Int32) (n11 : Nat) (f12 : Nat → Int32), σ3.1 p1 = some (.inl (2, n9, .inl f10)) ∧ σ3.1 q2 = some (.inl (2, n11, .inl f12)) ∧ (¬ p2 < 0) ∧ (¬ (0 : Int32) < 0) ∧ (¬ v7 < 0) ∧ p2.toNatClampNeg + v7.toNatClampNeg ≤ n9 ∧ (0 : Int32).toNatClampNeg + v7.toNatClampNeg ≤ n11 ∧ (∀ i, i < v7.toNatClampNeg → fits .byte (.int (f10 (p2.toNatClampNeg + i))) = true) ∧ ∀ σ8 : OS, σ8 = oPut σ3 q2 (.inl (2, n11, .inl (va_cpy f10 f12 p2.toNatClampNeg (0 : Int32).toNatClampNeg v7.toNatClampNeg))) → (Q q2 σ8))))))
theorem sg_J12_copyOfRangeByte : aSig yJ12_copyOfRangeByte 3 := by decide +kernel
set_option maxHeartbeats 4000000 in
theorem ct_J12_copyOfRangeByte (l : Launch) (G : aG) (p1 : Nat) (p2 : Int32) (p3 : Int32) (E : Nat → Prop) (σ : OS) (Q : Nat → OS → Prop) (hw : wp_J12_copyOfRangeByte p1 p2 p3 σ Q) (h0 : AH) (n0 u0 : Nat) (hB : OB h0 n0 E σ) : CT l yJ12_copyOfRangeByte (ws_ yJ12_copyOfRangeByte cJ12_copyOfRangeByte 5 (some (.array .byte))) 2 G [.ref p1, .int p2, .int p3] h0 n0 u0 σ.2.2.1 (10 * σ.2.2.1) (o_pr Q h0 n0 u0 E σ.2.2.1) := by
  refine CT.intro [some (.ref p1), some (.int p2), some (.int p3), none, none] pn_RJ12 rfl (Nat.le_of_ble_eq_true rfl) ?_
  intro p e s m args below meth c C hz hu
  have hs : s.heap.size = n0 ∧ slT s.heap = u0 := ⟨hz, hu⟩
  refine a_world (V1 := OW h0 n0 u0 E σ.2.2.1 σ) (OW.start hB) ?_
  unfold wp_J12_copyOfRangeByte at hw
  refine a_iload_1 (pc := 0) C dJ12_copyOfRangeByte_0 ?_
  refine a_iload_2 (pc := 1) C dJ12_copyOfRangeByte_1 ?_
  refine o_callSv (pc := 2) C hs [.int p2, .int p3] (st := []) (fun h n u hB => ct_J12_checkLength l G _ _ E _ _ hw h n u hB) (by decide) (by decide) (lw_S q510 q511 q83 q512) sg_J12_checkLength (Nat.le_of_ble_eq_true rfl) dJ12_copyOfRangeByte_2 (fun σ1 hw => ?_)
  refine a_iload_2 (pc := 5) C dJ12_copyOfRangeByte_5 ?_
  refine a_iload_1 (pc := 6) C dJ12_copyOfRangeByte_6 ?_
  refine a_isub (pc := 7) C dJ12_copyOfRangeByte_7 ?_
  refine a_istore_3 (pc := 8) C dJ12_copyOfRangeByte_8 (by decide) rfl ?_
  refine a_iload_3 (pc := 9) C dJ12_copyOfRangeByte_9 ?_
  refine o_newA (pc := 10) C hs (((p3 - p2)).toNatClampNeg / 10 + 1) (ty := .byte) (kd := 2) (a0 := (((p3 - p2)).toNatClampNeg, .inl (fun _ => 0))) rfl rfl q298 (fun _ => rfl) (fun cA => rfl) hw.1 rfl (by have := hw.2.1; simp only [componentBytes]; omega) (by omega) (by omega) hw.2.2.1 dJ12_copyOfRangeByte_10 (fun q2 frq2 nxq2 σ3 eσ3 => ?_)
  have hw := hw.2.2.2 q2 frq2 nxq2 σ3 eσ3
  refine a_astore_4 (pc := 12) C dJ12_copyOfRangeByte_12 (by decide) rfl ?_
  refine a_aload_0 (pc := 14) C dJ12_copyOfRangeByte_14 ?_
  refine a_iload_1 (pc := 15) C dJ12_copyOfRangeByte_15 ?_
  refine a_aload_4 (pc := 16) C dJ12_copyOfRangeByte_16 ?_
  refine a_iconst (pc := 18) C dJ12_copyOfRangeByte_18 ic_0 ?_
  refine a_aload_0 (pc := 19) C dJ12_copyOfRangeByte_19 ?_
  obtain ⟨n4, f6, af6, hw⟩ := hw
  refine a_alen (pc := 20) C (kd := 2) (fun h n u hV => o_arr af6 hV) (fun _ => rfl) rfl dJ12_copyOfRangeByte_20 ?_
  refine a_iload_1 (pc := 21) C dJ12_copyOfRangeByte_21 ?_
  refine a_isub (pc := 22) C dJ12_copyOfRangeByte_22 ?_
  refine a_iload_3 (pc := 23) C dJ12_copyOfRangeByte_23 ?_
  refine a_mmin (pc := 24) C (MC := σ.2.2.1) (MS := 10 * σ.2.2.1) (by decide) (fun h n u hV => o_end hs hV) q379 (Nat.le_of_ble_eq_true rfl) dJ12_copyOfRangeByte_24 (a_topi (fun v7 ev7 => ?_))
  have hw := hw v7 ev7
  obtain ⟨n9, f10, n11, f12, ya, yb, y1, y2, y3, y4, y5, y6, hw⟩ := hw
  refine a_copyB (pc := 27) C (V1 := OW h0 n0 u0 E σ.2.2.1 (oPut σ3 q2 (.inl (2, n11, .inl (va_cpy f10 f12 p2.toNatClampNeg (0 : Int32).toNatClampNeg v7.toNatClampNeg))))) (fun h n u hV => ⟨o_arr ya hV, o_arr yb hV, hV.putA yb⟩) y1 y2 y3 y4 y5 y6 (by decide) q382 (Nat.le_of_ble_eq_true rfl) dJ12_copyOfRangeByte_27 (o_top (fun σ8 eσ8 => ?_))
  have hw := hw σ8 eσ8
  refine a_aload_4 (pc := 30) C dJ12_copyOfRangeByte_30 ?_
  exact a_aret (Or.inr ⟨_, rfl⟩) (Or.inr ⟨_, rfl⟩) C dJ12_copyOfRangeByte_32 (fun h n u hV => ⟨⟨(_, _), rfl, hw, hV⟩, o_end hs hV⟩)
def wp_J12_copyOfRange (p1 : Nat) (p2 : Int32) (p3 : Int32) (σ : OS) (Q : Nat → OS → Prop) : Prop := (((¬ p2 = 0) → wp_J12_copyOfRangeByte p1 p2 p3 σ (fun r3 σ2 => (Q r3 σ2))) ∧ ((p2 = 0) → (∃ (n4 : Nat) (f6 : Nat → Int32), σ.1 p1 = some (.inl (2, n4, .inl f6)) ∧ (((p3 = (Int32.ofNat n4)) → False) ∧ ((¬ p3 = (Int32.ofNat n4)) → wp_J12_copyOfRangeByte p1 p2 p3 σ (fun r9 σ8 => (Q r9 σ8)))))))
theorem sg_J12_copyOfRange : aSig yJ12_copyOfRange 3 := by decide +kernel
set_option maxHeartbeats 4000000 in
theorem ct_J12_copyOfRange (l : Launch) (G : aG) (p1 : Nat) (p2 : Int32) (p3 : Int32) (E : Nat → Prop) (σ : OS) (Q : Nat → OS → Prop) (hw : wp_J12_copyOfRange p1 p2 p3 σ Q) (h0 : AH) (n0 u0 : Nat) (hB : OB h0 n0 E σ) : CT l yJ12_copyOfRange (ws_ yJ12_copyOfRange cJ12_copyOfRange 3 (some (.array .byte))) 3 G [.ref p1, .int p2, .int p3] h0 n0 u0 σ.2.2.1 (10 * σ.2.2.1) (o_pr Q h0 n0 u0 E σ.2.2.1) := by
  refine CT.intro [some (.ref p1), some (.int p2), some (.int p3)] pn_RJ12 rfl (Nat.le_of_ble_eq_true rfl) ?_
  intro p e s m args below meth c C hz hu
  have hs : s.heap.size = n0 ∧ slT s.heap = u0 := ⟨hz, hu⟩
  refine a_world (V1 := OW h0 n0 u0 E σ.2.2.1 σ) (OW.start hB) ?_
  unfold wp_J12_copyOfRange at hw
  refine a_iload_1 (pc := 0) C dJ12_copyOfRange_0 ?_
  refine a_if_ne (pc := 1) C 10 dJ12_copyOfRange_1 (by decide) (fun c1 => ?_) (fun c1 => ?_)
  · have hw := hw.1 c1
    refine a_aload_0 (pc := 10) C dJ12_copyOfRange_10 ?_
    refine a_iload_1 (pc := 11) C dJ12_copyOfRange_11 ?_
    refine a_iload_2 (pc := 12) C dJ12_copyOfRange_12 ?_
    refine o_callSr (pc := 13) C hs [.ref p1, .int p2, .int p3] (st := []) (fun h n u hB => ct_J12_copyOfRangeByte l G _ _ _ E _ _ hw h n u hB) (by decide) (by decide) (lw_S q507 q508 q83 q509) sg_J12_copyOfRangeByte (Nat.le_of_ble_eq_true rfl) dJ12_copyOfRange_13 (fun r3 σ2 hw => ?_)
    exact a_aret (Or.inr ⟨_, rfl⟩) (Or.inr ⟨_, rfl⟩) C dJ12_copyOfRange_16 (fun h n u hV => ⟨⟨(_, _), rfl, hw, hV⟩, o_end hs hV⟩)
  · have hw := hw.2 c1
    refine a_iload_2 (pc := 4) C dJ12_copyOfRange_4 ?_
    refine a_aload_0 (pc := 5) C dJ12_copyOfRange_5 ?_
    obtain ⟨n4, f6, af6, hw⟩ := hw
    refine a_alen (pc := 6) C (kd := 2) (fun h n u hV => o_arr af6 hV) (fun _ => rfl) rfl dJ12_copyOfRange_6 ?_
    refine a_icmp_eq (pc := 7) C 17 dJ12_copyOfRange_7 (by decide) (fun c7 => ?_) (fun c7 => ?_)
    · have hw := hw.1 c7
      exact False.elim hw
    · have hw := hw.2 c7
      refine a_aload_0 (pc := 10) C dJ12_copyOfRange_10 ?_
      refine a_iload_1 (pc := 11) C dJ12_copyOfRange_11 ?_
      refine a_iload_2 (pc := 12) C dJ12_copyOfRange_12 ?_
      refine o_callSr (pc := 13) C hs [.ref p1, .int p2, .int p3] (st := []) (fun h n u hB => ct_J12_copyOfRangeByte l G _ _ _ E _ _ hw h n u hB) (by decide) (by decide) (lw_S q507 q508 q83 q509) sg_J12_copyOfRangeByte (Nat.le_of_ble_eq_true rfl) dJ12_copyOfRange_13 (fun r9 σ8 hw => ?_)
      exact a_aret (Or.inr ⟨_, rfl⟩) (Or.inr ⟨_, rfl⟩) C dJ12_copyOfRange_16 (fun h n u hV => ⟨⟨(_, _), rfl, hw, hV⟩, o_end hs hV⟩)
def wp_J18_newString (p1 : Nat) (p2 : Int32) (p3 : Int32) (σ : OS) (Q : Nat → OS → Prop) : Prop := (((¬ p3 = 0) → (1 ≤ σ.2.2.1 ∧ ∀ q2 : Nat, oFr σ q2 → (σ.2.2.2.1 ≠ 0 → q2 = σ.2.2.2.1) → ∀ σ3 : OS, σ3 = oNew σ q2 1 (.inr (11, [.null, .int 0, .int 0, .int 0])) → wp_J12_copyOfRange p1 p2 (p2 + p3) σ3 (fun r5 σ4 => wp_J5_init_3 q2 r5 0 σ4 (fun σ6 => (Q q2 σ6))))) ∧ ((p3 = 0) → False))
theorem sg_J18_newString : aSig yJ18_newString 3 := by decide +kernel
set_option maxHeartbeats 4000000 in
theorem ct_J18_newString (l : Launch) (G : aG) (p1 : Nat) (p2 : Int32) (p3 : Int32) (E : Nat → Prop) (σ : OS) (Q : Nat → OS → Prop) (hw : wp_J18_newString p1 p2 p3 σ Q) (h0 : AH) (n0 u0 : Nat) (hB : OB h0 n0 E σ) : CT l yJ18_newString (ws_ yJ18_newString cJ18_newString 3 (some (.object "java/lang/String"))) 4 G [.ref p1, .int p2, .int p3] h0 n0 u0 σ.2.2.1 (10 * σ.2.2.1) (o_pr Q h0 n0 u0 E σ.2.2.1) := by
  refine CT.intro [some (.ref p1), some (.int p2), some (.int p3)] pn_RJ18 rfl (Nat.le_of_ble_eq_true rfl) ?_
  intro p e s m args below meth c C hz hu
  have hs : s.heap.size = n0 ∧ slT s.heap = u0 := ⟨hz, hu⟩
  refine a_world (V1 := OW h0 n0 u0 E σ.2.2.1 σ) (OW.start hB) ?_
  unfold wp_J18_newString at hw
  refine a_iload_2 (pc := 0) C dJ18_newString_0 ?_
  refine a_if_ne (pc := 1) C 7 dJ18_newString_1 (by decide) (fun c1 => ?_) (fun c1 => ?_)
  · have hw := hw.1 c1
    refine o_newC (pc := 7) C hs 1 in_J5 tyJ5 tyJ5_ok q731 q489 q75 (ci := 11) (fs := [.null, .int 0, .int 0, .int 0]) rfl (by decide) (fun f z => by cases z) (by decide) (by decide) hw.1 dJ18_newString_7 (fun q2 frq2 nxq2 σ3 eσ3 => ?_)
    have hw := hw.2 q2 frq2 nxq2 σ3 eσ3
    refine a_dup (pc := 10) C dJ18_newString_10 rfl ?_
    refine a_aload_0 (pc := 11) C dJ18_newString_11 ?_
    refine a_iload_1 (pc := 12) C dJ18_newString_12 ?_
    refine a_iload_1 (pc := 13) C dJ18_newString_13 ?_
    refine a_iload_2 (pc := 14) C dJ18_newString_14 ?_
    refine a_iadd (pc := 15) C dJ18_newString_15 ?_
    refine o_callSr (pc := 16) C hs [.ref p1, .int p2, .int (p2 + p3)] (st := [.ref q2, .ref q2]) (fun h n u hB => ct_J12_copyOfRange l G _ _ _ E _ _ hw h n u hB) (by decide) (by decide) (lw_S q732 q505 q83 q506) sg_J12_copyOfRange (Nat.le_of_ble_eq_true rfl) dJ18_newString_16 (fun r5 σ4 hw => ?_)
    refine a_iconst (pc := 19) C dJ18_newString_19 ic_0 ?_
    refine o_callIv (pc := 20) C hs [.ref r5, .int 0] (b := q2) (st := [.ref q2]) (fun h n u hB => ct_J5_init_3 l G q2 _ _ E _ _ hw h n u hB) (by decide) (by decide) q75 q733 q734 rfl (lw_meth q735) sg_J5_init_3 (Nat.le_of_ble_eq_true rfl) dJ18_newString_20 (fun σ6 hw => ?_)
    exact a_aret (Or.inl ⟨_, rfl⟩) (Or.inr ⟨_, rfl⟩) C dJ18_newString_23 (fun h n u hV => ⟨⟨(_, _), rfl, hw, hV⟩, o_end hs hV⟩)
  · have hw := hw.2 c1
    exact False.elim hw
def wp_J3_substring (a : Nat) (p1 : Int32) (p2 : Int32) (σ : OS) (Q : Nat → OS → Prop) : Prop := (∃ x1 : Int32, oF σ a 10 3 (.int x1) ∧ (∀ b2 : Option Nat, wp_J19_checkFromToIndex p1 p2 x1 b2 σ (fun v4 σ3 => (oC σ3 a 10 ∧ wp_J3_isLatin1 a σ3 (fun v6 σ5 => (((v6 = 0) → False) ∧ ((¬ v6 = 0) → (∃ r8 : Nat, oF σ5 a 10 0 (.ref r8) ∧ wp_J18_newString r8 p1 (p2 - p1) σ5 (fun r10 σ9 => (Q r10 σ9))))))))))
theorem sg_J3_substring : aSig yJ3_substring 2 := by decide +kernel
set_option maxHeartbeats 4000000 in
theorem ct_J3_substring (l : Launch) (G : aG) (a : Nat) (p1 : Int32) (p2 : Int32) (E : Nat → Prop) (σ : OS) (Q : Nat → OS → Prop) (hw : wp_J3_substring a p1 p2 σ Q) (h0 : AH) (n0 u0 : Nat) (hB : OB h0 n0 E σ) : CT l yJ3_substring (ws_ yJ3_substring cJ3_substring 3 (some (.object "java/lang/String"))) 5 G [.ref a, .int p1, .int p2] h0 n0 u0 σ.2.2.1 (10 * σ.2.2.1) (o_pr Q h0 n0 u0 E σ.2.2.1) := by
  refine CT.intro [some (.ref a), some (.int p1), some (.int p2)] pn_RJ3 rfl (Nat.le_of_ble_eq_true rfl) ?_
  intro p e s m args below meth c C hz hu
  have hs : s.heap.size = n0 ∧ slT s.heap = u0 := ⟨hz, hu⟩
  refine a_world (V1 := OW h0 n0 u0 E σ.2.2.1 σ) (OW.start hB) ?_
  unfold wp_J3_substring at hw
  refine a_iload_1 (pc := 0) C dJ3_substring_0 ?_
  refine a_iload_2 (pc := 1) C dJ3_substring_1 ?_
  refine a_aload_0 (pc := 2) C dJ3_substring_2 ?_
  obtain ⟨x1, fx1, hw⟩ := hw
  refine a_getf (pc := 3) C (ref := "java/lang/AbstractStringBuilder") in_J4 (ci := 10) rfl 3 (by decide) q288 rfl (fun h n u hV => o_fld fx1 hV) dJ3_substring_3 ?_
  refine a_getsQ (pc := 6) C C.SC.2.2.2.1 q725 rfl dJ3_substring_6 (fun b2 => ?_)
  have hw := hw b2
  refine o_callSi (pc := 9) C hs [.int p1, .int p2, .int x1, va_rf b2] (st := []) (fun h n u hB => ct_J19_checkFromToIndex l G _ _ _ _ E _ _ hw h n u hB) (by decide) (by decide) (lw_S q726 q405 q93 q406) sg_J19_checkFromToIndex (Nat.le_of_ble_eq_true rfl) dJ3_substring_9 (fun v4 σ3 hw => ?_)
  refine a_pop (pc := 12) C dJ3_substring_12 rfl ?_
  refine a_aload_0 (pc := 13) C dJ3_substring_13 ?_
  refine o_callVi (pc := 14) C hs [] (b := a) (ci := 10) (st := []) (fun h n u hB => ct_J3_isLatin1 l G a E _ _ hw.2 h n u hB) (by decide) (by decide) rfl hw.1 q73 q385 q386 q388 (lw_meth q389) sg_J3_isLatin1 (Nat.le_of_ble_eq_true rfl) dJ3_substring_14 (fun v6 σ5 hw => ?_)
  refine a_if_eq (pc := 17) C 32 dJ3_substring_17 (by decide) (fun c7 => ?_) (fun c7 => ?_)
  · have hw := hw.1 c7
    exact False.elim hw
  · have hw := hw.2 c7
    refine a_aload_0 (pc := 20) C dJ3_substring_20 ?_
    obtain ⟨r8, fr8, hw⟩ := hw
    refine a_getf (pc := 21) C (ref := "java/lang/AbstractStringBuilder") in_J4 (ci := 10) rfl 0 (by decide) q284 rfl (fun h n u hV => o_fld fr8 hV) dJ3_substring_21 ?_
    refine a_iload_1 (pc := 24) C dJ3_substring_24 ?_
    refine a_iload_2 (pc := 25) C dJ3_substring_25 ?_
    refine a_iload_1 (pc := 26) C dJ3_substring_26 ?_
    refine a_isub (pc := 27) C dJ3_substring_27 ?_
    refine o_callSr (pc := 28) C hs [.ref r8, .int p1, .int (p2 - p1)] (st := []) (fun h n u hB => ct_J18_newString l G _ _ _ E _ _ hw h n u hB) (by decide) (by decide) (lw_S q727 q728 q92 q729) sg_J18_newString (Nat.le_of_ble_eq_true rfl) dJ3_substring_28 (fun r10 σ9 hw => ?_)
    exact a_aret (Or.inl ⟨_, rfl⟩) (Or.inr ⟨_, rfl⟩) C dJ3_substring_31 (fun h n u hV => ⟨⟨(_, _), rfl, hw, hV⟩, o_end hs hV⟩)
def wp_J4_substring (a : Nat) (p1 : Int32) (p2 : Int32) (σ : OS) (Q : Nat → OS → Prop) : Prop := (oC σ a 10 ∧ wp_J3_substring a p1 p2 σ (fun r2 σ1 => (Q r2 σ1)))
theorem sg_J4_substring : aSig yJ4_substring 2 := by decide +kernel
set_option maxHeartbeats 4000000 in
theorem ct_J4_substring (l : Launch) (G : aG) (a : Nat) (p1 : Int32) (p2 : Int32) (E : Nat → Prop) (σ : OS) (Q : Nat → OS → Prop) (hw : wp_J4_substring a p1 p2 σ Q) (h0 : AH) (n0 u0 : Nat) (hB : OB h0 n0 E σ) : CT l yJ4_substring (ws_ yJ4_substring cJ4_substring 3 (some (.object "java/lang/String"))) 6 G [.ref a, .int p1, .int p2] h0 n0 u0 σ.2.2.1 (10 * σ.2.2.1) (o_pr Q h0 n0 u0 E σ.2.2.1) := by
  refine CT.intro [some (.ref a), some (.int p1), some (.int p2)] pn_RJ4 rfl (Nat.le_of_ble_eq_true rfl) ?_
  intro p e s m args below meth c C hz hu
  have hs : s.heap.size = n0 ∧ slT s.heap = u0 := ⟨hz, hu⟩
  refine a_world (V1 := OW h0 n0 u0 E σ.2.2.1 σ) (OW.start hB) ?_
  unfold wp_J4_substring at hw
  refine a_aload_0 (pc := 0) C dJ4_substring_0 ?_
  refine a_iload_1 (pc := 1) C dJ4_substring_1 ?_
  refine a_iload_2 (pc := 2) C dJ4_substring_2 ?_
  refine o_callUr (pc := 3) C hs [.int p1, .int p2] (b := a) (ci := 10) (st := []) (fun h n u hB => ct_J3_substring l G a _ _ E _ _ hw.2 h n u hB) (by decide) (by decide) rfl hw.1 (lw_SU q722 q2202 q297 q723 q73 q724) sg_J3_substring (by decide) (Nat.le_of_ble_eq_true rfl) dJ4_substring_3 (fun r2 σ1 hw => ?_)
  exact a_aret (Or.inl ⟨_, rfl⟩) (Or.inr ⟨_, rfl⟩) C dJ4_substring_6 (fun h n u hV => ⟨⟨(_, _), rfl, hw, hV⟩, o_end hs hV⟩)
def wp_J21_init (a : Nat) (σ : OS) (Q : OS → Prop) : Prop := wp_J1_init a σ (fun σ1 => (∃ fs3 : List Value, σ1.1 a = some (.inr (12, fs3)) ∧ 0 < fs3.length ∧ ∀ σ2 : OS, σ2 = (oPut σ1 a (.inr (12, fs3.set 0 (.int 0)))) → (Q σ2)))
theorem sg_J21_init : aSig yJ21_init 0 := by decide +kernel
set_option maxHeartbeats 4000000 in
theorem ct_J21_init (l : Launch) (G : aG) (a : Nat) (E : Nat → Prop) (σ : OS) (Q : OS → Prop) (hw : wp_J21_init a σ Q) (h0 : AH) (n0 u0 : Nat) (hB : OB h0 n0 E σ) : CT l yJ21_init (ws_ yJ21_init cJ21_init 1 none) 3 G [.ref a] h0 n0 u0 σ.2.2.1 (10 * σ.2.2.1) (o_pv Q h0 n0 u0 E σ.2.2.1) := by
  refine CT.intro [some (.ref a)] pn_RJ21 rfl (Nat.le_of_ble_eq_true rfl) ?_
  intro p e s m args below meth c C hz hu
  have hs : s.heap.size = n0 ∧ slT s.heap = u0 := ⟨hz, hu⟩
  refine a_world (V1 := OW h0 n0 u0 E σ.2.2.1 σ) (OW.start hB) ?_
  unfold wp_J21_init at hw
  refine a_aload_0 (pc := 0) C dJ21_init_0 ?_
  refine o_callIv (pc := 1) C hs [] (b := a) (st := []) (fun h n u hB => ct_J1_init l G a E _ _ hw h n u hB) (by decide) (by decide) q71 q698 q251 rfl (lw_meth q252) sg_J1_init (Nat.le_of_ble_eq_true rfl) dJ21_init_1 (fun σ1 hw => ?_)
  refine a_aload_0 (pc := 4) C dJ21_init_4 ?_
  refine a_iconst (pc := 5) C dJ21_init_5 ic_0 ?_
  obtain ⟨fs3, ffs3, kfs3, hw⟩ := hw
  refine a_putf (pc := 6) C (ref := "java/util/AbstractList") (V1 := OW h0 n0 u0 E σ.2.2.1 (oPut σ1 a (.inr (12, fs3.set 0 (.int 0))))) in_J22 tyJ22 tyJ22_ok nmJ22 (ci := 12) rfl 0 (by decide) q703 rfl rfl rfl rfl (fun h n u hV => o_put (by decide) ffs3 kfs3 hV) dJ21_init_6 (o_top (fun σ2 eσ2 => ?_))
  have hw := hw σ2 eσ2
  exact a_vret C dJ21_init_9 (fun h n u hV => ⟨⟨_, rfl, hw, hV⟩, o_end hs hV⟩)
def wp_J22_init (G : aG) (a : Nat) (σ : OS) (Q : OS → Prop) : Prop := wp_J21_init a σ (fun σ1 => (∃ fs3 : List Value, σ1.1 a = some (.inr (12, fs3)) ∧ 1 < fs3.length ∧ ∀ σ2 : OS, σ2 = (oPut σ1 a (.inr (12, fs3.set 1 (.ref (G.2.2 0))))) → (Q σ2)))
theorem sg_J22_init : aSig yJ22_init 0 := by decide +kernel
set_option maxHeartbeats 4000000 in
theorem ct_J22_init (l : Launch) (G : aG) (a : Nat) (E : Nat → Prop) (σ : OS) (Q : OS → Prop) (hw : wp_J22_init G a σ Q) (h0 : AH) (n0 u0 : Nat) (hB : OB h0 n0 E σ) : CT l yJ22_init (ws_ yJ22_init cJ22_init 1 none) 4 G [.ref a] h0 n0 u0 σ.2.2.1 (10 * σ.2.2.1) (o_pv Q h0 n0 u0 E σ.2.2.1) := by
  refine CT.intro [some (.ref a)] pn_RJ22 rfl (Nat.le_of_ble_eq_true rfl) ?_
  intro p e s m args below meth c C hz hu
  have hs : s.heap.size = n0 ∧ slT s.heap = u0 := ⟨hz, hu⟩
  refine a_world (V1 := OW h0 n0 u0 E σ.2.2.1 σ) (OW.start hB) ?_
  unfold wp_J22_init at hw
  refine a_aload_0 (pc := 0) C dJ22_init_0 ?_
  refine o_callIv (pc := 1) C hs [] (b := a) (st := []) (fun h n u hB => ct_J21_init l G a E _ _ hw h n u hB) (by decide) (by decide) q96 q695 q696 rfl (lw_meth q697) sg_J21_init (Nat.le_of_ble_eq_true rfl) dJ22_init_1 (fun σ1 hw => ?_)
  refine a_aload_0 (pc := 4) C dJ22_init_4 ?_
  refine a_gets (pc := 5) C C.SC.2.2.2.2.1.1 q699 rfl dJ22_init_5 ?_
  obtain ⟨fs3, ffs3, kfs3, hw⟩ := hw
  refine a_putf (pc := 8) C (ref := "java/util/ArrayList") (V1 := OW h0 n0 u0 E σ.2.2.1 (oPut σ1 a (.inr (12, fs3.set 1 (.ref (G.2.2 0)))))) in_J22 tyJ22 tyJ22_ok nmJ22 (ci := 12) rfl 1 (by decide) q701 rfl rfl rfl rfl (fun h n u hV => o_put (by decide) ffs3 kfs3 hV) dJ22_init_8 (o_top (fun σ2 eσ2 => ?_))
  have hw := hw σ2 eσ2
  exact a_vret C dJ22_init_11 (fun h n u hV => ⟨⟨_, rfl, hw, hV⟩, o_end hs hV⟩)
def wp_J22_size (a : Nat) (σ : OS) (Q : Int32 → OS → Prop) : Prop := (∃ x1 : Int32, oF σ a 12 2 (.int x1) ∧ (Q x1 σ))
theorem sg_J22_size : aSig yJ22_size 0 := by decide +kernel
set_option maxHeartbeats 4000000 in
theorem ct_J22_size (l : Launch) (G : aG) (a : Nat) (E : Nat → Prop) (σ : OS) (Q : Int32 → OS → Prop) (hw : wp_J22_size a σ Q) (h0 : AH) (n0 u0 : Nat) (hB : OB h0 n0 E σ) : CT l yJ22_size (ws_ yJ22_size cJ22_size 1 (some .int)) 1 G [.ref a] h0 n0 u0 σ.2.2.1 (10 * σ.2.2.1) (o_pi Q h0 n0 u0 E σ.2.2.1) := by
  refine CT.intro [some (.ref a)] pn_RJ22 rfl (Nat.le_of_ble_eq_true rfl) ?_
  intro p e s m args below meth c C hz hu
  have hs : s.heap.size = n0 ∧ slT s.heap = u0 := ⟨hz, hu⟩
  refine a_world (V1 := OW h0 n0 u0 E σ.2.2.1 σ) (OW.start hB) ?_
  unfold wp_J22_size at hw
  refine a_aload_0 (pc := 0) C dJ22_size_0 ?_
  obtain ⟨x1, fx1, hw⟩ := hw
  refine a_getf (pc := 1) C (ref := "java/util/ArrayList") in_J22 (ci := 12) rfl 2 (by decide) q702 rfl (fun h n u hV => o_fld fx1 hV) dJ22_size_1 ?_
  exact a_iret C dJ22_size_4 (fun h n u hV => ⟨⟨(_, _), rfl, hw, hV⟩, o_end hs hV⟩)
def wp_J23_checkIndex (p1 : Int32) (p2 : Int32) (σ : OS) (Q : Int32 → OS → Prop) : Prop := wp_J19_checkIndex p1 p2 none σ (fun v2 σ1 => (Q v2 σ1))
theorem sg_J23_checkIndex : aSig yJ23_checkIndex 2 := by decide +kernel
set_option maxHeartbeats 4000000 in
theorem ct_J23_checkIndex (l : Launch) (G : aG) (p1 : Int32) (p2 : Int32) (E : Nat → Prop) (σ : OS) (Q : Int32 → OS → Prop) (hw : wp_J23_checkIndex p1 p2 σ Q) (h0 : AH) (n0 u0 : Nat) (hB : OB h0 n0 E σ) : CT l yJ23_checkIndex (ws_ yJ23_checkIndex cJ23_checkIndex 2 (some .int)) 2 G [.int p1, .int p2] h0 n0 u0 σ.2.2.1 (10 * σ.2.2.1) (o_pi Q h0 n0 u0 E σ.2.2.1) := by
  refine CT.intro [some (.int p1), some (.int p2)] pn_RJ23 rfl (Nat.le_of_ble_eq_true rfl) ?_
  intro p e s m args below meth c C hz hu
  have hs : s.heap.size = n0 ∧ slT s.heap = u0 := ⟨hz, hu⟩
  refine a_world (V1 := OW h0 n0 u0 E σ.2.2.1 σ) (OW.start hB) ?_
  unfold wp_J23_checkIndex at hw
  refine a_iload_0 (pc := 0) C dJ23_checkIndex_0 ?_
  refine a_iload_1 (pc := 1) C dJ23_checkIndex_1 ?_
  refine a_null (pc := 2) C dJ23_checkIndex_2 ?_
  refine o_callSi (pc := 3) C hs [.int p1, .int p2, .null] (st := []) (fun h n u hB => ct_J19_checkIndex l G _ _ _ E _ _ hw h n u hB) (by decide) (by decide) (lw_S q1523 q852 q93 q853) sg_J19_checkIndex (Nat.le_of_ble_eq_true rfl) dJ23_checkIndex_3 (fun v2 σ1 hw => ?_)
  exact a_iret C dJ23_checkIndex_6 (fun h n u hV => ⟨⟨(_, _), rfl, hw, hV⟩, o_end hs hV⟩)
def wp_J22_elementData (a : Nat) (p1 : Int32) (σ : OS) (Q : Nat → OS → Prop) : Prop := (∃ r1 : Nat, oF σ a 12 1 (.ref r1) ∧ (∃ (n2 : Nat) (f3 : Nat → Option Nat), σ.1 r1 = some (.inl (3, n2, .inr (.inr (.inr (.inr f3))))) ∧ vp_in p1 n2 ∧ ∀ b4 : Option Nat, b4 = f3 p1.toNatClampNeg → (∃ r5 : Nat, b4 = some r5 ∧ Q r5 σ)))
theorem sg_J22_elementData : aSig yJ22_elementData 1 := by decide +kernel
set_option maxHeartbeats 4000000 in
theorem ct_J22_elementData (l : Launch) (G : aG) (a : Nat) (p1 : Int32) (E : Nat → Prop) (σ : OS) (Q : Nat → OS → Prop) (hw : wp_J22_elementData a p1 σ Q) (h0 : AH) (n0 u0 : Nat) (hB : OB h0 n0 E σ) : CT l yJ22_elementData (ws_ yJ22_elementData cJ22_elementData 2 (some (.object "java/lang/Object"))) 1 G [.ref a, .int p1] h0 n0 u0 σ.2.2.1 (10 * σ.2.2.1) (o_pr Q h0 n0 u0 E σ.2.2.1) := by
  refine CT.intro [some (.ref a), some (.int p1)] pn_RJ22 rfl (Nat.le_of_ble_eq_true rfl) ?_
  intro p e s m args below meth c C hz hu
  have hs : s.heap.size = n0 ∧ slT s.heap = u0 := ⟨hz, hu⟩
  refine a_world (V1 := OW h0 n0 u0 E σ.2.2.1 σ) (OW.start hB) ?_
  unfold wp_J22_elementData at hw
  refine a_aload_0 (pc := 0) C dJ22_elementData_0 ?_
  obtain ⟨r1, fr1, hw⟩ := hw
  refine a_getf (pc := 1) C (ref := "java/util/ArrayList") in_J22 (ci := 12) rfl 1 (by decide) q701 rfl (fun h n u hV => o_fld fr1 hV) dJ22_elementData_1 ?_
  refine a_iload_1 (pc := 4) C dJ22_elementData_4 ?_
  obtain ⟨n2, f3, af3, if3, hw⟩ := hw
  refine a_aaldO (pc := 5) C (fun h n u hV => o_arr af3 hV) if3 dJ22_elementData_5 (a_topq (fun b4 eb4 => ?_))
  have hw := hw b4 eb4
  obtain ⟨r5, zr5, hv9⟩ := hw
  subst zr5
  have hw := hv9
  exact a_aret (Or.inl ⟨_, rfl⟩) (Or.inr ⟨_, rfl⟩) C dJ22_elementData_6 (fun h n u hV => ⟨⟨(_, _), rfl, hw, hV⟩, o_end hs hV⟩)
def wp_J22_get (a : Nat) (p1 : Int32) (σ : OS) (Q : Nat → OS → Prop) : Prop := (∃ x1 : Int32, oF σ a 12 2 (.int x1) ∧ wp_J23_checkIndex p1 x1 σ (fun v3 σ2 => (oC σ2 a 12 ∧ wp_J22_elementData a p1 σ2 (fun r5 σ4 => (Q r5 σ4)))))
theorem sg_J22_get : aSig yJ22_get 1 := by decide +kernel
set_option maxHeartbeats 4000000 in
theorem ct_J22_get (l : Launch) (G : aG) (a : Nat) (p1 : Int32) (E : Nat → Prop) (σ : OS) (Q : Nat → OS → Prop) (hw : wp_J22_get a p1 σ Q) (h0 : AH) (n0 u0 : Nat) (hB : OB h0 n0 E σ) : CT l yJ22_get (ws_ yJ22_get cJ22_get 2 (some (.object "java/lang/Object"))) 3 G [.ref a, .int p1] h0 n0 u0 σ.2.2.1 (10 * σ.2.2.1) (o_pr Q h0 n0 u0 E σ.2.2.1) := by
  refine CT.intro [some (.ref a), some (.int p1)] pn_RJ22 rfl (Nat.le_of_ble_eq_true rfl) ?_
  intro p e s m args below meth c C hz hu
  have hs : s.heap.size = n0 ∧ slT s.heap = u0 := ⟨hz, hu⟩
  refine a_world (V1 := OW h0 n0 u0 E σ.2.2.1 σ) (OW.start hB) ?_
  unfold wp_J22_get at hw
  refine a_iload_1 (pc := 0) C dJ22_get_0 ?_
  refine a_aload_0 (pc := 1) C dJ22_get_1 ?_
  obtain ⟨x1, fx1, hw⟩ := hw
  refine a_getf (pc := 2) C (ref := "java/util/ArrayList") in_J22 (ci := 12) rfl 2 (by decide) q702 rfl (fun h n u hV => o_fld fx1 hV) dJ22_get_2 ?_
  refine o_callSi (pc := 5) C hs [.int p1, .int x1] (st := []) (fun h n u hB => ct_J23_checkIndex l G _ _ E _ _ hw h n u hB) (by decide) (by decide) (lw_S q1520 q1521 q100 q1522) sg_J23_checkIndex (Nat.le_of_ble_eq_true rfl) dJ22_get_5 (fun v3 σ2 hw => ?_)
  refine a_pop (pc := 8) C dJ22_get_8 rfl ?_
  refine a_aload_0 (pc := 9) C dJ22_get_9 ?_
  refine a_iload_1 (pc := 10) C dJ22_get_10 ?_
  refine o_callVr (pc := 11) C hs [.int p1] (b := a) (ci := 12) (st := []) (fun h n u hB => ct_J22_elementData l G a _ E _ _ hw.2 h n u hB) (by decide) (by decide) rfl hw.1 q97 q1524 q1525 q1526 (lw_meth q1527) sg_J22_elementData (Nat.le_of_ble_eq_true rfl) dJ22_get_11 (fun r5 σ4 hw => ?_)
  exact a_aret (Or.inl ⟨_, rfl⟩) (Or.inr ⟨_, rfl⟩) C dJ22_get_14 (fun h n u hV => ⟨⟨(_, _), rfl, hw, hV⟩, o_end hs hV⟩)
def wp_J5_isLatin1 (a : Nat) (σ : OS) (Q : Int32 → OS → Prop) : Prop := (((((1 : Int32)) = 0) → (Q 0 σ)) ∧ ((¬ ((1 : Int32)) = 0) → (∃ x2 : Int32, oF σ a 11 1 (.int x2) ∧ (((¬ x2 = 0) → (Q 0 σ)) ∧ ((x2 = 0) → (Q 1 σ))))))
theorem sg_J5_isLatin1 : aSig yJ5_isLatin1 0 := by decide +kernel
set_option maxHeartbeats 4000000 in
theorem ct_J5_isLatin1 (l : Launch) (G : aG) (a : Nat) (E : Nat → Prop) (σ : OS) (Q : Int32 → OS → Prop) (hw : wp_J5_isLatin1 a σ Q) (h0 : AH) (n0 u0 : Nat) (hB : OB h0 n0 E σ) : CT l yJ5_isLatin1 (ws_ yJ5_isLatin1 cJ5_isLatin1 1 (some .boolean)) 1 G [.ref a] h0 n0 u0 σ.2.2.1 (10 * σ.2.2.1) (o_pi Q h0 n0 u0 E σ.2.2.1) := by
  refine CT.intro [some (.ref a)] pn_RJ5 rfl (Nat.le_of_ble_eq_true rfl) ?_
  intro p e s m args below meth c C hz hu
  have hs : s.heap.size = n0 ∧ slT s.heap = u0 := ⟨hz, hu⟩
  refine a_world (V1 := OW h0 n0 u0 E σ.2.2.1 σ) (OW.start hB) ?_
  unfold wp_J5_isLatin1 at hw
  refine a_gets (pc := 0) C C.SC.1 q424 rfl dJ5_isLatin1_0 ?_
  refine a_if_eq (pc := 3) C 17 dJ5_isLatin1_3 (by decide) (fun c1 => ?_) (fun c1 => ?_)
  · have hw := hw.1 c1
    refine a_iconst (pc := 17) C dJ5_isLatin1_17 ic_0 ?_
    exact a_zret rfl C dJ5_isLatin1_18 (fun h n u hV => ⟨⟨(_, _), rfl, hw, hV⟩, o_end hs hV⟩)
  · have hw := hw.2 c1
    refine a_aload_0 (pc := 6) C dJ5_isLatin1_6 ?_
    obtain ⟨x2, fx2, hw⟩ := hw
    refine a_getf (pc := 7) C (ref := "java/lang/String") in_J5 (ci := 11) rfl 1 (by decide) q602 rfl (fun h n u hV => o_fld fx2 hV) dJ5_isLatin1_7 ?_
    refine a_if_ne (pc := 10) C 17 dJ5_isLatin1_10 (by decide) (fun c3 => ?_) (fun c3 => ?_)
    · have hw := hw.1 c3
      refine a_iconst (pc := 17) C dJ5_isLatin1_17 ic_0 ?_
      exact a_zret rfl C dJ5_isLatin1_18 (fun h n u hV => ⟨⟨(_, _), rfl, hw, hV⟩, o_end hs hV⟩)
    · have hw := hw.2 c3
      refine a_iconst (pc := 13) C dJ5_isLatin1_13 ic_1 ?_
      refine a_goto (pc := 14) C 18 dJ5_isLatin1_14 (by decide) ?_
      exact a_zret rfl C dJ5_isLatin1_18 (fun h n u hV => ⟨⟨(_, _), rfl, hw, hV⟩, o_end hs hV⟩)
