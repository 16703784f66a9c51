set_option maxRecDepth 100000
/-! WALKS IN THE WIDE WORLD: by program -/
def wp_J12_copyOf_3 (p1 : Nat) (p2 : Int32) (σ : OS) (Q : Nat → OS → Prop) : Prop := (¬ p2 < 0 ∧ (p2).toNatClampNeg < 65536 ∧ ((p2).toNatClampNeg / 10 + 1) ≤ σ.2.2.1 ∧ ∀ q1 : Nat, oFr σ q1 → (σ.2.2.2.1 ≠ 0 → q1 = σ.2.2.2.1) → ∀ σ2 : OS, σ2 = oNew σ q1 ((p2).toNatClampNeg / 10 + 1) (.inl (3, (p2).toNatClampNeg, .inr (.inr (.inr (.inr (fun _ => none)))))) → (∃ (n3 : Nat) (f5 : Nat → Option Nat), σ2.1 p1 = some (.inl (3, n3, .inr (.inr (.inr (.inr f5))))) ∧ (∀ v6 : Int32, v6 = iMin (Int32.ofNat n3) p2 → (∃ (n8 : Nat) (f9 : Nat → Option Nat) (n10 : Nat) (f11 : Nat → Option Nat), σ2.1 p1 = some (.inl (3, n8, .inr (.inr (.inr (.inr f9))))) ∧ σ2.1 q1 = some (.inl (3, n10, .inr (.inr (.inr (.inr f11))))) ∧ (¬ (0 : Int32) < 0) ∧ (¬ (0 : Int32) < 0) ∧ (¬ v6 < 0) ∧ (0 : Int32).toNatClampNeg + v6.toNatClampNeg ≤ n8 ∧ (0 : Int32).toNatClampNeg + v6.toNatClampNeg ≤ n10 ∧ (∀ i, i < v6.toNatClampNeg → ∀ z, f9 ((0 : Int32).toNatClampNeg + i) = some z → oC σ2 z 7) ∧ ∀ σ7 : OS, σ7 = oPut σ2 q1 (.inl (3, n10, .inr (.inr (.inr (.inr (va_cpy f9 f11 (0 : Int32).toNatClampNeg (0 : Int32).toNatClampNeg v6.toNatClampNeg)))))) → (Q q1 σ7)))))
theorem sg_J12_copyOf_3 : aSig yJ12_copyOf_3 3 := by decide +kernel
set_option maxHeartbeats 4000000 in
theorem ct_J12_copyOf_3 (l : Launch) (G : aG) (p1 : Nat) (p2 : Int32) (E : Nat → Prop) (σ : OS) (Q : Nat → OS → Prop) (hw : wp_J12_copyOf_3 p1 p2 σ Q) (h0 : AH) (n0 u0 : Nat) (hB : OB h0 n0 E σ) : CT l yJ12_copyOf_3 (ws_ yJ12_copyOf_3 cJ12_copyOf_3 4 (some (.array (.object "java/lang/Object")))) 2 G [.ref p1, .int p2, .ref (G.2.2 200)] h0 n0 u0 σ.2.2.1 (10 * σ.2.2.1) (o_pr Q h0 n0 u0 E σ.2.2.1) := by
  refine CT.intro [some (.ref p1), some (.int p2), some (.ref (G.2.2 200)), none] pn_RJ12 rfl (Nat.le_of_ble_eq_true rfl) ?_
  intro p e s m args below meth c C hz hu
  have hs : s.heap.size = n0 ∧ slT s.heap = u0 := ⟨hz, hu⟩
  refine a_world (V1 := OW h0 n0 u0 E σ.2.2.1 σ) (OW.start hB) ?_
  unfold wp_J12_copyOf_3 at hw
  refine a_aload_2 (pc := 0) C dJ12_copyOf_3_0 ?_
  refine a_ldcM (pc := 1) C q952 dJ12_copyOf_3_1 ?_
  refine a_acmpNeSame (pc := 3) C dJ12_copyOf_3_3 (by decide) ?_
  refine a_iload_1 (pc := 6) C dJ12_copyOf_3_6 ?_
  refine o_newQ (pc := 7) C hs ((p2).toNatClampNeg / 10 + 1) (N := (p2).toNatClampNeg) q953 q255 (kd := 3) (fun _ => rfl)  hw.1 rfl (by have := hw.2.1; (try simp only [componentBytes]); omega) (by omega) (by omega) hw.2.2.1 dJ12_copyOf_3_7 (fun q1 frq1 nxq1 σ2 eσ2 => ?_)
  have hw := hw.2.2.2 q1 frq1 nxq1 σ2 eσ2
  refine a_goto (pc := 10) C 24 dJ12_copyOf_3_10 (by decide) ?_
  refine a_astore_3 (pc := 24) C dJ12_copyOf_3_24 (by decide) rfl ?_
  refine a_aload_0 (pc := 25) C dJ12_copyOf_3_25 ?_
  refine a_iconst (pc := 26) C dJ12_copyOf_3_26 ic_0 ?_
  refine a_aload_3 (pc := 27) C dJ12_copyOf_3_27 ?_
  refine a_iconst (pc := 28) C dJ12_copyOf_3_28 ic_0 ?_
  refine a_aload_0 (pc := 29) C dJ12_copyOf_3_29 ?_
  obtain ⟨n3, f5, af5, hw⟩ := hw
  refine a_alen (pc := 30) C (kd := 3) (fun h n u hV => o_arr af5 hV) (fun _ => rfl) rfl dJ12_copyOf_3_30 ?_
  refine a_iload_1 (pc := 31) C dJ12_copyOf_3_31 ?_
  refine a_mmin (pc := 32) C (MC := σ.2.2.1) (MS := 10 * σ.2.2.1) (by decide) (fun h n u hV => o_end hs hV) q379 (Nat.le_of_ble_eq_true rfl) dJ12_copyOf_3_32 (a_topi (fun v6 ev6 => ?_))
  have hw := hw v6 ev6
  obtain ⟨n8, f9, n10, f11, ya, yb, y1, y2, y3, y4, y5, y6, hw⟩ := hw
  refine a_copyQ (pc := 35) C (ci := 7) rfl q2225 (V1 := OW h0 n0 u0 E σ.2.2.1 (oPut σ2 q1 (.inl (3, n10, .inr (.inr (.inr (.inr (va_cpy f9 f11 (0 : Int32).toNatClampNeg (0 : Int32).toNatClampNeg v6.toNatClampNeg)))))))) (fun h n u hV => ⟨o_arr ya hV, o_arr yb hV, fun i hi z hz => o_cls (y6 i hi z hz) hV, hV.putA yb⟩) y1 y2 y3 y4 y5 (by decide) q382 (Nat.le_of_ble_eq_true rfl) dJ12_copyOf_3_35 (o_top (fun σ7 eσ7 => ?_))
  have hw := hw σ7 eσ7
  refine a_aload_3 (pc := 38) C dJ12_copyOf_3_38 ?_
  exact a_aret (Or.inr ⟨_, rfl⟩) (Or.inr ⟨_, rfl⟩) C dJ12_copyOf_3_39 (fun h n u hV => ⟨⟨(_, _), rfl, hw, hV⟩, o_end hs hV⟩)
def wp_J12_copyOf_2 (p1 : Nat) (p2 : Int32) (σ : OS) (Q : Nat → OS → Prop) : Prop := (∃ (n1 : Nat) (f2 : Nat → Option Nat), σ.1 p1 = some (.inl (3, n1, .inr (.inr (.inr (.inr f2))))) ∧ wp_J12_copyOf_3 p1 p2 σ (fun r4 σ3 => (Q r4 σ3)))
theorem sg_J12_copyOf_2 : aSig yJ12_copyOf_2 2 := by decide +kernel
set_option maxHeartbeats 4000000 in
theorem ct_J12_copyOf_2 (l : Launch) (G : aG) (p1 : Nat) (p2 : Int32) (E : Nat → Prop) (σ : OS) (Q : Nat → OS → Prop) (hw : wp_J12_copyOf_2 p1 p2 σ Q) (h0 : AH) (n0 u0 : Nat) (hB : OB h0 n0 E σ) : CT l yJ12_copyOf_2 (ws_ yJ12_copyOf_2 cJ12_copyOf_2 2 (some (.array (.object "java/lang/Object")))) 3 G [.ref p1, .int p2] h0 n0 u0 σ.2.2.1 (10 * σ.2.2.1) (o_pr Q h0 n0 u0 E σ.2.2.1) := by
  refine CT.intro [some (.ref p1), some (.int p2)] pn_RJ12 rfl (Nat.le_of_ble_eq_true rfl) ?_
  intro p e s m args below meth c C hz hu
  have hs : s.heap.size = n0 ∧ slT s.heap = u0 := ⟨hz, hu⟩
  refine a_world (V1 := OW h0 n0 u0 E σ.2.2.1 σ) (OW.start hB) ?_
  unfold wp_J12_copyOf_2 at hw
  refine a_aload_0 (pc := 0) C dJ12_copyOf_2_0 ?_
  refine a_iload_1 (pc := 1) C dJ12_copyOf_2_1 ?_
  refine a_aload_0 (pc := 2) C dJ12_copyOf_2_2 ?_
  obtain ⟨n1, f2, af2, hw⟩ := hw
  refine a_getC (pc := 3) C (fun h n u hV => o_arr af2 hV) (by decide) q926 (Nat.le_of_ble_eq_true rfl) dJ12_copyOf_2_3 ?_
  refine o_callSr (pc := 6) C hs [.ref p1, .int p2, .ref (G.2.2 200)] (st := []) (fun h n u hB => ct_J12_copyOf_3 l G _ _ E _ _ hw h n u hB) (by decide) (by decide) (lw_S q949 q950 q83 q951) sg_J12_copyOf_3 (Nat.le_of_ble_eq_true rfl) dJ12_copyOf_2_6 (fun r4 σ3 hw => ?_)
  exact a_aret (Or.inr ⟨_, rfl⟩) (Or.inr ⟨_, rfl⟩) C dJ12_copyOf_2_9 (fun h n u hV => ⟨⟨(_, _), rfl, hw, hV⟩, o_end hs hV⟩)
def wp_J22_grow_2A (G : aG) (a : Nat) (p1 : Int32) (σ : OS) (Q : Nat → OS → Prop) : Prop := (oF σ a 12 1 (.ref (G.2.2 0)) ∧ (((0 < ((0 : Int32))) → False) ∧ ((¬ 0 < ((0 : Int32))) → (oF σ a 12 1 (.ref (G.2.2 0)) ∧ (∀ v2 : Int32, v2 = iMax 10 p1 → (¬ v2 < 0 ∧ (v2).toNatClampNeg < 65536 ∧ ((v2).toNatClampNeg / 10 + 1) ≤ σ.2.2.1 ∧ ∀ q3 : Nat, oFr σ q3 → (σ.2.2.2.1 ≠ 0 → q3 = σ.2.2.2.1) → ∀ σ4 : OS, σ4 = oNew σ q3 ((v2).toNatClampNeg / 10 + 1) (.inl (3, (v2).toNatClampNeg, .inr (.inr (.inr (.inr (fun _ => none)))))) → (∃ fs6 : List Value, σ4.1 a = some (.inr (12, fs6)) ∧ 1 < fs6.length ∧ ∀ σ5 : OS, σ5 = (oPut σ4 a (.inr (12, fs6.set 1 (.ref q3)))) → (Q q3 σ5))))))))
theorem sg_J22_grow_2 : aSig yJ22_grow_2 1 := by decide +kernel
set_option maxHeartbeats 4000000 in
theorem ct_J22_grow_2A (l : Launch) (G : aG) (a : Nat) (p1 : Int32) (E : Nat → Prop) (σ : OS) (Q : Nat → OS → Prop) (hw : wp_J22_grow_2A G a p1 σ Q) (h0 : AH) (n0 u0 : Nat) (hB : OB h0 n0 E σ) : CT l yJ22_grow_2 (ws_ yJ22_grow_2 cJ22_grow_2 4 (some (.array (.object "java/lang/Object")))) 4 G [.ref a, .int p1] h0 n0 u0 σ.2.2.1 (10 * σ.2.2.1) (o_pr Q h0 n0 u0 E σ.2.2.1) := by
  refine CT.intro [some (.ref a), some (.int p1), none, none] pn_RJ22 rfl (Nat.le_of_ble_eq_true rfl) ?_
  intro p e s m args below meth c C hz hu
  have hs : s.heap.size = n0 ∧ slT s.heap = u0 := ⟨hz, hu⟩
  refine a_world (V1 := OW h0 n0 u0 E σ.2.2.1 σ) (OW.start hB) ?_
  unfold wp_J22_grow_2A at hw
  refine a_aload_0 (pc := 0) C dJ22_grow_2_0 ?_
  obtain ⟨fdea, hw⟩ := hw
  refine a_getf (pc := 1) C (ref := "java/util/ArrayList") in_J22 (ci := 12) rfl 1 (by decide) q701 rfl (fun h n u hV => o_fld fdea hV) dJ22_grow_2_1 ?_
  refine a_tlenK (pc := 4) C C.SC.2.2.2.2.1.2 (v := 0) (by decide) dJ22_grow_2_4 ?_
  refine a_istore_2 (pc := 5) C dJ22_grow_2_5 (by decide) rfl ?_
  refine a_iload_2 (pc := 6) C dJ22_grow_2_6 ?_
  refine a_if_gt (pc := 7) C 20 dJ22_grow_2_7 (by decide) (fun c1 => ?_) (fun c1 => ?_)
  · have hw := hw.1 c1
    exact False.elim hw
  · have hw := hw.2 c1
    refine a_aload_0 (pc := 10) C dJ22_grow_2_10 ?_
    obtain ⟨fdea, hw⟩ := hw
    refine a_getf (pc := 11) C (ref := "java/util/ArrayList") in_J22 (ci := 12) rfl 1 (by decide) q701 rfl (fun h n u hV => o_fld fdea hV) dJ22_grow_2_11 ?_
    refine a_gets (pc := 14) C C.SC.2.2.2.2.1.1 q699 rfl dJ22_grow_2_14 ?_
    refine a_acmpEqSame (pc := 17) C 45 dJ22_grow_2_17 (by decide) ?_
    refine a_aload_0 (pc := 45) C dJ22_grow_2_45 ?_
    refine a_bipush (pc := 46) C dJ22_grow_2_46 bc_10 ?_
    refine a_iload_1 (pc := 48) C dJ22_grow_2_48 ?_
    refine a_mmax (pc := 49) C (MC := σ.2.2.1) (MS := 10 * σ.2.2.1) (by decide) (fun h n u hV => o_end hs hV) q954 (Nat.le_of_ble_eq_true rfl) dJ22_grow_2_49 (a_topi (fun v2 ev2 => ?_))
    have hw := hw v2 ev2
    refine o_newQ (pc := 52) C hs ((v2).toNatClampNeg / 10 + 1) (N := (v2).toNatClampNeg) q955 q255 (kd := 3) (fun _ => rfl)  hw.1 rfl (by have := hw.2.1; (try simp only [componentBytes]); omega) (by omega) (by omega) hw.2.2.1 dJ22_grow_2_52 (fun q3 frq3 nxq3 σ4 eσ4 => ?_)
    have hw := hw.2.2.2 q3 frq3 nxq3 σ4 eσ4
    refine a_dup_x1 (pc := 55) C dJ22_grow_2_55 rfl rfl ?_
    obtain ⟨fs6, ffs6, kfs6, hw⟩ := hw
    refine a_putf (pc := 56) C (ref := "java/util/ArrayList") (V1 := OW h0 n0 u0 E σ.2.2.1 (oPut σ4 a (.inr (12, fs6.set 1 (.ref q3))))) in_J22 tyJ22 tyJ22_ok nmJ22 (ci := 12) rfl 1 (by decide) q701 rfl rfl rfl rfl (fun h n u hV => o_put (by decide) ffs6 kfs6 hV) dJ22_grow_2_56 (o_top (fun σ5 eσ5 => ?_))
    have hw := hw σ5 eσ5
    exact a_aret (Or.inr ⟨_, rfl⟩) (Or.inr ⟨_, rfl⟩) C dJ22_grow_2_59 (fun h n u hV => ⟨⟨(_, _), rfl, hw, hV⟩, o_end hs hV⟩)
def wp_J22_grow_2B (a : Nat) (p1 : Int32) (σ : OS) (Q : Nat → OS → Prop) : Prop := (∃ r1 : Nat, oF σ a 12 1 (.ref r1) ∧ (∃ (n2 : Nat) (f4 : Nat → Option Nat), σ.1 r1 = some (.inl (3, n2, .inr (.inr (.inr (.inr f4))))) ∧ (((0 < (Int32.ofNat n2)) → wp_J17_newLength (Int32.ofNat n2) (p1 - (Int32.ofNat n2)) ((Int32.ofNat n2) >>> (1 &&& 31)) σ (fun v7 σ6 => (∃ r8 : Nat, oF σ6 a 12 1 (.ref r8) ∧ wp_J12_copyOf_2 r8 v7 σ6 (fun r10 σ9 => (∃ fs12 : List Value, σ9.1 a = some (.inr (12, fs12)) ∧ 1 < fs12.length ∧ ∀ σ11 : OS, σ11 = (oPut σ9 a (.inr (12, fs12.set 1 (.ref r10)))) → (Q r10 σ11)))))) ∧ ((¬ 0 < (Int32.ofNat n2)) → False))))
set_option maxHeartbeats 4000000 in
theorem ct_J22_grow_2B (l : Launch) (G : aG) (a : Nat) (p1 : Int32) (E : Nat → Prop) (σ : OS) (Q : Nat → OS → Prop) (hw : wp_J22_grow_2B a p1 σ Q) (h0 : AH) (n0 u0 : Nat) (hB : OB h0 n0 E σ) : CT l yJ22_grow_2 (ws_ yJ22_grow_2 cJ22_grow_2 4 (some (.array (.object "java/lang/Object")))) 4 G [.ref a, .int p1] h0 n0 u0 σ.2.2.1 (10 * σ.2.2.1) (o_pr Q h0 n0 u0 E σ.2.2.1) := by
  refine CT.intro [some (.ref a), some (.int p1), none, none] pn_RJ22 rfl (Nat.le_of_ble_eq_true rfl) ?_
  intro p e s m args below meth c C hz hu
  have hs : s.heap.size = n0 ∧ slT s.heap = u0 := ⟨hz, hu⟩
  refine a_world (V1 := OW h0 n0 u0 E σ.2.2.1 σ) (OW.start hB) ?_
  unfold wp_J22_grow_2B at hw
  refine a_aload_0 (pc := 0) C dJ22_grow_2_0 ?_
  obtain ⟨r1, fr1, hw⟩ := hw
  refine a_getf (pc := 1) C (ref := "java/util/ArrayList") in_J22 (ci := 12) rfl 1 (by decide) q701 rfl (fun h n u hV => o_fld fr1 hV) dJ22_grow_2_1 ?_
  obtain ⟨n2, f4, af4, hw⟩ := hw
  refine a_alen (pc := 4) C (kd := 3) (fun h n u hV => o_arr af4 hV) (fun _ => rfl) rfl dJ22_grow_2_4 ?_
  refine a_istore_2 (pc := 5) C dJ22_grow_2_5 (by decide) rfl ?_
  refine a_iload_2 (pc := 6) C dJ22_grow_2_6 ?_
  refine a_if_gt (pc := 7) C 20 dJ22_grow_2_7 (by decide) (fun c5 => ?_) (fun c5 => ?_)
  · have hw := hw.1 c5
    refine a_iload_2 (pc := 20) C dJ22_grow_2_20 ?_
    refine a_iload_1 (pc := 21) C dJ22_grow_2_21 ?_
    refine a_iload_2 (pc := 22) C dJ22_grow_2_22 ?_
    refine a_isub (pc := 23) C dJ22_grow_2_23 ?_
    refine a_iload_2 (pc := 24) C dJ22_grow_2_24 ?_
    refine a_iconst (pc := 25) C dJ22_grow_2_25 ic_1 ?_
    refine a_ishr (pc := 26) C dJ22_grow_2_26 ?_
    refine o_callSi (pc := 27) C hs [.int (Int32.ofNat n2), .int (p1 - (Int32.ofNat n2)), .int ((Int32.ofNat n2) >>> (1 &&& 31))] (st := []) (fun h n u hB => ct_J17_newLength l G _ _ _ E _ _ hw h n u hB) (by decide) (by decide) (lw_S q922 q359 q91 q360) sg_J17_newLength (Nat.le_of_ble_eq_true rfl) dJ22_grow_2_27 (fun v7 σ6 hw => ?_)
    refine a_istore_3 (pc := 30) C dJ22_grow_2_30 (by decide) rfl ?_
    refine a_aload_0 (pc := 31) C dJ22_grow_2_31 ?_
    refine a_aload_0 (pc := 32) C dJ22_grow_2_32 ?_
    obtain ⟨r8, fr8, hw⟩ := hw
    refine a_getf (pc := 33) C (ref := "java/util/ArrayList") in_J22 (ci := 12) rfl 1 (by decide) q701 rfl (fun h n u hV => o_fld fr8 hV) dJ22_grow_2_33 ?_
    refine a_iload_3 (pc := 36) C dJ22_grow_2_36 ?_
    refine o_callSr (pc := 37) C hs [.ref r8, .int v7] (st := [.ref a]) (fun h n u hB => ct_J12_copyOf_2 l G _ _ E _ _ hw h n u hB) (by decide) (by decide) (lw_S q923 q924 q83 q925) sg_J12_copyOf_2 (Nat.le_of_ble_eq_true rfl) dJ22_grow_2_37 (fun r10 σ9 hw => ?_)
    refine a_dup_x1 (pc := 40) C dJ22_grow_2_40 rfl rfl ?_
    obtain ⟨fs12, ffs12, kfs12, hw⟩ := hw
    refine a_putf (pc := 41) C (ref := "java/util/ArrayList") (V1 := OW h0 n0 u0 E σ.2.2.1 (oPut σ9 a (.inr (12, fs12.set 1 (.ref r10))))) in_J22 tyJ22 tyJ22_ok nmJ22 (ci := 12) rfl 1 (by decide) q701 rfl rfl rfl rfl (fun h n u hV => o_put (by decide) ffs12 kfs12 hV) dJ22_grow_2_41 (o_top (fun σ11 eσ11 => ?_))
    have hw := hw σ11 eσ11
    exact a_aret (Or.inr ⟨_, rfl⟩) (Or.inr ⟨_, rfl⟩) C dJ22_grow_2_44 (fun h n u hV => ⟨⟨(_, _), rfl, hw, hV⟩, o_end hs hV⟩)
  · have hw := hw.2 c5
    exact False.elim hw
def wp_J22_growA (G : aG) (a : Nat) (σ : OS) (Q : Nat → OS → Prop) : Prop := (∃ x1 : Int32, oF σ a 12 2 (.int x1) ∧ (oC σ a 12 ∧ wp_J22_grow_2A G a (x1 + 1) σ (fun r3 σ2 => (Q r3 σ2))))
theorem sg_J22_grow : aSig yJ22_grow 0 := by decide +kernel
set_option maxHeartbeats 4000000 in
theorem ct_J22_growA (l : Launch) (G : aG) (a : Nat) (E : Nat → Prop) (σ : OS) (Q : Nat → OS → Prop) (hw : wp_J22_growA G a σ Q) (h0 : AH) (n0 u0 : Nat) (hB : OB h0 n0 E σ) : CT l yJ22_grow (ws_ yJ22_grow cJ22_grow 1 (some (.array (.object "java/lang/Object")))) 5 G [.ref a] h0 n0 u0 σ.2.2.1 (10 * σ.2.2.1) (o_pr Q h0 n0 u0 E σ.2.2.1) := by
  refine CT.intro [some (.ref a)] pn_RJ22 rfl (Nat.le_of_ble_eq_true rfl) ?_
  intro p e s m args below meth c C hz hu
  have hs : s.heap.size = n0 ∧ slT s.heap = u0 := ⟨hz, hu⟩
  refine a_world (V1 := OW h0 n0 u0 E σ.2.2.1 σ) (OW.start hB) ?_
  unfold wp_J22_growA at hw
  refine a_aload_0 (pc := 0) C dJ22_grow_0 ?_
  refine a_aload_0 (pc := 1) C dJ22_grow_1 ?_
  obtain ⟨x1, fx1, hw⟩ := hw
  refine a_getf (pc := 2) C (ref := "java/util/ArrayList") in_J22 (ci := 12) rfl 2 (by decide) q702 rfl (fun h n u hV => o_fld fx1 hV) dJ22_grow_2 ?_
  refine a_iconst (pc := 5) C dJ22_grow_5 ic_1 ?_
  refine a_iadd (pc := 6) C dJ22_grow_6 ?_
  refine o_callVr (pc := 7) C hs [.int (x1 + 1)] (b := a) (ci := 12) (st := []) (fun h n u hB => ct_J22_grow_2A l G a _ E _ _ hw.2 h n u hB) (by decide) (by decide) rfl hw.1 q97 q918 q920 qs9 (lw_meth q921) sg_J22_grow_2 (Nat.le_of_ble_eq_true rfl) dJ22_grow_7 (fun r3 σ2 hw => ?_)
  exact a_aret (Or.inr ⟨_, rfl⟩) (Or.inr ⟨_, rfl⟩) C dJ22_grow_10 (fun h n u hV => ⟨⟨(_, _), rfl, hw, hV⟩, o_end hs hV⟩)
def wp_J22_growB (a : Nat) (σ : OS) (Q : Nat → OS → Prop) : Prop := (∃ x1 : Int32, oF σ a 12 2 (.int x1) ∧ (oC σ a 12 ∧ wp_J22_grow_2B a (x1 + 1) σ (fun r3 σ2 => (Q r3 σ2))))
set_option maxHeartbeats 4000000 in
theorem ct_J22_growB (l : Launch) (G : aG) (a : Nat) (E : Nat → Prop) (σ : OS) (Q : Nat → OS → Prop) (hw : wp_J22_growB a σ Q) (h0 : AH) (n0 u0 : Nat) (hB : OB h0 n0 E σ) : CT l yJ22_grow (ws_ yJ22_grow cJ22_grow 1 (some (.array (.object "java/lang/Object")))) 5 G [.ref a] h0 n0 u0 σ.2.2.1 (10 * σ.2.2.1) (o_pr Q h0 n0 u0 E σ.2.2.1) := by
  refine CT.intro [some (.ref a)] pn_RJ22 rfl (Nat.le_of_ble_eq_true rfl) ?_
  intro p e s m args below meth c C hz hu
  have hs : s.heap.size = n0 ∧ slT s.heap = u0 := ⟨hz, hu⟩
  refine a_world (V1 := OW h0 n0 u0 E σ.2.2.1 σ) (OW.start hB) ?_
  unfold wp_J22_growB at hw
  refine a_aload_0 (pc := 0) C dJ22_grow_0 ?_
  refine a_aload_0 (pc := 1) C dJ22_grow_1 ?_
  obtain ⟨x1, fx1, hw⟩ := hw
  refine a_getf (pc := 2) C (ref := "java/util/ArrayList") in_J22 (ci := 12) rfl 2 (by decide) q702 rfl (fun h n u hV => o_fld fx1 hV) dJ22_grow_2 ?_
  refine a_iconst (pc := 5) C dJ22_grow_5 ic_1 ?_
  refine a_iadd (pc := 6) C dJ22_grow_6 ?_
  refine o_callVr (pc := 7) C hs [.int (x1 + 1)] (b := a) (ci := 12) (st := []) (fun h n u hB => ct_J22_grow_2B l G a _ E _ _ hw.2 h n u hB) (by decide) (by decide) rfl hw.1 q97 q918 q920 qs9 (lw_meth q921) sg_J22_grow_2 (Nat.le_of_ble_eq_true rfl) dJ22_grow_7 (fun r3 σ2 hw => ?_)
  exact a_aret (Or.inr ⟨_, rfl⟩) (Or.inr ⟨_, rfl⟩) C dJ22_grow_10 (fun h n u hV => ⟨⟨(_, _), rfl, hw, hV⟩, o_end hs hV⟩)
def wp_J22_add_2A (G : aG) (a : Nat) (p1 : Nat) (p3 : Int32) (σ : OS) (Q : OS → Prop) : Prop := (((¬ p3 = ((0 : Int32))) → False) ∧ ((p3 = ((0 : Int32))) → (oC σ a 12 ∧ wp_J22_growA G a σ (fun r3 σ2 => (∃ (n5 : Nat) (f6 : Nat → Option Nat), σ2.1 r3 = some (.inl (3, n5, .inr (.inr (.inr (.inr f6))))) ∧ vp_in p3 n5 ∧ oC σ2 p1 7 ∧ ∀ σ4 : OS, σ4 = oPut σ2 r3 (.inl (3, n5, .inr (.inr (.inr (.inr (va_up f6 p3.toNatClampNeg (some p1))))))) → (∃ fs8 : List Value, σ4.1 a = some (.inr (12, fs8)) ∧ 2 < fs8.length ∧ ∀ σ7 : OS, σ7 = (oPut σ4 a (.inr (12, fs8.set 2 (.int (p3 + 1))))) → (Q σ7)))))))
theorem sg_J22_add_2 : aSig yJ22_add_2 3 := by decide +kernel
set_option maxHeartbeats 4000000 in
theorem ct_J22_add_2A (l : Launch) (G : aG) (a : Nat) (p1 : Nat) (p3 : Int32) (E : Nat → Prop) (σ : OS) (Q : OS → Prop) (hw : wp_J22_add_2A G a p1 p3 σ Q) (h0 : AH) (n0 u0 : Nat) (hB : OB h0 n0 E σ) : CT l yJ22_add_2 (ws_ yJ22_add_2 cJ22_add_2 4 none) 6 G [.ref a, .ref p1, .ref (G.2.2 0), .int p3] h0 n0 u0 σ.2.2.1 (10 * σ.2.2.1) (o_pv Q h0 n0 u0 E σ.2.2.1) := by
  refine CT.intro [some (.ref a), some (.ref p1), some (.ref (G.2.2 0)), some (.int p3)] pn_RJ22 rfl (Nat.le_of_ble_eq_true rfl) ?_
  intro p e s m args below meth c C hz hu
  have hs : s.heap.size = n0 ∧ slT s.heap = u0 := ⟨hz, hu⟩
  refine a_world (V1 := OW h0 n0 u0 E σ.2.2.1 σ) (OW.start hB) ?_
  unfold wp_J22_add_2A at hw
  refine a_iload_3 (pc := 0) C dJ22_add_2_0 ?_
  refine a_aload_2 (pc := 1) C dJ22_add_2_1 ?_
  refine a_tlenK (pc := 2) C C.SC.2.2.2.2.1.2 (v := 0) (by decide) dJ22_add_2_2 ?_
  refine a_icmp_ne (pc := 3) C 11 dJ22_add_2_3 (by decide) (fun c1 => ?_) (fun c1 => ?_)
  · have hw := hw.1 c1
    refine a_aload_2 (pc := 11) C dJ22_add_2_11 ?_
    refine a_iload_3 (pc := 12) C dJ22_add_2_12 ?_
    refine a_aload_1 (pc := 13) C dJ22_add_2_13 ?_
    exact False.elim hw
  · have hw := hw.2 c1
    refine a_aload_0 (pc := 6) C dJ22_add_2_6 ?_
    refine o_callVr (pc := 7) C hs [] (b := a) (ci := 12) (st := []) (fun h n u hB => ct_J22_growA l G a E _ _ hw.2 h n u hB) (by decide) (by decide) rfl hw.1 q97 q914 q916 qs8 (lw_meth q917) sg_J22_grow (Nat.le_of_ble_eq_true rfl) dJ22_add_2_7 (fun r3 σ2 hw => ?_)
    refine a_astore_2 (pc := 10) C dJ22_add_2_10 (by decide) rfl ?_
    refine a_aload_2 (pc := 11) C dJ22_add_2_11 ?_
    refine a_iload_3 (pc := 12) C dJ22_add_2_12 ?_
    refine a_aload_1 (pc := 13) C dJ22_add_2_13 ?_
    obtain ⟨n5, f6, af6, if6, hw⟩ := hw
    refine a_aastO (pc := 14) C (ci := 7) rfl q2225 (V1 := OW h0 n0 u0 E σ.2.2.1 (oPut σ2 r3 (.inl (3, n5, .inr (.inr (.inr (.inr (va_up f6 p3.toNatClampNeg (some p1))))))))) (fun h n u hV => ⟨o_arr af6 hV, o_cls hw.1 hV, hV.putA af6⟩) if6 dJ22_add_2_14 (o_top (fun σ4 eσ4 => ?_))
    have hw := hw.2 σ4 eσ4
    refine a_aload_0 (pc := 15) C dJ22_add_2_15 ?_
    refine a_iload_3 (pc := 16) C dJ22_add_2_16 ?_
    refine a_iconst (pc := 17) C dJ22_add_2_17 ic_1 ?_
    refine a_iadd (pc := 18) C dJ22_add_2_18 ?_
    obtain ⟨fs8, ffs8, kfs8, hw⟩ := hw
    refine a_putf (pc := 19) C (ref := "java/util/ArrayList") (V1 := OW h0 n0 u0 E σ.2.2.1 (oPut σ4 a (.inr (12, fs8.set 2 (.int (p3 + 1)))))) in_J22 tyJ22 tyJ22_ok nmJ22 (ci := 12) rfl 2 (by decide) q702 rfl rfl rfl rfl (fun h n u hV => o_put (by decide) ffs8 kfs8 hV) dJ22_add_2_19 (o_top (fun σ7 eσ7 => ?_))
    have hw := hw σ7 eσ7
    exact a_vret C dJ22_add_2_22 (fun h n u hV => ⟨⟨_, rfl, hw, hV⟩, o_end hs hV⟩)
def wp_J22_add_2B (a : Nat) (p1 : Nat) (p2 : Nat) (p3 : Int32) (σ : OS) (Q : OS → Prop) : Prop := (∃ (n1 : Nat) (f3 : Nat → Option Nat), σ.1 p2 = some (.inl (3, n1, .inr (.inr (.inr (.inr f3))))) ∧ (((¬ p3 = (Int32.ofNat n1)) → (∃ (n6 : Nat) (f7 : Nat → Option Nat), σ.1 p2 = some (.inl (3, n6, .inr (.inr (.inr (.inr f7))))) ∧ vp_in p3 n6 ∧ oC σ p1 7 ∧ ∀ σ5 : OS, σ5 = oPut σ p2 (.inl (3, n6, .inr (.inr (.inr (.inr (va_up f7 p3.toNatClampNeg (some p1))))))) → (∃ fs9 : List Value, σ5.1 a = some (.inr (12, fs9)) ∧ 2 < fs9.length ∧ ∀ σ8 : OS, σ8 = (oPut σ5 a (.inr (12, fs9.set 2 (.int (p3 + 1))))) → (Q σ8)))) ∧ ((p3 = (Int32.ofNat n1)) → (oC σ a 12 ∧ wp_J22_growB a σ (fun r11 σ10 => (∃ (n13 : Nat) (f14 : Nat → Option Nat), σ10.1 r11 = some (.inl (3, n13, .inr (.inr (.inr (.inr f14))))) ∧ vp_in p3 n13 ∧ oC σ10 p1 7 ∧ ∀ σ12 : OS, σ12 = oPut σ10 r11 (.inl (3, n13, .inr (.inr (.inr (.inr (va_up f14 p3.toNatClampNeg (some p1))))))) → (∃ fs16 : List Value, σ12.1 a = some (.inr (12, fs16)) ∧ 2 < fs16.length ∧ ∀ σ15 : OS, σ15 = (oPut σ12 a (.inr (12, fs16.set 2 (.int (p3 + 1))))) → (Q σ15))))))))
set_option maxHeartbeats 4000000 in
theorem ct_J22_add_2B (l : Launch) (G : aG) (a : Nat) (p1 : Nat) (p2 : Nat) (p3 : Int32) (E : Nat → Prop) (σ : OS) (Q : OS → Prop) (hw : wp_J22_add_2B a p1 p2 p3 σ Q) (h0 : AH) (n0 u0 : Nat) (hB : OB h0 n0 E σ) : CT l yJ22_add_2 (ws_ yJ22_add_2 cJ22_add_2 4 none) 6 G [.ref a, .ref p1, .ref p2, .int p3] h0 n0 u0 σ.2.2.1 (10 * σ.2.2.1) (o_pv Q h0 n0 u0 E σ.2.2.1) := by
  refine CT.intro [some (.ref a), some (.ref p1), some (.ref p2), some (.int p3)] pn_RJ22 rfl (Nat.le_of_ble_eq_true rfl) ?_
  intro p e s m args below meth c C hz hu
  have hs : s.heap.size = n0 ∧ slT s.heap = u0 := ⟨hz, hu⟩
  refine a_world (V1 := OW h0 n0 u0 E σ.2.2.1 σ) (OW.start hB) ?_
  unfold wp_J22_add_2B at hw
  refine a_iload_3 (pc := 0) C dJ22_add_2_0 ?_
  refine a_aload_2 (pc := 1) C dJ22_add_2_1 ?_
  obtain ⟨n1, f3, af3, hw⟩ := hw
  refine a_alen (pc := 2) C (kd := 3) (fun h n u hV => o_arr af3 hV) (fun _ => rfl) rfl dJ22_add_2_2 ?_
  refine a_icmp_ne (pc := 3) C 11 dJ22_add_2_3 (by decide) (fun c4 => ?_) (fun c4 => ?_)
  · have hw := hw.1 c4
    refine a_aload_2 (pc := 11) C dJ22_add_2_11 ?_
    refine a_iload_3 (pc := 12) C dJ22_add_2_12 ?_
    refine a_aload_1 (pc := 13) C dJ22_add_2_13 ?_
    obtain ⟨n6, f7, af7, if7, hw⟩ := hw
    refine a_aastO (pc := 14) C (ci := 7) rfl q2225 (V1 := OW h0 n0 u0 E σ.2.2.1 (oPut σ p2 (.inl (3, n6, .inr (.inr (.inr (.inr (va_up f7 p3.toNatClampNeg (some p1))))))))) (fun h n u hV => ⟨o_arr af7 hV, o_cls hw.1 hV, hV.putA af7⟩) if7 dJ22_add_2_14 (o_top (fun σ5 eσ5 => ?_))
    have hw := hw.2 σ5 eσ5
    refine a_aload_0 (pc := 15) C dJ22_add_2_15 ?_
    refine a_iload_3 (pc := 16) C dJ22_add_2_16 ?_
    refine a_iconst (pc := 17) C dJ22_add_2_17 ic_1 ?_
    refine a_iadd (pc := 18) C dJ22_add_2_18 ?_
    obtain ⟨fs9, ffs9, kfs9, hw⟩ := hw
    refine a_putf (pc := 19) C (ref := "java/util/ArrayList") (V1 := OW h0 n0 u0 E σ.2.2.1 (oPut σ5 a (.inr (12, fs9.set 2 (.int (p3 + 1)))))) in_J22 tyJ22 tyJ22_ok nmJ22 (ci := 12) rfl 2 (by decide) q702 rfl rfl rfl rfl (fun h n u hV => o_put (by decide) ffs9 kfs9 hV) dJ22_add_2_19 (o_top (fun σ8 eσ8 => ?_))
    have hw := hw σ8 eσ8
    exact a_vret C dJ22_add_2_22 (fun h n u hV => ⟨⟨_, rfl, hw, hV⟩, o_end hs hV⟩)
  · have hw := hw.2 c4
    refine a_aload_0 (pc := 6) C dJ22_add_2_6 ?_
    refine o_callVr (pc := 7) C hs [] (b := a) (ci := 12) (st := []) (fun h n u hB => ct_J22_growB l G a E _ _ hw.2 h n u hB) (by decide) (by decide) rfl hw.1 q97 q914 q916 qs8 (lw_meth q917) sg_J22_grow (Nat.le_of_ble_eq_true rfl) dJ22_add_2_7 (fun r11 σ10 hw => ?_)
    refine a_astore_2 (pc := 10) C dJ22_add_2_10 (by decide) rfl ?_
    refine a_aload_2 (pc := 11) C dJ22_add_2_11 ?_
    refine a_iload_3 (pc := 12) C dJ22_add_2_12 ?_
    refine a_aload_1 (pc := 13) C dJ22_add_2_13 ?_
    obtain ⟨n13, f14, af14, if14, hw⟩ := hw
    refine a_aastO (pc := 14) C (ci := 7) rfl q2225 (V1 := OW h0 n0 u0 E σ.2.2.1 (oPut σ10 r11 (.inl (3, n13, .inr (.inr (.inr (.inr (va_up f14 p3.toNatClampNeg (some p1))))))))) (fun h n u hV => ⟨o_arr af14 hV, o_cls hw.1 hV, hV.putA af14⟩) if14 dJ22_add_2_14 (o_top (fun σ12 eσ12 => ?_))
    have hw := hw.2 σ12 eσ12
    refine a_aload_0 (pc := 15) C dJ22_add_2_15 ?_
    refine a_iload_3 (pc := 16) C dJ22_add_2_16 ?_
    refine a_iconst (pc := 17) C dJ22_add_2_17 ic_1 ?_
    refine a_iadd (pc := 18) C dJ22_add_2_18 ?_
    obtain ⟨fs16, ffs16, kfs16, hw⟩ := hw
    refine a_putf (pc := 19) C (ref := "java/util/ArrayList") (V1 := OW h0 n0 u0 E σ.2.2.1 (oPut σ12 a (.inr (12, fs16.set 2 (.int (p3 + 1)))))) in_J22 tyJ22 tyJ22_ok nmJ22 (ci := 12) rfl 2 (by decide) q702 rfl rfl rfl rfl (fun h n u hV => o_put (by decide) ffs16 kfs16 hV) dJ22_add_2_19 (o_top (fun σ15 eσ15 => ?_))
    have hw := hw σ15 eσ15
    exact a_vret C dJ22_add_2_22 (fun h n u hV => ⟨⟨_, rfl, hw, hV⟩, o_end hs hV⟩)
def wp_J22_addA (G : aG) (a : Nat) (p1 : Nat) (σ : OS) (Q : Int32 → OS → Prop) : Prop := (∃ x1 : Int32, oF σ a 12 0 (.int x1) ∧ (∃ fs3 : List Value, σ.1 a = some (.inr (12, fs3)) ∧ 0 < fs3.length ∧ ∀ σ2 : OS, σ2 = (oPut σ a (.inr (12, fs3.set 0 (.int (x1 + 1))))) → (oF σ2 a 12 1 (.ref (G.2.2 0)) ∧ (∃ x4 : Int32, oF σ2 a 12 2 (.int x4) ∧ (oC σ2 a 12 ∧ wp_J22_add_2A G a p1 x4 σ2 (fun σ5 => (Q 1 σ5)))))))
theorem sg_J22_add : aSig yJ22_add 1 := by decide +kernel
set_option maxHeartbeats 4000000 in
theorem ct_J22_addA (l : Launch) (G : aG) (a : Nat) (p1 : Nat) (E : Nat → Prop) (σ : OS) (Q : Int32 → OS → Prop) (hw : wp_J22_addA G a p1 σ Q) (h0 : AH) (n0 u0 : Nat) (hB : OB h0 n0 E σ) : CT l yJ22_add (ws_ yJ22_add cJ22_add 2 (some .boolean)) 7 G [.ref a, .ref p1] h0 n0 u0 σ.2.2.1 (10 * σ.2.2.1) (o_pi Q h0 n0 u0 E σ.2.2.1) := by
  refine CT.intro [some (.ref a), some (.ref p1)] pn_RJ22 rfl (Nat.le_of_ble_eq_true rfl) ?_
  intro p e s m args below meth c C hz hu
  have hs : s.heap.size = n0 ∧ slT s.heap = u0 := ⟨hz, hu⟩
  refine a_world (V1 := OW h0 n0 u0 E σ.2.2.1 σ) (OW.start hB) ?_
  unfold wp_J22_addA at hw
  refine a_aload_0 (pc := 0) C dJ22_add_0 ?_
  refine a_dup (pc := 1) C dJ22_add_1 rfl ?_
  obtain ⟨x1, fx1, hw⟩ := hw
  refine a_getfS (pc := 2) C (ref := "java/util/ArrayList") in_J22 (ci := 12) rfl 0 (by decide) q704 q705 (fun h n u hV => o_fld fx1 hV) dJ22_add_2 ?_
  refine a_iconst (pc := 5) C dJ22_add_5 ic_1 ?_
  refine a_iadd (pc := 6) C dJ22_add_6 ?_
  obtain ⟨fs3, ffs3, kfs3, hw⟩ := hw
  refine a_putfS (pc := 7) C (ref := "java/util/ArrayList") (V1 := OW h0 n0 u0 E σ.2.2.1 (oPut σ a (.inr (12, fs3.set 0 (.int (x1 + 1)))))) in_J22 tyJ22 tyJ22_ok nmJ22 (ci := 12) rfl 0 (by decide) q704 q705 rfl rfl rfl (fun h n u hV => o_put (by decide) ffs3 kfs3 hV) dJ22_add_7 (o_top (fun σ2 eσ2 => ?_))
  have hw := hw σ2 eσ2
  refine a_aload_0 (pc := 10) C dJ22_add_10 ?_
  refine a_aload_1 (pc := 11) C dJ22_add_11 ?_
  refine a_aload_0 (pc := 12) C dJ22_add_12 ?_
  obtain ⟨fdea, hw⟩ := hw
  refine a_getf (pc := 13) C (ref := "java/util/ArrayList") in_J22 (ci := 12) rfl 1 (by decide) q701 rfl (fun h n u hV => o_fld fdea hV) dJ22_add_13 ?_
  refine a_aload_0 (pc := 16) C dJ22_add_16 ?_
  obtain ⟨x4, fx4, hw⟩ := hw
  refine a_getf (pc := 17) C (ref := "java/util/ArrayList") in_J22 (ci := 12) rfl 2 (by decide) q702 rfl (fun h n u hV => o_fld fx4 hV) dJ22_add_17 ?_
  refine o_callVv (pc := 20) C hs [.ref p1, .ref (G.2.2 0), .int x4] (b := a) (ci := 12) (st := []) (fun h n u hB => ct_J22_add_2A l G a _ _ E _ _ hw.2 h n u hB) (by decide) (by decide) rfl hw.1 q97 q910 q912 qs7 (lw_meth q913) sg_J22_add_2 (Nat.le_of_ble_eq_true rfl) dJ22_add_20 (fun σ5 hw => ?_)
  refine a_iconst (pc := 23) C dJ22_add_23 ic_1 ?_
  exact a_zret rfl C dJ22_add_24 (fun h n u hV => ⟨⟨(_, _), rfl, hw, hV⟩, o_end hs hV⟩)
def wp_J22_addB (a : Nat) (p1 : Nat) (σ : OS) (Q : Int32 → OS → Prop) : Prop := (∃ x1 : Int32, oF σ a 12 0 (.int x1) ∧ (∃ fs3 : List Value, σ.1 a = some (.inr (12, fs3)) ∧ 0 < fs3.length ∧ ∀ σ2 : OS, σ2 = (oPut σ a (.inr (12, fs3.set 0 (.int (x1 + 1))))) → (∃ r4 : Nat, oF σ2 a 12 1 (.ref r4) ∧ (∃ x5 : Int32, oF σ2 a 12 2 (.int x5) ∧ (oC σ2 a 12 ∧ wp_J22_add_2B a p1 r4 x5 σ2 (fun σ6 => (Q 1 σ6)))))))
set_option maxHeartbeats 4000000 in
theorem ct_J22_addB (l : Launch) (G : aG) (a : Nat) (p1 : Nat) (E : Nat → Prop) (σ : OS) (Q : Int32 → OS → Prop) (hw : wp_J22_addB a p1 σ Q) (h0 : AH) (n0 u0 : Nat) (hB : OB h0 n0 E σ) : CT l yJ22_add (ws_ yJ22_add cJ22_add 2 (some .boolean)) 7 G [.ref a, .ref p1] h0 n0 u0 σ.2.2.1 (10 * σ.2.2.1) (o_pi Q h0 n0 u0 E σ.2.2.1) := by
  refine CT.intro [some (.ref a), some (.ref p1)] pn_RJ22 rfl (Nat.le_of_ble_eq_true rfl) ?_
  intro p e s m args below meth c C hz hu
  have hs : s.heap.size = n0 ∧ slT s.heap = u0 := ⟨hz, hu⟩
  refine a_world (V1 := OW h0 n0 u0 E σ.2.2.1 σ) (OW.start hB) ?_
  unfold wp_J22_addB at hw
  refine a_aload_0 (pc := 0) C dJ22_add_0 ?_
  refine a_dup (pc := 1) C dJ22_add_1 rfl ?_
  obtain ⟨x1, fx1, hw⟩ := hw
  refine a_getfS (pc := 2) C (ref := "java/util/ArrayList") in_J22 (ci := 12) rfl 0 (by decide) q704 q705 (fun h n u hV => o_fld fx1 hV) dJ22_add_2 ?_
  refine a_iconst (pc := 5) C dJ22_add_5 ic_1 ?_
  refine a_iadd (pc := 6) C dJ22_add_6 ?_
  obtain ⟨fs3, ffs3, kfs3, hw⟩ := hw
  refine a_putfS (pc := 7) C (ref := "java/util/ArrayList") (V1 := OW h0 n0 u0 E σ.2.2.1 (oPut σ a (.inr (12, fs3.set 0 (.int (x1 + 1)))))) in_J22 tyJ22 tyJ22_ok nmJ22 (ci := 12) rfl 0 (by decide) q704 q705 rfl rfl rfl (fun h n u hV => o_put (by decide) ffs3 kfs3 hV) dJ22_add_7 (o_top (fun σ2 eσ2 => ?_))
  have hw := hw σ2 eσ2
  refine a_aload_0 (pc := 10) C dJ22_add_10 ?_
  refine a_aload_1 (pc := 11) C dJ22_add_11 ?_
  refine a_aload_0 (pc := 12) C dJ22_add_12 ?_
  obtain ⟨r4, fr4, hw⟩ := hw
  refine a_getf (pc := 13) C (ref := "java/util/ArrayList") in_J22 (ci := 12) rfl 1 (by decide) q701 rfl (fun h n u hV => o_fld fr4 hV) dJ22_add_13 ?_
  refine a_aload_0 (pc := 16) C dJ22_add_16 ?_
  obtain ⟨x5, fx5, hw⟩ := hw
  refine a_getf (pc := 17) C (ref := "java/util/ArrayList") in_J22 (ci := 12) rfl 2 (by decide) q702 rfl (fun h n u hV => o_fld fx5 hV) dJ22_add_17 ?_
  refine o_callVv (pc := 20) C hs [.ref p1, .ref r4, .int x5] (b := a) (ci := 12) (st := []) (fun h n u hB => ct_J22_add_2B l G a _ _ _ E _ _ hw.2 h n u hB) (by decide) (by decide) rfl hw.1 q97 q910 q912 qs7 (lw_meth q913) sg_J22_add_2 (Nat.le_of_ble_eq_true rfl) dJ22_add_20 (fun σ6 hw => ?_)
  refine a_iconst (pc := 23) C dJ22_add_23 ic_1 ?_
  exact a_zret rfl C dJ22_add_24 (fun h n u hV => ⟨⟨(_, _), rfl, hw, hV⟩, o_end hs hV⟩)
def wp_J22_add (G : aG) (a : Nat) (p1 : Nat) (σ : OS) (Q : Int32 → OS → Prop) : Prop := wp_J22_addA G a p1 σ Q ∨ wp_J22_addB a p1 σ Q
theorem ct_J22_add (l : Launch) (G : aG) (a : Nat) (p1 : Nat) (E : Nat → Prop) (σ : OS) (Q : Int32 → OS → Prop) (hw : wp_J22_add G a p1 σ Q) (h0 : AH) (n0 u0 : Nat) (hB : OB h0 n0 E σ) : CT l yJ22_add (ws_ yJ22_add cJ22_add 2 (some .boolean)) 7 G [.ref a, .ref p1] h0 n0 u0 σ.2.2.1 (10 * σ.2.2.1) (o_pi Q h0 n0 u0 E σ.2.2.1) := hw.elim (fun h => ct_J22_addA l G a p1 E σ Q h h0 n0 u0 hB) (fun h => ct_J22_addB l G a p1 E σ Q h h0 n0 u0 hB)
