set_option maxRecDepth 100000
/-! WALKS IN THE WIDE WORLD: by program -/
def wp_X6_init (a : Nat) (σ : OS) (Q : OS → Prop) : Prop := (16 ≤ σ.2.2.1 ∧ ∀ q1 : Nat, oFr σ q1 → (σ.2.2.2.1 ≠ 0 → q1 = σ.2.2.2.1) → ∀ σ2 : OS, σ2 = oNew σ q1 16 (.inl (0, 153, .inl (fun _ => 0))) → (∃ fs4 : List Value, σ2.1 a = some (.inr (4, fs4)) ∧ 0 < fs4.length ∧ ∀ σ3 : OS, σ3 = (oPut σ2 a (.inr (4, fs4.set 0 (.ref q1)))) → (16 ≤ σ3.2.2.1 ∧ ∀ q5 : Nat, oFr σ3 q5 → (σ3.2.2.2.1 ≠ 0 → q5 = σ3.2.2.2.1) → ∀ σ6 : OS, σ6 = oNew σ3 q5 16 (.inl (0, 153, .inl (fun _ => 0))) → (∃ fs8 : List Value, σ6.1 a = some (.inr (4, fs8)) ∧ 1 < fs8.length ∧ ∀ σ7 : OS, σ7 = (oPut σ6 a (.inr (4, fs8.set 1 (.ref q5)))) → (77 ≤ σ7.2.2.1 ∧ ∀ q9 : Nat, oFr σ7 q9 → (σ7.2.2.2.1 ≠ 0 → q9 = σ7.2.2.2.1) → ∀ σ10 : OS, σ10 = oNew σ7 q9 77 (.inl (0, 765, .inl (fun _ => 0))) → (∃ fs12 : List Value, σ10.1 a = some (.inr (4, fs12)) ∧ 2 < fs12.length ∧ ∀ σ11 : OS, σ11 = (oPut σ10 a (.inr (4, fs12.set 2 (.ref q9)))) → (16 ≤ σ11.2.2.1 ∧ ∀ q13 : Nat, oFr σ11 q13 → (σ11.2.2.2.1 ≠ 0 → q13 = σ11.2.2.2.1) → ∀ σ14 : OS, σ14 = oNew σ11 q13 16 (.inl (0, 153, .inl (fun _ => 0))) → (∃ fs16 : List Value, σ14.1 a = some (.inr (4, fs16)) ∧ 4 < fs16.length ∧ ∀ σ15 : OS, σ15 = (oPut σ14 a (.inr (4, fs16.set 4 (.ref q13)))) → (6 ≤ σ15.2.2.1 ∧ ∀ q17 : Nat, oFr σ15 q17 → (σ15.2.2.2.1 ≠ 0 → q17 = σ15.2.2.2.1) → ∀ σ18 : OS, σ18 = oNew σ15 q17 6 (.inl (0, 60, .inl (fun _ => 0))) → (∃ fs20 : List Value, σ18.1 a = some (.inr (4, fs20)) ∧ 6 < fs20.length ∧ ∀ σ19 : OS, σ19 = (oPut σ18 a (.inr (4, fs20.set 6 (.ref q17)))) → (∃ r21 : Nat, oF σ19 a 4 0 (.ref r21) ∧ (∃ (n23 : Nat) (f24 : Nat → Int32), σ19.1 r21 = some (.inl (0, n23, .inl f24)) ∧ vp_in 3 n23 ∧ ∀ σ22 : OS, σ22 = oPut σ19 r21 (.inl (0, n23, .inl (upd f24 (3 : Int32).toNatClampNeg 50))) → (∃ r25 : Nat, oF σ22 a 4 0 (.ref r25) ∧ (∃ (n27 : Nat) (f28 : Nat → Int32), σ22.1 r25 = some (.inl (0, n27, .inl f28)) ∧ vp_in 4 n27 ∧ ∀ σ26 : OS, σ26 = oPut σ22 r25 (.inl (0, n27, .inl (upd f28 (4 : Int32).toNatClampNeg 80))) → (∃ r29 : Nat, oF σ26 a 4 0 (.ref r29) ∧ (∃ (n31 : Nat) (f32 : Nat → Int32), σ26.1 r29 = some (.inl (0, n31, .inl f32)) ∧ vp_in 5 n31 ∧ ∀ σ30 : OS, σ30 = oPut σ26 r29 (.inl (0, n31, .inl (upd f32 (5 : Int32).toNatClampNeg 4))) → (∃ r33 : Nat, oF σ30 a 4 0 (.ref r33) ∧ (∃ (n35 : Nat) (f36 : Nat → Int32), σ30.1 r33 = some (.inl (0, n35, .inl f36)) ∧ vp_in 6 n35 ∧ ∀ σ34 : OS, σ34 = oPut σ30 r33 (.inl (0, n35, .inl (upd f36 (6 : Int32).toNatClampNeg 4))) → (Q σ34)))))))))))))))))))
theorem sg_X6_init : aSig yX6_init 0 := by decide +kernel
set_option maxHeartbeats 4000000 in
theorem ct_X6_init (l : Launch) (G : aG) (a : Nat) (E : Nat → Prop) (σ : OS) (Q : OS → Prop) (hw : wp_X6_init a σ Q) (h0 : AH) (n0 u0 : Nat) (hB : OB h0 n0 E σ) : CT l yX6_init (ws_ yX6_init cX6_init 1 none) 2 G [.ref a] h0 n0 u0 σ.2.2.1 (10 * σ.2.2.1) (o_pv Q h0 n0 u0 E σ.2.2.1) := by
  refine CT.intro [some (.ref a)] pn_RX6 rfl (Nat.le_of_ble_eq_true rfl) ?_
  intro p e s m args below meth c C hz hu
  have hs : s.heap.size = n0 ∧ slT s.heap = u0 := ⟨hz, hu⟩
  refine a_world (V1 := OW h0 n0 u0 E σ.2.2.1 σ) (OW.start hB) ?_
  unfold wp_X6_init at hw
  refine a_aload_0 (pc := 0) C dX6_init_0 ?_
  refine a_objInit (pc := 1) C q1757 q107 q108 (by decide) (Nat.le_of_ble_eq_true rfl) dX6_init_1 ?_
  refine a_aload_0 (pc := 4) C dX6_init_4 ?_
  refine a_sipush (pc := 5) C dX6_init_5 sc_153 ?_
  refine o_newA (pc := 8) C hs 16 (ty := .int) (kd := 0) (a0 := (153, .inl (fun _ => 0))) rfl rfl q133 (fun _ => rfl) (fun cA => rfl) (by decide) (by decide) (by decide) (by decide) (by decide) hw.1 dX6_init_8 (fun q1 frq1 nxq1 σ2 eσ2 => ?_)
  have hw := hw.2 q1 frq1 nxq1 σ2 eσ2
  obtain ⟨fs4, ffs4, kfs4, hw⟩ := hw
  refine a_putfF (pc := 10) C (ref := "MaltDrumsModel") (V1 := OW h0 n0 u0 E σ.2.2.1 (oPut σ2 a (.inr (4, fs4.set 0 (.ref q1))))) in_X6 tyX6 tyX6_ok nmX6 (ci := 4) rfl 0 (by decide) q1758 rfl rfl rfl rfl rfl rfl (fun h n u hV => o_put (by decide) ffs4 kfs4 hV) dX6_init_10 (o_top (fun σ3 eσ3 => ?_))
  have hw := hw σ3 eσ3
  refine a_aload_0 (pc := 13) C dX6_init_13 ?_
  refine a_sipush (pc := 14) C dX6_init_14 sc_153 ?_
  refine o_newA (pc := 17) C hs 16 (ty := .int) (kd := 0) (a0 := (153, .inl (fun _ => 0))) rfl rfl q133 (fun _ => rfl) (fun cA => rfl) (by decide) (by decide) (by decide) (by decide) (by decide) hw.1 dX6_init_17 (fun q5 frq5 nxq5 σ6 eσ6 => ?_)
  have hw := hw.2 q5 frq5 nxq5 σ6 eσ6
  obtain ⟨fs8, ffs8, kfs8, hw⟩ := hw
  refine a_putfF (pc := 19) C (ref := "MaltDrumsModel") (V1 := OW h0 n0 u0 E σ.2.2.1 (oPut σ6 a (.inr (4, fs8.set 1 (.ref q5))))) in_X6 tyX6 tyX6_ok nmX6 (ci := 4) rfl 1 (by decide) q1759 rfl rfl rfl rfl rfl rfl (fun h n u hV => o_put (by decide) ffs8 kfs8 hV) dX6_init_19 (o_top (fun σ7 eσ7 => ?_))
  have hw := hw σ7 eσ7
  refine a_aload_0 (pc := 22) C dX6_init_22 ?_
  refine a_sipush (pc := 23) C dX6_init_23 sc_765 ?_
  refine o_newA (pc := 26) C hs 77 (ty := .int) (kd := 0) (a0 := (765, .inl (fun _ => 0))) rfl rfl q133 (fun _ => rfl) (fun cA => rfl) (by decide) (by decide) (by decide) (by decide) (by decide) hw.1 dX6_init_26 (fun q9 frq9 nxq9 σ10 eσ10 => ?_)
  have hw := hw.2 q9 frq9 nxq9 σ10 eσ10
  obtain ⟨fs12, ffs12, kfs12, hw⟩ := hw
  refine a_putfF (pc := 28) C (ref := "MaltDrumsModel") (V1 := OW h0 n0 u0 E σ.2.2.1 (oPut σ10 a (.inr (4, fs12.set 2 (.ref q9))))) in_X6 tyX6 tyX6_ok nmX6 (ci := 4) rfl 2 (by decide) q1760 rfl rfl rfl rfl rfl rfl (fun h n u hV => o_put (by decide) ffs12 kfs12 hV) dX6_init_28 (o_top (fun σ11 eσ11 => ?_))
  have hw := hw σ11 eσ11
  refine a_aload_0 (pc := 31) C dX6_init_31 ?_
  refine a_sipush (pc := 32) C dX6_init_32 sc_153 ?_
  refine o_newA (pc := 35) C hs 16 (ty := .int) (kd := 0) (a0 := (153, .inl (fun _ => 0))) rfl rfl q133 (fun _ => rfl) (fun cA => rfl) (by decide) (by decide) (by decide) (by decide) (by decide) hw.1 dX6_init_35 (fun q13 frq13 nxq13 σ14 eσ14 => ?_)
  have hw := hw.2 q13 frq13 nxq13 σ14 eσ14
  obtain ⟨fs16, ffs16, kfs16, hw⟩ := hw
  refine a_putfF (pc := 37) C (ref := "MaltDrumsModel") (V1 := OW h0 n0 u0 E σ.2.2.1 (oPut σ14 a (.inr (4, fs16.set 4 (.ref q13))))) in_X6 tyX6 tyX6_ok nmX6 (ci := 4) rfl 4 (by decide) q1762 rfl rfl rfl rfl rfl rfl (fun h n u hV => o_put (by decide) ffs16 kfs16 hV) dX6_init_37 (o_top (fun σ15 eσ15 => ?_))
  have hw := hw σ15 eσ15
  refine a_aload_0 (pc := 40) C dX6_init_40 ?_
  refine a_bipush (pc := 41) C dX6_init_41 bc_60 ?_
  refine o_newA (pc := 43) C hs 6 (ty := .int) (kd := 0) (a0 := (60, .inl (fun _ => 0))) rfl rfl q133 (fun _ => rfl) (fun cA => rfl) (by decide) (by decide) (by decide) (by decide) (by decide) hw.1 dX6_init_43 (fun q17 frq17 nxq17 σ18 eσ18 => ?_)
  have hw := hw.2 q17 frq17 nxq17 σ18 eσ18
  obtain ⟨fs20, ffs20, kfs20, hw⟩ := hw
  refine a_putfF (pc := 45) C (ref := "MaltDrumsModel") (V1 := OW h0 n0 u0 E σ.2.2.1 (oPut σ18 a (.inr (4, fs20.set 6 (.ref q17))))) in_X6 tyX6 tyX6_ok nmX6 (ci := 4) rfl 6 (by decide) q1764 rfl rfl rfl rfl rfl rfl (fun h n u hV => o_put (by decide) ffs20 kfs20 hV) dX6_init_45 (o_top (fun σ19 eσ19 => ?_))
  have hw := hw σ19 eσ19
  refine a_aload_0 (pc := 48) C dX6_init_48 ?_
  obtain ⟨r21, fr21, hw⟩ := hw
  refine a_getf (pc := 49) C (ref := "MaltDrumsModel") in_X6 (ci := 4) rfl 0 (by decide) q1758 rfl (fun h n u hV => o_fld fr21 hV) dX6_init_49 ?_
  refine a_iconst (pc := 52) C dX6_init_52 ic_3 ?_
  refine a_bipush (pc := 53) C dX6_init_53 bc_50 ?_
  obtain ⟨n23, f24, af24, if24, hw⟩ := hw
  refine a_iast (pc := 55) C (V1 := OW h0 n0 u0 E σ.2.2.1 (oPut σ19 r21 (.inl (0, n23, .inl (upd f24 (3 : Int32).toNatClampNeg 50))))) (fun h n u hV => ⟨o_arr af24 hV, hV.putA af24⟩) if24 dX6_init_55 (o_top (fun σ22 eσ22 => ?_))
  have hw := hw σ22 eσ22
  refine a_aload_0 (pc := 56) C dX6_init_56 ?_
  obtain ⟨r25, fr25, hw⟩ := hw
  refine a_getf (pc := 57) C (ref := "MaltDrumsModel") in_X6 (ci := 4) rfl 0 (by decide) q1758 rfl (fun h n u hV => o_fld fr25 hV) dX6_init_57 ?_
  refine a_iconst (pc := 60) C dX6_init_60 ic_4 ?_
  refine a_bipush (pc := 61) C dX6_init_61 bc_80 ?_
  obtain ⟨n27, f28, af28, if28, hw⟩ := hw
  refine a_iast (pc := 63) C (V1 := OW h0 n0 u0 E σ.2.2.1 (oPut σ22 r25 (.inl (0, n27, .inl (upd f28 (4 : Int32).toNatClampNeg 80))))) (fun h n u hV => ⟨o_arr af28 hV, hV.putA af28⟩) if28 dX6_init_63 (o_top (fun σ26 eσ26 => ?_))
  have hw := hw σ26 eσ26
  refine a_aload_0 (pc := 64) C dX6_init_64 ?_
  obtain ⟨r29, fr29, hw⟩ := hw
  refine a_getf (pc := 65) C (ref := "MaltDrumsModel") in_X6 (ci := 4) rfl 0 (by decide) q1758 rfl (fun h n u hV => o_fld fr29 hV) dX6_init_65 ?_
  refine a_iconst (pc := 68) C dX6_init_68 ic_5 ?_
  refine a_iconst (pc := 69) C dX6_init_69 ic_4 ?_
  obtain ⟨n31, f32, af32, if32, hw⟩ := hw
  refine a_iast (pc := 70) C (V1 := OW h0 n0 u0 E σ.2.2.1 (oPut σ26 r29 (.inl (0, n31, .inl (upd f32 (5 : Int32).toNatClampNeg 4))))) (fun h n u hV => ⟨o_arr af32 hV, hV.putA af32⟩) if32 dX6_init_70 (o_top (fun σ30 eσ30 => ?_))
  have hw := hw σ30 eσ30
  refine a_aload_0 (pc := 71) C dX6_init_71 ?_
  obtain ⟨r33, fr33, hw⟩ := hw
  refine a_getf (pc := 72) C (ref := "MaltDrumsModel") in_X6 (ci := 4) rfl 0 (by decide) q1758 rfl (fun h n u hV => o_fld fr33 hV) dX6_init_72 ?_
  refine a_bipush (pc := 75) C dX6_init_75 bc_6 ?_
  refine a_iconst (pc := 77) C dX6_init_77 ic_4 ?_
  obtain ⟨n35, f36, af36, if36, hw⟩ := hw
  refine a_iast (pc := 78) C (V1 := OW h0 n0 u0 E σ.2.2.1 (oPut σ30 r33 (.inl (0, n35, .inl (upd f36 (6 : Int32).toNatClampNeg 4))))) (fun h n u hV => ⟨o_arr af36 hV, hV.putA af36⟩) if36 dX6_init_78 (o_top (fun σ34 eσ34 => ?_))
  have hw := hw σ34 eσ34
  exact a_vret C dX6_init_79 (fun h n u hV => ⟨⟨_, rfl, hw, hV⟩, o_end hs hV⟩)
def wp_X0_run (G : aG) (p1 : Nat) (p2 : Nat) (σ : OS) (Q : Int32 → OS → Prop) (X : Nat → OS → Prop) : Prop := (oC σ p1 0 ∧ wp_X1_run G p1 σ (fun v2 σ1 => (∃ (n4 : Nat) (f5 : Nat → Int64), σ1.1 p2 = some (.inl (1, n4, .inr (.inl f5))) ∧ vp_in 0 n4 ∧ ∀ σ3 : OS, σ3 = oPut σ1 p2 (.inl (1, n4, .inr (.inl (vp_updL f5 (0 : Int32).toNatClampNeg (v2.toInt64))))) → (Q 0 σ3))) (fun k9 σx => (k9 = 1 ∧ ∀ σ6 : OS, σ6 = oXs σx 0 → (Q 1 σ6))))
theorem sg_X0_run : aSig yX0_run 2 := by decide +kernel
set_option maxHeartbeats 4000000 in
theorem ct_X0_run (l : Launch) (G : aG) (p1 : Nat) (p2 : Nat) (E : Nat → Prop) (σ : OS) (Q : Int32 → OS → Prop) (X : Nat → OS → Prop) (hw : wp_X0_run G p1 p2 σ Q X) (h0 : AH) (n0 u0 : Nat) (hB : OB h0 n0 E σ) : CTX l yX0_run (wsW_ yX0_run cX0_run 3 (some .int) [(0, 8, 11, 13)]) 23 G [.ref p1, .ref p2] h0 n0 u0 σ.2.2.1 (10 * σ.2.2.1) (o_pi Q h0 n0 u0 E σ.2.2.1) (o_px X h0 E) := by
  refine CTX.introW [some (.ref p1), some (.ref p2), none] pn_RX0 rfl (Nat.le_of_ble_eq_true rfl) ?_
  intro p e s m args below meth c C hz hu ht
  have hs : s.heap.size = n0 ∧ slT s.heap = u0 := ⟨hz, hu⟩
  refine a_world (V1 := OW h0 n0 u0 E σ.2.2.1 σ) (OW.start hB) ?_
  unfold wp_X0_run at hw
  refine a_aload_1 (pc := 0) C dX0_run_0 ?_
  refine a_iconst (pc := 1) C dX0_run_1 ic_0 ?_
  refine a_aload_0 (pc := 2) C dX0_run_2 ?_
  refine o_callXVWi (pc := 3) C hs [] (b := p1) (ci := 0) (st := [.int 0, .ref p2]) (fun h n u hB => ct_X1_run l G p1 E _ _ _ hw.2 h n u hB) (by decide) (by decide) rfl hw.1 (lw_VW q1497 q1498 q1499 q65 q1500) rfl sg_X1_run (Nat.le_of_ble_eq_true rfl) dX0_run_3 (fun v2 σ1 hw => ?_) (fun k9 σx hx => ?_)
  · refine a_i2l (pc := 6) C dX0_run_6 ?_
    obtain ⟨n4, f5, af5, if5, hw⟩ := hw
    refine a_last (pc := 7) C (V1 := OW h0 n0 u0 E σ.2.2.1 (oPut σ1 p2 (.inl (1, n4, .inr (.inl (vp_updL f5 (0 : Int32).toNatClampNeg (v2.toInt64))))))) (fun h n u hV => ⟨o_arr af5 hV, hV.putA af5⟩) if5 dX0_run_7 (o_top (fun σ3 eσ3 => ?_))
    have hw := hw σ3 eσ3
    refine a_goto (pc := 8) C 14 dX0_run_8 (by decide) ?_
    refine a_iconst (pc := 14) C dX0_run_14 ic_0 ?_
    exact a_xret (a_iret C dX0_run_15 (fun h n u hV => ⟨⟨(_, _), rfl, hw, hV⟩, o_end hs hV⟩))
  · rcases hx with ⟨rfl, hw⟩
    · refine ax_catch C (tableOf []) ⟨0, 8, 11, 13⟩ (tableOf []) (ht.trans rfl) (fun z hz => nomatch hz) (by decide) (by decide) q1224 q515 (fun q7 => o_top (fun σ6 eσ6 => ?_))
      have hw := hw σ6 eσ6
      refine a_astore_2 (pc := 11) C dX0_run_11 (by decide) rfl ?_
      refine a_iconst (pc := 12) C dX0_run_12 ic_1 ?_
      exact a_xret (a_iret C dX0_run_13 (fun h n u hV => ⟨⟨(_, _), rfl, hw, hV⟩, o_end hs hV⟩))
