set_option maxRecDepth 100000
/-! WALKS IN THE WIDE WORLD: by program -/
theorem pn_RJ0 : plainName RJ0 = true := by decide
theorem pn_RJ1 : plainName RJ1 = true := by decide
theorem pn_RJ2 : plainName RJ2 = true := by decide
theorem pn_RX8 : plainName RX8 = true := by decide
theorem pn_RX9 : plainName RX9 = true := by decide
def wp_J0_init (a : Nat) (σ : OS) (Q : OS → Prop) : Prop := (Q σ)
theorem sg_J0_init : aSig yJ0_init 0 := by decide +kernel
set_option maxHeartbeats 4000000 in
theorem ct_J0_init (l : Launch) (G : aG) (a : Nat) (E : Nat → Prop) (σ : OS) (Q : OS → Prop) (hw : wp_J0_init a σ Q) (h0 : AH) (n0 u0 : Nat) (hB : OB h0 n0 E σ) : CT l yJ0_init (ws_ yJ0_init cJ0_init 1 none) 2 G [.ref a] h0 n0 u0 σ.2.2.1 (10 * σ.2.2.1) (o_pv Q h0 n0 u0 E σ.2.2.1) := by
  refine CT.intro [some (.ref a)] pn_RJ0 rfl (Nat.le_of_ble_eq_true rfl) ?_
  intro p e s m args below meth c C hz hu
  have hs : s.heap.size = n0 ∧ slT s.heap = u0 := ⟨hz, hu⟩
  refine a_world (V1 := OW h0 n0 u0 E σ.2.2.1 σ) (OW.start hB) ?_
  unfold wp_J0_init at hw
  refine a_aload_0 (pc := 0) C dJ0_init_0 ?_
  refine a_objInit (pc := 1) C q128 q107 q108 (by decide) (Nat.le_of_ble_eq_true rfl) dJ0_init_1 ?_
  exact a_vret C dJ0_init_4 (fun h n u hV => ⟨⟨_, rfl, hw, hV⟩, o_end hs hV⟩)
def wp_X4_init (a : Nat) (p1 : Int32) (σ : OS) (Q : OS → Prop) : Prop := wp_J0_init a σ (fun σ1 => (∃ fs3 : List Value, σ1.1 a = some (.inr (2, fs3)) ∧ 0 < fs3.length ∧ ∀ σ2 : OS, σ2 = (oPut σ1 a (.inr (2, fs3.set 0 (.int p1)))) → (Q σ2)))
theorem sg_X4_init : aSig yX4_init 1 := by decide +kernel
set_option maxHeartbeats 4000000 in
theorem ct_X4_init (l : Launch) (G : aG) (a : Nat) (p1 : Int32) (E : Nat → Prop) (σ : OS) (Q : OS → Prop) (hw : wp_X4_init a p1 σ Q) (h0 : AH) (n0 u0 : Nat) (hB : OB h0 n0 E σ) : CT l yX4_init (ws_ yX4_init cX4_init 2 none) 3 G [.ref a, .int p1] h0 n0 u0 σ.2.2.1 (10 * σ.2.2.1) (o_pv Q h0 n0 u0 E σ.2.2.1) := by
  refine CT.intro [some (.ref a), some (.int p1)] pn_RX4 rfl (Nat.le_of_ble_eq_true rfl) ?_
  intro p e s m args below meth c C hz hu
  have hs : s.heap.size = n0 ∧ slT s.heap = u0 := ⟨hz, hu⟩
  refine a_world (V1 := OW h0 n0 u0 E σ.2.2.1 σ) (OW.start hB) ?_
  unfold wp_X4_init at hw
  refine a_aload_0 (pc := 0) C dX4_init_0 ?_
  refine o_callIv (pc := 1) C hs [] (b := a) (st := []) (fun h n u hB => ct_J0_init l G a E _ _ hw h n u hB) (by decide) (by decide) q68 q125 q126 rfl (lw_meth q127) sg_J0_init (Nat.le_of_ble_eq_true rfl) dX4_init_1 (fun σ1 hw => ?_)
  refine a_aload_0 (pc := 4) C dX4_init_4 ?_
  refine a_iload_1 (pc := 5) C dX4_init_5 ?_
  obtain ⟨fs3, ffs3, kfs3, hw⟩ := hw
  refine a_putfF (pc := 6) C (ref := "MaltDrums$Heap") (V1 := OW h0 n0 u0 E σ.2.2.1 (oPut σ1 a (.inr (2, fs3.set 0 (.int p1))))) in_X4 tyX4 tyX4_ok nmX4 (ci := 2) rfl 0 (by decide) q129 rfl rfl rfl rfl rfl rfl (fun h n u hV => o_put (by decide) ffs3 kfs3 hV) dX4_init_6 (o_top (fun σ2 eσ2 => ?_))
  have hw := hw σ2 eσ2
  exact a_vret C dX4_init_9 (fun h n u hV => ⟨⟨_, rfl, hw, hV⟩, o_end hs hV⟩)
def wp_X3_heap (σ : OS) (Q : Nat → OS → Prop) : Prop := (1 ≤ σ.2.2.1 ∧ ∀ q1 : Nat, oFr σ q1 → (σ.2.2.2.1 ≠ 0 → q1 = σ.2.2.2.1) → ∀ σ2 : OS, σ2 = oNew σ q1 1 (.inr (2, [.int 0])) → wp_X4_init q1 0 σ2 (fun σ3 => (Q q1 σ3)))
theorem sg_X3_heap : aSig yX3_heap 0 := by decide +kernel
set_option maxHeartbeats 4000000 in
theorem ct_X3_heap (l : Launch) (G : aG) (E : Nat → Prop) (σ : OS) (Q : Nat → OS → Prop) (hw : wp_X3_heap σ Q) (h0 : AH) (n0 u0 : Nat) (hB : OB h0 n0 E σ) : CT l yX3_heap (ws_ yX3_heap cX3_heap 0 (some (.object "MaltDrums$Bed"))) 4 G [] h0 n0 u0 σ.2.2.1 (10 * σ.2.2.1) (o_pr Q h0 n0 u0 E σ.2.2.1) := by
  refine CT.intro [] pn_RX3 rfl (Nat.le_of_ble_eq_true rfl) ?_
  intro p e s m args below meth c C hz hu
  have hs : s.heap.size = n0 ∧ slT s.heap = u0 := ⟨hz, hu⟩
  refine a_world (V1 := OW h0 n0 u0 E σ.2.2.1 σ) (OW.start hB) ?_
  unfold wp_X3_heap at hw
  refine o_newC (pc := 0) C hs 1 in_X4 tyX4 tyX4_ok q120 q121 q69 (ci := 2) (fs := [.int 0]) rfl (by decide) (fun f z => by cases z) (by decide) (by decide) hw.1 dX3_heap_0 (fun q1 frq1 nxq1 σ2 eσ2 => ?_)
  have hw := hw.2 q1 frq1 nxq1 σ2 eσ2
  refine a_dup (pc := 3) C dX3_heap_3 rfl ?_
  refine a_iconst (pc := 4) C dX3_heap_4 ic_0 ?_
  refine o_callINv (pc := 5) C hs [.int 0] (b := q1) (st := [.ref q1]) (fun h n u hB => ct_X4_init l G q1 _ E _ _ hw h n u hB) (by decide) (by decide) q122 q123 q69 rfl (lw_meth q124) sg_X4_init (Nat.le_of_ble_eq_true rfl) dX3_heap_5 (fun σ3 hw => ?_)
  exact a_aret (Or.inl ⟨_, rfl⟩) (Or.inr ⟨_, rfl⟩) C dX3_heap_8 (fun h n u hV => ⟨⟨(_, _), rfl, hw, hV⟩, o_end hs hV⟩)
def wp_X5_init (a : Nat) (σ : OS) (Q : OS → Prop) : Prop := (∃ fs2 : List Value, σ.1 a = some (.inr (3, fs2)) ∧ 0 < fs2.length ∧ ∀ σ1 : OS, σ1 = (oPut σ a (.inr (3, fs2.set 0 (.int ((-1)))))) → (Q σ1))
theorem sg_X5_init : aSig yX5_init 0 := by decide +kernel
set_option maxHeartbeats 4000000 in
theorem ct_X5_init (l : Launch) (G : aG) (a : Nat) (E : Nat → Prop) (σ : OS) (Q : OS → Prop) (hw : wp_X5_init a σ Q) (h0 : AH) (n0 u0 : Nat) (hB : OB h0 n0 E σ) : CT l yX5_init (ws_ yX5_init cX5_init 1 none) 2 G [.ref a] h0 n0 u0 σ.2.2.1 (10 * σ.2.2.1) (o_pv Q h0 n0 u0 E σ.2.2.1) := by
  refine CT.intro [some (.ref a)] pn_RX5 rfl (Nat.le_of_ble_eq_true rfl) ?_
  intro p e s m args below meth c C hz hu
  have hs : s.heap.size = n0 ∧ slT s.heap = u0 := ⟨hz, hu⟩
  refine a_world (V1 := OW h0 n0 u0 E σ.2.2.1 σ) (OW.start hB) ?_
  unfold wp_X5_init at hw
  refine a_aload_0 (pc := 0) C dX5_init_0 ?_
  refine a_objInit (pc := 1) C q138 q107 q108 (by decide) (Nat.le_of_ble_eq_true rfl) dX5_init_1 ?_
  refine a_aload_0 (pc := 4) C dX5_init_4 ?_
  refine a_iconst (pc := 5) C dX5_init_5 ic_m1 ?_
  obtain ⟨fs2, ffs2, kfs2, hw⟩ := hw
  refine a_putf (pc := 6) C (ref := "MaltDrums$Drum") (V1 := OW h0 n0 u0 E σ.2.2.1 (oPut σ a (.inr (3, fs2.set 0 (.int ((-1))))))) in_X5 tyX5 tyX5_ok nmX5 (ci := 3) rfl 0 (by decide) q139 rfl rfl rfl rfl (fun h n u hV => o_put (by decide) ffs2 kfs2 hV) dX5_init_6 (o_top (fun σ1 eσ1 => ?_))
  have hw := hw σ1 eσ1
  exact a_vret C dX5_init_9 (fun h n u hV => ⟨⟨_, rfl, hw, hV⟩, o_end hs hV⟩)
def wp_X5_init_2 (a : Nat) (p1 : Nat) (p1d : Nat) (σ : OS) (Q : OS → Prop) : Prop := (∃ fs2 : List Value, σ.1 a = some (.inr (3, fs2)) ∧ 0 < fs2.length ∧ ∀ σ1 : OS, σ1 = (oPut σ a (.inr (3, fs2.set 0 (.int ((-1)))))) → (∃ w3 : MS × List Int32, σ1.2.1 p1 = some w3 ∧ p1d < 4 ∧ (∃ fs5 : List Value, σ1.1 a = some (.inr (3, fs5)) ∧ 0 < fs5.length ∧ ∀ σ4 : OS, σ4 = (oPut σ1 a (.inr (3, fs5.set 0 (.int (w3.1 7 p1d))))) → (∃ w6 : MS × List Int32, σ4.2.1 p1 = some w6 ∧ p1d < 4 ∧ (∃ fs8 : List Value, σ4.1 a = some (.inr (3, fs8)) ∧ 1 < fs8.length ∧ ∀ σ7 : OS, σ7 = (oPut σ4 a (.inr (3, fs8.set 1 (.int (w6.1 8 p1d))))) → (∃ w9 : MS × List Int32, σ7.2.1 p1 = some w9 ∧ p1d < 4 ∧ (∃ fs11 : List Value, σ7.1 a = some (.inr (3, fs11)) ∧ 2 < fs11.length ∧ ∀ σ10 : OS, σ10 = (oPut σ7 a (.inr (3, fs11.set 2 (.int (w9.1 9 p1d))))) → (∃ w12 : MS × List Int32, σ10.2.1 p1 = some w12 ∧ p1d < 4 ∧ (∃ fs14 : List Value, σ10.1 a = some (.inr (3, fs14)) ∧ 3 < fs14.length ∧ ∀ σ13 : OS, σ13 = (oPut σ10 a (.inr (3, fs14.set 3 (.int (w12.1 10 p1d))))) → (Q σ13))))))))))
theorem sg_X5_init_2 : aSig yX5_init_2 1 := by decide +kernel
set_option maxHeartbeats 4000000 in
theorem ct_X5_init_2 (l : Launch) (G : aG) (a : Nat) (p1 : Nat) (p1d : Nat) (E : Nat → Prop) (σ : OS) (Q : OS → Prop) (hw : wp_X5_init_2 a p1 p1d σ Q) (h0 : AH) (n0 u0 : Nat) (hB : OB h0 n0 E σ) : CT l yX5_init_2 (ws_ yX5_init_2 cX5_init_2 2 none) 2 G [.ref a, .ref (p1 + 9 + (1 + p1d))] h0 n0 u0 σ.2.2.1 (10 * σ.2.2.1) (o_pv Q h0 n0 u0 E σ.2.2.1) := by
  refine CT.intro [some (.ref a), some (.ref (p1 + 9 + (1 + p1d)))] pn_RX5 rfl (Nat.le_of_ble_eq_true rfl) ?_
  intro p e s m args below meth c C hz hu
  have hs : s.heap.size = n0 ∧ slT s.heap = u0 := ⟨hz, hu⟩
  refine a_world (V1 := OW h0 n0 u0 E σ.2.2.1 σ) (OW.start hB) ?_
  unfold wp_X5_init_2 at hw
  refine a_aload_0 (pc := 0) C dX5_init_2_0 ?_
  refine a_objInit (pc := 1) C q138 q107 q108 (by decide) (Nat.le_of_ble_eq_true rfl) dX5_init_2_1 ?_
  refine a_aload_0 (pc := 4) C dX5_init_2_4 ?_
  refine a_iconst (pc := 5) C dX5_init_2_5 ic_m1 ?_
  obtain ⟨fs2, ffs2, kfs2, hw⟩ := hw
  refine a_putf (pc := 6) C (ref := "MaltDrums$Drum") (V1 := OW h0 n0 u0 E σ.2.2.1 (oPut σ a (.inr (3, fs2.set 0 (.int ((-1))))))) in_X5 tyX5 tyX5_ok nmX5 (ci := 3) rfl 0 (by decide) q139 rfl rfl rfl rfl (fun h n u hV => o_put (by decide) ffs2 kfs2 hV) dX5_init_2_6 (o_top (fun σ1 eσ1 => ?_))
  have hw := hw σ1 eσ1
  refine a_aload_0 (pc := 9) C dX5_init_2_9 ?_
  refine a_aload_1 (pc := 10) C dX5_init_2_10 ?_
  obtain ⟨w3, yw3, dw3, hw⟩ := hw
  refine a_getf (pc := 11) C (ref := "MaltDrums$Drum") (v := .int (w3.1 7 p1d)) in_X5 (ci := 3) rfl 0 (by decide) q139 rfl (fun h n u hV => o_hdr yw3 dw3 rfl hV) dX5_init_2_11 ?_
  obtain ⟨fs5, ffs5, kfs5, hw⟩ := hw
  refine a_putf (pc := 14) C (ref := "MaltDrums$Drum") (V1 := OW h0 n0 u0 E σ.2.2.1 (oPut σ1 a (.inr (3, fs5.set 0 (.int (w3.1 7 p1d)))))) in_X5 tyX5 tyX5_ok nmX5 (ci := 3) rfl 0 (by decide) q139 rfl rfl rfl rfl (fun h n u hV => o_put (by decide) ffs5 kfs5 hV) dX5_init_2_14 (o_top (fun σ4 eσ4 => ?_))
  have hw := hw σ4 eσ4
  refine a_aload_0 (pc := 17) C dX5_init_2_17 ?_
  refine a_aload_1 (pc := 18) C dX5_init_2_18 ?_
  obtain ⟨w6, yw6, dw6, hw⟩ := hw
  refine a_getf (pc := 19) C (ref := "MaltDrums$Drum") (v := .int (w6.1 8 p1d)) in_X5 (ci := 3) rfl 1 (by decide) q142 rfl (fun h n u hV => o_hdr yw6 dw6 rfl hV) dX5_init_2_19 ?_
  obtain ⟨fs8, ffs8, kfs8, hw⟩ := hw
  refine a_putf (pc := 22) C (ref := "MaltDrums$Drum") (V1 := OW h0 n0 u0 E σ.2.2.1 (oPut σ4 a (.inr (3, fs8.set 1 (.int (w6.1 8 p1d)))))) in_X5 tyX5 tyX5_ok nmX5 (ci := 3) rfl 1 (by decide) q142 rfl rfl rfl rfl (fun h n u hV => o_put (by decide) ffs8 kfs8 hV) dX5_init_2_22 (o_top (fun σ7 eσ7 => ?_))
  have hw := hw σ7 eσ7
  refine a_aload_0 (pc := 25) C dX5_init_2_25 ?_
  refine a_aload_1 (pc := 26) C dX5_init_2_26 ?_
  obtain ⟨w9, yw9, dw9, hw⟩ := hw
  refine a_getf (pc := 27) C (ref := "MaltDrums$Drum") (v := .int (w9.1 9 p1d)) in_X5 (ci := 3) rfl 2 (by decide) q144 rfl (fun h n u hV => o_hdr yw9 dw9 rfl hV) dX5_init_2_27 ?_
  obtain ⟨fs11, ffs11, kfs11, hw⟩ := hw
  refine a_putf (pc := 30) C (ref := "MaltDrums$Drum") (V1 := OW h0 n0 u0 E σ.2.2.1 (oPut σ7 a (.inr (3, fs11.set 2 (.int (w9.1 9 p1d)))))) in_X5 tyX5 tyX5_ok nmX5 (ci := 3) rfl 2 (by decide) q144 rfl rfl rfl rfl (fun h n u hV => o_put (by decide) ffs11 kfs11 hV) dX5_init_2_30 (o_top (fun σ10 eσ10 => ?_))
  have hw := hw σ10 eσ10
  refine a_aload_0 (pc := 33) C dX5_init_2_33 ?_
  refine a_aload_1 (pc := 34) C dX5_init_2_34 ?_
  obtain ⟨w12, yw12, dw12, hw⟩ := hw
  refine a_getf (pc := 35) C (ref := "MaltDrums$Drum") (v := .int (w12.1 10 p1d)) in_X5 (ci := 3) rfl 3 (by decide) q146 rfl (fun h n u hV => o_hdr yw12 dw12 rfl hV) dX5_init_2_35 ?_
  obtain ⟨fs14, ffs14, kfs14, hw⟩ := hw
  refine a_putf (pc := 38) C (ref := "MaltDrums$Drum") (V1 := OW h0 n0 u0 E σ.2.2.1 (oPut σ10 a (.inr (3, fs14.set 3 (.int (w12.1 10 p1d)))))) in_X5 tyX5 tyX5_ok nmX5 (ci := 3) rfl 3 (by decide) q146 rfl rfl rfl rfl (fun h n u hV => o_put (by decide) ffs14 kfs14 hV) dX5_init_2_38 (o_top (fun σ13 eσ13 => ?_))
  have hw := hw σ13 eσ13
  exact a_vret C dX5_init_2_41 (fun h n u hV => ⟨⟨_, rfl, hw, hV⟩, o_end hs hV⟩)
def wp_X2_init_L99 (kx47 : Int32 → OS → Prop) (a : Nat) : Nat → Int32 → OS → Prop
  | 0, _, _ => False
  | F + 1, x45, σ46 => (((4 ≤ x45) → (kx47 x45 σ46)) ∧ ((¬ 4 ≤ x45) → (∃ r51 : Nat, oF σ46 a 1 7 (.ref r51) ∧ (1 ≤ σ46.2.2.1 ∧ ∀ q52 : Nat, oFr σ46 q52 → (σ46.2.2.2.1 ≠ 0 → q52 = σ46.2.2.2.1) → ∀ σ53 : OS, σ53 = oNew σ46 q52 1 (.inr (3, [.int 0, .int 0, .int 0, .int 0])) → wp_X5_init q52 σ53 (fun σ54 => (∃ (n56 : Nat) (f57 : Nat → Option Nat), σ54.1 r51 = some (.inl (4, n56, .inr (.inr (.inr (.inr f57))))) ∧ vp_in x45 n56 ∧ oC σ54 q52 3 ∧ ∀ σ55 : OS, σ55 = oPut σ54 r51 (.inl (4, n56, .inr (.inr (.inr (.inr (va_up f57 x45.toNatClampNeg (some q52))))))) → (wp_X2_init_L99 kx47 a F (x45 + 1) σ55)))))))
def wp_X2_init (a : Nat) (σ : OS) (Q : OS → Prop) : Prop := (2 ≤ σ.2.2.1 ∧ ∀ q1 : Nat, oFr σ q1 → (σ.2.2.2.1 ≠ 0 → q1 = σ.2.2.2.1) → ∀ σ2 : OS, σ2 = oNew σ q1 2 (.inl (0, 12, .inl (fun _ => 0))) → (∃ fs4 : List Value, σ2.1 a = some (.inr (1, fs4)) ∧ 0 < fs4.length ∧ ∀ σ3 : OS, σ3 = (oPut σ2 a (.inr (1, fs4.set 0 (.ref q1)))) → (2 ≤ σ3.2.2.1 ∧ ∀ q5 : Nat, oFr σ3 q5 → (σ3.2.2.2.1 ≠ 0 → q5 = σ3.2.2.2.1) → ∀ σ6 : OS, σ6 = oNew σ3 q5 2 (.inl (0, 12, .inl (fun _ => 0))) → (∃ fs8 : List Value, σ6.1 a = some (.inr (1, fs8)) ∧ 1 < fs8.length ∧ ∀ σ7 : OS, σ7 = (oPut σ6 a (.inr (1, fs8.set 1 (.ref q5)))) → (2 ≤ σ7.2.2.1 ∧ ∀ q9 : Nat, oFr σ7 q9 → (σ7.2.2.2.1 ≠ 0 → q9 = σ7.2.2.2.1) → ∀ σ10 : OS, σ10 = oNew σ7 q9 2 (.inl (0, 12, .inl (fun _ => 0))) → (∃ fs12 : List Value, σ10.1 a = some (.inr (1, fs12)) ∧ 2 < fs12.length ∧ ∀ σ11 : OS, σ11 = (oPut σ10 a (.inr (1, fs12.set 2 (.ref q9)))) → (2 ≤ σ11.2.2.1 ∧ ∀ q13 : Nat, oFr σ11 q13 → (σ11.2.2.2.1 ≠ 0 → q13 = σ11.2.2.2.1) → ∀ σ14 : OS, σ14 = oNew σ11 q13 2 (.inl (0, 12, .inl (fun _ => 0))) → (∃ fs16 : List Value, σ14.1 a = some (.inr (1, fs16)) ∧ 3 < fs16.length ∧ ∀ σ15 : OS, σ15 = (oPut σ14 a (.inr (1, fs16.set 3 (.ref q13)))) → (2 ≤ σ15.2.2.1 ∧ ∀ q17 : Nat, oFr σ15 q17 → (σ15.2.2.2.1 ≠ 0 → q17 = σ15.2.2.2.1) → ∀ σ18 : OS, σ18 = oNew σ15 q17 2 (.inl (0, 12, .inl (fun _ => 0))) → (∃ fs20 : List Value, σ18.1 a = some (.inr (1, fs20)) ∧ 4 < fs20.length ∧ ∀ σ19 : OS, σ19 = (oPut σ18 a (.inr (1, fs20.set 4 (.ref q17)))) → (2 ≤ σ19.2.2.1 ∧ ∀ q21 : Nat, oFr σ19 q21 → (σ19.2.2.2.1 ≠ 0 → q21 = σ19.2.2.2.1) → ∀ σ22 : OS, σ22 = oNew σ19 q21 2 (.inl (0, 12, .inl (fun _ => 0))) → (∃ fs24 : List Value, σ22.1 a = some (.inr (1, fs24)) ∧ 5 < fs24.length ∧ ∀ σ23 : OS, σ23 = (oPut σ22 a (.inr (1, fs24.set 5 (.ref q21)))) → (2 ≤ σ23.2.2.1 ∧ ∀ q25 : Nat, oFr σ23 q25 → (σ23.2.2.2.1 ≠ 0 → q25 = σ23.2.2.2.1) → ∀ σ26 : OS, σ26 = oNew σ23 q25 2 (.inl (0, 12, .inl (fun _ => 0))) → (∃ fs28 : List Value, σ26.1 a = some (.inr (1, fs28)) ∧ 6 < fs28.length ∧ ∀ σ27 : OS, σ27 = (oPut σ26 a (.inr (1, fs28.set 6 (.ref q25)))) → (1 ≤ σ27.2.2.1 ∧ ∀ q29 : Nat, oFr σ27 q29 → (σ27.2.2.2.1 ≠ 0 → q29 = σ27.2.2.2.1) → ∀ σ30 : OS, σ30 = oNew σ27 q29 1 (.inl (4, 4, .inr (.inr (.inr (.inr (fun _ => none)))))) → (∃ fs32 : List Value, σ30.1 a = some (.inr (1, fs32)) ∧ 7 < fs32.length ∧ ∀ σ31 : OS, σ31 = (oPut σ30 a (.inr (1, fs32.set 7 (.ref q29)))) → wp_X3_heap σ31 (fun r34 σ33 => (∃ fs36 : List Value, σ33.1 a = some (.inr (1, fs36)) ∧ 8 < fs36.length ∧ ∀ σ35 : OS, σ35 = (oPut σ33 a (.inr (1, fs36.set 8 (.ref r34)))) → (∃ fs38 : List Value, σ35.1 a = some (.inr (1, fs38)) ∧ 15 < fs38.length ∧ ∀ σ37 : OS, σ37 = (oPut σ35 a (.inr (1, fs38.set 15 (.int 50)))) → (∃ fs40 : List Value, σ37.1 a = some (.inr (1, fs40)) ∧ 16 < fs40.length ∧ ∀ σ39 : OS, σ39 = (oPut σ37 a (.inr (1, fs40.set 16 (.int 80)))) → (∃ fs42 : List Value, σ39.1 a = some (.inr (1, fs42)) ∧ 17 < fs42.length ∧ ∀ σ41 : OS, σ41 = (oPut σ39 a (.inr (1, fs42.set 17 (.int 4)))) → (∃ fs44 : List Value, σ41.1 a = some (.inr (1, fs44)) ∧ 18 < fs44.length ∧ ∀ σ43 : OS, σ43 = (oPut σ41 a (.inr (1, fs44.set 18 (.int 4)))) → (jn (fun (x48 : Int32) (σ49 : OS) => (Q σ49)) (fun kx47 => wp_X2_init_L99 kx47 a mF 0 σ43))))))))))))))))))))))))
theorem sg_X2_init : aSig yX2_init 0 := by decide +kernel
set_option maxHeartbeats 4000000 in
theorem ct_X2_init (l : Launch) (G : aG) (a : Nat) (E : Nat → Prop) (σ : OS) (Q : OS → Prop) (hw : wp_X2_init a σ Q) (h0 : AH) (n0 u0 : Nat) (hB : OB h0 n0 E σ) : CT l yX2_init (ws_ yX2_init cX2_init 2 none) 5 G [.ref a] h0 n0 u0 σ.2.2.1 (10 * σ.2.2.1) (o_pv Q h0 n0 u0 E σ.2.2.1) := by
  refine CT.intro [some (.ref a), none] pn_RX2 rfl (Nat.le_of_ble_eq_true rfl) ?_
  intro p e s m args below meth c C hz hu
  have hs : s.heap.size = n0 ∧ slT s.heap = u0 := ⟨hz, hu⟩
  refine a_world (V1 := OW h0 n0 u0 E σ.2.2.1 σ) (OW.start hB) ?_
  unfold wp_X2_init at hw
  refine a_aload_0 (pc := 0) C dX2_init_0 ?_
  refine a_objInit (pc := 1) C q114 q107 q108 (by decide) (Nat.le_of_ble_eq_true rfl) dX2_init_1 ?_
  refine a_aload_0 (pc := 4) C dX2_init_4 ?_
  refine a_bipush (pc := 5) C dX2_init_5 bc_12 ?_
  refine o_newA (pc := 7) C hs 2 (ty := .int) (kd := 0) (a0 := (12, .inl (fun _ => 0))) rfl rfl q133 (fun _ => rfl) (fun cA => rfl) (by decide) (by decide) (by decide) (by decide) (by decide) hw.1 dX2_init_7 (fun q1 frq1 nxq1 σ2 eσ2 => ?_)
  have hw := hw.2 q1 frq1 nxq1 σ2 eσ2
  obtain ⟨fs4, ffs4, kfs4, hw⟩ := hw
  refine a_putfF (pc := 9) C (ref := "MaltDrums$House") (V1 := OW h0 n0 u0 E σ.2.2.1 (oPut σ2 a (.inr (1, fs4.set 0 (.ref q1))))) in_X2 tyX2 tyX2_ok nmX2 (ci := 1) rfl 0 (by decide) q157 rfl rfl rfl rfl rfl rfl (fun h n u hV => o_put (by decide) ffs4 kfs4 hV) dX2_init_9 (o_top (fun σ3 eσ3 => ?_))
  have hw := hw σ3 eσ3
  refine a_aload_0 (pc := 12) C dX2_init_12 ?_
  refine a_bipush (pc := 13) C dX2_init_13 bc_12 ?_
  refine o_newA (pc := 15) C hs 2 (ty := .int) (kd := 0) (a0 := (12, .inl (fun _ => 0))) rfl rfl q133 (fun _ => rfl) (fun cA => rfl) (by decide) (by decide) (by decide) (by decide) (by decide) hw.1 dX2_init_15 (fun q5 frq5 nxq5 σ6 eσ6 => ?_)
  have hw := hw.2 q5 frq5 nxq5 σ6 eσ6
  obtain ⟨fs8, ffs8, kfs8, hw⟩ := hw
  refine a_putfF (pc := 17) C (ref := "MaltDrums$House") (V1 := OW h0 n0 u0 E σ.2.2.1 (oPut σ6 a (.inr (1, fs8.set 1 (.ref q5))))) in_X2 tyX2 tyX2_ok nmX2 (ci := 1) rfl 1 (by decide) q159 rfl rfl rfl rfl rfl rfl (fun h n u hV => o_put (by decide) ffs8 kfs8 hV) dX2_init_17 (o_top (fun σ7 eσ7 => ?_))
  have hw := hw σ7 eσ7
  refine a_aload_0 (pc := 20) C dX2_init_20 ?_
  refine a_bipush (pc := 21) C dX2_init_21 bc_12 ?_
  refine o_newA (pc := 23) C hs 2 (ty := .int) (kd := 0) (a0 := (12, .inl (fun _ => 0))) rfl rfl q133 (fun _ => rfl) (fun cA => rfl) (by decide) (by decide) (by decide) (by decide) (by decide) hw.1 dX2_init_23 (fun q9 frq9 nxq9 σ10 eσ10 => ?_)
  have hw := hw.2 q9 frq9 nxq9 σ10 eσ10
  obtain ⟨fs12, ffs12, kfs12, hw⟩ := hw
  refine a_putfF (pc := 25) C (ref := "MaltDrums$House") (V1 := OW h0 n0 u0 E σ.2.2.1 (oPut σ10 a (.inr (1, fs12.set 2 (.ref q9))))) in_X2 tyX2 tyX2_ok nmX2 (ci := 1) rfl 2 (by decide) q161 rfl rfl rfl rfl rfl rfl (fun h n u hV => o_put (by decide) ffs12 kfs12 hV) dX2_init_25 (o_top (fun σ11 eσ11 => ?_))
  have hw := hw σ11 eσ11
  refine a_aload_0 (pc := 28) C dX2_init_28 ?_
  refine a_bipush (pc := 29) C dX2_init_29 bc_12 ?_
  refine o_newA (pc := 31) C hs 2 (ty := .int) (kd := 0) (a0 := (12, .inl (fun _ => 0))) rfl rfl q133 (fun _ => rfl) (fun cA => rfl) (by decide) (by decide) (by decide) (by decide) (by decide) hw.1 dX2_init_31 (fun q13 frq13 nxq13 σ14 eσ14 => ?_)
  have hw := hw.2 q13 frq13 nxq13 σ14 eσ14
  obtain ⟨fs16, ffs16, kfs16, hw⟩ := hw
  refine a_putfF (pc := 33) C (ref := "MaltDrums$House") (V1 := OW h0 n0 u0 E σ.2.2.1 (oPut σ14 a (.inr (1, fs16.set 3 (.ref q13))))) in_X2 tyX2 tyX2_ok nmX2 (ci := 1) rfl 3 (by decide) q163 rfl rfl rfl rfl rfl rfl (fun h n u hV => o_put (by decide) ffs16 kfs16 hV) dX2_init_33 (o_top (fun σ15 eσ15 => ?_))
  have hw := hw σ15 eσ15
  refine a_aload_0 (pc := 36) C dX2_init_36 ?_
  refine a_bipush (pc := 37) C dX2_init_37 bc_12 ?_
  refine o_newA (pc := 39) C hs 2 (ty := .int) (kd := 0) (a0 := (12, .inl (fun _ => 0))) rfl rfl q133 (fun _ => rfl) (fun cA => rfl) (by decide) (by decide) (by decide) (by decide) (by decide) hw.1 dX2_init_39 (fun q17 frq17 nxq17 σ18 eσ18 => ?_)
  have hw := hw.2 q17 frq17 nxq17 σ18 eσ18
  obtain ⟨fs20, ffs20, kfs20, hw⟩ := hw
  refine a_putfF (pc := 41) C (ref := "MaltDrums$House") (V1 := OW h0 n0 u0 E σ.2.2.1 (oPut σ18 a (.inr (1, fs20.set 4 (.ref q17))))) in_X2 tyX2 tyX2_ok nmX2 (ci := 1) rfl 4 (by decide) q165 rfl rfl rfl rfl rfl rfl (fun h n u hV => o_put (by decide) ffs20 kfs20 hV) dX2_init_41 (o_top (fun σ19 eσ19 => ?_))
  have hw := hw σ19 eσ19
  refine a_aload_0 (pc := 44) C dX2_init_44 ?_
  refine a_bipush (pc := 45) C dX2_init_45 bc_12 ?_
  refine o_newA (pc := 47) C hs 2 (ty := .int) (kd := 0) (a0 := (12, .inl (fun _ => 0))) rfl rfl q133 (fun _ => rfl) (fun cA => rfl) (by decide) (by decide) (by decide) (by decide) (by decide) hw.1 dX2_init_47 (fun q21 frq21 nxq21 σ22 eσ22 => ?_)
  have hw := hw.2 q21 frq21 nxq21 σ22 eσ22
  obtain ⟨fs24, ffs24, kfs24, hw⟩ := hw
  refine a_putfF (pc := 49) C (ref := "MaltDrums$House") (V1 := OW h0 n0 u0 E σ.2.2.1 (oPut σ22 a (.inr (1, fs24.set 5 (.ref q21))))) in_X2 tyX2 tyX2_ok nmX2 (ci := 1) rfl 5 (by decide) q167 rfl rfl rfl rfl rfl rfl (fun h n u hV => o_put (by decide) ffs24 kfs24 hV) dX2_init_49 (o_top (fun σ23 eσ23 => ?_))
  have hw := hw σ23 eσ23
  refine a_aload_0 (pc := 52) C dX2_init_52 ?_
  refine a_bipush (pc := 53) C dX2_init_53 bc_12 ?_
  refine o_newA (pc := 55) C hs 2 (ty := .int) (kd := 0) (a0 := (12, .inl (fun _ => 0))) rfl rfl q133 (fun _ => rfl) (fun cA => rfl) (by decide) (by decide) (by decide) (by decide) (by decide) hw.1 dX2_init_55 (fun q25 frq25 nxq25 σ26 eσ26 => ?_)
  have hw := hw.2 q25 frq25 nxq25 σ26 eσ26
  obtain ⟨fs28, ffs28, kfs28, hw⟩ := hw
  refine a_putfF (pc := 57) C (ref := "MaltDrums$House") (V1 := OW h0 n0 u0 E σ.2.2.1 (oPut σ26 a (.inr (1, fs28.set 6 (.ref q25))))) in_X2 tyX2 tyX2_ok nmX2 (ci := 1) rfl 6 (by decide) q169 rfl rfl rfl rfl rfl rfl (fun h n u hV => o_put (by decide) ffs28 kfs28 hV) dX2_init_57 (o_top (fun σ27 eσ27 => ?_))
  have hw := hw σ27 eσ27
  refine a_aload_0 (pc := 60) C dX2_init_60 ?_
  refine a_iconst (pc := 61) C dX2_init_61 ic_4 ?_
  refine o_newQ (pc := 62) C hs 1 (N := 4) q115 q116 (kd := 4) (fun _ => rfl)  (by decide) (by decide) (by decide) (by decide) (by decide) hw.1 dX2_init_62 (fun q29 frq29 nxq29 σ30 eσ30 => ?_)
  have hw := hw.2 q29 frq29 nxq29 σ30 eσ30
  obtain ⟨fs32, ffs32, kfs32, hw⟩ := hw
  refine a_putfF (pc := 65) C (ref := "MaltDrums$House") (V1 := OW h0 n0 u0 E σ.2.2.1 (oPut σ30 a (.inr (1, fs32.set 7 (.ref q29))))) in_X2 tyX2 tyX2_ok nmX2 (ci := 1) rfl 7 (by decide) q171 rfl rfl rfl rfl rfl rfl (fun h n u hV => o_put (by decide) ffs32 kfs32 hV) dX2_init_65 (o_top (fun σ31 eσ31 => ?_))
  have hw := hw σ31 eσ31
  refine a_aload_0 (pc := 68) C dX2_init_68 ?_
  refine o_callSr (pc := 69) C hs [] (st := [.ref a]) (fun h n u hB => ct_X3_heap l G E _ _ hw h n u hB) (by decide) (by decide) (lw_S q117 q118 q67 q119) sg_X3_heap (Nat.le_of_ble_eq_true rfl) dX2_init_69 (fun r34 σ33 hw => ?_)
  obtain ⟨fs36, ffs36, kfs36, hw⟩ := hw
  refine a_putfF (pc := 72) C (ref := "MaltDrums$House") (V1 := OW h0 n0 u0 E σ.2.2.1 (oPut σ33 a (.inr (1, fs36.set 8 (.ref r34))))) in_X2 tyX2 tyX2_ok nmX2 (ci := 1) rfl 8 (by decide) q173 rfl rfl rfl rfl rfl rfl (fun h n u hV => o_put (by decide) ffs36 kfs36 hV) dX2_init_72 (o_top (fun σ35 eσ35 => ?_))
  have hw := hw σ35 eσ35
  refine a_aload_0 (pc := 75) C dX2_init_75 ?_
  refine a_bipush (pc := 76) C dX2_init_76 bc_50 ?_
  obtain ⟨fs38, ffs38, kfs38, hw⟩ := hw
  refine a_putf (pc := 78) C (ref := "MaltDrums$House") (V1 := OW h0 n0 u0 E σ.2.2.1 (oPut σ35 a (.inr (1, fs38.set 15 (.int 50))))) in_X2 tyX2 tyX2_ok nmX2 (ci := 1) rfl 15 (by decide) q186 rfl rfl rfl rfl (fun h n u hV => o_put (by decide) ffs38 kfs38 hV) dX2_init_78 (o_top (fun σ37 eσ37 => ?_))
  have hw := hw σ37 eσ37
  refine a_aload_0 (pc := 81) C dX2_init_81 ?_
  refine a_bipush (pc := 82) C dX2_init_82 bc_80 ?_
  obtain ⟨fs40, ffs40, kfs40, hw⟩ := hw
  refine a_putf (pc := 84) C (ref := "MaltDrums$House") (V1 := OW h0 n0 u0 E σ.2.2.1 (oPut σ37 a (.inr (1, fs40.set 16 (.int 80))))) in_X2 tyX2 tyX2_ok nmX2 (ci := 1) rfl 16 (by decide) q188 rfl rfl rfl rfl (fun h n u hV => o_put (by decide) ffs40 kfs40 hV) dX2_init_84 (o_top (fun σ39 eσ39 => ?_))
  have hw := hw σ39 eσ39
  refine a_aload_0 (pc := 87) C dX2_init_87 ?_
  refine a_iconst (pc := 88) C dX2_init_88 ic_4 ?_
  obtain ⟨fs42, ffs42, kfs42, hw⟩ := hw
  refine a_putf (pc := 89) C (ref := "MaltDrums$House") (V1 := OW h0 n0 u0 E σ.2.2.1 (oPut σ39 a (.inr (1, fs42.set 17 (.int 4))))) in_X2 tyX2 tyX2_ok nmX2 (ci := 1) rfl 17 (by decide) q190 rfl rfl rfl rfl (fun h n u hV => o_put (by decide) ffs42 kfs42 hV) dX2_init_89 (o_top (fun σ41 eσ41 => ?_))
  have hw := hw σ41 eσ41
  refine a_aload_0 (pc := 92) C dX2_init_92 ?_
  refine a_iconst (pc := 93) C dX2_init_93 ic_4 ?_
  obtain ⟨fs44, ffs44, kfs44, hw⟩ := hw
  refine a_putf (pc := 94) C (ref := "MaltDrums$House") (V1 := OW h0 n0 u0 E σ.2.2.1 (oPut σ41 a (.inr (1, fs44.set 18 (.int 4))))) in_X2 tyX2 tyX2_ok nmX2 (ci := 1) rfl 18 (by decide) q192 rfl rfl rfl rfl (fun h n u hV => o_put (by decide) ffs44 kfs44 hV) dX2_init_94 (o_top (fun σ43 eσ43 => ?_))
  have hw := hw σ43 eσ43
  refine a_iconst (pc := 97) C dX2_init_97 ic_0 ?_
  refine a_istore_1 (pc := 98) C dX2_init_98 (by decide) rfl ?_
  refine jn_use hw (fun kx47 ekx47 hw => ?_)
  have hkx47 : ∀ (x48 : Int32) (σ49 : OS), kx47 x48 σ49 → AW G p l e (aRm 5 σ.2.2.1 (10 * σ.2.2.1)) s m args below meth c (a_A h0 n0) 2 (MQ below (a_Qc G (o_pv Q h0 n0 u0 E σ.2.2.1) (a_A h0 n0)) args s σ.2.2.1 (10 * σ.2.2.1) (a_A h0 n0)) (OW h0 n0 u0 E σ.2.2.1 σ49) 123 [some (.ref a), some (.int x48)] [] := by
    intro x48 σ49 hw
    rw [ekx47] at hw
    exact a_vret C dX2_init_123 (fun h n u hV => ⟨⟨_, rfl, hw, hV⟩, o_end hs hV⟩)
  have lp99 : ∀ (F : Nat) (x45 : Int32) (σ46 : OS), wp_X2_init_L99 kx47 a F x45 σ46 → AW G p l e (aRm 5 σ.2.2.1 (10 * σ.2.2.1)) s m args below meth c (a_A h0 n0) 2 (MQ below (a_Qc G (o_pv Q h0 n0 u0 E σ.2.2.1) (a_A h0 n0)) args s σ.2.2.1 (10 * σ.2.2.1) (a_A h0 n0)) (OW h0 n0 u0 E σ.2.2.1 σ46) 99 [some (.ref a), some (.int x45)] [] := by
    intro F
    induction F with
    | zero => intro x45 σ46 hw; exact False.elim hw
    | succ F ih =>
      intro x45 σ46 hw
      rw [wp_X2_init_L99] at hw
      refine a_iload_1 (pc := 99) C dX2_init_99 ?_
      refine a_iconst (pc := 100) C dX2_init_100 ic_4 ?_
      refine a_icmp_ge (pc := 101) C 123 dX2_init_101 (by decide) (fun c50 => ?_) (fun c50 => ?_)
      · have hw := hw.1 c50
        exact hkx47 _ _ hw
      · have hw := hw.2 c50
        refine a_aload_0 (pc := 104) C dX2_init_104 ?_
        obtain ⟨r51, fr51, hw⟩ := hw
        refine a_getf (pc := 105) C (ref := "MaltDrums$House") in_X2 (ci := 1) rfl 7 (by decide) q171 rfl (fun h n u hV => o_fld fr51 hV) dX2_init_105 ?_
        refine a_iload_1 (pc := 108) C dX2_init_108 ?_
        refine o_newC (pc := 109) C hs 1 in_X5 tyX5 tyX5_ok q115 q134 q70 (ci := 3) (fs := [.int 0, .int 0, .int 0, .int 0]) rfl (by decide) (fun f z => by cases z) (by decide) (by decide) hw.1 dX2_init_109 (fun q52 frq52 nxq52 σ53 eσ53 => ?_)
        have hw := hw.2 q52 frq52 nxq52 σ53 eσ53
        refine a_dup (pc := 112) C dX2_init_112 rfl ?_
        refine o_callIv (pc := 113) C hs [] (b := q52) (st := [.ref q52, .int x45, .ref r51]) (fun h n u hB => ct_X5_init l G q52 E _ _ hw h n u hB) (by decide) (by decide) q70 q135 q136 rfl (lw_meth q137) sg_X5_init (Nat.le_of_ble_eq_true rfl) dX2_init_113 (fun σ54 hw => ?_)
        obtain ⟨n56, f57, af57, if57, hw⟩ := hw
        refine a_aastD (pc := 116) C (V1 := OW h0 n0 u0 E σ.2.2.1 (oPut σ54 r51 (.inl (4, n56, .inr (.inr (.inr (.inr (va_up f57 x45.toNatClampNeg (some q52))))))))) (fun h n u hV => ⟨o_arr af57 hV, o_cls hw.1 hV, hV.putA af57⟩) if57 dX2_init_116 (o_top (fun σ55 eσ55 => ?_))
        have hw := hw.2 σ55 eσ55
        refine a_iinc_1 (pc := 117) (v := 1) C dX2_init_117 (by decide) (by decide) rfl ?_
        refine a_goto (pc := 120) C 99 dX2_init_120 (by decide) ?_
        exact ih _ _ hw
  exact lp99 mF _ _ hw
def wp_X2_init_2_L199 (kx52 : Int32 → OS → Prop) (a : Nat) (p1 : Nat) : Nat → Int32 → OS → Prop
  | 0, _, _ => False
  | F + 1, x50, σ51 => (((4 ≤ x50) → (kx52 x50 σ51)) ∧ ((¬ 4 ≤ x50) → (∃ r97 : Nat, oF σ51 a 1 7 (.ref r97) ∧ (1 ≤ σ51.2.2.1 ∧ ∀ q98 : Nat, oFr σ51 q98 → (σ51.2.2.2.1 ≠ 0 → q98 = σ51.2.2.2.1) → ∀ σ99 : OS, σ99 = oNew σ51 q98 1 (.inr (3, [.int 0, .int 0, .int 0, .int 0])) → (∃ w100 : MS × List Int32, σ99.2.1 p1 = some w100 ∧ (∃ w101 : MS × List Int32, σ99.2.1 p1 = some w101 ∧ vp_in x50 4 ∧ wp_X5_init_2 q98 p1 (x50.toNatClampNeg) σ99 (fun σ102 => (∃ (n104 : Nat) (f105 : Nat → Option Nat), σ102.1 r97 = some (.inl (4, n104, .inr (.inr (.inr (.inr f105))))) ∧ vp_in x50 n104 ∧ oC σ102 q98 3 ∧ ∀ σ103 : OS, σ103 = oPut σ102 r97 (.inl (4, n104, .inr (.inr (.inr (.inr (va_up f105 x50.toNatClampNeg (some q98))))))) → (wp_X2_init_2_L199 kx52 a p1 F (x50 + 1) σ103)))))))))
def wp_X2_init_2_L99 (kx47 : Int32 → OS → Prop) (p1 : Nat) (a : Nat) : Nat → Int32 → OS → Prop
  | 0, _, _ => False
  | F + 1, x45, σ46 => (∃ w106 : MS × List Int32, σ46.2.1 p1 = some w106 ∧ ((((w106.1 11 1) ≤ x45) → (kx47 x45 σ46)) ∧ ((¬ (w106.1 11 1) ≤ x45) → (∃ r108 : Nat, oF σ46 a 1 0 (.ref r108) ∧ (∃ w109 : MS × List Int32, σ46.2.1 p1 = some w109 ∧ (∃ w110 : MS × List Int32, σ46.2.1 p1 = some w110 ∧ vp_in x45 12 ∧ (∃ (n112 : Nat) (f113 : Nat → Int32), σ46.1 r108 = some (.inl (0, n112, .inl f113)) ∧ vp_in x45 n112 ∧ ∀ σ111 : OS, σ111 = oPut σ46 r108 (.inl (0, n112, .inl (upd f113 x45.toNatClampNeg (w110.1 0 x45.toNatClampNeg)))) → (∃ r114 : Nat, oF σ111 a 1 1 (.ref r114) ∧ (∃ w115 : MS × List Int32, σ111.2.1 p1 = some w115 ∧ (∃ w116 : MS × List Int32, σ111.2.1 p1 = some w116 ∧ vp_in x45 12 ∧ (∃ (n118 : Nat) (f119 : Nat → Int32), σ111.1 r114 = some (.inl (0, n118, .inl f119)) ∧ vp_in x45 n118 ∧ ∀ σ117 : OS, σ117 = oPut σ111 r114 (.inl (0, n118, .inl (upd f119 x45.toNatClampNeg (w116.1 1 x45.toNatClampNeg)))) → (∃ r120 : Nat, oF σ117 a 1 2 (.ref r120) ∧ (∃ w121 : MS × List Int32, σ117.2.1 p1 = some w121 ∧ (∃ w122 : MS × List Int32, σ117.2.1 p1 = some w122 ∧ vp_in x45 12 ∧ (∃ (n124 : Nat) (f125 : Nat → Int32), σ117.1 r120 = some (.inl (0, n124, .inl f125)) ∧ vp_in x45 n124 ∧ ∀ σ123 : OS, σ123 = oPut σ117 r120 (.inl (0, n124, .inl (upd f125 x45.toNatClampNeg (w122.1 2 x45.toNatClampNeg)))) → (∃ r126 : Nat, oF σ123 a 1 3 (.ref r126) ∧ (∃ w127 : MS × List Int32, σ123.2.1 p1 = some w127 ∧ (∃ w128 : MS × List Int32, σ123.2.1 p1 = some w128 ∧ vp_in x45 12 ∧ (∃ (n130 : Nat) (f131 : Nat → Int32), σ123.1 r126 = some (.inl (0, n130, .inl f131)) ∧ vp_in x45 n130 ∧ ∀ σ129 : OS, σ129 = oPut σ123 r126 (.inl (0, n130, .inl (upd f131 x45.toNatClampNeg (w128.1 3 x45.toNatClampNeg)))) → (∃ r132 : Nat, oF σ129 a 1 4 (.ref r132) ∧ (∃ w133 : MS × List Int32, σ129.2.1 p1 = some w133 ∧ (∃ w134 : MS × List Int32, σ129.2.1 p1 = some w134 ∧ vp_in x45 12 ∧ (∃ (n136 : Nat) (f137 : Nat → Int32), σ129.1 r132 = some (.inl (0, n136, .inl f137)) ∧ vp_in x45 n136 ∧ ∀ σ135 : OS, σ135 = oPut σ129 r132 (.inl (0, n136, .inl (upd f137 x45.toNatClampNeg (w134.1 4 x45.toNatClampNeg)))) → (∃ r138 : Nat, oF σ135 a 1 5 (.ref r138) ∧ (∃ w139 : MS × List Int32, σ135.2.1 p1 = some w139 ∧ (∃ w140 : MS × List Int32, σ135.2.1 p1 = some w140 ∧ vp_in x45 12 ∧ (∃ (n142 : Nat) (f143 : Nat → Int32), σ135.1 r138 = some (.inl (0, n142, .inl f143)) ∧ vp_in x45 n142 ∧ ∀ σ141 : OS, σ141 = oPut σ135 r138 (.inl (0, n142, .inl (upd f143 x45.toNatClampNeg (w140.1 5 x45.toNatClampNeg)))) → (∃ r144 : Nat, oF σ141 a 1 6 (.ref r144) ∧ (∃ w145 : MS × List Int32, σ141.2.1 p1 = some w145 ∧ (∃ w146 : MS × List Int32, σ141.2.1 p1 = some w146 ∧ vp_in x45 12 ∧ (∃ (n148 : Nat) (f149 : Nat → Int32), σ141.1 r144 = some (.inl (0, n148, .inl f149)) ∧ vp_in x45 n148 ∧ ∀ σ147 : OS, σ147 = oPut σ141 r144 (.inl (0, n148, .inl (upd f149 x45.toNatClampNeg (w146.1 6 x45.toNatClampNeg)))) → (wp_X2_init_2_L99 kx47 p1 a F (x45 + 1) σ147))))))))))))))))))))))))))))))))
def wp_X2_init_2 (a : Nat) (p1 : Nat) (σ : OS) (Q : OS → Prop) : Prop := (2 ≤ σ.2.2.1 ∧ ∀ q1 : Nat, oFr σ q1 → (σ.2.2.2.1 ≠ 0 → q1 = σ.2.2.2.1) → ∀ σ2 : OS, σ2 = oNew σ q1 2 (.inl (0, 12, .inl (fun _ => 0))) → (∃ fs4 : List Value, σ2.1 a = some (.inr (1, fs4)) ∧ 0 < fs4.length ∧ ∀ σ3 : OS, σ3 = (oPut σ2 a (.inr (1, fs4.set 0 (.ref q1)))) → (2 ≤ σ3.2.2.1 ∧ ∀ q5 : Nat, oFr σ3 q5 → (σ3.2.2.2.1 ≠ 0 → q5 = σ3.2.2.2.1) → ∀ σ6 : OS, σ6 = oNew σ3 q5 2 (.inl (0, 12, .inl (fun _ => 0))) → (∃ fs8 : List Value, σ6.1 a = some (.inr (1, fs8)) ∧ 1 < fs8.length ∧ ∀ σ7 : OS, σ7 = (oPut σ6 a (.inr (1, fs8.set 1 (.ref q5)))) → (2 ≤ σ7.2.2.1 ∧ ∀ q9 : Nat, oFr σ7 q9 → (σ7.2.2.2.1 ≠ 0 → q9 = σ7.2.2.2.1) → ∀ σ10 : OS, σ10 = oNew σ7 q9 2 (.inl (0, 12, .inl (fun _ => 0))) → (∃ fs12 : List Value, σ10.1 a = some (.inr (1, fs12)) ∧ 2 < fs12.length ∧ ∀ σ11 : OS, σ11 = (oPut σ10 a (.inr (1, fs12.set 2 (.ref q9)))) → (2 ≤ σ11.2.2.1 ∧ ∀ q13 : Nat, oFr σ11 q13 → (σ11.2.2.2.1 ≠ 0 → q13 = σ11.2.2.2.1) → ∀ σ14 : OS, σ14 = oNew σ11 q13 2 (.inl (0, 12, .inl (fun _ => 0))) → (∃ fs16 : List Value, σ14.1 a = some (.inr (1, fs16)) ∧ 3 < fs16.length ∧ ∀ σ15 : OS, σ15 = (oPut σ14 a (.inr (1, fs16.set 3 (.ref q13)))) → (2 ≤ σ15.2.2.1 ∧ ∀ q17 : Nat, oFr σ15 q17 → (σ15.2.2.2.1 ≠ 0 → q17 = σ15.2.2.2.1) → ∀ σ18 : OS, σ18 = oNew σ15 q17 2 (.inl (0, 12, .inl (fun _ => 0))) → (∃ fs20 : List Value, σ18.1 a = some (.inr (1, fs20)) ∧ 4 < fs20.length ∧ ∀ σ19 : OS, σ19 = (oPut σ18 a (.inr (1, fs20.set 4 (.ref q17)))) → (2 ≤ σ19.2.2.1 ∧ ∀ q21 : Nat, oFr σ19 q21 → (σ19.2.2.2.1 ≠ 0 → q21 = σ19.2.2.2.1) → ∀ σ22 : OS, σ22 = oNew σ19 q21 2 (.inl (0, 12, .inl (fun _ => 0))) → (∃ fs24 : List Value, σ22.1 a = some (.inr (1, fs24)) ∧ 5 < fs24.length ∧ ∀ σ23 : OS, σ23 = (oPut σ22 a (.inr (1, fs24.set 5 (.ref q21)))) → (2 ≤ σ23.2.2.1 ∧ ∀ q25 : Nat, oFr σ23 q25 → (σ23.2.2.2.1 ≠ 0 → q25 = σ23.2.2.2.1) → ∀ σ26 : OS, σ26 = oNew σ23 q25 2 (.inl (0, 12, .inl (fun _ => 0))) → (∃ fs28 : List Value, σ26.1 a = some (.inr (1, fs28)) ∧ 6 < fs28.length ∧ ∀ σ27 : OS, σ27 = (oPut σ26 a (.inr (1, fs28.set 6 (.ref q25)))) → (1 ≤ σ27.2.2.1 ∧ ∀ q29 : Nat, oFr σ27 q29 → (σ27.2.2.2.1 ≠ 0 → q29 = σ27.2.2.2.1) → ∀ σ30 : OS, σ30 = oNew σ27 q29 1 (.inl (4, 4, .inr (.inr (.inr (.inr (fun _ => none)))))) → (∃ fs32 : List Value, σ30.1 a = some (.inr (1, fs32)) ∧ 7 < fs32.length ∧ ∀ σ31 : OS, σ31 = (oPut σ30 a (.inr (1, fs32.set 7 (.ref q29)))) → wp_X3_heap σ31 (fun r34 σ33 => (∃ fs36 : List Value, σ33.1 a = some (.inr (1, fs36)) ∧ 8 < fs36.length ∧ ∀ σ35 : OS, σ35 = (oPut σ33 a (.inr (1, fs36.set 8 (.ref r34)))) → (∃ fs38 : List Value, σ35.1 a = some (.inr (1, fs38)) ∧ 15 < fs38.length ∧ ∀ σ37 : OS, σ37 = (oPut σ35 a (.inr (1, fs38.set 15 (.int 50)))) → (∃ fs40 : List Value, σ37.1 a = some (.inr (1, fs40)) ∧ 16 < fs40.length ∧ ∀ σ39 : OS, σ39 = (oPut σ37 a (.inr (1, fs40.set 16 (.int 80)))) → (∃ fs42 : List Value, σ39.1 a = some (.inr (1, fs42)) ∧ 17 < fs42.length ∧ ∀ σ41 : OS, σ41 = (oPut σ39 a (.inr (1, fs42.set 17 (.int 4)))) → (∃ fs44 : List Value, σ41.1 a = some (.inr (1, fs44)) ∧ 18 < fs44.length ∧ ∀ σ43 : OS, σ43 = (oPut σ41 a (.inr (1, fs44.set 18 (.int 4)))) → (jn (fun (x48 : Int32) (σ49 : OS) => (jn (fun (x53 : Int32) (σ54 : OS) => (∃ w55 : MS × List Int32, σ54.2.1 p1 = some w55 ∧ ∀ b56 : Option Nat, (b56 = none ↔ w55.2 = []) → ∀ σ57 : OS, σ57 = oBk σ54 b56 w55.2 → (∃ fs59 : List Value, σ57.1 a = some (.inr (1, fs59)) ∧ 9 < fs59.length ∧ ∀ σ58 : OS, σ58 = (oPut σ57 a (.inr (1, fs59.set 9 (va_rf b56)))) → (∃ w60 : MS × List Int32, σ58.2.1 p1 = some w60 ∧ (∃ fs62 : List Value, σ58.1 a = some (.inr (1, fs62)) ∧ 10 < fs62.length ∧ ∀ σ61 : OS, σ61 = (oPut σ58 a (.inr (1, fs62.set 10 (.int (w60.1 11 0))))) → (∃ w63 : MS × List Int32, σ61.2.1 p1 = some w63 ∧ (∃ fs65 : List Value, σ61.1 a = some (.inr (1, fs65)) ∧ 11 < fs65.length ∧ ∀ σ64 : OS, σ64 = (oPut σ61 a (.inr (1, fs65.set 11 (.int (w63.1 11 1))))) → (∃ w66 : MS × List Int32, σ64.2.1 p1 = some w66 ∧ (∃ fs68 : List Value, σ64.1 a = some (.inr (1, fs68)) ∧ 12 < fs68.length ∧ ∀ σ67 : OS, σ67 = (oPut σ64 a (.inr (1, fs68.set 12 (.int (w66.1 11 2))))) → (∃ w69 : MS × List Int32, σ67.2.1 p1 = some w69 ∧ (∃ fs71 : List Value, σ67.1 a = some (.inr (1, fs71)) ∧ 13 < fs71.length ∧ narrow .boolean (.int (w69.1 11 3)) = .int (w69.1 11 3) ∧ fits .boolean (.int (w69.1 11 3)) = true ∧ ∀ σ70 : OS, σ70 = (oPut σ67 a (.inr (1, fs71.set 13 (.int (w69.1 11 3))))) → (∃ w72 : MS × List Int32, σ70.2.1 p1 = some w72 ∧ (∃ fs74 : List Value, σ70.1 a = some (.inr (1, fs74)) ∧ 14 < fs74.length ∧ ∀ σ73 : OS, σ73 = (oPut σ70 a (.inr (1, fs74.set 14 (.int (w72.1 11 4))))) → (∃ w75 : MS × List Int32, σ73.2.1 p1 = some w75 ∧ (∃ fs77 : List Value, σ73.1 a = some (.inr (1, fs77)) ∧ 15 < fs77.length ∧ ∀ σ76 : OS, σ76 = (oPut σ73 a (.inr (1, fs77.set 15 (.int (w75.1 11 5))))) → (∃ w78 : MS × List Int32, σ76.2.1 p1 = some w78 ∧ (∃ fs80 : List Value, σ76.1 a = some (.inr (1, fs80)) ∧ 16 < fs80.length ∧ ∀ σ79 : OS, σ79 = (oPut σ76 a (.inr (1, fs80.set 16 (.int (w78.1 11 6))))) → (∃ w81 : MS × List Int32, σ79.2.1 p1 = some w81 ∧ (∃ fs83 : List Value, σ79.1 a = some (.inr (1, fs83)) ∧ 17 < fs83.length ∧ ∀ σ82 : OS, σ82 = (oPut σ79 a (.inr (1, fs83.set 17 (.int (w81.1 11 7))))) → (∃ w84 : MS × List Int32, σ82.2.1 p1 = some w84 ∧ (∃ fs86 : List Value, σ82.1 a = some (.inr (1, fs86)) ∧ 18 < fs86.length ∧ ∀ σ85 : OS, σ85 = (oPut σ82 a (.inr (1, fs86.set 18 (.int (w84.1 11 8))))) → (∃ w87 : MS × List Int32, σ85.2.1 p1 = some w87 ∧ (∃ fs89 : List Value, σ85.1 a = some (.inr (1, fs89)) ∧ 19 < fs89.length ∧ ∀ σ88 : OS, σ88 = (oPut σ85 a (.inr (1, fs89.set 19 (.int (w87.1 11 9))))) → (∃ w90 : MS × List Int32, σ88.2.1 p1 = some w90 ∧ (∃ fs92 : List Value, σ88.1 a = some (.inr (1, fs92)) ∧ 20 < fs92.length ∧ ∀ σ91 : OS, σ91 = (oPut σ88 a (.inr (1, fs92.set 20 (.int (w90.1 11 10))))) → (∃ w93 : MS × List Int32, σ91.2.1 p1 = some w93 ∧ (∃ fs95 : List Value, σ91.1 a = some (.inr (1, fs95)) ∧ 21 < fs95.length ∧ ∀ σ94 : OS, σ94 = (oPut σ91 a (.inr (1, fs95.set 21 (.int (w93.1 11 11))))) → (Q σ94)))))))))))))))))))))))))))) (fun kx52 => wp_X2_init_2_L199 kx52 a p1 mF 0 σ49))) (fun kx47 => wp_X2_init_2_L99 kx47 p1 a mF 0 σ43))))))))))))))))))))))))
theorem sg_X2_init_2 : aSig yX2_init_2 1 := by decide +kernel
set_option maxHeartbeats 4000000 in
theorem ct_X2_init_2 (l : Launch) (G : aG) (a : Nat) (p1 : Nat) (E : Nat → Prop) (σ : OS) (Q : OS → Prop) (hw : wp_X2_init_2 a p1 σ Q) (h0 : AH) (n0 u0 : Nat) (hB : OB h0 n0 E σ) : CT l yX2_init_2 (ws_ yX2_init_2 cX2_init_2 3 none) 5 G [.ref a, .ref p1] h0 n0 u0 σ.2.2.1 (10 * σ.2.2.1) (o_pv Q h0 n0 u0 E σ.2.2.1) := by
  refine CT.intro [some (.ref a), some (.ref p1), none] pn_RX2 rfl (Nat.le_of_ble_eq_true rfl) ?_
  intro p e s m args below meth c C hz hu
  have hs : s.heap.size = n0 ∧ slT s.heap = u0 := ⟨hz, hu⟩
  refine a_world (V1 := OW h0 n0 u0 E σ.2.2.1 σ) (OW.start hB) ?_
  unfold wp_X2_init_2 at hw
  refine a_aload_0 (pc := 0) C dX2_init_2_0 ?_
  refine a_objInit (pc := 1) C q114 q107 q108 (by decide) (Nat.le_of_ble_eq_true rfl) dX2_init_2_1 ?_
  refine a_aload_0 (pc := 4) C dX2_init_2_4 ?_
  refine a_bipush (pc := 5) C dX2_init_2_5 bc_12 ?_
  refine o_newA (pc := 7) C hs 2 (ty := .int) (kd := 0) (a0 := (12, .inl (fun _ => 0))) rfl rfl q133 (fun _ => rfl) (fun cA => rfl) (by decide) (by decide) (by decide) (by decide) (by decide) hw.1 dX2_init_2_7 (fun q1 frq1 nxq1 σ2 eσ2 => ?_)
  have hw := hw.2 q1 frq1 nxq1 σ2 eσ2
  obtain ⟨fs4, ffs4, kfs4, hw⟩ := hw
  refine a_putfF (pc := 9) C (ref := "MaltDrums$House") (V1 := OW h0 n0 u0 E σ.2.2.1 (oPut σ2 a (.inr (1, fs4.set 0 (.ref q1))))) in_X2 tyX2 tyX2_ok nmX2 (ci := 1) rfl 0 (by decide) q157 rfl rfl rfl rfl rfl rfl (fun h n u hV => o_put (by decide) ffs4 kfs4 hV) dX2_init_2_9 (o_top (fun σ3 eσ3 => ?_))
  have hw := hw σ3 eσ3
  refine a_aload_0 (pc := 12) C dX2_init_2_12 ?_
  refine a_bipush (pc := 13) C dX2_init_2_13 bc_12 ?_
  refine o_newA (pc := 15) C hs 2 (ty := .int) (kd := 0) (a0 := (12, .inl (fun _ => 0))) rfl rfl q133 (fun _ => rfl) (fun cA => rfl) (by decide) (by decide) (by decide) (by decide) (by decide) hw.1 dX2_init_2_15 (fun q5 frq5 nxq5 σ6 eσ6 => ?_)
  have hw := hw.2 q5 frq5 nxq5 σ6 eσ6
  obtain ⟨fs8, ffs8, kfs8, hw⟩ := hw
  refine a_putfF (pc := 17) C (ref := "MaltDrums$House") (V1 := OW h0 n0 u0 E σ.2.2.1 (oPut σ6 a (.inr (1, fs8.set 1 (.ref q5))))) in_X2 tyX2 tyX2_ok nmX2 (ci := 1) rfl 1 (by decide) q159 rfl rfl rfl rfl rfl rfl (fun h n u hV => o_put (by decide) ffs8 kfs8 hV) dX2_init_2_17 (o_top (fun σ7 eσ7 => ?_))
  have hw := hw σ7 eσ7
  refine a_aload_0 (pc := 20) C dX2_init_2_20 ?_
  refine a_bipush (pc := 21) C dX2_init_2_21 bc_12 ?_
  refine o_newA (pc := 23) C hs 2 (ty := .int) (kd := 0) (a0 := (12, .inl (fun _ => 0))) rfl rfl q133 (fun _ => rfl) (fun cA => rfl) (by decide) (by decide) (by decide) (by decide) (by decide) hw.1 dX2_init_2_23 (fun q9 frq9 nxq9 σ10 eσ10 => ?_)
  have hw := hw.2 q9 frq9 nxq9 σ10 eσ10
  obtain ⟨fs12, ffs12, kfs12, hw⟩ := hw
  refine a_putfF (pc := 25) C (ref := "MaltDrums$House") (V1 := OW h0 n0 u0 E σ.2.2.1 (oPut σ10 a (.inr (1, fs12.set 2 (.ref q9))))) in_X2 tyX2 tyX2_ok nmX2 (ci := 1) rfl 2 (by decide) q161 rfl rfl rfl rfl rfl rfl (fun h n u hV => o_put (by decide) ffs12 kfs12 hV) dX2_init_2_25 (o_top (fun σ11 eσ11 => ?_))
  have hw := hw σ11 eσ11
  refine a_aload_0 (pc := 28) C dX2_init_2_28 ?_
  refine a_bipush (pc := 29) C dX2_init_2_29 bc_12 ?_
  refine o_newA (pc := 31) C hs 2 (ty := .int) (kd := 0) (a0 := (12, .inl (fun _ => 0))) rfl rfl q133 (fun _ => rfl) (fun cA => rfl) (by decide) (by decide) (by decide) (by decide) (by decide) hw.1 dX2_init_2_31 (fun q13 frq13 nxq13 σ14 eσ14 => ?_)
  have hw := hw.2 q13 frq13 nxq13 σ14 eσ14
  obtain ⟨fs16, ffs16, kfs16, hw⟩ := hw
  refine a_putfF (pc := 33) C (ref := "MaltDrums$House") (V1 := OW h0 n0 u0 E σ.2.2.1 (oPut σ14 a (.inr (1, fs16.set 3 (.ref q13))))) in_X2 tyX2 tyX2_ok nmX2 (ci := 1) rfl 3 (by decide) q163 rfl rfl rfl rfl rfl rfl (fun h n u hV => o_put (by decide) ffs16 kfs16 hV) dX2_init_2_33 (o_top (fun σ15 eσ15 => ?_))
  have hw := hw σ15 eσ15
  refine a_aload_0 (pc := 36) C dX2_init_2_36 ?_
  refine a_bipush (pc := 37) C dX2_init_2_37 bc_12 ?_
  refine o_newA (pc := 39) C hs 2 (ty := .int) (kd := 0) (a0 := (12, .inl (fun _ => 0))) rfl rfl q133 (fun _ => rfl) (fun cA => rfl) (by decide) (by decide) (by decide) (by decide) (by decide) hw.1 dX2_init_2_39 (fun q17 frq17 nxq17 σ18 eσ18 => ?_)
  have hw := hw.2 q17 frq17 nxq17 σ18 eσ18
  obtain ⟨fs20, ffs20, kfs20, hw⟩ := hw
  refine a_putfF (pc := 41) C (ref := "MaltDrums$House") (V1 := OW h0 n0 u0 E σ.2.2.1 (oPut σ18 a (.inr (1, fs20.set 4 (.ref q17))))) in_X2 tyX2 tyX2_ok nmX2 (ci := 1) rfl 4 (by decide) q165 rfl rfl rfl rfl rfl rfl (fun h n u hV => o_put (by decide) ffs20 kfs20 hV) dX2_init_2_41 (o_top (fun σ19 eσ19 => ?_))
  have hw := hw σ19 eσ19
  refine a_aload_0 (pc := 44) C dX2_init_2_44 ?_
  refine a_bipush (pc := 45) C dX2_init_2_45 bc_12 ?_
  refine o_newA (pc := 47) C hs 2 (ty := .int) (kd := 0) (a0 := (12, .inl (fun _ => 0))) rfl rfl q133 (fun _ => rfl) (fun cA => rfl) (by decide) (by decide) (by decide) (by decide) (by decide) hw.1 dX2_init_2_47 (fun q21 frq21 nxq21 σ22 eσ22 => ?_)
  have hw := hw.2 q21 frq21 nxq21 σ22 eσ22
  obtain ⟨fs24, ffs24, kfs24, hw⟩ := hw
  refine a_putfF (pc := 49) C (ref := "MaltDrums$House") (V1 := OW h0 n0 u0 E σ.2.2.1 (oPut σ22 a (.inr (1, fs24.set 5 (.ref q21))))) in_X2 tyX2 tyX2_ok nmX2 (ci := 1) rfl 5 (by decide) q167 rfl rfl rfl rfl rfl rfl (fun h n u hV => o_put (by decide) ffs24 kfs24 hV) dX2_init_2_49 (o_top (fun σ23 eσ23 => ?_))
  have hw := hw σ23 eσ23
  refine a_aload_0 (pc := 52) C dX2_init_2_52 ?_
  refine a_bipush (pc := 53) C dX2_init_2_53 bc_12 ?_
  refine o_newA (pc := 55) C hs 2 (ty := .int) (kd := 0) (a0 := (12, .inl (fun _ => 0))) rfl rfl q133 (fun _ => rfl) (fun cA => rfl) (by decide) (by decide) (by decide) (by decide) (by decide) hw.1 dX2_init_2_55 (fun q25 frq25 nxq25 σ26 eσ26 => ?_)
  have hw := hw.2 q25 frq25 nxq25 σ26 eσ26
  obtain ⟨fs28, ffs28, kfs28, hw⟩ := hw
  refine a_putfF (pc := 57) C (ref := "MaltDrums$House") (V1 := OW h0 n0 u0 E σ.2.2.1 (oPut σ26 a (.inr (1, fs28.set 6 (.ref q25))))) in_X2 tyX2 tyX2_ok nmX2 (ci := 1) rfl 6 (by decide) q169 rfl rfl rfl rfl rfl rfl (fun h n u hV => o_put (by decide) ffs28 kfs28 hV) dX2_init_2_57 (o_top (fun σ27 eσ27 => ?_))
  have hw := hw σ27 eσ27
  refine a_aload_0 (pc := 60) C dX2_init_2_60 ?_
  refine a_iconst (pc := 61) C dX2_init_2_61 ic_4 ?_
  refine o_newQ (pc := 62) C hs 1 (N := 4) q115 q116 (kd := 4) (fun _ => rfl)  (by decide) (by decide) (by decide) (by decide) (by decide) hw.1 dX2_init_2_62 (fun q29 frq29 nxq29 σ30 eσ30 => ?_)
  have hw := hw.2 q29 frq29 nxq29 σ30 eσ30
  obtain ⟨fs32, ffs32, kfs32, hw⟩ := hw
  refine a_putfF (pc := 65) C (ref := "MaltDrums$House") (V1 := OW h0 n0 u0 E σ.2.2.1 (oPut σ30 a (.inr (1, fs32.set 7 (.ref q29))))) in_X2 tyX2 tyX2_ok nmX2 (ci := 1) rfl 7 (by decide) q171 rfl rfl rfl rfl rfl rfl (fun h n u hV => o_put (by decide) ffs32 kfs32 hV) dX2_init_2_65 (o_top (fun σ31 eσ31 => ?_))
  have hw := hw σ31 eσ31
  refine a_aload_0 (pc := 68) C dX2_init_2_68 ?_
  refine o_callSr (pc := 69) C hs [] (st := [.ref a]) (fun h n u hB => ct_X3_heap l G E _ _ hw h n u hB) (by decide) (by decide) (lw_S q117 q118 q67 q119) sg_X3_heap (Nat.le_of_ble_eq_true rfl) dX2_init_2_69 (fun r34 σ33 hw => ?_)
  obtain ⟨fs36, ffs36, kfs36, hw⟩ := hw
  refine a_putfF (pc := 72) C (ref := "MaltDrums$House") (V1 := OW h0 n0 u0 E σ.2.2.1 (oPut σ33 a (.inr (1, fs36.set 8 (.ref r34))))) in_X2 tyX2 tyX2_ok nmX2 (ci := 1) rfl 8 (by decide) q173 rfl rfl rfl rfl rfl rfl (fun h n u hV => o_put (by decide) ffs36 kfs36 hV) dX2_init_2_72 (o_top (fun σ35 eσ35 => ?_))
  have hw := hw σ35 eσ35
  refine a_aload_0 (pc := 75) C dX2_init_2_75 ?_
  refine a_bipush (pc := 76) C dX2_init_2_76 bc_50 ?_
  obtain ⟨fs38, ffs38, kfs38, hw⟩ := hw
  refine a_putf (pc := 78) C (ref := "MaltDrums$House") (V1 := OW h0 n0 u0 E σ.2.2.1 (oPut σ35 a (.inr (1, fs38.set 15 (.int 50))))) in_X2 tyX2 tyX2_ok nmX2 (ci := 1) rfl 15 (by decide) q186 rfl rfl rfl rfl (fun h n u hV => o_put (by decide) ffs38 kfs38 hV) dX2_init_2_78 (o_top (fun σ37 eσ37 => ?_))
  have hw := hw σ37 eσ37
  refine a_aload_0 (pc := 81) C dX2_init_2_81 ?_
  refine a_bipush (pc := 82) C dX2_init_2_82 bc_80 ?_
  obtain ⟨fs40, ffs40, kfs40, hw⟩ := hw
  refine a_putf (pc := 84) C (ref := "MaltDrums$House") (V1 := OW h0 n0 u0 E σ.2.2.1 (oPut σ37 a (.inr (1, fs40.set 16 (.int 80))))) in_X2 tyX2 tyX2_ok nmX2 (ci := 1) rfl 16 (by decide) q188 rfl rfl rfl rfl (fun h n u hV => o_put (by decide) ffs40 kfs40 hV) dX2_init_2_84 (o_top (fun σ39 eσ39 => ?_))
  have hw := hw σ39 eσ39
  refine a_aload_0 (pc := 87) C dX2_init_2_87 ?_
  refine a_iconst (pc := 88) C dX2_init_2_88 ic_4 ?_
  obtain ⟨fs42, ffs42, kfs42, hw⟩ := hw
  refine a_putf (pc := 89) C (ref := "MaltDrums$House") (V1 := OW h0 n0 u0 E σ.2.2.1 (oPut σ39 a (.inr (1, fs42.set 17 (.int 4))))) in_X2 tyX2 tyX2_ok nmX2 (ci := 1) rfl 17 (by decide) q190 rfl rfl rfl rfl (fun h n u hV => o_put (by decide) ffs42 kfs42 hV) dX2_init_2_89 (o_top (fun σ41 eσ41 => ?_))
  have hw := hw σ41 eσ41
  refine a_aload_0 (pc := 92) C dX2_init_2_92 ?_
  refine a_iconst (pc := 93) C dX2_init_2_93 ic_4 ?_
  obtain ⟨fs44, ffs44, kfs44, hw⟩ := hw
  refine a_putf (pc := 94) C (ref := "MaltDrums$House") (V1 := OW h0 n0 u0 E σ.2.2.1 (oPut σ41 a (.inr (1, fs44.set 18 (.int 4))))) in_X2 tyX2 tyX2_ok nmX2 (ci := 1) rfl 18 (by decide) q192 rfl rfl rfl rfl (fun h n u hV => o_put (by decide) ffs44 kfs44 hV) dX2_init_2_94 (o_top (fun σ43 eσ43 => ?_))
  have hw := hw σ43 eσ43
  refine a_iconst (pc := 97) C dX2_init_2_97 ic_0 ?_
  refine a_istore_2 (pc := 98) C dX2_init_2_98 (by decide) rfl ?_
  refine jn_use hw (fun kx47 ekx47 hw => ?_)
  have hkx47 : ∀ (x48 : Int32) (σ49 : OS), kx47 x48 σ49 → AW G p l e (aRm 5 σ.2.2.1 (10 * σ.2.2.1)) s m args below meth c (a_A h0 n0) 3 (MQ below (a_Qc G (o_pv Q h0 n0 u0 E σ.2.2.1) (a_A h0 n0)) args s σ.2.2.1 (10 * σ.2.2.1) (a_A h0 n0)) (OW h0 n0 u0 E σ.2.2.1 σ49) 197 [some (.ref a), some (.ref p1), some (.int x48)] [] := by
    intro x48 σ49 hw
    rw [ekx47] at hw
    refine a_iconst (pc := 197) C dX2_init_2_197 ic_0 ?_
    refine a_istore_2 (pc := 198) C dX2_init_2_198 (by decide) rfl ?_
    refine jn_use hw (fun kx52 ekx52 hw => ?_)
    have hkx52 : ∀ (x53 : Int32) (σ54 : OS), kx52 x53 σ54 → AW G p l e (aRm 5 σ.2.2.1 (10 * σ.2.2.1)) s m args below meth c (a_A h0 n0) 3 (MQ below (a_Qc G (o_pv Q h0 n0 u0 E σ.2.2.1) (a_A h0 n0)) args s σ.2.2.1 (10 * σ.2.2.1) (a_A h0 n0)) (OW h0 n0 u0 E σ.2.2.1 σ54) 229 [some (.ref a), some (.ref p1), some (.int x53)] [] := by
      intro x53 σ54 hw
      rw [ekx52] at hw
      refine a_aload_0 (pc := 229) C dX2_init_2_229 ?_
      refine a_aload_1 (pc := 230) C dX2_init_2_230 ?_
      obtain ⟨w55, yw55, hw⟩ := hw
      refine o_hbook (pc := 231) C yw55 q174 dX2_init_2_231 (fun b56 ib56 σ57 eσ57 => ?_)
      have hw := hw b56 ib56 σ57 eσ57
      obtain ⟨fs59, ffs59, kfs59, hw⟩ := hw
      refine a_putf (pc := 234) C (ref := "MaltDrums$House") (V1 := OW h0 n0 u0 E σ.2.2.1 (oPut σ57 a (.inr (1, fs59.set 9 (va_rf b56))))) in_X2 tyX2 tyX2_ok nmX2 (ci := 1) rfl 9 (by decide) q174 rfl rfl (by cases b56 <;> rfl) (by cases b56 <;> rfl) (fun h n u hV => o_put (by decide) ffs59 kfs59 hV) dX2_init_2_234 (o_top (fun σ58 eσ58 => ?_))
      have hw := hw σ58 eσ58
      refine a_aload_0 (pc := 237) C dX2_init_2_237 ?_
      refine a_aload_1 (pc := 238) C dX2_init_2_238 ?_
      obtain ⟨w60, yw60, hw⟩ := hw
      refine a_getf (pc := 239) C (ref := "MaltDrums$House") (v := .int (w60.1 11 0)) in_X2 (ci := 1) rfl 10 (by decide) q176 rfl (fun h n u hV => o_hfld yw60 (fun _ => rfl) hV) dX2_init_2_239 ?_
      obtain ⟨fs62, ffs62, kfs62, hw⟩ := hw
      refine a_putf (pc := 242) C (ref := "MaltDrums$House") (V1 := OW h0 n0 u0 E σ.2.2.1 (oPut σ58 a (.inr (1, fs62.set 10 (.int (w60.1 11 0)))))) in_X2 tyX2 tyX2_ok nmX2 (ci := 1) rfl 10 (by decide) q176 rfl rfl rfl rfl (fun h n u hV => o_put (by decide) ffs62 kfs62 hV) dX2_init_2_242 (o_top (fun σ61 eσ61 => ?_))
      have hw := hw σ61 eσ61
      refine a_aload_0 (pc := 245) C dX2_init_2_245 ?_
      refine a_aload_1 (pc := 246) C dX2_init_2_246 ?_
      obtain ⟨w63, yw63, hw⟩ := hw
      refine a_getf (pc := 247) C (ref := "MaltDrums$House") (v := .int (w63.1 11 1)) in_X2 (ci := 1) rfl 11 (by decide) q178 rfl (fun h n u hV => o_hfld yw63 (fun _ => rfl) hV) dX2_init_2_247 ?_
      obtain ⟨fs65, ffs65, kfs65, hw⟩ := hw
      refine a_putf (pc := 250) C (ref := "MaltDrums$House") (V1 := OW h0 n0 u0 E σ.2.2.1 (oPut σ61 a (.inr (1, fs65.set 11 (.int (w63.1 11 1)))))) in_X2 tyX2 tyX2_ok nmX2 (ci := 1) rfl 11 (by decide) q178 rfl rfl rfl rfl (fun h n u hV => o_put (by decide) ffs65 kfs65 hV) dX2_init_2_250 (o_top (fun σ64 eσ64 => ?_))
      have hw := hw σ64 eσ64
      refine a_aload_0 (pc := 253) C dX2_init_2_253 ?_
      refine a_aload_1 (pc := 254) C dX2_init_2_254 ?_
      obtain ⟨w66, yw66, hw⟩ := hw
      refine a_getf (pc := 255) C (ref := "MaltDrums$House") (v := .int (w66.1 11 2)) in_X2 (ci := 1) rfl 12 (by decide) q180 rfl (fun h n u hV => o_hfld yw66 (fun _ => rfl) hV) dX2_init_2_255 ?_
      obtain ⟨fs68, ffs68, kfs68, hw⟩ := hw
      refine a_putf (pc := 258) C (ref := "MaltDrums$House") (V1 := OW h0 n0 u0 E σ.2.2.1 (oPut σ64 a (.inr (1, fs68.set 12 (.int (w66.1 11 2)))))) in_X2 tyX2 tyX2_ok nmX2 (ci := 1) rfl 12 (by decide) q180 rfl rfl rfl rfl (fun h n u hV => o_put (by decide) ffs68 kfs68 hV) dX2_init_2_258 (o_top (fun σ67 eσ67 => ?_))
      have hw := hw σ67 eσ67
      refine a_aload_0 (pc := 261) C dX2_init_2_261 ?_
      refine a_aload_1 (pc := 262) C dX2_init_2_262 ?_
      obtain ⟨w69, yw69, hw⟩ := hw
      refine a_getf (pc := 263) C (ref := "MaltDrums$House") (v := .int (w69.1 11 3)) in_X2 (ci := 1) rfl 13 (by decide) q182 rfl (fun h n u hV => o_hfld yw69 (fun _ => rfl) hV) dX2_init_2_263 ?_
      obtain ⟨fs71, ffs71, kfs71, hn1, hn2, hw⟩ := hw
      refine a_putf (pc := 266) C (ref := "MaltDrums$House") (V1 := OW h0 n0 u0 E σ.2.2.1 (oPut σ67 a (.inr (1, fs71.set 13 (.int (w69.1 11 3)))))) in_X2 tyX2 tyX2_ok nmX2 (ci := 1) rfl 13 (by decide) q182 rfl rfl hn1 hn2 (fun h n u hV => o_put (by decide) ffs71 kfs71 hV) dX2_init_2_266 (o_top (fun σ70 eσ70 => ?_))
      have hw := hw σ70 eσ70
      refine a_aload_0 (pc := 269) C dX2_init_2_269 ?_
      refine a_aload_1 (pc := 270) C dX2_init_2_270 ?_
      obtain ⟨w72, yw72, hw⟩ := hw
      refine a_getf (pc := 271) C (ref := "MaltDrums$House") (v := .int (w72.1 11 4)) in_X2 (ci := 1) rfl 14 (by decide) q184 rfl (fun h n u hV => o_hfld yw72 (fun _ => rfl) hV) dX2_init_2_271 ?_
      obtain ⟨fs74, ffs74, kfs74, hw⟩ := hw
      refine a_putf (pc := 274) C (ref := "MaltDrums$House") (V1 := OW h0 n0 u0 E σ.2.2.1 (oPut σ70 a (.inr (1, fs74.set 14 (.int (w72.1 11 4)))))) in_X2 tyX2 tyX2_ok nmX2 (ci := 1) rfl 14 (by decide) q184 rfl rfl rfl rfl (fun h n u hV => o_put (by decide) ffs74 kfs74 hV) dX2_init_2_274 (o_top (fun σ73 eσ73 => ?_))
      have hw := hw σ73 eσ73
      refine a_aload_0 (pc := 277) C dX2_init_2_277 ?_
      refine a_aload_1 (pc := 278) C dX2_init_2_278 ?_
      obtain ⟨w75, yw75, hw⟩ := hw
      refine a_getf (pc := 279) C (ref := "MaltDrums$House") (v := .int (w75.1 11 5)) in_X2 (ci := 1) rfl 15 (by decide) q186 rfl (fun h n u hV => o_hfld yw75 (fun _ => rfl) hV) dX2_init_2_279 ?_
      obtain ⟨fs77, ffs77, kfs77, hw⟩ := hw
      refine a_putf (pc := 282) C (ref := "MaltDrums$House") (V1 := OW h0 n0 u0 E σ.2.2.1 (oPut σ73 a (.inr (1, fs77.set 15 (.int (w75.1 11 5)))))) in_X2 tyX2 tyX2_ok nmX2 (ci := 1) rfl 15 (by decide) q186 rfl rfl rfl rfl (fun h n u hV => o_put (by decide) ffs77 kfs77 hV) dX2_init_2_282 (o_top (fun σ76 eσ76 => ?_))
      have hw := hw σ76 eσ76
      refine a_aload_0 (pc := 285) C dX2_init_2_285 ?_
      refine a_aload_1 (pc := 286) C dX2_init_2_286 ?_
      obtain ⟨w78, yw78, hw⟩ := hw
      refine a_getf (pc := 287) C (ref := "MaltDrums$House") (v := .int (w78.1 11 6)) in_X2 (ci := 1) rfl 16 (by decide) q188 rfl (fun h n u hV => o_hfld yw78 (fun _ => rfl) hV) dX2_init_2_287 ?_
      obtain ⟨fs80, ffs80, kfs80, hw⟩ := hw
      refine a_putf (pc := 290) C (ref := "MaltDrums$House") (V1 := OW h0 n0 u0 E σ.2.2.1 (oPut σ76 a (.inr (1, fs80.set 16 (.int (w78.1 11 6)))))) in_X2 tyX2 tyX2_ok nmX2 (ci := 1) rfl 16 (by decide) q188 rfl rfl rfl rfl (fun h n u hV => o_put (by decide) ffs80 kfs80 hV) dX2_init_2_290 (o_top (fun σ79 eσ79 => ?_))
      have hw := hw σ79 eσ79
      refine a_aload_0 (pc := 293) C dX2_init_2_293 ?_
      refine a_aload_1 (pc := 294) C dX2_init_2_294 ?_
      obtain ⟨w81, yw81, hw⟩ := hw
      refine a_getf (pc := 295) C (ref := "MaltDrums$House") (v := .int (w81.1 11 7)) in_X2 (ci := 1) rfl 17 (by decide) q190 rfl (fun h n u hV => o_hfld yw81 (fun _ => rfl) hV) dX2_init_2_295 ?_
      obtain ⟨fs83, ffs83, kfs83, hw⟩ := hw
      refine a_putf (pc := 298) C (ref := "MaltDrums$House") (V1 := OW h0 n0 u0 E σ.2.2.1 (oPut σ79 a (.inr (1, fs83.set 17 (.int (w81.1 11 7)))))) in_X2 tyX2 tyX2_ok nmX2 (ci := 1) rfl 17 (by decide) q190 rfl rfl rfl rfl (fun h n u hV => o_put (by decide) ffs83 kfs83 hV) dX2_init_2_298 (o_top (fun σ82 eσ82 => ?_))
      have hw := hw σ82 eσ82
      refine a_aload_0 (pc := 301) C dX2_init_2_301 ?_
      refine a_aload_1 (pc := 302) C dX2_init_2_302 ?_
      obtain ⟨w84, yw84, hw⟩ := hw
      refine a_getf (pc := 303) C (ref := "MaltDrums$House") (v := .int (w84.1 11 8)) in_X2 (ci := 1) rfl 18 (by decide) q192 rfl (fun h n u hV => o_hfld yw84 (fun _ => rfl) hV) dX2_init_2_303 ?_
      obtain ⟨fs86, ffs86, kfs86, hw⟩ := hw
      refine a_putf (pc := 306) C (ref := "MaltDrums$House") (V1 := OW h0 n0 u0 E σ.2.2.1 (oPut σ82 a (.inr (1, fs86.set 18 (.int (w84.1 11 8)))))) in_X2 tyX2 tyX2_ok nmX2 (ci := 1) rfl 18 (by decide) q192 rfl rfl rfl rfl (fun h n u hV => o_put (by decide) ffs86 kfs86 hV) dX2_init_2_306 (o_top (fun σ85 eσ85 => ?_))
      have hw := hw σ85 eσ85
      refine a_aload_0 (pc := 309) C dX2_init_2_309 ?_
      refine a_aload_1 (pc := 310) C dX2_init_2_310 ?_
      obtain ⟨w87, yw87, hw⟩ := hw
      refine a_getf (pc := 311) C (ref := "MaltDrums$House") (v := .int (w87.1 11 9)) in_X2 (ci := 1) rfl 19 (by decide) q194 rfl (fun h n u hV => o_hfld yw87 (fun _ => rfl) hV) dX2_init_2_311 ?_
      obtain ⟨fs89, ffs89, kfs89, hw⟩ := hw
      refine a_putf (pc := 314) C (ref := "MaltDrums$House") (V1 := OW h0 n0 u0 E σ.2.2.1 (oPut σ85 a (.inr (1, fs89.set 19 (.int (w87.1 11 9)))))) in_X2 tyX2 tyX2_ok nmX2 (ci := 1) rfl 19 (by decide) q194 rfl rfl rfl rfl (fun h n u hV => o_put (by decide) ffs89 kfs89 hV) dX2_init_2_314 (o_top (fun σ88 eσ88 => ?_))
      have hw := hw σ88 eσ88
      refine a_aload_0 (pc := 317) C dX2_init_2_317 ?_
      refine a_aload_1 (pc := 318) C dX2_init_2_318 ?_
      obtain ⟨w90, yw90, hw⟩ := hw
      refine a_getf (pc := 319) C (ref := "MaltDrums$House") (v := .int (w90.1 11 10)) in_X2 (ci := 1) rfl 20 (by decide) q196 rfl (fun h n u hV => o_hfld yw90 (fun _ => rfl) hV) dX2_init_2_319 ?_
      obtain ⟨fs92, ffs92, kfs92, hw⟩ := hw
      refine a_putf (pc := 322) C (ref := "MaltDrums$House") (V1 := OW h0 n0 u0 E σ.2.2.1 (oPut σ88 a (.inr (1, fs92.set 20 (.int (w90.1 11 10)))))) in_X2 tyX2 tyX2_ok nmX2 (ci := 1) rfl 20 (by decide) q196 rfl rfl rfl rfl (fun h n u hV => o_put (by decide) ffs92 kfs92 hV) dX2_init_2_322 (o_top (fun σ91 eσ91 => ?_))
      have hw := hw σ91 eσ91
      refine a_aload_0 (pc := 325) C dX2_init_2_325 ?_
      refine a_aload_1 (pc := 326) C dX2_init_2_326 ?_
      obtain ⟨w93, yw93, hw⟩ := hw
      refine a_getf (pc := 327) C (ref := "MaltDrums$House") (v := .int (w93.1 11 11)) in_X2 (ci := 1) rfl 21 (by decide) q198 rfl (fun h n u hV => o_hfld yw93 (fun _ => rfl) hV) dX2_init_2_327 ?_
      obtain ⟨fs95, ffs95, kfs95, hw⟩ := hw
      refine a_putf (pc := 330) C (ref := "MaltDrums$House") (V1 := OW h0 n0 u0 E σ.2.2.1 (oPut σ91 a (.inr (1, fs95.set 21 (.int (w93.1 11 11)))))) in_X2 tyX2 tyX2_ok nmX2 (ci := 1) rfl 21 (by decide) q198 rfl rfl rfl rfl (fun h n u hV => o_put (by decide) ffs95 kfs95 hV) dX2_init_2_330 (o_top (fun σ94 eσ94 => ?_))
      have hw := hw σ94 eσ94
      exact a_vret C dX2_init_2_333 (fun h n u hV => ⟨⟨_, rfl, hw, hV⟩, o_end hs hV⟩)
    have lp199 : ∀ (F : Nat) (x50 : Int32) (σ51 : OS), wp_X2_init_2_L199 kx52 a p1 F x50 σ51 → AW G p l e (aRm 5 σ.2.2.1 (10 * σ.2.2.1)) s m args below meth c (a_A h0 n0) 3 (MQ below (a_Qc G (o_pv Q h0 n0 u0 E σ.2.2.1) (a_A h0 n0)) args s σ.2.2.1 (10 * σ.2.2.1) (a_A h0 n0)) (OW h0 n0 u0 E σ.2.2.1 σ51) 199 [some (.ref a), some (.ref p1), some (.int x50)] [] := by
      intro F
      induction F with
      | zero => intro x50 σ51 hw; exact False.elim hw
      | succ F ih =>
        intro x50 σ51 hw
        rw [wp_X2_init_2_L199] at hw
        refine a_iload_2 (pc := 199) C dX2_init_2_199 ?_
        refine a_iconst (pc := 200) C dX2_init_2_200 ic_4 ?_
        refine a_icmp_ge (pc := 201) C 229 dX2_init_2_201 (by decide) (fun c96 => ?_) (fun c96 => ?_)
        · have hw := hw.1 c96
          exact hkx52 _ _ hw
        · have hw := hw.2 c96
          refine a_aload_0 (pc := 204) C dX2_init_2_204 ?_
          obtain ⟨r97, fr97, hw⟩ := hw
          refine a_getf (pc := 205) C (ref := "MaltDrums$House") in_X2 (ci := 1) rfl 7 (by decide) q171 rfl (fun h n u hV => o_fld fr97 hV) dX2_init_2_205 ?_
          refine a_iload_2 (pc := 208) C dX2_init_2_208 ?_
          refine o_newC (pc := 209) C hs 1 in_X5 tyX5 tyX5_ok q115 q134 q70 (ci := 3) (fs := [.int 0, .int 0, .int 0, .int 0]) rfl (by decide) (fun f z => by cases z) (by decide) (by decide) hw.1 dX2_init_2_209 (fun q98 frq98 nxq98 σ99 eσ99 => ?_)
          have hw := hw.2 q98 frq98 nxq98 σ99 eσ99
          refine a_dup (pc := 212) C dX2_init_2_212 rfl ?_
          refine a_aload_1 (pc := 213) C dX2_init_2_213 ?_
          obtain ⟨w100, yw100, hw⟩ := hw
          refine a_getf (pc := 214) C (ref := "MaltDrums$House") (v := .ref (p1 + 8)) in_X2 (ci := 1) rfl 7 (by decide) q171 rfl (fun h n u hV => o_hfld yw100 (fun _ => rfl) hV) dX2_init_2_214 ?_
          refine a_iload_2 (pc := 217) C dX2_init_2_217 ?_
          obtain ⟨w101, yw101, iw101, hw⟩ := hw
          refine o_haald (pc := 218) C yw101 iw101 dX2_init_2_218 ?_
          refine o_callIv (pc := 219) C hs [.ref (p1 + 9 + (1 + (x50.toNatClampNeg)))] (b := q98) (st := [.ref q98, .int x50, .ref r97]) (fun h n u hB => ct_X5_init_2 l G q98 _ _ E _ _ hw h n u hB) (by decide) (by decide) q70 q974 q975 rfl (lw_meth q976) sg_X5_init_2 (Nat.le_of_ble_eq_true rfl) dX2_init_2_219 (fun σ102 hw => ?_)
          obtain ⟨n104, f105, af105, if105, hw⟩ := hw
          refine a_aastD (pc := 222) C (V1 := OW h0 n0 u0 E σ.2.2.1 (oPut σ102 r97 (.inl (4, n104, .inr (.inr (.inr (.inr (va_up f105 x50.toNatClampNeg (some q98))))))))) (fun h n u hV => ⟨o_arr af105 hV, o_cls hw.1 hV, hV.putA af105⟩) if105 dX2_init_2_222 (o_top (fun σ103 eσ103 => ?_))
          have hw := hw.2 σ103 eσ103
          refine a_iinc_2 (pc := 223) (v := 1) C dX2_init_2_223 (by decide) (by decide) rfl ?_
          refine a_goto (pc := 226) C 199 dX2_init_2_226 (by decide) ?_
          exact ih _ _ hw
    exact lp199 mF _ _ hw
  have lp99 : ∀ (F : Nat) (x45 : Int32) (σ46 : OS), wp_X2_init_2_L99 kx47 p1 a F x45 σ46 → AW G p l e (aRm 5 σ.2.2.1 (10 * σ.2.2.1)) s m args below meth c (a_A h0 n0) 3 (MQ below (a_Qc G (o_pv Q h0 n0 u0 E σ.2.2.1) (a_A h0 n0)) args s σ.2.2.1 (10 * σ.2.2.1) (a_A h0 n0)) (OW h0 n0 u0 E σ.2.2.1 σ46) 99 [some (.ref a), some (.ref p1), some (.int x45)] [] := by
    intro F
    induction F with
    | zero => intro x45 σ46 hw; exact False.elim hw
    | succ F ih =>
      intro x45 σ46 hw
      rw [wp_X2_init_2_L99] at hw
      refine a_iload_2 (pc := 99) C dX2_init_2_99 ?_
      refine a_aload_1 (pc := 100) C dX2_init_2_100 ?_
      obtain ⟨w106, yw106, hw⟩ := hw
      refine a_getf (pc := 101) C (ref := "MaltDrums$House") (v := .int (w106.1 11 1)) in_X2 (ci := 1) rfl 11 (by decide) q178 rfl (fun h n u hV => o_hfld yw106 (fun _ => rfl) hV) dX2_init_2_101 ?_
      refine a_icmp_ge (pc := 104) C 197 dX2_init_2_104 (by decide) (fun c107 => ?_) (fun c107 => ?_)
      · have hw := hw.1 c107
        exact hkx47 _ _ hw
      · have hw := hw.2 c107
        refine a_aload_0 (pc := 107) C dX2_init_2_107 ?_
        obtain ⟨r108, fr108, hw⟩ := hw
        refine a_getf (pc := 108) C (ref := "MaltDrums$House") in_X2 (ci := 1) rfl 0 (by decide) q157 rfl (fun h n u hV => o_fld fr108 hV) dX2_init_2_108 ?_
        refine a_iload_2 (pc := 111) C dX2_init_2_111 ?_
        refine a_aload_1 (pc := 112) C dX2_init_2_112 ?_
        obtain ⟨w109, yw109, hw⟩ := hw
        refine a_getf (pc := 113) C (ref := "MaltDrums$House") (v := .ref (p1 + 1 + 0)) in_X2 (ci := 1) rfl 0 (by decide) q157 rfl (fun h n u hV => o_hfld yw109 (fun _ => rfl) hV) dX2_init_2_113 ?_
        refine a_iload_2 (pc := 116) C dX2_init_2_116 ?_
        obtain ⟨w110, yw110, iw110, hw⟩ := hw
        refine o_hiald (pc := 117) C yw110 (by decide) iw110 dX2_init_2_117 ?_
        obtain ⟨n112, f113, af113, if113, hw⟩ := hw
        refine a_iast (pc := 118) C (V1 := OW h0 n0 u0 E σ.2.2.1 (oPut σ46 r108 (.inl (0, n112, .inl (upd f113 x45.toNatClampNeg (w110.1 0 x45.toNatClampNeg)))))) (fun h n u hV => ⟨o_arr af113 hV, hV.putA af113⟩) if113 dX2_init_2_118 (o_top (fun σ111 eσ111 => ?_))
        have hw := hw σ111 eσ111
        refine a_aload_0 (pc := 119) C dX2_init_2_119 ?_
        obtain ⟨r114, fr114, hw⟩ := hw
        refine a_getf (pc := 120) C (ref := "MaltDrums$House") in_X2 (ci := 1) rfl 1 (by decide) q159 rfl (fun h n u hV => o_fld fr114 hV) dX2_init_2_120 ?_
        refine a_iload_2 (pc := 123) C dX2_init_2_123 ?_
        refine a_aload_1 (pc := 124) C dX2_init_2_124 ?_
        obtain ⟨w115, yw115, hw⟩ := hw
        refine a_getf (pc := 125) C (ref := "MaltDrums$House") (v := .ref (p1 + 1 + 1)) in_X2 (ci := 1) rfl 1 (by decide) q159 rfl (fun h n u hV => o_hfld yw115 (fun _ => rfl) hV) dX2_init_2_125 ?_
        refine a_iload_2 (pc := 128) C dX2_init_2_128 ?_
        obtain ⟨w116, yw116, iw116, hw⟩ := hw
        refine o_hiald (pc := 129) C yw116 (by decide) iw116 dX2_init_2_129 ?_
        obtain ⟨n118, f119, af119, if119, hw⟩ := hw
        refine a_iast (pc := 130) C (V1 := OW h0 n0 u0 E σ.2.2.1 (oPut σ111 r114 (.inl (0, n118, .inl (upd f119 x45.toNatClampNeg (w116.1 1 x45.toNatClampNeg)))))) (fun h n u hV => ⟨o_arr af119 hV, hV.putA af119⟩) if119 dX2_init_2_130 (o_top (fun σ117 eσ117 => ?_))
        have hw := hw σ117 eσ117
        refine a_aload_0 (pc := 131) C dX2_init_2_131 ?_
        obtain ⟨r120, fr120, hw⟩ := hw
        refine a_getf (pc := 132) C (ref := "MaltDrums$House") in_X2 (ci := 1) rfl 2 (by decide) q161 rfl (fun h n u hV => o_fld fr120 hV) dX2_init_2_132 ?_
        refine a_iload_2 (pc := 135) C dX2_init_2_135 ?_
        refine a_aload_1 (pc := 136) C dX2_init_2_136 ?_
        obtain ⟨w121, yw121, hw⟩ := hw
        refine a_getf (pc := 137) C (ref := "MaltDrums$House") (v := .ref (p1 + 1 + 2)) in_X2 (ci := 1) rfl 2 (by decide) q161 rfl (fun h n u hV => o_hfld yw121 (fun _ => rfl) hV) dX2_init_2_137 ?_
        refine a_iload_2 (pc := 140) C dX2_init_2_140 ?_
        obtain ⟨w122, yw122, iw122, hw⟩ := hw
        refine o_hiald (pc := 141) C yw122 (by decide) iw122 dX2_init_2_141 ?_
        obtain ⟨n124, f125, af125, if125, hw⟩ := hw
        refine a_iast (pc := 142) C (V1 := OW h0 n0 u0 E σ.2.2.1 (oPut σ117 r120 (.inl (0, n124, .inl (upd f125 x45.toNatClampNeg (w122.1 2 x45.toNatClampNeg)))))) (fun h n u hV => ⟨o_arr af125 hV, hV.putA af125⟩) if125 dX2_init_2_142 (o_top (fun σ123 eσ123 => ?_))
        have hw := hw σ123 eσ123
        refine a_aload_0 (pc := 143) C dX2_init_2_143 ?_
        obtain ⟨r126, fr126, hw⟩ := hw
        refine a_getf (pc := 144) C (ref := "MaltDrums$House") in_X2 (ci := 1) rfl 3 (by decide) q163 rfl (fun h n u hV => o_fld fr126 hV) dX2_init_2_144 ?_
        refine a_iload_2 (pc := 147) C dX2_init_2_147 ?_
        refine a_aload_1 (pc := 148) C dX2_init_2_148 ?_
        obtain ⟨w127, yw127, hw⟩ := hw
        refine a_getf (pc := 149) C (ref := "MaltDrums$House") (v := .ref (p1 + 1 + 3)) in_X2 (ci := 1) rfl 3 (by decide) q163 rfl (fun h n u hV => o_hfld yw127 (fun _ => rfl) hV) dX2_init_2_149 ?_
        refine a_iload_2 (pc := 152) C dX2_init_2_152 ?_
        obtain ⟨w128, yw128, iw128, hw⟩ := hw
        refine o_hiald (pc := 153) C yw128 (by decide) iw128 dX2_init_2_153 ?_
        obtain ⟨n130, f131, af131, if131, hw⟩ := hw
        refine a_iast (pc := 154) C (V1 := OW h0 n0 u0 E σ.2.2.1 (oPut σ123 r126 (.inl (0, n130, .inl (upd f131 x45.toNatClampNeg (w128.1 3 x45.toNatClampNeg)))))) (fun h n u hV => ⟨o_arr af131 hV, hV.putA af131⟩) if131 dX2_init_2_154 (o_top (fun σ129 eσ129 => ?_))
        have hw := hw σ129 eσ129
        refine a_aload_0 (pc := 155) C dX2_init_2_155 ?_
        obtain ⟨r132, fr132, hw⟩ := hw
        refine a_getf (pc := 156) C (ref := "MaltDrums$House") in_X2 (ci := 1) rfl 4 (by decide) q165 rfl (fun h n u hV => o_fld fr132 hV) dX2_init_2_156 ?_
        refine a_iload_2 (pc := 159) C dX2_init_2_159 ?_
        refine a_aload_1 (pc := 160) C dX2_init_2_160 ?_
        obtain ⟨w133, yw133, hw⟩ := hw
        refine a_getf (pc := 161) C (ref := "MaltDrums$House") (v := .ref (p1 + 1 + 4)) in_X2 (ci := 1) rfl 4 (by decide) q165 rfl (fun h n u hV => o_hfld yw133 (fun _ => rfl) hV) dX2_init_2_161 ?_
        refine a_iload_2 (pc := 164) C dX2_init_2_164 ?_
        obtain ⟨w134, yw134, iw134, hw⟩ := hw
        refine o_hiald (pc := 165) C yw134 (by decide) iw134 dX2_init_2_165 ?_
        obtain ⟨n136, f137, af137, if137, hw⟩ := hw
        refine a_iast (pc := 166) C (V1 := OW h0 n0 u0 E σ.2.2.1 (oPut σ129 r132 (.inl (0, n136, .inl (upd f137 x45.toNatClampNeg (w134.1 4 x45.toNatClampNeg)))))) (fun h n u hV => ⟨o_arr af137 hV, hV.putA af137⟩) if137 dX2_init_2_166 (o_top (fun σ135 eσ135 => ?_))
        have hw := hw σ135 eσ135
        refine a_aload_0 (pc := 167) C dX2_init_2_167 ?_
        obtain ⟨r138, fr138, hw⟩ := hw
        refine a_getf (pc := 168) C (ref := "MaltDrums$House") in_X2 (ci := 1) rfl 5 (by decide) q167 rfl (fun h n u hV => o_fld fr138 hV) dX2_init_2_168 ?_
        refine a_iload_2 (pc := 171) C dX2_init_2_171 ?_
        refine a_aload_1 (pc := 172) C dX2_init_2_172 ?_
        obtain ⟨w139, yw139, hw⟩ := hw
        refine a_getf (pc := 173) C (ref := "MaltDrums$House") (v := .ref (p1 + 1 + 5)) in_X2 (ci := 1) rfl 5 (by decide) q167 rfl (fun h n u hV => o_hfld yw139 (fun _ => rfl) hV) dX2_init_2_173 ?_
        refine a_iload_2 (pc := 176) C dX2_init_2_176 ?_
        obtain ⟨w140, yw140, iw140, hw⟩ := hw
        refine o_hiald (pc := 177) C yw140 (by decide) iw140 dX2_init_2_177 ?_
        obtain ⟨n142, f143, af143, if143, hw⟩ := hw
        refine a_iast (pc := 178) C (V1 := OW h0 n0 u0 E σ.2.2.1 (oPut σ135 r138 (.inl (0, n142, .inl (upd f143 x45.toNatClampNeg (w140.1 5 x45.toNatClampNeg)))))) (fun h n u hV => ⟨o_arr af143 hV, hV.putA af143⟩) if143 dX2_init_2_178 (o_top (fun σ141 eσ141 => ?_))
        have hw := hw σ141 eσ141
        refine a_aload_0 (pc := 179) C dX2_init_2_179 ?_
        obtain ⟨r144, fr144, hw⟩ := hw
        refine a_getf (pc := 180) C (ref := "MaltDrums$House") in_X2 (ci := 1) rfl 6 (by decide) q169 rfl (fun h n u hV => o_fld fr144 hV) dX2_init_2_180 ?_
        refine a_iload_2 (pc := 183) C dX2_init_2_183 ?_
        refine a_aload_1 (pc := 184) C dX2_init_2_184 ?_
        obtain ⟨w145, yw145, hw⟩ := hw
        refine a_getf (pc := 185) C (ref := "MaltDrums$House") (v := .ref (p1 + 1 + 6)) in_X2 (ci := 1) rfl 6 (by decide) q169 rfl (fun h n u hV => o_hfld yw145 (fun _ => rfl) hV) dX2_init_2_185 ?_
        refine a_iload_2 (pc := 188) C dX2_init_2_188 ?_
        obtain ⟨w146, yw146, iw146, hw⟩ := hw
        refine o_hiald (pc := 189) C yw146 (by decide) iw146 dX2_init_2_189 ?_
        obtain ⟨n148, f149, af149, if149, hw⟩ := hw
        refine a_iast (pc := 190) C (V1 := OW h0 n0 u0 E σ.2.2.1 (oPut σ141 r144 (.inl (0, n148, .inl (upd f149 x45.toNatClampNeg (w146.1 6 x45.toNatClampNeg)))))) (fun h n u hV => ⟨o_arr af149 hV, hV.putA af149⟩) if149 dX2_init_2_190 (o_top (fun σ147 eσ147 => ?_))
        have hw := hw σ147 eσ147
        refine a_iinc_2 (pc := 191) (v := 1) C dX2_init_2_191 (by decide) (by decide) rfl ?_
        refine a_goto (pc := 194) C 99 dX2_init_2_194 (by decide) ?_
        exact ih _ _ hw
  exact lp99 mF _ _ hw
def wp_J1_init (a : Nat) (σ : OS) (Q : OS → Prop) : Prop := (Q σ)
theorem sg_J1_init : aSig yJ1_init 0 := by decide +kernel
set_option maxHeartbeats 4000000 in
theorem ct_J1_init (l : Launch) (G : aG) (a : Nat) (E : Nat → Prop) (σ : OS) (Q : OS → Prop) (hw : wp_J1_init a σ Q) (h0 : AH) (n0 u0 : Nat) (hB : OB h0 n0 E σ) : CT l yJ1_init (ws_ yJ1_init cJ1_init 1 none) 2 G [.ref a] h0 n0 u0 σ.2.2.1 (10 * σ.2.2.1) (o_pv Q h0 n0 u0 E σ.2.2.1) := by
  refine CT.intro [some (.ref a)] pn_RJ1 rfl (Nat.le_of_ble_eq_true rfl) ?_
  intro p e s m args below meth c C hz hu
  have hs : s.heap.size = n0 ∧ slT s.heap = u0 := ⟨hz, hu⟩
  refine a_world (V1 := OW h0 n0 u0 E σ.2.2.1 σ) (OW.start hB) ?_
  unfold wp_J1_init at hw
  refine a_aload_0 (pc := 0) C dJ1_init_0 ?_
  refine a_objInit (pc := 1) C q253 q107 q108 (by decide) (Nat.le_of_ble_eq_true rfl) dJ1_init_1 ?_
  exact a_vret C dJ1_init_4 (fun h n u hV => ⟨⟨_, rfl, hw, hV⟩, o_end hs hV⟩)
def wp_J2_init (a : Nat) (σ : OS) (Q : OS → Prop) : Prop := wp_J1_init a σ (fun σ1 => (2 ≤ σ1.2.2.1 ∧ ∀ q2 : Nat, oFr σ1 q2 → (σ1.2.2.2.1 ≠ 0 → q2 = σ1.2.2.2.1) → ∀ σ3 : OS, σ3 = oNew σ1 q2 2 (.inl (3, 17, .inr (.inr (.inr (.inr (fun _ => none)))))) → (∃ fs5 : List Value, σ3.1 a = some (.inr (9, fs5)) ∧ 0 < fs5.length ∧ ∀ σ4 : OS, σ4 = (oPut σ3 a (.inr (9, fs5.set 0 (.ref q2)))) → (Q σ4))))
theorem sg_J2_init : aSig yJ2_init 0 := by decide +kernel
set_option maxHeartbeats 4000000 in
theorem ct_J2_init (l : Launch) (G : aG) (a : Nat) (E : Nat → Prop) (σ : OS) (Q : OS → Prop) (hw : wp_J2_init a σ Q) (h0 : AH) (n0 u0 : Nat) (hB : OB h0 n0 E σ) : CT l yJ2_init (ws_ yJ2_init cJ2_init 1 none) 3 G [.ref a] h0 n0 u0 σ.2.2.1 (10 * σ.2.2.1) (o_pv Q h0 n0 u0 E σ.2.2.1) := by
  refine CT.intro [some (.ref a)] pn_RJ2 rfl (Nat.le_of_ble_eq_true rfl) ?_
  intro p e s m args below meth c C hz hu
  have hs : s.heap.size = n0 ∧ slT s.heap = u0 := ⟨hz, hu⟩
  refine a_world (V1 := OW h0 n0 u0 E σ.2.2.1 σ) (OW.start hB) ?_
  unfold wp_J2_init at hw
  refine a_aload_0 (pc := 0) C dJ2_init_0 ?_
  refine o_callIv (pc := 1) C hs [] (b := a) (st := []) (fun h n u hB => ct_J1_init l G a E _ _ hw h n u hB) (by decide) (by decide) q71 q250 q251 rfl (lw_meth q252) sg_J1_init (Nat.le_of_ble_eq_true rfl) dJ2_init_1 (fun σ1 hw => ?_)
  refine a_aload_0 (pc := 4) C dJ2_init_4 ?_
  refine a_bipush (pc := 5) C dJ2_init_5 bc_17 ?_
  refine o_newQ (pc := 7) C hs 2 (N := 17) q254 q255 (kd := 3) (fun _ => rfl)  (by decide) (by decide) (by decide) (by decide) (by decide) hw.1 dJ2_init_7 (fun q2 frq2 nxq2 σ3 eσ3 => ?_)
  have hw := hw.2 q2 frq2 nxq2 σ3 eσ3
  obtain ⟨fs5, ffs5, kfs5, hw⟩ := hw
  refine a_putf (pc := 10) C (ref := "java/util/ArrayDeque") (V1 := OW h0 n0 u0 E σ.2.2.1 (oPut σ3 a (.inr (9, fs5.set 0 (.ref q2))))) in_J2 tyJ2 tyJ2_ok nmJ2 (ci := 9) rfl 0 (by decide) q256 rfl rfl rfl rfl (fun h n u hV => o_put (by decide) ffs5 kfs5 hV) dJ2_init_10 (o_top (fun σ4 eσ4 => ?_))
  have hw := hw σ4 eσ4
  exact a_vret C dJ2_init_13 (fun h n u hV => ⟨⟨_, rfl, hw, hV⟩, o_end hs hV⟩)
def wp_J2_sub (p1 : Int32) (p2 : Int32) (p3 : Int32) (σ : OS) (Q : Int32 → OS → Prop) : Prop := (((0 ≤ (p1 - p2)) → (Q (p1 - p2) σ)) ∧ ((¬ 0 ≤ (p1 - p2)) → (Q ((p1 - p2) + p3) σ)))
theorem sg_J2_sub : aSig yJ2_sub 3 := by decide +kernel
set_option maxHeartbeats 4000000 in
theorem ct_J2_sub (l : Launch) (G : aG) (p1 : Int32) (p2 : Int32) (p3 : Int32) (E : Nat → Prop) (σ : OS) (Q : Int32 → OS → Prop) (hw : wp_J2_sub p1 p2 p3 σ Q) (h0 : AH) (n0 u0 : Nat) (hB : OB h0 n0 E σ) : CT l yJ2_sub (ws_ yJ2_sub cJ2_sub 3 (some .int)) 1 G [.int p1, .int p2, .int p3] h0 n0 u0 σ.2.2.1 (10 * σ.2.2.1) (o_pi Q h0 n0 u0 E σ.2.2.1) := by
  refine CT.intro [some (.int p1), some (.int p2), some (.int p3)] pn_RJ2 rfl (Nat.le_of_ble_eq_true rfl) ?_
  intro p e s m args below meth c C hz hu
  have hs : s.heap.size = n0 ∧ slT s.heap = u0 := ⟨hz, hu⟩
  refine a_world (V1 := OW h0 n0 u0 E σ.2.2.1 σ) (OW.start hB) ?_
  unfold wp_J2_sub at hw
  refine a_iload_0 (pc := 0) C dJ2_sub_0 ?_
  refine a_iload_1 (pc := 1) C dJ2_sub_1 ?_
  refine a_isub (pc := 2) C dJ2_sub_2 ?_
  refine a_dup (pc := 3) C dJ2_sub_3 rfl ?_
  refine a_istore_0 (pc := 4) C dJ2_sub_4 (by decide) ?_
  refine a_if_ge (pc := 5) C 12 dJ2_sub_5 (by decide) (fun c1 => ?_) (fun c1 => ?_)
  · have hw := hw.1 c1
    refine a_iload_0 (pc := 12) C dJ2_sub_12 ?_
    exact a_iret C dJ2_sub_13 (fun h n u hV => ⟨⟨(_, _), rfl, hw, hV⟩, o_end hs hV⟩)
  · have hw := hw.2 c1
    refine a_iload_0 (pc := 8) C dJ2_sub_8 ?_
    refine a_iload_2 (pc := 9) C dJ2_sub_9 ?_
    refine a_iadd (pc := 10) C dJ2_sub_10 ?_
    refine a_istore_0 (pc := 11) C dJ2_sub_11 (by decide) ?_
    refine a_iload_0 (pc := 12) C dJ2_sub_12 ?_
    exact a_iret C dJ2_sub_13 (fun h n u hV => ⟨⟨(_, _), rfl, hw, hV⟩, o_end hs hV⟩)
def wp_J2_size (a : Nat) (σ : OS) (Q : Int32 → OS → Prop) : Prop := (∃ x1 : Int32, oF σ a 9 2 (.int x1) ∧ (∃ x2 : Int32, oF σ a 9 1 (.int x2) ∧ (∃ r3 : Nat, oF σ a 9 0 (.ref r3) ∧ (∃ (n4 : Nat) (f6 : Nat → Option Nat), σ.1 r3 = some (.inl (3, n4, .inr (.inr (.inr (.inr f6))))) ∧ wp_J2_sub x1 x2 (Int32.ofNat n4) σ (fun v8 σ7 => (Q v8 σ7))))))
theorem sg_J2_size : aSig yJ2_size 0 := by decide +kernel
set_option maxHeartbeats 4000000 in
theorem ct_J2_size (l : Launch) (G : aG) (a : Nat) (E : Nat → Prop) (σ : OS) (Q : Int32 → OS → Prop) (hw : wp_J2_size a σ Q) (h0 : AH) (n0 u0 : Nat) (hB : OB h0 n0 E σ) : CT l yJ2_size (ws_ yJ2_size cJ2_size 1 (some .int)) 2 G [.ref a] h0 n0 u0 σ.2.2.1 (10 * σ.2.2.1) (o_pi Q h0 n0 u0 E σ.2.2.1) := by
  refine CT.intro [some (.ref a)] pn_RJ2 rfl (Nat.le_of_ble_eq_true rfl) ?_
  intro p e s m args below meth c C hz hu
  have hs : s.heap.size = n0 ∧ slT s.heap = u0 := ⟨hz, hu⟩
  refine a_world (V1 := OW h0 n0 u0 E σ.2.2.1 σ) (OW.start hB) ?_
  unfold wp_J2_size at hw
  refine a_aload_0 (pc := 0) C dJ2_size_0 ?_
  obtain ⟨x1, fx1, hw⟩ := hw
  refine a_getf (pc := 1) C (ref := "java/util/ArrayDeque") in_J2 (ci := 9) rfl 2 (by decide) q258 rfl (fun h n u hV => o_fld fx1 hV) dJ2_size_1 ?_
  refine a_aload_0 (pc := 4) C dJ2_size_4 ?_
  obtain ⟨x2, fx2, hw⟩ := hw
  refine a_getf (pc := 5) C (ref := "java/util/ArrayDeque") in_J2 (ci := 9) rfl 1 (by decide) q257 rfl (fun h n u hV => o_fld fx2 hV) dJ2_size_5 ?_
  refine a_aload_0 (pc := 8) C dJ2_size_8 ?_
  obtain ⟨r3, fr3, hw⟩ := hw
  refine a_getf (pc := 9) C (ref := "java/util/ArrayDeque") in_J2 (ci := 9) rfl 0 (by decide) q256 rfl (fun h n u hV => o_fld fr3 hV) dJ2_size_9 ?_
  obtain ⟨n4, f6, af6, hw⟩ := hw
  refine a_alen (pc := 12) C (kd := 3) (fun h n u hV => o_arr af6 hV) (fun _ => rfl) rfl dJ2_size_12 ?_
  refine o_callSi (pc := 13) C hs [.int x1, .int x2, .int (Int32.ofNat n4)] (st := []) (fun h n u hB => ct_J2_sub l G _ _ _ E _ _ hw h n u hB) (by decide) (by decide) (lw_S q964 q965 q72 q966) sg_J2_sub (Nat.le_of_ble_eq_true rfl) dJ2_size_13 (fun v8 σ7 hw => ?_)
  exact a_iret C dJ2_size_16 (fun h n u hV => ⟨⟨(_, _), rfl, hw, hV⟩, o_end hs hV⟩)
def wp_J2_isEmpty (a : Nat) (σ : OS) (Q : Int32 → OS → Prop) : Prop := (∃ x1 : Int32, oF σ a 9 1 (.int x1) ∧ (∃ x2 : Int32, oF σ a 9 2 (.int x2) ∧ (((¬ x1 = x2) → (Q 0 σ)) ∧ ((x1 = x2) → (Q 1 σ)))))
theorem sg_J2_isEmpty : aSig yJ2_isEmpty 0 := by decide +kernel
set_option maxHeartbeats 4000000 in
theorem ct_J2_isEmpty (l : Launch) (G : aG) (a : Nat) (E : Nat → Prop) (σ : OS) (Q : Int32 → OS → Prop) (hw : wp_J2_isEmpty a σ Q) (h0 : AH) (n0 u0 : Nat) (hB : OB h0 n0 E σ) : CT l yJ2_isEmpty (ws_ yJ2_isEmpty cJ2_isEmpty 1 (some .boolean)) 1 G [.ref a] h0 n0 u0 σ.2.2.1 (10 * σ.2.2.1) (o_pi Q h0 n0 u0 E σ.2.2.1) := by
  refine CT.intro [some (.ref a)] pn_RJ2 rfl (Nat.le_of_ble_eq_true rfl) ?_
  intro p e s m args below meth c C hz hu
  have hs : s.heap.size = n0 ∧ slT s.heap = u0 := ⟨hz, hu⟩
  refine a_world (V1 := OW h0 n0 u0 E σ.2.2.1 σ) (OW.start hB) ?_
  unfold wp_J2_isEmpty at hw
  refine a_aload_0 (pc := 0) C dJ2_isEmpty_0 ?_
  obtain ⟨x1, fx1, hw⟩ := hw
  refine a_getf (pc := 1) C (ref := "java/util/ArrayDeque") in_J2 (ci := 9) rfl 1 (by decide) q257 rfl (fun h n u hV => o_fld fx1 hV) dJ2_isEmpty_1 ?_
  refine a_aload_0 (pc := 4) C dJ2_isEmpty_4 ?_
  obtain ⟨x2, fx2, hw⟩ := hw
  refine a_getf (pc := 5) C (ref := "java/util/ArrayDeque") in_J2 (ci := 9) rfl 2 (by decide) q258 rfl (fun h n u hV => o_fld fx2 hV) dJ2_isEmpty_5 ?_
  refine a_icmp_ne (pc := 8) C 15 dJ2_isEmpty_8 (by decide) (fun c3 => ?_) (fun c3 => ?_)
  · have hw := hw.1 c3
    refine a_iconst (pc := 15) C dJ2_isEmpty_15 ic_0 ?_
    exact a_zret rfl C dJ2_isEmpty_16 (fun h n u hV => ⟨⟨(_, _), rfl, hw, hV⟩, o_end hs hV⟩)
  · have hw := hw.2 c3
    refine a_iconst (pc := 11) C dJ2_isEmpty_11 ic_1 ?_
    refine a_goto (pc := 12) C 16 dJ2_isEmpty_12 (by decide) ?_
    exact a_zret rfl C dJ2_isEmpty_16 (fun h n u hV => ⟨⟨(_, _), rfl, hw, hV⟩, o_end hs hV⟩)
def wp_J2_inc (p1 : Int32) (p2 : Int32) (σ : OS) (Q : Int32 → OS → Prop) : Prop := ((((p1 + 1) < p2) → (Q (p1 + 1) σ)) ∧ ((¬ (p1 + 1) < p2) → (Q 0 σ)))
theorem sg_J2_inc : aSig yJ2_inc 2 := by decide +kernel
set_option maxHeartbeats 4000000 in
theorem ct_J2_inc (l : Launch) (G : aG) (p1 : Int32) (p2 : Int32) (E : Nat → Prop) (σ : OS) (Q : Int32 → OS → Prop) (hw : wp_J2_inc p1 p2 σ Q) (h0 : AH) (n0 u0 : Nat) (hB : OB h0 n0 E σ) : CT l yJ2_inc (ws_ yJ2_inc cJ2_inc 2 (some .int)) 1 G [.int p1, .int p2] h0 n0 u0 σ.2.2.1 (10 * σ.2.2.1) (o_pi Q h0 n0 u0 E σ.2.2.1) := by
  refine CT.intro [some (.int p1), some (.int p2)] pn_RJ2 rfl (Nat.le_of_ble_eq_true rfl) ?_
  intro p e s m args below meth c C hz hu
  have hs : s.heap.size = n0 ∧ slT s.heap = u0 := ⟨hz, hu⟩
  refine a_world (V1 := OW h0 n0 u0 E σ.2.2.1 σ) (OW.start hB) ?_
  unfold wp_J2_inc at hw
  refine a_iinc_0 (pc := 0) (v := 1) C dJ2_inc_0 (by decide) (by decide) ?_
  refine a_iload_0 (pc := 3) C dJ2_inc_3 ?_
  refine a_iload_1 (pc := 4) C dJ2_inc_4 ?_
  refine a_icmp_lt (pc := 5) C 10 dJ2_inc_5 (by decide) (fun c1 => ?_) (fun c1 => ?_)
  · have hw := hw.1 c1
    refine a_iload_0 (pc := 10) C dJ2_inc_10 ?_
    exact a_iret C dJ2_inc_11 (fun h n u hV => ⟨⟨(_, _), rfl, hw, hV⟩, o_end hs hV⟩)
  · have hw := hw.2 c1
    refine a_iconst (pc := 8) C dJ2_inc_8 ic_0 ?_
    refine a_istore_0 (pc := 9) C dJ2_inc_9 (by decide) ?_
    refine a_iload_0 (pc := 10) C dJ2_inc_10 ?_
    exact a_iret C dJ2_inc_11 (fun h n u hV => ⟨⟨(_, _), rfl, hw, hV⟩, o_end hs hV⟩)
def wp_J2_addLast (a : Nat) (p1 : Nat) (σ : OS) (Q : OS → Prop) : Prop := (∃ r1 : Nat, oF σ a 9 0 (.ref r1) ∧ (∃ x2 : Int32, oF σ a 9 2 (.int x2) ∧ (∃ (n4 : Nat) (f5 : Nat → Option Nat), σ.1 r1 = some (.inl (3, n4, .inr (.inr (.inr (.inr f5))))) ∧ vp_in x2 n4 ∧ (∃ w, σ.2.1 p1 = some w) ∧ ∀ σ3 : OS, σ3 = oPut σ r1 (.inl (3, n4, .inr (.inr (.inr (.inr (va_up f5 x2.toNatClampNeg (some p1))))))) → (∃ x6 : Int32, oF σ3 a 9 1 (.int x6) ∧ (∃ x7 : Int32, oF σ3 a 9 2 (.int x7) ∧ (∃ (n8 : Nat) (f10 : Nat → Option Nat), σ3.1 r1 = some (.inl (3, n8, .inr (.inr (.inr (.inr f10))))) ∧ wp_J2_inc x7 (Int32.ofNat n8) σ3 (fun v12 σ11 => (∃ fs14 : List Value, σ11.1 a = some (.inr (9, fs14)) ∧ 2 < fs14.length ∧ ∀ σ13 : OS, σ13 = (oPut σ11 a (.inr (9, fs14.set 2 (.int v12)))) → (((¬ x6 = v12) → (Q σ13)) ∧ ((x6 = v12) → False))))))))))
theorem sg_J2_addLast : aSig yJ2_addLast 1 := by decide +kernel
set_option maxHeartbeats 4000000 in
theorem ct_J2_addLast (l : Launch) (G : aG) (a : Nat) (p1 : Nat) (E : Nat → Prop) (σ : OS) (Q : OS → Prop) (hw : wp_J2_addLast a p1 σ Q) (h0 : AH) (n0 u0 : Nat) (hB : OB h0 n0 E σ) : CT l yJ2_addLast (ws_ yJ2_addLast cJ2_addLast 3 none) 2 G [.ref a, .ref p1] h0 n0 u0 σ.2.2.1 (10 * σ.2.2.1) (o_pv Q h0 n0 u0 E σ.2.2.1) := by
  refine CT.intro [some (.ref a), some (.ref p1), none] pn_RJ2 rfl (Nat.le_of_ble_eq_true rfl) ?_
  intro p e s m args below meth c C hz hu
  have hs : s.heap.size = n0 ∧ slT s.heap = u0 := ⟨hz, hu⟩
  refine a_world (V1 := OW h0 n0 u0 E σ.2.2.1 σ) (OW.start hB) ?_
  unfold wp_J2_addLast at hw
  refine a_aload_1 (pc := 0) C dJ2_addLast_0 ?_
  refine a_ifnonnull (pc := 1) C 12 dJ2_addLast_1 (by decide) ?_
  refine a_aload_0 (pc := 12) C dJ2_addLast_12 ?_
  obtain ⟨r1, fr1, hw⟩ := hw
  refine a_getf (pc := 13) C (ref := "java/util/ArrayDeque") in_J2 (ci := 9) rfl 0 (by decide) q256 rfl (fun h n u hV => o_fld fr1 hV) dJ2_addLast_13 ?_
  refine a_astore_2 (pc := 16) C dJ2_addLast_16 (by decide) rfl ?_
  refine a_aload_2 (pc := 17) C dJ2_addLast_17 ?_
  refine a_aload_0 (pc := 18) C dJ2_addLast_18 ?_
  obtain ⟨x2, fx2, hw⟩ := hw
  refine a_getf (pc := 19) C (ref := "java/util/ArrayDeque") in_J2 (ci := 9) rfl 2 (by decide) q258 rfl (fun h n u hV => o_fld fx2 hV) dJ2_addLast_19 ?_
  refine a_aload_1 (pc := 22) C dJ2_addLast_22 ?_
  obtain ⟨n4, f5, af5, if5, hw⟩ := hw
  obtain ⟨w, yw⟩ := hw.1
  refine a_aastO (pc := 23) C (ci := 1) rfl q2210 (V1 := OW h0 n0 u0 E σ.2.2.1 (oPut σ r1 (.inl (3, n4, .inr (.inr (.inr (.inr (va_up f5 x2.toNatClampNeg (some p1))))))))) (fun h n u hV => ⟨o_arr af5 hV, o_house yw hV, hV.putA af5⟩) if5 dJ2_addLast_23 (o_top (fun σ3 eσ3 => ?_))
  have hw := hw.2 σ3 eσ3
  refine a_aload_0 (pc := 24) C dJ2_addLast_24 ?_
  obtain ⟨x6, fx6, hw⟩ := hw
  refine a_getf (pc := 25) C (ref := "java/util/ArrayDeque") in_J2 (ci := 9) rfl 1 (by decide) q257 rfl (fun h n u hV => o_fld fx6 hV) dJ2_addLast_25 ?_
  refine a_aload_0 (pc := 28) C dJ2_addLast_28 ?_
  refine a_aload_0 (pc := 29) C dJ2_addLast_29 ?_
  obtain ⟨x7, fx7, hw⟩ := hw
  refine a_getf (pc := 30) C (ref := "java/util/ArrayDeque") in_J2 (ci := 9) rfl 2 (by decide) q258 rfl (fun h n u hV => o_fld fx7 hV) dJ2_addLast_30 ?_
  refine a_aload_2 (pc := 33) C dJ2_addLast_33 ?_
  obtain ⟨n8, f10, af10, hw⟩ := hw
  refine a_alen (pc := 34) C (kd := 3) (fun h n u hV => o_arr af10 hV) (fun _ => rfl) rfl dJ2_addLast_34 ?_
  refine o_callSi (pc := 35) C hs [.int x7, .int (Int32.ofNat n8)] (st := [.ref a, .int x6]) (fun h n u hB => ct_J2_inc l G _ _ E _ _ hw h n u hB) (by decide) (by decide) (lw_S q1271 q1272 q72 q1273) sg_J2_inc (Nat.le_of_ble_eq_true rfl) dJ2_addLast_35 (fun v12 σ11 hw => ?_)
  refine a_dup_x1 (pc := 38) C dJ2_addLast_38 rfl rfl ?_
  obtain ⟨fs14, ffs14, kfs14, hw⟩ := hw
  refine a_putf (pc := 39) C (ref := "java/util/ArrayDeque") (V1 := OW h0 n0 u0 E σ.2.2.1 (oPut σ11 a (.inr (9, fs14.set 2 (.int v12))))) in_J2 tyJ2 tyJ2_ok nmJ2 (ci := 9) rfl 2 (by decide) q258 rfl rfl rfl rfl (fun h n u hV => o_put (by decide) ffs14 kfs14 hV) dJ2_addLast_39 (o_top (fun σ13 eσ13 => ?_))
  have hw := hw σ13 eσ13
  refine a_icmp_ne (pc := 42) C 50 dJ2_addLast_42 (by decide) (fun c15 => ?_) (fun c15 => ?_)
  · have hw := hw.1 c15
    exact a_vret C dJ2_addLast_50 (fun h n u hV => ⟨⟨_, rfl, hw, hV⟩, o_end hs hV⟩)
  · have hw := hw.2 c15
    exact False.elim hw
def wp_J2_dec (p1 : Int32) (p2 : Int32) (σ : OS) (Q : Int32 → OS → Prop) : Prop := (((0 ≤ (p1 + (-1))) → (Q (p1 + (-1)) σ)) ∧ ((¬ 0 ≤ (p1 + (-1))) → (Q (p2 - 1) σ)))
theorem sg_J2_dec : aSig yJ2_dec 2 := by decide +kernel
set_option maxHeartbeats 4000000 in
theorem ct_J2_dec (l : Launch) (G : aG) (p1 : Int32) (p2 : Int32) (E : Nat → Prop) (σ : OS) (Q : Int32 → OS → Prop) (hw : wp_J2_dec p1 p2 σ Q) (h0 : AH) (n0 u0 : Nat) (hB : OB h0 n0 E σ) : CT l yJ2_dec (ws_ yJ2_dec cJ2_dec 2 (some .int)) 1 G [.int p1, .int p2] h0 n0 u0 σ.2.2.1 (10 * σ.2.2.1) (o_pi Q h0 n0 u0 E σ.2.2.1) := by
  refine CT.intro [some (.int p1), some (.int p2)] pn_RJ2 rfl (Nat.le_of_ble_eq_true rfl) ?_
  intro p e s m args below meth c C hz hu
  have hs : s.heap.size = n0 ∧ slT s.heap = u0 := ⟨hz, hu⟩
  refine a_world (V1 := OW h0 n0 u0 E σ.2.2.1 σ) (OW.start hB) ?_
  unfold wp_J2_dec at hw
  refine a_iinc_0 (pc := 0) (v := (-1)) C dJ2_dec_0 (by decide) (by decide) ?_
  refine a_iload_0 (pc := 3) C dJ2_dec_3 ?_
  refine a_if_ge (pc := 4) C 11 dJ2_dec_4 (by decide) (fun c1 => ?_) (fun c1 => ?_)
  · have hw := hw.1 c1
    refine a_iload_0 (pc := 11) C dJ2_dec_11 ?_
    exact a_iret C dJ2_dec_12 (fun h n u hV => ⟨⟨(_, _), rfl, hw, hV⟩, o_end hs hV⟩)
  · have hw := hw.2 c1
    refine a_iload_1 (pc := 7) C dJ2_dec_7 ?_
    refine a_iconst (pc := 8) C dJ2_dec_8 ic_1 ?_
    refine a_isub (pc := 9) C dJ2_dec_9 ?_
    refine a_istore_0 (pc := 10) C dJ2_dec_10 (by decide) ?_
    refine a_iload_0 (pc := 11) C dJ2_dec_11 ?_
    exact a_iret C dJ2_dec_12 (fun h n u hV => ⟨⟨(_, _), rfl, hw, hV⟩, o_end hs hV⟩)
def wp_J2_elementAt (p1 : Nat) (p2 : Int32) (σ : OS) (Q : Option Nat → OS → Prop) : Prop := (∃ (n1 : Nat) (f2 : Nat → Option Nat), σ.1 p1 = some (.inl (3, n1, .inr (.inr (.inr (.inr f2))))) ∧ vp_in p2 n1 ∧ ∀ b3 : Option Nat, b3 = f2 p2.toNatClampNeg → (Q b3 σ))
theorem sg_J2_elementAt : aSig yJ2_elementAt 2 := by decide +kernel
set_option maxHeartbeats 4000000 in
theorem ct_J2_elementAt (l : Launch) (G : aG) (p1 : Nat) (p2 : Int32) (E : Nat → Prop) (σ : OS) (Q : Option Nat → OS → Prop) (hw : wp_J2_elementAt p1 p2 σ Q) (h0 : AH) (n0 u0 : Nat) (hB : OB h0 n0 E σ) : CT l yJ2_elementAt (ws_ yJ2_elementAt cJ2_elementAt 2 (some (.object "java/lang/Object"))) 1 G [.ref p1, .int p2] h0 n0 u0 σ.2.2.1 (10 * σ.2.2.1) (o_pq Q h0 n0 u0 E σ.2.2.1) := by
  refine CT.intro [some (.ref p1), some (.int p2)] pn_RJ2 rfl (Nat.le_of_ble_eq_true rfl) ?_
  intro p e s m args below meth c C hz hu
  have hs : s.heap.size = n0 ∧ slT s.heap = u0 := ⟨hz, hu⟩
  refine a_world (V1 := OW h0 n0 u0 E σ.2.2.1 σ) (OW.start hB) ?_
  unfold wp_J2_elementAt at hw
  refine a_aload_0 (pc := 0) C dJ2_elementAt_0 ?_
  refine a_iload_1 (pc := 1) C dJ2_elementAt_1 ?_
  obtain ⟨n1, f2, af2, if2, hw⟩ := hw
  refine a_aaldO (pc := 2) C (fun h n u hV => o_arr af2 hV) if2 dJ2_elementAt_2 (a_topq (fun b3 eb3 => ?_))
  have hw := hw b3 eb3
  exact a_aret (Or.inl ⟨_, rfl⟩) (rf_or _) C dJ2_elementAt_3 (fun h n u hV => ⟨⟨(_, _), rfl, hw, hV⟩, o_end hs hV⟩)
def wp_J2_pollFirst (a : Nat) (σ : OS) (Q : Nat → OS → Prop) : Prop := (∃ r1 : Nat, oF σ a 9 0 (.ref r1) ∧ (∃ x2 : Int32, oF σ a 9 1 (.int x2) ∧ wp_J2_elementAt r1 x2 σ (fun b4 σ3 => (∃ r5 : Nat, b4 = some r5 ∧ (∃ (n7 : Nat) (f8 : Nat → Option Nat), σ3.1 r1 = some (.inl (3, n7, .inr (.inr (.inr (.inr f8))))) ∧ vp_in x2 n7 ∧ ∀ σ6 : OS, σ6 = oPut σ3 r1 (.inl (3, n7, .inr (.inr (.inr (.inr (va_up f8 x2.toNatClampNeg none)))))) → (∃ (n9 : Nat) (f11 : Nat → Option Nat), σ6.1 r1 = some (.inl (3, n9, .inr (.inr (.inr (.inr f11))))) ∧ wp_J2_inc x2 (Int32.ofNat n9) σ6 (fun v13 σ12 => (∃ fs15 : List Value, σ12.1 a = some (.inr (9, fs15)) ∧ 1 < fs15.length ∧ ∀ σ14 : OS, σ14 = (oPut σ12 a (.inr (9, fs15.set 1 (.int v13)))) → (Q r5 σ14)))))))))
theorem sg_J2_pollFirst : aSig yJ2_pollFirst 0 := by decide +kernel
set_option maxHeartbeats 4000000 in
theorem ct_J2_pollFirst (l : Launch) (G : aG) (a : Nat) (E : Nat → Prop) (σ : OS) (Q : Nat → OS → Prop) (hw : wp_J2_pollFirst a σ Q) (h0 : AH) (n0 u0 : Nat) (hB : OB h0 n0 E σ) : CT l yJ2_pollFirst (ws_ yJ2_pollFirst cJ2_pollFirst 4 (some (.object "java/lang/Object"))) 2 G [.ref a] h0 n0 u0 σ.2.2.1 (10 * σ.2.2.1) (o_pr Q h0 n0 u0 E σ.2.2.1) := by
  refine CT.intro [some (.ref a), none, none, none] pn_RJ2 rfl (Nat.le_of_ble_eq_true rfl) ?_
  intro p e s m args below meth c C hz hu
  have hs : s.heap.size = n0 ∧ slT s.heap = u0 := ⟨hz, hu⟩
  refine a_world (V1 := OW h0 n0 u0 E σ.2.2.1 σ) (OW.start hB) ?_
  unfold wp_J2_pollFirst at hw
  refine a_aload_0 (pc := 0) C dJ2_pollFirst_0 ?_
  obtain ⟨r1, fr1, hw⟩ := hw
  refine a_getf (pc := 1) C (ref := "java/util/ArrayDeque") in_J2 (ci := 9) rfl 0 (by decide) q256 rfl (fun h n u hV => o_fld fr1 hV) dJ2_pollFirst_1 ?_
  refine a_dup (pc := 4) C dJ2_pollFirst_4 rfl ?_
  refine a_astore_1 (pc := 5) C dJ2_pollFirst_5 (by decide) rfl ?_
  refine a_aload_0 (pc := 6) C dJ2_pollFirst_6 ?_
  obtain ⟨x2, fx2, hw⟩ := hw
  refine a_getf (pc := 7) C (ref := "java/util/ArrayDeque") in_J2 (ci := 9) rfl 1 (by decide) q257 rfl (fun h n u hV => o_fld fx2 hV) dJ2_pollFirst_7 ?_
  refine a_dup (pc := 10) C dJ2_pollFirst_10 rfl ?_
  refine a_istore_2 (pc := 11) C dJ2_pollFirst_11 (by decide) rfl ?_
  refine o_callSq (pc := 12) C hs [.ref r1, .int x2] (st := []) (fun h n u hB => ct_J2_elementAt l G _ _ E _ _ hw h n u hB) (by decide) (by decide) (lw_S q1268 q1269 q72 q1270) sg_J2_elementAt (Nat.le_of_ble_eq_true rfl) dJ2_pollFirst_12 (fun b4 σ3 hw => ?_)
  obtain ⟨r5, zr5, hv9⟩ := hw
  subst zr5
  have hw := hv9
  refine a_astore_3 (pc := 15) C dJ2_pollFirst_15 (by decide) rfl ?_
  refine a_aload_3 (pc := 16) C dJ2_pollFirst_16 ?_
  refine a_ifnull (pc := 17) C dJ2_pollFirst_17 ?_
  refine a_aload_1 (pc := 20) C dJ2_pollFirst_20 ?_
  refine a_iload_2 (pc := 21) C dJ2_pollFirst_21 ?_
  refine a_null (pc := 22) C dJ2_pollFirst_22 ?_
  obtain ⟨n7, f8, af8, if8, hw⟩ := hw
  refine a_aastN (pc := 23) C (V1 := OW h0 n0 u0 E σ.2.2.1 (oPut σ3 r1 (.inl (3, n7, .inr (.inr (.inr (.inr (va_up f8 x2.toNatClampNeg none)))))))) (fun h n u hV => ⟨o_arr af8 hV, hV.putA af8⟩) if8 dJ2_pollFirst_23 (o_top (fun σ6 eσ6 => ?_))
  have hw := hw σ6 eσ6
  refine a_aload_0 (pc := 24) C dJ2_pollFirst_24 ?_
  refine a_iload_2 (pc := 25) C dJ2_pollFirst_25 ?_
  refine a_aload_1 (pc := 26) C dJ2_pollFirst_26 ?_
  obtain ⟨n9, f11, af11, hw⟩ := hw
  refine a_alen (pc := 27) C (kd := 3) (fun h n u hV => o_arr af11 hV) (fun _ => rfl) rfl dJ2_pollFirst_27 ?_
  refine o_callSi (pc := 28) C hs [.int x2, .int (Int32.ofNat n9)] (st := [.ref a]) (fun h n u hB => ct_J2_inc l G _ _ E _ _ hw h n u hB) (by decide) (by decide) (lw_S q1271 q1272 q72 q1273) sg_J2_inc (Nat.le_of_ble_eq_true rfl) dJ2_pollFirst_28 (fun v13 σ12 hw => ?_)
  obtain ⟨fs15, ffs15, kfs15, hw⟩ := hw
  refine a_putf (pc := 31) C (ref := "java/util/ArrayDeque") (V1 := OW h0 n0 u0 E σ.2.2.1 (oPut σ12 a (.inr (9, fs15.set 1 (.int v13))))) in_J2 tyJ2 tyJ2_ok nmJ2 (ci := 9) rfl 1 (by decide) q257 rfl rfl rfl rfl (fun h n u hV => o_put (by decide) ffs15 kfs15 hV) dJ2_pollFirst_31 (o_top (fun σ14 eσ14 => ?_))
  have hw := hw σ14 eσ14
  refine a_aload_3 (pc := 34) C dJ2_pollFirst_34 ?_
  exact a_aret (Or.inl ⟨_, rfl⟩) (Or.inr ⟨_, rfl⟩) C dJ2_pollFirst_35 (fun h n u hV => ⟨⟨(_, _), rfl, hw, hV⟩, o_end hs hV⟩)
def wp_J2_pollLast (a : Nat) (σ : OS) (Q : Nat → OS → Prop) : Prop := (∃ r1 : Nat, oF σ a 9 0 (.ref r1) ∧ (∃ x2 : Int32, oF σ a 9 2 (.int x2) ∧ (∃ (n3 : Nat) (f5 : Nat → Option Nat), σ.1 r1 = some (.inl (3, n3, .inr (.inr (.inr (.inr f5))))) ∧ wp_J2_dec x2 (Int32.ofNat n3) σ (fun v7 σ6 => wp_J2_elementAt r1 v7 σ6 (fun b9 σ8 => (∃ r10 : Nat, b9 = some r10 ∧ (∃ fs12 : List Value, σ8.1 a = some (.inr (9, fs12)) ∧ 2 < fs12.length ∧ ∀ σ11 : OS, σ11 = (oPut σ8 a (.inr (9, fs12.set 2 (.int v7)))) → (∃ (n14 : Nat) (f15 : Nat → Option Nat), σ11.1 r1 = some (.inl (3, n14, .inr (.inr (.inr (.inr f15))))) ∧ vp_in v7 n14 ∧ ∀ σ13 : OS, σ13 = oPut σ11 r1 (.inl (3, n14, .inr (.inr (.inr (.inr (va_up f15 v7.toNatClampNeg none)))))) → (Q r10 σ13)))))))))
theorem sg_J2_pollLast : aSig yJ2_pollLast 0 := by decide +kernel
set_option maxHeartbeats 4000000 in
theorem ct_J2_pollLast (l : Launch) (G : aG) (a : Nat) (E : Nat → Prop) (σ : OS) (Q : Nat → OS → Prop) (hw : wp_J2_pollLast a σ Q) (h0 : AH) (n0 u0 : Nat) (hB : OB h0 n0 E σ) : CT l yJ2_pollLast (ws_ yJ2_pollLast cJ2_pollLast 4 (some (.object "java/lang/Object"))) 2 G [.ref a] h0 n0 u0 σ.2.2.1 (10 * σ.2.2.1) (o_pr Q h0 n0 u0 E σ.2.2.1) := by
  refine CT.intro [some (.ref a), none, none, none] pn_RJ2 rfl (Nat.le_of_ble_eq_true rfl) ?_
  intro p e s m args below meth c C hz hu
  have hs : s.heap.size = n0 ∧ slT s.heap = u0 := ⟨hz, hu⟩
  refine a_world (V1 := OW h0 n0 u0 E σ.2.2.1 σ) (OW.start hB) ?_
  unfold wp_J2_pollLast at hw
  refine a_aload_0 (pc := 0) C dJ2_pollLast_0 ?_
  obtain ⟨r1, fr1, hw⟩ := hw
  refine a_getf (pc := 1) C (ref := "java/util/ArrayDeque") in_J2 (ci := 9) rfl 0 (by decide) q256 rfl (fun h n u hV => o_fld fr1 hV) dJ2_pollLast_1 ?_
  refine a_dup (pc := 4) C dJ2_pollLast_4 rfl ?_
  refine a_astore_1 (pc := 5) C dJ2_pollLast_5 (by decide) rfl ?_
  refine a_aload_0 (pc := 6) C dJ2_pollLast_6 ?_
  obtain ⟨x2, fx2, hw⟩ := hw
  refine a_getf (pc := 7) C (ref := "java/util/ArrayDeque") in_J2 (ci := 9) rfl 2 (by decide) q258 rfl (fun h n u hV => o_fld fx2 hV) dJ2_pollLast_7 ?_
  refine a_aload_1 (pc := 10) C dJ2_pollLast_10 ?_
  obtain ⟨n3, f5, af5, hw⟩ := hw
  refine a_alen (pc := 11) C (kd := 3) (fun h n u hV => o_arr af5 hV) (fun _ => rfl) rfl dJ2_pollLast_11 ?_
  refine o_callSi (pc := 12) C hs [.int x2, .int (Int32.ofNat n3)] (st := [.ref r1]) (fun h n u hB => ct_J2_dec l G _ _ E _ _ hw h n u hB) (by decide) (by decide) (lw_S q1580 q1581 q72 q1582) sg_J2_dec (Nat.le_of_ble_eq_true rfl) dJ2_pollLast_12 (fun v7 σ6 hw => ?_)
  refine a_dup (pc := 15) C dJ2_pollLast_15 rfl ?_
  refine a_istore_2 (pc := 16) C dJ2_pollLast_16 (by decide) rfl ?_
  refine o_callSq (pc := 17) C hs [.ref r1, .int v7] (st := []) (fun h n u hB => ct_J2_elementAt l G _ _ E _ _ hw h n u hB) (by decide) (by decide) (lw_S q1268 q1269 q72 q1270) sg_J2_elementAt (Nat.le_of_ble_eq_true rfl) dJ2_pollLast_17 (fun b9 σ8 hw => ?_)
  obtain ⟨r10, zr10, hv9⟩ := hw
  subst zr10
  have hw := hv9
  refine a_astore_3 (pc := 20) C dJ2_pollLast_20 (by decide) rfl ?_
  refine a_aload_3 (pc := 21) C dJ2_pollLast_21 ?_
  refine a_ifnull (pc := 22) C dJ2_pollLast_22 ?_
  refine a_aload_1 (pc := 25) C dJ2_pollLast_25 ?_
  refine a_aload_0 (pc := 26) C dJ2_pollLast_26 ?_
  refine a_iload_2 (pc := 27) C dJ2_pollLast_27 ?_
  refine a_dup_x1 (pc := 28) C dJ2_pollLast_28 rfl rfl ?_
  obtain ⟨fs12, ffs12, kfs12, hw⟩ := hw
  refine a_putf (pc := 29) C (ref := "java/util/ArrayDeque") (V1 := OW h0 n0 u0 E σ.2.2.1 (oPut σ8 a (.inr (9, fs12.set 2 (.int v7))))) in_J2 tyJ2 tyJ2_ok nmJ2 (ci := 9) rfl 2 (by decide) q258 rfl rfl rfl rfl (fun h n u hV => o_put (by decide) ffs12 kfs12 hV) dJ2_pollLast_29 (o_top (fun σ11 eσ11 => ?_))
  have hw := hw σ11 eσ11
  refine a_null (pc := 32) C dJ2_pollLast_32 ?_
  obtain ⟨n14, f15, af15, if15, hw⟩ := hw
  refine a_aastN (pc := 33) C (V1 := OW h0 n0 u0 E σ.2.2.1 (oPut σ11 r1 (.inl (3, n14, .inr (.inr (.inr (.inr (va_up f15 v7.toNatClampNeg none)))))))) (fun h n u hV => ⟨o_arr af15 hV, hV.putA af15⟩) if15 dJ2_pollLast_33 (o_top (fun σ13 eσ13 => ?_))
  have hw := hw σ13 eσ13
  refine a_aload_3 (pc := 34) C dJ2_pollLast_34 ?_
  exact a_aret (Or.inl ⟨_, rfl⟩) (Or.inr ⟨_, rfl⟩) C dJ2_pollLast_35 (fun h n u hV => ⟨⟨(_, _), rfl, hw, hV⟩, o_end hs hV⟩)
def wp_J2_removeFirst (a : Nat) (σ : OS) (Q : Nat → OS → Prop) : Prop := (oC σ a 9 ∧ wp_J2_pollFirst a σ (fun r2 σ1 => (Q r2 σ1)))
theorem sg_J2_removeFirst : aSig yJ2_removeFirst 0 := by decide +kernel
set_option maxHeartbeats 4000000 in
theorem ct_J2_removeFirst (l : Launch) (G : aG) (a : Nat) (E : Nat → Prop) (σ : OS) (Q : Nat → OS → Prop) (hw : wp_J2_removeFirst a σ Q) (h0 : AH) (n0 u0 : Nat) (hB : OB h0 n0 E σ) : CT l yJ2_removeFirst (ws_ yJ2_removeFirst cJ2_removeFirst 2 (some (.object "java/lang/Object"))) 3 G [.ref a] h0 n0 u0 σ.2.2.1 (10 * σ.2.2.1) (o_pr Q h0 n0 u0 E σ.2.2.1) := by
  refine CT.intro [some (.ref a), none] pn_RJ2 rfl (Nat.le_of_ble_eq_true rfl) ?_
  intro p e s m args below meth c C hz hu
  have hs : s.heap.size = n0 ∧ slT s.heap = u0 := ⟨hz, hu⟩
  refine a_world (V1 := OW h0 n0 u0 E σ.2.2.1 σ) (OW.start hB) ?_
  unfold wp_J2_removeFirst at hw
  refine a_aload_0 (pc := 0) C dJ2_removeFirst_0 ?_
  refine o_callVr (pc := 1) C hs [] (b := a) (ci := 9) (st := []) (fun h n u hB => ct_J2_pollFirst l G a E _ _ hw.2 h n u hB) (by decide) (by decide) rfl hw.1 q72 q1264 q1265 q1266 (lw_meth q1267) sg_J2_pollFirst (Nat.le_of_ble_eq_true rfl) dJ2_removeFirst_1 (fun r2 σ1 hw => ?_)
  refine a_astore_1 (pc := 4) C dJ2_removeFirst_4 (by decide) rfl ?_
  refine a_aload_1 (pc := 5) C dJ2_removeFirst_5 ?_
  refine a_ifnonnull (pc := 6) C 17 dJ2_removeFirst_6 (by decide) ?_
  refine a_aload_1 (pc := 17) C dJ2_removeFirst_17 ?_
  exact a_aret (Or.inl ⟨_, rfl⟩) (Or.inr ⟨_, rfl⟩) C dJ2_removeFirst_18 (fun h n u hV => ⟨⟨(_, _), rfl, hw, hV⟩, o_end hs hV⟩)
def wp_J2_removeLast (a : Nat) (σ : OS) (Q : Nat → OS → Prop) : Prop := (oC σ a 9 ∧ wp_J2_pollLast a σ (fun r2 σ1 => (Q r2 σ1)))
theorem sg_J2_removeLast : aSig yJ2_removeLast 0 := by decide +kernel
set_option maxHeartbeats 4000000 in
theorem ct_J2_removeLast (l : Launch) (G : aG) (a : Nat) (E : Nat → Prop) (σ : OS) (Q : Nat → OS → Prop) (hw : wp_J2_removeLast a σ Q) (h0 : AH) (n0 u0 : Nat) (hB : OB h0 n0 E σ) : CT l yJ2_removeLast (ws_ yJ2_removeLast cJ2_removeLast 2 (some (.object "java/lang/Object"))) 3 G [.ref a] h0 n0 u0 σ.2.2.1 (10 * σ.2.2.1) (o_pr Q h0 n0 u0 E σ.2.2.1) := by
  refine CT.intro [some (.ref a), none] pn_RJ2 rfl (Nat.le_of_ble_eq_true rfl) ?_
  intro p e s m args below meth c C hz hu
  have hs : s.heap.size = n0 ∧ slT s.heap = u0 := ⟨hz, hu⟩
  refine a_world (V1 := OW h0 n0 u0 E σ.2.2.1 σ) (OW.start hB) ?_
  unfold wp_J2_removeLast at hw
  refine a_aload_0 (pc := 0) C dJ2_removeLast_0 ?_
  refine o_callVr (pc := 1) C hs [] (b := a) (ci := 9) (st := []) (fun h n u hB => ct_J2_pollLast l G a E _ _ hw.2 h n u hB) (by decide) (by decide) rfl hw.1 q72 q1576 q1577 q1578 (lw_meth q1579) sg_J2_pollLast (Nat.le_of_ble_eq_true rfl) dJ2_removeLast_1 (fun r2 σ1 hw => ?_)
  refine a_astore_1 (pc := 4) C dJ2_removeLast_4 (by decide) rfl ?_
  refine a_aload_1 (pc := 5) C dJ2_removeLast_5 ?_
  refine a_ifnonnull (pc := 6) C 17 dJ2_removeLast_6 (by decide) ?_
  refine a_aload_1 (pc := 17) C dJ2_removeLast_17 ?_
  exact a_aret (Or.inl ⟨_, rfl⟩) (Or.inr ⟨_, rfl⟩) C dJ2_removeLast_18 (fun h n u hV => ⟨⟨(_, _), rfl, hw, hV⟩, o_end hs hV⟩)
def wp_X9_init (a : Nat) (p1 : Nat) (p2 : Int32) (p3 : Int32) (σ : OS) (Q : OS → Prop) : Prop := wp_J0_init a σ (fun σ1 => (∃ fs3 : List Value, σ1.1 a = some (.inr (7, fs3)) ∧ 0 < fs3.length ∧ ∀ σ2 : OS, σ2 = (oPut σ1 a (.inr (7, fs3.set 0 (.ref p1)))) → (∃ fs5 : List Value, σ2.1 a = some (.inr (7, fs5)) ∧ 1 < fs5.length ∧ ∀ σ4 : OS, σ4 = (oPut σ2 a (.inr (7, fs5.set 1 (.int p2)))) → (∃ fs7 : List Value, σ4.1 a = some (.inr (7, fs7)) ∧ 2 < fs7.length ∧ ∀ σ6 : OS, σ6 = (oPut σ4 a (.inr (7, fs7.set 2 (.int p3)))) → (Q σ6)))))
theorem sg_X9_init : aSig yX9_init 3 := by decide +kernel
set_option maxHeartbeats 4000000 in
theorem ct_X9_init (l : Launch) (G : aG) (a : Nat) (p1 : Nat) (p2 : Int32) (p3 : Int32) (E : Nat → Prop) (σ : OS) (Q : OS → Prop) (hw : wp_X9_init a p1 p2 p3 σ Q) (h0 : AH) (n0 u0 : Nat) (hB : OB h0 n0 E σ) : CT l yX9_init (ws_ yX9_init cX9_init 4 none) 3 G [.ref a, .ref p1, .int p2, .int p3] h0 n0 u0 σ.2.2.1 (10 * σ.2.2.1) (o_pv Q h0 n0 u0 E σ.2.2.1) := by
  refine CT.intro [some (.ref a), some (.ref p1), some (.int p2), some (.int p3)] pn_RX9 rfl (Nat.le_of_ble_eq_true rfl) ?_
  intro p e s m args below meth c C hz hu
  have hs : s.heap.size = n0 ∧ slT s.heap = u0 := ⟨hz, hu⟩
  refine a_world (V1 := OW h0 n0 u0 E σ.2.2.1 σ) (OW.start hB) ?_
  unfold wp_X9_init at hw
  refine a_aload_0 (pc := 0) C dX9_init_0 ?_
  refine o_callIv (pc := 1) C hs [] (b := a) (st := []) (fun h n u hB => ct_J0_init l G a E _ _ hw h n u hB) (by decide) (by decide) q68 q881 q126 rfl (lw_meth q127) sg_J0_init (Nat.le_of_ble_eq_true rfl) dX9_init_1 (fun σ1 hw => ?_)
  refine a_aload_0 (pc := 4) C dX9_init_4 ?_
  refine a_aload_1 (pc := 5) C dX9_init_5 ?_
  obtain ⟨fs3, ffs3, kfs3, hw⟩ := hw
  refine a_putfF (pc := 6) C (ref := "MaltDrums$Order") (V1 := OW h0 n0 u0 E σ.2.2.1 (oPut σ1 a (.inr (7, fs3.set 0 (.ref p1))))) in_X9 tyX9 tyX9_ok nmX9 (ci := 7) rfl 0 (by decide) q882 rfl rfl rfl rfl rfl rfl (fun h n u hV => o_put (by decide) ffs3 kfs3 hV) dX9_init_6 (o_top (fun σ2 eσ2 => ?_))
  have hw := hw σ2 eσ2
  refine a_aload_0 (pc := 9) C dX9_init_9 ?_
  refine a_iload_2 (pc := 10) C dX9_init_10 ?_
  obtain ⟨fs5, ffs5, kfs5, hw⟩ := hw
  refine a_putfF (pc := 11) C (ref := "MaltDrums$Order") (V1 := OW h0 n0 u0 E σ.2.2.1 (oPut σ2 a (.inr (7, fs5.set 1 (.int p2))))) in_X9 tyX9 tyX9_ok nmX9 (ci := 7) rfl 1 (by decide) q883 rfl rfl rfl rfl rfl rfl (fun h n u hV => o_put (by decide) ffs5 kfs5 hV) dX9_init_11 (o_top (fun σ4 eσ4 => ?_))
  have hw := hw σ4 eσ4
  refine a_aload_0 (pc := 14) C dX9_init_14 ?_
  refine a_iload_3 (pc := 15) C dX9_init_15 ?_
  obtain ⟨fs7, ffs7, kfs7, hw⟩ := hw
  refine a_putfF (pc := 16) C (ref := "MaltDrums$Order") (V1 := OW h0 n0 u0 E σ.2.2.1 (oPut σ4 a (.inr (7, fs7.set 2 (.int p3))))) in_X9 tyX9 tyX9_ok nmX9 (ci := 7) rfl 2 (by decide) q884 rfl rfl rfl rfl rfl rfl (fun h n u hV => o_put (by decide) ffs7 kfs7 hV) dX9_init_16 (o_top (fun σ6 eσ6 => ?_))
  have hw := hw σ6 eσ6
  exact a_vret C dX9_init_19 (fun h n u hV => ⟨⟨_, rfl, hw, hV⟩, o_end hs hV⟩)
def wp_X9_one (a : Nat) (σ : OS) (Q : Int32 → OS → Prop) : Prop := (∃ x1 : Int32, oF σ a 7 1 (.int x1) ∧ (Q x1 σ))
theorem sg_X9_one : aSig yX9_one 0 := by decide +kernel
set_option maxHeartbeats 4000000 in
theorem ct_X9_one (l : Launch) (G : aG) (a : Nat) (E : Nat → Prop) (σ : OS) (Q : Int32 → OS → Prop) (hw : wp_X9_one a σ Q) (h0 : AH) (n0 u0 : Nat) (hB : OB h0 n0 E σ) : CT l yX9_one (ws_ yX9_one cX9_one 1 (some .int)) 1 G [.ref a] h0 n0 u0 σ.2.2.1 (10 * σ.2.2.1) (o_pi Q h0 n0 u0 E σ.2.2.1) := by
  refine CT.intro [some (.ref a)] pn_RX9 rfl (Nat.le_of_ble_eq_true rfl) ?_
  intro p e s m args below meth c C hz hu
  have hs : s.heap.size = n0 ∧ slT s.heap = u0 := ⟨hz, hu⟩
  refine a_world (V1 := OW h0 n0 u0 E σ.2.2.1 σ) (OW.start hB) ?_
  unfold wp_X9_one at hw
  refine a_aload_0 (pc := 0) C dX9_one_0 ?_
  obtain ⟨x1, fx1, hw⟩ := hw
  refine a_getf (pc := 1) C (ref := "MaltDrums$Order") in_X9 (ci := 7) rfl 1 (by decide) q883 rfl (fun h n u hV => o_fld fx1 hV) dX9_one_1 ?_
  exact a_iret C dX9_one_4 (fun h n u hV => ⟨⟨(_, _), rfl, hw, hV⟩, o_end hs hV⟩)
def wp_X9_two (a : Nat) (σ : OS) (Q : Int32 → OS → Prop) : Prop := (∃ x1 : Int32, oF σ a 7 2 (.int x1) ∧ (Q x1 σ))
theorem sg_X9_two : aSig yX9_two 0 := by decide +kernel
set_option maxHeartbeats 4000000 in
theorem ct_X9_two (l : Launch) (G : aG) (a : Nat) (E : Nat → Prop) (σ : OS) (Q : Int32 → OS → Prop) (hw : wp_X9_two a σ Q) (h0 : AH) (n0 u0 : Nat) (hB : OB h0 n0 E σ) : CT l yX9_two (ws_ yX9_two cX9_two 1 (some .int)) 1 G [.ref a] h0 n0 u0 σ.2.2.1 (10 * σ.2.2.1) (o_pi Q h0 n0 u0 E σ.2.2.1) := by
  refine CT.intro [some (.ref a)] pn_RX9 rfl (Nat.le_of_ble_eq_true rfl) ?_
  intro p e s m args below meth c C hz hu
  have hs : s.heap.size = n0 ∧ slT s.heap = u0 := ⟨hz, hu⟩
  refine a_world (V1 := OW h0 n0 u0 E σ.2.2.1 σ) (OW.start hB) ?_
  unfold wp_X9_two at hw
  refine a_aload_0 (pc := 0) C dX9_two_0 ?_
  obtain ⟨x1, fx1, hw⟩ := hw
  refine a_getf (pc := 1) C (ref := "MaltDrums$Order") in_X9 (ci := 7) rfl 2 (by decide) q884 rfl (fun h n u hV => o_fld fx1 hV) dX9_two_1 ?_
  exact a_iret C dX9_two_4 (fun h n u hV => ⟨⟨(_, _), rfl, hw, hV⟩, o_end hs hV⟩)
def wp_X9_sign (a : Nat) (σ : OS) (Q : Nat → OS → Prop) : Prop := (∃ r1 : Nat, oF σ a 7 0 (.ref r1) ∧ (Q r1 σ))
theorem sg_X9_sign : aSig yX9_sign 0 := by decide +kernel
set_option maxHeartbeats 4000000 in
theorem ct_X9_sign (l : Launch) (G : aG) (a : Nat) (E : Nat → Prop) (σ : OS) (Q : Nat → OS → Prop) (hw : wp_X9_sign a σ Q) (h0 : AH) (n0 u0 : Nat) (hB : OB h0 n0 E σ) : CT l yX9_sign (ws_ yX9_sign cX9_sign 1 (some (.object "java/lang/String"))) 1 G [.ref a] h0 n0 u0 σ.2.2.1 (10 * σ.2.2.1) (o_pr Q h0 n0 u0 E σ.2.2.1) := by
  refine CT.intro [some (.ref a)] pn_RX9 rfl (Nat.le_of_ble_eq_true rfl) ?_
  intro p e s m args below meth c C hz hu
  have hs : s.heap.size = n0 ∧ slT s.heap = u0 := ⟨hz, hu⟩
  refine a_world (V1 := OW h0 n0 u0 E σ.2.2.1 σ) (OW.start hB) ?_
  unfold wp_X9_sign at hw
  refine a_aload_0 (pc := 0) C dX9_sign_0 ?_
  obtain ⟨r1, fr1, hw⟩ := hw
  refine a_getf (pc := 1) C (ref := "MaltDrums$Order") in_X9 (ci := 7) rfl 0 (by decide) q882 rfl (fun h n u hV => o_fld fr1 hV) dX9_sign_1 ?_
  exact a_aret (Or.inl ⟨_, rfl⟩) (Or.inr ⟨_, rfl⟩) C dX9_sign_4 (fun h n u hV => ⟨⟨(_, _), rfl, hw, hV⟩, o_end hs hV⟩)
def wp_X8_init (a : Nat) (p1 : Nat) (σ : OS) (Q : OS → Prop) : Prop := (∃ fs2 : List Value, σ.1 a = some (.inr (6, fs2)) ∧ 2 < fs2.length ∧ ∀ σ1 : OS, σ1 = (oPut σ a (.inr (6, fs2.set 2 (.ref p1)))) → (∃ fs4 : List Value, σ1.1 a = some (.inr (6, fs4)) ∧ 1 < fs4.length ∧ ∀ σ3 : OS, σ3 = (oPut σ1 a (.inr (6, fs4.set 1 (.int ((-1)))))) → (Q σ3)))
theorem sg_X8_init : aSig yX8_init 1 := by decide +kernel
set_option maxHeartbeats 4000000 in
theorem ct_X8_init (l : Launch) (G : aG) (a : Nat) (p1 : Nat) (E : Nat → Prop) (σ : OS) (Q : OS → Prop) (hw : wp_X8_init a p1 σ Q) (h0 : AH) (n0 u0 : Nat) (hB : OB h0 n0 E σ) : CT l yX8_init (ws_ yX8_init cX8_init 2 none) 2 G [.ref a, .ref p1] h0 n0 u0 σ.2.2.1 (10 * σ.2.2.1) (o_pv Q h0 n0 u0 E σ.2.2.1) := by
  refine CT.intro [some (.ref a), some (.ref p1)] pn_RX8 rfl (Nat.le_of_ble_eq_true rfl) ?_
  intro p e s m args below meth c C hz hu
  have hs : s.heap.size = n0 ∧ slT s.heap = u0 := ⟨hz, hu⟩
  refine a_world (V1 := OW h0 n0 u0 E σ.2.2.1 σ) (OW.start hB) ?_
  unfold wp_X8_init at hw
  refine a_aload_0 (pc := 0) C dX8_init_0 ?_
  refine a_aload_1 (pc := 1) C dX8_init_1 ?_
  obtain ⟨fs2, ffs2, kfs2, hw⟩ := hw
  refine a_putfF (pc := 2) C (ref := "MaltDrums$Reader") (V1 := OW h0 n0 u0 E σ.2.2.1 (oPut σ a (.inr (6, fs2.set 2 (.ref p1))))) in_X8 tyX8 tyX8_ok nmX8 (ci := 6) rfl 2 (by decide) q678 rfl rfl rfl rfl rfl rfl (fun h n u hV => o_put (by decide) ffs2 kfs2 hV) dX8_init_2 (o_top (fun σ1 eσ1 => ?_))
  have hw := hw σ1 eσ1
  refine a_aload_0 (pc := 5) C dX8_init_5 ?_
  refine a_objInit (pc := 6) C q674 q107 q108 (by decide) (Nat.le_of_ble_eq_true rfl) dX8_init_6 ?_
  refine a_aload_0 (pc := 9) C dX8_init_9 ?_
  refine a_iconst (pc := 10) C dX8_init_10 ic_m1 ?_
  obtain ⟨fs4, ffs4, kfs4, hw⟩ := hw
  refine a_putf (pc := 11) C (ref := "MaltDrums$Reader") (V1 := OW h0 n0 u0 E σ.2.2.1 (oPut σ1 a (.inr (6, fs4.set 1 (.int ((-1))))))) in_X8 tyX8 tyX8_ok nmX8 (ci := 6) rfl 1 (by decide) q676 rfl rfl rfl rfl (fun h n u hV => o_put (by decide) ffs4 kfs4 hV) dX8_init_11 (o_top (fun σ3 eσ3 => ?_))
  have hw := hw σ3 eσ3
  exact a_vret C dX8_init_14 (fun h n u hV => ⟨⟨_, rfl, hw, hV⟩, o_end hs hV⟩)
